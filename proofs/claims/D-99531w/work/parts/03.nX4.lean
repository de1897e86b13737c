set_option maxRecDepth 100000
abbrev cX4_init : ByteArray := prog_19_method_1_code
def yX4_init : MethodName := ⟨RX4, "<init>", "()V"⟩
def dkwX4_init_8 : List UInt8 := [188, 10, 181, 0, 83, 42, 7, 188, 10, 181, 0, 86, 42, 7, 188, 4, 181, 0, 89, 177]
abbrev dktX4_init_8 : List UInt8 := dkwX4_init_8 ++ []
def dkwX4_init_7 : List UInt8 := [188, 4, 181, 0, 73, 42, 16, 42, 188, 10, 181, 0, 77, 42, 17, 1, 228, 188, 10, 181, 0, 80, 42, 7]
abbrev dktX4_init_7 : List UInt8 := dkwX4_init_7 ++ dktX4_init_8
def dkwX4_init_6 : List UInt8 := [181, 0, 64, 42, 16, 50, 188, 10, 181, 0, 67, 42, 17, 1, 110, 188, 10, 181, 0, 70, 42, 16, 7]
abbrev dktX4_init_6 : List UInt8 := dkwX4_init_6 ++ dktX4_init_7
def dkwX4_init_5 : List UInt8 := [181, 0, 55, 42, 16, 44, 188, 10, 181, 0, 58, 42, 16, 7, 188, 10, 181, 0, 61, 42, 6, 188, 10]
abbrev dktX4_init_5 : List UInt8 := dkwX4_init_5 ++ dktX4_init_6
def dkwX4_init_4 : List UInt8 := [42, 2, 181, 0, 46, 42, 2, 181, 0, 49, 42, 16, 6, 188, 10, 181, 0, 52, 42, 17, 3, 112, 188, 10]
abbrev dktX4_init_4 : List UInt8 := dkwX4_init_4 ++ dktX4_init_5
def dkwX4_init_3 : List UInt8 := [181, 0, 32, 42, 16, 12, 188, 11, 181, 0, 36, 42, 16, 121, 188, 10, 181, 0, 39, 42, 2, 181, 0, 42]
abbrev dktX4_init_3 : List UInt8 := dkwX4_init_3 ++ dktX4_init_4
def dkwX4_init_2 : List UInt8 := [42, 16, 90, 188, 10, 181, 0, 26, 42, 17, 1, 144, 188, 10, 181, 0, 29, 42, 16, 64, 188, 11]
abbrev dktX4_init_2 : List UInt8 := dkwX4_init_2 ++ dktX4_init_3
def dkwX4_init_1 : List UInt8 := [16, 7, 188, 10, 181, 0, 17, 42, 17, 1, 32, 188, 10, 181, 0, 20, 42, 16, 6, 188, 10, 181, 0, 23]
abbrev dktX4_init_1 : List UInt8 := dkwX4_init_1 ++ dktX4_init_2
def dkwX4_init_0 : List UInt8 := [42, 183, 0, 1, 42, 17, 1, 144, 188, 8, 181, 0, 7, 42, 17, 9, 96, 188, 10, 181, 0, 13, 42]
abbrev dktX4_init_0 : List UInt8 := dkwX4_init_0 ++ dktX4_init_1
theorem dksX4_init_0 : cX4_init.data.toList.drop 0 = dktX4_init_0 := by decide +kernel
theorem dksX4_init_1 : cX4_init.data.toList.drop 23 = dktX4_init_1 := dk_seg dksX4_init_0 23 rfl rfl
theorem dksX4_init_2 : cX4_init.data.toList.drop 47 = dktX4_init_2 := dk_seg dksX4_init_1 24 rfl rfl
theorem dksX4_init_3 : cX4_init.data.toList.drop 69 = dktX4_init_3 := dk_seg dksX4_init_2 22 rfl rfl
theorem dksX4_init_4 : cX4_init.data.toList.drop 93 = dktX4_init_4 := dk_seg dksX4_init_3 24 rfl rfl
theorem dksX4_init_5 : cX4_init.data.toList.drop 117 = dktX4_init_5 := dk_seg dksX4_init_4 24 rfl rfl
theorem dksX4_init_6 : cX4_init.data.toList.drop 140 = dktX4_init_6 := dk_seg dksX4_init_5 23 rfl rfl
theorem dksX4_init_7 : cX4_init.data.toList.drop 163 = dktX4_init_7 := dk_seg dksX4_init_6 23 rfl rfl
theorem dksX4_init_8 : cX4_init.data.toList.drop 187 = dktX4_init_8 := dk_seg dksX4_init_7 24 rfl rfl
theorem dX4_init_0 : decode cX4_init 0 = .ok (.aload_n 0, 1) := dk_42 (dk_at dksX4_init_0 0 rfl rfl)
theorem dX4_init_1 : decode cX4_init 1 = .ok (.invokespecial 1, 3) := dk_183 0 1 (dk_at dksX4_init_0 1 rfl rfl)
theorem dX4_init_4 : decode cX4_init 4 = .ok (.aload_n 0, 1) := dk_42 (dk_at dksX4_init_0 4 rfl rfl)
theorem dX4_init_5 : decode cX4_init 5 = .ok (.sipush 400, 3) := dk_17 1 144 (dk_at dksX4_init_0 5 rfl rfl)
theorem dX4_init_8 : decode cX4_init 8 = .ok (.newarray .byte, 2) := dk_188_8 (dk_at dksX4_init_0 8 rfl rfl)
theorem dX4_init_10 : decode cX4_init 10 = .ok (.putfield 7, 3) := dk_181 0 7 (dk_at dksX4_init_0 10 rfl rfl)
theorem dX4_init_13 : decode cX4_init 13 = .ok (.aload_n 0, 1) := dk_42 (dk_at dksX4_init_0 13 rfl rfl)
theorem dX4_init_14 : decode cX4_init 14 = .ok (.sipush 2400, 3) := dk_17 9 96 (dk_at dksX4_init_0 14 rfl rfl)
theorem dX4_init_17 : decode cX4_init 17 = .ok (.newarray .int, 2) := dk_188_10 (dk_at dksX4_init_0 17 rfl rfl)
theorem dX4_init_19 : decode cX4_init 19 = .ok (.putfield 13, 3) := dk_181 0 13 (dk_at dksX4_init_0 19 rfl rfl)
theorem dX4_init_22 : decode cX4_init 22 = .ok (.aload_n 0, 1) := dk_42 (dk_at dksX4_init_0 22 rfl rfl)
theorem dX4_init_23 : decode cX4_init 23 = .ok (.bipush 7, 2) := dk_16 7 (dk_at dksX4_init_1 0 rfl rfl)
theorem dX4_init_25 : decode cX4_init 25 = .ok (.newarray .int, 2) := dk_188_10 (dk_at dksX4_init_1 2 rfl rfl)
theorem dX4_init_27 : decode cX4_init 27 = .ok (.putfield 17, 3) := dk_181 0 17 (dk_at dksX4_init_1 4 rfl rfl)
theorem dX4_init_30 : decode cX4_init 30 = .ok (.aload_n 0, 1) := dk_42 (dk_at dksX4_init_1 7 rfl rfl)
theorem dX4_init_31 : decode cX4_init 31 = .ok (.sipush 288, 3) := dk_17 1 32 (dk_at dksX4_init_1 8 rfl rfl)
theorem dX4_init_34 : decode cX4_init 34 = .ok (.newarray .int, 2) := dk_188_10 (dk_at dksX4_init_1 11 rfl rfl)
theorem dX4_init_36 : decode cX4_init 36 = .ok (.putfield 20, 3) := dk_181 0 20 (dk_at dksX4_init_1 13 rfl rfl)
theorem dX4_init_39 : decode cX4_init 39 = .ok (.aload_n 0, 1) := dk_42 (dk_at dksX4_init_1 16 rfl rfl)
theorem dX4_init_40 : decode cX4_init 40 = .ok (.bipush 6, 2) := dk_16 6 (dk_at dksX4_init_1 17 rfl rfl)
theorem dX4_init_42 : decode cX4_init 42 = .ok (.newarray .int, 2) := dk_188_10 (dk_at dksX4_init_1 19 rfl rfl)
theorem dX4_init_44 : decode cX4_init 44 = .ok (.putfield 23, 3) := dk_181 0 23 (dk_at dksX4_init_1 21 rfl rfl)
theorem dX4_init_47 : decode cX4_init 47 = .ok (.aload_n 0, 1) := dk_42 (dk_at dksX4_init_2 0 rfl rfl)
theorem dX4_init_48 : decode cX4_init 48 = .ok (.bipush 90, 2) := dk_16 90 (dk_at dksX4_init_2 1 rfl rfl)
theorem dX4_init_50 : decode cX4_init 50 = .ok (.newarray .int, 2) := dk_188_10 (dk_at dksX4_init_2 3 rfl rfl)
theorem dX4_init_52 : decode cX4_init 52 = .ok (.putfield 26, 3) := dk_181 0 26 (dk_at dksX4_init_2 5 rfl rfl)
theorem dX4_init_55 : decode cX4_init 55 = .ok (.aload_n 0, 1) := dk_42 (dk_at dksX4_init_2 8 rfl rfl)
theorem dX4_init_56 : decode cX4_init 56 = .ok (.sipush 400, 3) := dk_17 1 144 (dk_at dksX4_init_2 9 rfl rfl)
theorem dX4_init_59 : decode cX4_init 59 = .ok (.newarray .int, 2) := dk_188_10 (dk_at dksX4_init_2 12 rfl rfl)
theorem dX4_init_61 : decode cX4_init 61 = .ok (.putfield 29, 3) := dk_181 0 29 (dk_at dksX4_init_2 14 rfl rfl)
theorem dX4_init_64 : decode cX4_init 64 = .ok (.aload_n 0, 1) := dk_42 (dk_at dksX4_init_2 17 rfl rfl)
theorem dX4_init_65 : decode cX4_init 65 = .ok (.bipush 64, 2) := dk_16 64 (dk_at dksX4_init_2 18 rfl rfl)
theorem dX4_init_67 : decode cX4_init 67 = .ok (.newarray .long, 2) := dk_188_11 (dk_at dksX4_init_2 20 rfl rfl)
theorem dX4_init_69 : decode cX4_init 69 = .ok (.putfield 32, 3) := dk_181 0 32 (dk_at dksX4_init_3 0 rfl rfl)
theorem dX4_init_72 : decode cX4_init 72 = .ok (.aload_n 0, 1) := dk_42 (dk_at dksX4_init_3 3 rfl rfl)
theorem dX4_init_73 : decode cX4_init 73 = .ok (.bipush 12, 2) := dk_16 12 (dk_at dksX4_init_3 4 rfl rfl)
theorem dX4_init_75 : decode cX4_init 75 = .ok (.newarray .long, 2) := dk_188_11 (dk_at dksX4_init_3 6 rfl rfl)
theorem dX4_init_77 : decode cX4_init 77 = .ok (.putfield 36, 3) := dk_181 0 36 (dk_at dksX4_init_3 8 rfl rfl)
theorem dX4_init_80 : decode cX4_init 80 = .ok (.aload_n 0, 1) := dk_42 (dk_at dksX4_init_3 11 rfl rfl)
theorem dX4_init_81 : decode cX4_init 81 = .ok (.bipush 121, 2) := dk_16 121 (dk_at dksX4_init_3 12 rfl rfl)
theorem dX4_init_83 : decode cX4_init 83 = .ok (.newarray .int, 2) := dk_188_10 (dk_at dksX4_init_3 14 rfl rfl)
theorem dX4_init_85 : decode cX4_init 85 = .ok (.putfield 39, 3) := dk_181 0 39 (dk_at dksX4_init_3 16 rfl rfl)
theorem dX4_init_88 : decode cX4_init 88 = .ok (.aload_n 0, 1) := dk_42 (dk_at dksX4_init_3 19 rfl rfl)
theorem dX4_init_89 : decode cX4_init 89 = .ok (.iconst (-1), 1) := dk_2 (dk_at dksX4_init_3 20 rfl rfl)
theorem dX4_init_90 : decode cX4_init 90 = .ok (.putfield 42, 3) := dk_181 0 42 (dk_at dksX4_init_3 21 rfl rfl)
theorem dX4_init_93 : decode cX4_init 93 = .ok (.aload_n 0, 1) := dk_42 (dk_at dksX4_init_4 0 rfl rfl)
theorem dX4_init_94 : decode cX4_init 94 = .ok (.iconst (-1), 1) := dk_2 (dk_at dksX4_init_4 1 rfl rfl)
theorem dX4_init_95 : decode cX4_init 95 = .ok (.putfield 46, 3) := dk_181 0 46 (dk_at dksX4_init_4 2 rfl rfl)
theorem dX4_init_98 : decode cX4_init 98 = .ok (.aload_n 0, 1) := dk_42 (dk_at dksX4_init_4 5 rfl rfl)
theorem dX4_init_99 : decode cX4_init 99 = .ok (.iconst (-1), 1) := dk_2 (dk_at dksX4_init_4 6 rfl rfl)
theorem dX4_init_100 : decode cX4_init 100 = .ok (.putfield 49, 3) := dk_181 0 49 (dk_at dksX4_init_4 7 rfl rfl)
theorem dX4_init_103 : decode cX4_init 103 = .ok (.aload_n 0, 1) := dk_42 (dk_at dksX4_init_4 10 rfl rfl)
theorem dX4_init_104 : decode cX4_init 104 = .ok (.bipush 6, 2) := dk_16 6 (dk_at dksX4_init_4 11 rfl rfl)
theorem dX4_init_106 : decode cX4_init 106 = .ok (.newarray .int, 2) := dk_188_10 (dk_at dksX4_init_4 13 rfl rfl)
theorem dX4_init_108 : decode cX4_init 108 = .ok (.putfield 52, 3) := dk_181 0 52 (dk_at dksX4_init_4 15 rfl rfl)
theorem dX4_init_111 : decode cX4_init 111 = .ok (.aload_n 0, 1) := dk_42 (dk_at dksX4_init_4 18 rfl rfl)
theorem dX4_init_112 : decode cX4_init 112 = .ok (.sipush 880, 3) := dk_17 3 112 (dk_at dksX4_init_4 19 rfl rfl)
theorem dX4_init_115 : decode cX4_init 115 = .ok (.newarray .int, 2) := dk_188_10 (dk_at dksX4_init_4 22 rfl rfl)
theorem dX4_init_117 : decode cX4_init 117 = .ok (.putfield 55, 3) := dk_181 0 55 (dk_at dksX4_init_5 0 rfl rfl)
theorem dX4_init_120 : decode cX4_init 120 = .ok (.aload_n 0, 1) := dk_42 (dk_at dksX4_init_5 3 rfl rfl)
theorem dX4_init_121 : decode cX4_init 121 = .ok (.bipush 44, 2) := dk_16 44 (dk_at dksX4_init_5 4 rfl rfl)
theorem dX4_init_123 : decode cX4_init 123 = .ok (.newarray .int, 2) := dk_188_10 (dk_at dksX4_init_5 6 rfl rfl)
theorem dX4_init_125 : decode cX4_init 125 = .ok (.putfield 58, 3) := dk_181 0 58 (dk_at dksX4_init_5 8 rfl rfl)
theorem dX4_init_128 : decode cX4_init 128 = .ok (.aload_n 0, 1) := dk_42 (dk_at dksX4_init_5 11 rfl rfl)
theorem dX4_init_129 : decode cX4_init 129 = .ok (.bipush 7, 2) := dk_16 7 (dk_at dksX4_init_5 12 rfl rfl)
theorem dX4_init_131 : decode cX4_init 131 = .ok (.newarray .int, 2) := dk_188_10 (dk_at dksX4_init_5 14 rfl rfl)
theorem dX4_init_133 : decode cX4_init 133 = .ok (.putfield 61, 3) := dk_181 0 61 (dk_at dksX4_init_5 16 rfl rfl)
theorem dX4_init_136 : decode cX4_init 136 = .ok (.aload_n 0, 1) := dk_42 (dk_at dksX4_init_5 19 rfl rfl)
theorem dX4_init_137 : decode cX4_init 137 = .ok (.iconst 3, 1) := dk_6 (dk_at dksX4_init_5 20 rfl rfl)
theorem dX4_init_138 : decode cX4_init 138 = .ok (.newarray .int, 2) := dk_188_10 (dk_at dksX4_init_5 21 rfl rfl)
theorem dX4_init_140 : decode cX4_init 140 = .ok (.putfield 64, 3) := dk_181 0 64 (dk_at dksX4_init_6 0 rfl rfl)
theorem dX4_init_143 : decode cX4_init 143 = .ok (.aload_n 0, 1) := dk_42 (dk_at dksX4_init_6 3 rfl rfl)
theorem dX4_init_144 : decode cX4_init 144 = .ok (.bipush 50, 2) := dk_16 50 (dk_at dksX4_init_6 4 rfl rfl)
theorem dX4_init_146 : decode cX4_init 146 = .ok (.newarray .int, 2) := dk_188_10 (dk_at dksX4_init_6 6 rfl rfl)
theorem dX4_init_148 : decode cX4_init 148 = .ok (.putfield 67, 3) := dk_181 0 67 (dk_at dksX4_init_6 8 rfl rfl)
theorem dX4_init_151 : decode cX4_init 151 = .ok (.aload_n 0, 1) := dk_42 (dk_at dksX4_init_6 11 rfl rfl)
theorem dX4_init_152 : decode cX4_init 152 = .ok (.sipush 366, 3) := dk_17 1 110 (dk_at dksX4_init_6 12 rfl rfl)
theorem dX4_init_155 : decode cX4_init 155 = .ok (.newarray .int, 2) := dk_188_10 (dk_at dksX4_init_6 15 rfl rfl)
theorem dX4_init_157 : decode cX4_init 157 = .ok (.putfield 70, 3) := dk_181 0 70 (dk_at dksX4_init_6 17 rfl rfl)
theorem dX4_init_160 : decode cX4_init 160 = .ok (.aload_n 0, 1) := dk_42 (dk_at dksX4_init_6 20 rfl rfl)
theorem dX4_init_161 : decode cX4_init 161 = .ok (.bipush 7, 2) := dk_16 7 (dk_at dksX4_init_6 21 rfl rfl)
theorem dX4_init_163 : decode cX4_init 163 = .ok (.newarray .boolean, 2) := dk_188_4 (dk_at dksX4_init_7 0 rfl rfl)
theorem dX4_init_165 : decode cX4_init 165 = .ok (.putfield 73, 3) := dk_181 0 73 (dk_at dksX4_init_7 2 rfl rfl)
theorem dX4_init_168 : decode cX4_init 168 = .ok (.aload_n 0, 1) := dk_42 (dk_at dksX4_init_7 5 rfl rfl)
theorem dX4_init_169 : decode cX4_init 169 = .ok (.bipush 42, 2) := dk_16 42 (dk_at dksX4_init_7 6 rfl rfl)
theorem dX4_init_171 : decode cX4_init 171 = .ok (.newarray .int, 2) := dk_188_10 (dk_at dksX4_init_7 8 rfl rfl)
theorem dX4_init_173 : decode cX4_init 173 = .ok (.putfield 77, 3) := dk_181 0 77 (dk_at dksX4_init_7 10 rfl rfl)
theorem dX4_init_176 : decode cX4_init 176 = .ok (.aload_n 0, 1) := dk_42 (dk_at dksX4_init_7 13 rfl rfl)
theorem dX4_init_177 : decode cX4_init 177 = .ok (.sipush 484, 3) := dk_17 1 228 (dk_at dksX4_init_7 14 rfl rfl)
theorem dX4_init_180 : decode cX4_init 180 = .ok (.newarray .int, 2) := dk_188_10 (dk_at dksX4_init_7 17 rfl rfl)
theorem dX4_init_182 : decode cX4_init 182 = .ok (.putfield 80, 3) := dk_181 0 80 (dk_at dksX4_init_7 19 rfl rfl)
theorem dX4_init_185 : decode cX4_init 185 = .ok (.aload_n 0, 1) := dk_42 (dk_at dksX4_init_7 22 rfl rfl)
theorem dX4_init_186 : decode cX4_init 186 = .ok (.iconst 4, 1) := dk_7 (dk_at dksX4_init_7 23 rfl rfl)
theorem dX4_init_187 : decode cX4_init 187 = .ok (.newarray .int, 2) := dk_188_10 (dk_at dksX4_init_8 0 rfl rfl)
theorem dX4_init_189 : decode cX4_init 189 = .ok (.putfield 83, 3) := dk_181 0 83 (dk_at dksX4_init_8 2 rfl rfl)
theorem dX4_init_192 : decode cX4_init 192 = .ok (.aload_n 0, 1) := dk_42 (dk_at dksX4_init_8 5 rfl rfl)
theorem dX4_init_193 : decode cX4_init 193 = .ok (.iconst 4, 1) := dk_7 (dk_at dksX4_init_8 6 rfl rfl)
theorem dX4_init_194 : decode cX4_init 194 = .ok (.newarray .int, 2) := dk_188_10 (dk_at dksX4_init_8 7 rfl rfl)
theorem dX4_init_196 : decode cX4_init 196 = .ok (.putfield 86, 3) := dk_181 0 86 (dk_at dksX4_init_8 9 rfl rfl)
theorem dX4_init_199 : decode cX4_init 199 = .ok (.aload_n 0, 1) := dk_42 (dk_at dksX4_init_8 12 rfl rfl)
theorem dX4_init_200 : decode cX4_init 200 = .ok (.iconst 4, 1) := dk_7 (dk_at dksX4_init_8 13 rfl rfl)
theorem dX4_init_201 : decode cX4_init 201 = .ok (.newarray .boolean, 2) := dk_188_4 (dk_at dksX4_init_8 14 rfl rfl)
theorem dX4_init_203 : decode cX4_init 203 = .ok (.putfield 89, 3) := dk_181 0 89 (dk_at dksX4_init_8 16 rfl rfl)
theorem dX4_init_206 : decode cX4_init 206 = .ok (.return_, 1) := dk_177 (dk_at dksX4_init_8 19 rfl rfl)
abbrev cX4_feed : ByteArray := prog_19_method_6_code
def yX4_feed : MethodName := ⟨RX4, "feed", "(IIIII)I"⟩
def dkwX4_feed_2 : List UInt8 := [172]
abbrev dktX4_feed_2 : List UInt8 := dkwX4_feed_2 ++ []
def dkwX4_feed_1 : List UInt8 := [182, 0, 95, 42, 29, 182, 0, 95, 42, 21, 4, 182, 0, 95, 42, 21, 5, 182, 0, 95, 42, 180, 0, 92]
abbrev dktX4_feed_1 : List UInt8 := dkwX4_feed_1 ++ dktX4_feed_2
def dkwX4_feed_0 : List UInt8 := [42, 180, 0, 92, 16, 20, 96, 17, 1, 144, 164, 0, 5, 2, 172, 42, 27, 182, 0, 95, 42, 28]
abbrev dktX4_feed_0 : List UInt8 := dkwX4_feed_0 ++ dktX4_feed_1
theorem dksX4_feed_0 : cX4_feed.data.toList.drop 0 = dktX4_feed_0 := by decide +kernel
theorem dksX4_feed_1 : cX4_feed.data.toList.drop 22 = dktX4_feed_1 := dk_seg dksX4_feed_0 22 rfl rfl
theorem dksX4_feed_2 : cX4_feed.data.toList.drop 46 = dktX4_feed_2 := dk_seg dksX4_feed_1 24 rfl rfl
theorem dX4_feed_0 : decode cX4_feed 0 = .ok (.aload_n 0, 1) := dk_42 (dk_at dksX4_feed_0 0 rfl rfl)
theorem dX4_feed_1 : decode cX4_feed 1 = .ok (.getfield 92, 3) := dk_180 0 92 (dk_at dksX4_feed_0 1 rfl rfl)
theorem dX4_feed_4 : decode cX4_feed 4 = .ok (.bipush 20, 2) := dk_16 20 (dk_at dksX4_feed_0 4 rfl rfl)
theorem dX4_feed_6 : decode cX4_feed 6 = .ok (.iadd, 1) := dk_96 (dk_at dksX4_feed_0 6 rfl rfl)
theorem dX4_feed_7 : decode cX4_feed 7 = .ok (.sipush 400, 3) := dk_17 1 144 (dk_at dksX4_feed_0 7 rfl rfl)
theorem dX4_feed_10 : decode cX4_feed 10 = .ok (.if_icmp .le 5, 3) := dk_164 0 5 (dk_at dksX4_feed_0 10 rfl rfl)
theorem dX4_feed_13 : decode cX4_feed 13 = .ok (.iconst (-1), 1) := dk_2 (dk_at dksX4_feed_0 13 rfl rfl)
theorem dX4_feed_14 : decode cX4_feed 14 = .ok (.ireturn, 1) := dk_172 (dk_at dksX4_feed_0 14 rfl rfl)
theorem dX4_feed_15 : decode cX4_feed 15 = .ok (.aload_n 0, 1) := dk_42 (dk_at dksX4_feed_0 15 rfl rfl)
theorem dX4_feed_16 : decode cX4_feed 16 = .ok (.iload_n 1, 1) := dk_27 (dk_at dksX4_feed_0 16 rfl rfl)
theorem dX4_feed_17 : decode cX4_feed 17 = .ok (.invokevirtual 95, 3) := dk_182 0 95 (dk_at dksX4_feed_0 17 rfl rfl)
theorem dX4_feed_20 : decode cX4_feed 20 = .ok (.aload_n 0, 1) := dk_42 (dk_at dksX4_feed_0 20 rfl rfl)
theorem dX4_feed_21 : decode cX4_feed 21 = .ok (.iload_n 2, 1) := dk_28 (dk_at dksX4_feed_0 21 rfl rfl)
theorem dX4_feed_22 : decode cX4_feed 22 = .ok (.invokevirtual 95, 3) := dk_182 0 95 (dk_at dksX4_feed_1 0 rfl rfl)
theorem dX4_feed_25 : decode cX4_feed 25 = .ok (.aload_n 0, 1) := dk_42 (dk_at dksX4_feed_1 3 rfl rfl)
theorem dX4_feed_26 : decode cX4_feed 26 = .ok (.iload_n 3, 1) := dk_29 (dk_at dksX4_feed_1 4 rfl rfl)
theorem dX4_feed_27 : decode cX4_feed 27 = .ok (.invokevirtual 95, 3) := dk_182 0 95 (dk_at dksX4_feed_1 5 rfl rfl)
theorem dX4_feed_30 : decode cX4_feed 30 = .ok (.aload_n 0, 1) := dk_42 (dk_at dksX4_feed_1 8 rfl rfl)
theorem dX4_feed_31 : decode cX4_feed 31 = .ok (.iload 4, 2) := dk_21 4 (dk_at dksX4_feed_1 9 rfl rfl)
theorem dX4_feed_33 : decode cX4_feed 33 = .ok (.invokevirtual 95, 3) := dk_182 0 95 (dk_at dksX4_feed_1 11 rfl rfl)
theorem dX4_feed_36 : decode cX4_feed 36 = .ok (.aload_n 0, 1) := dk_42 (dk_at dksX4_feed_1 14 rfl rfl)
theorem dX4_feed_37 : decode cX4_feed 37 = .ok (.iload 5, 2) := dk_21 5 (dk_at dksX4_feed_1 15 rfl rfl)
theorem dX4_feed_39 : decode cX4_feed 39 = .ok (.invokevirtual 95, 3) := dk_182 0 95 (dk_at dksX4_feed_1 17 rfl rfl)
theorem dX4_feed_42 : decode cX4_feed 42 = .ok (.aload_n 0, 1) := dk_42 (dk_at dksX4_feed_1 20 rfl rfl)
theorem dX4_feed_43 : decode cX4_feed 43 = .ok (.getfield 92, 3) := dk_180 0 92 (dk_at dksX4_feed_1 21 rfl rfl)
theorem dX4_feed_46 : decode cX4_feed 46 = .ok (.ireturn, 1) := dk_172 (dk_at dksX4_feed_2 0 rfl rfl)
abbrev cX4_four : ByteArray := prog_19_method_5_code
def yX4_four : MethodName := ⟨RX4, "four", "(I)V"⟩
def dkwX4_four_1 : List UInt8 := [180, 0, 92, 4, 96, 181, 0, 92, 132, 2, 248, 167, 255, 226, 177]
abbrev dktX4_four_1 : List UInt8 := dkwX4_four_1 ++ []
def dkwX4_four_0 : List UInt8 := [16, 24, 61, 28, 155, 0, 32, 42, 180, 0, 7, 42, 180, 0, 92, 27, 28, 122, 145, 84, 42, 89]
abbrev dktX4_four_0 : List UInt8 := dkwX4_four_0 ++ dktX4_four_1
theorem dksX4_four_0 : cX4_four.data.toList.drop 0 = dktX4_four_0 := by decide +kernel
theorem dksX4_four_1 : cX4_four.data.toList.drop 22 = dktX4_four_1 := dk_seg dksX4_four_0 22 rfl rfl
theorem dX4_four_0 : decode cX4_four 0 = .ok (.bipush 24, 2) := dk_16 24 (dk_at dksX4_four_0 0 rfl rfl)
theorem dX4_four_2 : decode cX4_four 2 = .ok (.istore_n 2, 1) := dk_61 (dk_at dksX4_four_0 2 rfl rfl)
theorem dX4_four_3 : decode cX4_four 3 = .ok (.iload_n 2, 1) := dk_28 (dk_at dksX4_four_0 3 rfl rfl)
theorem dX4_four_4 : decode cX4_four 4 = .ok (.ifCond .lt 32, 3) := dk_155 0 32 (dk_at dksX4_four_0 4 rfl rfl)
theorem dX4_four_7 : decode cX4_four 7 = .ok (.aload_n 0, 1) := dk_42 (dk_at dksX4_four_0 7 rfl rfl)
theorem dX4_four_8 : decode cX4_four 8 = .ok (.getfield 7, 3) := dk_180 0 7 (dk_at dksX4_four_0 8 rfl rfl)
theorem dX4_four_11 : decode cX4_four 11 = .ok (.aload_n 0, 1) := dk_42 (dk_at dksX4_four_0 11 rfl rfl)
theorem dX4_four_12 : decode cX4_four 12 = .ok (.getfield 92, 3) := dk_180 0 92 (dk_at dksX4_four_0 12 rfl rfl)
theorem dX4_four_15 : decode cX4_four 15 = .ok (.iload_n 1, 1) := dk_27 (dk_at dksX4_four_0 15 rfl rfl)
theorem dX4_four_16 : decode cX4_four 16 = .ok (.iload_n 2, 1) := dk_28 (dk_at dksX4_four_0 16 rfl rfl)
theorem dX4_four_17 : decode cX4_four 17 = .ok (.ishr, 1) := dk_122 (dk_at dksX4_four_0 17 rfl rfl)
theorem dX4_four_18 : decode cX4_four 18 = .ok (.i2b, 1) := dk_145 (dk_at dksX4_four_0 18 rfl rfl)
theorem dX4_four_19 : decode cX4_four 19 = .ok (.bastore, 1) := dk_84 (dk_at dksX4_four_0 19 rfl rfl)
theorem dX4_four_20 : decode cX4_four 20 = .ok (.aload_n 0, 1) := dk_42 (dk_at dksX4_four_0 20 rfl rfl)
theorem dX4_four_21 : decode cX4_four 21 = .ok (.dup, 1) := dk_89 (dk_at dksX4_four_0 21 rfl rfl)
theorem dX4_four_22 : decode cX4_four 22 = .ok (.getfield 92, 3) := dk_180 0 92 (dk_at dksX4_four_1 0 rfl rfl)
theorem dX4_four_25 : decode cX4_four 25 = .ok (.iconst 1, 1) := dk_4 (dk_at dksX4_four_1 3 rfl rfl)
theorem dX4_four_26 : decode cX4_four 26 = .ok (.iadd, 1) := dk_96 (dk_at dksX4_four_1 4 rfl rfl)
theorem dX4_four_27 : decode cX4_four 27 = .ok (.putfield 92, 3) := dk_181 0 92 (dk_at dksX4_four_1 5 rfl rfl)
theorem dX4_four_30 : decode cX4_four 30 = .ok (.iinc 2 (-8), 3) := dk_132 2 248 (dk_at dksX4_four_1 8 rfl rfl)
theorem dX4_four_33 : decode cX4_four 33 = .ok (.goto (-30), 3) := dk_167 255 226 (dk_at dksX4_four_1 11 rfl rfl)
theorem dX4_four_36 : decode cX4_four 36 = .ok (.return_, 1) := dk_177 (dk_at dksX4_four_1 14 rfl rfl)
abbrev cX4_end : ByteArray := prog_19_method_7_code
def yX4_end : MethodName := ⟨RX4, "end", "(I)I"⟩
def dkwX4_end_0 : List UInt8 := [27, 155, 0, 11, 27, 42, 180, 0, 92, 164, 0, 5, 2, 172, 42, 27, 181, 0, 92, 27, 172]
abbrev dktX4_end_0 : List UInt8 := dkwX4_end_0 ++ []
theorem dksX4_end_0 : cX4_end.data.toList.drop 0 = dktX4_end_0 := by decide +kernel
theorem dX4_end_0 : decode cX4_end 0 = .ok (.iload_n 1, 1) := dk_27 (dk_at dksX4_end_0 0 rfl rfl)
theorem dX4_end_1 : decode cX4_end 1 = .ok (.ifCond .lt 11, 3) := dk_155 0 11 (dk_at dksX4_end_0 1 rfl rfl)
theorem dX4_end_4 : decode cX4_end 4 = .ok (.iload_n 1, 1) := dk_27 (dk_at dksX4_end_0 4 rfl rfl)
theorem dX4_end_5 : decode cX4_end 5 = .ok (.aload_n 0, 1) := dk_42 (dk_at dksX4_end_0 5 rfl rfl)
theorem dX4_end_6 : decode cX4_end 6 = .ok (.getfield 92, 3) := dk_180 0 92 (dk_at dksX4_end_0 6 rfl rfl)
theorem dX4_end_9 : decode cX4_end 9 = .ok (.if_icmp .le 5, 3) := dk_164 0 5 (dk_at dksX4_end_0 9 rfl rfl)
theorem dX4_end_12 : decode cX4_end 12 = .ok (.iconst (-1), 1) := dk_2 (dk_at dksX4_end_0 12 rfl rfl)
theorem dX4_end_13 : decode cX4_end 13 = .ok (.ireturn, 1) := dk_172 (dk_at dksX4_end_0 13 rfl rfl)
theorem dX4_end_14 : decode cX4_end 14 = .ok (.aload_n 0, 1) := dk_42 (dk_at dksX4_end_0 14 rfl rfl)
theorem dX4_end_15 : decode cX4_end 15 = .ok (.iload_n 1, 1) := dk_27 (dk_at dksX4_end_0 15 rfl rfl)
theorem dX4_end_16 : decode cX4_end 16 = .ok (.putfield 92, 3) := dk_181 0 92 (dk_at dksX4_end_0 16 rfl rfl)
theorem dX4_end_19 : decode cX4_end 19 = .ok (.iload_n 1, 1) := dk_27 (dk_at dksX4_end_0 19 rfl rfl)
theorem dX4_end_20 : decode cX4_end 20 = .ok (.ireturn, 1) := dk_172 (dk_at dksX4_end_0 20 rfl rfl)
abbrev cX4_rule : ByteArray := prog_19_method_40_code
def yX4_rule : MethodName := ⟨RX4, "rule", "()I"⟩
def dkwX4_rule_2 : List UInt8 := [180, 1, 11, 4, 96, 181, 1, 11, 42, 180, 1, 11, 4, 100, 172]
abbrev dktX4_rule_2 : List UInt8 := dkwX4_rule_2 ++ []
def dkwX4_rule_1 : List UInt8 := [180, 0, 158, 3, 79, 42, 182, 1, 14, 154, 0, 11, 16, 254, 42, 180, 0, 99, 100, 172, 42, 89]
abbrev dktX4_rule_1 : List UInt8 := dkwX4_rule_1 ++ dktX4_rule_2
def dkwX4_rule_0 : List UInt8 := [42, 180, 1, 11, 16, 6, 160, 0, 5, 2, 172, 42, 42, 180, 1, 11, 181, 0, 158, 42, 180, 0, 23, 42]
abbrev dktX4_rule_0 : List UInt8 := dkwX4_rule_0 ++ dktX4_rule_1
theorem dksX4_rule_0 : cX4_rule.data.toList.drop 0 = dktX4_rule_0 := by decide +kernel
theorem dksX4_rule_1 : cX4_rule.data.toList.drop 24 = dktX4_rule_1 := dk_seg dksX4_rule_0 24 rfl rfl
theorem dksX4_rule_2 : cX4_rule.data.toList.drop 46 = dktX4_rule_2 := dk_seg dksX4_rule_1 22 rfl rfl
theorem dX4_rule_0 : decode cX4_rule 0 = .ok (.aload_n 0, 1) := dk_42 (dk_at dksX4_rule_0 0 rfl rfl)
theorem dX4_rule_1 : decode cX4_rule 1 = .ok (.getfield 267, 3) := dk_180 1 11 (dk_at dksX4_rule_0 1 rfl rfl)
theorem dX4_rule_4 : decode cX4_rule 4 = .ok (.bipush 6, 2) := dk_16 6 (dk_at dksX4_rule_0 4 rfl rfl)
theorem dX4_rule_6 : decode cX4_rule 6 = .ok (.if_icmp .ne 5, 3) := dk_160 0 5 (dk_at dksX4_rule_0 6 rfl rfl)
theorem dX4_rule_9 : decode cX4_rule 9 = .ok (.iconst (-1), 1) := dk_2 (dk_at dksX4_rule_0 9 rfl rfl)
theorem dX4_rule_10 : decode cX4_rule 10 = .ok (.ireturn, 1) := dk_172 (dk_at dksX4_rule_0 10 rfl rfl)
theorem dX4_rule_11 : decode cX4_rule 11 = .ok (.aload_n 0, 1) := dk_42 (dk_at dksX4_rule_0 11 rfl rfl)
theorem dX4_rule_12 : decode cX4_rule 12 = .ok (.aload_n 0, 1) := dk_42 (dk_at dksX4_rule_0 12 rfl rfl)
theorem dX4_rule_13 : decode cX4_rule 13 = .ok (.getfield 267, 3) := dk_180 1 11 (dk_at dksX4_rule_0 13 rfl rfl)
theorem dX4_rule_16 : decode cX4_rule 16 = .ok (.putfield 158, 3) := dk_181 0 158 (dk_at dksX4_rule_0 16 rfl rfl)
theorem dX4_rule_19 : decode cX4_rule 19 = .ok (.aload_n 0, 1) := dk_42 (dk_at dksX4_rule_0 19 rfl rfl)
theorem dX4_rule_20 : decode cX4_rule 20 = .ok (.getfield 23, 3) := dk_180 0 23 (dk_at dksX4_rule_0 20 rfl rfl)
theorem dX4_rule_23 : decode cX4_rule 23 = .ok (.aload_n 0, 1) := dk_42 (dk_at dksX4_rule_0 23 rfl rfl)
theorem dX4_rule_24 : decode cX4_rule 24 = .ok (.getfield 158, 3) := dk_180 0 158 (dk_at dksX4_rule_1 0 rfl rfl)
theorem dX4_rule_27 : decode cX4_rule 27 = .ok (.iconst 0, 1) := dk_3 (dk_at dksX4_rule_1 3 rfl rfl)
theorem dX4_rule_28 : decode cX4_rule 28 = .ok (.iastore, 1) := dk_79 (dk_at dksX4_rule_1 4 rfl rfl)
theorem dX4_rule_29 : decode cX4_rule 29 = .ok (.aload_n 0, 1) := dk_42 (dk_at dksX4_rule_1 5 rfl rfl)
theorem dX4_rule_30 : decode cX4_rule 30 = .ok (.invokevirtual 270, 3) := dk_182 1 14 (dk_at dksX4_rule_1 6 rfl rfl)
theorem dX4_rule_33 : decode cX4_rule 33 = .ok (.ifCond .ne 11, 3) := dk_154 0 11 (dk_at dksX4_rule_1 9 rfl rfl)
theorem dX4_rule_36 : decode cX4_rule 36 = .ok (.bipush (-2), 2) := dk_16 254 (dk_at dksX4_rule_1 12 rfl rfl)
theorem dX4_rule_38 : decode cX4_rule 38 = .ok (.aload_n 0, 1) := dk_42 (dk_at dksX4_rule_1 14 rfl rfl)
theorem dX4_rule_39 : decode cX4_rule 39 = .ok (.getfield 99, 3) := dk_180 0 99 (dk_at dksX4_rule_1 15 rfl rfl)
theorem dX4_rule_42 : decode cX4_rule 42 = .ok (.isub, 1) := dk_100 (dk_at dksX4_rule_1 18 rfl rfl)
theorem dX4_rule_43 : decode cX4_rule 43 = .ok (.ireturn, 1) := dk_172 (dk_at dksX4_rule_1 19 rfl rfl)
theorem dX4_rule_44 : decode cX4_rule 44 = .ok (.aload_n 0, 1) := dk_42 (dk_at dksX4_rule_1 20 rfl rfl)
theorem dX4_rule_45 : decode cX4_rule 45 = .ok (.dup, 1) := dk_89 (dk_at dksX4_rule_1 21 rfl rfl)
theorem dX4_rule_46 : decode cX4_rule 46 = .ok (.getfield 267, 3) := dk_180 1 11 (dk_at dksX4_rule_2 0 rfl rfl)
theorem dX4_rule_49 : decode cX4_rule 49 = .ok (.iconst 1, 1) := dk_4 (dk_at dksX4_rule_2 3 rfl rfl)
theorem dX4_rule_50 : decode cX4_rule 50 = .ok (.iadd, 1) := dk_96 (dk_at dksX4_rule_2 4 rfl rfl)
theorem dX4_rule_51 : decode cX4_rule 51 = .ok (.putfield 267, 3) := dk_181 1 11 (dk_at dksX4_rule_2 5 rfl rfl)
theorem dX4_rule_54 : decode cX4_rule 54 = .ok (.aload_n 0, 1) := dk_42 (dk_at dksX4_rule_2 8 rfl rfl)
theorem dX4_rule_55 : decode cX4_rule 55 = .ok (.getfield 267, 3) := dk_180 1 11 (dk_at dksX4_rule_2 9 rfl rfl)
theorem dX4_rule_58 : decode cX4_rule 58 = .ok (.iconst 1, 1) := dk_4 (dk_at dksX4_rule_2 12 rfl rfl)
theorem dX4_rule_59 : decode cX4_rule 59 = .ok (.isub, 1) := dk_100 (dk_at dksX4_rule_2 13 rfl rfl)
theorem dX4_rule_60 : decode cX4_rule 60 = .ok (.ireturn, 1) := dk_172 (dk_at dksX4_rule_2 14 rfl rfl)
abbrev cX4_readsAll : ByteArray := prog_19_method_39_code
def yX4_readsAll : MethodName := ⟨RX4, "readsAll", "()Z"⟩
def dkwX4_readsAll_4 : List UInt8 := [181, 0, 92, 42, 180, 0, 99, 154, 0, 7, 4, 167, 0, 4, 3, 172]
abbrev dktX4_readsAll_4 : List UInt8 := dkwX4_readsAll_4 ++ []
def dkwX4_readsAll_3 : List UInt8 := [153, 0, 21, 42, 182, 0, 105, 2, 159, 0, 13, 42, 3, 42, 180, 0, 102, 182, 0, 123, 87, 42, 3]
abbrev dktX4_readsAll_3 : List UInt8 := dkwX4_readsAll_3 ++ dktX4_readsAll_4
def dkwX4_readsAll_2 : List UInt8 := [160, 0, 21, 42, 89, 180, 0, 102, 4, 96, 181, 0, 102, 42, 182, 1, 8, 60, 167, 255, 228, 27]
abbrev dktX4_readsAll_2 : List UInt8 := dkwX4_readsAll_2 ++ dktX4_readsAll_3
def dkwX4_readsAll_1 : List UInt8 := [181, 0, 99, 42, 3, 181, 0, 161, 42, 182, 1, 8, 60, 27, 153, 0, 30, 42, 182, 0, 105, 16, 59]
abbrev dktX4_readsAll_1 : List UInt8 := dkwX4_readsAll_1 ++ dktX4_readsAll_2
def dkwX4_readsAll_0 : List UInt8 := [42, 180, 0, 17, 42, 180, 0, 158, 3, 79, 42, 3, 181, 0, 255, 42, 3, 181, 0, 102, 42, 3]
abbrev dktX4_readsAll_0 : List UInt8 := dkwX4_readsAll_0 ++ dktX4_readsAll_1
theorem dksX4_readsAll_0 : cX4_readsAll.data.toList.drop 0 = dktX4_readsAll_0 := by decide +kernel
theorem dksX4_readsAll_1 : cX4_readsAll.data.toList.drop 22 = dktX4_readsAll_1 := dk_seg dksX4_readsAll_0 22 rfl rfl
theorem dksX4_readsAll_2 : cX4_readsAll.data.toList.drop 45 = dktX4_readsAll_2 := dk_seg dksX4_readsAll_1 23 rfl rfl
theorem dksX4_readsAll_3 : cX4_readsAll.data.toList.drop 67 = dktX4_readsAll_3 := dk_seg dksX4_readsAll_2 22 rfl rfl
theorem dksX4_readsAll_4 : cX4_readsAll.data.toList.drop 90 = dktX4_readsAll_4 := dk_seg dksX4_readsAll_3 23 rfl rfl
theorem dX4_readsAll_0 : decode cX4_readsAll 0 = .ok (.aload_n 0, 1) := dk_42 (dk_at dksX4_readsAll_0 0 rfl rfl)
theorem dX4_readsAll_1 : decode cX4_readsAll 1 = .ok (.getfield 17, 3) := dk_180 0 17 (dk_at dksX4_readsAll_0 1 rfl rfl)
theorem dX4_readsAll_4 : decode cX4_readsAll 4 = .ok (.aload_n 0, 1) := dk_42 (dk_at dksX4_readsAll_0 4 rfl rfl)
theorem dX4_readsAll_5 : decode cX4_readsAll 5 = .ok (.getfield 158, 3) := dk_180 0 158 (dk_at dksX4_readsAll_0 5 rfl rfl)
theorem dX4_readsAll_8 : decode cX4_readsAll 8 = .ok (.iconst 0, 1) := dk_3 (dk_at dksX4_readsAll_0 8 rfl rfl)
theorem dX4_readsAll_9 : decode cX4_readsAll 9 = .ok (.iastore, 1) := dk_79 (dk_at dksX4_readsAll_0 9 rfl rfl)
theorem dX4_readsAll_10 : decode cX4_readsAll 10 = .ok (.aload_n 0, 1) := dk_42 (dk_at dksX4_readsAll_0 10 rfl rfl)
theorem dX4_readsAll_11 : decode cX4_readsAll 11 = .ok (.iconst 0, 1) := dk_3 (dk_at dksX4_readsAll_0 11 rfl rfl)
theorem dX4_readsAll_12 : decode cX4_readsAll 12 = .ok (.putfield 255, 3) := dk_181 0 255 (dk_at dksX4_readsAll_0 12 rfl rfl)
theorem dX4_readsAll_15 : decode cX4_readsAll 15 = .ok (.aload_n 0, 1) := dk_42 (dk_at dksX4_readsAll_0 15 rfl rfl)
theorem dX4_readsAll_16 : decode cX4_readsAll 16 = .ok (.iconst 0, 1) := dk_3 (dk_at dksX4_readsAll_0 16 rfl rfl)
theorem dX4_readsAll_17 : decode cX4_readsAll 17 = .ok (.putfield 102, 3) := dk_181 0 102 (dk_at dksX4_readsAll_0 17 rfl rfl)
theorem dX4_readsAll_20 : decode cX4_readsAll 20 = .ok (.aload_n 0, 1) := dk_42 (dk_at dksX4_readsAll_0 20 rfl rfl)
theorem dX4_readsAll_21 : decode cX4_readsAll 21 = .ok (.iconst 0, 1) := dk_3 (dk_at dksX4_readsAll_0 21 rfl rfl)
theorem dX4_readsAll_22 : decode cX4_readsAll 22 = .ok (.putfield 99, 3) := dk_181 0 99 (dk_at dksX4_readsAll_1 0 rfl rfl)
theorem dX4_readsAll_25 : decode cX4_readsAll 25 = .ok (.aload_n 0, 1) := dk_42 (dk_at dksX4_readsAll_1 3 rfl rfl)
theorem dX4_readsAll_26 : decode cX4_readsAll 26 = .ok (.iconst 0, 1) := dk_3 (dk_at dksX4_readsAll_1 4 rfl rfl)
theorem dX4_readsAll_27 : decode cX4_readsAll 27 = .ok (.putfield 161, 3) := dk_181 0 161 (dk_at dksX4_readsAll_1 5 rfl rfl)
theorem dX4_readsAll_30 : decode cX4_readsAll 30 = .ok (.aload_n 0, 1) := dk_42 (dk_at dksX4_readsAll_1 8 rfl rfl)
theorem dX4_readsAll_31 : decode cX4_readsAll 31 = .ok (.invokevirtual 264, 3) := dk_182 1 8 (dk_at dksX4_readsAll_1 9 rfl rfl)
theorem dX4_readsAll_34 : decode cX4_readsAll 34 = .ok (.istore_n 1, 1) := dk_60 (dk_at dksX4_readsAll_1 12 rfl rfl)
theorem dX4_readsAll_35 : decode cX4_readsAll 35 = .ok (.iload_n 1, 1) := dk_27 (dk_at dksX4_readsAll_1 13 rfl rfl)
theorem dX4_readsAll_36 : decode cX4_readsAll 36 = .ok (.ifCond .eq 30, 3) := dk_153 0 30 (dk_at dksX4_readsAll_1 14 rfl rfl)
theorem dX4_readsAll_39 : decode cX4_readsAll 39 = .ok (.aload_n 0, 1) := dk_42 (dk_at dksX4_readsAll_1 17 rfl rfl)
theorem dX4_readsAll_40 : decode cX4_readsAll 40 = .ok (.invokevirtual 105, 3) := dk_182 0 105 (dk_at dksX4_readsAll_1 18 rfl rfl)
theorem dX4_readsAll_43 : decode cX4_readsAll 43 = .ok (.bipush 59, 2) := dk_16 59 (dk_at dksX4_readsAll_1 21 rfl rfl)
theorem dX4_readsAll_45 : decode cX4_readsAll 45 = .ok (.if_icmp .ne 21, 3) := dk_160 0 21 (dk_at dksX4_readsAll_2 0 rfl rfl)
theorem dX4_readsAll_48 : decode cX4_readsAll 48 = .ok (.aload_n 0, 1) := dk_42 (dk_at dksX4_readsAll_2 3 rfl rfl)
theorem dX4_readsAll_49 : decode cX4_readsAll 49 = .ok (.dup, 1) := dk_89 (dk_at dksX4_readsAll_2 4 rfl rfl)
theorem dX4_readsAll_50 : decode cX4_readsAll 50 = .ok (.getfield 102, 3) := dk_180 0 102 (dk_at dksX4_readsAll_2 5 rfl rfl)
theorem dX4_readsAll_53 : decode cX4_readsAll 53 = .ok (.iconst 1, 1) := dk_4 (dk_at dksX4_readsAll_2 8 rfl rfl)
theorem dX4_readsAll_54 : decode cX4_readsAll 54 = .ok (.iadd, 1) := dk_96 (dk_at dksX4_readsAll_2 9 rfl rfl)
theorem dX4_readsAll_55 : decode cX4_readsAll 55 = .ok (.putfield 102, 3) := dk_181 0 102 (dk_at dksX4_readsAll_2 10 rfl rfl)
theorem dX4_readsAll_58 : decode cX4_readsAll 58 = .ok (.aload_n 0, 1) := dk_42 (dk_at dksX4_readsAll_2 13 rfl rfl)
theorem dX4_readsAll_59 : decode cX4_readsAll 59 = .ok (.invokevirtual 264, 3) := dk_182 1 8 (dk_at dksX4_readsAll_2 14 rfl rfl)
theorem dX4_readsAll_62 : decode cX4_readsAll 62 = .ok (.istore_n 1, 1) := dk_60 (dk_at dksX4_readsAll_2 17 rfl rfl)
theorem dX4_readsAll_63 : decode cX4_readsAll 63 = .ok (.goto (-28), 3) := dk_167 255 228 (dk_at dksX4_readsAll_2 18 rfl rfl)
theorem dX4_readsAll_66 : decode cX4_readsAll 66 = .ok (.iload_n 1, 1) := dk_27 (dk_at dksX4_readsAll_2 21 rfl rfl)
theorem dX4_readsAll_67 : decode cX4_readsAll 67 = .ok (.ifCond .eq 21, 3) := dk_153 0 21 (dk_at dksX4_readsAll_3 0 rfl rfl)
theorem dX4_readsAll_70 : decode cX4_readsAll 70 = .ok (.aload_n 0, 1) := dk_42 (dk_at dksX4_readsAll_3 3 rfl rfl)
theorem dX4_readsAll_71 : decode cX4_readsAll 71 = .ok (.invokevirtual 105, 3) := dk_182 0 105 (dk_at dksX4_readsAll_3 4 rfl rfl)
theorem dX4_readsAll_74 : decode cX4_readsAll 74 = .ok (.iconst (-1), 1) := dk_2 (dk_at dksX4_readsAll_3 7 rfl rfl)
theorem dX4_readsAll_75 : decode cX4_readsAll 75 = .ok (.if_icmp .eq 13, 3) := dk_159 0 13 (dk_at dksX4_readsAll_3 8 rfl rfl)
theorem dX4_readsAll_78 : decode cX4_readsAll 78 = .ok (.aload_n 0, 1) := dk_42 (dk_at dksX4_readsAll_3 11 rfl rfl)
theorem dX4_readsAll_79 : decode cX4_readsAll 79 = .ok (.iconst 0, 1) := dk_3 (dk_at dksX4_readsAll_3 12 rfl rfl)
theorem dX4_readsAll_80 : decode cX4_readsAll 80 = .ok (.aload_n 0, 1) := dk_42 (dk_at dksX4_readsAll_3 13 rfl rfl)
theorem dX4_readsAll_81 : decode cX4_readsAll 81 = .ok (.getfield 102, 3) := dk_180 0 102 (dk_at dksX4_readsAll_3 14 rfl rfl)
theorem dX4_readsAll_84 : decode cX4_readsAll 84 = .ok (.invokevirtual 123, 3) := dk_182 0 123 (dk_at dksX4_readsAll_3 17 rfl rfl)
theorem dX4_readsAll_87 : decode cX4_readsAll 87 = .ok (.pop, 1) := dk_87 (dk_at dksX4_readsAll_3 20 rfl rfl)
theorem dX4_readsAll_88 : decode cX4_readsAll 88 = .ok (.aload_n 0, 1) := dk_42 (dk_at dksX4_readsAll_3 21 rfl rfl)
theorem dX4_readsAll_89 : decode cX4_readsAll 89 = .ok (.iconst 0, 1) := dk_3 (dk_at dksX4_readsAll_3 22 rfl rfl)
theorem dX4_readsAll_90 : decode cX4_readsAll 90 = .ok (.putfield 92, 3) := dk_181 0 92 (dk_at dksX4_readsAll_4 0 rfl rfl)
theorem dX4_readsAll_93 : decode cX4_readsAll 93 = .ok (.aload_n 0, 1) := dk_42 (dk_at dksX4_readsAll_4 3 rfl rfl)
theorem dX4_readsAll_94 : decode cX4_readsAll 94 = .ok (.getfield 99, 3) := dk_180 0 99 (dk_at dksX4_readsAll_4 4 rfl rfl)
theorem dX4_readsAll_97 : decode cX4_readsAll 97 = .ok (.ifCond .ne 7, 3) := dk_154 0 7 (dk_at dksX4_readsAll_4 7 rfl rfl)
theorem dX4_readsAll_100 : decode cX4_readsAll 100 = .ok (.iconst 1, 1) := dk_4 (dk_at dksX4_readsAll_4 10 rfl rfl)
theorem dX4_readsAll_101 : decode cX4_readsAll 101 = .ok (.goto 4, 3) := dk_167 0 4 (dk_at dksX4_readsAll_4 11 rfl rfl)
theorem dX4_readsAll_104 : decode cX4_readsAll 104 = .ok (.iconst 0, 1) := dk_3 (dk_at dksX4_readsAll_4 14 rfl rfl)
theorem dX4_readsAll_105 : decode cX4_readsAll 105 = .ok (.ireturn, 1) := dk_172 (dk_at dksX4_readsAll_4 15 rfl rfl)
abbrev cX4_clauseHere : ByteArray := prog_19_method_38_code
def yX4_clauseHere : MethodName := ⟨RX4, "clauseHere", "()Z"⟩
def dkwX4_clauseHere_4 : List UInt8 := [153, 0, 11, 42, 27, 182, 1, 2, 167, 0, 7, 42, 182, 1, 5, 172]
abbrev dktX4_clauseHere_4 : List UInt8 := dkwX4_clauseHere_4 ++ []
def dkwX4_clauseHere_3 : List UInt8 := [16, 12, 160, 0, 10, 42, 7, 27, 182, 0, 123, 172, 42, 89, 180, 0, 255, 4, 96, 181, 0, 255, 28]
abbrev dktX4_clauseHere_3 : List UInt8 := dkwX4_clauseHere_3 ++ dktX4_clauseHere_4
def dkwX4_clauseHere_2 : List UInt8 := [154, 0, 10, 42, 3, 27, 182, 0, 123, 172, 42, 180, 0, 255, 28, 153, 0, 8, 16, 40, 167, 0, 5]
abbrev dktX4_clauseHere_2 : List UInt8 := dkwX4_clauseHere_2 ++ dktX4_clauseHere_3
def dkwX4_clauseHere_1 : List UInt8 := [61, 28, 153, 0, 13, 42, 182, 0, 252, 154, 0, 23, 167, 0, 13, 42, 20, 0, 144, 182, 0, 113]
abbrev dktX4_clauseHere_1 : List UInt8 := dkwX4_clauseHere_1 ++ dktX4_clauseHere_2
def dkwX4_clauseHere_0 : List UInt8 := [42, 182, 0, 105, 87, 42, 180, 0, 102, 60, 42, 180, 0, 158, 16, 6, 160, 0, 7, 4, 167, 0, 4, 3]
abbrev dktX4_clauseHere_0 : List UInt8 := dkwX4_clauseHere_0 ++ dktX4_clauseHere_1
theorem dksX4_clauseHere_0 : cX4_clauseHere.data.toList.drop 0 = dktX4_clauseHere_0 := by decide +kernel
theorem dksX4_clauseHere_1 : cX4_clauseHere.data.toList.drop 24 = dktX4_clauseHere_1 := dk_seg dksX4_clauseHere_0 24 rfl rfl
theorem dksX4_clauseHere_2 : cX4_clauseHere.data.toList.drop 46 = dktX4_clauseHere_2 := dk_seg dksX4_clauseHere_1 22 rfl rfl
theorem dksX4_clauseHere_3 : cX4_clauseHere.data.toList.drop 69 = dktX4_clauseHere_3 := dk_seg dksX4_clauseHere_2 23 rfl rfl
theorem dksX4_clauseHere_4 : cX4_clauseHere.data.toList.drop 92 = dktX4_clauseHere_4 := dk_seg dksX4_clauseHere_3 23 rfl rfl
theorem dX4_clauseHere_0 : decode cX4_clauseHere 0 = .ok (.aload_n 0, 1) := dk_42 (dk_at dksX4_clauseHere_0 0 rfl rfl)
theorem dX4_clauseHere_1 : decode cX4_clauseHere 1 = .ok (.invokevirtual 105, 3) := dk_182 0 105 (dk_at dksX4_clauseHere_0 1 rfl rfl)
theorem dX4_clauseHere_4 : decode cX4_clauseHere 4 = .ok (.pop, 1) := dk_87 (dk_at dksX4_clauseHere_0 4 rfl rfl)
theorem dX4_clauseHere_5 : decode cX4_clauseHere 5 = .ok (.aload_n 0, 1) := dk_42 (dk_at dksX4_clauseHere_0 5 rfl rfl)
theorem dX4_clauseHere_6 : decode cX4_clauseHere 6 = .ok (.getfield 102, 3) := dk_180 0 102 (dk_at dksX4_clauseHere_0 6 rfl rfl)
theorem dX4_clauseHere_9 : decode cX4_clauseHere 9 = .ok (.istore_n 1, 1) := dk_60 (dk_at dksX4_clauseHere_0 9 rfl rfl)
theorem dX4_clauseHere_10 : decode cX4_clauseHere 10 = .ok (.aload_n 0, 1) := dk_42 (dk_at dksX4_clauseHere_0 10 rfl rfl)
theorem dX4_clauseHere_11 : decode cX4_clauseHere 11 = .ok (.getfield 158, 3) := dk_180 0 158 (dk_at dksX4_clauseHere_0 11 rfl rfl)
theorem dX4_clauseHere_14 : decode cX4_clauseHere 14 = .ok (.bipush 6, 2) := dk_16 6 (dk_at dksX4_clauseHere_0 14 rfl rfl)
theorem dX4_clauseHere_16 : decode cX4_clauseHere 16 = .ok (.if_icmp .ne 7, 3) := dk_160 0 7 (dk_at dksX4_clauseHere_0 16 rfl rfl)
theorem dX4_clauseHere_19 : decode cX4_clauseHere 19 = .ok (.iconst 1, 1) := dk_4 (dk_at dksX4_clauseHere_0 19 rfl rfl)
theorem dX4_clauseHere_20 : decode cX4_clauseHere 20 = .ok (.goto 4, 3) := dk_167 0 4 (dk_at dksX4_clauseHere_0 20 rfl rfl)
theorem dX4_clauseHere_23 : decode cX4_clauseHere 23 = .ok (.iconst 0, 1) := dk_3 (dk_at dksX4_clauseHere_0 23 rfl rfl)
theorem dX4_clauseHere_24 : decode cX4_clauseHere 24 = .ok (.istore_n 2, 1) := dk_61 (dk_at dksX4_clauseHere_1 0 rfl rfl)
theorem dX4_clauseHere_25 : decode cX4_clauseHere 25 = .ok (.iload_n 2, 1) := dk_28 (dk_at dksX4_clauseHere_1 1 rfl rfl)
theorem dX4_clauseHere_26 : decode cX4_clauseHere 26 = .ok (.ifCond .eq 13, 3) := dk_153 0 13 (dk_at dksX4_clauseHere_1 2 rfl rfl)
theorem dX4_clauseHere_29 : decode cX4_clauseHere 29 = .ok (.aload_n 0, 1) := dk_42 (dk_at dksX4_clauseHere_1 5 rfl rfl)
theorem dX4_clauseHere_30 : decode cX4_clauseHere 30 = .ok (.invokevirtual 252, 3) := dk_182 0 252 (dk_at dksX4_clauseHere_1 6 rfl rfl)
theorem dX4_clauseHere_33 : decode cX4_clauseHere 33 = .ok (.ifCond .ne 23, 3) := dk_154 0 23 (dk_at dksX4_clauseHere_1 9 rfl rfl)
theorem dX4_clauseHere_36 : decode cX4_clauseHere 36 = .ok (.goto 13, 3) := dk_167 0 13 (dk_at dksX4_clauseHere_1 12 rfl rfl)
theorem dX4_clauseHere_39 : decode cX4_clauseHere 39 = .ok (.aload_n 0, 1) := dk_42 (dk_at dksX4_clauseHere_1 15 rfl rfl)
theorem dX4_clauseHere_40 : decode cX4_clauseHere 40 = .ok (.ldc2_w 144, 3) := dk_20 0 144 (dk_at dksX4_clauseHere_1 16 rfl rfl)
theorem dX4_clauseHere_43 : decode cX4_clauseHere 43 = .ok (.invokevirtual 113, 3) := dk_182 0 113 (dk_at dksX4_clauseHere_1 19 rfl rfl)
theorem dX4_clauseHere_46 : decode cX4_clauseHere 46 = .ok (.ifCond .ne 10, 3) := dk_154 0 10 (dk_at dksX4_clauseHere_2 0 rfl rfl)
theorem dX4_clauseHere_49 : decode cX4_clauseHere 49 = .ok (.aload_n 0, 1) := dk_42 (dk_at dksX4_clauseHere_2 3 rfl rfl)
theorem dX4_clauseHere_50 : decode cX4_clauseHere 50 = .ok (.iconst 0, 1) := dk_3 (dk_at dksX4_clauseHere_2 4 rfl rfl)
theorem dX4_clauseHere_51 : decode cX4_clauseHere 51 = .ok (.iload_n 1, 1) := dk_27 (dk_at dksX4_clauseHere_2 5 rfl rfl)
theorem dX4_clauseHere_52 : decode cX4_clauseHere 52 = .ok (.invokevirtual 123, 3) := dk_182 0 123 (dk_at dksX4_clauseHere_2 6 rfl rfl)
theorem dX4_clauseHere_55 : decode cX4_clauseHere 55 = .ok (.ireturn, 1) := dk_172 (dk_at dksX4_clauseHere_2 9 rfl rfl)
theorem dX4_clauseHere_56 : decode cX4_clauseHere 56 = .ok (.aload_n 0, 1) := dk_42 (dk_at dksX4_clauseHere_2 10 rfl rfl)
theorem dX4_clauseHere_57 : decode cX4_clauseHere 57 = .ok (.getfield 255, 3) := dk_180 0 255 (dk_at dksX4_clauseHere_2 11 rfl rfl)
theorem dX4_clauseHere_60 : decode cX4_clauseHere 60 = .ok (.iload_n 2, 1) := dk_28 (dk_at dksX4_clauseHere_2 14 rfl rfl)
theorem dX4_clauseHere_61 : decode cX4_clauseHere 61 = .ok (.ifCond .eq 8, 3) := dk_153 0 8 (dk_at dksX4_clauseHere_2 15 rfl rfl)
theorem dX4_clauseHere_64 : decode cX4_clauseHere 64 = .ok (.bipush 40, 2) := dk_16 40 (dk_at dksX4_clauseHere_2 18 rfl rfl)
theorem dX4_clauseHere_66 : decode cX4_clauseHere 66 = .ok (.goto 5, 3) := dk_167 0 5 (dk_at dksX4_clauseHere_2 20 rfl rfl)
theorem dX4_clauseHere_69 : decode cX4_clauseHere 69 = .ok (.bipush 12, 2) := dk_16 12 (dk_at dksX4_clauseHere_3 0 rfl rfl)
theorem dX4_clauseHere_71 : decode cX4_clauseHere 71 = .ok (.if_icmp .ne 10, 3) := dk_160 0 10 (dk_at dksX4_clauseHere_3 2 rfl rfl)
theorem dX4_clauseHere_74 : decode cX4_clauseHere 74 = .ok (.aload_n 0, 1) := dk_42 (dk_at dksX4_clauseHere_3 5 rfl rfl)
theorem dX4_clauseHere_75 : decode cX4_clauseHere 75 = .ok (.iconst 4, 1) := dk_7 (dk_at dksX4_clauseHere_3 6 rfl rfl)
theorem dX4_clauseHere_76 : decode cX4_clauseHere 76 = .ok (.iload_n 1, 1) := dk_27 (dk_at dksX4_clauseHere_3 7 rfl rfl)
theorem dX4_clauseHere_77 : decode cX4_clauseHere 77 = .ok (.invokevirtual 123, 3) := dk_182 0 123 (dk_at dksX4_clauseHere_3 8 rfl rfl)
theorem dX4_clauseHere_80 : decode cX4_clauseHere 80 = .ok (.ireturn, 1) := dk_172 (dk_at dksX4_clauseHere_3 11 rfl rfl)
theorem dX4_clauseHere_81 : decode cX4_clauseHere 81 = .ok (.aload_n 0, 1) := dk_42 (dk_at dksX4_clauseHere_3 12 rfl rfl)
theorem dX4_clauseHere_82 : decode cX4_clauseHere 82 = .ok (.dup, 1) := dk_89 (dk_at dksX4_clauseHere_3 13 rfl rfl)
theorem dX4_clauseHere_83 : decode cX4_clauseHere 83 = .ok (.getfield 255, 3) := dk_180 0 255 (dk_at dksX4_clauseHere_3 14 rfl rfl)
theorem dX4_clauseHere_86 : decode cX4_clauseHere 86 = .ok (.iconst 1, 1) := dk_4 (dk_at dksX4_clauseHere_3 17 rfl rfl)
theorem dX4_clauseHere_87 : decode cX4_clauseHere 87 = .ok (.iadd, 1) := dk_96 (dk_at dksX4_clauseHere_3 18 rfl rfl)
theorem dX4_clauseHere_88 : decode cX4_clauseHere 88 = .ok (.putfield 255, 3) := dk_181 0 255 (dk_at dksX4_clauseHere_3 19 rfl rfl)
theorem dX4_clauseHere_91 : decode cX4_clauseHere 91 = .ok (.iload_n 2, 1) := dk_28 (dk_at dksX4_clauseHere_3 22 rfl rfl)
theorem dX4_clauseHere_92 : decode cX4_clauseHere 92 = .ok (.ifCond .eq 11, 3) := dk_153 0 11 (dk_at dksX4_clauseHere_4 0 rfl rfl)
theorem dX4_clauseHere_95 : decode cX4_clauseHere 95 = .ok (.aload_n 0, 1) := dk_42 (dk_at dksX4_clauseHere_4 3 rfl rfl)
theorem dX4_clauseHere_96 : decode cX4_clauseHere 96 = .ok (.iload_n 1, 1) := dk_27 (dk_at dksX4_clauseHere_4 4 rfl rfl)
theorem dX4_clauseHere_97 : decode cX4_clauseHere 97 = .ok (.invokevirtual 258, 3) := dk_182 1 2 (dk_at dksX4_clauseHere_4 5 rfl rfl)
theorem dX4_clauseHere_100 : decode cX4_clauseHere 100 = .ok (.goto 7, 3) := dk_167 0 7 (dk_at dksX4_clauseHere_4 8 rfl rfl)
theorem dX4_clauseHere_103 : decode cX4_clauseHere 103 = .ok (.aload_n 0, 1) := dk_42 (dk_at dksX4_clauseHere_4 11 rfl rfl)
theorem dX4_clauseHere_104 : decode cX4_clauseHere 104 = .ok (.invokevirtual 261, 3) := dk_182 1 5 (dk_at dksX4_clauseHere_4 12 rfl rfl)
theorem dX4_clauseHere_107 : decode cX4_clauseHere 107 = .ok (.ireturn, 1) := dk_172 (dk_at dksX4_clauseHere_4 15 rfl rfl)
abbrev cX4_see : ByteArray := prog_19_method_9_code
def yX4_see : MethodName := ⟨RX4, "see", "()I"⟩
def dkwX4_see_2 : List UInt8 := [162, 0, 19, 42, 180, 0, 7, 42, 180, 0, 102, 51, 17, 0, 255, 126, 167, 0, 4, 2, 172]
abbrev dktX4_see_2 : List UInt8 := dkwX4_see_2 ++ []
def dkwX4_see_1 : List UInt8 := [160, 0, 16, 42, 89, 180, 0, 102, 4, 96, 181, 0, 102, 167, 255, 221, 42, 180, 0, 102, 42, 180, 0, 92]
abbrev dktX4_see_1 : List UInt8 := dkwX4_see_1 ++ dktX4_see_2
def dkwX4_see_0 : List UInt8 := [42, 180, 0, 102, 42, 180, 0, 92, 162, 0, 30, 42, 180, 0, 7, 42, 180, 0, 102, 51, 16, 32]
abbrev dktX4_see_0 : List UInt8 := dkwX4_see_0 ++ dktX4_see_1
theorem dksX4_see_0 : cX4_see.data.toList.drop 0 = dktX4_see_0 := by decide +kernel
theorem dksX4_see_1 : cX4_see.data.toList.drop 22 = dktX4_see_1 := dk_seg dksX4_see_0 22 rfl rfl
theorem dksX4_see_2 : cX4_see.data.toList.drop 46 = dktX4_see_2 := dk_seg dksX4_see_1 24 rfl rfl
theorem dX4_see_0 : decode cX4_see 0 = .ok (.aload_n 0, 1) := dk_42 (dk_at dksX4_see_0 0 rfl rfl)
theorem dX4_see_1 : decode cX4_see 1 = .ok (.getfield 102, 3) := dk_180 0 102 (dk_at dksX4_see_0 1 rfl rfl)
theorem dX4_see_4 : decode cX4_see 4 = .ok (.aload_n 0, 1) := dk_42 (dk_at dksX4_see_0 4 rfl rfl)
theorem dX4_see_5 : decode cX4_see 5 = .ok (.getfield 92, 3) := dk_180 0 92 (dk_at dksX4_see_0 5 rfl rfl)
theorem dX4_see_8 : decode cX4_see 8 = .ok (.if_icmp .ge 30, 3) := dk_162 0 30 (dk_at dksX4_see_0 8 rfl rfl)
theorem dX4_see_11 : decode cX4_see 11 = .ok (.aload_n 0, 1) := dk_42 (dk_at dksX4_see_0 11 rfl rfl)
theorem dX4_see_12 : decode cX4_see 12 = .ok (.getfield 7, 3) := dk_180 0 7 (dk_at dksX4_see_0 12 rfl rfl)
theorem dX4_see_15 : decode cX4_see 15 = .ok (.aload_n 0, 1) := dk_42 (dk_at dksX4_see_0 15 rfl rfl)
theorem dX4_see_16 : decode cX4_see 16 = .ok (.getfield 102, 3) := dk_180 0 102 (dk_at dksX4_see_0 16 rfl rfl)
theorem dX4_see_19 : decode cX4_see 19 = .ok (.baload, 1) := dk_51 (dk_at dksX4_see_0 19 rfl rfl)
theorem dX4_see_20 : decode cX4_see 20 = .ok (.bipush 32, 2) := dk_16 32 (dk_at dksX4_see_0 20 rfl rfl)
theorem dX4_see_22 : decode cX4_see 22 = .ok (.if_icmp .ne 16, 3) := dk_160 0 16 (dk_at dksX4_see_1 0 rfl rfl)
theorem dX4_see_25 : decode cX4_see 25 = .ok (.aload_n 0, 1) := dk_42 (dk_at dksX4_see_1 3 rfl rfl)
theorem dX4_see_26 : decode cX4_see 26 = .ok (.dup, 1) := dk_89 (dk_at dksX4_see_1 4 rfl rfl)
theorem dX4_see_27 : decode cX4_see 27 = .ok (.getfield 102, 3) := dk_180 0 102 (dk_at dksX4_see_1 5 rfl rfl)
theorem dX4_see_30 : decode cX4_see 30 = .ok (.iconst 1, 1) := dk_4 (dk_at dksX4_see_1 8 rfl rfl)
theorem dX4_see_31 : decode cX4_see 31 = .ok (.iadd, 1) := dk_96 (dk_at dksX4_see_1 9 rfl rfl)
theorem dX4_see_32 : decode cX4_see 32 = .ok (.putfield 102, 3) := dk_181 0 102 (dk_at dksX4_see_1 10 rfl rfl)
theorem dX4_see_35 : decode cX4_see 35 = .ok (.goto (-35), 3) := dk_167 255 221 (dk_at dksX4_see_1 13 rfl rfl)
theorem dX4_see_38 : decode cX4_see 38 = .ok (.aload_n 0, 1) := dk_42 (dk_at dksX4_see_1 16 rfl rfl)
theorem dX4_see_39 : decode cX4_see 39 = .ok (.getfield 102, 3) := dk_180 0 102 (dk_at dksX4_see_1 17 rfl rfl)
theorem dX4_see_42 : decode cX4_see 42 = .ok (.aload_n 0, 1) := dk_42 (dk_at dksX4_see_1 20 rfl rfl)
theorem dX4_see_43 : decode cX4_see 43 = .ok (.getfield 92, 3) := dk_180 0 92 (dk_at dksX4_see_1 21 rfl rfl)
theorem dX4_see_46 : decode cX4_see 46 = .ok (.if_icmp .ge 19, 3) := dk_162 0 19 (dk_at dksX4_see_2 0 rfl rfl)
theorem dX4_see_49 : decode cX4_see 49 = .ok (.aload_n 0, 1) := dk_42 (dk_at dksX4_see_2 3 rfl rfl)
theorem dX4_see_50 : decode cX4_see 50 = .ok (.getfield 7, 3) := dk_180 0 7 (dk_at dksX4_see_2 4 rfl rfl)
theorem dX4_see_53 : decode cX4_see 53 = .ok (.aload_n 0, 1) := dk_42 (dk_at dksX4_see_2 7 rfl rfl)
theorem dX4_see_54 : decode cX4_see 54 = .ok (.getfield 102, 3) := dk_180 0 102 (dk_at dksX4_see_2 8 rfl rfl)
theorem dX4_see_57 : decode cX4_see 57 = .ok (.baload, 1) := dk_51 (dk_at dksX4_see_2 11 rfl rfl)
theorem dX4_see_58 : decode cX4_see 58 = .ok (.sipush 255, 3) := dk_17 0 255 (dk_at dksX4_see_2 12 rfl rfl)
theorem dX4_see_61 : decode cX4_see 61 = .ok (.iand, 1) := dk_126 (dk_at dksX4_see_2 15 rfl rfl)
theorem dX4_see_62 : decode cX4_see 62 = .ok (.goto 4, 3) := dk_167 0 4 (dk_at dksX4_see_2 16 rfl rfl)
theorem dX4_see_65 : decode cX4_see 65 = .ok (.iconst (-1), 1) := dk_2 (dk_at dksX4_see_2 19 rfl rfl)
theorem dX4_see_66 : decode cX4_see 66 = .ok (.ireturn, 1) := dk_172 (dk_at dksX4_see_2 20 rfl rfl)
abbrev cX4_isJunctionWord : ByteArray := prog_19_method_37_code
def yX4_isJunctionWord : MethodName := ⟨RX4, "isJunctionWord", "()Z"⟩
def dkwX4_isJunctionWord_1 : List UInt8 := [182, 0, 113, 154, 0, 13, 42, 20, 0, 250, 182, 0, 113, 153, 0, 7, 4, 167, 0, 4, 3, 172]
abbrev dktX4_isJunctionWord_1 : List UInt8 := dkwX4_isJunctionWord_1 ++ []
def dkwX4_isJunctionWord_0 : List UInt8 := [42, 20, 0, 234, 182, 0, 113, 154, 0, 33, 42, 20, 0, 134, 182, 0, 113, 154, 0, 23, 42, 20, 0, 242]
abbrev dktX4_isJunctionWord_0 : List UInt8 := dkwX4_isJunctionWord_0 ++ dktX4_isJunctionWord_1
theorem dksX4_isJunctionWord_0 : cX4_isJunctionWord.data.toList.drop 0 = dktX4_isJunctionWord_0 := by decide +kernel
theorem dksX4_isJunctionWord_1 : cX4_isJunctionWord.data.toList.drop 24 = dktX4_isJunctionWord_1 := dk_seg dksX4_isJunctionWord_0 24 rfl rfl
theorem dX4_isJunctionWord_0 : decode cX4_isJunctionWord 0 = .ok (.aload_n 0, 1) := dk_42 (dk_at dksX4_isJunctionWord_0 0 rfl rfl)
theorem dX4_isJunctionWord_1 : decode cX4_isJunctionWord 1 = .ok (.ldc2_w 234, 3) := dk_20 0 234 (dk_at dksX4_isJunctionWord_0 1 rfl rfl)
theorem dX4_isJunctionWord_4 : decode cX4_isJunctionWord 4 = .ok (.invokevirtual 113, 3) := dk_182 0 113 (dk_at dksX4_isJunctionWord_0 4 rfl rfl)
theorem dX4_isJunctionWord_7 : decode cX4_isJunctionWord 7 = .ok (.ifCond .ne 33, 3) := dk_154 0 33 (dk_at dksX4_isJunctionWord_0 7 rfl rfl)
theorem dX4_isJunctionWord_10 : decode cX4_isJunctionWord 10 = .ok (.aload_n 0, 1) := dk_42 (dk_at dksX4_isJunctionWord_0 10 rfl rfl)
theorem dX4_isJunctionWord_11 : decode cX4_isJunctionWord 11 = .ok (.ldc2_w 134, 3) := dk_20 0 134 (dk_at dksX4_isJunctionWord_0 11 rfl rfl)
theorem dX4_isJunctionWord_14 : decode cX4_isJunctionWord 14 = .ok (.invokevirtual 113, 3) := dk_182 0 113 (dk_at dksX4_isJunctionWord_0 14 rfl rfl)
theorem dX4_isJunctionWord_17 : decode cX4_isJunctionWord 17 = .ok (.ifCond .ne 23, 3) := dk_154 0 23 (dk_at dksX4_isJunctionWord_0 17 rfl rfl)
theorem dX4_isJunctionWord_20 : decode cX4_isJunctionWord 20 = .ok (.aload_n 0, 1) := dk_42 (dk_at dksX4_isJunctionWord_0 20 rfl rfl)
theorem dX4_isJunctionWord_21 : decode cX4_isJunctionWord 21 = .ok (.ldc2_w 242, 3) := dk_20 0 242 (dk_at dksX4_isJunctionWord_0 21 rfl rfl)
theorem dX4_isJunctionWord_24 : decode cX4_isJunctionWord 24 = .ok (.invokevirtual 113, 3) := dk_182 0 113 (dk_at dksX4_isJunctionWord_1 0 rfl rfl)
theorem dX4_isJunctionWord_27 : decode cX4_isJunctionWord 27 = .ok (.ifCond .ne 13, 3) := dk_154 0 13 (dk_at dksX4_isJunctionWord_1 3 rfl rfl)
theorem dX4_isJunctionWord_30 : decode cX4_isJunctionWord 30 = .ok (.aload_n 0, 1) := dk_42 (dk_at dksX4_isJunctionWord_1 6 rfl rfl)
theorem dX4_isJunctionWord_31 : decode cX4_isJunctionWord 31 = .ok (.ldc2_w 250, 3) := dk_20 0 250 (dk_at dksX4_isJunctionWord_1 7 rfl rfl)
theorem dX4_isJunctionWord_34 : decode cX4_isJunctionWord 34 = .ok (.invokevirtual 113, 3) := dk_182 0 113 (dk_at dksX4_isJunctionWord_1 10 rfl rfl)
theorem dX4_isJunctionWord_37 : decode cX4_isJunctionWord 37 = .ok (.ifCond .eq 7, 3) := dk_153 0 7 (dk_at dksX4_isJunctionWord_1 13 rfl rfl)
theorem dX4_isJunctionWord_40 : decode cX4_isJunctionWord 40 = .ok (.iconst 1, 1) := dk_4 (dk_at dksX4_isJunctionWord_1 16 rfl rfl)
theorem dX4_isJunctionWord_41 : decode cX4_isJunctionWord 41 = .ok (.goto 4, 3) := dk_167 0 4 (dk_at dksX4_isJunctionWord_1 17 rfl rfl)
theorem dX4_isJunctionWord_44 : decode cX4_isJunctionWord 44 = .ok (.iconst 0, 1) := dk_3 (dk_at dksX4_isJunctionWord_1 20 rfl rfl)
theorem dX4_isJunctionWord_45 : decode cX4_isJunctionWord 45 = .ok (.ireturn, 1) := dk_172 (dk_at dksX4_isJunctionWord_1 21 rfl rfl)
abbrev cX4_isWord : ByteArray := prog_19_method_12_code
def yX4_isWord : MethodName := ⟨RX4, "isWord", "(J)Z"⟩
def dkwX4_isWord_3 : List UInt8 := [148, 154, 0, 7, 4, 167, 0, 4, 3, 172]
abbrev dktX4_isWord_3 : List UInt8 := dkwX4_isWord_3 ++ []
def dkwX4_isWord_2 : List UInt8 := [126, 133, 129, 66, 132, 5, 1, 167, 255, 211, 21, 5, 158, 0, 20, 21, 5, 16, 13, 162, 0, 13, 33, 31]
abbrev dktX4_isWord_2 : List UInt8 := dkwX4_isWord_2 ++ dktX4_isWord_3
def dkwX4_isWord_1 : List UInt8 := [21, 5, 16, 12, 162, 0, 24, 33, 8, 121, 42, 180, 0, 7, 42, 180, 0, 102, 21, 5, 96, 51, 16, 31]
abbrev dktX4_isWord_1 : List UInt8 := dkwX4_isWord_1 ++ dktX4_isWord_2
def dkwX4_isWord_0 : List UInt8 := [42, 182, 0, 105, 87, 9, 66, 3, 54, 5, 42, 42, 180, 0, 102, 21, 5, 96, 182, 0, 109, 153, 0, 37]
abbrev dktX4_isWord_0 : List UInt8 := dkwX4_isWord_0 ++ dktX4_isWord_1
theorem dksX4_isWord_0 : cX4_isWord.data.toList.drop 0 = dktX4_isWord_0 := by decide +kernel
theorem dksX4_isWord_1 : cX4_isWord.data.toList.drop 24 = dktX4_isWord_1 := dk_seg dksX4_isWord_0 24 rfl rfl
theorem dksX4_isWord_2 : cX4_isWord.data.toList.drop 48 = dktX4_isWord_2 := dk_seg dksX4_isWord_1 24 rfl rfl
theorem dksX4_isWord_3 : cX4_isWord.data.toList.drop 72 = dktX4_isWord_3 := dk_seg dksX4_isWord_2 24 rfl rfl
theorem dX4_isWord_0 : decode cX4_isWord 0 = .ok (.aload_n 0, 1) := dk_42 (dk_at dksX4_isWord_0 0 rfl rfl)
theorem dX4_isWord_1 : decode cX4_isWord 1 = .ok (.invokevirtual 105, 3) := dk_182 0 105 (dk_at dksX4_isWord_0 1 rfl rfl)
theorem dX4_isWord_4 : decode cX4_isWord 4 = .ok (.pop, 1) := dk_87 (dk_at dksX4_isWord_0 4 rfl rfl)
theorem dX4_isWord_5 : decode cX4_isWord 5 = .ok (.lconst 0, 1) := dk_9 (dk_at dksX4_isWord_0 5 rfl rfl)
theorem dX4_isWord_6 : decode cX4_isWord 6 = .ok (.lstore_n 3, 1) := dk_66 (dk_at dksX4_isWord_0 6 rfl rfl)
theorem dX4_isWord_7 : decode cX4_isWord 7 = .ok (.iconst 0, 1) := dk_3 (dk_at dksX4_isWord_0 7 rfl rfl)
theorem dX4_isWord_8 : decode cX4_isWord 8 = .ok (.istore 5, 2) := dk_54 5 (dk_at dksX4_isWord_0 8 rfl rfl)
theorem dX4_isWord_10 : decode cX4_isWord 10 = .ok (.aload_n 0, 1) := dk_42 (dk_at dksX4_isWord_0 10 rfl rfl)
theorem dX4_isWord_11 : decode cX4_isWord 11 = .ok (.aload_n 0, 1) := dk_42 (dk_at dksX4_isWord_0 11 rfl rfl)
theorem dX4_isWord_12 : decode cX4_isWord 12 = .ok (.getfield 102, 3) := dk_180 0 102 (dk_at dksX4_isWord_0 12 rfl rfl)
theorem dX4_isWord_15 : decode cX4_isWord 15 = .ok (.iload 5, 2) := dk_21 5 (dk_at dksX4_isWord_0 15 rfl rfl)
theorem dX4_isWord_17 : decode cX4_isWord 17 = .ok (.iadd, 1) := dk_96 (dk_at dksX4_isWord_0 17 rfl rfl)
theorem dX4_isWord_18 : decode cX4_isWord 18 = .ok (.invokevirtual 109, 3) := dk_182 0 109 (dk_at dksX4_isWord_0 18 rfl rfl)
theorem dX4_isWord_21 : decode cX4_isWord 21 = .ok (.ifCond .eq 37, 3) := dk_153 0 37 (dk_at dksX4_isWord_0 21 rfl rfl)
theorem dX4_isWord_24 : decode cX4_isWord 24 = .ok (.iload 5, 2) := dk_21 5 (dk_at dksX4_isWord_1 0 rfl rfl)
theorem dX4_isWord_26 : decode cX4_isWord 26 = .ok (.bipush 12, 2) := dk_16 12 (dk_at dksX4_isWord_1 2 rfl rfl)
theorem dX4_isWord_28 : decode cX4_isWord 28 = .ok (.if_icmp .ge 24, 3) := dk_162 0 24 (dk_at dksX4_isWord_1 4 rfl rfl)
theorem dX4_isWord_31 : decode cX4_isWord 31 = .ok (.lload_n 3, 1) := dk_33 (dk_at dksX4_isWord_1 7 rfl rfl)
theorem dX4_isWord_32 : decode cX4_isWord 32 = .ok (.iconst 5, 1) := dk_8 (dk_at dksX4_isWord_1 8 rfl rfl)
theorem dX4_isWord_33 : decode cX4_isWord 33 = .ok (.lshl, 1) := dk_121 (dk_at dksX4_isWord_1 9 rfl rfl)
theorem dX4_isWord_34 : decode cX4_isWord 34 = .ok (.aload_n 0, 1) := dk_42 (dk_at dksX4_isWord_1 10 rfl rfl)
theorem dX4_isWord_35 : decode cX4_isWord 35 = .ok (.getfield 7, 3) := dk_180 0 7 (dk_at dksX4_isWord_1 11 rfl rfl)
theorem dX4_isWord_38 : decode cX4_isWord 38 = .ok (.aload_n 0, 1) := dk_42 (dk_at dksX4_isWord_1 14 rfl rfl)
theorem dX4_isWord_39 : decode cX4_isWord 39 = .ok (.getfield 102, 3) := dk_180 0 102 (dk_at dksX4_isWord_1 15 rfl rfl)
theorem dX4_isWord_42 : decode cX4_isWord 42 = .ok (.iload 5, 2) := dk_21 5 (dk_at dksX4_isWord_1 18 rfl rfl)
theorem dX4_isWord_44 : decode cX4_isWord 44 = .ok (.iadd, 1) := dk_96 (dk_at dksX4_isWord_1 20 rfl rfl)
theorem dX4_isWord_45 : decode cX4_isWord 45 = .ok (.baload, 1) := dk_51 (dk_at dksX4_isWord_1 21 rfl rfl)
theorem dX4_isWord_46 : decode cX4_isWord 46 = .ok (.bipush 31, 2) := dk_16 31 (dk_at dksX4_isWord_1 22 rfl rfl)
theorem dX4_isWord_48 : decode cX4_isWord 48 = .ok (.iand, 1) := dk_126 (dk_at dksX4_isWord_2 0 rfl rfl)
theorem dX4_isWord_49 : decode cX4_isWord 49 = .ok (.i2l, 1) := dk_133 (dk_at dksX4_isWord_2 1 rfl rfl)
theorem dX4_isWord_50 : decode cX4_isWord 50 = .ok (.lor, 1) := dk_129 (dk_at dksX4_isWord_2 2 rfl rfl)
theorem dX4_isWord_51 : decode cX4_isWord 51 = .ok (.lstore_n 3, 1) := dk_66 (dk_at dksX4_isWord_2 3 rfl rfl)
theorem dX4_isWord_52 : decode cX4_isWord 52 = .ok (.iinc 5 1, 3) := dk_132 5 1 (dk_at dksX4_isWord_2 4 rfl rfl)
theorem dX4_isWord_55 : decode cX4_isWord 55 = .ok (.goto (-45), 3) := dk_167 255 211 (dk_at dksX4_isWord_2 7 rfl rfl)
theorem dX4_isWord_58 : decode cX4_isWord 58 = .ok (.iload 5, 2) := dk_21 5 (dk_at dksX4_isWord_2 10 rfl rfl)
theorem dX4_isWord_60 : decode cX4_isWord 60 = .ok (.ifCond .le 20, 3) := dk_158 0 20 (dk_at dksX4_isWord_2 12 rfl rfl)
theorem dX4_isWord_63 : decode cX4_isWord 63 = .ok (.iload 5, 2) := dk_21 5 (dk_at dksX4_isWord_2 15 rfl rfl)
theorem dX4_isWord_65 : decode cX4_isWord 65 = .ok (.bipush 13, 2) := dk_16 13 (dk_at dksX4_isWord_2 17 rfl rfl)
theorem dX4_isWord_67 : decode cX4_isWord 67 = .ok (.if_icmp .ge 13, 3) := dk_162 0 13 (dk_at dksX4_isWord_2 19 rfl rfl)
theorem dX4_isWord_70 : decode cX4_isWord 70 = .ok (.lload_n 3, 1) := dk_33 (dk_at dksX4_isWord_2 22 rfl rfl)
theorem dX4_isWord_71 : decode cX4_isWord 71 = .ok (.lload_n 1, 1) := dk_31 (dk_at dksX4_isWord_2 23 rfl rfl)
theorem dX4_isWord_72 : decode cX4_isWord 72 = .ok (.lcmp, 1) := dk_148 (dk_at dksX4_isWord_3 0 rfl rfl)
theorem dX4_isWord_73 : decode cX4_isWord 73 = .ok (.ifCond .ne 7, 3) := dk_154 0 7 (dk_at dksX4_isWord_3 1 rfl rfl)
theorem dX4_isWord_76 : decode cX4_isWord 76 = .ok (.iconst 1, 1) := dk_4 (dk_at dksX4_isWord_3 4 rfl rfl)
theorem dX4_isWord_77 : decode cX4_isWord 77 = .ok (.goto 4, 3) := dk_167 0 4 (dk_at dksX4_isWord_3 5 rfl rfl)
theorem dX4_isWord_80 : decode cX4_isWord 80 = .ok (.iconst 0, 1) := dk_3 (dk_at dksX4_isWord_3 8 rfl rfl)
theorem dX4_isWord_81 : decode cX4_isWord 81 = .ok (.ireturn, 1) := dk_172 (dk_at dksX4_isWord_3 9 rfl rfl)
abbrev cX4_isLetter : ByteArray := prog_19_method_11_code
def yX4_isLetter : MethodName := ⟨RX4, "isLetter", "(I)Z"⟩
def dkwX4_isLetter_1 : List UInt8 := [51, 16, 122, 163, 0, 7, 4, 167, 0, 4, 3, 172]
abbrev dktX4_isLetter_1 : List UInt8 := dkwX4_isLetter_1 ++ []
def dkwX4_isLetter_0 : List UInt8 := [27, 42, 180, 0, 92, 162, 0, 29, 42, 180, 0, 7, 27, 51, 16, 97, 161, 0, 18, 42, 180, 0, 7, 27]
abbrev dktX4_isLetter_0 : List UInt8 := dkwX4_isLetter_0 ++ dktX4_isLetter_1
theorem dksX4_isLetter_0 : cX4_isLetter.data.toList.drop 0 = dktX4_isLetter_0 := by decide +kernel
theorem dksX4_isLetter_1 : cX4_isLetter.data.toList.drop 24 = dktX4_isLetter_1 := dk_seg dksX4_isLetter_0 24 rfl rfl
theorem dX4_isLetter_0 : decode cX4_isLetter 0 = .ok (.iload_n 1, 1) := dk_27 (dk_at dksX4_isLetter_0 0 rfl rfl)
theorem dX4_isLetter_1 : decode cX4_isLetter 1 = .ok (.aload_n 0, 1) := dk_42 (dk_at dksX4_isLetter_0 1 rfl rfl)
theorem dX4_isLetter_2 : decode cX4_isLetter 2 = .ok (.getfield 92, 3) := dk_180 0 92 (dk_at dksX4_isLetter_0 2 rfl rfl)
theorem dX4_isLetter_5 : decode cX4_isLetter 5 = .ok (.if_icmp .ge 29, 3) := dk_162 0 29 (dk_at dksX4_isLetter_0 5 rfl rfl)
theorem dX4_isLetter_8 : decode cX4_isLetter 8 = .ok (.aload_n 0, 1) := dk_42 (dk_at dksX4_isLetter_0 8 rfl rfl)
theorem dX4_isLetter_9 : decode cX4_isLetter 9 = .ok (.getfield 7, 3) := dk_180 0 7 (dk_at dksX4_isLetter_0 9 rfl rfl)
theorem dX4_isLetter_12 : decode cX4_isLetter 12 = .ok (.iload_n 1, 1) := dk_27 (dk_at dksX4_isLetter_0 12 rfl rfl)
theorem dX4_isLetter_13 : decode cX4_isLetter 13 = .ok (.baload, 1) := dk_51 (dk_at dksX4_isLetter_0 13 rfl rfl)
theorem dX4_isLetter_14 : decode cX4_isLetter 14 = .ok (.bipush 97, 2) := dk_16 97 (dk_at dksX4_isLetter_0 14 rfl rfl)
theorem dX4_isLetter_16 : decode cX4_isLetter 16 = .ok (.if_icmp .lt 18, 3) := dk_161 0 18 (dk_at dksX4_isLetter_0 16 rfl rfl)
theorem dX4_isLetter_19 : decode cX4_isLetter 19 = .ok (.aload_n 0, 1) := dk_42 (dk_at dksX4_isLetter_0 19 rfl rfl)
theorem dX4_isLetter_20 : decode cX4_isLetter 20 = .ok (.getfield 7, 3) := dk_180 0 7 (dk_at dksX4_isLetter_0 20 rfl rfl)
theorem dX4_isLetter_23 : decode cX4_isLetter 23 = .ok (.iload_n 1, 1) := dk_27 (dk_at dksX4_isLetter_0 23 rfl rfl)
theorem dX4_isLetter_24 : decode cX4_isLetter 24 = .ok (.baload, 1) := dk_51 (dk_at dksX4_isLetter_1 0 rfl rfl)
theorem dX4_isLetter_25 : decode cX4_isLetter 25 = .ok (.bipush 122, 2) := dk_16 122 (dk_at dksX4_isLetter_1 1 rfl rfl)
theorem dX4_isLetter_27 : decode cX4_isLetter 27 = .ok (.if_icmp .gt 7, 3) := dk_163 0 7 (dk_at dksX4_isLetter_1 3 rfl rfl)
theorem dX4_isLetter_30 : decode cX4_isLetter 30 = .ok (.iconst 1, 1) := dk_4 (dk_at dksX4_isLetter_1 6 rfl rfl)
theorem dX4_isLetter_31 : decode cX4_isLetter 31 = .ok (.goto 4, 3) := dk_167 0 4 (dk_at dksX4_isLetter_1 7 rfl rfl)
theorem dX4_isLetter_34 : decode cX4_isLetter 34 = .ok (.iconst 0, 1) := dk_3 (dk_at dksX4_isLetter_1 10 rfl rfl)
theorem dX4_isLetter_35 : decode cX4_isLetter 35 = .ok (.ireturn, 1) := dk_172 (dk_at dksX4_isLetter_1 11 rfl rfl)
abbrev cX4_fails : ByteArray := prog_19_method_8_code
def yX4_fails : MethodName := ⟨RX4, "fails", "(II)Z"⟩
def dkwX4_fails_0 : List UInt8 := [42, 180, 0, 99, 154, 0, 15, 42, 4, 16, 8, 28, 104, 96, 27, 96, 181, 0, 99, 3, 172]
abbrev dktX4_fails_0 : List UInt8 := dkwX4_fails_0 ++ []
theorem dksX4_fails_0 : cX4_fails.data.toList.drop 0 = dktX4_fails_0 := by decide +kernel
theorem dX4_fails_0 : decode cX4_fails 0 = .ok (.aload_n 0, 1) := dk_42 (dk_at dksX4_fails_0 0 rfl rfl)
theorem dX4_fails_1 : decode cX4_fails 1 = .ok (.getfield 99, 3) := dk_180 0 99 (dk_at dksX4_fails_0 1 rfl rfl)
theorem dX4_fails_4 : decode cX4_fails 4 = .ok (.ifCond .ne 15, 3) := dk_154 0 15 (dk_at dksX4_fails_0 4 rfl rfl)
theorem dX4_fails_7 : decode cX4_fails 7 = .ok (.aload_n 0, 1) := dk_42 (dk_at dksX4_fails_0 7 rfl rfl)
theorem dX4_fails_8 : decode cX4_fails 8 = .ok (.iconst 1, 1) := dk_4 (dk_at dksX4_fails_0 8 rfl rfl)
theorem dX4_fails_9 : decode cX4_fails 9 = .ok (.bipush 8, 2) := dk_16 8 (dk_at dksX4_fails_0 9 rfl rfl)
theorem dX4_fails_11 : decode cX4_fails 11 = .ok (.iload_n 2, 1) := dk_28 (dk_at dksX4_fails_0 11 rfl rfl)
theorem dX4_fails_12 : decode cX4_fails 12 = .ok (.imul, 1) := dk_104 (dk_at dksX4_fails_0 12 rfl rfl)
theorem dX4_fails_13 : decode cX4_fails 13 = .ok (.iadd, 1) := dk_96 (dk_at dksX4_fails_0 13 rfl rfl)
theorem dX4_fails_14 : decode cX4_fails 14 = .ok (.iload_n 1, 1) := dk_27 (dk_at dksX4_fails_0 14 rfl rfl)
theorem dX4_fails_15 : decode cX4_fails 15 = .ok (.iadd, 1) := dk_96 (dk_at dksX4_fails_0 15 rfl rfl)
theorem dX4_fails_16 : decode cX4_fails 16 = .ok (.putfield 99, 3) := dk_181 0 99 (dk_at dksX4_fails_0 16 rfl rfl)
theorem dX4_fails_19 : decode cX4_fails 19 = .ok (.iconst 0, 1) := dk_3 (dk_at dksX4_fails_0 19 rfl rfl)
theorem dX4_fails_20 : decode cX4_fails 20 = .ok (.ireturn, 1) := dk_172 (dk_at dksX4_fails_0 20 rfl rfl)
abbrev cX4_junctionLineHere : ByteArray := prog_19_method_36_code
def yX4_junctionLineHere : MethodName := ⟨RX4, "junctionLineHere", "(I)Z"⟩
def dkwX4_junctionLineHere_3 : List UInt8 := [182, 0, 247, 172]
abbrev dktX4_junctionLineHere_3 : List UInt8 := dkwX4_junctionLineHere_3 ++ []
def dkwX4_junctionLineHere_2 : List UInt8 := [182, 0, 239, 172, 42, 20, 0, 242, 182, 0, 113, 153, 0, 10, 42, 182, 0, 244, 167, 0, 7, 42]
abbrev dktX4_junctionLineHere_2 : List UInt8 := dkwX4_junctionLineHere_2 ++ dktX4_junctionLineHere_3
def dkwX4_junctionLineHere_1 : List UInt8 := [154, 0, 10, 42, 7, 27, 182, 0, 123, 172, 42, 20, 0, 134, 182, 0, 113, 153, 0, 9, 42, 27]
abbrev dktX4_junctionLineHere_1 : List UInt8 := dkwX4_junctionLineHere_1 ++ dktX4_junctionLineHere_2
def dkwX4_junctionLineHere_0 : List UInt8 := [42, 20, 0, 234, 182, 0, 113, 153, 0, 9, 42, 27, 182, 0, 236, 172, 42, 180, 0, 26, 3, 46]
abbrev dktX4_junctionLineHere_0 : List UInt8 := dkwX4_junctionLineHere_0 ++ dktX4_junctionLineHere_1
theorem dksX4_junctionLineHere_0 : cX4_junctionLineHere.data.toList.drop 0 = dktX4_junctionLineHere_0 := by decide +kernel
theorem dksX4_junctionLineHere_1 : cX4_junctionLineHere.data.toList.drop 22 = dktX4_junctionLineHere_1 := dk_seg dksX4_junctionLineHere_0 22 rfl rfl
theorem dksX4_junctionLineHere_2 : cX4_junctionLineHere.data.toList.drop 44 = dktX4_junctionLineHere_2 := dk_seg dksX4_junctionLineHere_1 22 rfl rfl
theorem dksX4_junctionLineHere_3 : cX4_junctionLineHere.data.toList.drop 66 = dktX4_junctionLineHere_3 := dk_seg dksX4_junctionLineHere_2 22 rfl rfl
theorem dX4_junctionLineHere_0 : decode cX4_junctionLineHere 0 = .ok (.aload_n 0, 1) := dk_42 (dk_at dksX4_junctionLineHere_0 0 rfl rfl)
theorem dX4_junctionLineHere_1 : decode cX4_junctionLineHere 1 = .ok (.ldc2_w 234, 3) := dk_20 0 234 (dk_at dksX4_junctionLineHere_0 1 rfl rfl)
theorem dX4_junctionLineHere_4 : decode cX4_junctionLineHere 4 = .ok (.invokevirtual 113, 3) := dk_182 0 113 (dk_at dksX4_junctionLineHere_0 4 rfl rfl)
theorem dX4_junctionLineHere_7 : decode cX4_junctionLineHere 7 = .ok (.ifCond .eq 9, 3) := dk_153 0 9 (dk_at dksX4_junctionLineHere_0 7 rfl rfl)
theorem dX4_junctionLineHere_10 : decode cX4_junctionLineHere 10 = .ok (.aload_n 0, 1) := dk_42 (dk_at dksX4_junctionLineHere_0 10 rfl rfl)
theorem dX4_junctionLineHere_11 : decode cX4_junctionLineHere 11 = .ok (.iload_n 1, 1) := dk_27 (dk_at dksX4_junctionLineHere_0 11 rfl rfl)
theorem dX4_junctionLineHere_12 : decode cX4_junctionLineHere 12 = .ok (.invokevirtual 236, 3) := dk_182 0 236 (dk_at dksX4_junctionLineHere_0 12 rfl rfl)
theorem dX4_junctionLineHere_15 : decode cX4_junctionLineHere 15 = .ok (.ireturn, 1) := dk_172 (dk_at dksX4_junctionLineHere_0 15 rfl rfl)
theorem dX4_junctionLineHere_16 : decode cX4_junctionLineHere 16 = .ok (.aload_n 0, 1) := dk_42 (dk_at dksX4_junctionLineHere_0 16 rfl rfl)
theorem dX4_junctionLineHere_17 : decode cX4_junctionLineHere 17 = .ok (.getfield 26, 3) := dk_180 0 26 (dk_at dksX4_junctionLineHere_0 17 rfl rfl)
theorem dX4_junctionLineHere_20 : decode cX4_junctionLineHere 20 = .ok (.iconst 0, 1) := dk_3 (dk_at dksX4_junctionLineHere_0 20 rfl rfl)
theorem dX4_junctionLineHere_21 : decode cX4_junctionLineHere 21 = .ok (.iaload, 1) := dk_46 (dk_at dksX4_junctionLineHere_0 21 rfl rfl)
theorem dX4_junctionLineHere_22 : decode cX4_junctionLineHere 22 = .ok (.ifCond .ne 10, 3) := dk_154 0 10 (dk_at dksX4_junctionLineHere_1 0 rfl rfl)
theorem dX4_junctionLineHere_25 : decode cX4_junctionLineHere 25 = .ok (.aload_n 0, 1) := dk_42 (dk_at dksX4_junctionLineHere_1 3 rfl rfl)
theorem dX4_junctionLineHere_26 : decode cX4_junctionLineHere 26 = .ok (.iconst 4, 1) := dk_7 (dk_at dksX4_junctionLineHere_1 4 rfl rfl)
theorem dX4_junctionLineHere_27 : decode cX4_junctionLineHere 27 = .ok (.iload_n 1, 1) := dk_27 (dk_at dksX4_junctionLineHere_1 5 rfl rfl)
theorem dX4_junctionLineHere_28 : decode cX4_junctionLineHere 28 = .ok (.invokevirtual 123, 3) := dk_182 0 123 (dk_at dksX4_junctionLineHere_1 6 rfl rfl)
theorem dX4_junctionLineHere_31 : decode cX4_junctionLineHere 31 = .ok (.ireturn, 1) := dk_172 (dk_at dksX4_junctionLineHere_1 9 rfl rfl)
theorem dX4_junctionLineHere_32 : decode cX4_junctionLineHere 32 = .ok (.aload_n 0, 1) := dk_42 (dk_at dksX4_junctionLineHere_1 10 rfl rfl)
theorem dX4_junctionLineHere_33 : decode cX4_junctionLineHere 33 = .ok (.ldc2_w 134, 3) := dk_20 0 134 (dk_at dksX4_junctionLineHere_1 11 rfl rfl)
theorem dX4_junctionLineHere_36 : decode cX4_junctionLineHere 36 = .ok (.invokevirtual 113, 3) := dk_182 0 113 (dk_at dksX4_junctionLineHere_1 14 rfl rfl)
theorem dX4_junctionLineHere_39 : decode cX4_junctionLineHere 39 = .ok (.ifCond .eq 9, 3) := dk_153 0 9 (dk_at dksX4_junctionLineHere_1 17 rfl rfl)
theorem dX4_junctionLineHere_42 : decode cX4_junctionLineHere 42 = .ok (.aload_n 0, 1) := dk_42 (dk_at dksX4_junctionLineHere_1 20 rfl rfl)
theorem dX4_junctionLineHere_43 : decode cX4_junctionLineHere 43 = .ok (.iload_n 1, 1) := dk_27 (dk_at dksX4_junctionLineHere_1 21 rfl rfl)
theorem dX4_junctionLineHere_44 : decode cX4_junctionLineHere 44 = .ok (.invokevirtual 239, 3) := dk_182 0 239 (dk_at dksX4_junctionLineHere_2 0 rfl rfl)
theorem dX4_junctionLineHere_47 : decode cX4_junctionLineHere 47 = .ok (.ireturn, 1) := dk_172 (dk_at dksX4_junctionLineHere_2 3 rfl rfl)
theorem dX4_junctionLineHere_48 : decode cX4_junctionLineHere 48 = .ok (.aload_n 0, 1) := dk_42 (dk_at dksX4_junctionLineHere_2 4 rfl rfl)
theorem dX4_junctionLineHere_49 : decode cX4_junctionLineHere 49 = .ok (.ldc2_w 242, 3) := dk_20 0 242 (dk_at dksX4_junctionLineHere_2 5 rfl rfl)
theorem dX4_junctionLineHere_52 : decode cX4_junctionLineHere 52 = .ok (.invokevirtual 113, 3) := dk_182 0 113 (dk_at dksX4_junctionLineHere_2 8 rfl rfl)
theorem dX4_junctionLineHere_55 : decode cX4_junctionLineHere 55 = .ok (.ifCond .eq 10, 3) := dk_153 0 10 (dk_at dksX4_junctionLineHere_2 11 rfl rfl)
theorem dX4_junctionLineHere_58 : decode cX4_junctionLineHere 58 = .ok (.aload_n 0, 1) := dk_42 (dk_at dksX4_junctionLineHere_2 14 rfl rfl)
theorem dX4_junctionLineHere_59 : decode cX4_junctionLineHere 59 = .ok (.invokevirtual 244, 3) := dk_182 0 244 (dk_at dksX4_junctionLineHere_2 15 rfl rfl)
theorem dX4_junctionLineHere_62 : decode cX4_junctionLineHere 62 = .ok (.goto 7, 3) := dk_167 0 7 (dk_at dksX4_junctionLineHere_2 18 rfl rfl)
theorem dX4_junctionLineHere_65 : decode cX4_junctionLineHere 65 = .ok (.aload_n 0, 1) := dk_42 (dk_at dksX4_junctionLineHere_2 21 rfl rfl)
theorem dX4_junctionLineHere_66 : decode cX4_junctionLineHere 66 = .ok (.invokevirtual 247, 3) := dk_182 0 247 (dk_at dksX4_junctionLineHere_3 0 rfl rfl)
theorem dX4_junctionLineHere_69 : decode cX4_junctionLineHere 69 = .ok (.ireturn, 1) := dk_172 (dk_at dksX4_junctionLineHere_3 3 rfl rfl)
abbrev cX4_isJunctionHere : ByteArray := prog_19_method_32_code
def yX4_isJunctionHere : MethodName := ⟨RX4, "isJunctionHere", "(I)Z"⟩
def dkwX4_isJunctionHere_2 : List UInt8 := [180, 0, 26, 3, 4, 79, 4, 172]
abbrev dktX4_isJunctionHere_2 : List UInt8 := dkwX4_isJunctionHere_2 ++ []
def dkwX4_isJunctionHere_1 : List UInt8 := [16, 12, 182, 0, 230, 153, 0, 14, 42, 5, 4, 16, 9, 182, 0, 230, 154, 0, 5, 3, 172, 42]
abbrev dktX4_isJunctionHere_1 : List UInt8 := dkwX4_isJunctionHere_1 ++ dktX4_isJunctionHere_2
def dkwX4_isJunctionHere_0 : List UInt8 := [42, 180, 0, 26, 3, 46, 158, 0, 10, 42, 7, 27, 182, 0, 123, 172, 42, 182, 0, 117, 42, 4, 4]
abbrev dktX4_isJunctionHere_0 : List UInt8 := dkwX4_isJunctionHere_0 ++ dktX4_isJunctionHere_1
theorem dksX4_isJunctionHere_0 : cX4_isJunctionHere.data.toList.drop 0 = dktX4_isJunctionHere_0 := by decide +kernel
theorem dksX4_isJunctionHere_1 : cX4_isJunctionHere.data.toList.drop 23 = dktX4_isJunctionHere_1 := dk_seg dksX4_isJunctionHere_0 23 rfl rfl
theorem dksX4_isJunctionHere_2 : cX4_isJunctionHere.data.toList.drop 45 = dktX4_isJunctionHere_2 := dk_seg dksX4_isJunctionHere_1 22 rfl rfl
theorem dX4_isJunctionHere_0 : decode cX4_isJunctionHere 0 = .ok (.aload_n 0, 1) := dk_42 (dk_at dksX4_isJunctionHere_0 0 rfl rfl)
theorem dX4_isJunctionHere_1 : decode cX4_isJunctionHere 1 = .ok (.getfield 26, 3) := dk_180 0 26 (dk_at dksX4_isJunctionHere_0 1 rfl rfl)
theorem dX4_isJunctionHere_4 : decode cX4_isJunctionHere 4 = .ok (.iconst 0, 1) := dk_3 (dk_at dksX4_isJunctionHere_0 4 rfl rfl)
theorem dX4_isJunctionHere_5 : decode cX4_isJunctionHere 5 = .ok (.iaload, 1) := dk_46 (dk_at dksX4_isJunctionHere_0 5 rfl rfl)
theorem dX4_isJunctionHere_6 : decode cX4_isJunctionHere 6 = .ok (.ifCond .le 10, 3) := dk_158 0 10 (dk_at dksX4_isJunctionHere_0 6 rfl rfl)
theorem dX4_isJunctionHere_9 : decode cX4_isJunctionHere 9 = .ok (.aload_n 0, 1) := dk_42 (dk_at dksX4_isJunctionHere_0 9 rfl rfl)
theorem dX4_isJunctionHere_10 : decode cX4_isJunctionHere 10 = .ok (.iconst 4, 1) := dk_7 (dk_at dksX4_isJunctionHere_0 10 rfl rfl)
theorem dX4_isJunctionHere_11 : decode cX4_isJunctionHere 11 = .ok (.iload_n 1, 1) := dk_27 (dk_at dksX4_isJunctionHere_0 11 rfl rfl)
theorem dX4_isJunctionHere_12 : decode cX4_isJunctionHere 12 = .ok (.invokevirtual 123, 3) := dk_182 0 123 (dk_at dksX4_isJunctionHere_0 12 rfl rfl)
theorem dX4_isJunctionHere_15 : decode cX4_isJunctionHere 15 = .ok (.ireturn, 1) := dk_172 (dk_at dksX4_isJunctionHere_0 15 rfl rfl)
theorem dX4_isJunctionHere_16 : decode cX4_isJunctionHere 16 = .ok (.aload_n 0, 1) := dk_42 (dk_at dksX4_isJunctionHere_0 16 rfl rfl)
theorem dX4_isJunctionHere_17 : decode cX4_isJunctionHere 17 = .ok (.invokevirtual 117, 3) := dk_182 0 117 (dk_at dksX4_isJunctionHere_0 17 rfl rfl)
theorem dX4_isJunctionHere_20 : decode cX4_isJunctionHere 20 = .ok (.aload_n 0, 1) := dk_42 (dk_at dksX4_isJunctionHere_0 20 rfl rfl)
theorem dX4_isJunctionHere_21 : decode cX4_isJunctionHere 21 = .ok (.iconst 1, 1) := dk_4 (dk_at dksX4_isJunctionHere_0 21 rfl rfl)
theorem dX4_isJunctionHere_22 : decode cX4_isJunctionHere 22 = .ok (.iconst 1, 1) := dk_4 (dk_at dksX4_isJunctionHere_0 22 rfl rfl)
theorem dX4_isJunctionHere_23 : decode cX4_isJunctionHere 23 = .ok (.bipush 12, 2) := dk_16 12 (dk_at dksX4_isJunctionHere_1 0 rfl rfl)
theorem dX4_isJunctionHere_25 : decode cX4_isJunctionHere 25 = .ok (.invokevirtual 230, 3) := dk_182 0 230 (dk_at dksX4_isJunctionHere_1 2 rfl rfl)
theorem dX4_isJunctionHere_28 : decode cX4_isJunctionHere 28 = .ok (.ifCond .eq 14, 3) := dk_153 0 14 (dk_at dksX4_isJunctionHere_1 5 rfl rfl)
theorem dX4_isJunctionHere_31 : decode cX4_isJunctionHere 31 = .ok (.aload_n 0, 1) := dk_42 (dk_at dksX4_isJunctionHere_1 8 rfl rfl)
theorem dX4_isJunctionHere_32 : decode cX4_isJunctionHere 32 = .ok (.iconst 2, 1) := dk_5 (dk_at dksX4_isJunctionHere_1 9 rfl rfl)
theorem dX4_isJunctionHere_33 : decode cX4_isJunctionHere 33 = .ok (.iconst 1, 1) := dk_4 (dk_at dksX4_isJunctionHere_1 10 rfl rfl)
theorem dX4_isJunctionHere_34 : decode cX4_isJunctionHere 34 = .ok (.bipush 9, 2) := dk_16 9 (dk_at dksX4_isJunctionHere_1 11 rfl rfl)
theorem dX4_isJunctionHere_36 : decode cX4_isJunctionHere 36 = .ok (.invokevirtual 230, 3) := dk_182 0 230 (dk_at dksX4_isJunctionHere_1 13 rfl rfl)
theorem dX4_isJunctionHere_39 : decode cX4_isJunctionHere 39 = .ok (.ifCond .ne 5, 3) := dk_154 0 5 (dk_at dksX4_isJunctionHere_1 16 rfl rfl)
theorem dX4_isJunctionHere_42 : decode cX4_isJunctionHere 42 = .ok (.iconst 0, 1) := dk_3 (dk_at dksX4_isJunctionHere_1 19 rfl rfl)
theorem dX4_isJunctionHere_43 : decode cX4_isJunctionHere 43 = .ok (.ireturn, 1) := dk_172 (dk_at dksX4_isJunctionHere_1 20 rfl rfl)
theorem dX4_isJunctionHere_44 : decode cX4_isJunctionHere 44 = .ok (.aload_n 0, 1) := dk_42 (dk_at dksX4_isJunctionHere_1 21 rfl rfl)
theorem dX4_isJunctionHere_45 : decode cX4_isJunctionHere 45 = .ok (.getfield 26, 3) := dk_180 0 26 (dk_at dksX4_isJunctionHere_2 0 rfl rfl)
theorem dX4_isJunctionHere_48 : decode cX4_isJunctionHere 48 = .ok (.iconst 0, 1) := dk_3 (dk_at dksX4_isJunctionHere_2 3 rfl rfl)
theorem dX4_isJunctionHere_49 : decode cX4_isJunctionHere 49 = .ok (.iconst 1, 1) := dk_4 (dk_at dksX4_isJunctionHere_2 4 rfl rfl)
theorem dX4_isJunctionHere_50 : decode cX4_isJunctionHere 50 = .ok (.iastore, 1) := dk_79 (dk_at dksX4_isJunctionHere_2 5 rfl rfl)
theorem dX4_isJunctionHere_51 : decode cX4_isJunctionHere 51 = .ok (.iconst 1, 1) := dk_4 (dk_at dksX4_isJunctionHere_2 6 rfl rfl)
theorem dX4_isJunctionHere_52 : decode cX4_isJunctionHere 52 = .ok (.ireturn, 1) := dk_172 (dk_at dksX4_isJunctionHere_2 7 rfl rfl)
abbrev cX4_passWord : ByteArray := prog_19_method_13_code
def yX4_passWord : MethodName := ⟨RX4, "passWord", "()V"⟩
def dkwX4_passWord_1 : List UInt8 := [177]
abbrev dktX4_passWord_1 : List UInt8 := dkwX4_passWord_1 ++ []
def dkwX4_passWord_0 : List UInt8 := [42, 42, 180, 0, 102, 182, 0, 109, 153, 0, 16, 42, 89, 180, 0, 102, 4, 96, 181, 0, 102, 167, 255, 235]
abbrev dktX4_passWord_0 : List UInt8 := dkwX4_passWord_0 ++ dktX4_passWord_1
theorem dksX4_passWord_0 : cX4_passWord.data.toList.drop 0 = dktX4_passWord_0 := by decide +kernel
theorem dksX4_passWord_1 : cX4_passWord.data.toList.drop 24 = dktX4_passWord_1 := dk_seg dksX4_passWord_0 24 rfl rfl
theorem dX4_passWord_0 : decode cX4_passWord 0 = .ok (.aload_n 0, 1) := dk_42 (dk_at dksX4_passWord_0 0 rfl rfl)
theorem dX4_passWord_1 : decode cX4_passWord 1 = .ok (.aload_n 0, 1) := dk_42 (dk_at dksX4_passWord_0 1 rfl rfl)
theorem dX4_passWord_2 : decode cX4_passWord 2 = .ok (.getfield 102, 3) := dk_180 0 102 (dk_at dksX4_passWord_0 2 rfl rfl)
theorem dX4_passWord_5 : decode cX4_passWord 5 = .ok (.invokevirtual 109, 3) := dk_182 0 109 (dk_at dksX4_passWord_0 5 rfl rfl)
theorem dX4_passWord_8 : decode cX4_passWord 8 = .ok (.ifCond .eq 16, 3) := dk_153 0 16 (dk_at dksX4_passWord_0 8 rfl rfl)
theorem dX4_passWord_11 : decode cX4_passWord 11 = .ok (.aload_n 0, 1) := dk_42 (dk_at dksX4_passWord_0 11 rfl rfl)
theorem dX4_passWord_12 : decode cX4_passWord 12 = .ok (.dup, 1) := dk_89 (dk_at dksX4_passWord_0 12 rfl rfl)
theorem dX4_passWord_13 : decode cX4_passWord 13 = .ok (.getfield 102, 3) := dk_180 0 102 (dk_at dksX4_passWord_0 13 rfl rfl)
theorem dX4_passWord_16 : decode cX4_passWord 16 = .ok (.iconst 1, 1) := dk_4 (dk_at dksX4_passWord_0 16 rfl rfl)
theorem dX4_passWord_17 : decode cX4_passWord 17 = .ok (.iadd, 1) := dk_96 (dk_at dksX4_passWord_0 17 rfl rfl)
theorem dX4_passWord_18 : decode cX4_passWord 18 = .ok (.putfield 102, 3) := dk_181 0 102 (dk_at dksX4_passWord_0 18 rfl rfl)
theorem dX4_passWord_21 : decode cX4_passWord 21 = .ok (.goto (-21), 3) := dk_167 255 235 (dk_at dksX4_passWord_0 21 rfl rfl)
theorem dX4_passWord_24 : decode cX4_passWord 24 = .ok (.return_, 1) := dk_177 (dk_at dksX4_passWord_1 0 rfl rfl)
abbrev cX4_cellHere : ByteArray := prog_19_method_31_code
def yX4_cellHere : MethodName := ⟨RX4, "cellHere", "(III)Z"⟩
def dkwX4_cellHere_0 : List UInt8 := [42, 28, 29, 182, 0, 179, 154, 0, 5, 3, 172, 42, 180, 0, 26, 27, 42, 180, 0, 127, 79, 4, 172]
abbrev dktX4_cellHere_0 : List UInt8 := dkwX4_cellHere_0 ++ []
theorem dksX4_cellHere_0 : cX4_cellHere.data.toList.drop 0 = dktX4_cellHere_0 := by decide +kernel
theorem dX4_cellHere_0 : decode cX4_cellHere 0 = .ok (.aload_n 0, 1) := dk_42 (dk_at dksX4_cellHere_0 0 rfl rfl)
theorem dX4_cellHere_1 : decode cX4_cellHere 1 = .ok (.iload_n 2, 1) := dk_28 (dk_at dksX4_cellHere_0 1 rfl rfl)
theorem dX4_cellHere_2 : decode cX4_cellHere 2 = .ok (.iload_n 3, 1) := dk_29 (dk_at dksX4_cellHere_0 2 rfl rfl)
theorem dX4_cellHere_3 : decode cX4_cellHere 3 = .ok (.invokevirtual 179, 3) := dk_182 0 179 (dk_at dksX4_cellHere_0 3 rfl rfl)
theorem dX4_cellHere_6 : decode cX4_cellHere 6 = .ok (.ifCond .ne 5, 3) := dk_154 0 5 (dk_at dksX4_cellHere_0 6 rfl rfl)
theorem dX4_cellHere_9 : decode cX4_cellHere 9 = .ok (.iconst 0, 1) := dk_3 (dk_at dksX4_cellHere_0 9 rfl rfl)
theorem dX4_cellHere_10 : decode cX4_cellHere 10 = .ok (.ireturn, 1) := dk_172 (dk_at dksX4_cellHere_0 10 rfl rfl)
theorem dX4_cellHere_11 : decode cX4_cellHere 11 = .ok (.aload_n 0, 1) := dk_42 (dk_at dksX4_cellHere_0 11 rfl rfl)
theorem dX4_cellHere_12 : decode cX4_cellHere 12 = .ok (.getfield 26, 3) := dk_180 0 26 (dk_at dksX4_cellHere_0 12 rfl rfl)
theorem dX4_cellHere_15 : decode cX4_cellHere 15 = .ok (.iload_n 1, 1) := dk_27 (dk_at dksX4_cellHere_0 15 rfl rfl)
theorem dX4_cellHere_16 : decode cX4_cellHere 16 = .ok (.aload_n 0, 1) := dk_42 (dk_at dksX4_cellHere_0 16 rfl rfl)
theorem dX4_cellHere_17 : decode cX4_cellHere 17 = .ok (.getfield 127, 3) := dk_180 0 127 (dk_at dksX4_cellHere_0 17 rfl rfl)
theorem dX4_cellHere_20 : decode cX4_cellHere 20 = .ok (.iastore, 1) := dk_79 (dk_at dksX4_cellHere_0 20 rfl rfl)
theorem dX4_cellHere_21 : decode cX4_cellHere 21 = .ok (.iconst 1, 1) := dk_4 (dk_at dksX4_cellHere_0 21 rfl rfl)
theorem dX4_cellHere_22 : decode cX4_cellHere 22 = .ok (.ireturn, 1) := dk_172 (dk_at dksX4_cellHere_0 22 rfl rfl)
abbrev cX4_numberHere : ByteArray := prog_19_method_15_code
def yX4_numberHere : MethodName := ⟨RX4, "numberHere", "(II)Z"⟩
def dkwX4_numberHere_5 : List UInt8 := [4, 29, 182, 0, 123, 153, 0, 7, 4, 167, 0, 4, 3, 172]
abbrev dktX4_numberHere_5 : List UInt8 := dkwX4_numberHere_5 ++ []
def dkwX4_numberHere_4 : List UInt8 := [42, 180, 0, 102, 29, 100, 8, 163, 0, 16, 21, 4, 133, 27, 133, 28, 133, 184, 0, 130, 154, 0, 12, 42]
abbrev dktX4_numberHere_4 : List UInt8 := dkwX4_numberHere_4 ++ dktX4_numberHere_5
def dkwX4_numberHere_3 : List UInt8 := [16, 48, 100, 54, 4, 42, 89, 180, 0, 102, 4, 96, 181, 0, 102, 167, 255, 205, 42, 21, 4, 181, 0, 127]
abbrev dktX4_numberHere_3 : List UInt8 := dkwX4_numberHere_3 ++ dktX4_numberHere_4
def dkwX4_numberHere_2 : List UInt8 := [180, 0, 102, 29, 100, 8, 162, 0, 23, 16, 10, 21, 4, 104, 42, 180, 0, 7, 42, 180, 0, 102, 51, 96]
abbrev dktX4_numberHere_2 : List UInt8 := dkwX4_numberHere_2 ++ dktX4_numberHere_3
def dkwX4_numberHere_1 : List UInt8 := [182, 0, 123, 172, 42, 180, 0, 102, 62, 3, 54, 4, 42, 42, 180, 0, 102, 182, 0, 120, 153, 0, 46, 42]
abbrev dktX4_numberHere_1 : List UInt8 := dkwX4_numberHere_1 ++ dktX4_numberHere_2
def dkwX4_numberHere_0 : List UInt8 := [42, 182, 0, 105, 87, 42, 42, 180, 0, 102, 182, 0, 120, 154, 0, 13, 42, 3, 42, 180, 0, 102]
abbrev dktX4_numberHere_0 : List UInt8 := dkwX4_numberHere_0 ++ dktX4_numberHere_1
theorem dksX4_numberHere_0 : cX4_numberHere.data.toList.drop 0 = dktX4_numberHere_0 := by decide +kernel
theorem dksX4_numberHere_1 : cX4_numberHere.data.toList.drop 22 = dktX4_numberHere_1 := dk_seg dksX4_numberHere_0 22 rfl rfl
theorem dksX4_numberHere_2 : cX4_numberHere.data.toList.drop 46 = dktX4_numberHere_2 := dk_seg dksX4_numberHere_1 24 rfl rfl
theorem dksX4_numberHere_3 : cX4_numberHere.data.toList.drop 70 = dktX4_numberHere_3 := dk_seg dksX4_numberHere_2 24 rfl rfl
theorem dksX4_numberHere_4 : cX4_numberHere.data.toList.drop 94 = dktX4_numberHere_4 := dk_seg dksX4_numberHere_3 24 rfl rfl
theorem dksX4_numberHere_5 : cX4_numberHere.data.toList.drop 118 = dktX4_numberHere_5 := dk_seg dksX4_numberHere_4 24 rfl rfl
theorem dX4_numberHere_0 : decode cX4_numberHere 0 = .ok (.aload_n 0, 1) := dk_42 (dk_at dksX4_numberHere_0 0 rfl rfl)
theorem dX4_numberHere_1 : decode cX4_numberHere 1 = .ok (.invokevirtual 105, 3) := dk_182 0 105 (dk_at dksX4_numberHere_0 1 rfl rfl)
theorem dX4_numberHere_4 : decode cX4_numberHere 4 = .ok (.pop, 1) := dk_87 (dk_at dksX4_numberHere_0 4 rfl rfl)
theorem dX4_numberHere_5 : decode cX4_numberHere 5 = .ok (.aload_n 0, 1) := dk_42 (dk_at dksX4_numberHere_0 5 rfl rfl)
theorem dX4_numberHere_6 : decode cX4_numberHere 6 = .ok (.aload_n 0, 1) := dk_42 (dk_at dksX4_numberHere_0 6 rfl rfl)
theorem dX4_numberHere_7 : decode cX4_numberHere 7 = .ok (.getfield 102, 3) := dk_180 0 102 (dk_at dksX4_numberHere_0 7 rfl rfl)
theorem dX4_numberHere_10 : decode cX4_numberHere 10 = .ok (.invokevirtual 120, 3) := dk_182 0 120 (dk_at dksX4_numberHere_0 10 rfl rfl)
theorem dX4_numberHere_13 : decode cX4_numberHere 13 = .ok (.ifCond .ne 13, 3) := dk_154 0 13 (dk_at dksX4_numberHere_0 13 rfl rfl)
theorem dX4_numberHere_16 : decode cX4_numberHere 16 = .ok (.aload_n 0, 1) := dk_42 (dk_at dksX4_numberHere_0 16 rfl rfl)
theorem dX4_numberHere_17 : decode cX4_numberHere 17 = .ok (.iconst 0, 1) := dk_3 (dk_at dksX4_numberHere_0 17 rfl rfl)
theorem dX4_numberHere_18 : decode cX4_numberHere 18 = .ok (.aload_n 0, 1) := dk_42 (dk_at dksX4_numberHere_0 18 rfl rfl)
theorem dX4_numberHere_19 : decode cX4_numberHere 19 = .ok (.getfield 102, 3) := dk_180 0 102 (dk_at dksX4_numberHere_0 19 rfl rfl)
theorem dX4_numberHere_22 : decode cX4_numberHere 22 = .ok (.invokevirtual 123, 3) := dk_182 0 123 (dk_at dksX4_numberHere_1 0 rfl rfl)
theorem dX4_numberHere_25 : decode cX4_numberHere 25 = .ok (.ireturn, 1) := dk_172 (dk_at dksX4_numberHere_1 3 rfl rfl)
theorem dX4_numberHere_26 : decode cX4_numberHere 26 = .ok (.aload_n 0, 1) := dk_42 (dk_at dksX4_numberHere_1 4 rfl rfl)
theorem dX4_numberHere_27 : decode cX4_numberHere 27 = .ok (.getfield 102, 3) := dk_180 0 102 (dk_at dksX4_numberHere_1 5 rfl rfl)
theorem dX4_numberHere_30 : decode cX4_numberHere 30 = .ok (.istore_n 3, 1) := dk_62 (dk_at dksX4_numberHere_1 8 rfl rfl)
theorem dX4_numberHere_31 : decode cX4_numberHere 31 = .ok (.iconst 0, 1) := dk_3 (dk_at dksX4_numberHere_1 9 rfl rfl)
theorem dX4_numberHere_32 : decode cX4_numberHere 32 = .ok (.istore 4, 2) := dk_54 4 (dk_at dksX4_numberHere_1 10 rfl rfl)
theorem dX4_numberHere_34 : decode cX4_numberHere 34 = .ok (.aload_n 0, 1) := dk_42 (dk_at dksX4_numberHere_1 12 rfl rfl)
theorem dX4_numberHere_35 : decode cX4_numberHere 35 = .ok (.aload_n 0, 1) := dk_42 (dk_at dksX4_numberHere_1 13 rfl rfl)
theorem dX4_numberHere_36 : decode cX4_numberHere 36 = .ok (.getfield 102, 3) := dk_180 0 102 (dk_at dksX4_numberHere_1 14 rfl rfl)
theorem dX4_numberHere_39 : decode cX4_numberHere 39 = .ok (.invokevirtual 120, 3) := dk_182 0 120 (dk_at dksX4_numberHere_1 17 rfl rfl)
theorem dX4_numberHere_42 : decode cX4_numberHere 42 = .ok (.ifCond .eq 46, 3) := dk_153 0 46 (dk_at dksX4_numberHere_1 20 rfl rfl)
theorem dX4_numberHere_45 : decode cX4_numberHere 45 = .ok (.aload_n 0, 1) := dk_42 (dk_at dksX4_numberHere_1 23 rfl rfl)
theorem dX4_numberHere_46 : decode cX4_numberHere 46 = .ok (.getfield 102, 3) := dk_180 0 102 (dk_at dksX4_numberHere_2 0 rfl rfl)
theorem dX4_numberHere_49 : decode cX4_numberHere 49 = .ok (.iload_n 3, 1) := dk_29 (dk_at dksX4_numberHere_2 3 rfl rfl)
theorem dX4_numberHere_50 : decode cX4_numberHere 50 = .ok (.isub, 1) := dk_100 (dk_at dksX4_numberHere_2 4 rfl rfl)
theorem dX4_numberHere_51 : decode cX4_numberHere 51 = .ok (.iconst 5, 1) := dk_8 (dk_at dksX4_numberHere_2 5 rfl rfl)
theorem dX4_numberHere_52 : decode cX4_numberHere 52 = .ok (.if_icmp .ge 23, 3) := dk_162 0 23 (dk_at dksX4_numberHere_2 6 rfl rfl)
theorem dX4_numberHere_55 : decode cX4_numberHere 55 = .ok (.bipush 10, 2) := dk_16 10 (dk_at dksX4_numberHere_2 9 rfl rfl)
theorem dX4_numberHere_57 : decode cX4_numberHere 57 = .ok (.iload 4, 2) := dk_21 4 (dk_at dksX4_numberHere_2 11 rfl rfl)
theorem dX4_numberHere_59 : decode cX4_numberHere 59 = .ok (.imul, 1) := dk_104 (dk_at dksX4_numberHere_2 13 rfl rfl)
theorem dX4_numberHere_60 : decode cX4_numberHere 60 = .ok (.aload_n 0, 1) := dk_42 (dk_at dksX4_numberHere_2 14 rfl rfl)
theorem dX4_numberHere_61 : decode cX4_numberHere 61 = .ok (.getfield 7, 3) := dk_180 0 7 (dk_at dksX4_numberHere_2 15 rfl rfl)
theorem dX4_numberHere_64 : decode cX4_numberHere 64 = .ok (.aload_n 0, 1) := dk_42 (dk_at dksX4_numberHere_2 18 rfl rfl)
theorem dX4_numberHere_65 : decode cX4_numberHere 65 = .ok (.getfield 102, 3) := dk_180 0 102 (dk_at dksX4_numberHere_2 19 rfl rfl)
theorem dX4_numberHere_68 : decode cX4_numberHere 68 = .ok (.baload, 1) := dk_51 (dk_at dksX4_numberHere_2 22 rfl rfl)
theorem dX4_numberHere_69 : decode cX4_numberHere 69 = .ok (.iadd, 1) := dk_96 (dk_at dksX4_numberHere_2 23 rfl rfl)
theorem dX4_numberHere_70 : decode cX4_numberHere 70 = .ok (.bipush 48, 2) := dk_16 48 (dk_at dksX4_numberHere_3 0 rfl rfl)
theorem dX4_numberHere_72 : decode cX4_numberHere 72 = .ok (.isub, 1) := dk_100 (dk_at dksX4_numberHere_3 2 rfl rfl)
theorem dX4_numberHere_73 : decode cX4_numberHere 73 = .ok (.istore 4, 2) := dk_54 4 (dk_at dksX4_numberHere_3 3 rfl rfl)
theorem dX4_numberHere_75 : decode cX4_numberHere 75 = .ok (.aload_n 0, 1) := dk_42 (dk_at dksX4_numberHere_3 5 rfl rfl)
theorem dX4_numberHere_76 : decode cX4_numberHere 76 = .ok (.dup, 1) := dk_89 (dk_at dksX4_numberHere_3 6 rfl rfl)
theorem dX4_numberHere_77 : decode cX4_numberHere 77 = .ok (.getfield 102, 3) := dk_180 0 102 (dk_at dksX4_numberHere_3 7 rfl rfl)
theorem dX4_numberHere_80 : decode cX4_numberHere 80 = .ok (.iconst 1, 1) := dk_4 (dk_at dksX4_numberHere_3 10 rfl rfl)
theorem dX4_numberHere_81 : decode cX4_numberHere 81 = .ok (.iadd, 1) := dk_96 (dk_at dksX4_numberHere_3 11 rfl rfl)
theorem dX4_numberHere_82 : decode cX4_numberHere 82 = .ok (.putfield 102, 3) := dk_181 0 102 (dk_at dksX4_numberHere_3 12 rfl rfl)
theorem dX4_numberHere_85 : decode cX4_numberHere 85 = .ok (.goto (-51), 3) := dk_167 255 205 (dk_at dksX4_numberHere_3 15 rfl rfl)
theorem dX4_numberHere_88 : decode cX4_numberHere 88 = .ok (.aload_n 0, 1) := dk_42 (dk_at dksX4_numberHere_3 18 rfl rfl)
theorem dX4_numberHere_89 : decode cX4_numberHere 89 = .ok (.iload 4, 2) := dk_21 4 (dk_at dksX4_numberHere_3 19 rfl rfl)
theorem dX4_numberHere_91 : decode cX4_numberHere 91 = .ok (.putfield 127, 3) := dk_181 0 127 (dk_at dksX4_numberHere_3 21 rfl rfl)
theorem dX4_numberHere_94 : decode cX4_numberHere 94 = .ok (.aload_n 0, 1) := dk_42 (dk_at dksX4_numberHere_4 0 rfl rfl)
theorem dX4_numberHere_95 : decode cX4_numberHere 95 = .ok (.getfield 102, 3) := dk_180 0 102 (dk_at dksX4_numberHere_4 1 rfl rfl)
theorem dX4_numberHere_98 : decode cX4_numberHere 98 = .ok (.iload_n 3, 1) := dk_29 (dk_at dksX4_numberHere_4 4 rfl rfl)
theorem dX4_numberHere_99 : decode cX4_numberHere 99 = .ok (.isub, 1) := dk_100 (dk_at dksX4_numberHere_4 5 rfl rfl)
theorem dX4_numberHere_100 : decode cX4_numberHere 100 = .ok (.iconst 5, 1) := dk_8 (dk_at dksX4_numberHere_4 6 rfl rfl)
theorem dX4_numberHere_101 : decode cX4_numberHere 101 = .ok (.if_icmp .gt 16, 3) := dk_163 0 16 (dk_at dksX4_numberHere_4 7 rfl rfl)
theorem dX4_numberHere_104 : decode cX4_numberHere 104 = .ok (.iload 4, 2) := dk_21 4 (dk_at dksX4_numberHere_4 10 rfl rfl)
theorem dX4_numberHere_106 : decode cX4_numberHere 106 = .ok (.i2l, 1) := dk_133 (dk_at dksX4_numberHere_4 12 rfl rfl)
theorem dX4_numberHere_107 : decode cX4_numberHere 107 = .ok (.iload_n 1, 1) := dk_27 (dk_at dksX4_numberHere_4 13 rfl rfl)
theorem dX4_numberHere_108 : decode cX4_numberHere 108 = .ok (.i2l, 1) := dk_133 (dk_at dksX4_numberHere_4 14 rfl rfl)
theorem dX4_numberHere_109 : decode cX4_numberHere 109 = .ok (.iload_n 2, 1) := dk_28 (dk_at dksX4_numberHere_4 15 rfl rfl)
theorem dX4_numberHere_110 : decode cX4_numberHere 110 = .ok (.i2l, 1) := dk_133 (dk_at dksX4_numberHere_4 16 rfl rfl)
theorem dX4_numberHere_111 : decode cX4_numberHere 111 = .ok (.invokestatic 130, 3) := dk_184 0 130 (dk_at dksX4_numberHere_4 17 rfl rfl)
theorem dX4_numberHere_114 : decode cX4_numberHere 114 = .ok (.ifCond .ne 12, 3) := dk_154 0 12 (dk_at dksX4_numberHere_4 20 rfl rfl)
theorem dX4_numberHere_117 : decode cX4_numberHere 117 = .ok (.aload_n 0, 1) := dk_42 (dk_at dksX4_numberHere_4 23 rfl rfl)
theorem dX4_numberHere_118 : decode cX4_numberHere 118 = .ok (.iconst 1, 1) := dk_4 (dk_at dksX4_numberHere_5 0 rfl rfl)
theorem dX4_numberHere_119 : decode cX4_numberHere 119 = .ok (.iload_n 3, 1) := dk_29 (dk_at dksX4_numberHere_5 1 rfl rfl)
theorem dX4_numberHere_120 : decode cX4_numberHere 120 = .ok (.invokevirtual 123, 3) := dk_182 0 123 (dk_at dksX4_numberHere_5 2 rfl rfl)
theorem dX4_numberHere_123 : decode cX4_numberHere 123 = .ok (.ifCond .eq 7, 3) := dk_153 0 7 (dk_at dksX4_numberHere_5 5 rfl rfl)
theorem dX4_numberHere_126 : decode cX4_numberHere 126 = .ok (.iconst 1, 1) := dk_4 (dk_at dksX4_numberHere_5 8 rfl rfl)
theorem dX4_numberHere_127 : decode cX4_numberHere 127 = .ok (.goto 4, 3) := dk_167 0 4 (dk_at dksX4_numberHere_5 9 rfl rfl)
theorem dX4_numberHere_130 : decode cX4_numberHere 130 = .ok (.iconst 0, 1) := dk_3 (dk_at dksX4_numberHere_5 12 rfl rfl)
theorem dX4_numberHere_131 : decode cX4_numberHere 131 = .ok (.ireturn, 1) := dk_172 (dk_at dksX4_numberHere_5 13 rfl rfl)
abbrev cX4_isDigit : ByteArray := prog_19_method_10_code
def yX4_isDigit : MethodName := ⟨RX4, "isDigit", "(I)Z"⟩
def dkwX4_isDigit_1 : List UInt8 := [51, 16, 57, 163, 0, 7, 4, 167, 0, 4, 3, 172]
abbrev dktX4_isDigit_1 : List UInt8 := dkwX4_isDigit_1 ++ []
def dkwX4_isDigit_0 : List UInt8 := [27, 42, 180, 0, 92, 162, 0, 29, 42, 180, 0, 7, 27, 51, 16, 48, 161, 0, 18, 42, 180, 0, 7, 27]
abbrev dktX4_isDigit_0 : List UInt8 := dkwX4_isDigit_0 ++ dktX4_isDigit_1
theorem dksX4_isDigit_0 : cX4_isDigit.data.toList.drop 0 = dktX4_isDigit_0 := by decide +kernel
theorem dksX4_isDigit_1 : cX4_isDigit.data.toList.drop 24 = dktX4_isDigit_1 := dk_seg dksX4_isDigit_0 24 rfl rfl
theorem dX4_isDigit_0 : decode cX4_isDigit 0 = .ok (.iload_n 1, 1) := dk_27 (dk_at dksX4_isDigit_0 0 rfl rfl)
theorem dX4_isDigit_1 : decode cX4_isDigit 1 = .ok (.aload_n 0, 1) := dk_42 (dk_at dksX4_isDigit_0 1 rfl rfl)
theorem dX4_isDigit_2 : decode cX4_isDigit 2 = .ok (.getfield 92, 3) := dk_180 0 92 (dk_at dksX4_isDigit_0 2 rfl rfl)
theorem dX4_isDigit_5 : decode cX4_isDigit 5 = .ok (.if_icmp .ge 29, 3) := dk_162 0 29 (dk_at dksX4_isDigit_0 5 rfl rfl)
theorem dX4_isDigit_8 : decode cX4_isDigit 8 = .ok (.aload_n 0, 1) := dk_42 (dk_at dksX4_isDigit_0 8 rfl rfl)
theorem dX4_isDigit_9 : decode cX4_isDigit 9 = .ok (.getfield 7, 3) := dk_180 0 7 (dk_at dksX4_isDigit_0 9 rfl rfl)
theorem dX4_isDigit_12 : decode cX4_isDigit 12 = .ok (.iload_n 1, 1) := dk_27 (dk_at dksX4_isDigit_0 12 rfl rfl)
theorem dX4_isDigit_13 : decode cX4_isDigit 13 = .ok (.baload, 1) := dk_51 (dk_at dksX4_isDigit_0 13 rfl rfl)
theorem dX4_isDigit_14 : decode cX4_isDigit 14 = .ok (.bipush 48, 2) := dk_16 48 (dk_at dksX4_isDigit_0 14 rfl rfl)
theorem dX4_isDigit_16 : decode cX4_isDigit 16 = .ok (.if_icmp .lt 18, 3) := dk_161 0 18 (dk_at dksX4_isDigit_0 16 rfl rfl)
theorem dX4_isDigit_19 : decode cX4_isDigit 19 = .ok (.aload_n 0, 1) := dk_42 (dk_at dksX4_isDigit_0 19 rfl rfl)
theorem dX4_isDigit_20 : decode cX4_isDigit 20 = .ok (.getfield 7, 3) := dk_180 0 7 (dk_at dksX4_isDigit_0 20 rfl rfl)
theorem dX4_isDigit_23 : decode cX4_isDigit 23 = .ok (.iload_n 1, 1) := dk_27 (dk_at dksX4_isDigit_0 23 rfl rfl)
theorem dX4_isDigit_24 : decode cX4_isDigit 24 = .ok (.baload, 1) := dk_51 (dk_at dksX4_isDigit_1 0 rfl rfl)
theorem dX4_isDigit_25 : decode cX4_isDigit 25 = .ok (.bipush 57, 2) := dk_16 57 (dk_at dksX4_isDigit_1 1 rfl rfl)
theorem dX4_isDigit_27 : decode cX4_isDigit 27 = .ok (.if_icmp .gt 7, 3) := dk_163 0 7 (dk_at dksX4_isDigit_1 3 rfl rfl)
theorem dX4_isDigit_30 : decode cX4_isDigit 30 = .ok (.iconst 1, 1) := dk_4 (dk_at dksX4_isDigit_1 6 rfl rfl)
theorem dX4_isDigit_31 : decode cX4_isDigit 31 = .ok (.goto 4, 3) := dk_167 0 4 (dk_at dksX4_isDigit_1 7 rfl rfl)
theorem dX4_isDigit_34 : decode cX4_isDigit 34 = .ok (.iconst 0, 1) := dk_3 (dk_at dksX4_isDigit_1 10 rfl rfl)
theorem dX4_isDigit_35 : decode cX4_isDigit 35 = .ok (.ireturn, 1) := dk_172 (dk_at dksX4_isDigit_1 11 rfl rfl)
abbrev cX4_in : ByteArray := prog_19_method_2_code
def yX4_in : MethodName := ⟨RX4, "in", "(JJJ)Z"⟩
def dkwX4_in_0 : List UInt8 := [30, 32, 148, 155, 0, 14, 30, 22, 4, 148, 157, 0, 7, 4, 167, 0, 4, 3, 172]
abbrev dktX4_in_0 : List UInt8 := dkwX4_in_0 ++ []
theorem dksX4_in_0 : cX4_in.data.toList.drop 0 = dktX4_in_0 := by decide +kernel
theorem dX4_in_0 : decode cX4_in 0 = .ok (.lload_n 0, 1) := dk_30 (dk_at dksX4_in_0 0 rfl rfl)
theorem dX4_in_1 : decode cX4_in 1 = .ok (.lload_n 2, 1) := dk_32 (dk_at dksX4_in_0 1 rfl rfl)
theorem dX4_in_2 : decode cX4_in 2 = .ok (.lcmp, 1) := dk_148 (dk_at dksX4_in_0 2 rfl rfl)
theorem dX4_in_3 : decode cX4_in 3 = .ok (.ifCond .lt 14, 3) := dk_155 0 14 (dk_at dksX4_in_0 3 rfl rfl)
theorem dX4_in_6 : decode cX4_in 6 = .ok (.lload_n 0, 1) := dk_30 (dk_at dksX4_in_0 6 rfl rfl)
theorem dX4_in_7 : decode cX4_in 7 = .ok (.lload 4, 2) := dk_22 4 (dk_at dksX4_in_0 7 rfl rfl)
theorem dX4_in_9 : decode cX4_in 9 = .ok (.lcmp, 1) := dk_148 (dk_at dksX4_in_0 9 rfl rfl)
theorem dX4_in_10 : decode cX4_in 10 = .ok (.ifCond .gt 7, 3) := dk_157 0 7 (dk_at dksX4_in_0 10 rfl rfl)
theorem dX4_in_13 : decode cX4_in 13 = .ok (.iconst 1, 1) := dk_4 (dk_at dksX4_in_0 13 rfl rfl)
theorem dX4_in_14 : decode cX4_in 14 = .ok (.goto 4, 3) := dk_167 0 4 (dk_at dksX4_in_0 14 rfl rfl)
theorem dX4_in_17 : decode cX4_in 17 = .ok (.iconst 0, 1) := dk_3 (dk_at dksX4_in_0 17 rfl rfl)
theorem dX4_in_18 : decode cX4_in 18 = .ok (.ireturn, 1) := dk_172 (dk_at dksX4_in_0 18 rfl rfl)
abbrev cX4_isRoadHere : ByteArray := prog_19_method_33_code
def yX4_isRoadHere : MethodName := ⟨RX4, "isRoadHere", "(I)Z"⟩
def dkwX4_isRoadHere_3 : List UInt8 := [3, 172, 42, 180, 0, 26, 6, 92, 46, 4, 96, 79, 4, 172]
abbrev dktX4_isRoadHere_3 : List UInt8 := dkwX4_isRoadHere_3 ++ []
def dkwX4_isRoadHere_2 : List UInt8 := [96, 4, 16, 12, 182, 0, 230, 153, 0, 17, 42, 16, 66, 28, 96, 3, 16, 11, 182, 0, 230, 154, 0, 5]
abbrev dktX4_isRoadHere_2 : List UInt8 := dkwX4_isRoadHere_2 ++ dktX4_isRoadHere_3
def dkwX4_isRoadHere_1 : List UInt8 := [180, 0, 26, 6, 46, 61, 42, 16, 60, 28, 96, 3, 16, 30, 182, 0, 230, 153, 0, 31, 42, 16, 54, 28]
abbrev dktX4_isRoadHere_1 : List UInt8 := dkwX4_isRoadHere_1 ++ dktX4_isRoadHere_2
def dkwX4_isRoadHere_0 : List UInt8 := [42, 180, 0, 26, 6, 46, 16, 6, 160, 0, 10, 42, 7, 27, 182, 0, 123, 172, 42, 182, 0, 117, 42]
abbrev dktX4_isRoadHere_0 : List UInt8 := dkwX4_isRoadHere_0 ++ dktX4_isRoadHere_1
theorem dksX4_isRoadHere_0 : cX4_isRoadHere.data.toList.drop 0 = dktX4_isRoadHere_0 := by decide +kernel
theorem dksX4_isRoadHere_1 : cX4_isRoadHere.data.toList.drop 23 = dktX4_isRoadHere_1 := dk_seg dksX4_isRoadHere_0 23 rfl rfl
theorem dksX4_isRoadHere_2 : cX4_isRoadHere.data.toList.drop 47 = dktX4_isRoadHere_2 := dk_seg dksX4_isRoadHere_1 24 rfl rfl
theorem dksX4_isRoadHere_3 : cX4_isRoadHere.data.toList.drop 71 = dktX4_isRoadHere_3 := dk_seg dksX4_isRoadHere_2 24 rfl rfl
theorem dX4_isRoadHere_0 : decode cX4_isRoadHere 0 = .ok (.aload_n 0, 1) := dk_42 (dk_at dksX4_isRoadHere_0 0 rfl rfl)
theorem dX4_isRoadHere_1 : decode cX4_isRoadHere 1 = .ok (.getfield 26, 3) := dk_180 0 26 (dk_at dksX4_isRoadHere_0 1 rfl rfl)
theorem dX4_isRoadHere_4 : decode cX4_isRoadHere 4 = .ok (.iconst 3, 1) := dk_6 (dk_at dksX4_isRoadHere_0 4 rfl rfl)
theorem dX4_isRoadHere_5 : decode cX4_isRoadHere 5 = .ok (.iaload, 1) := dk_46 (dk_at dksX4_isRoadHere_0 5 rfl rfl)
theorem dX4_isRoadHere_6 : decode cX4_isRoadHere 6 = .ok (.bipush 6, 2) := dk_16 6 (dk_at dksX4_isRoadHere_0 6 rfl rfl)
theorem dX4_isRoadHere_8 : decode cX4_isRoadHere 8 = .ok (.if_icmp .ne 10, 3) := dk_160 0 10 (dk_at dksX4_isRoadHere_0 8 rfl rfl)
theorem dX4_isRoadHere_11 : decode cX4_isRoadHere 11 = .ok (.aload_n 0, 1) := dk_42 (dk_at dksX4_isRoadHere_0 11 rfl rfl)
theorem dX4_isRoadHere_12 : decode cX4_isRoadHere 12 = .ok (.iconst 4, 1) := dk_7 (dk_at dksX4_isRoadHere_0 12 rfl rfl)
theorem dX4_isRoadHere_13 : decode cX4_isRoadHere 13 = .ok (.iload_n 1, 1) := dk_27 (dk_at dksX4_isRoadHere_0 13 rfl rfl)
theorem dX4_isRoadHere_14 : decode cX4_isRoadHere 14 = .ok (.invokevirtual 123, 3) := dk_182 0 123 (dk_at dksX4_isRoadHere_0 14 rfl rfl)
theorem dX4_isRoadHere_17 : decode cX4_isRoadHere 17 = .ok (.ireturn, 1) := dk_172 (dk_at dksX4_isRoadHere_0 17 rfl rfl)
theorem dX4_isRoadHere_18 : decode cX4_isRoadHere 18 = .ok (.aload_n 0, 1) := dk_42 (dk_at dksX4_isRoadHere_0 18 rfl rfl)
theorem dX4_isRoadHere_19 : decode cX4_isRoadHere 19 = .ok (.invokevirtual 117, 3) := dk_182 0 117 (dk_at dksX4_isRoadHere_0 19 rfl rfl)
theorem dX4_isRoadHere_22 : decode cX4_isRoadHere 22 = .ok (.aload_n 0, 1) := dk_42 (dk_at dksX4_isRoadHere_0 22 rfl rfl)
theorem dX4_isRoadHere_23 : decode cX4_isRoadHere 23 = .ok (.getfield 26, 3) := dk_180 0 26 (dk_at dksX4_isRoadHere_1 0 rfl rfl)
theorem dX4_isRoadHere_26 : decode cX4_isRoadHere 26 = .ok (.iconst 3, 1) := dk_6 (dk_at dksX4_isRoadHere_1 3 rfl rfl)
theorem dX4_isRoadHere_27 : decode cX4_isRoadHere 27 = .ok (.iaload, 1) := dk_46 (dk_at dksX4_isRoadHere_1 4 rfl rfl)
theorem dX4_isRoadHere_28 : decode cX4_isRoadHere 28 = .ok (.istore_n 2, 1) := dk_61 (dk_at dksX4_isRoadHere_1 5 rfl rfl)
theorem dX4_isRoadHere_29 : decode cX4_isRoadHere 29 = .ok (.aload_n 0, 1) := dk_42 (dk_at dksX4_isRoadHere_1 6 rfl rfl)
theorem dX4_isRoadHere_30 : decode cX4_isRoadHere 30 = .ok (.bipush 60, 2) := dk_16 60 (dk_at dksX4_isRoadHere_1 7 rfl rfl)
theorem dX4_isRoadHere_32 : decode cX4_isRoadHere 32 = .ok (.iload_n 2, 1) := dk_28 (dk_at dksX4_isRoadHere_1 9 rfl rfl)
theorem dX4_isRoadHere_33 : decode cX4_isRoadHere 33 = .ok (.iadd, 1) := dk_96 (dk_at dksX4_isRoadHere_1 10 rfl rfl)
theorem dX4_isRoadHere_34 : decode cX4_isRoadHere 34 = .ok (.iconst 0, 1) := dk_3 (dk_at dksX4_isRoadHere_1 11 rfl rfl)
theorem dX4_isRoadHere_35 : decode cX4_isRoadHere 35 = .ok (.bipush 30, 2) := dk_16 30 (dk_at dksX4_isRoadHere_1 12 rfl rfl)
theorem dX4_isRoadHere_37 : decode cX4_isRoadHere 37 = .ok (.invokevirtual 230, 3) := dk_182 0 230 (dk_at dksX4_isRoadHere_1 14 rfl rfl)
theorem dX4_isRoadHere_40 : decode cX4_isRoadHere 40 = .ok (.ifCond .eq 31, 3) := dk_153 0 31 (dk_at dksX4_isRoadHere_1 17 rfl rfl)
theorem dX4_isRoadHere_43 : decode cX4_isRoadHere 43 = .ok (.aload_n 0, 1) := dk_42 (dk_at dksX4_isRoadHere_1 20 rfl rfl)
theorem dX4_isRoadHere_44 : decode cX4_isRoadHere 44 = .ok (.bipush 54, 2) := dk_16 54 (dk_at dksX4_isRoadHere_1 21 rfl rfl)
theorem dX4_isRoadHere_46 : decode cX4_isRoadHere 46 = .ok (.iload_n 2, 1) := dk_28 (dk_at dksX4_isRoadHere_1 23 rfl rfl)
theorem dX4_isRoadHere_47 : decode cX4_isRoadHere 47 = .ok (.iadd, 1) := dk_96 (dk_at dksX4_isRoadHere_2 0 rfl rfl)
theorem dX4_isRoadHere_48 : decode cX4_isRoadHere 48 = .ok (.iconst 1, 1) := dk_4 (dk_at dksX4_isRoadHere_2 1 rfl rfl)
theorem dX4_isRoadHere_49 : decode cX4_isRoadHere 49 = .ok (.bipush 12, 2) := dk_16 12 (dk_at dksX4_isRoadHere_2 2 rfl rfl)
theorem dX4_isRoadHere_51 : decode cX4_isRoadHere 51 = .ok (.invokevirtual 230, 3) := dk_182 0 230 (dk_at dksX4_isRoadHere_2 4 rfl rfl)
theorem dX4_isRoadHere_54 : decode cX4_isRoadHere 54 = .ok (.ifCond .eq 17, 3) := dk_153 0 17 (dk_at dksX4_isRoadHere_2 7 rfl rfl)
theorem dX4_isRoadHere_57 : decode cX4_isRoadHere 57 = .ok (.aload_n 0, 1) := dk_42 (dk_at dksX4_isRoadHere_2 10 rfl rfl)
theorem dX4_isRoadHere_58 : decode cX4_isRoadHere 58 = .ok (.bipush 66, 2) := dk_16 66 (dk_at dksX4_isRoadHere_2 11 rfl rfl)
theorem dX4_isRoadHere_60 : decode cX4_isRoadHere 60 = .ok (.iload_n 2, 1) := dk_28 (dk_at dksX4_isRoadHere_2 13 rfl rfl)
theorem dX4_isRoadHere_61 : decode cX4_isRoadHere 61 = .ok (.iadd, 1) := dk_96 (dk_at dksX4_isRoadHere_2 14 rfl rfl)
theorem dX4_isRoadHere_62 : decode cX4_isRoadHere 62 = .ok (.iconst 0, 1) := dk_3 (dk_at dksX4_isRoadHere_2 15 rfl rfl)
theorem dX4_isRoadHere_63 : decode cX4_isRoadHere 63 = .ok (.bipush 11, 2) := dk_16 11 (dk_at dksX4_isRoadHere_2 16 rfl rfl)
theorem dX4_isRoadHere_65 : decode cX4_isRoadHere 65 = .ok (.invokevirtual 230, 3) := dk_182 0 230 (dk_at dksX4_isRoadHere_2 18 rfl rfl)
theorem dX4_isRoadHere_68 : decode cX4_isRoadHere 68 = .ok (.ifCond .ne 5, 3) := dk_154 0 5 (dk_at dksX4_isRoadHere_2 21 rfl rfl)
theorem dX4_isRoadHere_71 : decode cX4_isRoadHere 71 = .ok (.iconst 0, 1) := dk_3 (dk_at dksX4_isRoadHere_3 0 rfl rfl)
theorem dX4_isRoadHere_72 : decode cX4_isRoadHere 72 = .ok (.ireturn, 1) := dk_172 (dk_at dksX4_isRoadHere_3 1 rfl rfl)
theorem dX4_isRoadHere_73 : decode cX4_isRoadHere 73 = .ok (.aload_n 0, 1) := dk_42 (dk_at dksX4_isRoadHere_3 2 rfl rfl)
theorem dX4_isRoadHere_74 : decode cX4_isRoadHere 74 = .ok (.getfield 26, 3) := dk_180 0 26 (dk_at dksX4_isRoadHere_3 3 rfl rfl)
theorem dX4_isRoadHere_77 : decode cX4_isRoadHere 77 = .ok (.iconst 3, 1) := dk_6 (dk_at dksX4_isRoadHere_3 6 rfl rfl)
theorem dX4_isRoadHere_78 : decode cX4_isRoadHere 78 = .ok (.dup2, 1) := dk_92 (dk_at dksX4_isRoadHere_3 7 rfl rfl)
theorem dX4_isRoadHere_79 : decode cX4_isRoadHere 79 = .ok (.iaload, 1) := dk_46 (dk_at dksX4_isRoadHere_3 8 rfl rfl)
theorem dX4_isRoadHere_80 : decode cX4_isRoadHere 80 = .ok (.iconst 1, 1) := dk_4 (dk_at dksX4_isRoadHere_3 9 rfl rfl)
theorem dX4_isRoadHere_81 : decode cX4_isRoadHere 81 = .ok (.iadd, 1) := dk_96 (dk_at dksX4_isRoadHere_3 10 rfl rfl)
theorem dX4_isRoadHere_82 : decode cX4_isRoadHere 82 = .ok (.iastore, 1) := dk_79 (dk_at dksX4_isRoadHere_3 11 rfl rfl)
theorem dX4_isRoadHere_83 : decode cX4_isRoadHere 83 = .ok (.iconst 1, 1) := dk_4 (dk_at dksX4_isRoadHere_3 12 rfl rfl)
theorem dX4_isRoadHere_84 : decode cX4_isRoadHere 84 = .ok (.ireturn, 1) := dk_172 (dk_at dksX4_isRoadHere_3 13 rfl rfl)
abbrev cX4_isClashHere : ByteArray := prog_19_method_34_code
def yX4_isClashHere : MethodName := ⟨RX4, "isClashHere", "()Z"⟩
def dkwX4_isClashHere_4 : List UInt8 := [180, 0, 127, 96, 92, 46, 4, 27, 120, 128, 79, 4, 172]
abbrev dktX4_isClashHere_4 : List UInt8 := dkwX4_isClashHere_4 ++ []
def dkwX4_isClashHere_3 : List UInt8 := [180, 0, 26, 16, 72, 27, 96, 92, 46, 4, 42, 180, 0, 127, 120, 128, 79, 42, 180, 0, 26, 16, 72, 42]
abbrev dktX4_isClashHere_3 : List UInt8 := dkwX4_isClashHere_3 ++ dktX4_isClashHere_4
def dkwX4_isClashHere_2 : List UInt8 := [182, 0, 179, 154, 0, 5, 3, 172, 27, 42, 180, 0, 127, 160, 0, 10, 42, 4, 28, 182, 0, 123, 172, 42]
abbrev dktX4_isClashHere_2 : List UInt8 := dkwX4_isClashHere_2 ++ dktX4_isClashHere_3
def dkwX4_isClashHere_1 : List UInt8 := [180, 0, 127, 60, 42, 182, 0, 105, 87, 42, 180, 0, 102, 61, 42, 3, 42, 180, 0, 26, 6, 46, 4, 100]
abbrev dktX4_isClashHere_1 : List UInt8 := dkwX4_isClashHere_1 ++ dktX4_isClashHere_2
def dkwX4_isClashHere_0 : List UInt8 := [42, 182, 0, 117, 42, 3, 42, 180, 0, 26, 6, 46, 4, 100, 182, 0, 179, 154, 0, 5, 3, 172, 42]
abbrev dktX4_isClashHere_0 : List UInt8 := dkwX4_isClashHere_0 ++ dktX4_isClashHere_1
theorem dksX4_isClashHere_0 : cX4_isClashHere.data.toList.drop 0 = dktX4_isClashHere_0 := by decide +kernel
theorem dksX4_isClashHere_1 : cX4_isClashHere.data.toList.drop 23 = dktX4_isClashHere_1 := dk_seg dksX4_isClashHere_0 23 rfl rfl
theorem dksX4_isClashHere_2 : cX4_isClashHere.data.toList.drop 47 = dktX4_isClashHere_2 := dk_seg dksX4_isClashHere_1 24 rfl rfl
theorem dksX4_isClashHere_3 : cX4_isClashHere.data.toList.drop 71 = dktX4_isClashHere_3 := dk_seg dksX4_isClashHere_2 24 rfl rfl
theorem dksX4_isClashHere_4 : cX4_isClashHere.data.toList.drop 95 = dktX4_isClashHere_4 := dk_seg dksX4_isClashHere_3 24 rfl rfl
theorem dX4_isClashHere_0 : decode cX4_isClashHere 0 = .ok (.aload_n 0, 1) := dk_42 (dk_at dksX4_isClashHere_0 0 rfl rfl)
theorem dX4_isClashHere_1 : decode cX4_isClashHere 1 = .ok (.invokevirtual 117, 3) := dk_182 0 117 (dk_at dksX4_isClashHere_0 1 rfl rfl)
theorem dX4_isClashHere_4 : decode cX4_isClashHere 4 = .ok (.aload_n 0, 1) := dk_42 (dk_at dksX4_isClashHere_0 4 rfl rfl)
theorem dX4_isClashHere_5 : decode cX4_isClashHere 5 = .ok (.iconst 0, 1) := dk_3 (dk_at dksX4_isClashHere_0 5 rfl rfl)
theorem dX4_isClashHere_6 : decode cX4_isClashHere 6 = .ok (.aload_n 0, 1) := dk_42 (dk_at dksX4_isClashHere_0 6 rfl rfl)
theorem dX4_isClashHere_7 : decode cX4_isClashHere 7 = .ok (.getfield 26, 3) := dk_180 0 26 (dk_at dksX4_isClashHere_0 7 rfl rfl)
theorem dX4_isClashHere_10 : decode cX4_isClashHere 10 = .ok (.iconst 3, 1) := dk_6 (dk_at dksX4_isClashHere_0 10 rfl rfl)
theorem dX4_isClashHere_11 : decode cX4_isClashHere 11 = .ok (.iaload, 1) := dk_46 (dk_at dksX4_isClashHere_0 11 rfl rfl)
theorem dX4_isClashHere_12 : decode cX4_isClashHere 12 = .ok (.iconst 1, 1) := dk_4 (dk_at dksX4_isClashHere_0 12 rfl rfl)
theorem dX4_isClashHere_13 : decode cX4_isClashHere 13 = .ok (.isub, 1) := dk_100 (dk_at dksX4_isClashHere_0 13 rfl rfl)
theorem dX4_isClashHere_14 : decode cX4_isClashHere 14 = .ok (.invokevirtual 179, 3) := dk_182 0 179 (dk_at dksX4_isClashHere_0 14 rfl rfl)
theorem dX4_isClashHere_17 : decode cX4_isClashHere 17 = .ok (.ifCond .ne 5, 3) := dk_154 0 5 (dk_at dksX4_isClashHere_0 17 rfl rfl)
theorem dX4_isClashHere_20 : decode cX4_isClashHere 20 = .ok (.iconst 0, 1) := dk_3 (dk_at dksX4_isClashHere_0 20 rfl rfl)
theorem dX4_isClashHere_21 : decode cX4_isClashHere 21 = .ok (.ireturn, 1) := dk_172 (dk_at dksX4_isClashHere_0 21 rfl rfl)
theorem dX4_isClashHere_22 : decode cX4_isClashHere 22 = .ok (.aload_n 0, 1) := dk_42 (dk_at dksX4_isClashHere_0 22 rfl rfl)
theorem dX4_isClashHere_23 : decode cX4_isClashHere 23 = .ok (.getfield 127, 3) := dk_180 0 127 (dk_at dksX4_isClashHere_1 0 rfl rfl)
theorem dX4_isClashHere_26 : decode cX4_isClashHere 26 = .ok (.istore_n 1, 1) := dk_60 (dk_at dksX4_isClashHere_1 3 rfl rfl)
theorem dX4_isClashHere_27 : decode cX4_isClashHere 27 = .ok (.aload_n 0, 1) := dk_42 (dk_at dksX4_isClashHere_1 4 rfl rfl)
theorem dX4_isClashHere_28 : decode cX4_isClashHere 28 = .ok (.invokevirtual 105, 3) := dk_182 0 105 (dk_at dksX4_isClashHere_1 5 rfl rfl)
theorem dX4_isClashHere_31 : decode cX4_isClashHere 31 = .ok (.pop, 1) := dk_87 (dk_at dksX4_isClashHere_1 8 rfl rfl)
theorem dX4_isClashHere_32 : decode cX4_isClashHere 32 = .ok (.aload_n 0, 1) := dk_42 (dk_at dksX4_isClashHere_1 9 rfl rfl)
theorem dX4_isClashHere_33 : decode cX4_isClashHere 33 = .ok (.getfield 102, 3) := dk_180 0 102 (dk_at dksX4_isClashHere_1 10 rfl rfl)
theorem dX4_isClashHere_36 : decode cX4_isClashHere 36 = .ok (.istore_n 2, 1) := dk_61 (dk_at dksX4_isClashHere_1 13 rfl rfl)
theorem dX4_isClashHere_37 : decode cX4_isClashHere 37 = .ok (.aload_n 0, 1) := dk_42 (dk_at dksX4_isClashHere_1 14 rfl rfl)
theorem dX4_isClashHere_38 : decode cX4_isClashHere 38 = .ok (.iconst 0, 1) := dk_3 (dk_at dksX4_isClashHere_1 15 rfl rfl)
theorem dX4_isClashHere_39 : decode cX4_isClashHere 39 = .ok (.aload_n 0, 1) := dk_42 (dk_at dksX4_isClashHere_1 16 rfl rfl)
theorem dX4_isClashHere_40 : decode cX4_isClashHere 40 = .ok (.getfield 26, 3) := dk_180 0 26 (dk_at dksX4_isClashHere_1 17 rfl rfl)
theorem dX4_isClashHere_43 : decode cX4_isClashHere 43 = .ok (.iconst 3, 1) := dk_6 (dk_at dksX4_isClashHere_1 20 rfl rfl)
theorem dX4_isClashHere_44 : decode cX4_isClashHere 44 = .ok (.iaload, 1) := dk_46 (dk_at dksX4_isClashHere_1 21 rfl rfl)
theorem dX4_isClashHere_45 : decode cX4_isClashHere 45 = .ok (.iconst 1, 1) := dk_4 (dk_at dksX4_isClashHere_1 22 rfl rfl)
theorem dX4_isClashHere_46 : decode cX4_isClashHere 46 = .ok (.isub, 1) := dk_100 (dk_at dksX4_isClashHere_1 23 rfl rfl)
theorem dX4_isClashHere_47 : decode cX4_isClashHere 47 = .ok (.invokevirtual 179, 3) := dk_182 0 179 (dk_at dksX4_isClashHere_2 0 rfl rfl)
theorem dX4_isClashHere_50 : decode cX4_isClashHere 50 = .ok (.ifCond .ne 5, 3) := dk_154 0 5 (dk_at dksX4_isClashHere_2 3 rfl rfl)
theorem dX4_isClashHere_53 : decode cX4_isClashHere 53 = .ok (.iconst 0, 1) := dk_3 (dk_at dksX4_isClashHere_2 6 rfl rfl)
theorem dX4_isClashHere_54 : decode cX4_isClashHere 54 = .ok (.ireturn, 1) := dk_172 (dk_at dksX4_isClashHere_2 7 rfl rfl)
theorem dX4_isClashHere_55 : decode cX4_isClashHere 55 = .ok (.iload_n 1, 1) := dk_27 (dk_at dksX4_isClashHere_2 8 rfl rfl)
theorem dX4_isClashHere_56 : decode cX4_isClashHere 56 = .ok (.aload_n 0, 1) := dk_42 (dk_at dksX4_isClashHere_2 9 rfl rfl)
theorem dX4_isClashHere_57 : decode cX4_isClashHere 57 = .ok (.getfield 127, 3) := dk_180 0 127 (dk_at dksX4_isClashHere_2 10 rfl rfl)
theorem dX4_isClashHere_60 : decode cX4_isClashHere 60 = .ok (.if_icmp .ne 10, 3) := dk_160 0 10 (dk_at dksX4_isClashHere_2 13 rfl rfl)
theorem dX4_isClashHere_63 : decode cX4_isClashHere 63 = .ok (.aload_n 0, 1) := dk_42 (dk_at dksX4_isClashHere_2 16 rfl rfl)
theorem dX4_isClashHere_64 : decode cX4_isClashHere 64 = .ok (.iconst 1, 1) := dk_4 (dk_at dksX4_isClashHere_2 17 rfl rfl)
theorem dX4_isClashHere_65 : decode cX4_isClashHere 65 = .ok (.iload_n 2, 1) := dk_28 (dk_at dksX4_isClashHere_2 18 rfl rfl)
theorem dX4_isClashHere_66 : decode cX4_isClashHere 66 = .ok (.invokevirtual 123, 3) := dk_182 0 123 (dk_at dksX4_isClashHere_2 19 rfl rfl)
theorem dX4_isClashHere_69 : decode cX4_isClashHere 69 = .ok (.ireturn, 1) := dk_172 (dk_at dksX4_isClashHere_2 22 rfl rfl)
theorem dX4_isClashHere_70 : decode cX4_isClashHere 70 = .ok (.aload_n 0, 1) := dk_42 (dk_at dksX4_isClashHere_2 23 rfl rfl)
theorem dX4_isClashHere_71 : decode cX4_isClashHere 71 = .ok (.getfield 26, 3) := dk_180 0 26 (dk_at dksX4_isClashHere_3 0 rfl rfl)
theorem dX4_isClashHere_74 : decode cX4_isClashHere 74 = .ok (.bipush 72, 2) := dk_16 72 (dk_at dksX4_isClashHere_3 3 rfl rfl)
theorem dX4_isClashHere_76 : decode cX4_isClashHere 76 = .ok (.iload_n 1, 1) := dk_27 (dk_at dksX4_isClashHere_3 5 rfl rfl)
theorem dX4_isClashHere_77 : decode cX4_isClashHere 77 = .ok (.iadd, 1) := dk_96 (dk_at dksX4_isClashHere_3 6 rfl rfl)
theorem dX4_isClashHere_78 : decode cX4_isClashHere 78 = .ok (.dup2, 1) := dk_92 (dk_at dksX4_isClashHere_3 7 rfl rfl)
theorem dX4_isClashHere_79 : decode cX4_isClashHere 79 = .ok (.iaload, 1) := dk_46 (dk_at dksX4_isClashHere_3 8 rfl rfl)
theorem dX4_isClashHere_80 : decode cX4_isClashHere 80 = .ok (.iconst 1, 1) := dk_4 (dk_at dksX4_isClashHere_3 9 rfl rfl)
theorem dX4_isClashHere_81 : decode cX4_isClashHere 81 = .ok (.aload_n 0, 1) := dk_42 (dk_at dksX4_isClashHere_3 10 rfl rfl)
theorem dX4_isClashHere_82 : decode cX4_isClashHere 82 = .ok (.getfield 127, 3) := dk_180 0 127 (dk_at dksX4_isClashHere_3 11 rfl rfl)
theorem dX4_isClashHere_85 : decode cX4_isClashHere 85 = .ok (.ishl, 1) := dk_120 (dk_at dksX4_isClashHere_3 14 rfl rfl)
theorem dX4_isClashHere_86 : decode cX4_isClashHere 86 = .ok (.ior, 1) := dk_128 (dk_at dksX4_isClashHere_3 15 rfl rfl)
theorem dX4_isClashHere_87 : decode cX4_isClashHere 87 = .ok (.iastore, 1) := dk_79 (dk_at dksX4_isClashHere_3 16 rfl rfl)
theorem dX4_isClashHere_88 : decode cX4_isClashHere 88 = .ok (.aload_n 0, 1) := dk_42 (dk_at dksX4_isClashHere_3 17 rfl rfl)
theorem dX4_isClashHere_89 : decode cX4_isClashHere 89 = .ok (.getfield 26, 3) := dk_180 0 26 (dk_at dksX4_isClashHere_3 18 rfl rfl)
theorem dX4_isClashHere_92 : decode cX4_isClashHere 92 = .ok (.bipush 72, 2) := dk_16 72 (dk_at dksX4_isClashHere_3 21 rfl rfl)
theorem dX4_isClashHere_94 : decode cX4_isClashHere 94 = .ok (.aload_n 0, 1) := dk_42 (dk_at dksX4_isClashHere_3 23 rfl rfl)
theorem dX4_isClashHere_95 : decode cX4_isClashHere 95 = .ok (.getfield 127, 3) := dk_180 0 127 (dk_at dksX4_isClashHere_4 0 rfl rfl)
theorem dX4_isClashHere_98 : decode cX4_isClashHere 98 = .ok (.iadd, 1) := dk_96 (dk_at dksX4_isClashHere_4 3 rfl rfl)
theorem dX4_isClashHere_99 : decode cX4_isClashHere 99 = .ok (.dup2, 1) := dk_92 (dk_at dksX4_isClashHere_4 4 rfl rfl)
theorem dX4_isClashHere_100 : decode cX4_isClashHere 100 = .ok (.iaload, 1) := dk_46 (dk_at dksX4_isClashHere_4 5 rfl rfl)
theorem dX4_isClashHere_101 : decode cX4_isClashHere 101 = .ok (.iconst 1, 1) := dk_4 (dk_at dksX4_isClashHere_4 6 rfl rfl)
theorem dX4_isClashHere_102 : decode cX4_isClashHere 102 = .ok (.iload_n 1, 1) := dk_27 (dk_at dksX4_isClashHere_4 7 rfl rfl)
theorem dX4_isClashHere_103 : decode cX4_isClashHere 103 = .ok (.ishl, 1) := dk_120 (dk_at dksX4_isClashHere_4 8 rfl rfl)
theorem dX4_isClashHere_104 : decode cX4_isClashHere 104 = .ok (.ior, 1) := dk_128 (dk_at dksX4_isClashHere_4 9 rfl rfl)
theorem dX4_isClashHere_105 : decode cX4_isClashHere 105 = .ok (.iastore, 1) := dk_79 (dk_at dksX4_isClashHere_4 10 rfl rfl)
theorem dX4_isClashHere_106 : decode cX4_isClashHere 106 = .ok (.iconst 1, 1) := dk_4 (dk_at dksX4_isClashHere_4 11 rfl rfl)
theorem dX4_isClashHere_107 : decode cX4_isClashHere 107 = .ok (.ireturn, 1) := dk_172 (dk_at dksX4_isClashHere_4 12 rfl rfl)
abbrev cX4_isScoreHere : ByteArray := prog_19_method_35_code
def yX4_isScoreHere : MethodName := ⟨RX4, "isScoreHere", "()Z"⟩
def dkwX4_isScoreHere_2 : List UInt8 := [180, 0, 26, 16, 78, 27, 96, 92, 46, 4, 42, 180, 0, 127, 120, 128, 79, 4, 172]
abbrev dktX4_isScoreHere_2 : List UInt8 := dkwX4_isScoreHere_2 ++ []
def dkwX4_isScoreHere_1 : List UInt8 := [180, 0, 127, 60, 42, 3, 42, 180, 0, 26, 6, 46, 4, 100, 182, 0, 179, 154, 0, 5, 3, 172, 42]
abbrev dktX4_isScoreHere_1 : List UInt8 := dkwX4_isScoreHere_1 ++ dktX4_isScoreHere_2
def dkwX4_isScoreHere_0 : List UInt8 := [42, 182, 0, 117, 42, 3, 42, 180, 0, 26, 4, 46, 4, 100, 182, 0, 179, 154, 0, 5, 3, 172, 42]
abbrev dktX4_isScoreHere_0 : List UInt8 := dkwX4_isScoreHere_0 ++ dktX4_isScoreHere_1
theorem dksX4_isScoreHere_0 : cX4_isScoreHere.data.toList.drop 0 = dktX4_isScoreHere_0 := by decide +kernel
theorem dksX4_isScoreHere_1 : cX4_isScoreHere.data.toList.drop 23 = dktX4_isScoreHere_1 := dk_seg dksX4_isScoreHere_0 23 rfl rfl
theorem dksX4_isScoreHere_2 : cX4_isScoreHere.data.toList.drop 46 = dktX4_isScoreHere_2 := dk_seg dksX4_isScoreHere_1 23 rfl rfl
theorem dX4_isScoreHere_0 : decode cX4_isScoreHere 0 = .ok (.aload_n 0, 1) := dk_42 (dk_at dksX4_isScoreHere_0 0 rfl rfl)
theorem dX4_isScoreHere_1 : decode cX4_isScoreHere 1 = .ok (.invokevirtual 117, 3) := dk_182 0 117 (dk_at dksX4_isScoreHere_0 1 rfl rfl)
theorem dX4_isScoreHere_4 : decode cX4_isScoreHere 4 = .ok (.aload_n 0, 1) := dk_42 (dk_at dksX4_isScoreHere_0 4 rfl rfl)
theorem dX4_isScoreHere_5 : decode cX4_isScoreHere 5 = .ok (.iconst 0, 1) := dk_3 (dk_at dksX4_isScoreHere_0 5 rfl rfl)
theorem dX4_isScoreHere_6 : decode cX4_isScoreHere 6 = .ok (.aload_n 0, 1) := dk_42 (dk_at dksX4_isScoreHere_0 6 rfl rfl)
theorem dX4_isScoreHere_7 : decode cX4_isScoreHere 7 = .ok (.getfield 26, 3) := dk_180 0 26 (dk_at dksX4_isScoreHere_0 7 rfl rfl)
theorem dX4_isScoreHere_10 : decode cX4_isScoreHere 10 = .ok (.iconst 1, 1) := dk_4 (dk_at dksX4_isScoreHere_0 10 rfl rfl)
theorem dX4_isScoreHere_11 : decode cX4_isScoreHere 11 = .ok (.iaload, 1) := dk_46 (dk_at dksX4_isScoreHere_0 11 rfl rfl)
theorem dX4_isScoreHere_12 : decode cX4_isScoreHere 12 = .ok (.iconst 1, 1) := dk_4 (dk_at dksX4_isScoreHere_0 12 rfl rfl)
theorem dX4_isScoreHere_13 : decode cX4_isScoreHere 13 = .ok (.isub, 1) := dk_100 (dk_at dksX4_isScoreHere_0 13 rfl rfl)
theorem dX4_isScoreHere_14 : decode cX4_isScoreHere 14 = .ok (.invokevirtual 179, 3) := dk_182 0 179 (dk_at dksX4_isScoreHere_0 14 rfl rfl)
theorem dX4_isScoreHere_17 : decode cX4_isScoreHere 17 = .ok (.ifCond .ne 5, 3) := dk_154 0 5 (dk_at dksX4_isScoreHere_0 17 rfl rfl)
theorem dX4_isScoreHere_20 : decode cX4_isScoreHere 20 = .ok (.iconst 0, 1) := dk_3 (dk_at dksX4_isScoreHere_0 20 rfl rfl)
theorem dX4_isScoreHere_21 : decode cX4_isScoreHere 21 = .ok (.ireturn, 1) := dk_172 (dk_at dksX4_isScoreHere_0 21 rfl rfl)
theorem dX4_isScoreHere_22 : decode cX4_isScoreHere 22 = .ok (.aload_n 0, 1) := dk_42 (dk_at dksX4_isScoreHere_0 22 rfl rfl)
theorem dX4_isScoreHere_23 : decode cX4_isScoreHere 23 = .ok (.getfield 127, 3) := dk_180 0 127 (dk_at dksX4_isScoreHere_1 0 rfl rfl)
theorem dX4_isScoreHere_26 : decode cX4_isScoreHere 26 = .ok (.istore_n 1, 1) := dk_60 (dk_at dksX4_isScoreHere_1 3 rfl rfl)
theorem dX4_isScoreHere_27 : decode cX4_isScoreHere 27 = .ok (.aload_n 0, 1) := dk_42 (dk_at dksX4_isScoreHere_1 4 rfl rfl)
theorem dX4_isScoreHere_28 : decode cX4_isScoreHere 28 = .ok (.iconst 0, 1) := dk_3 (dk_at dksX4_isScoreHere_1 5 rfl rfl)
theorem dX4_isScoreHere_29 : decode cX4_isScoreHere 29 = .ok (.aload_n 0, 1) := dk_42 (dk_at dksX4_isScoreHere_1 6 rfl rfl)
theorem dX4_isScoreHere_30 : decode cX4_isScoreHere 30 = .ok (.getfield 26, 3) := dk_180 0 26 (dk_at dksX4_isScoreHere_1 7 rfl rfl)
theorem dX4_isScoreHere_33 : decode cX4_isScoreHere 33 = .ok (.iconst 3, 1) := dk_6 (dk_at dksX4_isScoreHere_1 10 rfl rfl)
theorem dX4_isScoreHere_34 : decode cX4_isScoreHere 34 = .ok (.iaload, 1) := dk_46 (dk_at dksX4_isScoreHere_1 11 rfl rfl)
theorem dX4_isScoreHere_35 : decode cX4_isScoreHere 35 = .ok (.iconst 1, 1) := dk_4 (dk_at dksX4_isScoreHere_1 12 rfl rfl)
theorem dX4_isScoreHere_36 : decode cX4_isScoreHere 36 = .ok (.isub, 1) := dk_100 (dk_at dksX4_isScoreHere_1 13 rfl rfl)
theorem dX4_isScoreHere_37 : decode cX4_isScoreHere 37 = .ok (.invokevirtual 179, 3) := dk_182 0 179 (dk_at dksX4_isScoreHere_1 14 rfl rfl)
theorem dX4_isScoreHere_40 : decode cX4_isScoreHere 40 = .ok (.ifCond .ne 5, 3) := dk_154 0 5 (dk_at dksX4_isScoreHere_1 17 rfl rfl)
theorem dX4_isScoreHere_43 : decode cX4_isScoreHere 43 = .ok (.iconst 0, 1) := dk_3 (dk_at dksX4_isScoreHere_1 20 rfl rfl)
theorem dX4_isScoreHere_44 : decode cX4_isScoreHere 44 = .ok (.ireturn, 1) := dk_172 (dk_at dksX4_isScoreHere_1 21 rfl rfl)
theorem dX4_isScoreHere_45 : decode cX4_isScoreHere 45 = .ok (.aload_n 0, 1) := dk_42 (dk_at dksX4_isScoreHere_1 22 rfl rfl)
theorem dX4_isScoreHere_46 : decode cX4_isScoreHere 46 = .ok (.getfield 26, 3) := dk_180 0 26 (dk_at dksX4_isScoreHere_2 0 rfl rfl)
theorem dX4_isScoreHere_49 : decode cX4_isScoreHere 49 = .ok (.bipush 78, 2) := dk_16 78 (dk_at dksX4_isScoreHere_2 3 rfl rfl)
theorem dX4_isScoreHere_51 : decode cX4_isScoreHere 51 = .ok (.iload_n 1, 1) := dk_27 (dk_at dksX4_isScoreHere_2 5 rfl rfl)
theorem dX4_isScoreHere_52 : decode cX4_isScoreHere 52 = .ok (.iadd, 1) := dk_96 (dk_at dksX4_isScoreHere_2 6 rfl rfl)
theorem dX4_isScoreHere_53 : decode cX4_isScoreHere 53 = .ok (.dup2, 1) := dk_92 (dk_at dksX4_isScoreHere_2 7 rfl rfl)
theorem dX4_isScoreHere_54 : decode cX4_isScoreHere 54 = .ok (.iaload, 1) := dk_46 (dk_at dksX4_isScoreHere_2 8 rfl rfl)
theorem dX4_isScoreHere_55 : decode cX4_isScoreHere 55 = .ok (.iconst 1, 1) := dk_4 (dk_at dksX4_isScoreHere_2 9 rfl rfl)
theorem dX4_isScoreHere_56 : decode cX4_isScoreHere 56 = .ok (.aload_n 0, 1) := dk_42 (dk_at dksX4_isScoreHere_2 10 rfl rfl)
theorem dX4_isScoreHere_57 : decode cX4_isScoreHere 57 = .ok (.getfield 127, 3) := dk_180 0 127 (dk_at dksX4_isScoreHere_2 11 rfl rfl)
theorem dX4_isScoreHere_60 : decode cX4_isScoreHere 60 = .ok (.ishl, 1) := dk_120 (dk_at dksX4_isScoreHere_2 14 rfl rfl)
theorem dX4_isScoreHere_61 : decode cX4_isScoreHere 61 = .ok (.ior, 1) := dk_128 (dk_at dksX4_isScoreHere_2 15 rfl rfl)
theorem dX4_isScoreHere_62 : decode cX4_isScoreHere 62 = .ok (.iastore, 1) := dk_79 (dk_at dksX4_isScoreHere_2 16 rfl rfl)
theorem dX4_isScoreHere_63 : decode cX4_isScoreHere 63 = .ok (.iconst 1, 1) := dk_4 (dk_at dksX4_isScoreHere_2 17 rfl rfl)
theorem dX4_isScoreHere_64 : decode cX4_isScoreHere 64 = .ok (.ireturn, 1) := dk_172 (dk_at dksX4_isScoreHere_2 18 rfl rfl)
abbrev cX4_isLetHere : ByteArray := prog_19_method_30_code
def yX4_isLetHere : MethodName := ⟨RX4, "isLetHere", "()Z"⟩
def dkwX4_isLetHere_5 : List UInt8 := [180, 0, 17, 42, 180, 0, 158, 46, 79, 42, 180, 0, 23, 42, 180, 0, 158, 92, 46, 4, 96, 79, 4, 172]
abbrev dktX4_isLetHere_5 : List UInt8 := dkwX4_isLetHere_5 ++ []
def dkwX4_isLetHere_4 : List UInt8 := [180, 0, 158, 46, 79, 42, 182, 0, 227, 154, 0, 5, 3, 172, 42, 180, 0, 20, 27, 6, 96, 42]
abbrev dktX4_isLetHere_4 : List UInt8 := dkwX4_isLetHere_4 ++ dktX4_isLetHere_5
def dkwX4_isLetHere_3 : List UInt8 := [2, 79, 42, 20, 0, 222, 182, 0, 224, 153, 0, 29, 42, 180, 0, 20, 27, 5, 96, 42, 180, 0, 17, 42]
abbrev dktX4_isLetHere_3 : List UInt8 := dkwX4_isLetHere_3 ++ dktX4_isLetHere_4
def dkwX4_isLetHere_2 : List UInt8 := [42, 180, 0, 20, 27, 4, 96, 42, 180, 0, 17, 42, 180, 0, 158, 46, 79, 42, 180, 0, 20, 27, 5, 96]
abbrev dktX4_isLetHere_2 : List UInt8 := dkwX4_isLetHere_2 ++ dktX4_isLetHere_3
def dkwX4_isLetHere_1 : List UInt8 := [42, 180, 0, 20, 27, 42, 180, 0, 17, 42, 180, 0, 158, 46, 79, 42, 182, 0, 195, 154, 0, 5, 3, 172]
abbrev dktX4_isLetHere_1 : List UInt8 := dkwX4_isLetHere_1 ++ dktX4_isLetHere_2
def dkwX4_isLetHere_0 : List UInt8 := [42, 182, 0, 117, 16, 48, 42, 180, 0, 158, 104, 7, 42, 180, 0, 23, 42, 180, 0, 158, 46, 104, 96, 60]
abbrev dktX4_isLetHere_0 : List UInt8 := dkwX4_isLetHere_0 ++ dktX4_isLetHere_1
theorem dksX4_isLetHere_0 : cX4_isLetHere.data.toList.drop 0 = dktX4_isLetHere_0 := by decide +kernel
theorem dksX4_isLetHere_1 : cX4_isLetHere.data.toList.drop 24 = dktX4_isLetHere_1 := dk_seg dksX4_isLetHere_0 24 rfl rfl
theorem dksX4_isLetHere_2 : cX4_isLetHere.data.toList.drop 48 = dktX4_isLetHere_2 := dk_seg dksX4_isLetHere_1 24 rfl rfl
theorem dksX4_isLetHere_3 : cX4_isLetHere.data.toList.drop 72 = dktX4_isLetHere_3 := dk_seg dksX4_isLetHere_2 24 rfl rfl
theorem dksX4_isLetHere_4 : cX4_isLetHere.data.toList.drop 96 = dktX4_isLetHere_4 := dk_seg dksX4_isLetHere_3 24 rfl rfl
theorem dksX4_isLetHere_5 : cX4_isLetHere.data.toList.drop 118 = dktX4_isLetHere_5 := dk_seg dksX4_isLetHere_4 22 rfl rfl
theorem dX4_isLetHere_0 : decode cX4_isLetHere 0 = .ok (.aload_n 0, 1) := dk_42 (dk_at dksX4_isLetHere_0 0 rfl rfl)
theorem dX4_isLetHere_1 : decode cX4_isLetHere 1 = .ok (.invokevirtual 117, 3) := dk_182 0 117 (dk_at dksX4_isLetHere_0 1 rfl rfl)
theorem dX4_isLetHere_4 : decode cX4_isLetHere 4 = .ok (.bipush 48, 2) := dk_16 48 (dk_at dksX4_isLetHere_0 4 rfl rfl)
theorem dX4_isLetHere_6 : decode cX4_isLetHere 6 = .ok (.aload_n 0, 1) := dk_42 (dk_at dksX4_isLetHere_0 6 rfl rfl)
theorem dX4_isLetHere_7 : decode cX4_isLetHere 7 = .ok (.getfield 158, 3) := dk_180 0 158 (dk_at dksX4_isLetHere_0 7 rfl rfl)
theorem dX4_isLetHere_10 : decode cX4_isLetHere 10 = .ok (.imul, 1) := dk_104 (dk_at dksX4_isLetHere_0 10 rfl rfl)
theorem dX4_isLetHere_11 : decode cX4_isLetHere 11 = .ok (.iconst 4, 1) := dk_7 (dk_at dksX4_isLetHere_0 11 rfl rfl)
theorem dX4_isLetHere_12 : decode cX4_isLetHere 12 = .ok (.aload_n 0, 1) := dk_42 (dk_at dksX4_isLetHere_0 12 rfl rfl)
theorem dX4_isLetHere_13 : decode cX4_isLetHere 13 = .ok (.getfield 23, 3) := dk_180 0 23 (dk_at dksX4_isLetHere_0 13 rfl rfl)
theorem dX4_isLetHere_16 : decode cX4_isLetHere 16 = .ok (.aload_n 0, 1) := dk_42 (dk_at dksX4_isLetHere_0 16 rfl rfl)
theorem dX4_isLetHere_17 : decode cX4_isLetHere 17 = .ok (.getfield 158, 3) := dk_180 0 158 (dk_at dksX4_isLetHere_0 17 rfl rfl)
theorem dX4_isLetHere_20 : decode cX4_isLetHere 20 = .ok (.iaload, 1) := dk_46 (dk_at dksX4_isLetHere_0 20 rfl rfl)
theorem dX4_isLetHere_21 : decode cX4_isLetHere 21 = .ok (.imul, 1) := dk_104 (dk_at dksX4_isLetHere_0 21 rfl rfl)
theorem dX4_isLetHere_22 : decode cX4_isLetHere 22 = .ok (.iadd, 1) := dk_96 (dk_at dksX4_isLetHere_0 22 rfl rfl)
theorem dX4_isLetHere_23 : decode cX4_isLetHere 23 = .ok (.istore_n 1, 1) := dk_60 (dk_at dksX4_isLetHere_0 23 rfl rfl)
theorem dX4_isLetHere_24 : decode cX4_isLetHere 24 = .ok (.aload_n 0, 1) := dk_42 (dk_at dksX4_isLetHere_1 0 rfl rfl)
theorem dX4_isLetHere_25 : decode cX4_isLetHere 25 = .ok (.getfield 20, 3) := dk_180 0 20 (dk_at dksX4_isLetHere_1 1 rfl rfl)
theorem dX4_isLetHere_28 : decode cX4_isLetHere 28 = .ok (.iload_n 1, 1) := dk_27 (dk_at dksX4_isLetHere_1 4 rfl rfl)
theorem dX4_isLetHere_29 : decode cX4_isLetHere 29 = .ok (.aload_n 0, 1) := dk_42 (dk_at dksX4_isLetHere_1 5 rfl rfl)
theorem dX4_isLetHere_30 : decode cX4_isLetHere 30 = .ok (.getfield 17, 3) := dk_180 0 17 (dk_at dksX4_isLetHere_1 6 rfl rfl)
theorem dX4_isLetHere_33 : decode cX4_isLetHere 33 = .ok (.aload_n 0, 1) := dk_42 (dk_at dksX4_isLetHere_1 9 rfl rfl)
theorem dX4_isLetHere_34 : decode cX4_isLetHere 34 = .ok (.getfield 158, 3) := dk_180 0 158 (dk_at dksX4_isLetHere_1 10 rfl rfl)
theorem dX4_isLetHere_37 : decode cX4_isLetHere 37 = .ok (.iaload, 1) := dk_46 (dk_at dksX4_isLetHere_1 13 rfl rfl)
theorem dX4_isLetHere_38 : decode cX4_isLetHere 38 = .ok (.iastore, 1) := dk_79 (dk_at dksX4_isLetHere_1 14 rfl rfl)
theorem dX4_isLetHere_39 : decode cX4_isLetHere 39 = .ok (.aload_n 0, 1) := dk_42 (dk_at dksX4_isLetHere_1 15 rfl rfl)
theorem dX4_isLetHere_40 : decode cX4_isLetHere 40 = .ok (.invokevirtual 195, 3) := dk_182 0 195 (dk_at dksX4_isLetHere_1 16 rfl rfl)
theorem dX4_isLetHere_43 : decode cX4_isLetHere 43 = .ok (.ifCond .ne 5, 3) := dk_154 0 5 (dk_at dksX4_isLetHere_1 19 rfl rfl)
theorem dX4_isLetHere_46 : decode cX4_isLetHere 46 = .ok (.iconst 0, 1) := dk_3 (dk_at dksX4_isLetHere_1 22 rfl rfl)
theorem dX4_isLetHere_47 : decode cX4_isLetHere 47 = .ok (.ireturn, 1) := dk_172 (dk_at dksX4_isLetHere_1 23 rfl rfl)
theorem dX4_isLetHere_48 : decode cX4_isLetHere 48 = .ok (.aload_n 0, 1) := dk_42 (dk_at dksX4_isLetHere_2 0 rfl rfl)
theorem dX4_isLetHere_49 : decode cX4_isLetHere 49 = .ok (.getfield 20, 3) := dk_180 0 20 (dk_at dksX4_isLetHere_2 1 rfl rfl)
theorem dX4_isLetHere_52 : decode cX4_isLetHere 52 = .ok (.iload_n 1, 1) := dk_27 (dk_at dksX4_isLetHere_2 4 rfl rfl)
theorem dX4_isLetHere_53 : decode cX4_isLetHere 53 = .ok (.iconst 1, 1) := dk_4 (dk_at dksX4_isLetHere_2 5 rfl rfl)
theorem dX4_isLetHere_54 : decode cX4_isLetHere 54 = .ok (.iadd, 1) := dk_96 (dk_at dksX4_isLetHere_2 6 rfl rfl)
theorem dX4_isLetHere_55 : decode cX4_isLetHere 55 = .ok (.aload_n 0, 1) := dk_42 (dk_at dksX4_isLetHere_2 7 rfl rfl)
theorem dX4_isLetHere_56 : decode cX4_isLetHere 56 = .ok (.getfield 17, 3) := dk_180 0 17 (dk_at dksX4_isLetHere_2 8 rfl rfl)
theorem dX4_isLetHere_59 : decode cX4_isLetHere 59 = .ok (.aload_n 0, 1) := dk_42 (dk_at dksX4_isLetHere_2 11 rfl rfl)
theorem dX4_isLetHere_60 : decode cX4_isLetHere 60 = .ok (.getfield 158, 3) := dk_180 0 158 (dk_at dksX4_isLetHere_2 12 rfl rfl)
theorem dX4_isLetHere_63 : decode cX4_isLetHere 63 = .ok (.iaload, 1) := dk_46 (dk_at dksX4_isLetHere_2 15 rfl rfl)
theorem dX4_isLetHere_64 : decode cX4_isLetHere 64 = .ok (.iastore, 1) := dk_79 (dk_at dksX4_isLetHere_2 16 rfl rfl)
theorem dX4_isLetHere_65 : decode cX4_isLetHere 65 = .ok (.aload_n 0, 1) := dk_42 (dk_at dksX4_isLetHere_2 17 rfl rfl)
theorem dX4_isLetHere_66 : decode cX4_isLetHere 66 = .ok (.getfield 20, 3) := dk_180 0 20 (dk_at dksX4_isLetHere_2 18 rfl rfl)
theorem dX4_isLetHere_69 : decode cX4_isLetHere 69 = .ok (.iload_n 1, 1) := dk_27 (dk_at dksX4_isLetHere_2 21 rfl rfl)
theorem dX4_isLetHere_70 : decode cX4_isLetHere 70 = .ok (.iconst 2, 1) := dk_5 (dk_at dksX4_isLetHere_2 22 rfl rfl)
theorem dX4_isLetHere_71 : decode cX4_isLetHere 71 = .ok (.iadd, 1) := dk_96 (dk_at dksX4_isLetHere_2 23 rfl rfl)
theorem dX4_isLetHere_72 : decode cX4_isLetHere 72 = .ok (.iconst (-1), 1) := dk_2 (dk_at dksX4_isLetHere_3 0 rfl rfl)
theorem dX4_isLetHere_73 : decode cX4_isLetHere 73 = .ok (.iastore, 1) := dk_79 (dk_at dksX4_isLetHere_3 1 rfl rfl)
theorem dX4_isLetHere_74 : decode cX4_isLetHere 74 = .ok (.aload_n 0, 1) := dk_42 (dk_at dksX4_isLetHere_3 2 rfl rfl)
theorem dX4_isLetHere_75 : decode cX4_isLetHere 75 = .ok (.ldc2_w 222, 3) := dk_20 0 222 (dk_at dksX4_isLetHere_3 3 rfl rfl)
theorem dX4_isLetHere_78 : decode cX4_isLetHere 78 = .ok (.invokevirtual 224, 3) := dk_182 0 224 (dk_at dksX4_isLetHere_3 6 rfl rfl)
theorem dX4_isLetHere_81 : decode cX4_isLetHere 81 = .ok (.ifCond .eq 29, 3) := dk_153 0 29 (dk_at dksX4_isLetHere_3 9 rfl rfl)
theorem dX4_isLetHere_84 : decode cX4_isLetHere 84 = .ok (.aload_n 0, 1) := dk_42 (dk_at dksX4_isLetHere_3 12 rfl rfl)
theorem dX4_isLetHere_85 : decode cX4_isLetHere 85 = .ok (.getfield 20, 3) := dk_180 0 20 (dk_at dksX4_isLetHere_3 13 rfl rfl)
theorem dX4_isLetHere_88 : decode cX4_isLetHere 88 = .ok (.iload_n 1, 1) := dk_27 (dk_at dksX4_isLetHere_3 16 rfl rfl)
theorem dX4_isLetHere_89 : decode cX4_isLetHere 89 = .ok (.iconst 2, 1) := dk_5 (dk_at dksX4_isLetHere_3 17 rfl rfl)
theorem dX4_isLetHere_90 : decode cX4_isLetHere 90 = .ok (.iadd, 1) := dk_96 (dk_at dksX4_isLetHere_3 18 rfl rfl)
theorem dX4_isLetHere_91 : decode cX4_isLetHere 91 = .ok (.aload_n 0, 1) := dk_42 (dk_at dksX4_isLetHere_3 19 rfl rfl)
theorem dX4_isLetHere_92 : decode cX4_isLetHere 92 = .ok (.getfield 17, 3) := dk_180 0 17 (dk_at dksX4_isLetHere_3 20 rfl rfl)
theorem dX4_isLetHere_95 : decode cX4_isLetHere 95 = .ok (.aload_n 0, 1) := dk_42 (dk_at dksX4_isLetHere_3 23 rfl rfl)
theorem dX4_isLetHere_96 : decode cX4_isLetHere 96 = .ok (.getfield 158, 3) := dk_180 0 158 (dk_at dksX4_isLetHere_4 0 rfl rfl)
theorem dX4_isLetHere_99 : decode cX4_isLetHere 99 = .ok (.iaload, 1) := dk_46 (dk_at dksX4_isLetHere_4 3 rfl rfl)
theorem dX4_isLetHere_100 : decode cX4_isLetHere 100 = .ok (.iastore, 1) := dk_79 (dk_at dksX4_isLetHere_4 4 rfl rfl)
theorem dX4_isLetHere_101 : decode cX4_isLetHere 101 = .ok (.aload_n 0, 1) := dk_42 (dk_at dksX4_isLetHere_4 5 rfl rfl)
theorem dX4_isLetHere_102 : decode cX4_isLetHere 102 = .ok (.invokevirtual 227, 3) := dk_182 0 227 (dk_at dksX4_isLetHere_4 6 rfl rfl)
theorem dX4_isLetHere_105 : decode cX4_isLetHere 105 = .ok (.ifCond .ne 5, 3) := dk_154 0 5 (dk_at dksX4_isLetHere_4 9 rfl rfl)
theorem dX4_isLetHere_108 : decode cX4_isLetHere 108 = .ok (.iconst 0, 1) := dk_3 (dk_at dksX4_isLetHere_4 12 rfl rfl)
theorem dX4_isLetHere_109 : decode cX4_isLetHere 109 = .ok (.ireturn, 1) := dk_172 (dk_at dksX4_isLetHere_4 13 rfl rfl)
theorem dX4_isLetHere_110 : decode cX4_isLetHere 110 = .ok (.aload_n 0, 1) := dk_42 (dk_at dksX4_isLetHere_4 14 rfl rfl)
theorem dX4_isLetHere_111 : decode cX4_isLetHere 111 = .ok (.getfield 20, 3) := dk_180 0 20 (dk_at dksX4_isLetHere_4 15 rfl rfl)
theorem dX4_isLetHere_114 : decode cX4_isLetHere 114 = .ok (.iload_n 1, 1) := dk_27 (dk_at dksX4_isLetHere_4 18 rfl rfl)
theorem dX4_isLetHere_115 : decode cX4_isLetHere 115 = .ok (.iconst 3, 1) := dk_6 (dk_at dksX4_isLetHere_4 19 rfl rfl)
theorem dX4_isLetHere_116 : decode cX4_isLetHere 116 = .ok (.iadd, 1) := dk_96 (dk_at dksX4_isLetHere_4 20 rfl rfl)
theorem dX4_isLetHere_117 : decode cX4_isLetHere 117 = .ok (.aload_n 0, 1) := dk_42 (dk_at dksX4_isLetHere_4 21 rfl rfl)
theorem dX4_isLetHere_118 : decode cX4_isLetHere 118 = .ok (.getfield 17, 3) := dk_180 0 17 (dk_at dksX4_isLetHere_5 0 rfl rfl)
theorem dX4_isLetHere_121 : decode cX4_isLetHere 121 = .ok (.aload_n 0, 1) := dk_42 (dk_at dksX4_isLetHere_5 3 rfl rfl)
theorem dX4_isLetHere_122 : decode cX4_isLetHere 122 = .ok (.getfield 158, 3) := dk_180 0 158 (dk_at dksX4_isLetHere_5 4 rfl rfl)
theorem dX4_isLetHere_125 : decode cX4_isLetHere 125 = .ok (.iaload, 1) := dk_46 (dk_at dksX4_isLetHere_5 7 rfl rfl)
theorem dX4_isLetHere_126 : decode cX4_isLetHere 126 = .ok (.iastore, 1) := dk_79 (dk_at dksX4_isLetHere_5 8 rfl rfl)
theorem dX4_isLetHere_127 : decode cX4_isLetHere 127 = .ok (.aload_n 0, 1) := dk_42 (dk_at dksX4_isLetHere_5 9 rfl rfl)
theorem dX4_isLetHere_128 : decode cX4_isLetHere 128 = .ok (.getfield 23, 3) := dk_180 0 23 (dk_at dksX4_isLetHere_5 10 rfl rfl)
theorem dX4_isLetHere_131 : decode cX4_isLetHere 131 = .ok (.aload_n 0, 1) := dk_42 (dk_at dksX4_isLetHere_5 13 rfl rfl)
theorem dX4_isLetHere_132 : decode cX4_isLetHere 132 = .ok (.getfield 158, 3) := dk_180 0 158 (dk_at dksX4_isLetHere_5 14 rfl rfl)
theorem dX4_isLetHere_135 : decode cX4_isLetHere 135 = .ok (.dup2, 1) := dk_92 (dk_at dksX4_isLetHere_5 17 rfl rfl)
theorem dX4_isLetHere_136 : decode cX4_isLetHere 136 = .ok (.iaload, 1) := dk_46 (dk_at dksX4_isLetHere_5 18 rfl rfl)
theorem dX4_isLetHere_137 : decode cX4_isLetHere 137 = .ok (.iconst 1, 1) := dk_4 (dk_at dksX4_isLetHere_5 19 rfl rfl)
theorem dX4_isLetHere_138 : decode cX4_isLetHere 138 = .ok (.iadd, 1) := dk_96 (dk_at dksX4_isLetHere_5 20 rfl rfl)
theorem dX4_isLetHere_139 : decode cX4_isLetHere 139 = .ok (.iastore, 1) := dk_79 (dk_at dksX4_isLetHere_5 21 rfl rfl)
theorem dX4_isLetHere_140 : decode cX4_isLetHere 140 = .ok (.iconst 1, 1) := dk_4 (dk_at dksX4_isLetHere_5 22 rfl rfl)
theorem dX4_isLetHere_141 : decode cX4_isLetHere 141 = .ok (.ireturn, 1) := dk_172 (dk_at dksX4_isLetHere_5 23 rfl rfl)
abbrev cX4_sum : ByteArray := prog_19_method_24_code
def yX4_sum : MethodName := ⟨RX4, "sum", "()Z"⟩
def dkwX4_sum_3 : List UInt8 := [167, 255, 193, 4, 172]
abbrev dktX4_sum_3 : List UInt8 := dkwX4_sum_3 ++ []
def dkwX4_sum_2 : List UInt8 := [89, 180, 0, 102, 4, 96, 181, 0, 102, 42, 182, 0, 192, 154, 0, 5, 3, 172, 42, 27, 3, 182, 0, 174]
abbrev dktX4_sum_2 : List UInt8 := dkwX4_sum_2 ++ dktX4_sum_3
def dkwX4_sum_1 : List UInt8 := [160, 0, 51, 42, 180, 0, 7, 42, 180, 0, 102, 51, 16, 43, 160, 0, 7, 5, 167, 0, 4, 6, 60, 42]
abbrev dktX4_sum_1 : List UInt8 := dkwX4_sum_1 ++ dktX4_sum_2
def dkwX4_sum_0 : List UInt8 := [42, 182, 0, 192, 154, 0, 5, 3, 172, 42, 182, 0, 105, 16, 43, 159, 0, 12, 42, 182, 0, 105, 16, 45]
abbrev dktX4_sum_0 : List UInt8 := dkwX4_sum_0 ++ dktX4_sum_1
theorem dksX4_sum_0 : cX4_sum.data.toList.drop 0 = dktX4_sum_0 := by decide +kernel
theorem dksX4_sum_1 : cX4_sum.data.toList.drop 24 = dktX4_sum_1 := dk_seg dksX4_sum_0 24 rfl rfl
theorem dksX4_sum_2 : cX4_sum.data.toList.drop 48 = dktX4_sum_2 := dk_seg dksX4_sum_1 24 rfl rfl
theorem dksX4_sum_3 : cX4_sum.data.toList.drop 72 = dktX4_sum_3 := dk_seg dksX4_sum_2 24 rfl rfl
theorem dX4_sum_0 : decode cX4_sum 0 = .ok (.aload_n 0, 1) := dk_42 (dk_at dksX4_sum_0 0 rfl rfl)
theorem dX4_sum_1 : decode cX4_sum 1 = .ok (.invokevirtual 192, 3) := dk_182 0 192 (dk_at dksX4_sum_0 1 rfl rfl)
theorem dX4_sum_4 : decode cX4_sum 4 = .ok (.ifCond .ne 5, 3) := dk_154 0 5 (dk_at dksX4_sum_0 4 rfl rfl)
theorem dX4_sum_7 : decode cX4_sum 7 = .ok (.iconst 0, 1) := dk_3 (dk_at dksX4_sum_0 7 rfl rfl)
theorem dX4_sum_8 : decode cX4_sum 8 = .ok (.ireturn, 1) := dk_172 (dk_at dksX4_sum_0 8 rfl rfl)
theorem dX4_sum_9 : decode cX4_sum 9 = .ok (.aload_n 0, 1) := dk_42 (dk_at dksX4_sum_0 9 rfl rfl)
theorem dX4_sum_10 : decode cX4_sum 10 = .ok (.invokevirtual 105, 3) := dk_182 0 105 (dk_at dksX4_sum_0 10 rfl rfl)
theorem dX4_sum_13 : decode cX4_sum 13 = .ok (.bipush 43, 2) := dk_16 43 (dk_at dksX4_sum_0 13 rfl rfl)
theorem dX4_sum_15 : decode cX4_sum 15 = .ok (.if_icmp .eq 12, 3) := dk_159 0 12 (dk_at dksX4_sum_0 15 rfl rfl)
theorem dX4_sum_18 : decode cX4_sum 18 = .ok (.aload_n 0, 1) := dk_42 (dk_at dksX4_sum_0 18 rfl rfl)
theorem dX4_sum_19 : decode cX4_sum 19 = .ok (.invokevirtual 105, 3) := dk_182 0 105 (dk_at dksX4_sum_0 19 rfl rfl)
theorem dX4_sum_22 : decode cX4_sum 22 = .ok (.bipush 45, 2) := dk_16 45 (dk_at dksX4_sum_0 22 rfl rfl)
theorem dX4_sum_24 : decode cX4_sum 24 = .ok (.if_icmp .ne 51, 3) := dk_160 0 51 (dk_at dksX4_sum_1 0 rfl rfl)
theorem dX4_sum_27 : decode cX4_sum 27 = .ok (.aload_n 0, 1) := dk_42 (dk_at dksX4_sum_1 3 rfl rfl)
theorem dX4_sum_28 : decode cX4_sum 28 = .ok (.getfield 7, 3) := dk_180 0 7 (dk_at dksX4_sum_1 4 rfl rfl)
theorem dX4_sum_31 : decode cX4_sum 31 = .ok (.aload_n 0, 1) := dk_42 (dk_at dksX4_sum_1 7 rfl rfl)
theorem dX4_sum_32 : decode cX4_sum 32 = .ok (.getfield 102, 3) := dk_180 0 102 (dk_at dksX4_sum_1 8 rfl rfl)
theorem dX4_sum_35 : decode cX4_sum 35 = .ok (.baload, 1) := dk_51 (dk_at dksX4_sum_1 11 rfl rfl)
theorem dX4_sum_36 : decode cX4_sum 36 = .ok (.bipush 43, 2) := dk_16 43 (dk_at dksX4_sum_1 12 rfl rfl)
theorem dX4_sum_38 : decode cX4_sum 38 = .ok (.if_icmp .ne 7, 3) := dk_160 0 7 (dk_at dksX4_sum_1 14 rfl rfl)
theorem dX4_sum_41 : decode cX4_sum 41 = .ok (.iconst 2, 1) := dk_5 (dk_at dksX4_sum_1 17 rfl rfl)
theorem dX4_sum_42 : decode cX4_sum 42 = .ok (.goto 4, 3) := dk_167 0 4 (dk_at dksX4_sum_1 18 rfl rfl)
theorem dX4_sum_45 : decode cX4_sum 45 = .ok (.iconst 3, 1) := dk_6 (dk_at dksX4_sum_1 21 rfl rfl)
theorem dX4_sum_46 : decode cX4_sum 46 = .ok (.istore_n 1, 1) := dk_60 (dk_at dksX4_sum_1 22 rfl rfl)
theorem dX4_sum_47 : decode cX4_sum 47 = .ok (.aload_n 0, 1) := dk_42 (dk_at dksX4_sum_1 23 rfl rfl)
theorem dX4_sum_48 : decode cX4_sum 48 = .ok (.dup, 1) := dk_89 (dk_at dksX4_sum_2 0 rfl rfl)
theorem dX4_sum_49 : decode cX4_sum 49 = .ok (.getfield 102, 3) := dk_180 0 102 (dk_at dksX4_sum_2 1 rfl rfl)
theorem dX4_sum_52 : decode cX4_sum 52 = .ok (.iconst 1, 1) := dk_4 (dk_at dksX4_sum_2 4 rfl rfl)
theorem dX4_sum_53 : decode cX4_sum 53 = .ok (.iadd, 1) := dk_96 (dk_at dksX4_sum_2 5 rfl rfl)
theorem dX4_sum_54 : decode cX4_sum 54 = .ok (.putfield 102, 3) := dk_181 0 102 (dk_at dksX4_sum_2 6 rfl rfl)
theorem dX4_sum_57 : decode cX4_sum 57 = .ok (.aload_n 0, 1) := dk_42 (dk_at dksX4_sum_2 9 rfl rfl)
theorem dX4_sum_58 : decode cX4_sum 58 = .ok (.invokevirtual 192, 3) := dk_182 0 192 (dk_at dksX4_sum_2 10 rfl rfl)
theorem dX4_sum_61 : decode cX4_sum 61 = .ok (.ifCond .ne 5, 3) := dk_154 0 5 (dk_at dksX4_sum_2 13 rfl rfl)
theorem dX4_sum_64 : decode cX4_sum 64 = .ok (.iconst 0, 1) := dk_3 (dk_at dksX4_sum_2 16 rfl rfl)
theorem dX4_sum_65 : decode cX4_sum 65 = .ok (.ireturn, 1) := dk_172 (dk_at dksX4_sum_2 17 rfl rfl)
theorem dX4_sum_66 : decode cX4_sum 66 = .ok (.aload_n 0, 1) := dk_42 (dk_at dksX4_sum_2 18 rfl rfl)
theorem dX4_sum_67 : decode cX4_sum 67 = .ok (.iload_n 1, 1) := dk_27 (dk_at dksX4_sum_2 19 rfl rfl)
theorem dX4_sum_68 : decode cX4_sum 68 = .ok (.iconst 0, 1) := dk_3 (dk_at dksX4_sum_2 20 rfl rfl)
theorem dX4_sum_69 : decode cX4_sum 69 = .ok (.invokevirtual 174, 3) := dk_182 0 174 (dk_at dksX4_sum_2 21 rfl rfl)
theorem dX4_sum_72 : decode cX4_sum 72 = .ok (.goto (-63), 3) := dk_167 255 193 (dk_at dksX4_sum_3 0 rfl rfl)
theorem dX4_sum_75 : decode cX4_sum 75 = .ok (.iconst 1, 1) := dk_4 (dk_at dksX4_sum_3 3 rfl rfl)
theorem dX4_sum_76 : decode cX4_sum 76 = .ok (.ireturn, 1) := dk_172 (dk_at dksX4_sum_3 4 rfl rfl)
abbrev cX4_term : ByteArray := prog_19_method_23_code
def yX4_term : MethodName := ⟨RX4, "term", "()Z"⟩
def dkwX4_term_4 : List UInt8 := [172, 42, 27, 3, 182, 0, 174, 167, 255, 165, 4, 172]
abbrev dktX4_term_4 : List UInt8 := dkwX4_term_4 ++ []
def dkwX4_term_3 : List UInt8 := [167, 0, 5, 16, 14, 60, 42, 89, 180, 0, 102, 4, 96, 181, 0, 102, 42, 182, 0, 188, 154, 0, 5, 3]
abbrev dktX4_term_3 : List UInt8 := dkwX4_term_3 ++ dktX4_term_4
def dkwX4_term_2 : List UInt8 := [160, 0, 7, 7, 167, 0, 23, 42, 180, 0, 7, 42, 180, 0, 102, 51, 16, 47, 160, 0, 7, 8]
abbrev dktX4_term_2 : List UInt8 := dkwX4_term_2 ++ dktX4_term_3
def dkwX4_term_1 : List UInt8 := [159, 0, 12, 42, 182, 0, 105, 16, 37, 160, 0, 70, 42, 180, 0, 7, 42, 180, 0, 102, 51, 16, 42]
abbrev dktX4_term_1 : List UInt8 := dkwX4_term_1 ++ dktX4_term_2
def dkwX4_term_0 : List UInt8 := [42, 182, 0, 188, 154, 0, 5, 3, 172, 42, 182, 0, 105, 16, 42, 159, 0, 21, 42, 182, 0, 105, 16, 47]
abbrev dktX4_term_0 : List UInt8 := dkwX4_term_0 ++ dktX4_term_1
theorem dksX4_term_0 : cX4_term.data.toList.drop 0 = dktX4_term_0 := by decide +kernel
theorem dksX4_term_1 : cX4_term.data.toList.drop 24 = dktX4_term_1 := dk_seg dksX4_term_0 24 rfl rfl
theorem dksX4_term_2 : cX4_term.data.toList.drop 47 = dktX4_term_2 := dk_seg dksX4_term_1 23 rfl rfl
theorem dksX4_term_3 : cX4_term.data.toList.drop 69 = dktX4_term_3 := dk_seg dksX4_term_2 22 rfl rfl
theorem dksX4_term_4 : cX4_term.data.toList.drop 93 = dktX4_term_4 := dk_seg dksX4_term_3 24 rfl rfl
theorem dX4_term_0 : decode cX4_term 0 = .ok (.aload_n 0, 1) := dk_42 (dk_at dksX4_term_0 0 rfl rfl)
theorem dX4_term_1 : decode cX4_term 1 = .ok (.invokevirtual 188, 3) := dk_182 0 188 (dk_at dksX4_term_0 1 rfl rfl)
theorem dX4_term_4 : decode cX4_term 4 = .ok (.ifCond .ne 5, 3) := dk_154 0 5 (dk_at dksX4_term_0 4 rfl rfl)
theorem dX4_term_7 : decode cX4_term 7 = .ok (.iconst 0, 1) := dk_3 (dk_at dksX4_term_0 7 rfl rfl)
theorem dX4_term_8 : decode cX4_term 8 = .ok (.ireturn, 1) := dk_172 (dk_at dksX4_term_0 8 rfl rfl)
theorem dX4_term_9 : decode cX4_term 9 = .ok (.aload_n 0, 1) := dk_42 (dk_at dksX4_term_0 9 rfl rfl)
theorem dX4_term_10 : decode cX4_term 10 = .ok (.invokevirtual 105, 3) := dk_182 0 105 (dk_at dksX4_term_0 10 rfl rfl)
theorem dX4_term_13 : decode cX4_term 13 = .ok (.bipush 42, 2) := dk_16 42 (dk_at dksX4_term_0 13 rfl rfl)
theorem dX4_term_15 : decode cX4_term 15 = .ok (.if_icmp .eq 21, 3) := dk_159 0 21 (dk_at dksX4_term_0 15 rfl rfl)
theorem dX4_term_18 : decode cX4_term 18 = .ok (.aload_n 0, 1) := dk_42 (dk_at dksX4_term_0 18 rfl rfl)
theorem dX4_term_19 : decode cX4_term 19 = .ok (.invokevirtual 105, 3) := dk_182 0 105 (dk_at dksX4_term_0 19 rfl rfl)
theorem dX4_term_22 : decode cX4_term 22 = .ok (.bipush 47, 2) := dk_16 47 (dk_at dksX4_term_0 22 rfl rfl)
theorem dX4_term_24 : decode cX4_term 24 = .ok (.if_icmp .eq 12, 3) := dk_159 0 12 (dk_at dksX4_term_1 0 rfl rfl)
theorem dX4_term_27 : decode cX4_term 27 = .ok (.aload_n 0, 1) := dk_42 (dk_at dksX4_term_1 3 rfl rfl)
theorem dX4_term_28 : decode cX4_term 28 = .ok (.invokevirtual 105, 3) := dk_182 0 105 (dk_at dksX4_term_1 4 rfl rfl)
theorem dX4_term_31 : decode cX4_term 31 = .ok (.bipush 37, 2) := dk_16 37 (dk_at dksX4_term_1 7 rfl rfl)
theorem dX4_term_33 : decode cX4_term 33 = .ok (.if_icmp .ne 70, 3) := dk_160 0 70 (dk_at dksX4_term_1 9 rfl rfl)
theorem dX4_term_36 : decode cX4_term 36 = .ok (.aload_n 0, 1) := dk_42 (dk_at dksX4_term_1 12 rfl rfl)
theorem dX4_term_37 : decode cX4_term 37 = .ok (.getfield 7, 3) := dk_180 0 7 (dk_at dksX4_term_1 13 rfl rfl)
theorem dX4_term_40 : decode cX4_term 40 = .ok (.aload_n 0, 1) := dk_42 (dk_at dksX4_term_1 16 rfl rfl)
theorem dX4_term_41 : decode cX4_term 41 = .ok (.getfield 102, 3) := dk_180 0 102 (dk_at dksX4_term_1 17 rfl rfl)
theorem dX4_term_44 : decode cX4_term 44 = .ok (.baload, 1) := dk_51 (dk_at dksX4_term_1 20 rfl rfl)
theorem dX4_term_45 : decode cX4_term 45 = .ok (.bipush 42, 2) := dk_16 42 (dk_at dksX4_term_1 21 rfl rfl)
theorem dX4_term_47 : decode cX4_term 47 = .ok (.if_icmp .ne 7, 3) := dk_160 0 7 (dk_at dksX4_term_2 0 rfl rfl)
theorem dX4_term_50 : decode cX4_term 50 = .ok (.iconst 4, 1) := dk_7 (dk_at dksX4_term_2 3 rfl rfl)
theorem dX4_term_51 : decode cX4_term 51 = .ok (.goto 23, 3) := dk_167 0 23 (dk_at dksX4_term_2 4 rfl rfl)
theorem dX4_term_54 : decode cX4_term 54 = .ok (.aload_n 0, 1) := dk_42 (dk_at dksX4_term_2 7 rfl rfl)
theorem dX4_term_55 : decode cX4_term 55 = .ok (.getfield 7, 3) := dk_180 0 7 (dk_at dksX4_term_2 8 rfl rfl)
theorem dX4_term_58 : decode cX4_term 58 = .ok (.aload_n 0, 1) := dk_42 (dk_at dksX4_term_2 11 rfl rfl)
theorem dX4_term_59 : decode cX4_term 59 = .ok (.getfield 102, 3) := dk_180 0 102 (dk_at dksX4_term_2 12 rfl rfl)
theorem dX4_term_62 : decode cX4_term 62 = .ok (.baload, 1) := dk_51 (dk_at dksX4_term_2 15 rfl rfl)
theorem dX4_term_63 : decode cX4_term 63 = .ok (.bipush 47, 2) := dk_16 47 (dk_at dksX4_term_2 16 rfl rfl)
theorem dX4_term_65 : decode cX4_term 65 = .ok (.if_icmp .ne 7, 3) := dk_160 0 7 (dk_at dksX4_term_2 18 rfl rfl)
theorem dX4_term_68 : decode cX4_term 68 = .ok (.iconst 5, 1) := dk_8 (dk_at dksX4_term_2 21 rfl rfl)
theorem dX4_term_69 : decode cX4_term 69 = .ok (.goto 5, 3) := dk_167 0 5 (dk_at dksX4_term_3 0 rfl rfl)
theorem dX4_term_72 : decode cX4_term 72 = .ok (.bipush 14, 2) := dk_16 14 (dk_at dksX4_term_3 3 rfl rfl)
theorem dX4_term_74 : decode cX4_term 74 = .ok (.istore_n 1, 1) := dk_60 (dk_at dksX4_term_3 5 rfl rfl)
theorem dX4_term_75 : decode cX4_term 75 = .ok (.aload_n 0, 1) := dk_42 (dk_at dksX4_term_3 6 rfl rfl)
theorem dX4_term_76 : decode cX4_term 76 = .ok (.dup, 1) := dk_89 (dk_at dksX4_term_3 7 rfl rfl)
theorem dX4_term_77 : decode cX4_term 77 = .ok (.getfield 102, 3) := dk_180 0 102 (dk_at dksX4_term_3 8 rfl rfl)
theorem dX4_term_80 : decode cX4_term 80 = .ok (.iconst 1, 1) := dk_4 (dk_at dksX4_term_3 11 rfl rfl)
theorem dX4_term_81 : decode cX4_term 81 = .ok (.iadd, 1) := dk_96 (dk_at dksX4_term_3 12 rfl rfl)
theorem dX4_term_82 : decode cX4_term 82 = .ok (.putfield 102, 3) := dk_181 0 102 (dk_at dksX4_term_3 13 rfl rfl)
theorem dX4_term_85 : decode cX4_term 85 = .ok (.aload_n 0, 1) := dk_42 (dk_at dksX4_term_3 16 rfl rfl)
theorem dX4_term_86 : decode cX4_term 86 = .ok (.invokevirtual 188, 3) := dk_182 0 188 (dk_at dksX4_term_3 17 rfl rfl)
theorem dX4_term_89 : decode cX4_term 89 = .ok (.ifCond .ne 5, 3) := dk_154 0 5 (dk_at dksX4_term_3 20 rfl rfl)
theorem dX4_term_92 : decode cX4_term 92 = .ok (.iconst 0, 1) := dk_3 (dk_at dksX4_term_3 23 rfl rfl)
theorem dX4_term_93 : decode cX4_term 93 = .ok (.ireturn, 1) := dk_172 (dk_at dksX4_term_4 0 rfl rfl)
theorem dX4_term_94 : decode cX4_term 94 = .ok (.aload_n 0, 1) := dk_42 (dk_at dksX4_term_4 1 rfl rfl)
theorem dX4_term_95 : decode cX4_term 95 = .ok (.iload_n 1, 1) := dk_27 (dk_at dksX4_term_4 2 rfl rfl)
theorem dX4_term_96 : decode cX4_term 96 = .ok (.iconst 0, 1) := dk_3 (dk_at dksX4_term_4 3 rfl rfl)
theorem dX4_term_97 : decode cX4_term 97 = .ok (.invokevirtual 174, 3) := dk_182 0 174 (dk_at dksX4_term_4 4 rfl rfl)
theorem dX4_term_100 : decode cX4_term 100 = .ok (.goto (-91), 3) := dk_167 255 165 (dk_at dksX4_term_4 7 rfl rfl)
theorem dX4_term_103 : decode cX4_term 103 = .ok (.iconst 1, 1) := dk_4 (dk_at dksX4_term_4 10 rfl rfl)
theorem dX4_term_104 : decode cX4_term 104 = .ok (.ireturn, 1) := dk_172 (dk_at dksX4_term_4 11 rfl rfl)
abbrev cX4_value : ByteArray := prog_19_method_22_code
def yX4_value : MethodName := ⟨RX4, "value", "()Z"⟩
def dkwX4_value_3 : List UInt8 := [182, 0, 182, 154, 0, 5, 3, 172, 42, 182, 0, 117, 42, 4, 28, 182, 0, 174, 4, 172]
abbrev dktX4_value_3 : List UInt8 := dkwX4_value_3 ++ []
def dkwX4_value_2 : List UInt8 := [182, 0, 174, 4, 172, 42, 182, 0, 185, 61, 28, 156, 0, 10, 42, 3, 27, 182, 0, 123, 172, 42, 27]
abbrev dktX4_value_2 : List UInt8 := dkwX4_value_2 ++ dktX4_value_3
def dkwX4_value_1 : List UInt8 := [18, 178, 182, 0, 179, 153, 0, 11, 42, 27, 182, 0, 182, 154, 0, 5, 3, 172, 42, 3, 42, 180, 0, 127]
abbrev dktX4_value_1 : List UInt8 := dkwX4_value_1 ++ dktX4_value_2
def dkwX4_value_0 : List UInt8 := [42, 182, 0, 105, 87, 42, 180, 0, 102, 60, 42, 42, 180, 0, 102, 182, 0, 120, 153, 0, 34, 42, 3]
abbrev dktX4_value_0 : List UInt8 := dkwX4_value_0 ++ dktX4_value_1
theorem dksX4_value_0 : cX4_value.data.toList.drop 0 = dktX4_value_0 := by decide +kernel
theorem dksX4_value_1 : cX4_value.data.toList.drop 23 = dktX4_value_1 := dk_seg dksX4_value_0 23 rfl rfl
theorem dksX4_value_2 : cX4_value.data.toList.drop 47 = dktX4_value_2 := dk_seg dksX4_value_1 24 rfl rfl
theorem dksX4_value_3 : cX4_value.data.toList.drop 70 = dktX4_value_3 := dk_seg dksX4_value_2 23 rfl rfl
theorem dX4_value_0 : decode cX4_value 0 = .ok (.aload_n 0, 1) := dk_42 (dk_at dksX4_value_0 0 rfl rfl)
theorem dX4_value_1 : decode cX4_value 1 = .ok (.invokevirtual 105, 3) := dk_182 0 105 (dk_at dksX4_value_0 1 rfl rfl)
theorem dX4_value_4 : decode cX4_value 4 = .ok (.pop, 1) := dk_87 (dk_at dksX4_value_0 4 rfl rfl)
theorem dX4_value_5 : decode cX4_value 5 = .ok (.aload_n 0, 1) := dk_42 (dk_at dksX4_value_0 5 rfl rfl)
theorem dX4_value_6 : decode cX4_value 6 = .ok (.getfield 102, 3) := dk_180 0 102 (dk_at dksX4_value_0 6 rfl rfl)
theorem dX4_value_9 : decode cX4_value 9 = .ok (.istore_n 1, 1) := dk_60 (dk_at dksX4_value_0 9 rfl rfl)
theorem dX4_value_10 : decode cX4_value 10 = .ok (.aload_n 0, 1) := dk_42 (dk_at dksX4_value_0 10 rfl rfl)
theorem dX4_value_11 : decode cX4_value 11 = .ok (.aload_n 0, 1) := dk_42 (dk_at dksX4_value_0 11 rfl rfl)
theorem dX4_value_12 : decode cX4_value 12 = .ok (.getfield 102, 3) := dk_180 0 102 (dk_at dksX4_value_0 12 rfl rfl)
theorem dX4_value_15 : decode cX4_value 15 = .ok (.invokevirtual 120, 3) := dk_182 0 120 (dk_at dksX4_value_0 15 rfl rfl)
theorem dX4_value_18 : decode cX4_value 18 = .ok (.ifCond .eq 34, 3) := dk_153 0 34 (dk_at dksX4_value_0 18 rfl rfl)
theorem dX4_value_21 : decode cX4_value 21 = .ok (.aload_n 0, 1) := dk_42 (dk_at dksX4_value_0 21 rfl rfl)
theorem dX4_value_22 : decode cX4_value 22 = .ok (.iconst 0, 1) := dk_3 (dk_at dksX4_value_0 22 rfl rfl)
theorem dX4_value_23 : decode cX4_value 23 = .ok (.ldc 178, 2) := dk_18 178 (dk_at dksX4_value_1 0 rfl rfl)
theorem dX4_value_25 : decode cX4_value 25 = .ok (.invokevirtual 179, 3) := dk_182 0 179 (dk_at dksX4_value_1 2 rfl rfl)
theorem dX4_value_28 : decode cX4_value 28 = .ok (.ifCond .eq 11, 3) := dk_153 0 11 (dk_at dksX4_value_1 5 rfl rfl)
theorem dX4_value_31 : decode cX4_value 31 = .ok (.aload_n 0, 1) := dk_42 (dk_at dksX4_value_1 8 rfl rfl)
theorem dX4_value_32 : decode cX4_value 32 = .ok (.iload_n 1, 1) := dk_27 (dk_at dksX4_value_1 9 rfl rfl)
theorem dX4_value_33 : decode cX4_value 33 = .ok (.invokevirtual 182, 3) := dk_182 0 182 (dk_at dksX4_value_1 10 rfl rfl)
theorem dX4_value_36 : decode cX4_value 36 = .ok (.ifCond .ne 5, 3) := dk_154 0 5 (dk_at dksX4_value_1 13 rfl rfl)
theorem dX4_value_39 : decode cX4_value 39 = .ok (.iconst 0, 1) := dk_3 (dk_at dksX4_value_1 16 rfl rfl)
theorem dX4_value_40 : decode cX4_value 40 = .ok (.ireturn, 1) := dk_172 (dk_at dksX4_value_1 17 rfl rfl)
theorem dX4_value_41 : decode cX4_value 41 = .ok (.aload_n 0, 1) := dk_42 (dk_at dksX4_value_1 18 rfl rfl)
theorem dX4_value_42 : decode cX4_value 42 = .ok (.iconst 0, 1) := dk_3 (dk_at dksX4_value_1 19 rfl rfl)
theorem dX4_value_43 : decode cX4_value 43 = .ok (.aload_n 0, 1) := dk_42 (dk_at dksX4_value_1 20 rfl rfl)
theorem dX4_value_44 : decode cX4_value 44 = .ok (.getfield 127, 3) := dk_180 0 127 (dk_at dksX4_value_1 21 rfl rfl)
theorem dX4_value_47 : decode cX4_value 47 = .ok (.invokevirtual 174, 3) := dk_182 0 174 (dk_at dksX4_value_2 0 rfl rfl)
theorem dX4_value_50 : decode cX4_value 50 = .ok (.iconst 1, 1) := dk_4 (dk_at dksX4_value_2 3 rfl rfl)
theorem dX4_value_51 : decode cX4_value 51 = .ok (.ireturn, 1) := dk_172 (dk_at dksX4_value_2 4 rfl rfl)
theorem dX4_value_52 : decode cX4_value 52 = .ok (.aload_n 0, 1) := dk_42 (dk_at dksX4_value_2 5 rfl rfl)
theorem dX4_value_53 : decode cX4_value 53 = .ok (.invokevirtual 185, 3) := dk_182 0 185 (dk_at dksX4_value_2 6 rfl rfl)
theorem dX4_value_56 : decode cX4_value 56 = .ok (.istore_n 2, 1) := dk_61 (dk_at dksX4_value_2 9 rfl rfl)
theorem dX4_value_57 : decode cX4_value 57 = .ok (.iload_n 2, 1) := dk_28 (dk_at dksX4_value_2 10 rfl rfl)
theorem dX4_value_58 : decode cX4_value 58 = .ok (.ifCond .ge 10, 3) := dk_156 0 10 (dk_at dksX4_value_2 11 rfl rfl)
theorem dX4_value_61 : decode cX4_value 61 = .ok (.aload_n 0, 1) := dk_42 (dk_at dksX4_value_2 14 rfl rfl)
theorem dX4_value_62 : decode cX4_value 62 = .ok (.iconst 0, 1) := dk_3 (dk_at dksX4_value_2 15 rfl rfl)
theorem dX4_value_63 : decode cX4_value 63 = .ok (.iload_n 1, 1) := dk_27 (dk_at dksX4_value_2 16 rfl rfl)
theorem dX4_value_64 : decode cX4_value 64 = .ok (.invokevirtual 123, 3) := dk_182 0 123 (dk_at dksX4_value_2 17 rfl rfl)
theorem dX4_value_67 : decode cX4_value 67 = .ok (.ireturn, 1) := dk_172 (dk_at dksX4_value_2 20 rfl rfl)
theorem dX4_value_68 : decode cX4_value 68 = .ok (.aload_n 0, 1) := dk_42 (dk_at dksX4_value_2 21 rfl rfl)
theorem dX4_value_69 : decode cX4_value 69 = .ok (.iload_n 1, 1) := dk_27 (dk_at dksX4_value_2 22 rfl rfl)
theorem dX4_value_70 : decode cX4_value 70 = .ok (.invokevirtual 182, 3) := dk_182 0 182 (dk_at dksX4_value_3 0 rfl rfl)
theorem dX4_value_73 : decode cX4_value 73 = .ok (.ifCond .ne 5, 3) := dk_154 0 5 (dk_at dksX4_value_3 3 rfl rfl)
theorem dX4_value_76 : decode cX4_value 76 = .ok (.iconst 0, 1) := dk_3 (dk_at dksX4_value_3 6 rfl rfl)
theorem dX4_value_77 : decode cX4_value 77 = .ok (.ireturn, 1) := dk_172 (dk_at dksX4_value_3 7 rfl rfl)
theorem dX4_value_78 : decode cX4_value 78 = .ok (.aload_n 0, 1) := dk_42 (dk_at dksX4_value_3 8 rfl rfl)
theorem dX4_value_79 : decode cX4_value 79 = .ok (.invokevirtual 117, 3) := dk_182 0 117 (dk_at dksX4_value_3 9 rfl rfl)
theorem dX4_value_82 : decode cX4_value 82 = .ok (.aload_n 0, 1) := dk_42 (dk_at dksX4_value_3 12 rfl rfl)
theorem dX4_value_83 : decode cX4_value 83 = .ok (.iconst 1, 1) := dk_4 (dk_at dksX4_value_3 13 rfl rfl)
theorem dX4_value_84 : decode cX4_value 84 = .ok (.iload_n 2, 1) := dk_28 (dk_at dksX4_value_3 14 rfl rfl)
theorem dX4_value_85 : decode cX4_value 85 = .ok (.invokevirtual 174, 3) := dk_182 0 174 (dk_at dksX4_value_3 15 rfl rfl)
theorem dX4_value_88 : decode cX4_value 88 = .ok (.iconst 1, 1) := dk_4 (dk_at dksX4_value_3 18 rfl rfl)
theorem dX4_value_89 : decode cX4_value 89 = .ok (.ireturn, 1) := dk_172 (dk_at dksX4_value_3 19 rfl rfl)
abbrev cX4_makes : ByteArray := prog_19_method_18_code
def yX4_makes : MethodName := ⟨RX4, "makes", "(I)Z"⟩
def dkwX4_makes_1 : List UInt8 := [181, 0, 161, 4, 172]
abbrev dktX4_makes_1 : List UInt8 := dkwX4_makes_1 ++ []
def dkwX4_makes_0 : List UInt8 := [42, 180, 0, 161, 16, 60, 160, 0, 10, 42, 6, 27, 182, 0, 123, 172, 42, 89, 180, 0, 161, 4, 96]
abbrev dktX4_makes_0 : List UInt8 := dkwX4_makes_0 ++ dktX4_makes_1
theorem dksX4_makes_0 : cX4_makes.data.toList.drop 0 = dktX4_makes_0 := by decide +kernel
theorem dksX4_makes_1 : cX4_makes.data.toList.drop 23 = dktX4_makes_1 := dk_seg dksX4_makes_0 23 rfl rfl
theorem dX4_makes_0 : decode cX4_makes 0 = .ok (.aload_n 0, 1) := dk_42 (dk_at dksX4_makes_0 0 rfl rfl)
theorem dX4_makes_1 : decode cX4_makes 1 = .ok (.getfield 161, 3) := dk_180 0 161 (dk_at dksX4_makes_0 1 rfl rfl)
theorem dX4_makes_4 : decode cX4_makes 4 = .ok (.bipush 60, 2) := dk_16 60 (dk_at dksX4_makes_0 4 rfl rfl)
theorem dX4_makes_6 : decode cX4_makes 6 = .ok (.if_icmp .ne 10, 3) := dk_160 0 10 (dk_at dksX4_makes_0 6 rfl rfl)
theorem dX4_makes_9 : decode cX4_makes 9 = .ok (.aload_n 0, 1) := dk_42 (dk_at dksX4_makes_0 9 rfl rfl)
theorem dX4_makes_10 : decode cX4_makes 10 = .ok (.iconst 3, 1) := dk_6 (dk_at dksX4_makes_0 10 rfl rfl)
theorem dX4_makes_11 : decode cX4_makes 11 = .ok (.iload_n 1, 1) := dk_27 (dk_at dksX4_makes_0 11 rfl rfl)
theorem dX4_makes_12 : decode cX4_makes 12 = .ok (.invokevirtual 123, 3) := dk_182 0 123 (dk_at dksX4_makes_0 12 rfl rfl)
theorem dX4_makes_15 : decode cX4_makes 15 = .ok (.ireturn, 1) := dk_172 (dk_at dksX4_makes_0 15 rfl rfl)
theorem dX4_makes_16 : decode cX4_makes 16 = .ok (.aload_n 0, 1) := dk_42 (dk_at dksX4_makes_0 16 rfl rfl)
theorem dX4_makes_17 : decode cX4_makes 17 = .ok (.dup, 1) := dk_89 (dk_at dksX4_makes_0 17 rfl rfl)
theorem dX4_makes_18 : decode cX4_makes 18 = .ok (.getfield 161, 3) := dk_180 0 161 (dk_at dksX4_makes_0 18 rfl rfl)
theorem dX4_makes_21 : decode cX4_makes 21 = .ok (.iconst 1, 1) := dk_4 (dk_at dksX4_makes_0 21 rfl rfl)
theorem dX4_makes_22 : decode cX4_makes 22 = .ok (.iadd, 1) := dk_96 (dk_at dksX4_makes_0 22 rfl rfl)
theorem dX4_makes_23 : decode cX4_makes 23 = .ok (.putfield 161, 3) := dk_181 0 161 (dk_at dksX4_makes_1 0 rfl rfl)
theorem dX4_makes_26 : decode cX4_makes 26 = .ok (.iconst 1, 1) := dk_4 (dk_at dksX4_makes_1 3 rfl rfl)
theorem dX4_makes_27 : decode cX4_makes 27 = .ok (.ireturn, 1) := dk_172 (dk_at dksX4_makes_1 4 rfl rfl)
abbrev cX4_puts : ByteArray := prog_19_method_17_code
def yX4_puts : MethodName := ⟨RX4, "puts", "(II)V"⟩
def dkwX4_puts_1 : List UInt8 := [16, 16, 28, 104, 96, 79, 42, 180, 0, 17, 42, 180, 0, 158, 92, 46, 4, 96, 79, 177]
abbrev dktX4_puts_1 : List UInt8 := dkwX4_puts_1 ++ []
def dkwX4_puts_0 : List UInt8 := [42, 180, 0, 13, 17, 1, 144, 42, 180, 0, 158, 104, 42, 180, 0, 17, 42, 180, 0, 158, 46, 96, 27]
abbrev dktX4_puts_0 : List UInt8 := dkwX4_puts_0 ++ dktX4_puts_1
theorem dksX4_puts_0 : cX4_puts.data.toList.drop 0 = dktX4_puts_0 := by decide +kernel
theorem dksX4_puts_1 : cX4_puts.data.toList.drop 23 = dktX4_puts_1 := dk_seg dksX4_puts_0 23 rfl rfl
theorem dX4_puts_0 : decode cX4_puts 0 = .ok (.aload_n 0, 1) := dk_42 (dk_at dksX4_puts_0 0 rfl rfl)
theorem dX4_puts_1 : decode cX4_puts 1 = .ok (.getfield 13, 3) := dk_180 0 13 (dk_at dksX4_puts_0 1 rfl rfl)
theorem dX4_puts_4 : decode cX4_puts 4 = .ok (.sipush 400, 3) := dk_17 1 144 (dk_at dksX4_puts_0 4 rfl rfl)
theorem dX4_puts_7 : decode cX4_puts 7 = .ok (.aload_n 0, 1) := dk_42 (dk_at dksX4_puts_0 7 rfl rfl)
theorem dX4_puts_8 : decode cX4_puts 8 = .ok (.getfield 158, 3) := dk_180 0 158 (dk_at dksX4_puts_0 8 rfl rfl)
theorem dX4_puts_11 : decode cX4_puts 11 = .ok (.imul, 1) := dk_104 (dk_at dksX4_puts_0 11 rfl rfl)
theorem dX4_puts_12 : decode cX4_puts 12 = .ok (.aload_n 0, 1) := dk_42 (dk_at dksX4_puts_0 12 rfl rfl)
theorem dX4_puts_13 : decode cX4_puts 13 = .ok (.getfield 17, 3) := dk_180 0 17 (dk_at dksX4_puts_0 13 rfl rfl)
theorem dX4_puts_16 : decode cX4_puts 16 = .ok (.aload_n 0, 1) := dk_42 (dk_at dksX4_puts_0 16 rfl rfl)
theorem dX4_puts_17 : decode cX4_puts 17 = .ok (.getfield 158, 3) := dk_180 0 158 (dk_at dksX4_puts_0 17 rfl rfl)
theorem dX4_puts_20 : decode cX4_puts 20 = .ok (.iaload, 1) := dk_46 (dk_at dksX4_puts_0 20 rfl rfl)
theorem dX4_puts_21 : decode cX4_puts 21 = .ok (.iadd, 1) := dk_96 (dk_at dksX4_puts_0 21 rfl rfl)
theorem dX4_puts_22 : decode cX4_puts 22 = .ok (.iload_n 1, 1) := dk_27 (dk_at dksX4_puts_0 22 rfl rfl)
theorem dX4_puts_23 : decode cX4_puts 23 = .ok (.bipush 16, 2) := dk_16 16 (dk_at dksX4_puts_1 0 rfl rfl)
theorem dX4_puts_25 : decode cX4_puts 25 = .ok (.iload_n 2, 1) := dk_28 (dk_at dksX4_puts_1 2 rfl rfl)
theorem dX4_puts_26 : decode cX4_puts 26 = .ok (.imul, 1) := dk_104 (dk_at dksX4_puts_1 3 rfl rfl)
theorem dX4_puts_27 : decode cX4_puts 27 = .ok (.iadd, 1) := dk_96 (dk_at dksX4_puts_1 4 rfl rfl)
theorem dX4_puts_28 : decode cX4_puts 28 = .ok (.iastore, 1) := dk_79 (dk_at dksX4_puts_1 5 rfl rfl)
theorem dX4_puts_29 : decode cX4_puts 29 = .ok (.aload_n 0, 1) := dk_42 (dk_at dksX4_puts_1 6 rfl rfl)
theorem dX4_puts_30 : decode cX4_puts 30 = .ok (.getfield 17, 3) := dk_180 0 17 (dk_at dksX4_puts_1 7 rfl rfl)
theorem dX4_puts_33 : decode cX4_puts 33 = .ok (.aload_n 0, 1) := dk_42 (dk_at dksX4_puts_1 10 rfl rfl)
theorem dX4_puts_34 : decode cX4_puts 34 = .ok (.getfield 158, 3) := dk_180 0 158 (dk_at dksX4_puts_1 11 rfl rfl)
theorem dX4_puts_37 : decode cX4_puts 37 = .ok (.dup2, 1) := dk_92 (dk_at dksX4_puts_1 14 rfl rfl)
theorem dX4_puts_38 : decode cX4_puts 38 = .ok (.iaload, 1) := dk_46 (dk_at dksX4_puts_1 15 rfl rfl)
theorem dX4_puts_39 : decode cX4_puts 39 = .ok (.iconst 1, 1) := dk_4 (dk_at dksX4_puts_1 16 rfl rfl)
theorem dX4_puts_40 : decode cX4_puts 40 = .ok (.iadd, 1) := dk_96 (dk_at dksX4_puts_1 17 rfl rfl)
theorem dX4_puts_41 : decode cX4_puts 41 = .ok (.iastore, 1) := dk_79 (dk_at dksX4_puts_1 18 rfl rfl)
theorem dX4_puts_42 : decode cX4_puts 42 = .ok (.return_, 1) := dk_177 (dk_at dksX4_puts_1 19 rfl rfl)
abbrev cX4_wordHere : ByteArray := prog_19_method_16_code
def yX4_wordHere : MethodName := ⟨RX4, "wordHere", "()I"⟩
def dkwX4_wordHere_6 : List UInt8 := [20, 0, 156, 182, 0, 113, 153, 0, 8, 16, 11, 167, 0, 4, 2, 172]
abbrev dktX4_wordHere_6 : List UInt8 := dkwX4_wordHere_6 ++ []
def dkwX4_wordHere_5 : List UInt8 := [153, 0, 6, 16, 9, 172, 42, 20, 0, 154, 182, 0, 113, 153, 0, 8, 16, 10, 167, 0, 19, 42]
abbrev dktX4_wordHere_5 : List UInt8 := dkwX4_wordHere_5 ++ dktX4_wordHere_6
def dkwX4_wordHere_4 : List UInt8 := [16, 7, 172, 42, 20, 0, 150, 182, 0, 113, 153, 0, 6, 16, 8, 172, 42, 20, 0, 152, 182, 0, 113]
abbrev dktX4_wordHere_4 : List UInt8 := dkwX4_wordHere_4 ++ dktX4_wordHere_5
def dkwX4_wordHere_3 : List UInt8 := [42, 20, 0, 146, 182, 0, 113, 153, 0, 6, 16, 6, 172, 42, 20, 0, 148, 182, 0, 113, 153, 0, 6]
abbrev dktX4_wordHere_3 : List UInt8 := dkwX4_wordHere_3 ++ dktX4_wordHere_4
def dkwX4_wordHere_2 : List UInt8 := [42, 20, 0, 142, 182, 0, 113, 153, 0, 5, 7, 172, 42, 20, 0, 144, 182, 0, 113, 153, 0, 5, 8, 172]
abbrev dktX4_wordHere_2 : List UInt8 := dkwX4_wordHere_2 ++ dktX4_wordHere_3
def dkwX4_wordHere_1 : List UInt8 := [42, 20, 0, 138, 182, 0, 113, 153, 0, 5, 5, 172, 42, 20, 0, 140, 182, 0, 113, 153, 0, 5, 6, 172]
abbrev dktX4_wordHere_1 : List UInt8 := dkwX4_wordHere_1 ++ dktX4_wordHere_2
def dkwX4_wordHere_0 : List UInt8 := [42, 20, 0, 134, 182, 0, 113, 153, 0, 5, 3, 172, 42, 20, 0, 136, 182, 0, 113, 153, 0, 5, 4, 172]
abbrev dktX4_wordHere_0 : List UInt8 := dkwX4_wordHere_0 ++ dktX4_wordHere_1
theorem dksX4_wordHere_0 : cX4_wordHere.data.toList.drop 0 = dktX4_wordHere_0 := by decide +kernel
theorem dksX4_wordHere_1 : cX4_wordHere.data.toList.drop 24 = dktX4_wordHere_1 := dk_seg dksX4_wordHere_0 24 rfl rfl
theorem dksX4_wordHere_2 : cX4_wordHere.data.toList.drop 48 = dktX4_wordHere_2 := dk_seg dksX4_wordHere_1 24 rfl rfl
theorem dksX4_wordHere_3 : cX4_wordHere.data.toList.drop 72 = dktX4_wordHere_3 := dk_seg dksX4_wordHere_2 24 rfl rfl
theorem dksX4_wordHere_4 : cX4_wordHere.data.toList.drop 95 = dktX4_wordHere_4 := dk_seg dksX4_wordHere_3 23 rfl rfl
theorem dksX4_wordHere_5 : cX4_wordHere.data.toList.drop 118 = dktX4_wordHere_5 := dk_seg dksX4_wordHere_4 23 rfl rfl
theorem dksX4_wordHere_6 : cX4_wordHere.data.toList.drop 140 = dktX4_wordHere_6 := dk_seg dksX4_wordHere_5 22 rfl rfl
theorem dX4_wordHere_0 : decode cX4_wordHere 0 = .ok (.aload_n 0, 1) := dk_42 (dk_at dksX4_wordHere_0 0 rfl rfl)
theorem dX4_wordHere_1 : decode cX4_wordHere 1 = .ok (.ldc2_w 134, 3) := dk_20 0 134 (dk_at dksX4_wordHere_0 1 rfl rfl)
theorem dX4_wordHere_4 : decode cX4_wordHere 4 = .ok (.invokevirtual 113, 3) := dk_182 0 113 (dk_at dksX4_wordHere_0 4 rfl rfl)
theorem dX4_wordHere_7 : decode cX4_wordHere 7 = .ok (.ifCond .eq 5, 3) := dk_153 0 5 (dk_at dksX4_wordHere_0 7 rfl rfl)
theorem dX4_wordHere_10 : decode cX4_wordHere 10 = .ok (.iconst 0, 1) := dk_3 (dk_at dksX4_wordHere_0 10 rfl rfl)
theorem dX4_wordHere_11 : decode cX4_wordHere 11 = .ok (.ireturn, 1) := dk_172 (dk_at dksX4_wordHere_0 11 rfl rfl)
theorem dX4_wordHere_12 : decode cX4_wordHere 12 = .ok (.aload_n 0, 1) := dk_42 (dk_at dksX4_wordHere_0 12 rfl rfl)
theorem dX4_wordHere_13 : decode cX4_wordHere 13 = .ok (.ldc2_w 136, 3) := dk_20 0 136 (dk_at dksX4_wordHere_0 13 rfl rfl)
theorem dX4_wordHere_16 : decode cX4_wordHere 16 = .ok (.invokevirtual 113, 3) := dk_182 0 113 (dk_at dksX4_wordHere_0 16 rfl rfl)
theorem dX4_wordHere_19 : decode cX4_wordHere 19 = .ok (.ifCond .eq 5, 3) := dk_153 0 5 (dk_at dksX4_wordHere_0 19 rfl rfl)
theorem dX4_wordHere_22 : decode cX4_wordHere 22 = .ok (.iconst 1, 1) := dk_4 (dk_at dksX4_wordHere_0 22 rfl rfl)
theorem dX4_wordHere_23 : decode cX4_wordHere 23 = .ok (.ireturn, 1) := dk_172 (dk_at dksX4_wordHere_0 23 rfl rfl)
theorem dX4_wordHere_24 : decode cX4_wordHere 24 = .ok (.aload_n 0, 1) := dk_42 (dk_at dksX4_wordHere_1 0 rfl rfl)
theorem dX4_wordHere_25 : decode cX4_wordHere 25 = .ok (.ldc2_w 138, 3) := dk_20 0 138 (dk_at dksX4_wordHere_1 1 rfl rfl)
theorem dX4_wordHere_28 : decode cX4_wordHere 28 = .ok (.invokevirtual 113, 3) := dk_182 0 113 (dk_at dksX4_wordHere_1 4 rfl rfl)
theorem dX4_wordHere_31 : decode cX4_wordHere 31 = .ok (.ifCond .eq 5, 3) := dk_153 0 5 (dk_at dksX4_wordHere_1 7 rfl rfl)
theorem dX4_wordHere_34 : decode cX4_wordHere 34 = .ok (.iconst 2, 1) := dk_5 (dk_at dksX4_wordHere_1 10 rfl rfl)
theorem dX4_wordHere_35 : decode cX4_wordHere 35 = .ok (.ireturn, 1) := dk_172 (dk_at dksX4_wordHere_1 11 rfl rfl)
theorem dX4_wordHere_36 : decode cX4_wordHere 36 = .ok (.aload_n 0, 1) := dk_42 (dk_at dksX4_wordHere_1 12 rfl rfl)
theorem dX4_wordHere_37 : decode cX4_wordHere 37 = .ok (.ldc2_w 140, 3) := dk_20 0 140 (dk_at dksX4_wordHere_1 13 rfl rfl)
theorem dX4_wordHere_40 : decode cX4_wordHere 40 = .ok (.invokevirtual 113, 3) := dk_182 0 113 (dk_at dksX4_wordHere_1 16 rfl rfl)
theorem dX4_wordHere_43 : decode cX4_wordHere 43 = .ok (.ifCond .eq 5, 3) := dk_153 0 5 (dk_at dksX4_wordHere_1 19 rfl rfl)
theorem dX4_wordHere_46 : decode cX4_wordHere 46 = .ok (.iconst 3, 1) := dk_6 (dk_at dksX4_wordHere_1 22 rfl rfl)
theorem dX4_wordHere_47 : decode cX4_wordHere 47 = .ok (.ireturn, 1) := dk_172 (dk_at dksX4_wordHere_1 23 rfl rfl)
theorem dX4_wordHere_48 : decode cX4_wordHere 48 = .ok (.aload_n 0, 1) := dk_42 (dk_at dksX4_wordHere_2 0 rfl rfl)
theorem dX4_wordHere_49 : decode cX4_wordHere 49 = .ok (.ldc2_w 142, 3) := dk_20 0 142 (dk_at dksX4_wordHere_2 1 rfl rfl)
theorem dX4_wordHere_52 : decode cX4_wordHere 52 = .ok (.invokevirtual 113, 3) := dk_182 0 113 (dk_at dksX4_wordHere_2 4 rfl rfl)
theorem dX4_wordHere_55 : decode cX4_wordHere 55 = .ok (.ifCond .eq 5, 3) := dk_153 0 5 (dk_at dksX4_wordHere_2 7 rfl rfl)
theorem dX4_wordHere_58 : decode cX4_wordHere 58 = .ok (.iconst 4, 1) := dk_7 (dk_at dksX4_wordHere_2 10 rfl rfl)
theorem dX4_wordHere_59 : decode cX4_wordHere 59 = .ok (.ireturn, 1) := dk_172 (dk_at dksX4_wordHere_2 11 rfl rfl)
theorem dX4_wordHere_60 : decode cX4_wordHere 60 = .ok (.aload_n 0, 1) := dk_42 (dk_at dksX4_wordHere_2 12 rfl rfl)
theorem dX4_wordHere_61 : decode cX4_wordHere 61 = .ok (.ldc2_w 144, 3) := dk_20 0 144 (dk_at dksX4_wordHere_2 13 rfl rfl)
theorem dX4_wordHere_64 : decode cX4_wordHere 64 = .ok (.invokevirtual 113, 3) := dk_182 0 113 (dk_at dksX4_wordHere_2 16 rfl rfl)
theorem dX4_wordHere_67 : decode cX4_wordHere 67 = .ok (.ifCond .eq 5, 3) := dk_153 0 5 (dk_at dksX4_wordHere_2 19 rfl rfl)
theorem dX4_wordHere_70 : decode cX4_wordHere 70 = .ok (.iconst 5, 1) := dk_8 (dk_at dksX4_wordHere_2 22 rfl rfl)
theorem dX4_wordHere_71 : decode cX4_wordHere 71 = .ok (.ireturn, 1) := dk_172 (dk_at dksX4_wordHere_2 23 rfl rfl)
theorem dX4_wordHere_72 : decode cX4_wordHere 72 = .ok (.aload_n 0, 1) := dk_42 (dk_at dksX4_wordHere_3 0 rfl rfl)
theorem dX4_wordHere_73 : decode cX4_wordHere 73 = .ok (.ldc2_w 146, 3) := dk_20 0 146 (dk_at dksX4_wordHere_3 1 rfl rfl)
theorem dX4_wordHere_76 : decode cX4_wordHere 76 = .ok (.invokevirtual 113, 3) := dk_182 0 113 (dk_at dksX4_wordHere_3 4 rfl rfl)
theorem dX4_wordHere_79 : decode cX4_wordHere 79 = .ok (.ifCond .eq 6, 3) := dk_153 0 6 (dk_at dksX4_wordHere_3 7 rfl rfl)
theorem dX4_wordHere_82 : decode cX4_wordHere 82 = .ok (.bipush 6, 2) := dk_16 6 (dk_at dksX4_wordHere_3 10 rfl rfl)
theorem dX4_wordHere_84 : decode cX4_wordHere 84 = .ok (.ireturn, 1) := dk_172 (dk_at dksX4_wordHere_3 12 rfl rfl)
theorem dX4_wordHere_85 : decode cX4_wordHere 85 = .ok (.aload_n 0, 1) := dk_42 (dk_at dksX4_wordHere_3 13 rfl rfl)
theorem dX4_wordHere_86 : decode cX4_wordHere 86 = .ok (.ldc2_w 148, 3) := dk_20 0 148 (dk_at dksX4_wordHere_3 14 rfl rfl)
theorem dX4_wordHere_89 : decode cX4_wordHere 89 = .ok (.invokevirtual 113, 3) := dk_182 0 113 (dk_at dksX4_wordHere_3 17 rfl rfl)
theorem dX4_wordHere_92 : decode cX4_wordHere 92 = .ok (.ifCond .eq 6, 3) := dk_153 0 6 (dk_at dksX4_wordHere_3 20 rfl rfl)
theorem dX4_wordHere_95 : decode cX4_wordHere 95 = .ok (.bipush 7, 2) := dk_16 7 (dk_at dksX4_wordHere_4 0 rfl rfl)
theorem dX4_wordHere_97 : decode cX4_wordHere 97 = .ok (.ireturn, 1) := dk_172 (dk_at dksX4_wordHere_4 2 rfl rfl)
theorem dX4_wordHere_98 : decode cX4_wordHere 98 = .ok (.aload_n 0, 1) := dk_42 (dk_at dksX4_wordHere_4 3 rfl rfl)
theorem dX4_wordHere_99 : decode cX4_wordHere 99 = .ok (.ldc2_w 150, 3) := dk_20 0 150 (dk_at dksX4_wordHere_4 4 rfl rfl)
theorem dX4_wordHere_102 : decode cX4_wordHere 102 = .ok (.invokevirtual 113, 3) := dk_182 0 113 (dk_at dksX4_wordHere_4 7 rfl rfl)
theorem dX4_wordHere_105 : decode cX4_wordHere 105 = .ok (.ifCond .eq 6, 3) := dk_153 0 6 (dk_at dksX4_wordHere_4 10 rfl rfl)
theorem dX4_wordHere_108 : decode cX4_wordHere 108 = .ok (.bipush 8, 2) := dk_16 8 (dk_at dksX4_wordHere_4 13 rfl rfl)
theorem dX4_wordHere_110 : decode cX4_wordHere 110 = .ok (.ireturn, 1) := dk_172 (dk_at dksX4_wordHere_4 15 rfl rfl)
theorem dX4_wordHere_111 : decode cX4_wordHere 111 = .ok (.aload_n 0, 1) := dk_42 (dk_at dksX4_wordHere_4 16 rfl rfl)
theorem dX4_wordHere_112 : decode cX4_wordHere 112 = .ok (.ldc2_w 152, 3) := dk_20 0 152 (dk_at dksX4_wordHere_4 17 rfl rfl)
theorem dX4_wordHere_115 : decode cX4_wordHere 115 = .ok (.invokevirtual 113, 3) := dk_182 0 113 (dk_at dksX4_wordHere_4 20 rfl rfl)
theorem dX4_wordHere_118 : decode cX4_wordHere 118 = .ok (.ifCond .eq 6, 3) := dk_153 0 6 (dk_at dksX4_wordHere_5 0 rfl rfl)
theorem dX4_wordHere_121 : decode cX4_wordHere 121 = .ok (.bipush 9, 2) := dk_16 9 (dk_at dksX4_wordHere_5 3 rfl rfl)
theorem dX4_wordHere_123 : decode cX4_wordHere 123 = .ok (.ireturn, 1) := dk_172 (dk_at dksX4_wordHere_5 5 rfl rfl)
theorem dX4_wordHere_124 : decode cX4_wordHere 124 = .ok (.aload_n 0, 1) := dk_42 (dk_at dksX4_wordHere_5 6 rfl rfl)
theorem dX4_wordHere_125 : decode cX4_wordHere 125 = .ok (.ldc2_w 154, 3) := dk_20 0 154 (dk_at dksX4_wordHere_5 7 rfl rfl)
theorem dX4_wordHere_128 : decode cX4_wordHere 128 = .ok (.invokevirtual 113, 3) := dk_182 0 113 (dk_at dksX4_wordHere_5 10 rfl rfl)
theorem dX4_wordHere_131 : decode cX4_wordHere 131 = .ok (.ifCond .eq 8, 3) := dk_153 0 8 (dk_at dksX4_wordHere_5 13 rfl rfl)
theorem dX4_wordHere_134 : decode cX4_wordHere 134 = .ok (.bipush 10, 2) := dk_16 10 (dk_at dksX4_wordHere_5 16 rfl rfl)
theorem dX4_wordHere_136 : decode cX4_wordHere 136 = .ok (.goto 19, 3) := dk_167 0 19 (dk_at dksX4_wordHere_5 18 rfl rfl)
theorem dX4_wordHere_139 : decode cX4_wordHere 139 = .ok (.aload_n 0, 1) := dk_42 (dk_at dksX4_wordHere_5 21 rfl rfl)
theorem dX4_wordHere_140 : decode cX4_wordHere 140 = .ok (.ldc2_w 156, 3) := dk_20 0 156 (dk_at dksX4_wordHere_6 0 rfl rfl)
theorem dX4_wordHere_143 : decode cX4_wordHere 143 = .ok (.invokevirtual 113, 3) := dk_182 0 113 (dk_at dksX4_wordHere_6 3 rfl rfl)
theorem dX4_wordHere_146 : decode cX4_wordHere 146 = .ok (.ifCond .eq 8, 3) := dk_153 0 8 (dk_at dksX4_wordHere_6 6 rfl rfl)
theorem dX4_wordHere_149 : decode cX4_wordHere 149 = .ok (.bipush 11, 2) := dk_16 11 (dk_at dksX4_wordHere_6 9 rfl rfl)
theorem dX4_wordHere_151 : decode cX4_wordHere 151 = .ok (.goto 4, 3) := dk_167 0 4 (dk_at dksX4_wordHere_6 11 rfl rfl)
theorem dX4_wordHere_154 : decode cX4_wordHere 154 = .ok (.iconst (-1), 1) := dk_2 (dk_at dksX4_wordHere_6 14 rfl rfl)
theorem dX4_wordHere_155 : decode cX4_wordHere 155 = .ok (.ireturn, 1) := dk_172 (dk_at dksX4_wordHere_6 15 rfl rfl)
abbrev cX4_takesWord : ByteArray := prog_19_method_14_code
def yX4_takesWord : MethodName := ⟨RX4, "takesWord", "(J)Z"⟩
def dkwX4_takesWord_0 : List UInt8 := [42, 31, 182, 0, 113, 154, 0, 5, 3, 172, 42, 182, 0, 117, 4, 172]
abbrev dktX4_takesWord_0 : List UInt8 := dkwX4_takesWord_0 ++ []
theorem dksX4_takesWord_0 : cX4_takesWord.data.toList.drop 0 = dktX4_takesWord_0 := by decide +kernel
theorem dX4_takesWord_0 : decode cX4_takesWord 0 = .ok (.aload_n 0, 1) := dk_42 (dk_at dksX4_takesWord_0 0 rfl rfl)
theorem dX4_takesWord_1 : decode cX4_takesWord 1 = .ok (.lload_n 1, 1) := dk_31 (dk_at dksX4_takesWord_0 1 rfl rfl)
theorem dX4_takesWord_2 : decode cX4_takesWord 2 = .ok (.invokevirtual 113, 3) := dk_182 0 113 (dk_at dksX4_takesWord_0 2 rfl rfl)
theorem dX4_takesWord_5 : decode cX4_takesWord 5 = .ok (.ifCond .ne 5, 3) := dk_154 0 5 (dk_at dksX4_takesWord_0 5 rfl rfl)
theorem dX4_takesWord_8 : decode cX4_takesWord 8 = .ok (.iconst 0, 1) := dk_3 (dk_at dksX4_takesWord_0 8 rfl rfl)
theorem dX4_takesWord_9 : decode cX4_takesWord 9 = .ok (.ireturn, 1) := dk_172 (dk_at dksX4_takesWord_0 9 rfl rfl)
theorem dX4_takesWord_10 : decode cX4_takesWord 10 = .ok (.aload_n 0, 1) := dk_42 (dk_at dksX4_takesWord_0 10 rfl rfl)
theorem dX4_takesWord_11 : decode cX4_takesWord 11 = .ok (.invokevirtual 117, 3) := dk_182 0 117 (dk_at dksX4_takesWord_0 11 rfl rfl)
theorem dX4_takesWord_14 : decode cX4_takesWord 14 = .ok (.iconst 1, 1) := dk_4 (dk_at dksX4_takesWord_0 14 rfl rfl)
theorem dX4_takesWord_15 : decode cX4_takesWord 15 = .ok (.ireturn, 1) := dk_172 (dk_at dksX4_takesWord_0 15 rfl rfl)
abbrev cX4_tested : ByteArray := prog_19_method_29_code
def yX4_tested : MethodName := ⟨RX4, "tested", "()Z"⟩
def dkwX4_tested_6 : List UInt8 := [172]
abbrev dktX4_tested_6 : List UInt8 := dkwX4_tested_6 ++ []
def dkwX4_tested_5 : List UInt8 := [153, 0, 18, 42, 182, 0, 105, 87, 42, 3, 42, 180, 0, 102, 182, 0, 123, 172, 42, 4, 182, 0, 206, 4]
abbrev dktX4_tested_5 : List UInt8 := dkwX4_tested_5 ++ dktX4_tested_6
def dkwX4_tested_4 : List UInt8 := [42, 180, 0, 167, 28, 79, 42, 89, 180, 0, 167, 4, 96, 181, 0, 167, 167, 255, 159, 42, 182, 0, 209]
abbrev dktX4_tested_4 : List UInt8 := dkwX4_tested_4 ++ dktX4_tested_5
def dkwX4_tested_3 : List UInt8 := [16, 12, 167, 0, 5, 16, 13, 61, 42, 182, 0, 117, 42, 28, 184, 0, 170, 182, 0, 206, 42, 180, 0, 29]
abbrev dktX4_tested_3 : List UInt8 := dkwX4_tested_3 ++ dktX4_tested_4
def dkwX4_tested_2 : List UInt8 := [153, 0, 7, 4, 167, 0, 4, 3, 60, 27, 153, 255, 212, 42, 20, 0, 218, 182, 0, 113, 153, 0, 8]
abbrev dktX4_tested_2 : List UInt8 := dkwX4_tested_2 ++ dktX4_tested_3
def dkwX4_tested_1 : List UInt8 := [172, 42, 182, 0, 215, 42, 20, 0, 218, 182, 0, 113, 154, 0, 13, 42, 20, 0, 220, 182, 0, 113]
abbrev dktX4_tested_1 : List UInt8 := dkwX4_tested_1 ++ dktX4_tested_2
def dkwX4_tested_0 : List UInt8 := [42, 3, 181, 0, 167, 42, 3, 181, 0, 164, 4, 60, 27, 153, 0, 99, 42, 182, 0, 212, 154, 0, 5, 3]
abbrev dktX4_tested_0 : List UInt8 := dkwX4_tested_0 ++ dktX4_tested_1
theorem dksX4_tested_0 : cX4_tested.data.toList.drop 0 = dktX4_tested_0 := by decide +kernel
theorem dksX4_tested_1 : cX4_tested.data.toList.drop 24 = dktX4_tested_1 := dk_seg dksX4_tested_0 24 rfl rfl
theorem dksX4_tested_2 : cX4_tested.data.toList.drop 46 = dktX4_tested_2 := dk_seg dksX4_tested_1 22 rfl rfl
theorem dksX4_tested_3 : cX4_tested.data.toList.drop 69 = dktX4_tested_3 := dk_seg dksX4_tested_2 23 rfl rfl
theorem dksX4_tested_4 : cX4_tested.data.toList.drop 93 = dktX4_tested_4 := dk_seg dksX4_tested_3 24 rfl rfl
theorem dksX4_tested_5 : cX4_tested.data.toList.drop 116 = dktX4_tested_5 := dk_seg dksX4_tested_4 23 rfl rfl
theorem dksX4_tested_6 : cX4_tested.data.toList.drop 140 = dktX4_tested_6 := dk_seg dksX4_tested_5 24 rfl rfl
theorem dX4_tested_0 : decode cX4_tested 0 = .ok (.aload_n 0, 1) := dk_42 (dk_at dksX4_tested_0 0 rfl rfl)
theorem dX4_tested_1 : decode cX4_tested 1 = .ok (.iconst 0, 1) := dk_3 (dk_at dksX4_tested_0 1 rfl rfl)
theorem dX4_tested_2 : decode cX4_tested 2 = .ok (.putfield 167, 3) := dk_181 0 167 (dk_at dksX4_tested_0 2 rfl rfl)
theorem dX4_tested_5 : decode cX4_tested 5 = .ok (.aload_n 0, 1) := dk_42 (dk_at dksX4_tested_0 5 rfl rfl)
theorem dX4_tested_6 : decode cX4_tested 6 = .ok (.iconst 0, 1) := dk_3 (dk_at dksX4_tested_0 6 rfl rfl)
theorem dX4_tested_7 : decode cX4_tested 7 = .ok (.putfield 164, 3) := dk_181 0 164 (dk_at dksX4_tested_0 7 rfl rfl)
theorem dX4_tested_10 : decode cX4_tested 10 = .ok (.iconst 1, 1) := dk_4 (dk_at dksX4_tested_0 10 rfl rfl)
theorem dX4_tested_11 : decode cX4_tested 11 = .ok (.istore_n 1, 1) := dk_60 (dk_at dksX4_tested_0 11 rfl rfl)
theorem dX4_tested_12 : decode cX4_tested 12 = .ok (.iload_n 1, 1) := dk_27 (dk_at dksX4_tested_0 12 rfl rfl)
theorem dX4_tested_13 : decode cX4_tested 13 = .ok (.ifCond .eq 99, 3) := dk_153 0 99 (dk_at dksX4_tested_0 13 rfl rfl)
theorem dX4_tested_16 : decode cX4_tested 16 = .ok (.aload_n 0, 1) := dk_42 (dk_at dksX4_tested_0 16 rfl rfl)
theorem dX4_tested_17 : decode cX4_tested 17 = .ok (.invokevirtual 212, 3) := dk_182 0 212 (dk_at dksX4_tested_0 17 rfl rfl)
theorem dX4_tested_20 : decode cX4_tested 20 = .ok (.ifCond .ne 5, 3) := dk_154 0 5 (dk_at dksX4_tested_0 20 rfl rfl)
theorem dX4_tested_23 : decode cX4_tested 23 = .ok (.iconst 0, 1) := dk_3 (dk_at dksX4_tested_0 23 rfl rfl)
theorem dX4_tested_24 : decode cX4_tested 24 = .ok (.ireturn, 1) := dk_172 (dk_at dksX4_tested_1 0 rfl rfl)
theorem dX4_tested_25 : decode cX4_tested 25 = .ok (.aload_n 0, 1) := dk_42 (dk_at dksX4_tested_1 1 rfl rfl)
theorem dX4_tested_26 : decode cX4_tested 26 = .ok (.invokevirtual 215, 3) := dk_182 0 215 (dk_at dksX4_tested_1 2 rfl rfl)
theorem dX4_tested_29 : decode cX4_tested 29 = .ok (.aload_n 0, 1) := dk_42 (dk_at dksX4_tested_1 5 rfl rfl)
theorem dX4_tested_30 : decode cX4_tested 30 = .ok (.ldc2_w 218, 3) := dk_20 0 218 (dk_at dksX4_tested_1 6 rfl rfl)
theorem dX4_tested_33 : decode cX4_tested 33 = .ok (.invokevirtual 113, 3) := dk_182 0 113 (dk_at dksX4_tested_1 9 rfl rfl)
theorem dX4_tested_36 : decode cX4_tested 36 = .ok (.ifCond .ne 13, 3) := dk_154 0 13 (dk_at dksX4_tested_1 12 rfl rfl)
theorem dX4_tested_39 : decode cX4_tested 39 = .ok (.aload_n 0, 1) := dk_42 (dk_at dksX4_tested_1 15 rfl rfl)
theorem dX4_tested_40 : decode cX4_tested 40 = .ok (.ldc2_w 220, 3) := dk_20 0 220 (dk_at dksX4_tested_1 16 rfl rfl)
theorem dX4_tested_43 : decode cX4_tested 43 = .ok (.invokevirtual 113, 3) := dk_182 0 113 (dk_at dksX4_tested_1 19 rfl rfl)
theorem dX4_tested_46 : decode cX4_tested 46 = .ok (.ifCond .eq 7, 3) := dk_153 0 7 (dk_at dksX4_tested_2 0 rfl rfl)
theorem dX4_tested_49 : decode cX4_tested 49 = .ok (.iconst 1, 1) := dk_4 (dk_at dksX4_tested_2 3 rfl rfl)
theorem dX4_tested_50 : decode cX4_tested 50 = .ok (.goto 4, 3) := dk_167 0 4 (dk_at dksX4_tested_2 4 rfl rfl)
theorem dX4_tested_53 : decode cX4_tested 53 = .ok (.iconst 0, 1) := dk_3 (dk_at dksX4_tested_2 7 rfl rfl)
theorem dX4_tested_54 : decode cX4_tested 54 = .ok (.istore_n 1, 1) := dk_60 (dk_at dksX4_tested_2 8 rfl rfl)
theorem dX4_tested_55 : decode cX4_tested 55 = .ok (.iload_n 1, 1) := dk_27 (dk_at dksX4_tested_2 9 rfl rfl)
theorem dX4_tested_56 : decode cX4_tested 56 = .ok (.ifCond .eq (-44), 3) := dk_153 255 212 (dk_at dksX4_tested_2 10 rfl rfl)
theorem dX4_tested_59 : decode cX4_tested 59 = .ok (.aload_n 0, 1) := dk_42 (dk_at dksX4_tested_2 13 rfl rfl)
theorem dX4_tested_60 : decode cX4_tested 60 = .ok (.ldc2_w 218, 3) := dk_20 0 218 (dk_at dksX4_tested_2 14 rfl rfl)
theorem dX4_tested_63 : decode cX4_tested 63 = .ok (.invokevirtual 113, 3) := dk_182 0 113 (dk_at dksX4_tested_2 17 rfl rfl)
theorem dX4_tested_66 : decode cX4_tested 66 = .ok (.ifCond .eq 8, 3) := dk_153 0 8 (dk_at dksX4_tested_2 20 rfl rfl)
theorem dX4_tested_69 : decode cX4_tested 69 = .ok (.bipush 12, 2) := dk_16 12 (dk_at dksX4_tested_3 0 rfl rfl)
theorem dX4_tested_71 : decode cX4_tested 71 = .ok (.goto 5, 3) := dk_167 0 5 (dk_at dksX4_tested_3 2 rfl rfl)
theorem dX4_tested_74 : decode cX4_tested 74 = .ok (.bipush 13, 2) := dk_16 13 (dk_at dksX4_tested_3 5 rfl rfl)
theorem dX4_tested_76 : decode cX4_tested 76 = .ok (.istore_n 2, 1) := dk_61 (dk_at dksX4_tested_3 7 rfl rfl)
theorem dX4_tested_77 : decode cX4_tested 77 = .ok (.aload_n 0, 1) := dk_42 (dk_at dksX4_tested_3 8 rfl rfl)
theorem dX4_tested_78 : decode cX4_tested 78 = .ok (.invokevirtual 117, 3) := dk_182 0 117 (dk_at dksX4_tested_3 9 rfl rfl)
theorem dX4_tested_81 : decode cX4_tested 81 = .ok (.aload_n 0, 1) := dk_42 (dk_at dksX4_tested_3 12 rfl rfl)
theorem dX4_tested_82 : decode cX4_tested 82 = .ok (.iload_n 2, 1) := dk_28 (dk_at dksX4_tested_3 13 rfl rfl)
theorem dX4_tested_83 : decode cX4_tested 83 = .ok (.invokestatic 170, 3) := dk_184 0 170 (dk_at dksX4_tested_3 14 rfl rfl)
theorem dX4_tested_86 : decode cX4_tested 86 = .ok (.invokevirtual 206, 3) := dk_182 0 206 (dk_at dksX4_tested_3 17 rfl rfl)
theorem dX4_tested_89 : decode cX4_tested 89 = .ok (.aload_n 0, 1) := dk_42 (dk_at dksX4_tested_3 20 rfl rfl)
theorem dX4_tested_90 : decode cX4_tested 90 = .ok (.getfield 29, 3) := dk_180 0 29 (dk_at dksX4_tested_3 21 rfl rfl)
theorem dX4_tested_93 : decode cX4_tested 93 = .ok (.aload_n 0, 1) := dk_42 (dk_at dksX4_tested_4 0 rfl rfl)
theorem dX4_tested_94 : decode cX4_tested 94 = .ok (.getfield 167, 3) := dk_180 0 167 (dk_at dksX4_tested_4 1 rfl rfl)
theorem dX4_tested_97 : decode cX4_tested 97 = .ok (.iload_n 2, 1) := dk_28 (dk_at dksX4_tested_4 4 rfl rfl)
theorem dX4_tested_98 : decode cX4_tested 98 = .ok (.iastore, 1) := dk_79 (dk_at dksX4_tested_4 5 rfl rfl)
theorem dX4_tested_99 : decode cX4_tested 99 = .ok (.aload_n 0, 1) := dk_42 (dk_at dksX4_tested_4 6 rfl rfl)
theorem dX4_tested_100 : decode cX4_tested 100 = .ok (.dup, 1) := dk_89 (dk_at dksX4_tested_4 7 rfl rfl)
theorem dX4_tested_101 : decode cX4_tested 101 = .ok (.getfield 167, 3) := dk_180 0 167 (dk_at dksX4_tested_4 8 rfl rfl)
theorem dX4_tested_104 : decode cX4_tested 104 = .ok (.iconst 1, 1) := dk_4 (dk_at dksX4_tested_4 11 rfl rfl)
theorem dX4_tested_105 : decode cX4_tested 105 = .ok (.iadd, 1) := dk_96 (dk_at dksX4_tested_4 12 rfl rfl)
theorem dX4_tested_106 : decode cX4_tested 106 = .ok (.putfield 167, 3) := dk_181 0 167 (dk_at dksX4_tested_4 13 rfl rfl)
theorem dX4_tested_109 : decode cX4_tested 109 = .ok (.goto (-97), 3) := dk_167 255 159 (dk_at dksX4_tested_4 16 rfl rfl)
theorem dX4_tested_112 : decode cX4_tested 112 = .ok (.aload_n 0, 1) := dk_42 (dk_at dksX4_tested_4 19 rfl rfl)
theorem dX4_tested_113 : decode cX4_tested 113 = .ok (.invokevirtual 209, 3) := dk_182 0 209 (dk_at dksX4_tested_4 20 rfl rfl)
theorem dX4_tested_116 : decode cX4_tested 116 = .ok (.ifCond .eq 18, 3) := dk_153 0 18 (dk_at dksX4_tested_5 0 rfl rfl)
theorem dX4_tested_119 : decode cX4_tested 119 = .ok (.aload_n 0, 1) := dk_42 (dk_at dksX4_tested_5 3 rfl rfl)
theorem dX4_tested_120 : decode cX4_tested 120 = .ok (.invokevirtual 105, 3) := dk_182 0 105 (dk_at dksX4_tested_5 4 rfl rfl)
theorem dX4_tested_123 : decode cX4_tested 123 = .ok (.pop, 1) := dk_87 (dk_at dksX4_tested_5 7 rfl rfl)
theorem dX4_tested_124 : decode cX4_tested 124 = .ok (.aload_n 0, 1) := dk_42 (dk_at dksX4_tested_5 8 rfl rfl)
theorem dX4_tested_125 : decode cX4_tested 125 = .ok (.iconst 0, 1) := dk_3 (dk_at dksX4_tested_5 9 rfl rfl)
theorem dX4_tested_126 : decode cX4_tested 126 = .ok (.aload_n 0, 1) := dk_42 (dk_at dksX4_tested_5 10 rfl rfl)
theorem dX4_tested_127 : decode cX4_tested 127 = .ok (.getfield 102, 3) := dk_180 0 102 (dk_at dksX4_tested_5 11 rfl rfl)
theorem dX4_tested_130 : decode cX4_tested 130 = .ok (.invokevirtual 123, 3) := dk_182 0 123 (dk_at dksX4_tested_5 14 rfl rfl)
theorem dX4_tested_133 : decode cX4_tested 133 = .ok (.ireturn, 1) := dk_172 (dk_at dksX4_tested_5 17 rfl rfl)
theorem dX4_tested_134 : decode cX4_tested 134 = .ok (.aload_n 0, 1) := dk_42 (dk_at dksX4_tested_5 18 rfl rfl)
theorem dX4_tested_135 : decode cX4_tested 135 = .ok (.iconst 1, 1) := dk_4 (dk_at dksX4_tested_5 19 rfl rfl)
theorem dX4_tested_136 : decode cX4_tested 136 = .ok (.invokevirtual 206, 3) := dk_182 0 206 (dk_at dksX4_tested_5 20 rfl rfl)
theorem dX4_tested_139 : decode cX4_tested 139 = .ok (.iconst 1, 1) := dk_4 (dk_at dksX4_tested_5 23 rfl rfl)
theorem dX4_tested_140 : decode cX4_tested 140 = .ok (.ireturn, 1) := dk_172 (dk_at dksX4_tested_6 0 rfl rfl)
abbrev cX4_fact : ByteArray := prog_19_method_26_code
def yX4_fact : MethodName := ⟨RX4, "fact", "()Z"⟩
def dkwX4_fact_3 : List UInt8 := [4, 60, 167, 255, 186, 42, 182, 0, 203, 172]
abbrev dktX4_fact_3 : List UInt8 := dkwX4_fact_3 ++ []
def dkwX4_fact_2 : List UInt8 := [160, 0, 26, 42, 16, 91, 182, 0, 200, 154, 0, 5, 3, 172, 42, 89, 180, 0, 102, 4, 96, 181, 0, 102]
abbrev dktX4_fact_2 : List UInt8 := dkwX4_fact_2 ++ dktX4_fact_3
def dkwX4_fact_1 : List UInt8 := [16, 11, 182, 0, 200, 154, 0, 5, 3, 172, 42, 182, 0, 117, 4, 60, 167, 0, 32, 28, 16, 91]
abbrev dktX4_fact_1 : List UInt8 := dkwX4_fact_1 ++ dktX4_fact_2
def dkwX4_fact_0 : List UInt8 := [4, 60, 27, 153, 0, 72, 3, 60, 42, 182, 0, 105, 61, 42, 20, 0, 198, 182, 0, 113, 153, 0, 23, 42]
abbrev dktX4_fact_0 : List UInt8 := dkwX4_fact_0 ++ dktX4_fact_1
theorem dksX4_fact_0 : cX4_fact.data.toList.drop 0 = dktX4_fact_0 := by decide +kernel
theorem dksX4_fact_1 : cX4_fact.data.toList.drop 24 = dktX4_fact_1 := dk_seg dksX4_fact_0 24 rfl rfl
theorem dksX4_fact_2 : cX4_fact.data.toList.drop 46 = dktX4_fact_2 := dk_seg dksX4_fact_1 22 rfl rfl
theorem dksX4_fact_3 : cX4_fact.data.toList.drop 70 = dktX4_fact_3 := dk_seg dksX4_fact_2 24 rfl rfl
theorem dX4_fact_0 : decode cX4_fact 0 = .ok (.iconst 1, 1) := dk_4 (dk_at dksX4_fact_0 0 rfl rfl)
theorem dX4_fact_1 : decode cX4_fact 1 = .ok (.istore_n 1, 1) := dk_60 (dk_at dksX4_fact_0 1 rfl rfl)
theorem dX4_fact_2 : decode cX4_fact 2 = .ok (.iload_n 1, 1) := dk_27 (dk_at dksX4_fact_0 2 rfl rfl)
theorem dX4_fact_3 : decode cX4_fact 3 = .ok (.ifCond .eq 72, 3) := dk_153 0 72 (dk_at dksX4_fact_0 3 rfl rfl)
theorem dX4_fact_6 : decode cX4_fact 6 = .ok (.iconst 0, 1) := dk_3 (dk_at dksX4_fact_0 6 rfl rfl)
theorem dX4_fact_7 : decode cX4_fact 7 = .ok (.istore_n 1, 1) := dk_60 (dk_at dksX4_fact_0 7 rfl rfl)
theorem dX4_fact_8 : decode cX4_fact 8 = .ok (.aload_n 0, 1) := dk_42 (dk_at dksX4_fact_0 8 rfl rfl)
theorem dX4_fact_9 : decode cX4_fact 9 = .ok (.invokevirtual 105, 3) := dk_182 0 105 (dk_at dksX4_fact_0 9 rfl rfl)
theorem dX4_fact_12 : decode cX4_fact 12 = .ok (.istore_n 2, 1) := dk_61 (dk_at dksX4_fact_0 12 rfl rfl)
theorem dX4_fact_13 : decode cX4_fact 13 = .ok (.aload_n 0, 1) := dk_42 (dk_at dksX4_fact_0 13 rfl rfl)
theorem dX4_fact_14 : decode cX4_fact 14 = .ok (.ldc2_w 198, 3) := dk_20 0 198 (dk_at dksX4_fact_0 14 rfl rfl)
theorem dX4_fact_17 : decode cX4_fact 17 = .ok (.invokevirtual 113, 3) := dk_182 0 113 (dk_at dksX4_fact_0 17 rfl rfl)
theorem dX4_fact_20 : decode cX4_fact 20 = .ok (.ifCond .eq 23, 3) := dk_153 0 23 (dk_at dksX4_fact_0 20 rfl rfl)
theorem dX4_fact_23 : decode cX4_fact 23 = .ok (.aload_n 0, 1) := dk_42 (dk_at dksX4_fact_0 23 rfl rfl)
theorem dX4_fact_24 : decode cX4_fact 24 = .ok (.bipush 11, 2) := dk_16 11 (dk_at dksX4_fact_1 0 rfl rfl)
theorem dX4_fact_26 : decode cX4_fact 26 = .ok (.invokevirtual 200, 3) := dk_182 0 200 (dk_at dksX4_fact_1 2 rfl rfl)
theorem dX4_fact_29 : decode cX4_fact 29 = .ok (.ifCond .ne 5, 3) := dk_154 0 5 (dk_at dksX4_fact_1 5 rfl rfl)
theorem dX4_fact_32 : decode cX4_fact 32 = .ok (.iconst 0, 1) := dk_3 (dk_at dksX4_fact_1 8 rfl rfl)
theorem dX4_fact_33 : decode cX4_fact 33 = .ok (.ireturn, 1) := dk_172 (dk_at dksX4_fact_1 9 rfl rfl)
theorem dX4_fact_34 : decode cX4_fact 34 = .ok (.aload_n 0, 1) := dk_42 (dk_at dksX4_fact_1 10 rfl rfl)
theorem dX4_fact_35 : decode cX4_fact 35 = .ok (.invokevirtual 117, 3) := dk_182 0 117 (dk_at dksX4_fact_1 11 rfl rfl)
theorem dX4_fact_38 : decode cX4_fact 38 = .ok (.iconst 1, 1) := dk_4 (dk_at dksX4_fact_1 14 rfl rfl)
theorem dX4_fact_39 : decode cX4_fact 39 = .ok (.istore_n 1, 1) := dk_60 (dk_at dksX4_fact_1 15 rfl rfl)
theorem dX4_fact_40 : decode cX4_fact 40 = .ok (.goto 32, 3) := dk_167 0 32 (dk_at dksX4_fact_1 16 rfl rfl)
theorem dX4_fact_43 : decode cX4_fact 43 = .ok (.iload_n 2, 1) := dk_28 (dk_at dksX4_fact_1 19 rfl rfl)
theorem dX4_fact_44 : decode cX4_fact 44 = .ok (.bipush 91, 2) := dk_16 91 (dk_at dksX4_fact_1 20 rfl rfl)
theorem dX4_fact_46 : decode cX4_fact 46 = .ok (.if_icmp .ne 26, 3) := dk_160 0 26 (dk_at dksX4_fact_2 0 rfl rfl)
theorem dX4_fact_49 : decode cX4_fact 49 = .ok (.aload_n 0, 1) := dk_42 (dk_at dksX4_fact_2 3 rfl rfl)
theorem dX4_fact_50 : decode cX4_fact 50 = .ok (.bipush 91, 2) := dk_16 91 (dk_at dksX4_fact_2 4 rfl rfl)
theorem dX4_fact_52 : decode cX4_fact 52 = .ok (.invokevirtual 200, 3) := dk_182 0 200 (dk_at dksX4_fact_2 6 rfl rfl)
theorem dX4_fact_55 : decode cX4_fact 55 = .ok (.ifCond .ne 5, 3) := dk_154 0 5 (dk_at dksX4_fact_2 9 rfl rfl)
theorem dX4_fact_58 : decode cX4_fact 58 = .ok (.iconst 0, 1) := dk_3 (dk_at dksX4_fact_2 12 rfl rfl)
theorem dX4_fact_59 : decode cX4_fact 59 = .ok (.ireturn, 1) := dk_172 (dk_at dksX4_fact_2 13 rfl rfl)
theorem dX4_fact_60 : decode cX4_fact 60 = .ok (.aload_n 0, 1) := dk_42 (dk_at dksX4_fact_2 14 rfl rfl)
theorem dX4_fact_61 : decode cX4_fact 61 = .ok (.dup, 1) := dk_89 (dk_at dksX4_fact_2 15 rfl rfl)
theorem dX4_fact_62 : decode cX4_fact 62 = .ok (.getfield 102, 3) := dk_180 0 102 (dk_at dksX4_fact_2 16 rfl rfl)
theorem dX4_fact_65 : decode cX4_fact 65 = .ok (.iconst 1, 1) := dk_4 (dk_at dksX4_fact_2 19 rfl rfl)
theorem dX4_fact_66 : decode cX4_fact 66 = .ok (.iadd, 1) := dk_96 (dk_at dksX4_fact_2 20 rfl rfl)
theorem dX4_fact_67 : decode cX4_fact 67 = .ok (.putfield 102, 3) := dk_181 0 102 (dk_at dksX4_fact_2 21 rfl rfl)
theorem dX4_fact_70 : decode cX4_fact 70 = .ok (.iconst 1, 1) := dk_4 (dk_at dksX4_fact_3 0 rfl rfl)
theorem dX4_fact_71 : decode cX4_fact 71 = .ok (.istore_n 1, 1) := dk_60 (dk_at dksX4_fact_3 1 rfl rfl)
theorem dX4_fact_72 : decode cX4_fact 72 = .ok (.goto (-70), 3) := dk_167 255 186 (dk_at dksX4_fact_3 2 rfl rfl)
theorem dX4_fact_75 : decode cX4_fact 75 = .ok (.aload_n 0, 1) := dk_42 (dk_at dksX4_fact_3 5 rfl rfl)
theorem dX4_fact_76 : decode cX4_fact 76 = .ok (.invokevirtual 203, 3) := dk_182 0 203 (dk_at dksX4_fact_3 6 rfl rfl)
theorem dX4_fact_79 : decode cX4_fact 79 = .ok (.ireturn, 1) := dk_172 (dk_at dksX4_fact_3 9 rfl rfl)
abbrev cX4_opens : ByteArray := prog_19_method_19_code
def yX4_opens : MethodName := ⟨RX4, "opens", "(I)Z"⟩
def dkwX4_opens_2 : List UInt8 := [181, 0, 167, 4, 172]
abbrev dktX4_opens_2 : List UInt8 := dkwX4_opens_2 ++ []
def dkwX4_opens_1 : List UInt8 := [4, 96, 181, 0, 164, 42, 180, 0, 29, 42, 180, 0, 167, 27, 79, 42, 89, 180, 0, 167, 4, 96]
abbrev dktX4_opens_1 : List UInt8 := dkwX4_opens_1 ++ dktX4_opens_2
def dkwX4_opens_0 : List UInt8 := [42, 180, 0, 164, 16, 10, 160, 0, 13, 42, 5, 42, 180, 0, 102, 182, 0, 123, 172, 42, 89, 180, 0, 164]
abbrev dktX4_opens_0 : List UInt8 := dkwX4_opens_0 ++ dktX4_opens_1
theorem dksX4_opens_0 : cX4_opens.data.toList.drop 0 = dktX4_opens_0 := by decide +kernel
theorem dksX4_opens_1 : cX4_opens.data.toList.drop 24 = dktX4_opens_1 := dk_seg dksX4_opens_0 24 rfl rfl
theorem dksX4_opens_2 : cX4_opens.data.toList.drop 46 = dktX4_opens_2 := dk_seg dksX4_opens_1 22 rfl rfl
theorem dX4_opens_0 : decode cX4_opens 0 = .ok (.aload_n 0, 1) := dk_42 (dk_at dksX4_opens_0 0 rfl rfl)
theorem dX4_opens_1 : decode cX4_opens 1 = .ok (.getfield 164, 3) := dk_180 0 164 (dk_at dksX4_opens_0 1 rfl rfl)
theorem dX4_opens_4 : decode cX4_opens 4 = .ok (.bipush 10, 2) := dk_16 10 (dk_at dksX4_opens_0 4 rfl rfl)
theorem dX4_opens_6 : decode cX4_opens 6 = .ok (.if_icmp .ne 13, 3) := dk_160 0 13 (dk_at dksX4_opens_0 6 rfl rfl)
theorem dX4_opens_9 : decode cX4_opens 9 = .ok (.aload_n 0, 1) := dk_42 (dk_at dksX4_opens_0 9 rfl rfl)
theorem dX4_opens_10 : decode cX4_opens 10 = .ok (.iconst 2, 1) := dk_5 (dk_at dksX4_opens_0 10 rfl rfl)
theorem dX4_opens_11 : decode cX4_opens 11 = .ok (.aload_n 0, 1) := dk_42 (dk_at dksX4_opens_0 11 rfl rfl)
theorem dX4_opens_12 : decode cX4_opens 12 = .ok (.getfield 102, 3) := dk_180 0 102 (dk_at dksX4_opens_0 12 rfl rfl)
theorem dX4_opens_15 : decode cX4_opens 15 = .ok (.invokevirtual 123, 3) := dk_182 0 123 (dk_at dksX4_opens_0 15 rfl rfl)
theorem dX4_opens_18 : decode cX4_opens 18 = .ok (.ireturn, 1) := dk_172 (dk_at dksX4_opens_0 18 rfl rfl)
theorem dX4_opens_19 : decode cX4_opens 19 = .ok (.aload_n 0, 1) := dk_42 (dk_at dksX4_opens_0 19 rfl rfl)
theorem dX4_opens_20 : decode cX4_opens 20 = .ok (.dup, 1) := dk_89 (dk_at dksX4_opens_0 20 rfl rfl)
theorem dX4_opens_21 : decode cX4_opens 21 = .ok (.getfield 164, 3) := dk_180 0 164 (dk_at dksX4_opens_0 21 rfl rfl)
theorem dX4_opens_24 : decode cX4_opens 24 = .ok (.iconst 1, 1) := dk_4 (dk_at dksX4_opens_1 0 rfl rfl)
theorem dX4_opens_25 : decode cX4_opens 25 = .ok (.iadd, 1) := dk_96 (dk_at dksX4_opens_1 1 rfl rfl)
theorem dX4_opens_26 : decode cX4_opens 26 = .ok (.putfield 164, 3) := dk_181 0 164 (dk_at dksX4_opens_1 2 rfl rfl)
theorem dX4_opens_29 : decode cX4_opens 29 = .ok (.aload_n 0, 1) := dk_42 (dk_at dksX4_opens_1 5 rfl rfl)
theorem dX4_opens_30 : decode cX4_opens 30 = .ok (.getfield 29, 3) := dk_180 0 29 (dk_at dksX4_opens_1 6 rfl rfl)
theorem dX4_opens_33 : decode cX4_opens 33 = .ok (.aload_n 0, 1) := dk_42 (dk_at dksX4_opens_1 9 rfl rfl)
theorem dX4_opens_34 : decode cX4_opens 34 = .ok (.getfield 167, 3) := dk_180 0 167 (dk_at dksX4_opens_1 10 rfl rfl)
theorem dX4_opens_37 : decode cX4_opens 37 = .ok (.iload_n 1, 1) := dk_27 (dk_at dksX4_opens_1 13 rfl rfl)
theorem dX4_opens_38 : decode cX4_opens 38 = .ok (.iastore, 1) := dk_79 (dk_at dksX4_opens_1 14 rfl rfl)
theorem dX4_opens_39 : decode cX4_opens 39 = .ok (.aload_n 0, 1) := dk_42 (dk_at dksX4_opens_1 15 rfl rfl)
theorem dX4_opens_40 : decode cX4_opens 40 = .ok (.dup, 1) := dk_89 (dk_at dksX4_opens_1 16 rfl rfl)
theorem dX4_opens_41 : decode cX4_opens 41 = .ok (.getfield 167, 3) := dk_180 0 167 (dk_at dksX4_opens_1 17 rfl rfl)
theorem dX4_opens_44 : decode cX4_opens 44 = .ok (.iconst 1, 1) := dk_4 (dk_at dksX4_opens_1 20 rfl rfl)
theorem dX4_opens_45 : decode cX4_opens 45 = .ok (.iadd, 1) := dk_96 (dk_at dksX4_opens_1 21 rfl rfl)
theorem dX4_opens_46 : decode cX4_opens 46 = .ok (.putfield 167, 3) := dk_181 0 167 (dk_at dksX4_opens_2 0 rfl rfl)
theorem dX4_opens_49 : decode cX4_opens 49 = .ok (.iconst 1, 1) := dk_4 (dk_at dksX4_opens_2 3 rfl rfl)
theorem dX4_opens_50 : decode cX4_opens 50 = .ok (.ireturn, 1) := dk_172 (dk_at dksX4_opens_2 4 rfl rfl)
abbrev cX4_compare : ByteArray := prog_19_method_25_code
def yX4_compare : MethodName := ⟨RX4, "compare", "()Z"⟩
def dkwX4_compare_7 : List UInt8 := [16, 6, 21, 4, 96, 3, 182, 0, 174, 4, 172]
abbrev dktX4_compare_7 : List UInt8 := dkwX4_compare_7 ++ []
def dkwX4_compare_6 : List UInt8 := [167, 0, 12, 29, 153, 0, 7, 6, 167, 0, 4, 7, 54, 4, 42, 182, 0, 195, 154, 0, 5, 3, 172, 42]
abbrev dktX4_compare_6 : List UInt8 := dkwX4_compare_6 ++ dktX4_compare_7
def dkwX4_compare_5 : List UInt8 := [16, 60, 160, 0, 15, 29, 153, 0, 7, 4, 167, 0, 26, 3, 167, 0, 22, 27, 16, 61, 160, 0, 7, 5]
abbrev dktX4_compare_5 : List UInt8 := dkwX4_compare_5 ++ dktX4_compare_6
def dkwX4_compare_4 : List UInt8 := [153, 0, 13, 42, 89, 180, 0, 102, 4, 96, 181, 0, 102, 42, 28, 182, 0, 182, 154, 0, 5, 3, 172, 27]
abbrev dktX4_compare_4 : List UInt8 := dkwX4_compare_4 ++ dktX4_compare_5
def dkwX4_compare_3 : List UInt8 := [162, 0, 21, 42, 180, 0, 7, 42, 180, 0, 102, 51, 16, 61, 160, 0, 7, 4, 167, 0, 4, 3, 62, 29]
abbrev dktX4_compare_3 : List UInt8 := dkwX4_compare_3 ++ dktX4_compare_4
def dkwX4_compare_2 : List UInt8 := [180, 0, 102, 4, 96, 181, 0, 102, 27, 16, 61, 159, 0, 32, 42, 180, 0, 102, 42, 180, 0, 92]
abbrev dktX4_compare_2 : List UInt8 := dkwX4_compare_2 ++ dktX4_compare_3
def dkwX4_compare_1 : List UInt8 := [159, 0, 22, 27, 16, 61, 159, 0, 16, 27, 16, 62, 159, 0, 10, 42, 3, 28, 182, 0, 123, 172, 42, 89]
abbrev dktX4_compare_1 : List UInt8 := dkwX4_compare_1 ++ dktX4_compare_2
def dkwX4_compare_0 : List UInt8 := [42, 182, 0, 195, 154, 0, 5, 3, 172, 42, 182, 0, 105, 60, 42, 180, 0, 102, 61, 27, 16, 60]
abbrev dktX4_compare_0 : List UInt8 := dkwX4_compare_0 ++ dktX4_compare_1
theorem dksX4_compare_0 : cX4_compare.data.toList.drop 0 = dktX4_compare_0 := by decide +kernel
theorem dksX4_compare_1 : cX4_compare.data.toList.drop 22 = dktX4_compare_1 := dk_seg dksX4_compare_0 22 rfl rfl
theorem dksX4_compare_2 : cX4_compare.data.toList.drop 46 = dktX4_compare_2 := dk_seg dksX4_compare_1 24 rfl rfl
theorem dksX4_compare_3 : cX4_compare.data.toList.drop 68 = dktX4_compare_3 := dk_seg dksX4_compare_2 22 rfl rfl
theorem dksX4_compare_4 : cX4_compare.data.toList.drop 92 = dktX4_compare_4 := dk_seg dksX4_compare_3 24 rfl rfl
theorem dksX4_compare_5 : cX4_compare.data.toList.drop 116 = dktX4_compare_5 := dk_seg dksX4_compare_4 24 rfl rfl
theorem dksX4_compare_6 : cX4_compare.data.toList.drop 140 = dktX4_compare_6 := dk_seg dksX4_compare_5 24 rfl rfl
theorem dksX4_compare_7 : cX4_compare.data.toList.drop 164 = dktX4_compare_7 := dk_seg dksX4_compare_6 24 rfl rfl
theorem dX4_compare_0 : decode cX4_compare 0 = .ok (.aload_n 0, 1) := dk_42 (dk_at dksX4_compare_0 0 rfl rfl)
theorem dX4_compare_1 : decode cX4_compare 1 = .ok (.invokevirtual 195, 3) := dk_182 0 195 (dk_at dksX4_compare_0 1 rfl rfl)
theorem dX4_compare_4 : decode cX4_compare 4 = .ok (.ifCond .ne 5, 3) := dk_154 0 5 (dk_at dksX4_compare_0 4 rfl rfl)
theorem dX4_compare_7 : decode cX4_compare 7 = .ok (.iconst 0, 1) := dk_3 (dk_at dksX4_compare_0 7 rfl rfl)
theorem dX4_compare_8 : decode cX4_compare 8 = .ok (.ireturn, 1) := dk_172 (dk_at dksX4_compare_0 8 rfl rfl)
theorem dX4_compare_9 : decode cX4_compare 9 = .ok (.aload_n 0, 1) := dk_42 (dk_at dksX4_compare_0 9 rfl rfl)
theorem dX4_compare_10 : decode cX4_compare 10 = .ok (.invokevirtual 105, 3) := dk_182 0 105 (dk_at dksX4_compare_0 10 rfl rfl)
theorem dX4_compare_13 : decode cX4_compare 13 = .ok (.istore_n 1, 1) := dk_60 (dk_at dksX4_compare_0 13 rfl rfl)
theorem dX4_compare_14 : decode cX4_compare 14 = .ok (.aload_n 0, 1) := dk_42 (dk_at dksX4_compare_0 14 rfl rfl)
theorem dX4_compare_15 : decode cX4_compare 15 = .ok (.getfield 102, 3) := dk_180 0 102 (dk_at dksX4_compare_0 15 rfl rfl)
theorem dX4_compare_18 : decode cX4_compare 18 = .ok (.istore_n 2, 1) := dk_61 (dk_at dksX4_compare_0 18 rfl rfl)
theorem dX4_compare_19 : decode cX4_compare 19 = .ok (.iload_n 1, 1) := dk_27 (dk_at dksX4_compare_0 19 rfl rfl)
theorem dX4_compare_20 : decode cX4_compare 20 = .ok (.bipush 60, 2) := dk_16 60 (dk_at dksX4_compare_0 20 rfl rfl)
theorem dX4_compare_22 : decode cX4_compare 22 = .ok (.if_icmp .eq 22, 3) := dk_159 0 22 (dk_at dksX4_compare_1 0 rfl rfl)
theorem dX4_compare_25 : decode cX4_compare 25 = .ok (.iload_n 1, 1) := dk_27 (dk_at dksX4_compare_1 3 rfl rfl)
theorem dX4_compare_26 : decode cX4_compare 26 = .ok (.bipush 61, 2) := dk_16 61 (dk_at dksX4_compare_1 4 rfl rfl)
theorem dX4_compare_28 : decode cX4_compare 28 = .ok (.if_icmp .eq 16, 3) := dk_159 0 16 (dk_at dksX4_compare_1 6 rfl rfl)
theorem dX4_compare_31 : decode cX4_compare 31 = .ok (.iload_n 1, 1) := dk_27 (dk_at dksX4_compare_1 9 rfl rfl)
theorem dX4_compare_32 : decode cX4_compare 32 = .ok (.bipush 62, 2) := dk_16 62 (dk_at dksX4_compare_1 10 rfl rfl)
theorem dX4_compare_34 : decode cX4_compare 34 = .ok (.if_icmp .eq 10, 3) := dk_159 0 10 (dk_at dksX4_compare_1 12 rfl rfl)
theorem dX4_compare_37 : decode cX4_compare 37 = .ok (.aload_n 0, 1) := dk_42 (dk_at dksX4_compare_1 15 rfl rfl)
theorem dX4_compare_38 : decode cX4_compare 38 = .ok (.iconst 0, 1) := dk_3 (dk_at dksX4_compare_1 16 rfl rfl)
theorem dX4_compare_39 : decode cX4_compare 39 = .ok (.iload_n 2, 1) := dk_28 (dk_at dksX4_compare_1 17 rfl rfl)
theorem dX4_compare_40 : decode cX4_compare 40 = .ok (.invokevirtual 123, 3) := dk_182 0 123 (dk_at dksX4_compare_1 18 rfl rfl)
theorem dX4_compare_43 : decode cX4_compare 43 = .ok (.ireturn, 1) := dk_172 (dk_at dksX4_compare_1 21 rfl rfl)
theorem dX4_compare_44 : decode cX4_compare 44 = .ok (.aload_n 0, 1) := dk_42 (dk_at dksX4_compare_1 22 rfl rfl)
theorem dX4_compare_45 : decode cX4_compare 45 = .ok (.dup, 1) := dk_89 (dk_at dksX4_compare_1 23 rfl rfl)
theorem dX4_compare_46 : decode cX4_compare 46 = .ok (.getfield 102, 3) := dk_180 0 102 (dk_at dksX4_compare_2 0 rfl rfl)
theorem dX4_compare_49 : decode cX4_compare 49 = .ok (.iconst 1, 1) := dk_4 (dk_at dksX4_compare_2 3 rfl rfl)
theorem dX4_compare_50 : decode cX4_compare 50 = .ok (.iadd, 1) := dk_96 (dk_at dksX4_compare_2 4 rfl rfl)
theorem dX4_compare_51 : decode cX4_compare 51 = .ok (.putfield 102, 3) := dk_181 0 102 (dk_at dksX4_compare_2 5 rfl rfl)
theorem dX4_compare_54 : decode cX4_compare 54 = .ok (.iload_n 1, 1) := dk_27 (dk_at dksX4_compare_2 8 rfl rfl)
theorem dX4_compare_55 : decode cX4_compare 55 = .ok (.bipush 61, 2) := dk_16 61 (dk_at dksX4_compare_2 9 rfl rfl)
theorem dX4_compare_57 : decode cX4_compare 57 = .ok (.if_icmp .eq 32, 3) := dk_159 0 32 (dk_at dksX4_compare_2 11 rfl rfl)
theorem dX4_compare_60 : decode cX4_compare 60 = .ok (.aload_n 0, 1) := dk_42 (dk_at dksX4_compare_2 14 rfl rfl)
theorem dX4_compare_61 : decode cX4_compare 61 = .ok (.getfield 102, 3) := dk_180 0 102 (dk_at dksX4_compare_2 15 rfl rfl)
theorem dX4_compare_64 : decode cX4_compare 64 = .ok (.aload_n 0, 1) := dk_42 (dk_at dksX4_compare_2 18 rfl rfl)
theorem dX4_compare_65 : decode cX4_compare 65 = .ok (.getfield 92, 3) := dk_180 0 92 (dk_at dksX4_compare_2 19 rfl rfl)
theorem dX4_compare_68 : decode cX4_compare 68 = .ok (.if_icmp .ge 21, 3) := dk_162 0 21 (dk_at dksX4_compare_3 0 rfl rfl)
theorem dX4_compare_71 : decode cX4_compare 71 = .ok (.aload_n 0, 1) := dk_42 (dk_at dksX4_compare_3 3 rfl rfl)
theorem dX4_compare_72 : decode cX4_compare 72 = .ok (.getfield 7, 3) := dk_180 0 7 (dk_at dksX4_compare_3 4 rfl rfl)
theorem dX4_compare_75 : decode cX4_compare 75 = .ok (.aload_n 0, 1) := dk_42 (dk_at dksX4_compare_3 7 rfl rfl)
theorem dX4_compare_76 : decode cX4_compare 76 = .ok (.getfield 102, 3) := dk_180 0 102 (dk_at dksX4_compare_3 8 rfl rfl)
theorem dX4_compare_79 : decode cX4_compare 79 = .ok (.baload, 1) := dk_51 (dk_at dksX4_compare_3 11 rfl rfl)
theorem dX4_compare_80 : decode cX4_compare 80 = .ok (.bipush 61, 2) := dk_16 61 (dk_at dksX4_compare_3 12 rfl rfl)
theorem dX4_compare_82 : decode cX4_compare 82 = .ok (.if_icmp .ne 7, 3) := dk_160 0 7 (dk_at dksX4_compare_3 14 rfl rfl)
theorem dX4_compare_85 : decode cX4_compare 85 = .ok (.iconst 1, 1) := dk_4 (dk_at dksX4_compare_3 17 rfl rfl)
theorem dX4_compare_86 : decode cX4_compare 86 = .ok (.goto 4, 3) := dk_167 0 4 (dk_at dksX4_compare_3 18 rfl rfl)
theorem dX4_compare_89 : decode cX4_compare 89 = .ok (.iconst 0, 1) := dk_3 (dk_at dksX4_compare_3 21 rfl rfl)
theorem dX4_compare_90 : decode cX4_compare 90 = .ok (.istore_n 3, 1) := dk_62 (dk_at dksX4_compare_3 22 rfl rfl)
theorem dX4_compare_91 : decode cX4_compare 91 = .ok (.iload_n 3, 1) := dk_29 (dk_at dksX4_compare_3 23 rfl rfl)
theorem dX4_compare_92 : decode cX4_compare 92 = .ok (.ifCond .eq 13, 3) := dk_153 0 13 (dk_at dksX4_compare_4 0 rfl rfl)
theorem dX4_compare_95 : decode cX4_compare 95 = .ok (.aload_n 0, 1) := dk_42 (dk_at dksX4_compare_4 3 rfl rfl)
theorem dX4_compare_96 : decode cX4_compare 96 = .ok (.dup, 1) := dk_89 (dk_at dksX4_compare_4 4 rfl rfl)
theorem dX4_compare_97 : decode cX4_compare 97 = .ok (.getfield 102, 3) := dk_180 0 102 (dk_at dksX4_compare_4 5 rfl rfl)
theorem dX4_compare_100 : decode cX4_compare 100 = .ok (.iconst 1, 1) := dk_4 (dk_at dksX4_compare_4 8 rfl rfl)
theorem dX4_compare_101 : decode cX4_compare 101 = .ok (.iadd, 1) := dk_96 (dk_at dksX4_compare_4 9 rfl rfl)
theorem dX4_compare_102 : decode cX4_compare 102 = .ok (.putfield 102, 3) := dk_181 0 102 (dk_at dksX4_compare_4 10 rfl rfl)
theorem dX4_compare_105 : decode cX4_compare 105 = .ok (.aload_n 0, 1) := dk_42 (dk_at dksX4_compare_4 13 rfl rfl)
theorem dX4_compare_106 : decode cX4_compare 106 = .ok (.iload_n 2, 1) := dk_28 (dk_at dksX4_compare_4 14 rfl rfl)
theorem dX4_compare_107 : decode cX4_compare 107 = .ok (.invokevirtual 182, 3) := dk_182 0 182 (dk_at dksX4_compare_4 15 rfl rfl)
theorem dX4_compare_110 : decode cX4_compare 110 = .ok (.ifCond .ne 5, 3) := dk_154 0 5 (dk_at dksX4_compare_4 18 rfl rfl)
theorem dX4_compare_113 : decode cX4_compare 113 = .ok (.iconst 0, 1) := dk_3 (dk_at dksX4_compare_4 21 rfl rfl)
theorem dX4_compare_114 : decode cX4_compare 114 = .ok (.ireturn, 1) := dk_172 (dk_at dksX4_compare_4 22 rfl rfl)
theorem dX4_compare_115 : decode cX4_compare 115 = .ok (.iload_n 1, 1) := dk_27 (dk_at dksX4_compare_4 23 rfl rfl)
theorem dX4_compare_116 : decode cX4_compare 116 = .ok (.bipush 60, 2) := dk_16 60 (dk_at dksX4_compare_5 0 rfl rfl)
theorem dX4_compare_118 : decode cX4_compare 118 = .ok (.if_icmp .ne 15, 3) := dk_160 0 15 (dk_at dksX4_compare_5 2 rfl rfl)
theorem dX4_compare_121 : decode cX4_compare 121 = .ok (.iload_n 3, 1) := dk_29 (dk_at dksX4_compare_5 5 rfl rfl)
theorem dX4_compare_122 : decode cX4_compare 122 = .ok (.ifCond .eq 7, 3) := dk_153 0 7 (dk_at dksX4_compare_5 6 rfl rfl)
theorem dX4_compare_125 : decode cX4_compare 125 = .ok (.iconst 1, 1) := dk_4 (dk_at dksX4_compare_5 9 rfl rfl)
theorem dX4_compare_126 : decode cX4_compare 126 = .ok (.goto 26, 3) := dk_167 0 26 (dk_at dksX4_compare_5 10 rfl rfl)
theorem dX4_compare_129 : decode cX4_compare 129 = .ok (.iconst 0, 1) := dk_3 (dk_at dksX4_compare_5 13 rfl rfl)
theorem dX4_compare_130 : decode cX4_compare 130 = .ok (.goto 22, 3) := dk_167 0 22 (dk_at dksX4_compare_5 14 rfl rfl)
theorem dX4_compare_133 : decode cX4_compare 133 = .ok (.iload_n 1, 1) := dk_27 (dk_at dksX4_compare_5 17 rfl rfl)
theorem dX4_compare_134 : decode cX4_compare 134 = .ok (.bipush 61, 2) := dk_16 61 (dk_at dksX4_compare_5 18 rfl rfl)
theorem dX4_compare_136 : decode cX4_compare 136 = .ok (.if_icmp .ne 7, 3) := dk_160 0 7 (dk_at dksX4_compare_5 20 rfl rfl)
theorem dX4_compare_139 : decode cX4_compare 139 = .ok (.iconst 2, 1) := dk_5 (dk_at dksX4_compare_5 23 rfl rfl)
theorem dX4_compare_140 : decode cX4_compare 140 = .ok (.goto 12, 3) := dk_167 0 12 (dk_at dksX4_compare_6 0 rfl rfl)
theorem dX4_compare_143 : decode cX4_compare 143 = .ok (.iload_n 3, 1) := dk_29 (dk_at dksX4_compare_6 3 rfl rfl)
theorem dX4_compare_144 : decode cX4_compare 144 = .ok (.ifCond .eq 7, 3) := dk_153 0 7 (dk_at dksX4_compare_6 4 rfl rfl)
theorem dX4_compare_147 : decode cX4_compare 147 = .ok (.iconst 3, 1) := dk_6 (dk_at dksX4_compare_6 7 rfl rfl)
theorem dX4_compare_148 : decode cX4_compare 148 = .ok (.goto 4, 3) := dk_167 0 4 (dk_at dksX4_compare_6 8 rfl rfl)
theorem dX4_compare_151 : decode cX4_compare 151 = .ok (.iconst 4, 1) := dk_7 (dk_at dksX4_compare_6 11 rfl rfl)
theorem dX4_compare_152 : decode cX4_compare 152 = .ok (.istore 4, 2) := dk_54 4 (dk_at dksX4_compare_6 12 rfl rfl)
theorem dX4_compare_154 : decode cX4_compare 154 = .ok (.aload_n 0, 1) := dk_42 (dk_at dksX4_compare_6 14 rfl rfl)
theorem dX4_compare_155 : decode cX4_compare 155 = .ok (.invokevirtual 195, 3) := dk_182 0 195 (dk_at dksX4_compare_6 15 rfl rfl)
theorem dX4_compare_158 : decode cX4_compare 158 = .ok (.ifCond .ne 5, 3) := dk_154 0 5 (dk_at dksX4_compare_6 18 rfl rfl)
theorem dX4_compare_161 : decode cX4_compare 161 = .ok (.iconst 0, 1) := dk_3 (dk_at dksX4_compare_6 21 rfl rfl)
theorem dX4_compare_162 : decode cX4_compare 162 = .ok (.ireturn, 1) := dk_172 (dk_at dksX4_compare_6 22 rfl rfl)
theorem dX4_compare_163 : decode cX4_compare 163 = .ok (.aload_n 0, 1) := dk_42 (dk_at dksX4_compare_6 23 rfl rfl)
theorem dX4_compare_164 : decode cX4_compare 164 = .ok (.bipush 6, 2) := dk_16 6 (dk_at dksX4_compare_7 0 rfl rfl)
theorem dX4_compare_166 : decode cX4_compare 166 = .ok (.iload 4, 2) := dk_21 4 (dk_at dksX4_compare_7 2 rfl rfl)
theorem dX4_compare_168 : decode cX4_compare 168 = .ok (.iadd, 1) := dk_96 (dk_at dksX4_compare_7 4 rfl rfl)
theorem dX4_compare_169 : decode cX4_compare 169 = .ok (.iconst 0, 1) := dk_3 (dk_at dksX4_compare_7 5 rfl rfl)
theorem dX4_compare_170 : decode cX4_compare 170 = .ok (.invokevirtual 174, 3) := dk_182 0 174 (dk_at dksX4_compare_7 6 rfl rfl)
theorem dX4_compare_173 : decode cX4_compare 173 = .ok (.iconst 1, 1) := dk_4 (dk_at dksX4_compare_7 9 rfl rfl)
theorem dX4_compare_174 : decode cX4_compare 174 = .ok (.ireturn, 1) := dk_172 (dk_at dksX4_compare_7 10 rfl rfl)
abbrev cX4_closes : ByteArray := prog_19_method_28_code
def yX4_closes : MethodName := ⟨RX4, "closes", "()V"⟩
def dkwX4_closes_2 : List UInt8 := [89, 180, 0, 102, 4, 96, 181, 0, 102, 42, 6, 182, 0, 206, 167, 255, 200, 177]
abbrev dktX4_closes_2 : List UInt8 := dkwX4_closes_2 ++ []
def dkwX4_closes_1 : List UInt8 := [182, 0, 206, 42, 89, 180, 0, 167, 4, 100, 181, 0, 167, 42, 89, 180, 0, 164, 4, 100, 181, 0, 164, 42]
abbrev dktX4_closes_1 : List UInt8 := dkwX4_closes_1 ++ dktX4_closes_2
def dkwX4_closes_0 : List UInt8 := [42, 6, 182, 0, 206, 42, 182, 0, 105, 16, 93, 160, 0, 53, 42, 182, 0, 209, 153, 0, 46, 42, 4]
abbrev dktX4_closes_0 : List UInt8 := dkwX4_closes_0 ++ dktX4_closes_1
theorem dksX4_closes_0 : cX4_closes.data.toList.drop 0 = dktX4_closes_0 := by decide +kernel
theorem dksX4_closes_1 : cX4_closes.data.toList.drop 23 = dktX4_closes_1 := dk_seg dksX4_closes_0 23 rfl rfl
theorem dksX4_closes_2 : cX4_closes.data.toList.drop 47 = dktX4_closes_2 := dk_seg dksX4_closes_1 24 rfl rfl
theorem dX4_closes_0 : decode cX4_closes 0 = .ok (.aload_n 0, 1) := dk_42 (dk_at dksX4_closes_0 0 rfl rfl)
theorem dX4_closes_1 : decode cX4_closes 1 = .ok (.iconst 3, 1) := dk_6 (dk_at dksX4_closes_0 1 rfl rfl)
theorem dX4_closes_2 : decode cX4_closes 2 = .ok (.invokevirtual 206, 3) := dk_182 0 206 (dk_at dksX4_closes_0 2 rfl rfl)
theorem dX4_closes_5 : decode cX4_closes 5 = .ok (.aload_n 0, 1) := dk_42 (dk_at dksX4_closes_0 5 rfl rfl)
theorem dX4_closes_6 : decode cX4_closes 6 = .ok (.invokevirtual 105, 3) := dk_182 0 105 (dk_at dksX4_closes_0 6 rfl rfl)
theorem dX4_closes_9 : decode cX4_closes 9 = .ok (.bipush 93, 2) := dk_16 93 (dk_at dksX4_closes_0 9 rfl rfl)
theorem dX4_closes_11 : decode cX4_closes 11 = .ok (.if_icmp .ne 53, 3) := dk_160 0 53 (dk_at dksX4_closes_0 11 rfl rfl)
theorem dX4_closes_14 : decode cX4_closes 14 = .ok (.aload_n 0, 1) := dk_42 (dk_at dksX4_closes_0 14 rfl rfl)
theorem dX4_closes_15 : decode cX4_closes 15 = .ok (.invokevirtual 209, 3) := dk_182 0 209 (dk_at dksX4_closes_0 15 rfl rfl)
theorem dX4_closes_18 : decode cX4_closes 18 = .ok (.ifCond .eq 46, 3) := dk_153 0 46 (dk_at dksX4_closes_0 18 rfl rfl)
theorem dX4_closes_21 : decode cX4_closes 21 = .ok (.aload_n 0, 1) := dk_42 (dk_at dksX4_closes_0 21 rfl rfl)
theorem dX4_closes_22 : decode cX4_closes 22 = .ok (.iconst 1, 1) := dk_4 (dk_at dksX4_closes_0 22 rfl rfl)
theorem dX4_closes_23 : decode cX4_closes 23 = .ok (.invokevirtual 206, 3) := dk_182 0 206 (dk_at dksX4_closes_1 0 rfl rfl)
theorem dX4_closes_26 : decode cX4_closes 26 = .ok (.aload_n 0, 1) := dk_42 (dk_at dksX4_closes_1 3 rfl rfl)
theorem dX4_closes_27 : decode cX4_closes 27 = .ok (.dup, 1) := dk_89 (dk_at dksX4_closes_1 4 rfl rfl)
theorem dX4_closes_28 : decode cX4_closes 28 = .ok (.getfield 167, 3) := dk_180 0 167 (dk_at dksX4_closes_1 5 rfl rfl)
theorem dX4_closes_31 : decode cX4_closes 31 = .ok (.iconst 1, 1) := dk_4 (dk_at dksX4_closes_1 8 rfl rfl)
theorem dX4_closes_32 : decode cX4_closes 32 = .ok (.isub, 1) := dk_100 (dk_at dksX4_closes_1 9 rfl rfl)
theorem dX4_closes_33 : decode cX4_closes 33 = .ok (.putfield 167, 3) := dk_181 0 167 (dk_at dksX4_closes_1 10 rfl rfl)
theorem dX4_closes_36 : decode cX4_closes 36 = .ok (.aload_n 0, 1) := dk_42 (dk_at dksX4_closes_1 13 rfl rfl)
theorem dX4_closes_37 : decode cX4_closes 37 = .ok (.dup, 1) := dk_89 (dk_at dksX4_closes_1 14 rfl rfl)
theorem dX4_closes_38 : decode cX4_closes 38 = .ok (.getfield 164, 3) := dk_180 0 164 (dk_at dksX4_closes_1 15 rfl rfl)
theorem dX4_closes_41 : decode cX4_closes 41 = .ok (.iconst 1, 1) := dk_4 (dk_at dksX4_closes_1 18 rfl rfl)
theorem dX4_closes_42 : decode cX4_closes 42 = .ok (.isub, 1) := dk_100 (dk_at dksX4_closes_1 19 rfl rfl)
theorem dX4_closes_43 : decode cX4_closes 43 = .ok (.putfield 164, 3) := dk_181 0 164 (dk_at dksX4_closes_1 20 rfl rfl)
theorem dX4_closes_46 : decode cX4_closes 46 = .ok (.aload_n 0, 1) := dk_42 (dk_at dksX4_closes_1 23 rfl rfl)
theorem dX4_closes_47 : decode cX4_closes 47 = .ok (.dup, 1) := dk_89 (dk_at dksX4_closes_2 0 rfl rfl)
theorem dX4_closes_48 : decode cX4_closes 48 = .ok (.getfield 102, 3) := dk_180 0 102 (dk_at dksX4_closes_2 1 rfl rfl)
theorem dX4_closes_51 : decode cX4_closes 51 = .ok (.iconst 1, 1) := dk_4 (dk_at dksX4_closes_2 4 rfl rfl)
theorem dX4_closes_52 : decode cX4_closes 52 = .ok (.iadd, 1) := dk_96 (dk_at dksX4_closes_2 5 rfl rfl)
theorem dX4_closes_53 : decode cX4_closes 53 = .ok (.putfield 102, 3) := dk_181 0 102 (dk_at dksX4_closes_2 6 rfl rfl)
theorem dX4_closes_56 : decode cX4_closes 56 = .ok (.aload_n 0, 1) := dk_42 (dk_at dksX4_closes_2 9 rfl rfl)
theorem dX4_closes_57 : decode cX4_closes 57 = .ok (.iconst 3, 1) := dk_6 (dk_at dksX4_closes_2 10 rfl rfl)
theorem dX4_closes_58 : decode cX4_closes 58 = .ok (.invokevirtual 206, 3) := dk_182 0 206 (dk_at dksX4_closes_2 11 rfl rfl)
theorem dX4_closes_61 : decode cX4_closes 61 = .ok (.goto (-56), 3) := dk_167 255 200 (dk_at dksX4_closes_2 14 rfl rfl)
theorem dX4_closes_64 : decode cX4_closes 64 = .ok (.return_, 1) := dk_177 (dk_at dksX4_closes_2 17 rfl rfl)
abbrev cX4_layDown : ByteArray := prog_19_method_21_code
def yX4_layDown : MethodName := ⟨RX4, "layDown", "(I)V"⟩
def dkwX4_layDown_3 : List UInt8 := [181, 0, 164, 167, 255, 183, 177]
abbrev dktX4_layDown_3 : List UInt8 := dkwX4_layDown_3 ++ []
def dkwX4_layDown_2 : List UInt8 := [182, 0, 174, 42, 180, 0, 29, 42, 180, 0, 167, 46, 16, 11, 160, 255, 196, 42, 89, 180, 0, 164, 4, 100]
abbrev dktX4_layDown_2 : List UInt8 := dkwX4_layDown_2 ++ dktX4_layDown_3
def dkwX4_layDown_1 : List UInt8 := [161, 0, 54, 42, 89, 180, 0, 167, 4, 100, 181, 0, 167, 42, 42, 180, 0, 29, 42, 180, 0, 167, 46, 3]
abbrev dktX4_layDown_1 : List UInt8 := dkwX4_layDown_1 ++ dktX4_layDown_2
def dkwX4_layDown_0 : List UInt8 := [42, 180, 0, 167, 158, 0, 72, 42, 180, 0, 29, 42, 180, 0, 167, 4, 100, 46, 184, 0, 170, 27]
abbrev dktX4_layDown_0 : List UInt8 := dkwX4_layDown_0 ++ dktX4_layDown_1
theorem dksX4_layDown_0 : cX4_layDown.data.toList.drop 0 = dktX4_layDown_0 := by decide +kernel
theorem dksX4_layDown_1 : cX4_layDown.data.toList.drop 22 = dktX4_layDown_1 := dk_seg dksX4_layDown_0 22 rfl rfl
theorem dksX4_layDown_2 : cX4_layDown.data.toList.drop 46 = dktX4_layDown_2 := dk_seg dksX4_layDown_1 24 rfl rfl
theorem dksX4_layDown_3 : cX4_layDown.data.toList.drop 70 = dktX4_layDown_3 := dk_seg dksX4_layDown_2 24 rfl rfl
theorem dX4_layDown_0 : decode cX4_layDown 0 = .ok (.aload_n 0, 1) := dk_42 (dk_at dksX4_layDown_0 0 rfl rfl)
theorem dX4_layDown_1 : decode cX4_layDown 1 = .ok (.getfield 167, 3) := dk_180 0 167 (dk_at dksX4_layDown_0 1 rfl rfl)
theorem dX4_layDown_4 : decode cX4_layDown 4 = .ok (.ifCond .le 72, 3) := dk_158 0 72 (dk_at dksX4_layDown_0 4 rfl rfl)
theorem dX4_layDown_7 : decode cX4_layDown 7 = .ok (.aload_n 0, 1) := dk_42 (dk_at dksX4_layDown_0 7 rfl rfl)
theorem dX4_layDown_8 : decode cX4_layDown 8 = .ok (.getfield 29, 3) := dk_180 0 29 (dk_at dksX4_layDown_0 8 rfl rfl)
theorem dX4_layDown_11 : decode cX4_layDown 11 = .ok (.aload_n 0, 1) := dk_42 (dk_at dksX4_layDown_0 11 rfl rfl)
theorem dX4_layDown_12 : decode cX4_layDown 12 = .ok (.getfield 167, 3) := dk_180 0 167 (dk_at dksX4_layDown_0 12 rfl rfl)
theorem dX4_layDown_15 : decode cX4_layDown 15 = .ok (.iconst 1, 1) := dk_4 (dk_at dksX4_layDown_0 15 rfl rfl)
theorem dX4_layDown_16 : decode cX4_layDown 16 = .ok (.isub, 1) := dk_100 (dk_at dksX4_layDown_0 16 rfl rfl)
theorem dX4_layDown_17 : decode cX4_layDown 17 = .ok (.iaload, 1) := dk_46 (dk_at dksX4_layDown_0 17 rfl rfl)
theorem dX4_layDown_18 : decode cX4_layDown 18 = .ok (.invokestatic 170, 3) := dk_184 0 170 (dk_at dksX4_layDown_0 18 rfl rfl)
theorem dX4_layDown_21 : decode cX4_layDown 21 = .ok (.iload_n 1, 1) := dk_27 (dk_at dksX4_layDown_0 21 rfl rfl)
theorem dX4_layDown_22 : decode cX4_layDown 22 = .ok (.if_icmp .lt 54, 3) := dk_161 0 54 (dk_at dksX4_layDown_1 0 rfl rfl)
theorem dX4_layDown_25 : decode cX4_layDown 25 = .ok (.aload_n 0, 1) := dk_42 (dk_at dksX4_layDown_1 3 rfl rfl)
theorem dX4_layDown_26 : decode cX4_layDown 26 = .ok (.dup, 1) := dk_89 (dk_at dksX4_layDown_1 4 rfl rfl)
theorem dX4_layDown_27 : decode cX4_layDown 27 = .ok (.getfield 167, 3) := dk_180 0 167 (dk_at dksX4_layDown_1 5 rfl rfl)
theorem dX4_layDown_30 : decode cX4_layDown 30 = .ok (.iconst 1, 1) := dk_4 (dk_at dksX4_layDown_1 8 rfl rfl)
theorem dX4_layDown_31 : decode cX4_layDown 31 = .ok (.isub, 1) := dk_100 (dk_at dksX4_layDown_1 9 rfl rfl)
theorem dX4_layDown_32 : decode cX4_layDown 32 = .ok (.putfield 167, 3) := dk_181 0 167 (dk_at dksX4_layDown_1 10 rfl rfl)
theorem dX4_layDown_35 : decode cX4_layDown 35 = .ok (.aload_n 0, 1) := dk_42 (dk_at dksX4_layDown_1 13 rfl rfl)
theorem dX4_layDown_36 : decode cX4_layDown 36 = .ok (.aload_n 0, 1) := dk_42 (dk_at dksX4_layDown_1 14 rfl rfl)
theorem dX4_layDown_37 : decode cX4_layDown 37 = .ok (.getfield 29, 3) := dk_180 0 29 (dk_at dksX4_layDown_1 15 rfl rfl)
theorem dX4_layDown_40 : decode cX4_layDown 40 = .ok (.aload_n 0, 1) := dk_42 (dk_at dksX4_layDown_1 18 rfl rfl)
theorem dX4_layDown_41 : decode cX4_layDown 41 = .ok (.getfield 167, 3) := dk_180 0 167 (dk_at dksX4_layDown_1 19 rfl rfl)
theorem dX4_layDown_44 : decode cX4_layDown 44 = .ok (.iaload, 1) := dk_46 (dk_at dksX4_layDown_1 22 rfl rfl)
theorem dX4_layDown_45 : decode cX4_layDown 45 = .ok (.iconst 0, 1) := dk_3 (dk_at dksX4_layDown_1 23 rfl rfl)
theorem dX4_layDown_46 : decode cX4_layDown 46 = .ok (.invokevirtual 174, 3) := dk_182 0 174 (dk_at dksX4_layDown_2 0 rfl rfl)
theorem dX4_layDown_49 : decode cX4_layDown 49 = .ok (.aload_n 0, 1) := dk_42 (dk_at dksX4_layDown_2 3 rfl rfl)
theorem dX4_layDown_50 : decode cX4_layDown 50 = .ok (.getfield 29, 3) := dk_180 0 29 (dk_at dksX4_layDown_2 4 rfl rfl)
theorem dX4_layDown_53 : decode cX4_layDown 53 = .ok (.aload_n 0, 1) := dk_42 (dk_at dksX4_layDown_2 7 rfl rfl)
theorem dX4_layDown_54 : decode cX4_layDown 54 = .ok (.getfield 167, 3) := dk_180 0 167 (dk_at dksX4_layDown_2 8 rfl rfl)
theorem dX4_layDown_57 : decode cX4_layDown 57 = .ok (.iaload, 1) := dk_46 (dk_at dksX4_layDown_2 11 rfl rfl)
theorem dX4_layDown_58 : decode cX4_layDown 58 = .ok (.bipush 11, 2) := dk_16 11 (dk_at dksX4_layDown_2 12 rfl rfl)
theorem dX4_layDown_60 : decode cX4_layDown 60 = .ok (.if_icmp .ne (-60), 3) := dk_160 255 196 (dk_at dksX4_layDown_2 14 rfl rfl)
theorem dX4_layDown_63 : decode cX4_layDown 63 = .ok (.aload_n 0, 1) := dk_42 (dk_at dksX4_layDown_2 17 rfl rfl)
theorem dX4_layDown_64 : decode cX4_layDown 64 = .ok (.dup, 1) := dk_89 (dk_at dksX4_layDown_2 18 rfl rfl)
theorem dX4_layDown_65 : decode cX4_layDown 65 = .ok (.getfield 164, 3) := dk_180 0 164 (dk_at dksX4_layDown_2 19 rfl rfl)
theorem dX4_layDown_68 : decode cX4_layDown 68 = .ok (.iconst 1, 1) := dk_4 (dk_at dksX4_layDown_2 22 rfl rfl)
theorem dX4_layDown_69 : decode cX4_layDown 69 = .ok (.isub, 1) := dk_100 (dk_at dksX4_layDown_2 23 rfl rfl)
theorem dX4_layDown_70 : decode cX4_layDown 70 = .ok (.putfield 164, 3) := dk_181 0 164 (dk_at dksX4_layDown_3 0 rfl rfl)
theorem dX4_layDown_73 : decode cX4_layDown 73 = .ok (.goto (-73), 3) := dk_167 255 183 (dk_at dksX4_layDown_3 3 rfl rfl)
theorem dX4_layDown_76 : decode cX4_layDown 76 = .ok (.return_, 1) := dk_177 (dk_at dksX4_layDown_3 6 rfl rfl)
abbrev cX4_strength : ByteArray := prog_19_method_20_code
def yX4_strength : MethodName := ⟨RX4, "strength", "(I)I"⟩
def dkwX4_strength_1 : List UInt8 := [160, 0, 7, 6, 167, 0, 4, 3, 172]
abbrev dktX4_strength_1 : List UInt8 := dkwX4_strength_1 ++ []
def dkwX4_strength_0 : List UInt8 := [26, 16, 13, 160, 0, 7, 4, 167, 0, 24, 26, 16, 12, 160, 0, 7, 5, 167, 0, 14, 26, 16, 11]
abbrev dktX4_strength_0 : List UInt8 := dkwX4_strength_0 ++ dktX4_strength_1
theorem dksX4_strength_0 : cX4_strength.data.toList.drop 0 = dktX4_strength_0 := by decide +kernel
theorem dksX4_strength_1 : cX4_strength.data.toList.drop 23 = dktX4_strength_1 := dk_seg dksX4_strength_0 23 rfl rfl
theorem dX4_strength_0 : decode cX4_strength 0 = .ok (.iload_n 0, 1) := dk_26 (dk_at dksX4_strength_0 0 rfl rfl)
theorem dX4_strength_1 : decode cX4_strength 1 = .ok (.bipush 13, 2) := dk_16 13 (dk_at dksX4_strength_0 1 rfl rfl)
theorem dX4_strength_3 : decode cX4_strength 3 = .ok (.if_icmp .ne 7, 3) := dk_160 0 7 (dk_at dksX4_strength_0 3 rfl rfl)
theorem dX4_strength_6 : decode cX4_strength 6 = .ok (.iconst 1, 1) := dk_4 (dk_at dksX4_strength_0 6 rfl rfl)
theorem dX4_strength_7 : decode cX4_strength 7 = .ok (.goto 24, 3) := dk_167 0 24 (dk_at dksX4_strength_0 7 rfl rfl)
theorem dX4_strength_10 : decode cX4_strength 10 = .ok (.iload_n 0, 1) := dk_26 (dk_at dksX4_strength_0 10 rfl rfl)
theorem dX4_strength_11 : decode cX4_strength 11 = .ok (.bipush 12, 2) := dk_16 12 (dk_at dksX4_strength_0 11 rfl rfl)
theorem dX4_strength_13 : decode cX4_strength 13 = .ok (.if_icmp .ne 7, 3) := dk_160 0 7 (dk_at dksX4_strength_0 13 rfl rfl)
theorem dX4_strength_16 : decode cX4_strength 16 = .ok (.iconst 2, 1) := dk_5 (dk_at dksX4_strength_0 16 rfl rfl)
theorem dX4_strength_17 : decode cX4_strength 17 = .ok (.goto 14, 3) := dk_167 0 14 (dk_at dksX4_strength_0 17 rfl rfl)
theorem dX4_strength_20 : decode cX4_strength 20 = .ok (.iload_n 0, 1) := dk_26 (dk_at dksX4_strength_0 20 rfl rfl)
theorem dX4_strength_21 : decode cX4_strength 21 = .ok (.bipush 11, 2) := dk_16 11 (dk_at dksX4_strength_0 21 rfl rfl)
theorem dX4_strength_23 : decode cX4_strength 23 = .ok (.if_icmp .ne 7, 3) := dk_160 0 7 (dk_at dksX4_strength_1 0 rfl rfl)
theorem dX4_strength_26 : decode cX4_strength 26 = .ok (.iconst 3, 1) := dk_6 (dk_at dksX4_strength_1 3 rfl rfl)
theorem dX4_strength_27 : decode cX4_strength 27 = .ok (.goto 4, 3) := dk_167 0 4 (dk_at dksX4_strength_1 4 rfl rfl)
theorem dX4_strength_30 : decode cX4_strength 30 = .ok (.iconst 0, 1) := dk_3 (dk_at dksX4_strength_1 7 rfl rfl)
theorem dX4_strength_31 : decode cX4_strength 31 = .ok (.ireturn, 1) := dk_172 (dk_at dksX4_strength_1 8 rfl rfl)
abbrev cX4_isInside : ByteArray := prog_19_method_27_code
def yX4_isInside : MethodName := ⟨RX4, "isInside", "()Z"⟩
def dkwX4_isInside_1 : List UInt8 := [132, 1, 1, 167, 255, 232, 3, 172]
abbrev dktX4_isInside_1 : List UInt8 := dkwX4_isInside_1 ++ []
def dkwX4_isInside_0 : List UInt8 := [3, 60, 27, 42, 180, 0, 167, 162, 0, 22, 42, 180, 0, 29, 27, 46, 16, 91, 160, 0, 5, 4, 172]
abbrev dktX4_isInside_0 : List UInt8 := dkwX4_isInside_0 ++ dktX4_isInside_1
theorem dksX4_isInside_0 : cX4_isInside.data.toList.drop 0 = dktX4_isInside_0 := by decide +kernel
theorem dksX4_isInside_1 : cX4_isInside.data.toList.drop 23 = dktX4_isInside_1 := dk_seg dksX4_isInside_0 23 rfl rfl
theorem dX4_isInside_0 : decode cX4_isInside 0 = .ok (.iconst 0, 1) := dk_3 (dk_at dksX4_isInside_0 0 rfl rfl)
theorem dX4_isInside_1 : decode cX4_isInside 1 = .ok (.istore_n 1, 1) := dk_60 (dk_at dksX4_isInside_0 1 rfl rfl)
theorem dX4_isInside_2 : decode cX4_isInside 2 = .ok (.iload_n 1, 1) := dk_27 (dk_at dksX4_isInside_0 2 rfl rfl)
theorem dX4_isInside_3 : decode cX4_isInside 3 = .ok (.aload_n 0, 1) := dk_42 (dk_at dksX4_isInside_0 3 rfl rfl)
theorem dX4_isInside_4 : decode cX4_isInside 4 = .ok (.getfield 167, 3) := dk_180 0 167 (dk_at dksX4_isInside_0 4 rfl rfl)
theorem dX4_isInside_7 : decode cX4_isInside 7 = .ok (.if_icmp .ge 22, 3) := dk_162 0 22 (dk_at dksX4_isInside_0 7 rfl rfl)
theorem dX4_isInside_10 : decode cX4_isInside 10 = .ok (.aload_n 0, 1) := dk_42 (dk_at dksX4_isInside_0 10 rfl rfl)
theorem dX4_isInside_11 : decode cX4_isInside 11 = .ok (.getfield 29, 3) := dk_180 0 29 (dk_at dksX4_isInside_0 11 rfl rfl)
theorem dX4_isInside_14 : decode cX4_isInside 14 = .ok (.iload_n 1, 1) := dk_27 (dk_at dksX4_isInside_0 14 rfl rfl)
theorem dX4_isInside_15 : decode cX4_isInside 15 = .ok (.iaload, 1) := dk_46 (dk_at dksX4_isInside_0 15 rfl rfl)
theorem dX4_isInside_16 : decode cX4_isInside 16 = .ok (.bipush 91, 2) := dk_16 91 (dk_at dksX4_isInside_0 16 rfl rfl)
theorem dX4_isInside_18 : decode cX4_isInside 18 = .ok (.if_icmp .ne 5, 3) := dk_160 0 5 (dk_at dksX4_isInside_0 18 rfl rfl)
theorem dX4_isInside_21 : decode cX4_isInside 21 = .ok (.iconst 1, 1) := dk_4 (dk_at dksX4_isInside_0 21 rfl rfl)
theorem dX4_isInside_22 : decode cX4_isInside 22 = .ok (.ireturn, 1) := dk_172 (dk_at dksX4_isInside_0 22 rfl rfl)
theorem dX4_isInside_23 : decode cX4_isInside 23 = .ok (.iinc 1 1, 3) := dk_132 1 1 (dk_at dksX4_isInside_1 0 rfl rfl)
theorem dX4_isInside_26 : decode cX4_isInside 26 = .ok (.goto (-24), 3) := dk_167 255 232 (dk_at dksX4_isInside_1 3 rfl rfl)
theorem dX4_isInside_29 : decode cX4_isInside 29 = .ok (.iconst 0, 1) := dk_3 (dk_at dksX4_isInside_1 6 rfl rfl)
theorem dX4_isInside_30 : decode cX4_isInside 30 = .ok (.ireturn, 1) := dk_172 (dk_at dksX4_isInside_1 7 rfl rfl)
abbrev cX4_junction : ByteArray := prog_19_method_41_code
def yX4_junction : MethodName := ⟨RX4, "junction", "()I"⟩
def dkwX4_junction_3 : List UInt8 := [79, 132, 1, 1, 167, 255, 225, 42, 182, 1, 17, 42, 3, 181, 1, 20, 42, 180, 0, 39, 6, 46, 172]
abbrev dktX4_junction_3 : List UInt8 := dkwX4_junction_3 ++ []
def dkwX4_junction_2 : List UInt8 := [162, 0, 31, 42, 180, 0, 39, 27, 27, 16, 90, 162, 0, 12, 42, 180, 0, 26, 27, 46, 167, 0, 4, 3]
abbrev dktX4_junction_2 : List UInt8 := dkwX4_junction_2 ++ dktX4_junction_3
def dkwX4_junction_1 : List UInt8 := [167, 255, 240, 42, 182, 1, 14, 154, 0, 11, 16, 254, 42, 180, 0, 99, 100, 172, 3, 60, 27, 16, 121]
abbrev dktX4_junction_1 : List UInt8 := dkwX4_junction_1 ++ dktX4_junction_2
def dkwX4_junction_0 : List UInt8 := [42, 16, 6, 181, 0, 158, 3, 60, 27, 16, 90, 162, 0, 16, 42, 180, 0, 26, 27, 3, 79, 132, 1, 1]
abbrev dktX4_junction_0 : List UInt8 := dkwX4_junction_0 ++ dktX4_junction_1
theorem dksX4_junction_0 : cX4_junction.data.toList.drop 0 = dktX4_junction_0 := by decide +kernel
theorem dksX4_junction_1 : cX4_junction.data.toList.drop 24 = dktX4_junction_1 := dk_seg dksX4_junction_0 24 rfl rfl
theorem dksX4_junction_2 : cX4_junction.data.toList.drop 47 = dktX4_junction_2 := dk_seg dksX4_junction_1 23 rfl rfl
theorem dksX4_junction_3 : cX4_junction.data.toList.drop 71 = dktX4_junction_3 := dk_seg dksX4_junction_2 24 rfl rfl
theorem dX4_junction_0 : decode cX4_junction 0 = .ok (.aload_n 0, 1) := dk_42 (dk_at dksX4_junction_0 0 rfl rfl)
theorem dX4_junction_1 : decode cX4_junction 1 = .ok (.bipush 6, 2) := dk_16 6 (dk_at dksX4_junction_0 1 rfl rfl)
theorem dX4_junction_3 : decode cX4_junction 3 = .ok (.putfield 158, 3) := dk_181 0 158 (dk_at dksX4_junction_0 3 rfl rfl)
theorem dX4_junction_6 : decode cX4_junction 6 = .ok (.iconst 0, 1) := dk_3 (dk_at dksX4_junction_0 6 rfl rfl)
theorem dX4_junction_7 : decode cX4_junction 7 = .ok (.istore_n 1, 1) := dk_60 (dk_at dksX4_junction_0 7 rfl rfl)
theorem dX4_junction_8 : decode cX4_junction 8 = .ok (.iload_n 1, 1) := dk_27 (dk_at dksX4_junction_0 8 rfl rfl)
theorem dX4_junction_9 : decode cX4_junction 9 = .ok (.bipush 90, 2) := dk_16 90 (dk_at dksX4_junction_0 9 rfl rfl)
theorem dX4_junction_11 : decode cX4_junction 11 = .ok (.if_icmp .ge 16, 3) := dk_162 0 16 (dk_at dksX4_junction_0 11 rfl rfl)
theorem dX4_junction_14 : decode cX4_junction 14 = .ok (.aload_n 0, 1) := dk_42 (dk_at dksX4_junction_0 14 rfl rfl)
theorem dX4_junction_15 : decode cX4_junction 15 = .ok (.getfield 26, 3) := dk_180 0 26 (dk_at dksX4_junction_0 15 rfl rfl)
theorem dX4_junction_18 : decode cX4_junction 18 = .ok (.iload_n 1, 1) := dk_27 (dk_at dksX4_junction_0 18 rfl rfl)
theorem dX4_junction_19 : decode cX4_junction 19 = .ok (.iconst 0, 1) := dk_3 (dk_at dksX4_junction_0 19 rfl rfl)
theorem dX4_junction_20 : decode cX4_junction 20 = .ok (.iastore, 1) := dk_79 (dk_at dksX4_junction_0 20 rfl rfl)
theorem dX4_junction_21 : decode cX4_junction 21 = .ok (.iinc 1 1, 3) := dk_132 1 1 (dk_at dksX4_junction_0 21 rfl rfl)
theorem dX4_junction_24 : decode cX4_junction 24 = .ok (.goto (-16), 3) := dk_167 255 240 (dk_at dksX4_junction_1 0 rfl rfl)
theorem dX4_junction_27 : decode cX4_junction 27 = .ok (.aload_n 0, 1) := dk_42 (dk_at dksX4_junction_1 3 rfl rfl)
theorem dX4_junction_28 : decode cX4_junction 28 = .ok (.invokevirtual 270, 3) := dk_182 1 14 (dk_at dksX4_junction_1 4 rfl rfl)
theorem dX4_junction_31 : decode cX4_junction 31 = .ok (.ifCond .ne 11, 3) := dk_154 0 11 (dk_at dksX4_junction_1 7 rfl rfl)
theorem dX4_junction_34 : decode cX4_junction 34 = .ok (.bipush (-2), 2) := dk_16 254 (dk_at dksX4_junction_1 10 rfl rfl)
theorem dX4_junction_36 : decode cX4_junction 36 = .ok (.aload_n 0, 1) := dk_42 (dk_at dksX4_junction_1 12 rfl rfl)
theorem dX4_junction_37 : decode cX4_junction 37 = .ok (.getfield 99, 3) := dk_180 0 99 (dk_at dksX4_junction_1 13 rfl rfl)
theorem dX4_junction_40 : decode cX4_junction 40 = .ok (.isub, 1) := dk_100 (dk_at dksX4_junction_1 16 rfl rfl)
theorem dX4_junction_41 : decode cX4_junction 41 = .ok (.ireturn, 1) := dk_172 (dk_at dksX4_junction_1 17 rfl rfl)
theorem dX4_junction_42 : decode cX4_junction 42 = .ok (.iconst 0, 1) := dk_3 (dk_at dksX4_junction_1 18 rfl rfl)
theorem dX4_junction_43 : decode cX4_junction 43 = .ok (.istore_n 1, 1) := dk_60 (dk_at dksX4_junction_1 19 rfl rfl)
theorem dX4_junction_44 : decode cX4_junction 44 = .ok (.iload_n 1, 1) := dk_27 (dk_at dksX4_junction_1 20 rfl rfl)
theorem dX4_junction_45 : decode cX4_junction 45 = .ok (.bipush 121, 2) := dk_16 121 (dk_at dksX4_junction_1 21 rfl rfl)
theorem dX4_junction_47 : decode cX4_junction 47 = .ok (.if_icmp .ge 31, 3) := dk_162 0 31 (dk_at dksX4_junction_2 0 rfl rfl)
theorem dX4_junction_50 : decode cX4_junction 50 = .ok (.aload_n 0, 1) := dk_42 (dk_at dksX4_junction_2 3 rfl rfl)
theorem dX4_junction_51 : decode cX4_junction 51 = .ok (.getfield 39, 3) := dk_180 0 39 (dk_at dksX4_junction_2 4 rfl rfl)
theorem dX4_junction_54 : decode cX4_junction 54 = .ok (.iload_n 1, 1) := dk_27 (dk_at dksX4_junction_2 7 rfl rfl)
theorem dX4_junction_55 : decode cX4_junction 55 = .ok (.iload_n 1, 1) := dk_27 (dk_at dksX4_junction_2 8 rfl rfl)
theorem dX4_junction_56 : decode cX4_junction 56 = .ok (.bipush 90, 2) := dk_16 90 (dk_at dksX4_junction_2 9 rfl rfl)
theorem dX4_junction_58 : decode cX4_junction 58 = .ok (.if_icmp .ge 12, 3) := dk_162 0 12 (dk_at dksX4_junction_2 11 rfl rfl)
theorem dX4_junction_61 : decode cX4_junction 61 = .ok (.aload_n 0, 1) := dk_42 (dk_at dksX4_junction_2 14 rfl rfl)
theorem dX4_junction_62 : decode cX4_junction 62 = .ok (.getfield 26, 3) := dk_180 0 26 (dk_at dksX4_junction_2 15 rfl rfl)
theorem dX4_junction_65 : decode cX4_junction 65 = .ok (.iload_n 1, 1) := dk_27 (dk_at dksX4_junction_2 18 rfl rfl)
theorem dX4_junction_66 : decode cX4_junction 66 = .ok (.iaload, 1) := dk_46 (dk_at dksX4_junction_2 19 rfl rfl)
theorem dX4_junction_67 : decode cX4_junction 67 = .ok (.goto 4, 3) := dk_167 0 4 (dk_at dksX4_junction_2 20 rfl rfl)
theorem dX4_junction_70 : decode cX4_junction 70 = .ok (.iconst 0, 1) := dk_3 (dk_at dksX4_junction_2 23 rfl rfl)
theorem dX4_junction_71 : decode cX4_junction 71 = .ok (.iastore, 1) := dk_79 (dk_at dksX4_junction_3 0 rfl rfl)
theorem dX4_junction_72 : decode cX4_junction 72 = .ok (.iinc 1 1, 3) := dk_132 1 1 (dk_at dksX4_junction_3 1 rfl rfl)
theorem dX4_junction_75 : decode cX4_junction 75 = .ok (.goto (-31), 3) := dk_167 255 225 (dk_at dksX4_junction_3 4 rfl rfl)
theorem dX4_junction_78 : decode cX4_junction 78 = .ok (.aload_n 0, 1) := dk_42 (dk_at dksX4_junction_3 7 rfl rfl)
theorem dX4_junction_79 : decode cX4_junction 79 = .ok (.invokevirtual 273, 3) := dk_182 1 17 (dk_at dksX4_junction_3 8 rfl rfl)
theorem dX4_junction_82 : decode cX4_junction 82 = .ok (.aload_n 0, 1) := dk_42 (dk_at dksX4_junction_3 11 rfl rfl)
theorem dX4_junction_83 : decode cX4_junction 83 = .ok (.iconst 0, 1) := dk_3 (dk_at dksX4_junction_3 12 rfl rfl)
theorem dX4_junction_84 : decode cX4_junction 84 = .ok (.putfield 276, 3) := dk_181 1 20 (dk_at dksX4_junction_3 13 rfl rfl)
theorem dX4_junction_87 : decode cX4_junction 87 = .ok (.aload_n 0, 1) := dk_42 (dk_at dksX4_junction_3 16 rfl rfl)
theorem dX4_junction_88 : decode cX4_junction 88 = .ok (.getfield 39, 3) := dk_180 0 39 (dk_at dksX4_junction_3 17 rfl rfl)
theorem dX4_junction_91 : decode cX4_junction 91 = .ok (.iconst 3, 1) := dk_6 (dk_at dksX4_junction_3 20 rfl rfl)
theorem dX4_junction_92 : decode cX4_junction 92 = .ok (.iaload, 1) := dk_46 (dk_at dksX4_junction_3 21 rfl rfl)
theorem dX4_junction_93 : decode cX4_junction 93 = .ok (.ireturn, 1) := dk_172 (dk_at dksX4_junction_3 22 rfl rfl)
abbrev cX4_begins : ByteArray := prog_19_method_59_code
def yX4_begins : MethodName := ⟨RX4, "begins", "()V"⟩
def dkwX4_begins_5 : List UInt8 := [16, 78, 27, 96, 46, 79, 132, 1, 1, 167, 255, 229, 177]
abbrev dktX4_begins_5 : List UInt8 := dkwX4_begins_5 ++ []
def dkwX4_begins_4 : List UInt8 := [167, 255, 181, 3, 60, 27, 16, 12, 162, 0, 27, 42, 180, 0, 39, 16, 41, 27, 96, 42, 180, 0, 39]
abbrev dktX4_begins_4 : List UInt8 := dkwX4_begins_4 ++ dktX4_begins_5
def dkwX4_begins_3 : List UInt8 := [79, 42, 180, 0, 39, 28, 6, 96, 3, 79, 42, 180, 0, 39, 28, 7, 96, 2, 79, 132, 1, 1]
abbrev dktX4_begins_3 : List UInt8 := dkwX4_begins_3 ++ dktX4_begins_4
def dkwX4_begins_2 : List UInt8 := [180, 0, 39, 28, 4, 96, 42, 180, 0, 39, 16, 66, 27, 96, 46, 79, 42, 180, 0, 39, 28, 5, 96, 3]
abbrev dktX4_begins_2 : List UInt8 := dkwX4_begins_2 ++ dktX4_begins_3
def dkwX4_begins_1 : List UInt8 := [16, 11, 8, 27, 104, 96, 61, 42, 180, 0, 39, 28, 42, 180, 0, 39, 16, 60, 27, 96, 46, 79, 42]
abbrev dktX4_begins_1 : List UInt8 := dkwX4_begins_1 ++ dktX4_begins_2
def dkwX4_begins_0 : List UInt8 := [42, 180, 0, 39, 16, 10, 3, 79, 42, 180, 0, 39, 16, 53, 3, 79, 3, 60, 27, 16, 6, 162, 0, 75]
abbrev dktX4_begins_0 : List UInt8 := dkwX4_begins_0 ++ dktX4_begins_1
theorem dksX4_begins_0 : cX4_begins.data.toList.drop 0 = dktX4_begins_0 := by decide +kernel
theorem dksX4_begins_1 : cX4_begins.data.toList.drop 24 = dktX4_begins_1 := dk_seg dksX4_begins_0 24 rfl rfl
theorem dksX4_begins_2 : cX4_begins.data.toList.drop 47 = dktX4_begins_2 := dk_seg dksX4_begins_1 23 rfl rfl
theorem dksX4_begins_3 : cX4_begins.data.toList.drop 71 = dktX4_begins_3 := dk_seg dksX4_begins_2 24 rfl rfl
theorem dksX4_begins_4 : cX4_begins.data.toList.drop 93 = dktX4_begins_4 := dk_seg dksX4_begins_3 22 rfl rfl
theorem dksX4_begins_5 : cX4_begins.data.toList.drop 116 = dktX4_begins_5 := dk_seg dksX4_begins_4 23 rfl rfl
theorem dX4_begins_0 : decode cX4_begins 0 = .ok (.aload_n 0, 1) := dk_42 (dk_at dksX4_begins_0 0 rfl rfl)
theorem dX4_begins_1 : decode cX4_begins 1 = .ok (.getfield 39, 3) := dk_180 0 39 (dk_at dksX4_begins_0 1 rfl rfl)
theorem dX4_begins_4 : decode cX4_begins 4 = .ok (.bipush 10, 2) := dk_16 10 (dk_at dksX4_begins_0 4 rfl rfl)
theorem dX4_begins_6 : decode cX4_begins 6 = .ok (.iconst 0, 1) := dk_3 (dk_at dksX4_begins_0 6 rfl rfl)
theorem dX4_begins_7 : decode cX4_begins 7 = .ok (.iastore, 1) := dk_79 (dk_at dksX4_begins_0 7 rfl rfl)
theorem dX4_begins_8 : decode cX4_begins 8 = .ok (.aload_n 0, 1) := dk_42 (dk_at dksX4_begins_0 8 rfl rfl)
theorem dX4_begins_9 : decode cX4_begins 9 = .ok (.getfield 39, 3) := dk_180 0 39 (dk_at dksX4_begins_0 9 rfl rfl)
theorem dX4_begins_12 : decode cX4_begins 12 = .ok (.bipush 53, 2) := dk_16 53 (dk_at dksX4_begins_0 12 rfl rfl)
theorem dX4_begins_14 : decode cX4_begins 14 = .ok (.iconst 0, 1) := dk_3 (dk_at dksX4_begins_0 14 rfl rfl)
theorem dX4_begins_15 : decode cX4_begins 15 = .ok (.iastore, 1) := dk_79 (dk_at dksX4_begins_0 15 rfl rfl)
theorem dX4_begins_16 : decode cX4_begins 16 = .ok (.iconst 0, 1) := dk_3 (dk_at dksX4_begins_0 16 rfl rfl)
theorem dX4_begins_17 : decode cX4_begins 17 = .ok (.istore_n 1, 1) := dk_60 (dk_at dksX4_begins_0 17 rfl rfl)
theorem dX4_begins_18 : decode cX4_begins 18 = .ok (.iload_n 1, 1) := dk_27 (dk_at dksX4_begins_0 18 rfl rfl)
theorem dX4_begins_19 : decode cX4_begins 19 = .ok (.bipush 6, 2) := dk_16 6 (dk_at dksX4_begins_0 19 rfl rfl)
theorem dX4_begins_21 : decode cX4_begins 21 = .ok (.if_icmp .ge 75, 3) := dk_162 0 75 (dk_at dksX4_begins_0 21 rfl rfl)
theorem dX4_begins_24 : decode cX4_begins 24 = .ok (.bipush 11, 2) := dk_16 11 (dk_at dksX4_begins_1 0 rfl rfl)
theorem dX4_begins_26 : decode cX4_begins 26 = .ok (.iconst 5, 1) := dk_8 (dk_at dksX4_begins_1 2 rfl rfl)
theorem dX4_begins_27 : decode cX4_begins 27 = .ok (.iload_n 1, 1) := dk_27 (dk_at dksX4_begins_1 3 rfl rfl)
theorem dX4_begins_28 : decode cX4_begins 28 = .ok (.imul, 1) := dk_104 (dk_at dksX4_begins_1 4 rfl rfl)
theorem dX4_begins_29 : decode cX4_begins 29 = .ok (.iadd, 1) := dk_96 (dk_at dksX4_begins_1 5 rfl rfl)
theorem dX4_begins_30 : decode cX4_begins 30 = .ok (.istore_n 2, 1) := dk_61 (dk_at dksX4_begins_1 6 rfl rfl)
theorem dX4_begins_31 : decode cX4_begins 31 = .ok (.aload_n 0, 1) := dk_42 (dk_at dksX4_begins_1 7 rfl rfl)
theorem dX4_begins_32 : decode cX4_begins 32 = .ok (.getfield 39, 3) := dk_180 0 39 (dk_at dksX4_begins_1 8 rfl rfl)
theorem dX4_begins_35 : decode cX4_begins 35 = .ok (.iload_n 2, 1) := dk_28 (dk_at dksX4_begins_1 11 rfl rfl)
theorem dX4_begins_36 : decode cX4_begins 36 = .ok (.aload_n 0, 1) := dk_42 (dk_at dksX4_begins_1 12 rfl rfl)
theorem dX4_begins_37 : decode cX4_begins 37 = .ok (.getfield 39, 3) := dk_180 0 39 (dk_at dksX4_begins_1 13 rfl rfl)
theorem dX4_begins_40 : decode cX4_begins 40 = .ok (.bipush 60, 2) := dk_16 60 (dk_at dksX4_begins_1 16 rfl rfl)
theorem dX4_begins_42 : decode cX4_begins 42 = .ok (.iload_n 1, 1) := dk_27 (dk_at dksX4_begins_1 18 rfl rfl)
theorem dX4_begins_43 : decode cX4_begins 43 = .ok (.iadd, 1) := dk_96 (dk_at dksX4_begins_1 19 rfl rfl)
theorem dX4_begins_44 : decode cX4_begins 44 = .ok (.iaload, 1) := dk_46 (dk_at dksX4_begins_1 20 rfl rfl)
theorem dX4_begins_45 : decode cX4_begins 45 = .ok (.iastore, 1) := dk_79 (dk_at dksX4_begins_1 21 rfl rfl)
theorem dX4_begins_46 : decode cX4_begins 46 = .ok (.aload_n 0, 1) := dk_42 (dk_at dksX4_begins_1 22 rfl rfl)
theorem dX4_begins_47 : decode cX4_begins 47 = .ok (.getfield 39, 3) := dk_180 0 39 (dk_at dksX4_begins_2 0 rfl rfl)
theorem dX4_begins_50 : decode cX4_begins 50 = .ok (.iload_n 2, 1) := dk_28 (dk_at dksX4_begins_2 3 rfl rfl)
theorem dX4_begins_51 : decode cX4_begins 51 = .ok (.iconst 1, 1) := dk_4 (dk_at dksX4_begins_2 4 rfl rfl)
theorem dX4_begins_52 : decode cX4_begins 52 = .ok (.iadd, 1) := dk_96 (dk_at dksX4_begins_2 5 rfl rfl)
theorem dX4_begins_53 : decode cX4_begins 53 = .ok (.aload_n 0, 1) := dk_42 (dk_at dksX4_begins_2 6 rfl rfl)
theorem dX4_begins_54 : decode cX4_begins 54 = .ok (.getfield 39, 3) := dk_180 0 39 (dk_at dksX4_begins_2 7 rfl rfl)
theorem dX4_begins_57 : decode cX4_begins 57 = .ok (.bipush 66, 2) := dk_16 66 (dk_at dksX4_begins_2 10 rfl rfl)
theorem dX4_begins_59 : decode cX4_begins 59 = .ok (.iload_n 1, 1) := dk_27 (dk_at dksX4_begins_2 12 rfl rfl)
theorem dX4_begins_60 : decode cX4_begins 60 = .ok (.iadd, 1) := dk_96 (dk_at dksX4_begins_2 13 rfl rfl)
theorem dX4_begins_61 : decode cX4_begins 61 = .ok (.iaload, 1) := dk_46 (dk_at dksX4_begins_2 14 rfl rfl)
theorem dX4_begins_62 : decode cX4_begins 62 = .ok (.iastore, 1) := dk_79 (dk_at dksX4_begins_2 15 rfl rfl)
theorem dX4_begins_63 : decode cX4_begins 63 = .ok (.aload_n 0, 1) := dk_42 (dk_at dksX4_begins_2 16 rfl rfl)
theorem dX4_begins_64 : decode cX4_begins 64 = .ok (.getfield 39, 3) := dk_180 0 39 (dk_at dksX4_begins_2 17 rfl rfl)
theorem dX4_begins_67 : decode cX4_begins 67 = .ok (.iload_n 2, 1) := dk_28 (dk_at dksX4_begins_2 20 rfl rfl)
theorem dX4_begins_68 : decode cX4_begins 68 = .ok (.iconst 2, 1) := dk_5 (dk_at dksX4_begins_2 21 rfl rfl)
theorem dX4_begins_69 : decode cX4_begins 69 = .ok (.iadd, 1) := dk_96 (dk_at dksX4_begins_2 22 rfl rfl)
theorem dX4_begins_70 : decode cX4_begins 70 = .ok (.iconst 0, 1) := dk_3 (dk_at dksX4_begins_2 23 rfl rfl)
theorem dX4_begins_71 : decode cX4_begins 71 = .ok (.iastore, 1) := dk_79 (dk_at dksX4_begins_3 0 rfl rfl)
theorem dX4_begins_72 : decode cX4_begins 72 = .ok (.aload_n 0, 1) := dk_42 (dk_at dksX4_begins_3 1 rfl rfl)
theorem dX4_begins_73 : decode cX4_begins 73 = .ok (.getfield 39, 3) := dk_180 0 39 (dk_at dksX4_begins_3 2 rfl rfl)
theorem dX4_begins_76 : decode cX4_begins 76 = .ok (.iload_n 2, 1) := dk_28 (dk_at dksX4_begins_3 5 rfl rfl)
theorem dX4_begins_77 : decode cX4_begins 77 = .ok (.iconst 3, 1) := dk_6 (dk_at dksX4_begins_3 6 rfl rfl)
theorem dX4_begins_78 : decode cX4_begins 78 = .ok (.iadd, 1) := dk_96 (dk_at dksX4_begins_3 7 rfl rfl)
theorem dX4_begins_79 : decode cX4_begins 79 = .ok (.iconst 0, 1) := dk_3 (dk_at dksX4_begins_3 8 rfl rfl)
theorem dX4_begins_80 : decode cX4_begins 80 = .ok (.iastore, 1) := dk_79 (dk_at dksX4_begins_3 9 rfl rfl)
theorem dX4_begins_81 : decode cX4_begins 81 = .ok (.aload_n 0, 1) := dk_42 (dk_at dksX4_begins_3 10 rfl rfl)
theorem dX4_begins_82 : decode cX4_begins 82 = .ok (.getfield 39, 3) := dk_180 0 39 (dk_at dksX4_begins_3 11 rfl rfl)
theorem dX4_begins_85 : decode cX4_begins 85 = .ok (.iload_n 2, 1) := dk_28 (dk_at dksX4_begins_3 14 rfl rfl)
theorem dX4_begins_86 : decode cX4_begins 86 = .ok (.iconst 4, 1) := dk_7 (dk_at dksX4_begins_3 15 rfl rfl)
theorem dX4_begins_87 : decode cX4_begins 87 = .ok (.iadd, 1) := dk_96 (dk_at dksX4_begins_3 16 rfl rfl)
theorem dX4_begins_88 : decode cX4_begins 88 = .ok (.iconst (-1), 1) := dk_2 (dk_at dksX4_begins_3 17 rfl rfl)
theorem dX4_begins_89 : decode cX4_begins 89 = .ok (.iastore, 1) := dk_79 (dk_at dksX4_begins_3 18 rfl rfl)
theorem dX4_begins_90 : decode cX4_begins 90 = .ok (.iinc 1 1, 3) := dk_132 1 1 (dk_at dksX4_begins_3 19 rfl rfl)
theorem dX4_begins_93 : decode cX4_begins 93 = .ok (.goto (-75), 3) := dk_167 255 181 (dk_at dksX4_begins_4 0 rfl rfl)
theorem dX4_begins_96 : decode cX4_begins 96 = .ok (.iconst 0, 1) := dk_3 (dk_at dksX4_begins_4 3 rfl rfl)
theorem dX4_begins_97 : decode cX4_begins 97 = .ok (.istore_n 1, 1) := dk_60 (dk_at dksX4_begins_4 4 rfl rfl)
theorem dX4_begins_98 : decode cX4_begins 98 = .ok (.iload_n 1, 1) := dk_27 (dk_at dksX4_begins_4 5 rfl rfl)
theorem dX4_begins_99 : decode cX4_begins 99 = .ok (.bipush 12, 2) := dk_16 12 (dk_at dksX4_begins_4 6 rfl rfl)
theorem dX4_begins_101 : decode cX4_begins 101 = .ok (.if_icmp .ge 27, 3) := dk_162 0 27 (dk_at dksX4_begins_4 8 rfl rfl)
theorem dX4_begins_104 : decode cX4_begins 104 = .ok (.aload_n 0, 1) := dk_42 (dk_at dksX4_begins_4 11 rfl rfl)
theorem dX4_begins_105 : decode cX4_begins 105 = .ok (.getfield 39, 3) := dk_180 0 39 (dk_at dksX4_begins_4 12 rfl rfl)
theorem dX4_begins_108 : decode cX4_begins 108 = .ok (.bipush 41, 2) := dk_16 41 (dk_at dksX4_begins_4 15 rfl rfl)
theorem dX4_begins_110 : decode cX4_begins 110 = .ok (.iload_n 1, 1) := dk_27 (dk_at dksX4_begins_4 17 rfl rfl)
theorem dX4_begins_111 : decode cX4_begins 111 = .ok (.iadd, 1) := dk_96 (dk_at dksX4_begins_4 18 rfl rfl)
theorem dX4_begins_112 : decode cX4_begins 112 = .ok (.aload_n 0, 1) := dk_42 (dk_at dksX4_begins_4 19 rfl rfl)
theorem dX4_begins_113 : decode cX4_begins 113 = .ok (.getfield 39, 3) := dk_180 0 39 (dk_at dksX4_begins_4 20 rfl rfl)
theorem dX4_begins_116 : decode cX4_begins 116 = .ok (.bipush 78, 2) := dk_16 78 (dk_at dksX4_begins_5 0 rfl rfl)
theorem dX4_begins_118 : decode cX4_begins 118 = .ok (.iload_n 1, 1) := dk_27 (dk_at dksX4_begins_5 2 rfl rfl)
theorem dX4_begins_119 : decode cX4_begins 119 = .ok (.iadd, 1) := dk_96 (dk_at dksX4_begins_5 3 rfl rfl)
theorem dX4_begins_120 : decode cX4_begins 120 = .ok (.iaload, 1) := dk_46 (dk_at dksX4_begins_5 4 rfl rfl)
theorem dX4_begins_121 : decode cX4_begins 121 = .ok (.iastore, 1) := dk_79 (dk_at dksX4_begins_5 5 rfl rfl)
theorem dX4_begins_122 : decode cX4_begins 122 = .ok (.iinc 1 1, 3) := dk_132 1 1 (dk_at dksX4_begins_5 6 rfl rfl)
theorem dX4_begins_125 : decode cX4_begins 125 = .ok (.goto (-27), 3) := dk_167 255 229 (dk_at dksX4_begins_5 9 rfl rfl)
theorem dX4_begins_128 : decode cX4_begins 128 = .ok (.return_, 1) := dk_177 (dk_at dksX4_begins_5 12 rfl rfl)
abbrev cX4_force : ByteArray := prog_19_method_60_code
def yX4_force : MethodName := ⟨RX4, "force", "(I)I"⟩
def dkwX4_force_1 : List UInt8 := [181, 0, 42, 28, 172]
abbrev dktX4_force_1 : List UInt8 := dkwX4_force_1 ++ []
def dkwX4_force_0 : List UInt8 := [27, 2, 159, 0, 14, 42, 27, 182, 1, 50, 154, 0, 6, 16, 254, 172, 42, 180, 0, 42, 61, 42, 27]
abbrev dktX4_force_0 : List UInt8 := dkwX4_force_0 ++ dktX4_force_1
theorem dksX4_force_0 : cX4_force.data.toList.drop 0 = dktX4_force_0 := by decide +kernel
theorem dksX4_force_1 : cX4_force.data.toList.drop 23 = dktX4_force_1 := dk_seg dksX4_force_0 23 rfl rfl
theorem dX4_force_0 : decode cX4_force 0 = .ok (.iload_n 1, 1) := dk_27 (dk_at dksX4_force_0 0 rfl rfl)
theorem dX4_force_1 : decode cX4_force 1 = .ok (.iconst (-1), 1) := dk_2 (dk_at dksX4_force_0 1 rfl rfl)
theorem dX4_force_2 : decode cX4_force 2 = .ok (.if_icmp .eq 14, 3) := dk_159 0 14 (dk_at dksX4_force_0 2 rfl rfl)
theorem dX4_force_5 : decode cX4_force 5 = .ok (.aload_n 0, 1) := dk_42 (dk_at dksX4_force_0 5 rfl rfl)
theorem dX4_force_6 : decode cX4_force 6 = .ok (.iload_n 1, 1) := dk_27 (dk_at dksX4_force_0 6 rfl rfl)
theorem dX4_force_7 : decode cX4_force 7 = .ok (.invokevirtual 306, 3) := dk_182 1 50 (dk_at dksX4_force_0 7 rfl rfl)
theorem dX4_force_10 : decode cX4_force 10 = .ok (.ifCond .ne 6, 3) := dk_154 0 6 (dk_at dksX4_force_0 10 rfl rfl)
theorem dX4_force_13 : decode cX4_force 13 = .ok (.bipush (-2), 2) := dk_16 254 (dk_at dksX4_force_0 13 rfl rfl)
theorem dX4_force_15 : decode cX4_force 15 = .ok (.ireturn, 1) := dk_172 (dk_at dksX4_force_0 15 rfl rfl)
theorem dX4_force_16 : decode cX4_force 16 = .ok (.aload_n 0, 1) := dk_42 (dk_at dksX4_force_0 16 rfl rfl)
theorem dX4_force_17 : decode cX4_force 17 = .ok (.getfield 42, 3) := dk_180 0 42 (dk_at dksX4_force_0 17 rfl rfl)
theorem dX4_force_20 : decode cX4_force 20 = .ok (.istore_n 2, 1) := dk_61 (dk_at dksX4_force_0 20 rfl rfl)
theorem dX4_force_21 : decode cX4_force 21 = .ok (.aload_n 0, 1) := dk_42 (dk_at dksX4_force_0 21 rfl rfl)
theorem dX4_force_22 : decode cX4_force 22 = .ok (.iload_n 1, 1) := dk_27 (dk_at dksX4_force_0 22 rfl rfl)
theorem dX4_force_23 : decode cX4_force 23 = .ok (.putfield 42, 3) := dk_181 0 42 (dk_at dksX4_force_1 0 rfl rfl)
theorem dX4_force_26 : decode cX4_force 26 = .ok (.iload_n 2, 1) := dk_28 (dk_at dksX4_force_1 3 rfl rfl)
theorem dX4_force_27 : decode cX4_force 27 = .ok (.ireturn, 1) := dk_172 (dk_at dksX4_force_1 4 rfl rfl)
abbrev cX4_isRule : ByteArray := prog_19_method_42_code
def yX4_isRule : MethodName := ⟨RX4, "isRule", "(I)Z"⟩
def dkwX4_isRule_0 : List UInt8 := [27, 155, 0, 15, 27, 42, 180, 1, 11, 162, 0, 7, 4, 167, 0, 4, 3, 172]
abbrev dktX4_isRule_0 : List UInt8 := dkwX4_isRule_0 ++ []
theorem dksX4_isRule_0 : cX4_isRule.data.toList.drop 0 = dktX4_isRule_0 := by decide +kernel
theorem dX4_isRule_0 : decode cX4_isRule 0 = .ok (.iload_n 1, 1) := dk_27 (dk_at dksX4_isRule_0 0 rfl rfl)
theorem dX4_isRule_1 : decode cX4_isRule 1 = .ok (.ifCond .lt 15, 3) := dk_155 0 15 (dk_at dksX4_isRule_0 1 rfl rfl)
theorem dX4_isRule_4 : decode cX4_isRule 4 = .ok (.iload_n 1, 1) := dk_27 (dk_at dksX4_isRule_0 4 rfl rfl)
theorem dX4_isRule_5 : decode cX4_isRule 5 = .ok (.aload_n 0, 1) := dk_42 (dk_at dksX4_isRule_0 5 rfl rfl)
theorem dX4_isRule_6 : decode cX4_isRule 6 = .ok (.getfield 267, 3) := dk_180 1 11 (dk_at dksX4_isRule_0 6 rfl rfl)
theorem dX4_isRule_9 : decode cX4_isRule 9 = .ok (.if_icmp .ge 7, 3) := dk_162 0 7 (dk_at dksX4_isRule_0 9 rfl rfl)
theorem dX4_isRule_12 : decode cX4_isRule 12 = .ok (.iconst 1, 1) := dk_4 (dk_at dksX4_isRule_0 12 rfl rfl)
theorem dX4_isRule_13 : decode cX4_isRule 13 = .ok (.goto 4, 3) := dk_167 0 4 (dk_at dksX4_isRule_0 13 rfl rfl)
theorem dX4_isRule_16 : decode cX4_isRule 16 = .ok (.iconst 0, 1) := dk_3 (dk_at dksX4_isRule_0 16 rfl rfl)
theorem dX4_isRule_17 : decode cX4_isRule 17 = .ok (.ireturn, 1) := dk_172 (dk_at dksX4_isRule_0 17 rfl rfl)
abbrev cX4_road : ByteArray := prog_19_method_61_code
def yX4_road : MethodName := ⟨RX4, "road", "(II)I"⟩
def dkwX4_road_4 : List UInt8 := [182, 1, 65, 172, 2, 172]
abbrev dktX4_road_4 : List UInt8 := dkwX4_road_4 ++ []
def dkwX4_road_3 : List UInt8 := [180, 0, 39, 16, 72, 27, 96, 46, 172, 42, 27, 182, 1, 59, 172, 42, 27, 182, 1, 62, 172, 42, 27]
abbrev dktX4_road_3 : List UInt8 := dkwX4_road_3 ++ dktX4_road_4
def dkwX4_road_2 : List UInt8 := [42, 27, 182, 1, 56, 172, 42, 180, 0, 39, 16, 54, 27, 96, 46, 172, 42, 27, 182, 1, 44, 172, 42]
abbrev dktX4_road_2 : List UInt8 := dkwX4_road_2 ++ dktX4_road_3
def dkwX4_road_1 : List UInt8 := [170, 0, 0, 0, 91, 0, 0, 0, 0, 0, 0, 0, 6, 0, 0, 0, 41, 0, 0, 0, 47, 0, 0, 0, 57, 0, 0, 0, 63, 0, 0, 0, 73, 0, 0, 0, 79, 0, 0, 0, 85]
abbrev dktX4_road_1 : List UInt8 := dkwX4_road_1 ++ dktX4_road_2
def dkwX4_road_0 : List UInt8 := [42, 27, 182, 1, 53, 154, 0, 5, 2, 172, 28]
abbrev dktX4_road_0 : List UInt8 := dkwX4_road_0 ++ dktX4_road_1
theorem dksX4_road_0 : cX4_road.data.toList.drop 0 = dktX4_road_0 := by decide +kernel
theorem dksX4_road_1 : cX4_road.data.toList.drop 11 = dktX4_road_1 := dk_seg dksX4_road_0 11 rfl rfl
theorem dksX4_road_2 : cX4_road.data.toList.drop 52 = dktX4_road_2 := dk_seg dksX4_road_1 41 rfl rfl
theorem dksX4_road_3 : cX4_road.data.toList.drop 75 = dktX4_road_3 := dk_seg dksX4_road_2 23 rfl rfl
theorem dksX4_road_4 : cX4_road.data.toList.drop 98 = dktX4_road_4 := dk_seg dksX4_road_3 23 rfl rfl
theorem dX4_road_0 : decode cX4_road 0 = .ok (.aload_n 0, 1) := dk_42 (dk_at dksX4_road_0 0 rfl rfl)
theorem dX4_road_1 : decode cX4_road 1 = .ok (.iload_n 1, 1) := dk_27 (dk_at dksX4_road_0 1 rfl rfl)
theorem dX4_road_2 : decode cX4_road 2 = .ok (.invokevirtual 309, 3) := dk_182 1 53 (dk_at dksX4_road_0 2 rfl rfl)
theorem dX4_road_5 : decode cX4_road 5 = .ok (.ifCond .ne 5, 3) := dk_154 0 5 (dk_at dksX4_road_0 5 rfl rfl)
theorem dX4_road_8 : decode cX4_road 8 = .ok (.iconst (-1), 1) := dk_2 (dk_at dksX4_road_0 8 rfl rfl)
theorem dX4_road_9 : decode cX4_road 9 = .ok (.ireturn, 1) := dk_172 (dk_at dksX4_road_0 9 rfl rfl)
theorem dX4_road_10 : decode cX4_road 10 = .ok (.iload_n 2, 1) := dk_28 (dk_at dksX4_road_0 10 rfl rfl)
theorem dX4_road_11 : decode cX4_road 11 = .ok (.tableswitch 91 0 6 #[41, 47, 57, 63, 73, 79, 85], 41) := by decide +kernel
theorem dX4_road_52 : decode cX4_road 52 = .ok (.aload_n 0, 1) := dk_42 (dk_at dksX4_road_2 0 rfl rfl)
theorem dX4_road_53 : decode cX4_road 53 = .ok (.iload_n 1, 1) := dk_27 (dk_at dksX4_road_2 1 rfl rfl)
theorem dX4_road_54 : decode cX4_road 54 = .ok (.invokevirtual 312, 3) := dk_182 1 56 (dk_at dksX4_road_2 2 rfl rfl)
theorem dX4_road_57 : decode cX4_road 57 = .ok (.ireturn, 1) := dk_172 (dk_at dksX4_road_2 5 rfl rfl)
theorem dX4_road_58 : decode cX4_road 58 = .ok (.aload_n 0, 1) := dk_42 (dk_at dksX4_road_2 6 rfl rfl)
theorem dX4_road_59 : decode cX4_road 59 = .ok (.getfield 39, 3) := dk_180 0 39 (dk_at dksX4_road_2 7 rfl rfl)
theorem dX4_road_62 : decode cX4_road 62 = .ok (.bipush 54, 2) := dk_16 54 (dk_at dksX4_road_2 10 rfl rfl)
theorem dX4_road_64 : decode cX4_road 64 = .ok (.iload_n 1, 1) := dk_27 (dk_at dksX4_road_2 12 rfl rfl)
theorem dX4_road_65 : decode cX4_road 65 = .ok (.iadd, 1) := dk_96 (dk_at dksX4_road_2 13 rfl rfl)
theorem dX4_road_66 : decode cX4_road 66 = .ok (.iaload, 1) := dk_46 (dk_at dksX4_road_2 14 rfl rfl)
theorem dX4_road_67 : decode cX4_road 67 = .ok (.ireturn, 1) := dk_172 (dk_at dksX4_road_2 15 rfl rfl)
theorem dX4_road_68 : decode cX4_road 68 = .ok (.aload_n 0, 1) := dk_42 (dk_at dksX4_road_2 16 rfl rfl)
theorem dX4_road_69 : decode cX4_road 69 = .ok (.iload_n 1, 1) := dk_27 (dk_at dksX4_road_2 17 rfl rfl)
theorem dX4_road_70 : decode cX4_road 70 = .ok (.invokevirtual 300, 3) := dk_182 1 44 (dk_at dksX4_road_2 18 rfl rfl)
theorem dX4_road_73 : decode cX4_road 73 = .ok (.ireturn, 1) := dk_172 (dk_at dksX4_road_2 21 rfl rfl)
theorem dX4_road_74 : decode cX4_road 74 = .ok (.aload_n 0, 1) := dk_42 (dk_at dksX4_road_2 22 rfl rfl)
theorem dX4_road_75 : decode cX4_road 75 = .ok (.getfield 39, 3) := dk_180 0 39 (dk_at dksX4_road_3 0 rfl rfl)
theorem dX4_road_78 : decode cX4_road 78 = .ok (.bipush 72, 2) := dk_16 72 (dk_at dksX4_road_3 3 rfl rfl)
theorem dX4_road_80 : decode cX4_road 80 = .ok (.iload_n 1, 1) := dk_27 (dk_at dksX4_road_3 5 rfl rfl)
theorem dX4_road_81 : decode cX4_road 81 = .ok (.iadd, 1) := dk_96 (dk_at dksX4_road_3 6 rfl rfl)
theorem dX4_road_82 : decode cX4_road 82 = .ok (.iaload, 1) := dk_46 (dk_at dksX4_road_3 7 rfl rfl)
theorem dX4_road_83 : decode cX4_road 83 = .ok (.ireturn, 1) := dk_172 (dk_at dksX4_road_3 8 rfl rfl)
theorem dX4_road_84 : decode cX4_road 84 = .ok (.aload_n 0, 1) := dk_42 (dk_at dksX4_road_3 9 rfl rfl)
theorem dX4_road_85 : decode cX4_road 85 = .ok (.iload_n 1, 1) := dk_27 (dk_at dksX4_road_3 10 rfl rfl)
theorem dX4_road_86 : decode cX4_road 86 = .ok (.invokevirtual 315, 3) := dk_182 1 59 (dk_at dksX4_road_3 11 rfl rfl)
theorem dX4_road_89 : decode cX4_road 89 = .ok (.ireturn, 1) := dk_172 (dk_at dksX4_road_3 14 rfl rfl)
theorem dX4_road_90 : decode cX4_road 90 = .ok (.aload_n 0, 1) := dk_42 (dk_at dksX4_road_3 15 rfl rfl)
theorem dX4_road_91 : decode cX4_road 91 = .ok (.iload_n 1, 1) := dk_27 (dk_at dksX4_road_3 16 rfl rfl)
theorem dX4_road_92 : decode cX4_road 92 = .ok (.invokevirtual 318, 3) := dk_182 1 62 (dk_at dksX4_road_3 17 rfl rfl)
theorem dX4_road_95 : decode cX4_road 95 = .ok (.ireturn, 1) := dk_172 (dk_at dksX4_road_3 20 rfl rfl)
theorem dX4_road_96 : decode cX4_road 96 = .ok (.aload_n 0, 1) := dk_42 (dk_at dksX4_road_3 21 rfl rfl)
theorem dX4_road_97 : decode cX4_road 97 = .ok (.iload_n 1, 1) := dk_27 (dk_at dksX4_road_3 22 rfl rfl)
theorem dX4_road_98 : decode cX4_road 98 = .ok (.invokevirtual 321, 3) := dk_182 1 65 (dk_at dksX4_road_4 0 rfl rfl)
theorem dX4_road_101 : decode cX4_road 101 = .ok (.ireturn, 1) := dk_172 (dk_at dksX4_road_4 3 rfl rfl)
theorem dX4_road_102 : decode cX4_road 102 = .ok (.iconst (-1), 1) := dk_2 (dk_at dksX4_road_4 4 rfl rfl)
theorem dX4_road_103 : decode cX4_road 103 = .ok (.ireturn, 1) := dk_172 (dk_at dksX4_road_4 5 rfl rfl)
abbrev cX4_isRoad : ByteArray := prog_19_method_48_code
def yX4_isRoad : MethodName := ⟨RX4, "isRoad", "(I)Z"⟩
def dkwX4_isRoad_0 : List UInt8 := [27, 155, 0, 17, 27, 42, 180, 0, 39, 6, 46, 162, 0, 7, 4, 167, 0, 4, 3, 172]
abbrev dktX4_isRoad_0 : List UInt8 := dkwX4_isRoad_0 ++ []
theorem dksX4_isRoad_0 : cX4_isRoad.data.toList.drop 0 = dktX4_isRoad_0 := by decide +kernel
theorem dX4_isRoad_0 : decode cX4_isRoad 0 = .ok (.iload_n 1, 1) := dk_27 (dk_at dksX4_isRoad_0 0 rfl rfl)
theorem dX4_isRoad_1 : decode cX4_isRoad 1 = .ok (.ifCond .lt 17, 3) := dk_155 0 17 (dk_at dksX4_isRoad_0 1 rfl rfl)
theorem dX4_isRoad_4 : decode cX4_isRoad 4 = .ok (.iload_n 1, 1) := dk_27 (dk_at dksX4_isRoad_0 4 rfl rfl)
theorem dX4_isRoad_5 : decode cX4_isRoad 5 = .ok (.aload_n 0, 1) := dk_42 (dk_at dksX4_isRoad_0 5 rfl rfl)
theorem dX4_isRoad_6 : decode cX4_isRoad 6 = .ok (.getfield 39, 3) := dk_180 0 39 (dk_at dksX4_isRoad_0 6 rfl rfl)
theorem dX4_isRoad_9 : decode cX4_isRoad 9 = .ok (.iconst 3, 1) := dk_6 (dk_at dksX4_isRoad_0 9 rfl rfl)
theorem dX4_isRoad_10 : decode cX4_isRoad 10 = .ok (.iaload, 1) := dk_46 (dk_at dksX4_isRoad_0 10 rfl rfl)
theorem dX4_isRoad_11 : decode cX4_isRoad 11 = .ok (.if_icmp .ge 7, 3) := dk_162 0 7 (dk_at dksX4_isRoad_0 11 rfl rfl)
theorem dX4_isRoad_14 : decode cX4_isRoad 14 = .ok (.iconst 1, 1) := dk_4 (dk_at dksX4_isRoad_0 14 rfl rfl)
theorem dX4_isRoad_15 : decode cX4_isRoad 15 = .ok (.goto 4, 3) := dk_167 0 4 (dk_at dksX4_isRoad_0 15 rfl rfl)
theorem dX4_isRoad_18 : decode cX4_isRoad 18 = .ok (.iconst 0, 1) := dk_3 (dk_at dksX4_isRoad_0 18 rfl rfl)
theorem dX4_isRoad_19 : decode cX4_isRoad 19 = .ok (.ireturn, 1) := dk_172 (dk_at dksX4_isRoad_0 19 rfl rfl)
abbrev cX4_waitOn : ByteArray := prog_19_method_49_code
def yX4_waitOn : MethodName := ⟨RX4, "waitOn", "(I)I"⟩
def dkwX4_waitOn_0 : List UInt8 := [42, 180, 0, 39, 16, 11, 8, 27, 104, 96, 46, 172]
abbrev dktX4_waitOn_0 : List UInt8 := dkwX4_waitOn_0 ++ []
theorem dksX4_waitOn_0 : cX4_waitOn.data.toList.drop 0 = dktX4_waitOn_0 := by decide +kernel
theorem dX4_waitOn_0 : decode cX4_waitOn 0 = .ok (.aload_n 0, 1) := dk_42 (dk_at dksX4_waitOn_0 0 rfl rfl)
theorem dX4_waitOn_1 : decode cX4_waitOn 1 = .ok (.getfield 39, 3) := dk_180 0 39 (dk_at dksX4_waitOn_0 1 rfl rfl)
theorem dX4_waitOn_4 : decode cX4_waitOn 4 = .ok (.bipush 11, 2) := dk_16 11 (dk_at dksX4_waitOn_0 4 rfl rfl)
theorem dX4_waitOn_6 : decode cX4_waitOn 6 = .ok (.iconst 5, 1) := dk_8 (dk_at dksX4_waitOn_0 6 rfl rfl)
theorem dX4_waitOn_7 : decode cX4_waitOn 7 = .ok (.iload_n 1, 1) := dk_27 (dk_at dksX4_waitOn_0 7 rfl rfl)
theorem dX4_waitOn_8 : decode cX4_waitOn 8 = .ok (.imul, 1) := dk_104 (dk_at dksX4_waitOn_0 8 rfl rfl)
theorem dX4_waitOn_9 : decode cX4_waitOn 9 = .ok (.iadd, 1) := dk_96 (dk_at dksX4_waitOn_0 9 rfl rfl)
theorem dX4_waitOn_10 : decode cX4_waitOn 10 = .ok (.iaload, 1) := dk_46 (dk_at dksX4_waitOn_0 10 rfl rfl)
theorem dX4_waitOn_11 : decode cX4_waitOn 11 = .ok (.ireturn, 1) := dk_172 (dk_at dksX4_waitOn_0 11 rfl rfl)
abbrev cX4_partOf : ByteArray := prog_19_method_50_code
def yX4_partOf : MethodName := ⟨RX4, "partOf", "(I)I"⟩
def dkwX4_partOf_0 : List UInt8 := [42, 180, 0, 39, 16, 11, 8, 27, 104, 96, 4, 96, 46, 172]
abbrev dktX4_partOf_0 : List UInt8 := dkwX4_partOf_0 ++ []
theorem dksX4_partOf_0 : cX4_partOf.data.toList.drop 0 = dktX4_partOf_0 := by decide +kernel
theorem dX4_partOf_0 : decode cX4_partOf 0 = .ok (.aload_n 0, 1) := dk_42 (dk_at dksX4_partOf_0 0 rfl rfl)
theorem dX4_partOf_1 : decode cX4_partOf 1 = .ok (.getfield 39, 3) := dk_180 0 39 (dk_at dksX4_partOf_0 1 rfl rfl)
theorem dX4_partOf_4 : decode cX4_partOf 4 = .ok (.bipush 11, 2) := dk_16 11 (dk_at dksX4_partOf_0 4 rfl rfl)
theorem dX4_partOf_6 : decode cX4_partOf 6 = .ok (.iconst 5, 1) := dk_8 (dk_at dksX4_partOf_0 6 rfl rfl)
theorem dX4_partOf_7 : decode cX4_partOf 7 = .ok (.iload_n 1, 1) := dk_27 (dk_at dksX4_partOf_0 7 rfl rfl)
theorem dX4_partOf_8 : decode cX4_partOf 8 = .ok (.imul, 1) := dk_104 (dk_at dksX4_partOf_0 8 rfl rfl)
theorem dX4_partOf_9 : decode cX4_partOf 9 = .ok (.iadd, 1) := dk_96 (dk_at dksX4_partOf_0 9 rfl rfl)
theorem dX4_partOf_10 : decode cX4_partOf 10 = .ok (.iconst 1, 1) := dk_4 (dk_at dksX4_partOf_0 10 rfl rfl)
theorem dX4_partOf_11 : decode cX4_partOf 11 = .ok (.iadd, 1) := dk_96 (dk_at dksX4_partOf_0 11 rfl rfl)
theorem dX4_partOf_12 : decode cX4_partOf 12 = .ok (.iaload, 1) := dk_46 (dk_at dksX4_partOf_0 12 rfl rfl)
theorem dX4_partOf_13 : decode cX4_partOf 13 = .ok (.ireturn, 1) := dk_172 (dk_at dksX4_partOf_0 13 rfl rfl)
abbrev cX4_wentFrom : ByteArray := prog_19_method_51_code
def yX4_wentFrom : MethodName := ⟨RX4, "wentFrom", "(I)I"⟩
def dkwX4_wentFrom_0 : List UInt8 := [42, 180, 0, 39, 16, 11, 8, 27, 104, 96, 5, 96, 46, 172]
abbrev dktX4_wentFrom_0 : List UInt8 := dkwX4_wentFrom_0 ++ []
theorem dksX4_wentFrom_0 : cX4_wentFrom.data.toList.drop 0 = dktX4_wentFrom_0 := by decide +kernel
theorem dX4_wentFrom_0 : decode cX4_wentFrom 0 = .ok (.aload_n 0, 1) := dk_42 (dk_at dksX4_wentFrom_0 0 rfl rfl)
theorem dX4_wentFrom_1 : decode cX4_wentFrom 1 = .ok (.getfield 39, 3) := dk_180 0 39 (dk_at dksX4_wentFrom_0 1 rfl rfl)
theorem dX4_wentFrom_4 : decode cX4_wentFrom 4 = .ok (.bipush 11, 2) := dk_16 11 (dk_at dksX4_wentFrom_0 4 rfl rfl)
theorem dX4_wentFrom_6 : decode cX4_wentFrom 6 = .ok (.iconst 5, 1) := dk_8 (dk_at dksX4_wentFrom_0 6 rfl rfl)
theorem dX4_wentFrom_7 : decode cX4_wentFrom 7 = .ok (.iload_n 1, 1) := dk_27 (dk_at dksX4_wentFrom_0 7 rfl rfl)
theorem dX4_wentFrom_8 : decode cX4_wentFrom 8 = .ok (.imul, 1) := dk_104 (dk_at dksX4_wentFrom_0 8 rfl rfl)
theorem dX4_wentFrom_9 : decode cX4_wentFrom 9 = .ok (.iadd, 1) := dk_96 (dk_at dksX4_wentFrom_0 9 rfl rfl)
theorem dX4_wentFrom_10 : decode cX4_wentFrom 10 = .ok (.iconst 2, 1) := dk_5 (dk_at dksX4_wentFrom_0 10 rfl rfl)
theorem dX4_wentFrom_11 : decode cX4_wentFrom 11 = .ok (.iadd, 1) := dk_96 (dk_at dksX4_wentFrom_0 11 rfl rfl)
theorem dX4_wentFrom_12 : decode cX4_wentFrom 12 = .ok (.iaload, 1) := dk_46 (dk_at dksX4_wentFrom_0 12 rfl rfl)
theorem dX4_wentFrom_13 : decode cX4_wentFrom 13 = .ok (.ireturn, 1) := dk_172 (dk_at dksX4_wentFrom_0 13 rfl rfl)
abbrev cX4_waitedOn : ByteArray := prog_19_method_52_code
def yX4_waitedOn : MethodName := ⟨RX4, "waitedOn", "(I)I"⟩
def dkwX4_waitedOn_0 : List UInt8 := [42, 180, 0, 39, 16, 11, 8, 27, 104, 96, 6, 96, 46, 172]
abbrev dktX4_waitedOn_0 : List UInt8 := dkwX4_waitedOn_0 ++ []
theorem dksX4_waitedOn_0 : cX4_waitedOn.data.toList.drop 0 = dktX4_waitedOn_0 := by decide +kernel
theorem dX4_waitedOn_0 : decode cX4_waitedOn 0 = .ok (.aload_n 0, 1) := dk_42 (dk_at dksX4_waitedOn_0 0 rfl rfl)
theorem dX4_waitedOn_1 : decode cX4_waitedOn 1 = .ok (.getfield 39, 3) := dk_180 0 39 (dk_at dksX4_waitedOn_0 1 rfl rfl)
theorem dX4_waitedOn_4 : decode cX4_waitedOn 4 = .ok (.bipush 11, 2) := dk_16 11 (dk_at dksX4_waitedOn_0 4 rfl rfl)
theorem dX4_waitedOn_6 : decode cX4_waitedOn 6 = .ok (.iconst 5, 1) := dk_8 (dk_at dksX4_waitedOn_0 6 rfl rfl)
theorem dX4_waitedOn_7 : decode cX4_waitedOn 7 = .ok (.iload_n 1, 1) := dk_27 (dk_at dksX4_waitedOn_0 7 rfl rfl)
theorem dX4_waitedOn_8 : decode cX4_waitedOn 8 = .ok (.imul, 1) := dk_104 (dk_at dksX4_waitedOn_0 8 rfl rfl)
theorem dX4_waitedOn_9 : decode cX4_waitedOn 9 = .ok (.iadd, 1) := dk_96 (dk_at dksX4_waitedOn_0 9 rfl rfl)
theorem dX4_waitedOn_10 : decode cX4_waitedOn 10 = .ok (.iconst 3, 1) := dk_6 (dk_at dksX4_waitedOn_0 10 rfl rfl)
theorem dX4_waitedOn_11 : decode cX4_waitedOn 11 = .ok (.iadd, 1) := dk_96 (dk_at dksX4_waitedOn_0 11 rfl rfl)
theorem dX4_waitedOn_12 : decode cX4_waitedOn 12 = .ok (.iaload, 1) := dk_46 (dk_at dksX4_waitedOn_0 12 rfl rfl)
theorem dX4_waitedOn_13 : decode cX4_waitedOn 13 = .ok (.ireturn, 1) := dk_172 (dk_at dksX4_waitedOn_0 13 rfl rfl)
abbrev cX4_sinceOf : ByteArray := prog_19_method_53_code
def yX4_sinceOf : MethodName := ⟨RX4, "sinceOf", "(I)I"⟩
def dkwX4_sinceOf_1 : List UInt8 := [28, 155, 0, 9, 29, 16, 99, 164, 0, 8, 16, 99, 167, 0, 4, 29, 172]
abbrev dktX4_sinceOf_1 : List UInt8 := dkwX4_sinceOf_1 ++ []
def dkwX4_sinceOf_0 : List UInt8 := [42, 180, 0, 39, 16, 11, 8, 27, 104, 96, 7, 96, 46, 61, 42, 180, 0, 39, 16, 10, 46, 28, 100, 62]
abbrev dktX4_sinceOf_0 : List UInt8 := dkwX4_sinceOf_0 ++ dktX4_sinceOf_1
theorem dksX4_sinceOf_0 : cX4_sinceOf.data.toList.drop 0 = dktX4_sinceOf_0 := by decide +kernel
theorem dksX4_sinceOf_1 : cX4_sinceOf.data.toList.drop 24 = dktX4_sinceOf_1 := dk_seg dksX4_sinceOf_0 24 rfl rfl
theorem dX4_sinceOf_0 : decode cX4_sinceOf 0 = .ok (.aload_n 0, 1) := dk_42 (dk_at dksX4_sinceOf_0 0 rfl rfl)
theorem dX4_sinceOf_1 : decode cX4_sinceOf 1 = .ok (.getfield 39, 3) := dk_180 0 39 (dk_at dksX4_sinceOf_0 1 rfl rfl)
theorem dX4_sinceOf_4 : decode cX4_sinceOf 4 = .ok (.bipush 11, 2) := dk_16 11 (dk_at dksX4_sinceOf_0 4 rfl rfl)
theorem dX4_sinceOf_6 : decode cX4_sinceOf 6 = .ok (.iconst 5, 1) := dk_8 (dk_at dksX4_sinceOf_0 6 rfl rfl)
theorem dX4_sinceOf_7 : decode cX4_sinceOf 7 = .ok (.iload_n 1, 1) := dk_27 (dk_at dksX4_sinceOf_0 7 rfl rfl)
theorem dX4_sinceOf_8 : decode cX4_sinceOf 8 = .ok (.imul, 1) := dk_104 (dk_at dksX4_sinceOf_0 8 rfl rfl)
theorem dX4_sinceOf_9 : decode cX4_sinceOf 9 = .ok (.iadd, 1) := dk_96 (dk_at dksX4_sinceOf_0 9 rfl rfl)
theorem dX4_sinceOf_10 : decode cX4_sinceOf 10 = .ok (.iconst 4, 1) := dk_7 (dk_at dksX4_sinceOf_0 10 rfl rfl)
theorem dX4_sinceOf_11 : decode cX4_sinceOf 11 = .ok (.iadd, 1) := dk_96 (dk_at dksX4_sinceOf_0 11 rfl rfl)
theorem dX4_sinceOf_12 : decode cX4_sinceOf 12 = .ok (.iaload, 1) := dk_46 (dk_at dksX4_sinceOf_0 12 rfl rfl)
theorem dX4_sinceOf_13 : decode cX4_sinceOf 13 = .ok (.istore_n 2, 1) := dk_61 (dk_at dksX4_sinceOf_0 13 rfl rfl)
theorem dX4_sinceOf_14 : decode cX4_sinceOf 14 = .ok (.aload_n 0, 1) := dk_42 (dk_at dksX4_sinceOf_0 14 rfl rfl)
theorem dX4_sinceOf_15 : decode cX4_sinceOf 15 = .ok (.getfield 39, 3) := dk_180 0 39 (dk_at dksX4_sinceOf_0 15 rfl rfl)
theorem dX4_sinceOf_18 : decode cX4_sinceOf 18 = .ok (.bipush 10, 2) := dk_16 10 (dk_at dksX4_sinceOf_0 18 rfl rfl)
theorem dX4_sinceOf_20 : decode cX4_sinceOf 20 = .ok (.iaload, 1) := dk_46 (dk_at dksX4_sinceOf_0 20 rfl rfl)
theorem dX4_sinceOf_21 : decode cX4_sinceOf 21 = .ok (.iload_n 2, 1) := dk_28 (dk_at dksX4_sinceOf_0 21 rfl rfl)
theorem dX4_sinceOf_22 : decode cX4_sinceOf 22 = .ok (.isub, 1) := dk_100 (dk_at dksX4_sinceOf_0 22 rfl rfl)
theorem dX4_sinceOf_23 : decode cX4_sinceOf 23 = .ok (.istore_n 3, 1) := dk_62 (dk_at dksX4_sinceOf_0 23 rfl rfl)
theorem dX4_sinceOf_24 : decode cX4_sinceOf 24 = .ok (.iload_n 2, 1) := dk_28 (dk_at dksX4_sinceOf_1 0 rfl rfl)
theorem dX4_sinceOf_25 : decode cX4_sinceOf 25 = .ok (.ifCond .lt 9, 3) := dk_155 0 9 (dk_at dksX4_sinceOf_1 1 rfl rfl)
theorem dX4_sinceOf_28 : decode cX4_sinceOf 28 = .ok (.iload_n 3, 1) := dk_29 (dk_at dksX4_sinceOf_1 4 rfl rfl)
theorem dX4_sinceOf_29 : decode cX4_sinceOf 29 = .ok (.bipush 99, 2) := dk_16 99 (dk_at dksX4_sinceOf_1 5 rfl rfl)
theorem dX4_sinceOf_31 : decode cX4_sinceOf 31 = .ok (.if_icmp .le 8, 3) := dk_164 0 8 (dk_at dksX4_sinceOf_1 7 rfl rfl)
theorem dX4_sinceOf_34 : decode cX4_sinceOf 34 = .ok (.bipush 99, 2) := dk_16 99 (dk_at dksX4_sinceOf_1 10 rfl rfl)
theorem dX4_sinceOf_36 : decode cX4_sinceOf 36 = .ok (.goto 4, 3) := dk_167 0 4 (dk_at dksX4_sinceOf_1 12 rfl rfl)
theorem dX4_sinceOf_39 : decode cX4_sinceOf 39 = .ok (.iload_n 3, 1) := dk_29 (dk_at dksX4_sinceOf_1 15 rfl rfl)
theorem dX4_sinceOf_40 : decode cX4_sinceOf 40 = .ok (.ireturn, 1) := dk_172 (dk_at dksX4_sinceOf_1 16 rfl rfl)
abbrev cX4_scored : ByteArray := prog_19_method_63_code
def yX4_scored : MethodName := ⟨RX4, "scored", "(I)I"⟩
def dkwX4_scored_0 : List UInt8 := [42, 27, 182, 1, 68, 153, 0, 15, 42, 180, 0, 39, 16, 41, 27, 96, 46, 167, 0, 4, 2, 172]
abbrev dktX4_scored_0 : List UInt8 := dkwX4_scored_0 ++ []
theorem dksX4_scored_0 : cX4_scored.data.toList.drop 0 = dktX4_scored_0 := by decide +kernel
theorem dX4_scored_0 : decode cX4_scored 0 = .ok (.aload_n 0, 1) := dk_42 (dk_at dksX4_scored_0 0 rfl rfl)
theorem dX4_scored_1 : decode cX4_scored 1 = .ok (.iload_n 1, 1) := dk_27 (dk_at dksX4_scored_0 1 rfl rfl)
theorem dX4_scored_2 : decode cX4_scored 2 = .ok (.invokevirtual 324, 3) := dk_182 1 68 (dk_at dksX4_scored_0 2 rfl rfl)
theorem dX4_scored_5 : decode cX4_scored 5 = .ok (.ifCond .eq 15, 3) := dk_153 0 15 (dk_at dksX4_scored_0 5 rfl rfl)
theorem dX4_scored_8 : decode cX4_scored 8 = .ok (.aload_n 0, 1) := dk_42 (dk_at dksX4_scored_0 8 rfl rfl)
theorem dX4_scored_9 : decode cX4_scored 9 = .ok (.getfield 39, 3) := dk_180 0 39 (dk_at dksX4_scored_0 9 rfl rfl)
theorem dX4_scored_12 : decode cX4_scored 12 = .ok (.bipush 41, 2) := dk_16 41 (dk_at dksX4_scored_0 12 rfl rfl)
theorem dX4_scored_14 : decode cX4_scored 14 = .ok (.iload_n 1, 1) := dk_27 (dk_at dksX4_scored_0 14 rfl rfl)
theorem dX4_scored_15 : decode cX4_scored 15 = .ok (.iadd, 1) := dk_96 (dk_at dksX4_scored_0 15 rfl rfl)
theorem dX4_scored_16 : decode cX4_scored 16 = .ok (.iaload, 1) := dk_46 (dk_at dksX4_scored_0 16 rfl rfl)
theorem dX4_scored_17 : decode cX4_scored 17 = .ok (.goto 4, 3) := dk_167 0 4 (dk_at dksX4_scored_0 17 rfl rfl)
theorem dX4_scored_20 : decode cX4_scored 20 = .ok (.iconst (-1), 1) := dk_2 (dk_at dksX4_scored_0 20 rfl rfl)
theorem dX4_scored_21 : decode cX4_scored 21 = .ok (.ireturn, 1) := dk_172 (dk_at dksX4_scored_0 21 rfl rfl)
abbrev cX4_isBeat : ByteArray := prog_19_method_62_code
def yX4_isBeat : MethodName := ⟨RX4, "isBeat", "(I)Z"⟩
def dkwX4_isBeat_1 : List UInt8 := [167, 0, 4, 3, 172]
abbrev dktX4_isBeat_1 : List UInt8 := dkwX4_isBeat_1 ++ []
def dkwX4_isBeat_0 : List UInt8 := [42, 182, 1, 38, 153, 0, 21, 27, 155, 0, 17, 27, 42, 180, 0, 39, 4, 46, 162, 0, 7, 4]
abbrev dktX4_isBeat_0 : List UInt8 := dkwX4_isBeat_0 ++ dktX4_isBeat_1
theorem dksX4_isBeat_0 : cX4_isBeat.data.toList.drop 0 = dktX4_isBeat_0 := by decide +kernel
theorem dksX4_isBeat_1 : cX4_isBeat.data.toList.drop 22 = dktX4_isBeat_1 := dk_seg dksX4_isBeat_0 22 rfl rfl
theorem dX4_isBeat_0 : decode cX4_isBeat 0 = .ok (.aload_n 0, 1) := dk_42 (dk_at dksX4_isBeat_0 0 rfl rfl)
theorem dX4_isBeat_1 : decode cX4_isBeat 1 = .ok (.invokevirtual 294, 3) := dk_182 1 38 (dk_at dksX4_isBeat_0 1 rfl rfl)
theorem dX4_isBeat_4 : decode cX4_isBeat 4 = .ok (.ifCond .eq 21, 3) := dk_153 0 21 (dk_at dksX4_isBeat_0 4 rfl rfl)
theorem dX4_isBeat_7 : decode cX4_isBeat 7 = .ok (.iload_n 1, 1) := dk_27 (dk_at dksX4_isBeat_0 7 rfl rfl)
theorem dX4_isBeat_8 : decode cX4_isBeat 8 = .ok (.ifCond .lt 17, 3) := dk_155 0 17 (dk_at dksX4_isBeat_0 8 rfl rfl)
theorem dX4_isBeat_11 : decode cX4_isBeat 11 = .ok (.iload_n 1, 1) := dk_27 (dk_at dksX4_isBeat_0 11 rfl rfl)
theorem dX4_isBeat_12 : decode cX4_isBeat 12 = .ok (.aload_n 0, 1) := dk_42 (dk_at dksX4_isBeat_0 12 rfl rfl)
theorem dX4_isBeat_13 : decode cX4_isBeat 13 = .ok (.getfield 39, 3) := dk_180 0 39 (dk_at dksX4_isBeat_0 13 rfl rfl)
theorem dX4_isBeat_16 : decode cX4_isBeat 16 = .ok (.iconst 1, 1) := dk_4 (dk_at dksX4_isBeat_0 16 rfl rfl)
theorem dX4_isBeat_17 : decode cX4_isBeat 17 = .ok (.iaload, 1) := dk_46 (dk_at dksX4_isBeat_0 17 rfl rfl)
theorem dX4_isBeat_18 : decode cX4_isBeat 18 = .ok (.if_icmp .ge 7, 3) := dk_162 0 7 (dk_at dksX4_isBeat_0 18 rfl rfl)
theorem dX4_isBeat_21 : decode cX4_isBeat 21 = .ok (.iconst 1, 1) := dk_4 (dk_at dksX4_isBeat_0 21 rfl rfl)
theorem dX4_isBeat_22 : decode cX4_isBeat 22 = .ok (.goto 4, 3) := dk_167 0 4 (dk_at dksX4_isBeat_1 0 rfl rfl)
theorem dX4_isBeat_25 : decode cX4_isBeat 25 = .ok (.iconst 0, 1) := dk_3 (dk_at dksX4_isBeat_1 3 rfl rfl)
theorem dX4_isBeat_26 : decode cX4_isBeat 26 = .ok (.ireturn, 1) := dk_172 (dk_at dksX4_isBeat_1 4 rfl rfl)
abbrev cX4_isJunction : ByteArray := prog_19_method_47_code
def yX4_isJunction : MethodName := ⟨RX4, "isJunction", "()Z"⟩
def dkwX4_isJunction_0 : List UInt8 := [42, 180, 0, 39, 3, 46, 4, 160, 0, 7, 4, 167, 0, 4, 3, 172]
abbrev dktX4_isJunction_0 : List UInt8 := dkwX4_isJunction_0 ++ []
theorem dksX4_isJunction_0 : cX4_isJunction.data.toList.drop 0 = dktX4_isJunction_0 := by decide +kernel
theorem dX4_isJunction_0 : decode cX4_isJunction 0 = .ok (.aload_n 0, 1) := dk_42 (dk_at dksX4_isJunction_0 0 rfl rfl)
theorem dX4_isJunction_1 : decode cX4_isJunction 1 = .ok (.getfield 39, 3) := dk_180 0 39 (dk_at dksX4_isJunction_0 1 rfl rfl)
theorem dX4_isJunction_4 : decode cX4_isJunction 4 = .ok (.iconst 0, 1) := dk_3 (dk_at dksX4_isJunction_0 4 rfl rfl)
theorem dX4_isJunction_5 : decode cX4_isJunction 5 = .ok (.iaload, 1) := dk_46 (dk_at dksX4_isJunction_0 5 rfl rfl)
theorem dX4_isJunction_6 : decode cX4_isJunction 6 = .ok (.iconst 1, 1) := dk_4 (dk_at dksX4_isJunction_0 6 rfl rfl)
theorem dX4_isJunction_7 : decode cX4_isJunction 7 = .ok (.if_icmp .ne 7, 3) := dk_160 0 7 (dk_at dksX4_isJunction_0 7 rfl rfl)
theorem dX4_isJunction_10 : decode cX4_isJunction 10 = .ok (.iconst 1, 1) := dk_4 (dk_at dksX4_isJunction_0 10 rfl rfl)
theorem dX4_isJunction_11 : decode cX4_isJunction 11 = .ok (.goto 4, 3) := dk_167 0 4 (dk_at dksX4_isJunction_0 11 rfl rfl)
theorem dX4_isJunction_14 : decode cX4_isJunction 14 = .ok (.iconst 0, 1) := dk_3 (dk_at dksX4_isJunction_0 14 rfl rfl)
theorem dX4_isJunction_15 : decode cX4_isJunction 15 = .ok (.ireturn, 1) := dk_172 (dk_at dksX4_isJunction_0 15 rfl rfl)
abbrev cX4_undo : ByteArray := prog_19_method_73_code
def yX4_undo : MethodName := ⟨RX4, "undo", "()I"⟩
def dkwX4_undo_2 : List UInt8 := [46, 79, 132, 1, 1, 167, 255, 224, 42, 180, 1, 20, 172]
abbrev dktX4_undo_2 : List UInt8 := dkwX4_undo_2 ++ []
def dkwX4_undo_1 : List UInt8 := [162, 0, 32, 42, 180, 0, 39, 16, 10, 27, 96, 42, 180, 0, 55, 16, 44, 42, 180, 1, 20, 104, 27, 96]
abbrev dktX4_undo_1 : List UInt8 := dkwX4_undo_1 ++ dktX4_undo_2
def dkwX4_undo_0 : List UInt8 := [42, 180, 1, 20, 154, 0, 5, 2, 172, 42, 89, 180, 1, 20, 4, 100, 181, 1, 20, 3, 60, 27, 16, 44]
abbrev dktX4_undo_0 : List UInt8 := dkwX4_undo_0 ++ dktX4_undo_1
theorem dksX4_undo_0 : cX4_undo.data.toList.drop 0 = dktX4_undo_0 := by decide +kernel
theorem dksX4_undo_1 : cX4_undo.data.toList.drop 24 = dktX4_undo_1 := dk_seg dksX4_undo_0 24 rfl rfl
theorem dksX4_undo_2 : cX4_undo.data.toList.drop 48 = dktX4_undo_2 := dk_seg dksX4_undo_1 24 rfl rfl
theorem dX4_undo_0 : decode cX4_undo 0 = .ok (.aload_n 0, 1) := dk_42 (dk_at dksX4_undo_0 0 rfl rfl)
theorem dX4_undo_1 : decode cX4_undo 1 = .ok (.getfield 276, 3) := dk_180 1 20 (dk_at dksX4_undo_0 1 rfl rfl)
theorem dX4_undo_4 : decode cX4_undo 4 = .ok (.ifCond .ne 5, 3) := dk_154 0 5 (dk_at dksX4_undo_0 4 rfl rfl)
theorem dX4_undo_7 : decode cX4_undo 7 = .ok (.iconst (-1), 1) := dk_2 (dk_at dksX4_undo_0 7 rfl rfl)
theorem dX4_undo_8 : decode cX4_undo 8 = .ok (.ireturn, 1) := dk_172 (dk_at dksX4_undo_0 8 rfl rfl)
theorem dX4_undo_9 : decode cX4_undo 9 = .ok (.aload_n 0, 1) := dk_42 (dk_at dksX4_undo_0 9 rfl rfl)
theorem dX4_undo_10 : decode cX4_undo 10 = .ok (.dup, 1) := dk_89 (dk_at dksX4_undo_0 10 rfl rfl)
theorem dX4_undo_11 : decode cX4_undo 11 = .ok (.getfield 276, 3) := dk_180 1 20 (dk_at dksX4_undo_0 11 rfl rfl)
theorem dX4_undo_14 : decode cX4_undo 14 = .ok (.iconst 1, 1) := dk_4 (dk_at dksX4_undo_0 14 rfl rfl)
theorem dX4_undo_15 : decode cX4_undo 15 = .ok (.isub, 1) := dk_100 (dk_at dksX4_undo_0 15 rfl rfl)
theorem dX4_undo_16 : decode cX4_undo 16 = .ok (.putfield 276, 3) := dk_181 1 20 (dk_at dksX4_undo_0 16 rfl rfl)
theorem dX4_undo_19 : decode cX4_undo 19 = .ok (.iconst 0, 1) := dk_3 (dk_at dksX4_undo_0 19 rfl rfl)
theorem dX4_undo_20 : decode cX4_undo 20 = .ok (.istore_n 1, 1) := dk_60 (dk_at dksX4_undo_0 20 rfl rfl)
theorem dX4_undo_21 : decode cX4_undo 21 = .ok (.iload_n 1, 1) := dk_27 (dk_at dksX4_undo_0 21 rfl rfl)
theorem dX4_undo_22 : decode cX4_undo 22 = .ok (.bipush 44, 2) := dk_16 44 (dk_at dksX4_undo_0 22 rfl rfl)
theorem dX4_undo_24 : decode cX4_undo 24 = .ok (.if_icmp .ge 32, 3) := dk_162 0 32 (dk_at dksX4_undo_1 0 rfl rfl)
theorem dX4_undo_27 : decode cX4_undo 27 = .ok (.aload_n 0, 1) := dk_42 (dk_at dksX4_undo_1 3 rfl rfl)
theorem dX4_undo_28 : decode cX4_undo 28 = .ok (.getfield 39, 3) := dk_180 0 39 (dk_at dksX4_undo_1 4 rfl rfl)
theorem dX4_undo_31 : decode cX4_undo 31 = .ok (.bipush 10, 2) := dk_16 10 (dk_at dksX4_undo_1 7 rfl rfl)
theorem dX4_undo_33 : decode cX4_undo 33 = .ok (.iload_n 1, 1) := dk_27 (dk_at dksX4_undo_1 9 rfl rfl)
theorem dX4_undo_34 : decode cX4_undo 34 = .ok (.iadd, 1) := dk_96 (dk_at dksX4_undo_1 10 rfl rfl)
theorem dX4_undo_35 : decode cX4_undo 35 = .ok (.aload_n 0, 1) := dk_42 (dk_at dksX4_undo_1 11 rfl rfl)
theorem dX4_undo_36 : decode cX4_undo 36 = .ok (.getfield 55, 3) := dk_180 0 55 (dk_at dksX4_undo_1 12 rfl rfl)
theorem dX4_undo_39 : decode cX4_undo 39 = .ok (.bipush 44, 2) := dk_16 44 (dk_at dksX4_undo_1 15 rfl rfl)
theorem dX4_undo_41 : decode cX4_undo 41 = .ok (.aload_n 0, 1) := dk_42 (dk_at dksX4_undo_1 17 rfl rfl)
theorem dX4_undo_42 : decode cX4_undo 42 = .ok (.getfield 276, 3) := dk_180 1 20 (dk_at dksX4_undo_1 18 rfl rfl)
theorem dX4_undo_45 : decode cX4_undo 45 = .ok (.imul, 1) := dk_104 (dk_at dksX4_undo_1 21 rfl rfl)
theorem dX4_undo_46 : decode cX4_undo 46 = .ok (.iload_n 1, 1) := dk_27 (dk_at dksX4_undo_1 22 rfl rfl)
theorem dX4_undo_47 : decode cX4_undo 47 = .ok (.iadd, 1) := dk_96 (dk_at dksX4_undo_1 23 rfl rfl)
theorem dX4_undo_48 : decode cX4_undo 48 = .ok (.iaload, 1) := dk_46 (dk_at dksX4_undo_2 0 rfl rfl)
theorem dX4_undo_49 : decode cX4_undo 49 = .ok (.iastore, 1) := dk_79 (dk_at dksX4_undo_2 1 rfl rfl)
theorem dX4_undo_50 : decode cX4_undo 50 = .ok (.iinc 1 1, 3) := dk_132 1 1 (dk_at dksX4_undo_2 2 rfl rfl)
theorem dX4_undo_53 : decode cX4_undo 53 = .ok (.goto (-32), 3) := dk_167 255 224 (dk_at dksX4_undo_2 5 rfl rfl)
theorem dX4_undo_56 : decode cX4_undo 56 = .ok (.aload_n 0, 1) := dk_42 (dk_at dksX4_undo_2 8 rfl rfl)
theorem dX4_undo_57 : decode cX4_undo 57 = .ok (.getfield 276, 3) := dk_180 1 20 (dk_at dksX4_undo_2 9 rfl rfl)
theorem dX4_undo_60 : decode cX4_undo 60 = .ok (.ireturn, 1) := dk_172 (dk_at dksX4_undo_2 12 rfl rfl)
abbrev cX4_beat : ByteArray := prog_19_method_74_code
def yX4_beat : MethodName := ⟨RX4, "beat", "()I"⟩
def dkwX4_beat_1 : List UInt8 := [182, 1, 109, 42, 182, 1, 106, 172]
abbrev dktX4_beat_1 : List UInt8 := dkwX4_beat_1 ++ []
def dkwX4_beat_0 : List UInt8 := [42, 182, 1, 38, 153, 0, 16, 42, 180, 0, 39, 16, 10, 46, 17, 3, 231, 160, 0, 5, 2, 172, 42]
abbrev dktX4_beat_0 : List UInt8 := dkwX4_beat_0 ++ dktX4_beat_1
theorem dksX4_beat_0 : cX4_beat.data.toList.drop 0 = dktX4_beat_0 := by decide +kernel
theorem dksX4_beat_1 : cX4_beat.data.toList.drop 23 = dktX4_beat_1 := dk_seg dksX4_beat_0 23 rfl rfl
theorem dX4_beat_0 : decode cX4_beat 0 = .ok (.aload_n 0, 1) := dk_42 (dk_at dksX4_beat_0 0 rfl rfl)
theorem dX4_beat_1 : decode cX4_beat 1 = .ok (.invokevirtual 294, 3) := dk_182 1 38 (dk_at dksX4_beat_0 1 rfl rfl)
theorem dX4_beat_4 : decode cX4_beat 4 = .ok (.ifCond .eq 16, 3) := dk_153 0 16 (dk_at dksX4_beat_0 4 rfl rfl)
theorem dX4_beat_7 : decode cX4_beat 7 = .ok (.aload_n 0, 1) := dk_42 (dk_at dksX4_beat_0 7 rfl rfl)
theorem dX4_beat_8 : decode cX4_beat 8 = .ok (.getfield 39, 3) := dk_180 0 39 (dk_at dksX4_beat_0 8 rfl rfl)
theorem dX4_beat_11 : decode cX4_beat 11 = .ok (.bipush 10, 2) := dk_16 10 (dk_at dksX4_beat_0 11 rfl rfl)
theorem dX4_beat_13 : decode cX4_beat 13 = .ok (.iaload, 1) := dk_46 (dk_at dksX4_beat_0 13 rfl rfl)
theorem dX4_beat_14 : decode cX4_beat 14 = .ok (.sipush 999, 3) := dk_17 3 231 (dk_at dksX4_beat_0 14 rfl rfl)
theorem dX4_beat_17 : decode cX4_beat 17 = .ok (.if_icmp .ne 5, 3) := dk_160 0 5 (dk_at dksX4_beat_0 17 rfl rfl)
theorem dX4_beat_20 : decode cX4_beat 20 = .ok (.iconst (-1), 1) := dk_2 (dk_at dksX4_beat_0 20 rfl rfl)
theorem dX4_beat_21 : decode cX4_beat 21 = .ok (.ireturn, 1) := dk_172 (dk_at dksX4_beat_0 21 rfl rfl)
theorem dX4_beat_22 : decode cX4_beat 22 = .ok (.aload_n 0, 1) := dk_42 (dk_at dksX4_beat_0 22 rfl rfl)
theorem dX4_beat_23 : decode cX4_beat 23 = .ok (.invokevirtual 365, 3) := dk_182 1 109 (dk_at dksX4_beat_1 0 rfl rfl)
theorem dX4_beat_26 : decode cX4_beat 26 = .ok (.aload_n 0, 1) := dk_42 (dk_at dksX4_beat_1 3 rfl rfl)
theorem dX4_beat_27 : decode cX4_beat 27 = .ok (.invokevirtual 362, 3) := dk_182 1 106 (dk_at dksX4_beat_1 4 rfl rfl)
theorem dX4_beat_30 : decode cX4_beat 30 = .ok (.ireturn, 1) := dk_172 (dk_at dksX4_beat_1 7 rfl rfl)
abbrev cX4_keepsAct : ByteArray := prog_19_method_72_code
def yX4_keepsAct : MethodName := ⟨RX4, "keepsAct", "()V"⟩
def dkwX4_keepsAct_4 : List UInt8 := [181, 1, 20, 177]
abbrev dktX4_keepsAct_4 : List UInt8 := dkwX4_keepsAct_4 ++ []
def dkwX4_keepsAct_3 : List UInt8 := [42, 180, 0, 39, 16, 10, 27, 96, 46, 79, 132, 1, 1, 167, 255, 224, 42, 89, 180, 1, 20, 4, 96]
abbrev dktX4_keepsAct_3 : List UInt8 := dkwX4_keepsAct_3 ++ dktX4_keepsAct_4
def dkwX4_keepsAct_2 : List UInt8 := [181, 1, 20, 3, 60, 27, 16, 44, 162, 0, 32, 42, 180, 0, 55, 16, 44, 42, 180, 1, 20, 104, 27, 96]
abbrev dktX4_keepsAct_2 : List UInt8 := dkwX4_keepsAct_2 ++ dktX4_keepsAct_3
def dkwX4_keepsAct_1 : List UInt8 := [16, 44, 100, 42, 180, 0, 55, 27, 46, 79, 132, 1, 1, 167, 255, 231, 42, 89, 180, 1, 20, 4, 100]
abbrev dktX4_keepsAct_1 : List UInt8 := dkwX4_keepsAct_1 ++ dktX4_keepsAct_2
def dkwX4_keepsAct_0 : List UInt8 := [42, 180, 1, 20, 16, 20, 160, 0, 44, 16, 44, 60, 27, 17, 3, 112, 162, 0, 24, 42, 180, 0, 55, 27]
abbrev dktX4_keepsAct_0 : List UInt8 := dkwX4_keepsAct_0 ++ dktX4_keepsAct_1
theorem dksX4_keepsAct_0 : cX4_keepsAct.data.toList.drop 0 = dktX4_keepsAct_0 := by decide +kernel
theorem dksX4_keepsAct_1 : cX4_keepsAct.data.toList.drop 24 = dktX4_keepsAct_1 := dk_seg dksX4_keepsAct_0 24 rfl rfl
theorem dksX4_keepsAct_2 : cX4_keepsAct.data.toList.drop 47 = dktX4_keepsAct_2 := dk_seg dksX4_keepsAct_1 23 rfl rfl
theorem dksX4_keepsAct_3 : cX4_keepsAct.data.toList.drop 71 = dktX4_keepsAct_3 := dk_seg dksX4_keepsAct_2 24 rfl rfl
theorem dksX4_keepsAct_4 : cX4_keepsAct.data.toList.drop 94 = dktX4_keepsAct_4 := dk_seg dksX4_keepsAct_3 23 rfl rfl
theorem dX4_keepsAct_0 : decode cX4_keepsAct 0 = .ok (.aload_n 0, 1) := dk_42 (dk_at dksX4_keepsAct_0 0 rfl rfl)
theorem dX4_keepsAct_1 : decode cX4_keepsAct 1 = .ok (.getfield 276, 3) := dk_180 1 20 (dk_at dksX4_keepsAct_0 1 rfl rfl)
theorem dX4_keepsAct_4 : decode cX4_keepsAct 4 = .ok (.bipush 20, 2) := dk_16 20 (dk_at dksX4_keepsAct_0 4 rfl rfl)
theorem dX4_keepsAct_6 : decode cX4_keepsAct 6 = .ok (.if_icmp .ne 44, 3) := dk_160 0 44 (dk_at dksX4_keepsAct_0 6 rfl rfl)
theorem dX4_keepsAct_9 : decode cX4_keepsAct 9 = .ok (.bipush 44, 2) := dk_16 44 (dk_at dksX4_keepsAct_0 9 rfl rfl)
theorem dX4_keepsAct_11 : decode cX4_keepsAct 11 = .ok (.istore_n 1, 1) := dk_60 (dk_at dksX4_keepsAct_0 11 rfl rfl)
theorem dX4_keepsAct_12 : decode cX4_keepsAct 12 = .ok (.iload_n 1, 1) := dk_27 (dk_at dksX4_keepsAct_0 12 rfl rfl)
theorem dX4_keepsAct_13 : decode cX4_keepsAct 13 = .ok (.sipush 880, 3) := dk_17 3 112 (dk_at dksX4_keepsAct_0 13 rfl rfl)
theorem dX4_keepsAct_16 : decode cX4_keepsAct 16 = .ok (.if_icmp .ge 24, 3) := dk_162 0 24 (dk_at dksX4_keepsAct_0 16 rfl rfl)
theorem dX4_keepsAct_19 : decode cX4_keepsAct 19 = .ok (.aload_n 0, 1) := dk_42 (dk_at dksX4_keepsAct_0 19 rfl rfl)
theorem dX4_keepsAct_20 : decode cX4_keepsAct 20 = .ok (.getfield 55, 3) := dk_180 0 55 (dk_at dksX4_keepsAct_0 20 rfl rfl)
theorem dX4_keepsAct_23 : decode cX4_keepsAct 23 = .ok (.iload_n 1, 1) := dk_27 (dk_at dksX4_keepsAct_0 23 rfl rfl)
theorem dX4_keepsAct_24 : decode cX4_keepsAct 24 = .ok (.bipush 44, 2) := dk_16 44 (dk_at dksX4_keepsAct_1 0 rfl rfl)
theorem dX4_keepsAct_26 : decode cX4_keepsAct 26 = .ok (.isub, 1) := dk_100 (dk_at dksX4_keepsAct_1 2 rfl rfl)
theorem dX4_keepsAct_27 : decode cX4_keepsAct 27 = .ok (.aload_n 0, 1) := dk_42 (dk_at dksX4_keepsAct_1 3 rfl rfl)
theorem dX4_keepsAct_28 : decode cX4_keepsAct 28 = .ok (.getfield 55, 3) := dk_180 0 55 (dk_at dksX4_keepsAct_1 4 rfl rfl)
theorem dX4_keepsAct_31 : decode cX4_keepsAct 31 = .ok (.iload_n 1, 1) := dk_27 (dk_at dksX4_keepsAct_1 7 rfl rfl)
theorem dX4_keepsAct_32 : decode cX4_keepsAct 32 = .ok (.iaload, 1) := dk_46 (dk_at dksX4_keepsAct_1 8 rfl rfl)
theorem dX4_keepsAct_33 : decode cX4_keepsAct 33 = .ok (.iastore, 1) := dk_79 (dk_at dksX4_keepsAct_1 9 rfl rfl)
theorem dX4_keepsAct_34 : decode cX4_keepsAct 34 = .ok (.iinc 1 1, 3) := dk_132 1 1 (dk_at dksX4_keepsAct_1 10 rfl rfl)
theorem dX4_keepsAct_37 : decode cX4_keepsAct 37 = .ok (.goto (-25), 3) := dk_167 255 231 (dk_at dksX4_keepsAct_1 13 rfl rfl)
theorem dX4_keepsAct_40 : decode cX4_keepsAct 40 = .ok (.aload_n 0, 1) := dk_42 (dk_at dksX4_keepsAct_1 16 rfl rfl)
theorem dX4_keepsAct_41 : decode cX4_keepsAct 41 = .ok (.dup, 1) := dk_89 (dk_at dksX4_keepsAct_1 17 rfl rfl)
theorem dX4_keepsAct_42 : decode cX4_keepsAct 42 = .ok (.getfield 276, 3) := dk_180 1 20 (dk_at dksX4_keepsAct_1 18 rfl rfl)
theorem dX4_keepsAct_45 : decode cX4_keepsAct 45 = .ok (.iconst 1, 1) := dk_4 (dk_at dksX4_keepsAct_1 21 rfl rfl)
theorem dX4_keepsAct_46 : decode cX4_keepsAct 46 = .ok (.isub, 1) := dk_100 (dk_at dksX4_keepsAct_1 22 rfl rfl)
theorem dX4_keepsAct_47 : decode cX4_keepsAct 47 = .ok (.putfield 276, 3) := dk_181 1 20 (dk_at dksX4_keepsAct_2 0 rfl rfl)
theorem dX4_keepsAct_50 : decode cX4_keepsAct 50 = .ok (.iconst 0, 1) := dk_3 (dk_at dksX4_keepsAct_2 3 rfl rfl)
theorem dX4_keepsAct_51 : decode cX4_keepsAct 51 = .ok (.istore_n 1, 1) := dk_60 (dk_at dksX4_keepsAct_2 4 rfl rfl)
theorem dX4_keepsAct_52 : decode cX4_keepsAct 52 = .ok (.iload_n 1, 1) := dk_27 (dk_at dksX4_keepsAct_2 5 rfl rfl)
theorem dX4_keepsAct_53 : decode cX4_keepsAct 53 = .ok (.bipush 44, 2) := dk_16 44 (dk_at dksX4_keepsAct_2 6 rfl rfl)
theorem dX4_keepsAct_55 : decode cX4_keepsAct 55 = .ok (.if_icmp .ge 32, 3) := dk_162 0 32 (dk_at dksX4_keepsAct_2 8 rfl rfl)
theorem dX4_keepsAct_58 : decode cX4_keepsAct 58 = .ok (.aload_n 0, 1) := dk_42 (dk_at dksX4_keepsAct_2 11 rfl rfl)
theorem dX4_keepsAct_59 : decode cX4_keepsAct 59 = .ok (.getfield 55, 3) := dk_180 0 55 (dk_at dksX4_keepsAct_2 12 rfl rfl)
theorem dX4_keepsAct_62 : decode cX4_keepsAct 62 = .ok (.bipush 44, 2) := dk_16 44 (dk_at dksX4_keepsAct_2 15 rfl rfl)
theorem dX4_keepsAct_64 : decode cX4_keepsAct 64 = .ok (.aload_n 0, 1) := dk_42 (dk_at dksX4_keepsAct_2 17 rfl rfl)
theorem dX4_keepsAct_65 : decode cX4_keepsAct 65 = .ok (.getfield 276, 3) := dk_180 1 20 (dk_at dksX4_keepsAct_2 18 rfl rfl)
theorem dX4_keepsAct_68 : decode cX4_keepsAct 68 = .ok (.imul, 1) := dk_104 (dk_at dksX4_keepsAct_2 21 rfl rfl)
theorem dX4_keepsAct_69 : decode cX4_keepsAct 69 = .ok (.iload_n 1, 1) := dk_27 (dk_at dksX4_keepsAct_2 22 rfl rfl)
theorem dX4_keepsAct_70 : decode cX4_keepsAct 70 = .ok (.iadd, 1) := dk_96 (dk_at dksX4_keepsAct_2 23 rfl rfl)
theorem dX4_keepsAct_71 : decode cX4_keepsAct 71 = .ok (.aload_n 0, 1) := dk_42 (dk_at dksX4_keepsAct_3 0 rfl rfl)
theorem dX4_keepsAct_72 : decode cX4_keepsAct 72 = .ok (.getfield 39, 3) := dk_180 0 39 (dk_at dksX4_keepsAct_3 1 rfl rfl)
theorem dX4_keepsAct_75 : decode cX4_keepsAct 75 = .ok (.bipush 10, 2) := dk_16 10 (dk_at dksX4_keepsAct_3 4 rfl rfl)
theorem dX4_keepsAct_77 : decode cX4_keepsAct 77 = .ok (.iload_n 1, 1) := dk_27 (dk_at dksX4_keepsAct_3 6 rfl rfl)
theorem dX4_keepsAct_78 : decode cX4_keepsAct 78 = .ok (.iadd, 1) := dk_96 (dk_at dksX4_keepsAct_3 7 rfl rfl)
theorem dX4_keepsAct_79 : decode cX4_keepsAct 79 = .ok (.iaload, 1) := dk_46 (dk_at dksX4_keepsAct_3 8 rfl rfl)
theorem dX4_keepsAct_80 : decode cX4_keepsAct 80 = .ok (.iastore, 1) := dk_79 (dk_at dksX4_keepsAct_3 9 rfl rfl)
theorem dX4_keepsAct_81 : decode cX4_keepsAct 81 = .ok (.iinc 1 1, 3) := dk_132 1 1 (dk_at dksX4_keepsAct_3 10 rfl rfl)
theorem dX4_keepsAct_84 : decode cX4_keepsAct 84 = .ok (.goto (-32), 3) := dk_167 255 224 (dk_at dksX4_keepsAct_3 13 rfl rfl)
theorem dX4_keepsAct_87 : decode cX4_keepsAct 87 = .ok (.aload_n 0, 1) := dk_42 (dk_at dksX4_keepsAct_3 16 rfl rfl)
theorem dX4_keepsAct_88 : decode cX4_keepsAct 88 = .ok (.dup, 1) := dk_89 (dk_at dksX4_keepsAct_3 17 rfl rfl)
theorem dX4_keepsAct_89 : decode cX4_keepsAct 89 = .ok (.getfield 276, 3) := dk_180 1 20 (dk_at dksX4_keepsAct_3 18 rfl rfl)
theorem dX4_keepsAct_92 : decode cX4_keepsAct 92 = .ok (.iconst 1, 1) := dk_4 (dk_at dksX4_keepsAct_3 21 rfl rfl)
theorem dX4_keepsAct_93 : decode cX4_keepsAct 93 = .ok (.iadd, 1) := dk_96 (dk_at dksX4_keepsAct_3 22 rfl rfl)
theorem dX4_keepsAct_94 : decode cX4_keepsAct 94 = .ok (.putfield 276, 3) := dk_181 1 20 (dk_at dksX4_keepsAct_4 0 rfl rfl)
theorem dX4_keepsAct_97 : decode cX4_keepsAct 97 = .ok (.return_, 1) := dk_177 (dk_at dksX4_keepsAct_4 3 rfl rfl)
abbrev cX4_passes : ByteArray := prog_19_method_70_code
def yX4_passes : MethodName := ⟨RX4, "passes", "()I"⟩
def dkwX4_passes_8 : List UInt8 := [16, 10, 92, 46, 4, 96, 79, 27, 172]
abbrev dktX4_passes_8 : List UInt8 := dkwX4_passes_8 ++ []
def dkwX4_passes_7 : List UInt8 := [29, 18, 178, 164, 0, 8, 18, 178, 167, 0, 4, 29, 79, 132, 2, 1, 167, 255, 206, 42, 180, 0, 39]
abbrev dktX4_passes_7 : List UInt8 := dkwX4_passes_7 ++ dktX4_passes_8
def dkwX4_passes_6 : List UInt8 := [42, 28, 182, 1, 62, 42, 28, 182, 1, 56, 96, 62, 42, 180, 0, 39, 16, 11, 8, 28, 104, 96, 6, 96]
abbrev dktX4_passes_6 : List UInt8 := dkwX4_passes_6 ++ dktX4_passes_7
def dkwX4_passes_5 : List UInt8 := [46, 79, 132, 2, 1, 167, 255, 192, 42, 182, 1, 103, 3, 61, 28, 42, 180, 0, 39, 6, 46, 162, 0, 46]
abbrev dktX4_passes_5 : List UInt8 := dkwX4_passes_5 ++ dktX4_passes_6
def dkwX4_passes_4 : List UInt8 := [184, 1, 41, 153, 0, 23, 42, 180, 0, 39, 16, 11, 8, 28, 104, 96, 7, 96, 42, 180, 0, 39, 16, 10]
abbrev dktX4_passes_4 : List UInt8 := dkwX4_passes_4 ++ dktX4_passes_5
def dkwX4_passes_3 : List UInt8 := [180, 0, 52, 28, 27, 28, 184, 1, 41, 153, 0, 11, 42, 28, 182, 1, 100, 167, 0, 4, 3, 79, 27, 28]
abbrev dktX4_passes_3 : List UInt8 := dkwX4_passes_3 ++ dktX4_passes_4
def dkwX4_passes_2 : List UInt8 := [132, 1, 1, 167, 255, 209, 42, 182, 1, 97, 60, 3, 61, 28, 42, 180, 0, 39, 6, 46, 162, 0, 60, 42]
abbrev dktX4_passes_2 : List UInt8 := dkwX4_passes_2 ++ dktX4_passes_3
def dkwX4_passes_1 : List UInt8 := [16, 10, 46, 42, 180, 0, 39, 16, 54, 27, 96, 46, 112, 154, 0, 9, 42, 27, 4, 182, 1, 94]
abbrev dktX4_passes_1 : List UInt8 := dkwX4_passes_1 ++ dktX4_passes_2
def dkwX4_passes_0 : List UInt8 := [3, 60, 27, 42, 180, 0, 39, 6, 46, 162, 0, 43, 27, 42, 180, 0, 46, 159, 0, 29, 42, 180, 0, 39]
abbrev dktX4_passes_0 : List UInt8 := dkwX4_passes_0 ++ dktX4_passes_1
theorem dksX4_passes_0 : cX4_passes.data.toList.drop 0 = dktX4_passes_0 := by decide +kernel
theorem dksX4_passes_1 : cX4_passes.data.toList.drop 24 = dktX4_passes_1 := dk_seg dksX4_passes_0 24 rfl rfl
theorem dksX4_passes_2 : cX4_passes.data.toList.drop 46 = dktX4_passes_2 := dk_seg dksX4_passes_1 22 rfl rfl
theorem dksX4_passes_3 : cX4_passes.data.toList.drop 70 = dktX4_passes_3 := dk_seg dksX4_passes_2 24 rfl rfl
theorem dksX4_passes_4 : cX4_passes.data.toList.drop 94 = dktX4_passes_4 := dk_seg dksX4_passes_3 24 rfl rfl
theorem dksX4_passes_5 : cX4_passes.data.toList.drop 118 = dktX4_passes_5 := dk_seg dksX4_passes_4 24 rfl rfl
theorem dksX4_passes_6 : cX4_passes.data.toList.drop 142 = dktX4_passes_6 := dk_seg dksX4_passes_5 24 rfl rfl
theorem dksX4_passes_7 : cX4_passes.data.toList.drop 166 = dktX4_passes_7 := dk_seg dksX4_passes_6 24 rfl rfl
theorem dksX4_passes_8 : cX4_passes.data.toList.drop 189 = dktX4_passes_8 := dk_seg dksX4_passes_7 23 rfl rfl
theorem dX4_passes_0 : decode cX4_passes 0 = .ok (.iconst 0, 1) := dk_3 (dk_at dksX4_passes_0 0 rfl rfl)
theorem dX4_passes_1 : decode cX4_passes 1 = .ok (.istore_n 1, 1) := dk_60 (dk_at dksX4_passes_0 1 rfl rfl)
theorem dX4_passes_2 : decode cX4_passes 2 = .ok (.iload_n 1, 1) := dk_27 (dk_at dksX4_passes_0 2 rfl rfl)
theorem dX4_passes_3 : decode cX4_passes 3 = .ok (.aload_n 0, 1) := dk_42 (dk_at dksX4_passes_0 3 rfl rfl)
theorem dX4_passes_4 : decode cX4_passes 4 = .ok (.getfield 39, 3) := dk_180 0 39 (dk_at dksX4_passes_0 4 rfl rfl)
theorem dX4_passes_7 : decode cX4_passes 7 = .ok (.iconst 3, 1) := dk_6 (dk_at dksX4_passes_0 7 rfl rfl)
theorem dX4_passes_8 : decode cX4_passes 8 = .ok (.iaload, 1) := dk_46 (dk_at dksX4_passes_0 8 rfl rfl)
theorem dX4_passes_9 : decode cX4_passes 9 = .ok (.if_icmp .ge 43, 3) := dk_162 0 43 (dk_at dksX4_passes_0 9 rfl rfl)
theorem dX4_passes_12 : decode cX4_passes 12 = .ok (.iload_n 1, 1) := dk_27 (dk_at dksX4_passes_0 12 rfl rfl)
theorem dX4_passes_13 : decode cX4_passes 13 = .ok (.aload_n 0, 1) := dk_42 (dk_at dksX4_passes_0 13 rfl rfl)
theorem dX4_passes_14 : decode cX4_passes 14 = .ok (.getfield 46, 3) := dk_180 0 46 (dk_at dksX4_passes_0 14 rfl rfl)
theorem dX4_passes_17 : decode cX4_passes 17 = .ok (.if_icmp .eq 29, 3) := dk_159 0 29 (dk_at dksX4_passes_0 17 rfl rfl)
theorem dX4_passes_20 : decode cX4_passes 20 = .ok (.aload_n 0, 1) := dk_42 (dk_at dksX4_passes_0 20 rfl rfl)
theorem dX4_passes_21 : decode cX4_passes 21 = .ok (.getfield 39, 3) := dk_180 0 39 (dk_at dksX4_passes_0 21 rfl rfl)
theorem dX4_passes_24 : decode cX4_passes 24 = .ok (.bipush 10, 2) := dk_16 10 (dk_at dksX4_passes_1 0 rfl rfl)
theorem dX4_passes_26 : decode cX4_passes 26 = .ok (.iaload, 1) := dk_46 (dk_at dksX4_passes_1 2 rfl rfl)
theorem dX4_passes_27 : decode cX4_passes 27 = .ok (.aload_n 0, 1) := dk_42 (dk_at dksX4_passes_1 3 rfl rfl)
theorem dX4_passes_28 : decode cX4_passes 28 = .ok (.getfield 39, 3) := dk_180 0 39 (dk_at dksX4_passes_1 4 rfl rfl)
theorem dX4_passes_31 : decode cX4_passes 31 = .ok (.bipush 54, 2) := dk_16 54 (dk_at dksX4_passes_1 7 rfl rfl)
theorem dX4_passes_33 : decode cX4_passes 33 = .ok (.iload_n 1, 1) := dk_27 (dk_at dksX4_passes_1 9 rfl rfl)
theorem dX4_passes_34 : decode cX4_passes 34 = .ok (.iadd, 1) := dk_96 (dk_at dksX4_passes_1 10 rfl rfl)
theorem dX4_passes_35 : decode cX4_passes 35 = .ok (.iaload, 1) := dk_46 (dk_at dksX4_passes_1 11 rfl rfl)
theorem dX4_passes_36 : decode cX4_passes 36 = .ok (.irem, 1) := dk_112 (dk_at dksX4_passes_1 12 rfl rfl)
theorem dX4_passes_37 : decode cX4_passes 37 = .ok (.ifCond .ne 9, 3) := dk_154 0 9 (dk_at dksX4_passes_1 13 rfl rfl)
theorem dX4_passes_40 : decode cX4_passes 40 = .ok (.aload_n 0, 1) := dk_42 (dk_at dksX4_passes_1 16 rfl rfl)
theorem dX4_passes_41 : decode cX4_passes 41 = .ok (.iload_n 1, 1) := dk_27 (dk_at dksX4_passes_1 17 rfl rfl)
theorem dX4_passes_42 : decode cX4_passes 42 = .ok (.iconst 1, 1) := dk_4 (dk_at dksX4_passes_1 18 rfl rfl)
theorem dX4_passes_43 : decode cX4_passes 43 = .ok (.invokevirtual 350, 3) := dk_182 1 94 (dk_at dksX4_passes_1 19 rfl rfl)
theorem dX4_passes_46 : decode cX4_passes 46 = .ok (.iinc 1 1, 3) := dk_132 1 1 (dk_at dksX4_passes_2 0 rfl rfl)
theorem dX4_passes_49 : decode cX4_passes 49 = .ok (.goto (-47), 3) := dk_167 255 209 (dk_at dksX4_passes_2 3 rfl rfl)
theorem dX4_passes_52 : decode cX4_passes 52 = .ok (.aload_n 0, 1) := dk_42 (dk_at dksX4_passes_2 6 rfl rfl)
theorem dX4_passes_53 : decode cX4_passes 53 = .ok (.invokevirtual 353, 3) := dk_182 1 97 (dk_at dksX4_passes_2 7 rfl rfl)
theorem dX4_passes_56 : decode cX4_passes 56 = .ok (.istore_n 1, 1) := dk_60 (dk_at dksX4_passes_2 10 rfl rfl)
theorem dX4_passes_57 : decode cX4_passes 57 = .ok (.iconst 0, 1) := dk_3 (dk_at dksX4_passes_2 11 rfl rfl)
theorem dX4_passes_58 : decode cX4_passes 58 = .ok (.istore_n 2, 1) := dk_61 (dk_at dksX4_passes_2 12 rfl rfl)
theorem dX4_passes_59 : decode cX4_passes 59 = .ok (.iload_n 2, 1) := dk_28 (dk_at dksX4_passes_2 13 rfl rfl)
theorem dX4_passes_60 : decode cX4_passes 60 = .ok (.aload_n 0, 1) := dk_42 (dk_at dksX4_passes_2 14 rfl rfl)
theorem dX4_passes_61 : decode cX4_passes 61 = .ok (.getfield 39, 3) := dk_180 0 39 (dk_at dksX4_passes_2 15 rfl rfl)
theorem dX4_passes_64 : decode cX4_passes 64 = .ok (.iconst 3, 1) := dk_6 (dk_at dksX4_passes_2 18 rfl rfl)
theorem dX4_passes_65 : decode cX4_passes 65 = .ok (.iaload, 1) := dk_46 (dk_at dksX4_passes_2 19 rfl rfl)
theorem dX4_passes_66 : decode cX4_passes 66 = .ok (.if_icmp .ge 60, 3) := dk_162 0 60 (dk_at dksX4_passes_2 20 rfl rfl)
theorem dX4_passes_69 : decode cX4_passes 69 = .ok (.aload_n 0, 1) := dk_42 (dk_at dksX4_passes_2 23 rfl rfl)
theorem dX4_passes_70 : decode cX4_passes 70 = .ok (.getfield 52, 3) := dk_180 0 52 (dk_at dksX4_passes_3 0 rfl rfl)
theorem dX4_passes_73 : decode cX4_passes 73 = .ok (.iload_n 2, 1) := dk_28 (dk_at dksX4_passes_3 3 rfl rfl)
theorem dX4_passes_74 : decode cX4_passes 74 = .ok (.iload_n 1, 1) := dk_27 (dk_at dksX4_passes_3 4 rfl rfl)
theorem dX4_passes_75 : decode cX4_passes 75 = .ok (.iload_n 2, 1) := dk_28 (dk_at dksX4_passes_3 5 rfl rfl)
theorem dX4_passes_76 : decode cX4_passes 76 = .ok (.invokestatic 297, 3) := dk_184 1 41 (dk_at dksX4_passes_3 6 rfl rfl)
theorem dX4_passes_79 : decode cX4_passes 79 = .ok (.ifCond .eq 11, 3) := dk_153 0 11 (dk_at dksX4_passes_3 9 rfl rfl)
theorem dX4_passes_82 : decode cX4_passes 82 = .ok (.aload_n 0, 1) := dk_42 (dk_at dksX4_passes_3 12 rfl rfl)
theorem dX4_passes_83 : decode cX4_passes 83 = .ok (.iload_n 2, 1) := dk_28 (dk_at dksX4_passes_3 13 rfl rfl)
theorem dX4_passes_84 : decode cX4_passes 84 = .ok (.invokevirtual 356, 3) := dk_182 1 100 (dk_at dksX4_passes_3 14 rfl rfl)
theorem dX4_passes_87 : decode cX4_passes 87 = .ok (.goto 4, 3) := dk_167 0 4 (dk_at dksX4_passes_3 17 rfl rfl)
theorem dX4_passes_90 : decode cX4_passes 90 = .ok (.iconst 0, 1) := dk_3 (dk_at dksX4_passes_3 20 rfl rfl)
theorem dX4_passes_91 : decode cX4_passes 91 = .ok (.iastore, 1) := dk_79 (dk_at dksX4_passes_3 21 rfl rfl)
theorem dX4_passes_92 : decode cX4_passes 92 = .ok (.iload_n 1, 1) := dk_27 (dk_at dksX4_passes_3 22 rfl rfl)
theorem dX4_passes_93 : decode cX4_passes 93 = .ok (.iload_n 2, 1) := dk_28 (dk_at dksX4_passes_3 23 rfl rfl)
theorem dX4_passes_94 : decode cX4_passes 94 = .ok (.invokestatic 297, 3) := dk_184 1 41 (dk_at dksX4_passes_4 0 rfl rfl)
theorem dX4_passes_97 : decode cX4_passes 97 = .ok (.ifCond .eq 23, 3) := dk_153 0 23 (dk_at dksX4_passes_4 3 rfl rfl)
theorem dX4_passes_100 : decode cX4_passes 100 = .ok (.aload_n 0, 1) := dk_42 (dk_at dksX4_passes_4 6 rfl rfl)
theorem dX4_passes_101 : decode cX4_passes 101 = .ok (.getfield 39, 3) := dk_180 0 39 (dk_at dksX4_passes_4 7 rfl rfl)
theorem dX4_passes_104 : decode cX4_passes 104 = .ok (.bipush 11, 2) := dk_16 11 (dk_at dksX4_passes_4 10 rfl rfl)
theorem dX4_passes_106 : decode cX4_passes 106 = .ok (.iconst 5, 1) := dk_8 (dk_at dksX4_passes_4 12 rfl rfl)
theorem dX4_passes_107 : decode cX4_passes 107 = .ok (.iload_n 2, 1) := dk_28 (dk_at dksX4_passes_4 13 rfl rfl)
theorem dX4_passes_108 : decode cX4_passes 108 = .ok (.imul, 1) := dk_104 (dk_at dksX4_passes_4 14 rfl rfl)
theorem dX4_passes_109 : decode cX4_passes 109 = .ok (.iadd, 1) := dk_96 (dk_at dksX4_passes_4 15 rfl rfl)
theorem dX4_passes_110 : decode cX4_passes 110 = .ok (.iconst 4, 1) := dk_7 (dk_at dksX4_passes_4 16 rfl rfl)
theorem dX4_passes_111 : decode cX4_passes 111 = .ok (.iadd, 1) := dk_96 (dk_at dksX4_passes_4 17 rfl rfl)
theorem dX4_passes_112 : decode cX4_passes 112 = .ok (.aload_n 0, 1) := dk_42 (dk_at dksX4_passes_4 18 rfl rfl)
theorem dX4_passes_113 : decode cX4_passes 113 = .ok (.getfield 39, 3) := dk_180 0 39 (dk_at dksX4_passes_4 19 rfl rfl)
theorem dX4_passes_116 : decode cX4_passes 116 = .ok (.bipush 10, 2) := dk_16 10 (dk_at dksX4_passes_4 22 rfl rfl)
theorem dX4_passes_118 : decode cX4_passes 118 = .ok (.iaload, 1) := dk_46 (dk_at dksX4_passes_5 0 rfl rfl)
theorem dX4_passes_119 : decode cX4_passes 119 = .ok (.iastore, 1) := dk_79 (dk_at dksX4_passes_5 1 rfl rfl)
theorem dX4_passes_120 : decode cX4_passes 120 = .ok (.iinc 2 1, 3) := dk_132 2 1 (dk_at dksX4_passes_5 2 rfl rfl)
theorem dX4_passes_123 : decode cX4_passes 123 = .ok (.goto (-64), 3) := dk_167 255 192 (dk_at dksX4_passes_5 5 rfl rfl)
theorem dX4_passes_126 : decode cX4_passes 126 = .ok (.aload_n 0, 1) := dk_42 (dk_at dksX4_passes_5 8 rfl rfl)
theorem dX4_passes_127 : decode cX4_passes 127 = .ok (.invokevirtual 359, 3) := dk_182 1 103 (dk_at dksX4_passes_5 9 rfl rfl)
theorem dX4_passes_130 : decode cX4_passes 130 = .ok (.iconst 0, 1) := dk_3 (dk_at dksX4_passes_5 12 rfl rfl)
theorem dX4_passes_131 : decode cX4_passes 131 = .ok (.istore_n 2, 1) := dk_61 (dk_at dksX4_passes_5 13 rfl rfl)
theorem dX4_passes_132 : decode cX4_passes 132 = .ok (.iload_n 2, 1) := dk_28 (dk_at dksX4_passes_5 14 rfl rfl)
theorem dX4_passes_133 : decode cX4_passes 133 = .ok (.aload_n 0, 1) := dk_42 (dk_at dksX4_passes_5 15 rfl rfl)
theorem dX4_passes_134 : decode cX4_passes 134 = .ok (.getfield 39, 3) := dk_180 0 39 (dk_at dksX4_passes_5 16 rfl rfl)
theorem dX4_passes_137 : decode cX4_passes 137 = .ok (.iconst 3, 1) := dk_6 (dk_at dksX4_passes_5 19 rfl rfl)
theorem dX4_passes_138 : decode cX4_passes 138 = .ok (.iaload, 1) := dk_46 (dk_at dksX4_passes_5 20 rfl rfl)
theorem dX4_passes_139 : decode cX4_passes 139 = .ok (.if_icmp .ge 46, 3) := dk_162 0 46 (dk_at dksX4_passes_5 21 rfl rfl)
theorem dX4_passes_142 : decode cX4_passes 142 = .ok (.aload_n 0, 1) := dk_42 (dk_at dksX4_passes_6 0 rfl rfl)
theorem dX4_passes_143 : decode cX4_passes 143 = .ok (.iload_n 2, 1) := dk_28 (dk_at dksX4_passes_6 1 rfl rfl)
theorem dX4_passes_144 : decode cX4_passes 144 = .ok (.invokevirtual 318, 3) := dk_182 1 62 (dk_at dksX4_passes_6 2 rfl rfl)
theorem dX4_passes_147 : decode cX4_passes 147 = .ok (.aload_n 0, 1) := dk_42 (dk_at dksX4_passes_6 5 rfl rfl)
theorem dX4_passes_148 : decode cX4_passes 148 = .ok (.iload_n 2, 1) := dk_28 (dk_at dksX4_passes_6 6 rfl rfl)
theorem dX4_passes_149 : decode cX4_passes 149 = .ok (.invokevirtual 312, 3) := dk_182 1 56 (dk_at dksX4_passes_6 7 rfl rfl)
theorem dX4_passes_152 : decode cX4_passes 152 = .ok (.iadd, 1) := dk_96 (dk_at dksX4_passes_6 10 rfl rfl)
theorem dX4_passes_153 : decode cX4_passes 153 = .ok (.istore_n 3, 1) := dk_62 (dk_at dksX4_passes_6 11 rfl rfl)
theorem dX4_passes_154 : decode cX4_passes 154 = .ok (.aload_n 0, 1) := dk_42 (dk_at dksX4_passes_6 12 rfl rfl)
theorem dX4_passes_155 : decode cX4_passes 155 = .ok (.getfield 39, 3) := dk_180 0 39 (dk_at dksX4_passes_6 13 rfl rfl)
theorem dX4_passes_158 : decode cX4_passes 158 = .ok (.bipush 11, 2) := dk_16 11 (dk_at dksX4_passes_6 16 rfl rfl)
theorem dX4_passes_160 : decode cX4_passes 160 = .ok (.iconst 5, 1) := dk_8 (dk_at dksX4_passes_6 18 rfl rfl)
theorem dX4_passes_161 : decode cX4_passes 161 = .ok (.iload_n 2, 1) := dk_28 (dk_at dksX4_passes_6 19 rfl rfl)
theorem dX4_passes_162 : decode cX4_passes 162 = .ok (.imul, 1) := dk_104 (dk_at dksX4_passes_6 20 rfl rfl)
theorem dX4_passes_163 : decode cX4_passes 163 = .ok (.iadd, 1) := dk_96 (dk_at dksX4_passes_6 21 rfl rfl)
theorem dX4_passes_164 : decode cX4_passes 164 = .ok (.iconst 3, 1) := dk_6 (dk_at dksX4_passes_6 22 rfl rfl)
theorem dX4_passes_165 : decode cX4_passes 165 = .ok (.iadd, 1) := dk_96 (dk_at dksX4_passes_6 23 rfl rfl)
theorem dX4_passes_166 : decode cX4_passes 166 = .ok (.iload_n 3, 1) := dk_29 (dk_at dksX4_passes_7 0 rfl rfl)
theorem dX4_passes_167 : decode cX4_passes 167 = .ok (.ldc 178, 2) := dk_18 178 (dk_at dksX4_passes_7 1 rfl rfl)
theorem dX4_passes_169 : decode cX4_passes 169 = .ok (.if_icmp .le 8, 3) := dk_164 0 8 (dk_at dksX4_passes_7 3 rfl rfl)
theorem dX4_passes_172 : decode cX4_passes 172 = .ok (.ldc 178, 2) := dk_18 178 (dk_at dksX4_passes_7 6 rfl rfl)
theorem dX4_passes_174 : decode cX4_passes 174 = .ok (.goto 4, 3) := dk_167 0 4 (dk_at dksX4_passes_7 8 rfl rfl)
theorem dX4_passes_177 : decode cX4_passes 177 = .ok (.iload_n 3, 1) := dk_29 (dk_at dksX4_passes_7 11 rfl rfl)
theorem dX4_passes_178 : decode cX4_passes 178 = .ok (.iastore, 1) := dk_79 (dk_at dksX4_passes_7 12 rfl rfl)
theorem dX4_passes_179 : decode cX4_passes 179 = .ok (.iinc 2 1, 3) := dk_132 2 1 (dk_at dksX4_passes_7 13 rfl rfl)
theorem dX4_passes_182 : decode cX4_passes 182 = .ok (.goto (-50), 3) := dk_167 255 206 (dk_at dksX4_passes_7 16 rfl rfl)
theorem dX4_passes_185 : decode cX4_passes 185 = .ok (.aload_n 0, 1) := dk_42 (dk_at dksX4_passes_7 19 rfl rfl)
theorem dX4_passes_186 : decode cX4_passes 186 = .ok (.getfield 39, 3) := dk_180 0 39 (dk_at dksX4_passes_7 20 rfl rfl)
theorem dX4_passes_189 : decode cX4_passes 189 = .ok (.bipush 10, 2) := dk_16 10 (dk_at dksX4_passes_8 0 rfl rfl)
theorem dX4_passes_191 : decode cX4_passes 191 = .ok (.dup2, 1) := dk_92 (dk_at dksX4_passes_8 2 rfl rfl)
theorem dX4_passes_192 : decode cX4_passes 192 = .ok (.iaload, 1) := dk_46 (dk_at dksX4_passes_8 3 rfl rfl)
theorem dX4_passes_193 : decode cX4_passes 193 = .ok (.iconst 1, 1) := dk_4 (dk_at dksX4_passes_8 4 rfl rfl)
theorem dX4_passes_194 : decode cX4_passes 194 = .ok (.iadd, 1) := dk_96 (dk_at dksX4_passes_8 5 rfl rfl)
theorem dX4_passes_195 : decode cX4_passes 195 = .ok (.iastore, 1) := dk_79 (dk_at dksX4_passes_8 6 rfl rfl)
theorem dX4_passes_196 : decode cX4_passes 196 = .ok (.iload_n 1, 1) := dk_27 (dk_at dksX4_passes_8 7 rfl rfl)
theorem dX4_passes_197 : decode cX4_passes 197 = .ok (.ireturn, 1) := dk_172 (dk_at dksX4_passes_8 8 rfl rfl)
abbrev cX4_comes : ByteArray := prog_19_method_67_code
def yX4_comes : MethodName := ⟨RX4, "comes", "(II)V"⟩
def dkwX4_comes_1 : List UInt8 := [164, 0, 9, 17, 3, 231, 167, 0, 4, 29, 79, 177]
abbrev dktX4_comes_1 : List UInt8 := dkwX4_comes_1 ++ []
def dkwX4_comes_0 : List UInt8 := [42, 27, 182, 1, 56, 28, 96, 62, 42, 180, 0, 39, 16, 11, 8, 27, 104, 96, 29, 17, 3, 231]
abbrev dktX4_comes_0 : List UInt8 := dkwX4_comes_0 ++ dktX4_comes_1
theorem dksX4_comes_0 : cX4_comes.data.toList.drop 0 = dktX4_comes_0 := by decide +kernel
theorem dksX4_comes_1 : cX4_comes.data.toList.drop 22 = dktX4_comes_1 := dk_seg dksX4_comes_0 22 rfl rfl
theorem dX4_comes_0 : decode cX4_comes 0 = .ok (.aload_n 0, 1) := dk_42 (dk_at dksX4_comes_0 0 rfl rfl)
theorem dX4_comes_1 : decode cX4_comes 1 = .ok (.iload_n 1, 1) := dk_27 (dk_at dksX4_comes_0 1 rfl rfl)
theorem dX4_comes_2 : decode cX4_comes 2 = .ok (.invokevirtual 312, 3) := dk_182 1 56 (dk_at dksX4_comes_0 2 rfl rfl)
theorem dX4_comes_5 : decode cX4_comes 5 = .ok (.iload_n 2, 1) := dk_28 (dk_at dksX4_comes_0 5 rfl rfl)
theorem dX4_comes_6 : decode cX4_comes 6 = .ok (.iadd, 1) := dk_96 (dk_at dksX4_comes_0 6 rfl rfl)
theorem dX4_comes_7 : decode cX4_comes 7 = .ok (.istore_n 3, 1) := dk_62 (dk_at dksX4_comes_0 7 rfl rfl)
theorem dX4_comes_8 : decode cX4_comes 8 = .ok (.aload_n 0, 1) := dk_42 (dk_at dksX4_comes_0 8 rfl rfl)
theorem dX4_comes_9 : decode cX4_comes 9 = .ok (.getfield 39, 3) := dk_180 0 39 (dk_at dksX4_comes_0 9 rfl rfl)
theorem dX4_comes_12 : decode cX4_comes 12 = .ok (.bipush 11, 2) := dk_16 11 (dk_at dksX4_comes_0 12 rfl rfl)
theorem dX4_comes_14 : decode cX4_comes 14 = .ok (.iconst 5, 1) := dk_8 (dk_at dksX4_comes_0 14 rfl rfl)
theorem dX4_comes_15 : decode cX4_comes 15 = .ok (.iload_n 1, 1) := dk_27 (dk_at dksX4_comes_0 15 rfl rfl)
theorem dX4_comes_16 : decode cX4_comes 16 = .ok (.imul, 1) := dk_104 (dk_at dksX4_comes_0 16 rfl rfl)
theorem dX4_comes_17 : decode cX4_comes 17 = .ok (.iadd, 1) := dk_96 (dk_at dksX4_comes_0 17 rfl rfl)
theorem dX4_comes_18 : decode cX4_comes 18 = .ok (.iload_n 3, 1) := dk_29 (dk_at dksX4_comes_0 18 rfl rfl)
theorem dX4_comes_19 : decode cX4_comes 19 = .ok (.sipush 999, 3) := dk_17 3 231 (dk_at dksX4_comes_0 19 rfl rfl)
theorem dX4_comes_22 : decode cX4_comes 22 = .ok (.if_icmp .le 9, 3) := dk_164 0 9 (dk_at dksX4_comes_1 0 rfl rfl)
theorem dX4_comes_25 : decode cX4_comes 25 = .ok (.sipush 999, 3) := dk_17 3 231 (dk_at dksX4_comes_1 3 rfl rfl)
theorem dX4_comes_28 : decode cX4_comes 28 = .ok (.goto 4, 3) := dk_167 0 4 (dk_at dksX4_comes_1 6 rfl rfl)
theorem dX4_comes_31 : decode cX4_comes 31 = .ok (.iload_n 3, 1) := dk_29 (dk_at dksX4_comes_1 9 rfl rfl)
theorem dX4_comes_32 : decode cX4_comes 32 = .ok (.iastore, 1) := dk_79 (dk_at dksX4_comes_1 10 rfl rfl)
theorem dX4_comes_33 : decode cX4_comes 33 = .ok (.return_, 1) := dk_177 (dk_at dksX4_comes_1 11 rfl rfl)
abbrev cX4_letIn : ByteArray := prog_19_method_66_code
def yX4_letIn : MethodName := ⟨RX4, "letIn", "()I"⟩
def dkwX4_letIn_2 : List UInt8 := [153, 0, 9, 27, 4, 28, 120, 128, 60, 132, 2, 1, 167, 255, 214, 27, 172]
abbrev dktX4_letIn_2 : List UInt8 := dkwX4_letIn_2 ++ []
def dkwX4_letIn_1 : List UInt8 := [162, 0, 38, 42, 180, 0, 39, 16, 72, 28, 96, 46, 27, 126, 154, 0, 18, 42, 28, 27, 182, 1, 91]
abbrev dktX4_letIn_1 : List UInt8 := dkwX4_letIn_1 ++ dktX4_letIn_2
def dkwX4_letIn_0 : List UInt8 := [42, 180, 0, 49, 155, 0, 8, 42, 180, 0, 49, 172, 3, 60, 3, 61, 28, 42, 180, 0, 39, 6, 46]
abbrev dktX4_letIn_0 : List UInt8 := dkwX4_letIn_0 ++ dktX4_letIn_1
theorem dksX4_letIn_0 : cX4_letIn.data.toList.drop 0 = dktX4_letIn_0 := by decide +kernel
theorem dksX4_letIn_1 : cX4_letIn.data.toList.drop 23 = dktX4_letIn_1 := dk_seg dksX4_letIn_0 23 rfl rfl
theorem dksX4_letIn_2 : cX4_letIn.data.toList.drop 46 = dktX4_letIn_2 := dk_seg dksX4_letIn_1 23 rfl rfl
theorem dX4_letIn_0 : decode cX4_letIn 0 = .ok (.aload_n 0, 1) := dk_42 (dk_at dksX4_letIn_0 0 rfl rfl)
theorem dX4_letIn_1 : decode cX4_letIn 1 = .ok (.getfield 49, 3) := dk_180 0 49 (dk_at dksX4_letIn_0 1 rfl rfl)
theorem dX4_letIn_4 : decode cX4_letIn 4 = .ok (.ifCond .lt 8, 3) := dk_155 0 8 (dk_at dksX4_letIn_0 4 rfl rfl)
theorem dX4_letIn_7 : decode cX4_letIn 7 = .ok (.aload_n 0, 1) := dk_42 (dk_at dksX4_letIn_0 7 rfl rfl)
theorem dX4_letIn_8 : decode cX4_letIn 8 = .ok (.getfield 49, 3) := dk_180 0 49 (dk_at dksX4_letIn_0 8 rfl rfl)
theorem dX4_letIn_11 : decode cX4_letIn 11 = .ok (.ireturn, 1) := dk_172 (dk_at dksX4_letIn_0 11 rfl rfl)
theorem dX4_letIn_12 : decode cX4_letIn 12 = .ok (.iconst 0, 1) := dk_3 (dk_at dksX4_letIn_0 12 rfl rfl)
theorem dX4_letIn_13 : decode cX4_letIn 13 = .ok (.istore_n 1, 1) := dk_60 (dk_at dksX4_letIn_0 13 rfl rfl)
theorem dX4_letIn_14 : decode cX4_letIn 14 = .ok (.iconst 0, 1) := dk_3 (dk_at dksX4_letIn_0 14 rfl rfl)
theorem dX4_letIn_15 : decode cX4_letIn 15 = .ok (.istore_n 2, 1) := dk_61 (dk_at dksX4_letIn_0 15 rfl rfl)
theorem dX4_letIn_16 : decode cX4_letIn 16 = .ok (.iload_n 2, 1) := dk_28 (dk_at dksX4_letIn_0 16 rfl rfl)
theorem dX4_letIn_17 : decode cX4_letIn 17 = .ok (.aload_n 0, 1) := dk_42 (dk_at dksX4_letIn_0 17 rfl rfl)
theorem dX4_letIn_18 : decode cX4_letIn 18 = .ok (.getfield 39, 3) := dk_180 0 39 (dk_at dksX4_letIn_0 18 rfl rfl)
theorem dX4_letIn_21 : decode cX4_letIn 21 = .ok (.iconst 3, 1) := dk_6 (dk_at dksX4_letIn_0 21 rfl rfl)
theorem dX4_letIn_22 : decode cX4_letIn 22 = .ok (.iaload, 1) := dk_46 (dk_at dksX4_letIn_0 22 rfl rfl)
theorem dX4_letIn_23 : decode cX4_letIn 23 = .ok (.if_icmp .ge 38, 3) := dk_162 0 38 (dk_at dksX4_letIn_1 0 rfl rfl)
theorem dX4_letIn_26 : decode cX4_letIn 26 = .ok (.aload_n 0, 1) := dk_42 (dk_at dksX4_letIn_1 3 rfl rfl)
theorem dX4_letIn_27 : decode cX4_letIn 27 = .ok (.getfield 39, 3) := dk_180 0 39 (dk_at dksX4_letIn_1 4 rfl rfl)
theorem dX4_letIn_30 : decode cX4_letIn 30 = .ok (.bipush 72, 2) := dk_16 72 (dk_at dksX4_letIn_1 7 rfl rfl)
theorem dX4_letIn_32 : decode cX4_letIn 32 = .ok (.iload_n 2, 1) := dk_28 (dk_at dksX4_letIn_1 9 rfl rfl)
theorem dX4_letIn_33 : decode cX4_letIn 33 = .ok (.iadd, 1) := dk_96 (dk_at dksX4_letIn_1 10 rfl rfl)
theorem dX4_letIn_34 : decode cX4_letIn 34 = .ok (.iaload, 1) := dk_46 (dk_at dksX4_letIn_1 11 rfl rfl)
theorem dX4_letIn_35 : decode cX4_letIn 35 = .ok (.iload_n 1, 1) := dk_27 (dk_at dksX4_letIn_1 12 rfl rfl)
theorem dX4_letIn_36 : decode cX4_letIn 36 = .ok (.iand, 1) := dk_126 (dk_at dksX4_letIn_1 13 rfl rfl)
theorem dX4_letIn_37 : decode cX4_letIn 37 = .ok (.ifCond .ne 18, 3) := dk_154 0 18 (dk_at dksX4_letIn_1 14 rfl rfl)
theorem dX4_letIn_40 : decode cX4_letIn 40 = .ok (.aload_n 0, 1) := dk_42 (dk_at dksX4_letIn_1 17 rfl rfl)
theorem dX4_letIn_41 : decode cX4_letIn 41 = .ok (.iload_n 2, 1) := dk_28 (dk_at dksX4_letIn_1 18 rfl rfl)
theorem dX4_letIn_42 : decode cX4_letIn 42 = .ok (.iload_n 1, 1) := dk_27 (dk_at dksX4_letIn_1 19 rfl rfl)
theorem dX4_letIn_43 : decode cX4_letIn 43 = .ok (.invokevirtual 347, 3) := dk_182 1 91 (dk_at dksX4_letIn_1 20 rfl rfl)
theorem dX4_letIn_46 : decode cX4_letIn 46 = .ok (.ifCond .eq 9, 3) := dk_153 0 9 (dk_at dksX4_letIn_2 0 rfl rfl)
theorem dX4_letIn_49 : decode cX4_letIn 49 = .ok (.iload_n 1, 1) := dk_27 (dk_at dksX4_letIn_2 3 rfl rfl)
theorem dX4_letIn_50 : decode cX4_letIn 50 = .ok (.iconst 1, 1) := dk_4 (dk_at dksX4_letIn_2 4 rfl rfl)
theorem dX4_letIn_51 : decode cX4_letIn 51 = .ok (.iload_n 2, 1) := dk_28 (dk_at dksX4_letIn_2 5 rfl rfl)
theorem dX4_letIn_52 : decode cX4_letIn 52 = .ok (.ishl, 1) := dk_120 (dk_at dksX4_letIn_2 6 rfl rfl)
theorem dX4_letIn_53 : decode cX4_letIn 53 = .ok (.ior, 1) := dk_128 (dk_at dksX4_letIn_2 7 rfl rfl)
theorem dX4_letIn_54 : decode cX4_letIn 54 = .ok (.istore_n 1, 1) := dk_60 (dk_at dksX4_letIn_2 8 rfl rfl)
theorem dX4_letIn_55 : decode cX4_letIn 55 = .ok (.iinc 2 1, 3) := dk_132 2 1 (dk_at dksX4_letIn_2 9 rfl rfl)
theorem dX4_letIn_58 : decode cX4_letIn 58 = .ok (.goto (-42), 3) := dk_167 255 214 (dk_at dksX4_letIn_2 12 rfl rfl)
theorem dX4_letIn_61 : decode cX4_letIn 61 = .ok (.iload_n 1, 1) := dk_27 (dk_at dksX4_letIn_2 15 rfl rfl)
theorem dX4_letIn_62 : decode cX4_letIn 62 = .ok (.ireturn, 1) := dk_172 (dk_at dksX4_letIn_2 16 rfl rfl)
abbrev cX4_isLetBy : ByteArray := prog_19_method_65_code
def yX4_isLetBy : MethodName := ⟨RX4, "isLetBy", "(II)Z"⟩
def dkwX4_isLetBy_9 : List UInt8 := [167, 0, 4, 3, 172]
abbrev dktX4_isLetBy_9 : List UInt8 := dkwX4_isLetBy_9 ++ []
def dkwX4_isLetBy_8 : List UInt8 := [42, 180, 0, 39, 4, 46, 108, 133, 80, 42, 42, 180, 0, 42, 182, 1, 87, 9, 148, 158, 0, 7, 4]
abbrev dktX4_isLetBy_8 : List UInt8 := dkwX4_isLetBy_8 ++ dktX4_isLetBy_9
def dkwX4_isLetBy_7 : List UInt8 := [180, 0, 36, 16, 10, 42, 182, 1, 75, 133, 80, 42, 180, 0, 36, 16, 11, 42, 180, 0, 39, 16, 10, 46]
abbrev dktX4_isLetBy_7 : List UInt8 := dkwX4_isLetBy_7 ++ dktX4_isLetBy_8
def dkwX4_isLetBy_6 : List UInt8 := [16, 8, 42, 27, 182, 1, 59, 133, 80, 42, 180, 0, 36, 16, 9, 42, 3, 182, 1, 84, 133, 80, 42]
abbrev dktX4_isLetBy_6 : List UInt8 := dkwX4_isLetBy_6 ++ dktX4_isLetBy_7
def dkwX4_isLetBy_5 : List UInt8 := [182, 1, 81, 100, 133, 80, 42, 180, 0, 36, 16, 7, 42, 27, 182, 1, 65, 133, 80, 42, 180, 0, 36]
abbrev dktX4_isLetBy_5 : List UInt8 := dkwX4_isLetBy_5 ++ dktX4_isLetBy_6
def dkwX4_isLetBy_4 : List UInt8 := [8, 28, 184, 1, 78, 133, 80, 42, 180, 0, 36, 16, 6, 42, 28, 4, 27, 120, 128, 182, 1, 81, 42, 28]
abbrev dktX4_isLetBy_4 : List UInt8 := dkwX4_isLetBy_4 ++ dktX4_isLetBy_5
def dkwX4_isLetBy_3 : List UInt8 := [182, 1, 44, 133, 80, 42, 180, 0, 36, 7, 29, 153, 0, 7, 10, 167, 0, 4, 9, 80, 42, 180, 0, 36]
abbrev dktX4_isLetBy_3 : List UInt8 := dkwX4_isLetBy_3 ++ dktX4_isLetBy_4
def dkwX4_isLetBy_2 : List UInt8 := [180, 0, 36, 5, 42, 180, 0, 39, 16, 54, 27, 96, 46, 133, 80, 42, 180, 0, 36, 6, 42, 27]
abbrev dktX4_isLetBy_2 : List UInt8 := dkwX4_isLetBy_2 ++ dktX4_isLetBy_3
def dkwX4_isLetBy_1 : List UInt8 := [29, 172, 42, 180, 0, 36, 3, 27, 133, 80, 42, 180, 0, 36, 4, 42, 27, 182, 1, 56, 133, 80, 42]
abbrev dktX4_isLetBy_1 : List UInt8 := dkwX4_isLetBy_1 ++ dktX4_isLetBy_2
def dkwX4_isLetBy_0 : List UInt8 := [42, 180, 0, 39, 16, 41, 42, 182, 1, 75, 96, 46, 27, 184, 1, 41, 62, 42, 180, 0, 42, 156, 0, 5]
abbrev dktX4_isLetBy_0 : List UInt8 := dkwX4_isLetBy_0 ++ dktX4_isLetBy_1
theorem dksX4_isLetBy_0 : cX4_isLetBy.data.toList.drop 0 = dktX4_isLetBy_0 := by decide +kernel
theorem dksX4_isLetBy_1 : cX4_isLetBy.data.toList.drop 24 = dktX4_isLetBy_1 := dk_seg dksX4_isLetBy_0 24 rfl rfl
theorem dksX4_isLetBy_2 : cX4_isLetBy.data.toList.drop 47 = dktX4_isLetBy_2 := dk_seg dksX4_isLetBy_1 23 rfl rfl
theorem dksX4_isLetBy_3 : cX4_isLetBy.data.toList.drop 69 = dktX4_isLetBy_3 := dk_seg dksX4_isLetBy_2 22 rfl rfl
theorem dksX4_isLetBy_4 : cX4_isLetBy.data.toList.drop 93 = dktX4_isLetBy_4 := dk_seg dksX4_isLetBy_3 24 rfl rfl
theorem dksX4_isLetBy_5 : cX4_isLetBy.data.toList.drop 117 = dktX4_isLetBy_5 := dk_seg dksX4_isLetBy_4 24 rfl rfl
theorem dksX4_isLetBy_6 : cX4_isLetBy.data.toList.drop 140 = dktX4_isLetBy_6 := dk_seg dksX4_isLetBy_5 23 rfl rfl
theorem dksX4_isLetBy_7 : cX4_isLetBy.data.toList.drop 163 = dktX4_isLetBy_7 := dk_seg dksX4_isLetBy_6 23 rfl rfl
theorem dksX4_isLetBy_8 : cX4_isLetBy.data.toList.drop 187 = dktX4_isLetBy_8 := dk_seg dksX4_isLetBy_7 24 rfl rfl
theorem dksX4_isLetBy_9 : cX4_isLetBy.data.toList.drop 210 = dktX4_isLetBy_9 := dk_seg dksX4_isLetBy_8 23 rfl rfl
theorem dX4_isLetBy_0 : decode cX4_isLetBy 0 = .ok (.aload_n 0, 1) := dk_42 (dk_at dksX4_isLetBy_0 0 rfl rfl)
theorem dX4_isLetBy_1 : decode cX4_isLetBy 1 = .ok (.getfield 39, 3) := dk_180 0 39 (dk_at dksX4_isLetBy_0 1 rfl rfl)
theorem dX4_isLetBy_4 : decode cX4_isLetBy 4 = .ok (.bipush 41, 2) := dk_16 41 (dk_at dksX4_isLetBy_0 4 rfl rfl)
theorem dX4_isLetBy_6 : decode cX4_isLetBy 6 = .ok (.aload_n 0, 1) := dk_42 (dk_at dksX4_isLetBy_0 6 rfl rfl)
theorem dX4_isLetBy_7 : decode cX4_isLetBy 7 = .ok (.invokevirtual 331, 3) := dk_182 1 75 (dk_at dksX4_isLetBy_0 7 rfl rfl)
theorem dX4_isLetBy_10 : decode cX4_isLetBy 10 = .ok (.iadd, 1) := dk_96 (dk_at dksX4_isLetBy_0 10 rfl rfl)
theorem dX4_isLetBy_11 : decode cX4_isLetBy 11 = .ok (.iaload, 1) := dk_46 (dk_at dksX4_isLetBy_0 11 rfl rfl)
theorem dX4_isLetBy_12 : decode cX4_isLetBy 12 = .ok (.iload_n 1, 1) := dk_27 (dk_at dksX4_isLetBy_0 12 rfl rfl)
theorem dX4_isLetBy_13 : decode cX4_isLetBy 13 = .ok (.invokestatic 297, 3) := dk_184 1 41 (dk_at dksX4_isLetBy_0 13 rfl rfl)
theorem dX4_isLetBy_16 : decode cX4_isLetBy 16 = .ok (.istore_n 3, 1) := dk_62 (dk_at dksX4_isLetBy_0 16 rfl rfl)
theorem dX4_isLetBy_17 : decode cX4_isLetBy 17 = .ok (.aload_n 0, 1) := dk_42 (dk_at dksX4_isLetBy_0 17 rfl rfl)
theorem dX4_isLetBy_18 : decode cX4_isLetBy 18 = .ok (.getfield 42, 3) := dk_180 0 42 (dk_at dksX4_isLetBy_0 18 rfl rfl)
theorem dX4_isLetBy_21 : decode cX4_isLetBy 21 = .ok (.ifCond .ge 5, 3) := dk_156 0 5 (dk_at dksX4_isLetBy_0 21 rfl rfl)
theorem dX4_isLetBy_24 : decode cX4_isLetBy 24 = .ok (.iload_n 3, 1) := dk_29 (dk_at dksX4_isLetBy_1 0 rfl rfl)
theorem dX4_isLetBy_25 : decode cX4_isLetBy 25 = .ok (.ireturn, 1) := dk_172 (dk_at dksX4_isLetBy_1 1 rfl rfl)
theorem dX4_isLetBy_26 : decode cX4_isLetBy 26 = .ok (.aload_n 0, 1) := dk_42 (dk_at dksX4_isLetBy_1 2 rfl rfl)
theorem dX4_isLetBy_27 : decode cX4_isLetBy 27 = .ok (.getfield 36, 3) := dk_180 0 36 (dk_at dksX4_isLetBy_1 3 rfl rfl)
theorem dX4_isLetBy_30 : decode cX4_isLetBy 30 = .ok (.iconst 0, 1) := dk_3 (dk_at dksX4_isLetBy_1 6 rfl rfl)
theorem dX4_isLetBy_31 : decode cX4_isLetBy 31 = .ok (.iload_n 1, 1) := dk_27 (dk_at dksX4_isLetBy_1 7 rfl rfl)
theorem dX4_isLetBy_32 : decode cX4_isLetBy 32 = .ok (.i2l, 1) := dk_133 (dk_at dksX4_isLetBy_1 8 rfl rfl)
theorem dX4_isLetBy_33 : decode cX4_isLetBy 33 = .ok (.lastore, 1) := dk_80 (dk_at dksX4_isLetBy_1 9 rfl rfl)
theorem dX4_isLetBy_34 : decode cX4_isLetBy 34 = .ok (.aload_n 0, 1) := dk_42 (dk_at dksX4_isLetBy_1 10 rfl rfl)
theorem dX4_isLetBy_35 : decode cX4_isLetBy 35 = .ok (.getfield 36, 3) := dk_180 0 36 (dk_at dksX4_isLetBy_1 11 rfl rfl)
theorem dX4_isLetBy_38 : decode cX4_isLetBy 38 = .ok (.iconst 1, 1) := dk_4 (dk_at dksX4_isLetBy_1 14 rfl rfl)
theorem dX4_isLetBy_39 : decode cX4_isLetBy 39 = .ok (.aload_n 0, 1) := dk_42 (dk_at dksX4_isLetBy_1 15 rfl rfl)
theorem dX4_isLetBy_40 : decode cX4_isLetBy 40 = .ok (.iload_n 1, 1) := dk_27 (dk_at dksX4_isLetBy_1 16 rfl rfl)
theorem dX4_isLetBy_41 : decode cX4_isLetBy 41 = .ok (.invokevirtual 312, 3) := dk_182 1 56 (dk_at dksX4_isLetBy_1 17 rfl rfl)
theorem dX4_isLetBy_44 : decode cX4_isLetBy 44 = .ok (.i2l, 1) := dk_133 (dk_at dksX4_isLetBy_1 20 rfl rfl)
theorem dX4_isLetBy_45 : decode cX4_isLetBy 45 = .ok (.lastore, 1) := dk_80 (dk_at dksX4_isLetBy_1 21 rfl rfl)
theorem dX4_isLetBy_46 : decode cX4_isLetBy 46 = .ok (.aload_n 0, 1) := dk_42 (dk_at dksX4_isLetBy_1 22 rfl rfl)
theorem dX4_isLetBy_47 : decode cX4_isLetBy 47 = .ok (.getfield 36, 3) := dk_180 0 36 (dk_at dksX4_isLetBy_2 0 rfl rfl)
theorem dX4_isLetBy_50 : decode cX4_isLetBy 50 = .ok (.iconst 2, 1) := dk_5 (dk_at dksX4_isLetBy_2 3 rfl rfl)
theorem dX4_isLetBy_51 : decode cX4_isLetBy 51 = .ok (.aload_n 0, 1) := dk_42 (dk_at dksX4_isLetBy_2 4 rfl rfl)
theorem dX4_isLetBy_52 : decode cX4_isLetBy 52 = .ok (.getfield 39, 3) := dk_180 0 39 (dk_at dksX4_isLetBy_2 5 rfl rfl)
theorem dX4_isLetBy_55 : decode cX4_isLetBy 55 = .ok (.bipush 54, 2) := dk_16 54 (dk_at dksX4_isLetBy_2 8 rfl rfl)
theorem dX4_isLetBy_57 : decode cX4_isLetBy 57 = .ok (.iload_n 1, 1) := dk_27 (dk_at dksX4_isLetBy_2 10 rfl rfl)
theorem dX4_isLetBy_58 : decode cX4_isLetBy 58 = .ok (.iadd, 1) := dk_96 (dk_at dksX4_isLetBy_2 11 rfl rfl)
theorem dX4_isLetBy_59 : decode cX4_isLetBy 59 = .ok (.iaload, 1) := dk_46 (dk_at dksX4_isLetBy_2 12 rfl rfl)
theorem dX4_isLetBy_60 : decode cX4_isLetBy 60 = .ok (.i2l, 1) := dk_133 (dk_at dksX4_isLetBy_2 13 rfl rfl)
theorem dX4_isLetBy_61 : decode cX4_isLetBy 61 = .ok (.lastore, 1) := dk_80 (dk_at dksX4_isLetBy_2 14 rfl rfl)
theorem dX4_isLetBy_62 : decode cX4_isLetBy 62 = .ok (.aload_n 0, 1) := dk_42 (dk_at dksX4_isLetBy_2 15 rfl rfl)
theorem dX4_isLetBy_63 : decode cX4_isLetBy 63 = .ok (.getfield 36, 3) := dk_180 0 36 (dk_at dksX4_isLetBy_2 16 rfl rfl)
theorem dX4_isLetBy_66 : decode cX4_isLetBy 66 = .ok (.iconst 3, 1) := dk_6 (dk_at dksX4_isLetBy_2 19 rfl rfl)
theorem dX4_isLetBy_67 : decode cX4_isLetBy 67 = .ok (.aload_n 0, 1) := dk_42 (dk_at dksX4_isLetBy_2 20 rfl rfl)
theorem dX4_isLetBy_68 : decode cX4_isLetBy 68 = .ok (.iload_n 1, 1) := dk_27 (dk_at dksX4_isLetBy_2 21 rfl rfl)
theorem dX4_isLetBy_69 : decode cX4_isLetBy 69 = .ok (.invokevirtual 300, 3) := dk_182 1 44 (dk_at dksX4_isLetBy_3 0 rfl rfl)
theorem dX4_isLetBy_72 : decode cX4_isLetBy 72 = .ok (.i2l, 1) := dk_133 (dk_at dksX4_isLetBy_3 3 rfl rfl)
theorem dX4_isLetBy_73 : decode cX4_isLetBy 73 = .ok (.lastore, 1) := dk_80 (dk_at dksX4_isLetBy_3 4 rfl rfl)
theorem dX4_isLetBy_74 : decode cX4_isLetBy 74 = .ok (.aload_n 0, 1) := dk_42 (dk_at dksX4_isLetBy_3 5 rfl rfl)
theorem dX4_isLetBy_75 : decode cX4_isLetBy 75 = .ok (.getfield 36, 3) := dk_180 0 36 (dk_at dksX4_isLetBy_3 6 rfl rfl)
theorem dX4_isLetBy_78 : decode cX4_isLetBy 78 = .ok (.iconst 4, 1) := dk_7 (dk_at dksX4_isLetBy_3 9 rfl rfl)
theorem dX4_isLetBy_79 : decode cX4_isLetBy 79 = .ok (.iload_n 3, 1) := dk_29 (dk_at dksX4_isLetBy_3 10 rfl rfl)
theorem dX4_isLetBy_80 : decode cX4_isLetBy 80 = .ok (.ifCond .eq 7, 3) := dk_153 0 7 (dk_at dksX4_isLetBy_3 11 rfl rfl)
theorem dX4_isLetBy_83 : decode cX4_isLetBy 83 = .ok (.lconst 1, 1) := dk_10 (dk_at dksX4_isLetBy_3 14 rfl rfl)
theorem dX4_isLetBy_84 : decode cX4_isLetBy 84 = .ok (.goto 4, 3) := dk_167 0 4 (dk_at dksX4_isLetBy_3 15 rfl rfl)
theorem dX4_isLetBy_87 : decode cX4_isLetBy 87 = .ok (.lconst 0, 1) := dk_9 (dk_at dksX4_isLetBy_3 18 rfl rfl)
theorem dX4_isLetBy_88 : decode cX4_isLetBy 88 = .ok (.lastore, 1) := dk_80 (dk_at dksX4_isLetBy_3 19 rfl rfl)
theorem dX4_isLetBy_89 : decode cX4_isLetBy 89 = .ok (.aload_n 0, 1) := dk_42 (dk_at dksX4_isLetBy_3 20 rfl rfl)
theorem dX4_isLetBy_90 : decode cX4_isLetBy 90 = .ok (.getfield 36, 3) := dk_180 0 36 (dk_at dksX4_isLetBy_3 21 rfl rfl)
theorem dX4_isLetBy_93 : decode cX4_isLetBy 93 = .ok (.iconst 5, 1) := dk_8 (dk_at dksX4_isLetBy_4 0 rfl rfl)
theorem dX4_isLetBy_94 : decode cX4_isLetBy 94 = .ok (.iload_n 2, 1) := dk_28 (dk_at dksX4_isLetBy_4 1 rfl rfl)
theorem dX4_isLetBy_95 : decode cX4_isLetBy 95 = .ok (.invokestatic 334, 3) := dk_184 1 78 (dk_at dksX4_isLetBy_4 2 rfl rfl)
theorem dX4_isLetBy_98 : decode cX4_isLetBy 98 = .ok (.i2l, 1) := dk_133 (dk_at dksX4_isLetBy_4 5 rfl rfl)
theorem dX4_isLetBy_99 : decode cX4_isLetBy 99 = .ok (.lastore, 1) := dk_80 (dk_at dksX4_isLetBy_4 6 rfl rfl)
theorem dX4_isLetBy_100 : decode cX4_isLetBy 100 = .ok (.aload_n 0, 1) := dk_42 (dk_at dksX4_isLetBy_4 7 rfl rfl)
theorem dX4_isLetBy_101 : decode cX4_isLetBy 101 = .ok (.getfield 36, 3) := dk_180 0 36 (dk_at dksX4_isLetBy_4 8 rfl rfl)
theorem dX4_isLetBy_104 : decode cX4_isLetBy 104 = .ok (.bipush 6, 2) := dk_16 6 (dk_at dksX4_isLetBy_4 11 rfl rfl)
theorem dX4_isLetBy_106 : decode cX4_isLetBy 106 = .ok (.aload_n 0, 1) := dk_42 (dk_at dksX4_isLetBy_4 13 rfl rfl)
theorem dX4_isLetBy_107 : decode cX4_isLetBy 107 = .ok (.iload_n 2, 1) := dk_28 (dk_at dksX4_isLetBy_4 14 rfl rfl)
theorem dX4_isLetBy_108 : decode cX4_isLetBy 108 = .ok (.iconst 1, 1) := dk_4 (dk_at dksX4_isLetBy_4 15 rfl rfl)
theorem dX4_isLetBy_109 : decode cX4_isLetBy 109 = .ok (.iload_n 1, 1) := dk_27 (dk_at dksX4_isLetBy_4 16 rfl rfl)
theorem dX4_isLetBy_110 : decode cX4_isLetBy 110 = .ok (.ishl, 1) := dk_120 (dk_at dksX4_isLetBy_4 17 rfl rfl)
theorem dX4_isLetBy_111 : decode cX4_isLetBy 111 = .ok (.ior, 1) := dk_128 (dk_at dksX4_isLetBy_4 18 rfl rfl)
theorem dX4_isLetBy_112 : decode cX4_isLetBy 112 = .ok (.invokevirtual 337, 3) := dk_182 1 81 (dk_at dksX4_isLetBy_4 19 rfl rfl)
theorem dX4_isLetBy_115 : decode cX4_isLetBy 115 = .ok (.aload_n 0, 1) := dk_42 (dk_at dksX4_isLetBy_4 22 rfl rfl)
theorem dX4_isLetBy_116 : decode cX4_isLetBy 116 = .ok (.iload_n 2, 1) := dk_28 (dk_at dksX4_isLetBy_4 23 rfl rfl)
theorem dX4_isLetBy_117 : decode cX4_isLetBy 117 = .ok (.invokevirtual 337, 3) := dk_182 1 81 (dk_at dksX4_isLetBy_5 0 rfl rfl)
theorem dX4_isLetBy_120 : decode cX4_isLetBy 120 = .ok (.isub, 1) := dk_100 (dk_at dksX4_isLetBy_5 3 rfl rfl)
theorem dX4_isLetBy_121 : decode cX4_isLetBy 121 = .ok (.i2l, 1) := dk_133 (dk_at dksX4_isLetBy_5 4 rfl rfl)
theorem dX4_isLetBy_122 : decode cX4_isLetBy 122 = .ok (.lastore, 1) := dk_80 (dk_at dksX4_isLetBy_5 5 rfl rfl)
theorem dX4_isLetBy_123 : decode cX4_isLetBy 123 = .ok (.aload_n 0, 1) := dk_42 (dk_at dksX4_isLetBy_5 6 rfl rfl)
theorem dX4_isLetBy_124 : decode cX4_isLetBy 124 = .ok (.getfield 36, 3) := dk_180 0 36 (dk_at dksX4_isLetBy_5 7 rfl rfl)
theorem dX4_isLetBy_127 : decode cX4_isLetBy 127 = .ok (.bipush 7, 2) := dk_16 7 (dk_at dksX4_isLetBy_5 10 rfl rfl)
theorem dX4_isLetBy_129 : decode cX4_isLetBy 129 = .ok (.aload_n 0, 1) := dk_42 (dk_at dksX4_isLetBy_5 12 rfl rfl)
theorem dX4_isLetBy_130 : decode cX4_isLetBy 130 = .ok (.iload_n 1, 1) := dk_27 (dk_at dksX4_isLetBy_5 13 rfl rfl)
theorem dX4_isLetBy_131 : decode cX4_isLetBy 131 = .ok (.invokevirtual 321, 3) := dk_182 1 65 (dk_at dksX4_isLetBy_5 14 rfl rfl)
theorem dX4_isLetBy_134 : decode cX4_isLetBy 134 = .ok (.i2l, 1) := dk_133 (dk_at dksX4_isLetBy_5 17 rfl rfl)
theorem dX4_isLetBy_135 : decode cX4_isLetBy 135 = .ok (.lastore, 1) := dk_80 (dk_at dksX4_isLetBy_5 18 rfl rfl)
theorem dX4_isLetBy_136 : decode cX4_isLetBy 136 = .ok (.aload_n 0, 1) := dk_42 (dk_at dksX4_isLetBy_5 19 rfl rfl)
theorem dX4_isLetBy_137 : decode cX4_isLetBy 137 = .ok (.getfield 36, 3) := dk_180 0 36 (dk_at dksX4_isLetBy_5 20 rfl rfl)
theorem dX4_isLetBy_140 : decode cX4_isLetBy 140 = .ok (.bipush 8, 2) := dk_16 8 (dk_at dksX4_isLetBy_6 0 rfl rfl)
theorem dX4_isLetBy_142 : decode cX4_isLetBy 142 = .ok (.aload_n 0, 1) := dk_42 (dk_at dksX4_isLetBy_6 2 rfl rfl)
theorem dX4_isLetBy_143 : decode cX4_isLetBy 143 = .ok (.iload_n 1, 1) := dk_27 (dk_at dksX4_isLetBy_6 3 rfl rfl)
theorem dX4_isLetBy_144 : decode cX4_isLetBy 144 = .ok (.invokevirtual 315, 3) := dk_182 1 59 (dk_at dksX4_isLetBy_6 4 rfl rfl)
theorem dX4_isLetBy_147 : decode cX4_isLetBy 147 = .ok (.i2l, 1) := dk_133 (dk_at dksX4_isLetBy_6 7 rfl rfl)
theorem dX4_isLetBy_148 : decode cX4_isLetBy 148 = .ok (.lastore, 1) := dk_80 (dk_at dksX4_isLetBy_6 8 rfl rfl)
theorem dX4_isLetBy_149 : decode cX4_isLetBy 149 = .ok (.aload_n 0, 1) := dk_42 (dk_at dksX4_isLetBy_6 9 rfl rfl)
theorem dX4_isLetBy_150 : decode cX4_isLetBy 150 = .ok (.getfield 36, 3) := dk_180 0 36 (dk_at dksX4_isLetBy_6 10 rfl rfl)
theorem dX4_isLetBy_153 : decode cX4_isLetBy 153 = .ok (.bipush 9, 2) := dk_16 9 (dk_at dksX4_isLetBy_6 13 rfl rfl)
theorem dX4_isLetBy_155 : decode cX4_isLetBy 155 = .ok (.aload_n 0, 1) := dk_42 (dk_at dksX4_isLetBy_6 15 rfl rfl)
theorem dX4_isLetBy_156 : decode cX4_isLetBy 156 = .ok (.iconst 0, 1) := dk_3 (dk_at dksX4_isLetBy_6 16 rfl rfl)
theorem dX4_isLetBy_157 : decode cX4_isLetBy 157 = .ok (.invokevirtual 340, 3) := dk_182 1 84 (dk_at dksX4_isLetBy_6 17 rfl rfl)
theorem dX4_isLetBy_160 : decode cX4_isLetBy 160 = .ok (.i2l, 1) := dk_133 (dk_at dksX4_isLetBy_6 20 rfl rfl)
theorem dX4_isLetBy_161 : decode cX4_isLetBy 161 = .ok (.lastore, 1) := dk_80 (dk_at dksX4_isLetBy_6 21 rfl rfl)
theorem dX4_isLetBy_162 : decode cX4_isLetBy 162 = .ok (.aload_n 0, 1) := dk_42 (dk_at dksX4_isLetBy_6 22 rfl rfl)
theorem dX4_isLetBy_163 : decode cX4_isLetBy 163 = .ok (.getfield 36, 3) := dk_180 0 36 (dk_at dksX4_isLetBy_7 0 rfl rfl)
theorem dX4_isLetBy_166 : decode cX4_isLetBy 166 = .ok (.bipush 10, 2) := dk_16 10 (dk_at dksX4_isLetBy_7 3 rfl rfl)
theorem dX4_isLetBy_168 : decode cX4_isLetBy 168 = .ok (.aload_n 0, 1) := dk_42 (dk_at dksX4_isLetBy_7 5 rfl rfl)
theorem dX4_isLetBy_169 : decode cX4_isLetBy 169 = .ok (.invokevirtual 331, 3) := dk_182 1 75 (dk_at dksX4_isLetBy_7 6 rfl rfl)
theorem dX4_isLetBy_172 : decode cX4_isLetBy 172 = .ok (.i2l, 1) := dk_133 (dk_at dksX4_isLetBy_7 9 rfl rfl)
theorem dX4_isLetBy_173 : decode cX4_isLetBy 173 = .ok (.lastore, 1) := dk_80 (dk_at dksX4_isLetBy_7 10 rfl rfl)
theorem dX4_isLetBy_174 : decode cX4_isLetBy 174 = .ok (.aload_n 0, 1) := dk_42 (dk_at dksX4_isLetBy_7 11 rfl rfl)
theorem dX4_isLetBy_175 : decode cX4_isLetBy 175 = .ok (.getfield 36, 3) := dk_180 0 36 (dk_at dksX4_isLetBy_7 12 rfl rfl)
theorem dX4_isLetBy_178 : decode cX4_isLetBy 178 = .ok (.bipush 11, 2) := dk_16 11 (dk_at dksX4_isLetBy_7 15 rfl rfl)
theorem dX4_isLetBy_180 : decode cX4_isLetBy 180 = .ok (.aload_n 0, 1) := dk_42 (dk_at dksX4_isLetBy_7 17 rfl rfl)
theorem dX4_isLetBy_181 : decode cX4_isLetBy 181 = .ok (.getfield 39, 3) := dk_180 0 39 (dk_at dksX4_isLetBy_7 18 rfl rfl)
theorem dX4_isLetBy_184 : decode cX4_isLetBy 184 = .ok (.bipush 10, 2) := dk_16 10 (dk_at dksX4_isLetBy_7 21 rfl rfl)
theorem dX4_isLetBy_186 : decode cX4_isLetBy 186 = .ok (.iaload, 1) := dk_46 (dk_at dksX4_isLetBy_7 23 rfl rfl)
theorem dX4_isLetBy_187 : decode cX4_isLetBy 187 = .ok (.aload_n 0, 1) := dk_42 (dk_at dksX4_isLetBy_8 0 rfl rfl)
theorem dX4_isLetBy_188 : decode cX4_isLetBy 188 = .ok (.getfield 39, 3) := dk_180 0 39 (dk_at dksX4_isLetBy_8 1 rfl rfl)
theorem dX4_isLetBy_191 : decode cX4_isLetBy 191 = .ok (.iconst 1, 1) := dk_4 (dk_at dksX4_isLetBy_8 4 rfl rfl)
theorem dX4_isLetBy_192 : decode cX4_isLetBy 192 = .ok (.iaload, 1) := dk_46 (dk_at dksX4_isLetBy_8 5 rfl rfl)
theorem dX4_isLetBy_193 : decode cX4_isLetBy 193 = .ok (.idiv, 1) := dk_108 (dk_at dksX4_isLetBy_8 6 rfl rfl)
theorem dX4_isLetBy_194 : decode cX4_isLetBy 194 = .ok (.i2l, 1) := dk_133 (dk_at dksX4_isLetBy_8 7 rfl rfl)
theorem dX4_isLetBy_195 : decode cX4_isLetBy 195 = .ok (.lastore, 1) := dk_80 (dk_at dksX4_isLetBy_8 8 rfl rfl)
theorem dX4_isLetBy_196 : decode cX4_isLetBy 196 = .ok (.aload_n 0, 1) := dk_42 (dk_at dksX4_isLetBy_8 9 rfl rfl)
theorem dX4_isLetBy_197 : decode cX4_isLetBy 197 = .ok (.aload_n 0, 1) := dk_42 (dk_at dksX4_isLetBy_8 10 rfl rfl)
theorem dX4_isLetBy_198 : decode cX4_isLetBy 198 = .ok (.getfield 42, 3) := dk_180 0 42 (dk_at dksX4_isLetBy_8 11 rfl rfl)
theorem dX4_isLetBy_201 : decode cX4_isLetBy 201 = .ok (.invokevirtual 343, 3) := dk_182 1 87 (dk_at dksX4_isLetBy_8 14 rfl rfl)
theorem dX4_isLetBy_204 : decode cX4_isLetBy 204 = .ok (.lconst 0, 1) := dk_9 (dk_at dksX4_isLetBy_8 17 rfl rfl)
theorem dX4_isLetBy_205 : decode cX4_isLetBy 205 = .ok (.lcmp, 1) := dk_148 (dk_at dksX4_isLetBy_8 18 rfl rfl)
theorem dX4_isLetBy_206 : decode cX4_isLetBy 206 = .ok (.ifCond .le 7, 3) := dk_158 0 7 (dk_at dksX4_isLetBy_8 19 rfl rfl)
theorem dX4_isLetBy_209 : decode cX4_isLetBy 209 = .ok (.iconst 1, 1) := dk_4 (dk_at dksX4_isLetBy_8 22 rfl rfl)
theorem dX4_isLetBy_210 : decode cX4_isLetBy 210 = .ok (.goto 4, 3) := dk_167 0 4 (dk_at dksX4_isLetBy_9 0 rfl rfl)
theorem dX4_isLetBy_213 : decode cX4_isLetBy 213 = .ok (.iconst 0, 1) := dk_3 (dk_at dksX4_isLetBy_9 3 rfl rfl)
theorem dX4_isLetBy_214 : decode cX4_isLetBy 214 = .ok (.ireturn, 1) := dk_172 (dk_at dksX4_isLetBy_9 4 rfl rfl)
abbrev cX4_beatOfBar : ByteArray := prog_19_method_54_code
def yX4_beatOfBar : MethodName := ⟨RX4, "beatOfBar", "()I"⟩
def dkwX4_beatOfBar_1 : List UInt8 := [3, 172]
abbrev dktX4_beatOfBar_1 : List UInt8 := dkwX4_beatOfBar_1 ++ []
def dkwX4_beatOfBar_0 : List UInt8 := [42, 182, 1, 38, 153, 0, 20, 42, 180, 0, 39, 16, 10, 46, 42, 180, 0, 39, 4, 46, 112, 167, 0, 4]
abbrev dktX4_beatOfBar_0 : List UInt8 := dkwX4_beatOfBar_0 ++ dktX4_beatOfBar_1
theorem dksX4_beatOfBar_0 : cX4_beatOfBar.data.toList.drop 0 = dktX4_beatOfBar_0 := by decide +kernel
theorem dksX4_beatOfBar_1 : cX4_beatOfBar.data.toList.drop 24 = dktX4_beatOfBar_1 := dk_seg dksX4_beatOfBar_0 24 rfl rfl
theorem dX4_beatOfBar_0 : decode cX4_beatOfBar 0 = .ok (.aload_n 0, 1) := dk_42 (dk_at dksX4_beatOfBar_0 0 rfl rfl)
theorem dX4_beatOfBar_1 : decode cX4_beatOfBar 1 = .ok (.invokevirtual 294, 3) := dk_182 1 38 (dk_at dksX4_beatOfBar_0 1 rfl rfl)
theorem dX4_beatOfBar_4 : decode cX4_beatOfBar 4 = .ok (.ifCond .eq 20, 3) := dk_153 0 20 (dk_at dksX4_beatOfBar_0 4 rfl rfl)
theorem dX4_beatOfBar_7 : decode cX4_beatOfBar 7 = .ok (.aload_n 0, 1) := dk_42 (dk_at dksX4_beatOfBar_0 7 rfl rfl)
theorem dX4_beatOfBar_8 : decode cX4_beatOfBar 8 = .ok (.getfield 39, 3) := dk_180 0 39 (dk_at dksX4_beatOfBar_0 8 rfl rfl)
theorem dX4_beatOfBar_11 : decode cX4_beatOfBar 11 = .ok (.bipush 10, 2) := dk_16 10 (dk_at dksX4_beatOfBar_0 11 rfl rfl)
theorem dX4_beatOfBar_13 : decode cX4_beatOfBar 13 = .ok (.iaload, 1) := dk_46 (dk_at dksX4_beatOfBar_0 13 rfl rfl)
theorem dX4_beatOfBar_14 : decode cX4_beatOfBar 14 = .ok (.aload_n 0, 1) := dk_42 (dk_at dksX4_beatOfBar_0 14 rfl rfl)
theorem dX4_beatOfBar_15 : decode cX4_beatOfBar 15 = .ok (.getfield 39, 3) := dk_180 0 39 (dk_at dksX4_beatOfBar_0 15 rfl rfl)
theorem dX4_beatOfBar_18 : decode cX4_beatOfBar 18 = .ok (.iconst 1, 1) := dk_4 (dk_at dksX4_beatOfBar_0 18 rfl rfl)
theorem dX4_beatOfBar_19 : decode cX4_beatOfBar 19 = .ok (.iaload, 1) := dk_46 (dk_at dksX4_beatOfBar_0 19 rfl rfl)
theorem dX4_beatOfBar_20 : decode cX4_beatOfBar 20 = .ok (.irem, 1) := dk_112 (dk_at dksX4_beatOfBar_0 20 rfl rfl)
theorem dX4_beatOfBar_21 : decode cX4_beatOfBar 21 = .ok (.goto 4, 3) := dk_167 0 4 (dk_at dksX4_beatOfBar_0 21 rfl rfl)
theorem dX4_beatOfBar_24 : decode cX4_beatOfBar 24 = .ok (.iconst 0, 1) := dk_3 (dk_at dksX4_beatOfBar_1 0 rfl rfl)
theorem dX4_beatOfBar_25 : decode cX4_beatOfBar 25 = .ok (.ireturn, 1) := dk_172 (dk_at dksX4_beatOfBar_1 1 rfl rfl)
abbrev cX4_isOf : ByteArray := prog_19_method_3_code
def yX4_isOf : MethodName := ⟨RX4, "isOf", "(II)Z"⟩
def dkwX4_isOf_0 : List UInt8 := [26, 27, 122, 4, 126, 4, 160, 0, 7, 4, 167, 0, 4, 3, 172]
abbrev dktX4_isOf_0 : List UInt8 := dkwX4_isOf_0 ++ []
theorem dksX4_isOf_0 : cX4_isOf.data.toList.drop 0 = dktX4_isOf_0 := by decide +kernel
theorem dX4_isOf_0 : decode cX4_isOf 0 = .ok (.iload_n 0, 1) := dk_26 (dk_at dksX4_isOf_0 0 rfl rfl)
theorem dX4_isOf_1 : decode cX4_isOf 1 = .ok (.iload_n 1, 1) := dk_27 (dk_at dksX4_isOf_0 1 rfl rfl)
theorem dX4_isOf_2 : decode cX4_isOf 2 = .ok (.ishr, 1) := dk_122 (dk_at dksX4_isOf_0 2 rfl rfl)
theorem dX4_isOf_3 : decode cX4_isOf 3 = .ok (.iconst 1, 1) := dk_4 (dk_at dksX4_isOf_0 3 rfl rfl)
theorem dX4_isOf_4 : decode cX4_isOf 4 = .ok (.iand, 1) := dk_126 (dk_at dksX4_isOf_0 4 rfl rfl)
theorem dX4_isOf_5 : decode cX4_isOf 5 = .ok (.iconst 1, 1) := dk_4 (dk_at dksX4_isOf_0 5 rfl rfl)
theorem dX4_isOf_6 : decode cX4_isOf 6 = .ok (.if_icmp .ne 7, 3) := dk_160 0 7 (dk_at dksX4_isOf_0 6 rfl rfl)
theorem dX4_isOf_9 : decode cX4_isOf 9 = .ok (.iconst 1, 1) := dk_4 (dk_at dksX4_isOf_0 9 rfl rfl)
theorem dX4_isOf_10 : decode cX4_isOf 10 = .ok (.goto 4, 3) := dk_167 0 4 (dk_at dksX4_isOf_0 10 rfl rfl)
theorem dX4_isOf_13 : decode cX4_isOf 13 = .ok (.iconst 0, 1) := dk_3 (dk_at dksX4_isOf_0 13 rfl rfl)
theorem dX4_isOf_14 : decode cX4_isOf 14 = .ok (.ireturn, 1) := dk_172 (dk_at dksX4_isOf_0 14 rfl rfl)
abbrev cX4_bits : ByteArray := prog_19_method_4_code
def yX4_bits : MethodName := ⟨RX4, "bits", "(I)I"⟩
def dkwX4_bits_0 : List UInt8 := [3, 60, 26, 61, 28, 153, 0, 15, 132, 1, 1, 28, 28, 4, 100, 126, 61, 167, 255, 243, 27, 172]
abbrev dktX4_bits_0 : List UInt8 := dkwX4_bits_0 ++ []
theorem dksX4_bits_0 : cX4_bits.data.toList.drop 0 = dktX4_bits_0 := by decide +kernel
theorem dX4_bits_0 : decode cX4_bits 0 = .ok (.iconst 0, 1) := dk_3 (dk_at dksX4_bits_0 0 rfl rfl)
theorem dX4_bits_1 : decode cX4_bits 1 = .ok (.istore_n 1, 1) := dk_60 (dk_at dksX4_bits_0 1 rfl rfl)
theorem dX4_bits_2 : decode cX4_bits 2 = .ok (.iload_n 0, 1) := dk_26 (dk_at dksX4_bits_0 2 rfl rfl)
theorem dX4_bits_3 : decode cX4_bits 3 = .ok (.istore_n 2, 1) := dk_61 (dk_at dksX4_bits_0 3 rfl rfl)
theorem dX4_bits_4 : decode cX4_bits 4 = .ok (.iload_n 2, 1) := dk_28 (dk_at dksX4_bits_0 4 rfl rfl)
theorem dX4_bits_5 : decode cX4_bits 5 = .ok (.ifCond .eq 15, 3) := dk_153 0 15 (dk_at dksX4_bits_0 5 rfl rfl)
theorem dX4_bits_8 : decode cX4_bits 8 = .ok (.iinc 1 1, 3) := dk_132 1 1 (dk_at dksX4_bits_0 8 rfl rfl)
theorem dX4_bits_11 : decode cX4_bits 11 = .ok (.iload_n 2, 1) := dk_28 (dk_at dksX4_bits_0 11 rfl rfl)
theorem dX4_bits_12 : decode cX4_bits 12 = .ok (.iload_n 2, 1) := dk_28 (dk_at dksX4_bits_0 12 rfl rfl)
theorem dX4_bits_13 : decode cX4_bits 13 = .ok (.iconst 1, 1) := dk_4 (dk_at dksX4_bits_0 13 rfl rfl)
theorem dX4_bits_14 : decode cX4_bits 14 = .ok (.isub, 1) := dk_100 (dk_at dksX4_bits_0 14 rfl rfl)
theorem dX4_bits_15 : decode cX4_bits 15 = .ok (.iand, 1) := dk_126 (dk_at dksX4_bits_0 15 rfl rfl)
theorem dX4_bits_16 : decode cX4_bits 16 = .ok (.istore_n 2, 1) := dk_61 (dk_at dksX4_bits_0 16 rfl rfl)
theorem dX4_bits_17 : decode cX4_bits 17 = .ok (.goto (-13), 3) := dk_167 255 243 (dk_at dksX4_bits_0 17 rfl rfl)
theorem dX4_bits_20 : decode cX4_bits 20 = .ok (.iload_n 1, 1) := dk_27 (dk_at dksX4_bits_0 20 rfl rfl)
theorem dX4_bits_21 : decode cX4_bits 21 = .ok (.ireturn, 1) := dk_172 (dk_at dksX4_bits_0 21 rfl rfl)
abbrev cX4_soundOf : ByteArray := prog_19_method_57_code
def yX4_soundOf : MethodName := ⟨RX4, "soundOf", "(I)I"⟩
def dkwX4_soundOf_4 : List UInt8 := [132, 3, 1, 167, 255, 168, 28, 172]
abbrev dktX4_soundOf_4 : List UInt8 := dkwX4_soundOf_4 ++ []
def dkwX4_soundOf_3 : List UInt8 := [156, 0, 9, 21, 5, 116, 167, 0, 5, 21, 5, 184, 1, 47, 96, 61, 132, 4, 1, 167, 255, 189]
abbrev dktX4_soundOf_3 : List UInt8 := dkwX4_soundOf_3 ++ dktX4_soundOf_4
def dkwX4_soundOf_2 : List UInt8 := [154, 0, 6, 167, 0, 36, 42, 29, 182, 1, 44, 42, 21, 4, 182, 1, 44, 100, 54, 5, 28, 21, 5]
abbrev dktX4_soundOf_2 : List UInt8 := dkwX4_soundOf_2 ++ dktX4_soundOf_3
def dkwX4_soundOf_1 : List UInt8 := [180, 0, 39, 6, 46, 162, 0, 62, 27, 29, 184, 1, 41, 153, 0, 48, 27, 21, 4, 184, 1, 41]
abbrev dktX4_soundOf_1 : List UInt8 := dkwX4_soundOf_1 ++ dktX4_soundOf_2
def dkwX4_soundOf_0 : List UInt8 := [3, 61, 3, 62, 29, 42, 180, 0, 39, 6, 46, 162, 0, 84, 29, 4, 96, 54, 4, 21, 4, 42]
abbrev dktX4_soundOf_0 : List UInt8 := dkwX4_soundOf_0 ++ dktX4_soundOf_1
theorem dksX4_soundOf_0 : cX4_soundOf.data.toList.drop 0 = dktX4_soundOf_0 := by decide +kernel
theorem dksX4_soundOf_1 : cX4_soundOf.data.toList.drop 22 = dktX4_soundOf_1 := dk_seg dksX4_soundOf_0 22 rfl rfl
theorem dksX4_soundOf_2 : cX4_soundOf.data.toList.drop 44 = dktX4_soundOf_2 := dk_seg dksX4_soundOf_1 22 rfl rfl
theorem dksX4_soundOf_3 : cX4_soundOf.data.toList.drop 67 = dktX4_soundOf_3 := dk_seg dksX4_soundOf_2 23 rfl rfl
theorem dksX4_soundOf_4 : cX4_soundOf.data.toList.drop 89 = dktX4_soundOf_4 := dk_seg dksX4_soundOf_3 22 rfl rfl
theorem dX4_soundOf_0 : decode cX4_soundOf 0 = .ok (.iconst 0, 1) := dk_3 (dk_at dksX4_soundOf_0 0 rfl rfl)
theorem dX4_soundOf_1 : decode cX4_soundOf 1 = .ok (.istore_n 2, 1) := dk_61 (dk_at dksX4_soundOf_0 1 rfl rfl)
theorem dX4_soundOf_2 : decode cX4_soundOf 2 = .ok (.iconst 0, 1) := dk_3 (dk_at dksX4_soundOf_0 2 rfl rfl)
theorem dX4_soundOf_3 : decode cX4_soundOf 3 = .ok (.istore_n 3, 1) := dk_62 (dk_at dksX4_soundOf_0 3 rfl rfl)
theorem dX4_soundOf_4 : decode cX4_soundOf 4 = .ok (.iload_n 3, 1) := dk_29 (dk_at dksX4_soundOf_0 4 rfl rfl)
theorem dX4_soundOf_5 : decode cX4_soundOf 5 = .ok (.aload_n 0, 1) := dk_42 (dk_at dksX4_soundOf_0 5 rfl rfl)
theorem dX4_soundOf_6 : decode cX4_soundOf 6 = .ok (.getfield 39, 3) := dk_180 0 39 (dk_at dksX4_soundOf_0 6 rfl rfl)
theorem dX4_soundOf_9 : decode cX4_soundOf 9 = .ok (.iconst 3, 1) := dk_6 (dk_at dksX4_soundOf_0 9 rfl rfl)
theorem dX4_soundOf_10 : decode cX4_soundOf 10 = .ok (.iaload, 1) := dk_46 (dk_at dksX4_soundOf_0 10 rfl rfl)
theorem dX4_soundOf_11 : decode cX4_soundOf 11 = .ok (.if_icmp .ge 84, 3) := dk_162 0 84 (dk_at dksX4_soundOf_0 11 rfl rfl)
theorem dX4_soundOf_14 : decode cX4_soundOf 14 = .ok (.iload_n 3, 1) := dk_29 (dk_at dksX4_soundOf_0 14 rfl rfl)
theorem dX4_soundOf_15 : decode cX4_soundOf 15 = .ok (.iconst 1, 1) := dk_4 (dk_at dksX4_soundOf_0 15 rfl rfl)
theorem dX4_soundOf_16 : decode cX4_soundOf 16 = .ok (.iadd, 1) := dk_96 (dk_at dksX4_soundOf_0 16 rfl rfl)
theorem dX4_soundOf_17 : decode cX4_soundOf 17 = .ok (.istore 4, 2) := dk_54 4 (dk_at dksX4_soundOf_0 17 rfl rfl)
theorem dX4_soundOf_19 : decode cX4_soundOf 19 = .ok (.iload 4, 2) := dk_21 4 (dk_at dksX4_soundOf_0 19 rfl rfl)
theorem dX4_soundOf_21 : decode cX4_soundOf 21 = .ok (.aload_n 0, 1) := dk_42 (dk_at dksX4_soundOf_0 21 rfl rfl)
theorem dX4_soundOf_22 : decode cX4_soundOf 22 = .ok (.getfield 39, 3) := dk_180 0 39 (dk_at dksX4_soundOf_1 0 rfl rfl)
theorem dX4_soundOf_25 : decode cX4_soundOf 25 = .ok (.iconst 3, 1) := dk_6 (dk_at dksX4_soundOf_1 3 rfl rfl)
theorem dX4_soundOf_26 : decode cX4_soundOf 26 = .ok (.iaload, 1) := dk_46 (dk_at dksX4_soundOf_1 4 rfl rfl)
theorem dX4_soundOf_27 : decode cX4_soundOf 27 = .ok (.if_icmp .ge 62, 3) := dk_162 0 62 (dk_at dksX4_soundOf_1 5 rfl rfl)
theorem dX4_soundOf_30 : decode cX4_soundOf 30 = .ok (.iload_n 1, 1) := dk_27 (dk_at dksX4_soundOf_1 8 rfl rfl)
theorem dX4_soundOf_31 : decode cX4_soundOf 31 = .ok (.iload_n 3, 1) := dk_29 (dk_at dksX4_soundOf_1 9 rfl rfl)
theorem dX4_soundOf_32 : decode cX4_soundOf 32 = .ok (.invokestatic 297, 3) := dk_184 1 41 (dk_at dksX4_soundOf_1 10 rfl rfl)
theorem dX4_soundOf_35 : decode cX4_soundOf 35 = .ok (.ifCond .eq 48, 3) := dk_153 0 48 (dk_at dksX4_soundOf_1 13 rfl rfl)
theorem dX4_soundOf_38 : decode cX4_soundOf 38 = .ok (.iload_n 1, 1) := dk_27 (dk_at dksX4_soundOf_1 16 rfl rfl)
theorem dX4_soundOf_39 : decode cX4_soundOf 39 = .ok (.iload 4, 2) := dk_21 4 (dk_at dksX4_soundOf_1 17 rfl rfl)
theorem dX4_soundOf_41 : decode cX4_soundOf 41 = .ok (.invokestatic 297, 3) := dk_184 1 41 (dk_at dksX4_soundOf_1 19 rfl rfl)
theorem dX4_soundOf_44 : decode cX4_soundOf 44 = .ok (.ifCond .ne 6, 3) := dk_154 0 6 (dk_at dksX4_soundOf_2 0 rfl rfl)
theorem dX4_soundOf_47 : decode cX4_soundOf 47 = .ok (.goto 36, 3) := dk_167 0 36 (dk_at dksX4_soundOf_2 3 rfl rfl)
theorem dX4_soundOf_50 : decode cX4_soundOf 50 = .ok (.aload_n 0, 1) := dk_42 (dk_at dksX4_soundOf_2 6 rfl rfl)
theorem dX4_soundOf_51 : decode cX4_soundOf 51 = .ok (.iload_n 3, 1) := dk_29 (dk_at dksX4_soundOf_2 7 rfl rfl)
theorem dX4_soundOf_52 : decode cX4_soundOf 52 = .ok (.invokevirtual 300, 3) := dk_182 1 44 (dk_at dksX4_soundOf_2 8 rfl rfl)
theorem dX4_soundOf_55 : decode cX4_soundOf 55 = .ok (.aload_n 0, 1) := dk_42 (dk_at dksX4_soundOf_2 11 rfl rfl)
theorem dX4_soundOf_56 : decode cX4_soundOf 56 = .ok (.iload 4, 2) := dk_21 4 (dk_at dksX4_soundOf_2 12 rfl rfl)
theorem dX4_soundOf_58 : decode cX4_soundOf 58 = .ok (.invokevirtual 300, 3) := dk_182 1 44 (dk_at dksX4_soundOf_2 14 rfl rfl)
theorem dX4_soundOf_61 : decode cX4_soundOf 61 = .ok (.isub, 1) := dk_100 (dk_at dksX4_soundOf_2 17 rfl rfl)
theorem dX4_soundOf_62 : decode cX4_soundOf 62 = .ok (.istore 5, 2) := dk_54 5 (dk_at dksX4_soundOf_2 18 rfl rfl)
theorem dX4_soundOf_64 : decode cX4_soundOf 64 = .ok (.iload_n 2, 1) := dk_28 (dk_at dksX4_soundOf_2 20 rfl rfl)
theorem dX4_soundOf_65 : decode cX4_soundOf 65 = .ok (.iload 5, 2) := dk_21 5 (dk_at dksX4_soundOf_2 21 rfl rfl)
theorem dX4_soundOf_67 : decode cX4_soundOf 67 = .ok (.ifCond .ge 9, 3) := dk_156 0 9 (dk_at dksX4_soundOf_3 0 rfl rfl)
theorem dX4_soundOf_70 : decode cX4_soundOf 70 = .ok (.iload 5, 2) := dk_21 5 (dk_at dksX4_soundOf_3 3 rfl rfl)
theorem dX4_soundOf_72 : decode cX4_soundOf 72 = .ok (.ineg, 1) := dk_116 (dk_at dksX4_soundOf_3 5 rfl rfl)
theorem dX4_soundOf_73 : decode cX4_soundOf 73 = .ok (.goto 5, 3) := dk_167 0 5 (dk_at dksX4_soundOf_3 6 rfl rfl)
theorem dX4_soundOf_76 : decode cX4_soundOf 76 = .ok (.iload 5, 2) := dk_21 5 (dk_at dksX4_soundOf_3 9 rfl rfl)
theorem dX4_soundOf_78 : decode cX4_soundOf 78 = .ok (.invokestatic 303, 3) := dk_184 1 47 (dk_at dksX4_soundOf_3 11 rfl rfl)
theorem dX4_soundOf_81 : decode cX4_soundOf 81 = .ok (.iadd, 1) := dk_96 (dk_at dksX4_soundOf_3 14 rfl rfl)
theorem dX4_soundOf_82 : decode cX4_soundOf 82 = .ok (.istore_n 2, 1) := dk_61 (dk_at dksX4_soundOf_3 15 rfl rfl)
theorem dX4_soundOf_83 : decode cX4_soundOf 83 = .ok (.iinc 4 1, 3) := dk_132 4 1 (dk_at dksX4_soundOf_3 16 rfl rfl)
theorem dX4_soundOf_86 : decode cX4_soundOf 86 = .ok (.goto (-67), 3) := dk_167 255 189 (dk_at dksX4_soundOf_3 19 rfl rfl)
theorem dX4_soundOf_89 : decode cX4_soundOf 89 = .ok (.iinc 3 1, 3) := dk_132 3 1 (dk_at dksX4_soundOf_4 0 rfl rfl)
theorem dX4_soundOf_92 : decode cX4_soundOf 92 = .ok (.goto (-88), 3) := dk_167 255 168 (dk_at dksX4_soundOf_4 3 rfl rfl)
theorem dX4_soundOf_95 : decode cX4_soundOf 95 = .ok (.iload_n 2, 1) := dk_28 (dk_at dksX4_soundOf_4 6 rfl rfl)
theorem dX4_soundOf_96 : decode cX4_soundOf 96 = .ok (.ireturn, 1) := dk_172 (dk_at dksX4_soundOf_4 7 rfl rfl)
abbrev cX4_soundOfTwo : ByteArray := prog_19_method_56_code
def yX4_soundOfTwo : MethodName := ⟨RX4, "soundOfTwo", "(I)I"⟩
def dkwX4_soundOfTwo_2 : List UInt8 := [3, 172, 16, 253, 172, 2, 172, 5, 172, 6, 172, 16, 254, 172, 4, 172]
abbrev dktX4_soundOfTwo_2 : List UInt8 := dkwX4_soundOfTwo_2 ++ []
def dkwX4_soundOfTwo_1 : List UInt8 := [170, 0, 0, 0, 0, 0, 77, 0, 0, 0, 0, 0, 0, 0, 11, 0, 0, 0, 63, 0, 0, 0, 65, 0, 0, 0, 68, 0, 0, 0, 70, 0, 0, 0, 72, 0, 0, 0, 70, 0, 0, 0, 74, 0, 0, 0, 72, 0, 0, 0, 77, 0, 0, 0, 77, 0, 0, 0, 68, 0, 0, 0, 65]
abbrev dktX4_soundOfTwo_1 : List UInt8 := dkwX4_soundOfTwo_1 ++ dktX4_soundOfTwo_2
def dkwX4_soundOfTwo_0 : List UInt8 := [26]
abbrev dktX4_soundOfTwo_0 : List UInt8 := dkwX4_soundOfTwo_0 ++ dktX4_soundOfTwo_1
theorem dksX4_soundOfTwo_0 : cX4_soundOfTwo.data.toList.drop 0 = dktX4_soundOfTwo_0 := by decide +kernel
theorem dksX4_soundOfTwo_1 : cX4_soundOfTwo.data.toList.drop 1 = dktX4_soundOfTwo_1 := dk_seg dksX4_soundOfTwo_0 1 rfl rfl
theorem dksX4_soundOfTwo_2 : cX4_soundOfTwo.data.toList.drop 64 = dktX4_soundOfTwo_2 := dk_seg dksX4_soundOfTwo_1 63 rfl rfl
theorem dX4_soundOfTwo_0 : decode cX4_soundOfTwo 0 = .ok (.iload_n 0, 1) := dk_26 (dk_at dksX4_soundOfTwo_0 0 rfl rfl)
theorem dX4_soundOfTwo_1 : decode cX4_soundOfTwo 1 = .ok (.tableswitch 77 0 11 #[63, 65, 68, 70, 72, 70, 74, 72, 77, 77, 68, 65], 63) := by decide +kernel
theorem dX4_soundOfTwo_64 : decode cX4_soundOfTwo 64 = .ok (.iconst 0, 1) := dk_3 (dk_at dksX4_soundOfTwo_2 0 rfl rfl)
theorem dX4_soundOfTwo_65 : decode cX4_soundOfTwo 65 = .ok (.ireturn, 1) := dk_172 (dk_at dksX4_soundOfTwo_2 1 rfl rfl)
theorem dX4_soundOfTwo_66 : decode cX4_soundOfTwo 66 = .ok (.bipush (-3), 2) := dk_16 253 (dk_at dksX4_soundOfTwo_2 2 rfl rfl)
theorem dX4_soundOfTwo_68 : decode cX4_soundOfTwo 68 = .ok (.ireturn, 1) := dk_172 (dk_at dksX4_soundOfTwo_2 4 rfl rfl)
theorem dX4_soundOfTwo_69 : decode cX4_soundOfTwo 69 = .ok (.iconst (-1), 1) := dk_2 (dk_at dksX4_soundOfTwo_2 5 rfl rfl)
theorem dX4_soundOfTwo_70 : decode cX4_soundOfTwo 70 = .ok (.ireturn, 1) := dk_172 (dk_at dksX4_soundOfTwo_2 6 rfl rfl)
theorem dX4_soundOfTwo_71 : decode cX4_soundOfTwo 71 = .ok (.iconst 2, 1) := dk_5 (dk_at dksX4_soundOfTwo_2 7 rfl rfl)
theorem dX4_soundOfTwo_72 : decode cX4_soundOfTwo 72 = .ok (.ireturn, 1) := dk_172 (dk_at dksX4_soundOfTwo_2 8 rfl rfl)
theorem dX4_soundOfTwo_73 : decode cX4_soundOfTwo 73 = .ok (.iconst 3, 1) := dk_6 (dk_at dksX4_soundOfTwo_2 9 rfl rfl)
theorem dX4_soundOfTwo_74 : decode cX4_soundOfTwo 74 = .ok (.ireturn, 1) := dk_172 (dk_at dksX4_soundOfTwo_2 10 rfl rfl)
theorem dX4_soundOfTwo_75 : decode cX4_soundOfTwo 75 = .ok (.bipush (-2), 2) := dk_16 254 (dk_at dksX4_soundOfTwo_2 11 rfl rfl)
theorem dX4_soundOfTwo_77 : decode cX4_soundOfTwo 77 = .ok (.ireturn, 1) := dk_172 (dk_at dksX4_soundOfTwo_2 13 rfl rfl)
theorem dX4_soundOfTwo_78 : decode cX4_soundOfTwo 78 = .ok (.iconst 1, 1) := dk_4 (dk_at dksX4_soundOfTwo_2 14 rfl rfl)
theorem dX4_soundOfTwo_79 : decode cX4_soundOfTwo 79 = .ok (.ireturn, 1) := dk_172 (dk_at dksX4_soundOfTwo_2 15 rfl rfl)
abbrev cX4_sumOver : ByteArray := prog_19_method_55_code
def yX4_sumOver : MethodName := ⟨RX4, "sumOver", "(I)I"⟩
def dkwX4_sumOver_1 : List UInt8 := [96, 27, 96, 46, 96, 61, 132, 3, 1, 167, 255, 227, 28, 172]
abbrev dktX4_sumOver_1 : List UInt8 := dkwX4_sumOver_1 ++ []
def dkwX4_sumOver_0 : List UInt8 := [3, 61, 3, 62, 29, 42, 180, 0, 39, 6, 46, 162, 0, 25, 28, 42, 180, 0, 39, 16, 11, 8, 29, 104]
abbrev dktX4_sumOver_0 : List UInt8 := dkwX4_sumOver_0 ++ dktX4_sumOver_1
theorem dksX4_sumOver_0 : cX4_sumOver.data.toList.drop 0 = dktX4_sumOver_0 := by decide +kernel
theorem dksX4_sumOver_1 : cX4_sumOver.data.toList.drop 24 = dktX4_sumOver_1 := dk_seg dksX4_sumOver_0 24 rfl rfl
theorem dX4_sumOver_0 : decode cX4_sumOver 0 = .ok (.iconst 0, 1) := dk_3 (dk_at dksX4_sumOver_0 0 rfl rfl)
theorem dX4_sumOver_1 : decode cX4_sumOver 1 = .ok (.istore_n 2, 1) := dk_61 (dk_at dksX4_sumOver_0 1 rfl rfl)
theorem dX4_sumOver_2 : decode cX4_sumOver 2 = .ok (.iconst 0, 1) := dk_3 (dk_at dksX4_sumOver_0 2 rfl rfl)
theorem dX4_sumOver_3 : decode cX4_sumOver 3 = .ok (.istore_n 3, 1) := dk_62 (dk_at dksX4_sumOver_0 3 rfl rfl)
theorem dX4_sumOver_4 : decode cX4_sumOver 4 = .ok (.iload_n 3, 1) := dk_29 (dk_at dksX4_sumOver_0 4 rfl rfl)
theorem dX4_sumOver_5 : decode cX4_sumOver 5 = .ok (.aload_n 0, 1) := dk_42 (dk_at dksX4_sumOver_0 5 rfl rfl)
theorem dX4_sumOver_6 : decode cX4_sumOver 6 = .ok (.getfield 39, 3) := dk_180 0 39 (dk_at dksX4_sumOver_0 6 rfl rfl)
theorem dX4_sumOver_9 : decode cX4_sumOver 9 = .ok (.iconst 3, 1) := dk_6 (dk_at dksX4_sumOver_0 9 rfl rfl)
theorem dX4_sumOver_10 : decode cX4_sumOver 10 = .ok (.iaload, 1) := dk_46 (dk_at dksX4_sumOver_0 10 rfl rfl)
theorem dX4_sumOver_11 : decode cX4_sumOver 11 = .ok (.if_icmp .ge 25, 3) := dk_162 0 25 (dk_at dksX4_sumOver_0 11 rfl rfl)
theorem dX4_sumOver_14 : decode cX4_sumOver 14 = .ok (.iload_n 2, 1) := dk_28 (dk_at dksX4_sumOver_0 14 rfl rfl)
theorem dX4_sumOver_15 : decode cX4_sumOver 15 = .ok (.aload_n 0, 1) := dk_42 (dk_at dksX4_sumOver_0 15 rfl rfl)
theorem dX4_sumOver_16 : decode cX4_sumOver 16 = .ok (.getfield 39, 3) := dk_180 0 39 (dk_at dksX4_sumOver_0 16 rfl rfl)
theorem dX4_sumOver_19 : decode cX4_sumOver 19 = .ok (.bipush 11, 2) := dk_16 11 (dk_at dksX4_sumOver_0 19 rfl rfl)
theorem dX4_sumOver_21 : decode cX4_sumOver 21 = .ok (.iconst 5, 1) := dk_8 (dk_at dksX4_sumOver_0 21 rfl rfl)
theorem dX4_sumOver_22 : decode cX4_sumOver 22 = .ok (.iload_n 3, 1) := dk_29 (dk_at dksX4_sumOver_0 22 rfl rfl)
theorem dX4_sumOver_23 : decode cX4_sumOver 23 = .ok (.imul, 1) := dk_104 (dk_at dksX4_sumOver_0 23 rfl rfl)
theorem dX4_sumOver_24 : decode cX4_sumOver 24 = .ok (.iadd, 1) := dk_96 (dk_at dksX4_sumOver_1 0 rfl rfl)
theorem dX4_sumOver_25 : decode cX4_sumOver 25 = .ok (.iload_n 1, 1) := dk_27 (dk_at dksX4_sumOver_1 1 rfl rfl)
theorem dX4_sumOver_26 : decode cX4_sumOver 26 = .ok (.iadd, 1) := dk_96 (dk_at dksX4_sumOver_1 2 rfl rfl)
theorem dX4_sumOver_27 : decode cX4_sumOver 27 = .ok (.iaload, 1) := dk_46 (dk_at dksX4_sumOver_1 3 rfl rfl)
theorem dX4_sumOver_28 : decode cX4_sumOver 28 = .ok (.iadd, 1) := dk_96 (dk_at dksX4_sumOver_1 4 rfl rfl)
theorem dX4_sumOver_29 : decode cX4_sumOver 29 = .ok (.istore_n 2, 1) := dk_61 (dk_at dksX4_sumOver_1 5 rfl rfl)
theorem dX4_sumOver_30 : decode cX4_sumOver 30 = .ok (.iinc 3 1, 3) := dk_132 3 1 (dk_at dksX4_sumOver_1 6 rfl rfl)
theorem dX4_sumOver_33 : decode cX4_sumOver 33 = .ok (.goto (-29), 3) := dk_167 255 227 (dk_at dksX4_sumOver_1 9 rfl rfl)
theorem dX4_sumOver_36 : decode cX4_sumOver 36 = .ok (.iload_n 2, 1) := dk_28 (dk_at dksX4_sumOver_1 12 rfl rfl)
theorem dX4_sumOver_37 : decode cX4_sumOver 37 = .ok (.ireturn, 1) := dk_172 (dk_at dksX4_sumOver_1 13 rfl rfl)
abbrev cX4_summedBy : ByteArray := prog_19_method_64_code
def yX4_summedBy : MethodName := ⟨RX4, "summedBy", "(I)J"⟩
def dkwX4_summedBy_3 : List UInt8 := [29, 4, 96, 46, 182, 1, 71, 173, 132, 2, 1, 167, 255, 177, 9, 173]
abbrev dktX4_summedBy_3 : List UInt8 := dkwX4_summedBy_3 ++ []
def dkwX4_summedBy_2 : List UInt8 := [29, 6, 96, 46, 182, 1, 71, 10, 148, 154, 0, 23, 42, 27, 42, 180, 0, 20, 29, 46, 42, 180, 0, 20]
abbrev dktX4_summedBy_2 : List UInt8 := dkwX4_summedBy_2 ++ dktX4_summedBy_3
def dkwX4_summedBy_1 : List UInt8 := [180, 0, 20, 29, 5, 96, 46, 155, 0, 29, 42, 27, 42, 180, 0, 20, 29, 5, 96, 46, 42, 180, 0, 20]
abbrev dktX4_summedBy_1 : List UInt8 := dkwX4_summedBy_1 ++ dktX4_summedBy_2
def dkwX4_summedBy_0 : List UInt8 := [3, 61, 28, 42, 180, 0, 23, 27, 46, 162, 0, 75, 16, 48, 27, 104, 7, 28, 104, 96, 62, 42]
abbrev dktX4_summedBy_0 : List UInt8 := dkwX4_summedBy_0 ++ dktX4_summedBy_1
theorem dksX4_summedBy_0 : cX4_summedBy.data.toList.drop 0 = dktX4_summedBy_0 := by decide +kernel
theorem dksX4_summedBy_1 : cX4_summedBy.data.toList.drop 22 = dktX4_summedBy_1 := dk_seg dksX4_summedBy_0 22 rfl rfl
theorem dksX4_summedBy_2 : cX4_summedBy.data.toList.drop 46 = dktX4_summedBy_2 := dk_seg dksX4_summedBy_1 24 rfl rfl
theorem dksX4_summedBy_3 : cX4_summedBy.data.toList.drop 70 = dktX4_summedBy_3 := dk_seg dksX4_summedBy_2 24 rfl rfl
theorem dX4_summedBy_0 : decode cX4_summedBy 0 = .ok (.iconst 0, 1) := dk_3 (dk_at dksX4_summedBy_0 0 rfl rfl)
theorem dX4_summedBy_1 : decode cX4_summedBy 1 = .ok (.istore_n 2, 1) := dk_61 (dk_at dksX4_summedBy_0 1 rfl rfl)
theorem dX4_summedBy_2 : decode cX4_summedBy 2 = .ok (.iload_n 2, 1) := dk_28 (dk_at dksX4_summedBy_0 2 rfl rfl)
theorem dX4_summedBy_3 : decode cX4_summedBy 3 = .ok (.aload_n 0, 1) := dk_42 (dk_at dksX4_summedBy_0 3 rfl rfl)
theorem dX4_summedBy_4 : decode cX4_summedBy 4 = .ok (.getfield 23, 3) := dk_180 0 23 (dk_at dksX4_summedBy_0 4 rfl rfl)
theorem dX4_summedBy_7 : decode cX4_summedBy 7 = .ok (.iload_n 1, 1) := dk_27 (dk_at dksX4_summedBy_0 7 rfl rfl)
theorem dX4_summedBy_8 : decode cX4_summedBy 8 = .ok (.iaload, 1) := dk_46 (dk_at dksX4_summedBy_0 8 rfl rfl)
theorem dX4_summedBy_9 : decode cX4_summedBy 9 = .ok (.if_icmp .ge 75, 3) := dk_162 0 75 (dk_at dksX4_summedBy_0 9 rfl rfl)
theorem dX4_summedBy_12 : decode cX4_summedBy 12 = .ok (.bipush 48, 2) := dk_16 48 (dk_at dksX4_summedBy_0 12 rfl rfl)
theorem dX4_summedBy_14 : decode cX4_summedBy 14 = .ok (.iload_n 1, 1) := dk_27 (dk_at dksX4_summedBy_0 14 rfl rfl)
theorem dX4_summedBy_15 : decode cX4_summedBy 15 = .ok (.imul, 1) := dk_104 (dk_at dksX4_summedBy_0 15 rfl rfl)
theorem dX4_summedBy_16 : decode cX4_summedBy 16 = .ok (.iconst 4, 1) := dk_7 (dk_at dksX4_summedBy_0 16 rfl rfl)
theorem dX4_summedBy_17 : decode cX4_summedBy 17 = .ok (.iload_n 2, 1) := dk_28 (dk_at dksX4_summedBy_0 17 rfl rfl)
theorem dX4_summedBy_18 : decode cX4_summedBy 18 = .ok (.imul, 1) := dk_104 (dk_at dksX4_summedBy_0 18 rfl rfl)
theorem dX4_summedBy_19 : decode cX4_summedBy 19 = .ok (.iadd, 1) := dk_96 (dk_at dksX4_summedBy_0 19 rfl rfl)
theorem dX4_summedBy_20 : decode cX4_summedBy 20 = .ok (.istore_n 3, 1) := dk_62 (dk_at dksX4_summedBy_0 20 rfl rfl)
theorem dX4_summedBy_21 : decode cX4_summedBy 21 = .ok (.aload_n 0, 1) := dk_42 (dk_at dksX4_summedBy_0 21 rfl rfl)
theorem dX4_summedBy_22 : decode cX4_summedBy 22 = .ok (.getfield 20, 3) := dk_180 0 20 (dk_at dksX4_summedBy_1 0 rfl rfl)
theorem dX4_summedBy_25 : decode cX4_summedBy 25 = .ok (.iload_n 3, 1) := dk_29 (dk_at dksX4_summedBy_1 3 rfl rfl)
theorem dX4_summedBy_26 : decode cX4_summedBy 26 = .ok (.iconst 2, 1) := dk_5 (dk_at dksX4_summedBy_1 4 rfl rfl)
theorem dX4_summedBy_27 : decode cX4_summedBy 27 = .ok (.iadd, 1) := dk_96 (dk_at dksX4_summedBy_1 5 rfl rfl)
theorem dX4_summedBy_28 : decode cX4_summedBy 28 = .ok (.iaload, 1) := dk_46 (dk_at dksX4_summedBy_1 6 rfl rfl)
theorem dX4_summedBy_29 : decode cX4_summedBy 29 = .ok (.ifCond .lt 29, 3) := dk_155 0 29 (dk_at dksX4_summedBy_1 7 rfl rfl)
theorem dX4_summedBy_32 : decode cX4_summedBy 32 = .ok (.aload_n 0, 1) := dk_42 (dk_at dksX4_summedBy_1 10 rfl rfl)
theorem dX4_summedBy_33 : decode cX4_summedBy 33 = .ok (.iload_n 1, 1) := dk_27 (dk_at dksX4_summedBy_1 11 rfl rfl)
theorem dX4_summedBy_34 : decode cX4_summedBy 34 = .ok (.aload_n 0, 1) := dk_42 (dk_at dksX4_summedBy_1 12 rfl rfl)
theorem dX4_summedBy_35 : decode cX4_summedBy 35 = .ok (.getfield 20, 3) := dk_180 0 20 (dk_at dksX4_summedBy_1 13 rfl rfl)
theorem dX4_summedBy_38 : decode cX4_summedBy 38 = .ok (.iload_n 3, 1) := dk_29 (dk_at dksX4_summedBy_1 16 rfl rfl)
theorem dX4_summedBy_39 : decode cX4_summedBy 39 = .ok (.iconst 2, 1) := dk_5 (dk_at dksX4_summedBy_1 17 rfl rfl)
theorem dX4_summedBy_40 : decode cX4_summedBy 40 = .ok (.iadd, 1) := dk_96 (dk_at dksX4_summedBy_1 18 rfl rfl)
theorem dX4_summedBy_41 : decode cX4_summedBy 41 = .ok (.iaload, 1) := dk_46 (dk_at dksX4_summedBy_1 19 rfl rfl)
theorem dX4_summedBy_42 : decode cX4_summedBy 42 = .ok (.aload_n 0, 1) := dk_42 (dk_at dksX4_summedBy_1 20 rfl rfl)
theorem dX4_summedBy_43 : decode cX4_summedBy 43 = .ok (.getfield 20, 3) := dk_180 0 20 (dk_at dksX4_summedBy_1 21 rfl rfl)
theorem dX4_summedBy_46 : decode cX4_summedBy 46 = .ok (.iload_n 3, 1) := dk_29 (dk_at dksX4_summedBy_2 0 rfl rfl)
theorem dX4_summedBy_47 : decode cX4_summedBy 47 = .ok (.iconst 3, 1) := dk_6 (dk_at dksX4_summedBy_2 1 rfl rfl)
theorem dX4_summedBy_48 : decode cX4_summedBy 48 = .ok (.iadd, 1) := dk_96 (dk_at dksX4_summedBy_2 2 rfl rfl)
theorem dX4_summedBy_49 : decode cX4_summedBy 49 = .ok (.iaload, 1) := dk_46 (dk_at dksX4_summedBy_2 3 rfl rfl)
theorem dX4_summedBy_50 : decode cX4_summedBy 50 = .ok (.invokevirtual 327, 3) := dk_182 1 71 (dk_at dksX4_summedBy_2 4 rfl rfl)
theorem dX4_summedBy_53 : decode cX4_summedBy 53 = .ok (.lconst 1, 1) := dk_10 (dk_at dksX4_summedBy_2 7 rfl rfl)
theorem dX4_summedBy_54 : decode cX4_summedBy 54 = .ok (.lcmp, 1) := dk_148 (dk_at dksX4_summedBy_2 8 rfl rfl)
theorem dX4_summedBy_55 : decode cX4_summedBy 55 = .ok (.ifCond .ne 23, 3) := dk_154 0 23 (dk_at dksX4_summedBy_2 9 rfl rfl)
theorem dX4_summedBy_58 : decode cX4_summedBy 58 = .ok (.aload_n 0, 1) := dk_42 (dk_at dksX4_summedBy_2 12 rfl rfl)
theorem dX4_summedBy_59 : decode cX4_summedBy 59 = .ok (.iload_n 1, 1) := dk_27 (dk_at dksX4_summedBy_2 13 rfl rfl)
theorem dX4_summedBy_60 : decode cX4_summedBy 60 = .ok (.aload_n 0, 1) := dk_42 (dk_at dksX4_summedBy_2 14 rfl rfl)
theorem dX4_summedBy_61 : decode cX4_summedBy 61 = .ok (.getfield 20, 3) := dk_180 0 20 (dk_at dksX4_summedBy_2 15 rfl rfl)
theorem dX4_summedBy_64 : decode cX4_summedBy 64 = .ok (.iload_n 3, 1) := dk_29 (dk_at dksX4_summedBy_2 18 rfl rfl)
theorem dX4_summedBy_65 : decode cX4_summedBy 65 = .ok (.iaload, 1) := dk_46 (dk_at dksX4_summedBy_2 19 rfl rfl)
theorem dX4_summedBy_66 : decode cX4_summedBy 66 = .ok (.aload_n 0, 1) := dk_42 (dk_at dksX4_summedBy_2 20 rfl rfl)
theorem dX4_summedBy_67 : decode cX4_summedBy 67 = .ok (.getfield 20, 3) := dk_180 0 20 (dk_at dksX4_summedBy_2 21 rfl rfl)
theorem dX4_summedBy_70 : decode cX4_summedBy 70 = .ok (.iload_n 3, 1) := dk_29 (dk_at dksX4_summedBy_3 0 rfl rfl)
theorem dX4_summedBy_71 : decode cX4_summedBy 71 = .ok (.iconst 1, 1) := dk_4 (dk_at dksX4_summedBy_3 1 rfl rfl)
theorem dX4_summedBy_72 : decode cX4_summedBy 72 = .ok (.iadd, 1) := dk_96 (dk_at dksX4_summedBy_3 2 rfl rfl)
theorem dX4_summedBy_73 : decode cX4_summedBy 73 = .ok (.iaload, 1) := dk_46 (dk_at dksX4_summedBy_3 3 rfl rfl)
theorem dX4_summedBy_74 : decode cX4_summedBy 74 = .ok (.invokevirtual 327, 3) := dk_182 1 71 (dk_at dksX4_summedBy_3 4 rfl rfl)
theorem dX4_summedBy_77 : decode cX4_summedBy 77 = .ok (.lreturn, 1) := dk_173 (dk_at dksX4_summedBy_3 7 rfl rfl)
theorem dX4_summedBy_78 : decode cX4_summedBy 78 = .ok (.iinc 2 1, 3) := dk_132 2 1 (dk_at dksX4_summedBy_3 8 rfl rfl)
theorem dX4_summedBy_81 : decode cX4_summedBy 81 = .ok (.goto (-79), 3) := dk_167 255 177 (dk_at dksX4_summedBy_3 11 rfl rfl)
theorem dX4_summedBy_84 : decode cX4_summedBy 84 = .ok (.lconst 0, 1) := dk_9 (dk_at dksX4_summedBy_3 14 rfl rfl)
theorem dX4_summedBy_85 : decode cX4_summedBy 85 = .ok (.lreturn, 1) := dk_173 (dk_at dksX4_summedBy_3 15 rfl rfl)
abbrev cX4_reckons : ByteArray := prog_19_method_46_code
def yX4_reckons : MethodName := ⟨RX4, "reckons", "(III)J"⟩
def dkwX4_reckons_5 : List UInt8 := [21, 5, 22, 9, 22, 7, 184, 1, 34, 182, 1, 26, 132, 4, 1, 167, 255, 132, 42, 182, 1, 30, 173]
abbrev dktX4_reckons_5 : List UInt8 := dkwX4_reckons_5 ++ []
def dkwX4_reckons_4 : List UInt8 := [182, 1, 30, 101, 182, 1, 26, 167, 0, 28, 42, 182, 1, 30, 55, 7, 42, 182, 1, 30, 55, 9, 42]
abbrev dktX4_reckons_4 : List UInt8 := dkwX4_reckons_4 ++ dktX4_reckons_5
def dkwX4_reckons_3 : List UInt8 := [42, 180, 0, 36, 21, 6, 47, 182, 1, 26, 167, 0, 48, 21, 5, 16, 11, 160, 0, 16, 42, 10, 42]
abbrev dktX4_reckons_3 : List UInt8 := dkwX4_reckons_3 ++ dktX4_reckons_4
def dkwX4_reckons_2 : List UInt8 := [54, 6, 21, 5, 154, 0, 13, 42, 21, 6, 133, 182, 1, 26, 167, 0, 68, 21, 5, 4, 160, 0, 17, 42]
abbrev dktX4_reckons_2 : List UInt8 := dkwX4_reckons_2 ++ dktX4_reckons_3
def dkwX4_reckons_1 : List UInt8 := [21, 4, 96, 46, 16, 15, 126, 54, 5, 42, 180, 0, 13, 17, 1, 144, 27, 104, 21, 4, 96, 46, 7, 122]
abbrev dktX4_reckons_1 : List UInt8 := dkwX4_reckons_1 ++ dktX4_reckons_2
def dkwX4_reckons_0 : List UInt8 := [42, 3, 181, 1, 23, 28, 54, 4, 21, 4, 29, 162, 0, 124, 42, 180, 0, 13, 17, 1, 144, 27, 104]
abbrev dktX4_reckons_0 : List UInt8 := dkwX4_reckons_0 ++ dktX4_reckons_1
theorem dksX4_reckons_0 : cX4_reckons.data.toList.drop 0 = dktX4_reckons_0 := by decide +kernel
theorem dksX4_reckons_1 : cX4_reckons.data.toList.drop 23 = dktX4_reckons_1 := dk_seg dksX4_reckons_0 23 rfl rfl
theorem dksX4_reckons_2 : cX4_reckons.data.toList.drop 47 = dktX4_reckons_2 := dk_seg dksX4_reckons_1 24 rfl rfl
theorem dksX4_reckons_3 : cX4_reckons.data.toList.drop 71 = dktX4_reckons_3 := dk_seg dksX4_reckons_2 24 rfl rfl
theorem dksX4_reckons_4 : cX4_reckons.data.toList.drop 94 = dktX4_reckons_4 := dk_seg dksX4_reckons_3 23 rfl rfl
theorem dksX4_reckons_5 : cX4_reckons.data.toList.drop 117 = dktX4_reckons_5 := dk_seg dksX4_reckons_4 23 rfl rfl
theorem dX4_reckons_0 : decode cX4_reckons 0 = .ok (.aload_n 0, 1) := dk_42 (dk_at dksX4_reckons_0 0 rfl rfl)
theorem dX4_reckons_1 : decode cX4_reckons 1 = .ok (.iconst 0, 1) := dk_3 (dk_at dksX4_reckons_0 1 rfl rfl)
theorem dX4_reckons_2 : decode cX4_reckons 2 = .ok (.putfield 279, 3) := dk_181 1 23 (dk_at dksX4_reckons_0 2 rfl rfl)
theorem dX4_reckons_5 : decode cX4_reckons 5 = .ok (.iload_n 2, 1) := dk_28 (dk_at dksX4_reckons_0 5 rfl rfl)
theorem dX4_reckons_6 : decode cX4_reckons 6 = .ok (.istore 4, 2) := dk_54 4 (dk_at dksX4_reckons_0 6 rfl rfl)
theorem dX4_reckons_8 : decode cX4_reckons 8 = .ok (.iload 4, 2) := dk_21 4 (dk_at dksX4_reckons_0 8 rfl rfl)
theorem dX4_reckons_10 : decode cX4_reckons 10 = .ok (.iload_n 3, 1) := dk_29 (dk_at dksX4_reckons_0 10 rfl rfl)
theorem dX4_reckons_11 : decode cX4_reckons 11 = .ok (.if_icmp .ge 124, 3) := dk_162 0 124 (dk_at dksX4_reckons_0 11 rfl rfl)
theorem dX4_reckons_14 : decode cX4_reckons 14 = .ok (.aload_n 0, 1) := dk_42 (dk_at dksX4_reckons_0 14 rfl rfl)
theorem dX4_reckons_15 : decode cX4_reckons 15 = .ok (.getfield 13, 3) := dk_180 0 13 (dk_at dksX4_reckons_0 15 rfl rfl)
theorem dX4_reckons_18 : decode cX4_reckons 18 = .ok (.sipush 400, 3) := dk_17 1 144 (dk_at dksX4_reckons_0 18 rfl rfl)
theorem dX4_reckons_21 : decode cX4_reckons 21 = .ok (.iload_n 1, 1) := dk_27 (dk_at dksX4_reckons_0 21 rfl rfl)
theorem dX4_reckons_22 : decode cX4_reckons 22 = .ok (.imul, 1) := dk_104 (dk_at dksX4_reckons_0 22 rfl rfl)
theorem dX4_reckons_23 : decode cX4_reckons 23 = .ok (.iload 4, 2) := dk_21 4 (dk_at dksX4_reckons_1 0 rfl rfl)
theorem dX4_reckons_25 : decode cX4_reckons 25 = .ok (.iadd, 1) := dk_96 (dk_at dksX4_reckons_1 2 rfl rfl)
theorem dX4_reckons_26 : decode cX4_reckons 26 = .ok (.iaload, 1) := dk_46 (dk_at dksX4_reckons_1 3 rfl rfl)
theorem dX4_reckons_27 : decode cX4_reckons 27 = .ok (.bipush 15, 2) := dk_16 15 (dk_at dksX4_reckons_1 4 rfl rfl)
theorem dX4_reckons_29 : decode cX4_reckons 29 = .ok (.iand, 1) := dk_126 (dk_at dksX4_reckons_1 6 rfl rfl)
theorem dX4_reckons_30 : decode cX4_reckons 30 = .ok (.istore 5, 2) := dk_54 5 (dk_at dksX4_reckons_1 7 rfl rfl)
theorem dX4_reckons_32 : decode cX4_reckons 32 = .ok (.aload_n 0, 1) := dk_42 (dk_at dksX4_reckons_1 9 rfl rfl)
theorem dX4_reckons_33 : decode cX4_reckons 33 = .ok (.getfield 13, 3) := dk_180 0 13 (dk_at dksX4_reckons_1 10 rfl rfl)
theorem dX4_reckons_36 : decode cX4_reckons 36 = .ok (.sipush 400, 3) := dk_17 1 144 (dk_at dksX4_reckons_1 13 rfl rfl)
theorem dX4_reckons_39 : decode cX4_reckons 39 = .ok (.iload_n 1, 1) := dk_27 (dk_at dksX4_reckons_1 16 rfl rfl)
theorem dX4_reckons_40 : decode cX4_reckons 40 = .ok (.imul, 1) := dk_104 (dk_at dksX4_reckons_1 17 rfl rfl)
theorem dX4_reckons_41 : decode cX4_reckons 41 = .ok (.iload 4, 2) := dk_21 4 (dk_at dksX4_reckons_1 18 rfl rfl)
theorem dX4_reckons_43 : decode cX4_reckons 43 = .ok (.iadd, 1) := dk_96 (dk_at dksX4_reckons_1 20 rfl rfl)
theorem dX4_reckons_44 : decode cX4_reckons 44 = .ok (.iaload, 1) := dk_46 (dk_at dksX4_reckons_1 21 rfl rfl)
theorem dX4_reckons_45 : decode cX4_reckons 45 = .ok (.iconst 4, 1) := dk_7 (dk_at dksX4_reckons_1 22 rfl rfl)
theorem dX4_reckons_46 : decode cX4_reckons 46 = .ok (.ishr, 1) := dk_122 (dk_at dksX4_reckons_1 23 rfl rfl)
theorem dX4_reckons_47 : decode cX4_reckons 47 = .ok (.istore 6, 2) := dk_54 6 (dk_at dksX4_reckons_2 0 rfl rfl)
theorem dX4_reckons_49 : decode cX4_reckons 49 = .ok (.iload 5, 2) := dk_21 5 (dk_at dksX4_reckons_2 2 rfl rfl)
theorem dX4_reckons_51 : decode cX4_reckons 51 = .ok (.ifCond .ne 13, 3) := dk_154 0 13 (dk_at dksX4_reckons_2 4 rfl rfl)
theorem dX4_reckons_54 : decode cX4_reckons 54 = .ok (.aload_n 0, 1) := dk_42 (dk_at dksX4_reckons_2 7 rfl rfl)
theorem dX4_reckons_55 : decode cX4_reckons 55 = .ok (.iload 6, 2) := dk_21 6 (dk_at dksX4_reckons_2 8 rfl rfl)
theorem dX4_reckons_57 : decode cX4_reckons 57 = .ok (.i2l, 1) := dk_133 (dk_at dksX4_reckons_2 10 rfl rfl)
theorem dX4_reckons_58 : decode cX4_reckons 58 = .ok (.invokevirtual 282, 3) := dk_182 1 26 (dk_at dksX4_reckons_2 11 rfl rfl)
theorem dX4_reckons_61 : decode cX4_reckons 61 = .ok (.goto 68, 3) := dk_167 0 68 (dk_at dksX4_reckons_2 14 rfl rfl)
theorem dX4_reckons_64 : decode cX4_reckons 64 = .ok (.iload 5, 2) := dk_21 5 (dk_at dksX4_reckons_2 17 rfl rfl)
theorem dX4_reckons_66 : decode cX4_reckons 66 = .ok (.iconst 1, 1) := dk_4 (dk_at dksX4_reckons_2 19 rfl rfl)
theorem dX4_reckons_67 : decode cX4_reckons 67 = .ok (.if_icmp .ne 17, 3) := dk_160 0 17 (dk_at dksX4_reckons_2 20 rfl rfl)
theorem dX4_reckons_70 : decode cX4_reckons 70 = .ok (.aload_n 0, 1) := dk_42 (dk_at dksX4_reckons_2 23 rfl rfl)
theorem dX4_reckons_71 : decode cX4_reckons 71 = .ok (.aload_n 0, 1) := dk_42 (dk_at dksX4_reckons_3 0 rfl rfl)
theorem dX4_reckons_72 : decode cX4_reckons 72 = .ok (.getfield 36, 3) := dk_180 0 36 (dk_at dksX4_reckons_3 1 rfl rfl)
theorem dX4_reckons_75 : decode cX4_reckons 75 = .ok (.iload 6, 2) := dk_21 6 (dk_at dksX4_reckons_3 4 rfl rfl)
theorem dX4_reckons_77 : decode cX4_reckons 77 = .ok (.laload, 1) := dk_47 (dk_at dksX4_reckons_3 6 rfl rfl)
theorem dX4_reckons_78 : decode cX4_reckons 78 = .ok (.invokevirtual 282, 3) := dk_182 1 26 (dk_at dksX4_reckons_3 7 rfl rfl)
theorem dX4_reckons_81 : decode cX4_reckons 81 = .ok (.goto 48, 3) := dk_167 0 48 (dk_at dksX4_reckons_3 10 rfl rfl)
theorem dX4_reckons_84 : decode cX4_reckons 84 = .ok (.iload 5, 2) := dk_21 5 (dk_at dksX4_reckons_3 13 rfl rfl)
theorem dX4_reckons_86 : decode cX4_reckons 86 = .ok (.bipush 11, 2) := dk_16 11 (dk_at dksX4_reckons_3 15 rfl rfl)
theorem dX4_reckons_88 : decode cX4_reckons 88 = .ok (.if_icmp .ne 16, 3) := dk_160 0 16 (dk_at dksX4_reckons_3 17 rfl rfl)
theorem dX4_reckons_91 : decode cX4_reckons 91 = .ok (.aload_n 0, 1) := dk_42 (dk_at dksX4_reckons_3 20 rfl rfl)
theorem dX4_reckons_92 : decode cX4_reckons 92 = .ok (.lconst 1, 1) := dk_10 (dk_at dksX4_reckons_3 21 rfl rfl)
theorem dX4_reckons_93 : decode cX4_reckons 93 = .ok (.aload_n 0, 1) := dk_42 (dk_at dksX4_reckons_3 22 rfl rfl)
theorem dX4_reckons_94 : decode cX4_reckons 94 = .ok (.invokevirtual 286, 3) := dk_182 1 30 (dk_at dksX4_reckons_4 0 rfl rfl)
theorem dX4_reckons_97 : decode cX4_reckons 97 = .ok (.lsub, 1) := dk_101 (dk_at dksX4_reckons_4 3 rfl rfl)
theorem dX4_reckons_98 : decode cX4_reckons 98 = .ok (.invokevirtual 282, 3) := dk_182 1 26 (dk_at dksX4_reckons_4 4 rfl rfl)
theorem dX4_reckons_101 : decode cX4_reckons 101 = .ok (.goto 28, 3) := dk_167 0 28 (dk_at dksX4_reckons_4 7 rfl rfl)
theorem dX4_reckons_104 : decode cX4_reckons 104 = .ok (.aload_n 0, 1) := dk_42 (dk_at dksX4_reckons_4 10 rfl rfl)
theorem dX4_reckons_105 : decode cX4_reckons 105 = .ok (.invokevirtual 286, 3) := dk_182 1 30 (dk_at dksX4_reckons_4 11 rfl rfl)
theorem dX4_reckons_108 : decode cX4_reckons 108 = .ok (.lstore 7, 2) := dk_55 7 (dk_at dksX4_reckons_4 14 rfl rfl)
theorem dX4_reckons_110 : decode cX4_reckons 110 = .ok (.aload_n 0, 1) := dk_42 (dk_at dksX4_reckons_4 16 rfl rfl)
theorem dX4_reckons_111 : decode cX4_reckons 111 = .ok (.invokevirtual 286, 3) := dk_182 1 30 (dk_at dksX4_reckons_4 17 rfl rfl)
theorem dX4_reckons_114 : decode cX4_reckons 114 = .ok (.lstore 9, 2) := dk_55 9 (dk_at dksX4_reckons_4 20 rfl rfl)
theorem dX4_reckons_116 : decode cX4_reckons 116 = .ok (.aload_n 0, 1) := dk_42 (dk_at dksX4_reckons_4 22 rfl rfl)
theorem dX4_reckons_117 : decode cX4_reckons 117 = .ok (.iload 5, 2) := dk_21 5 (dk_at dksX4_reckons_5 0 rfl rfl)
theorem dX4_reckons_119 : decode cX4_reckons 119 = .ok (.lload 9, 2) := dk_22 9 (dk_at dksX4_reckons_5 2 rfl rfl)
theorem dX4_reckons_121 : decode cX4_reckons 121 = .ok (.lload 7, 2) := dk_22 7 (dk_at dksX4_reckons_5 4 rfl rfl)
theorem dX4_reckons_123 : decode cX4_reckons 123 = .ok (.invokestatic 290, 3) := dk_184 1 34 (dk_at dksX4_reckons_5 6 rfl rfl)
theorem dX4_reckons_126 : decode cX4_reckons 126 = .ok (.invokevirtual 282, 3) := dk_182 1 26 (dk_at dksX4_reckons_5 9 rfl rfl)
theorem dX4_reckons_129 : decode cX4_reckons 129 = .ok (.iinc 4 1, 3) := dk_132 4 1 (dk_at dksX4_reckons_5 12 rfl rfl)
theorem dX4_reckons_132 : decode cX4_reckons 132 = .ok (.goto (-124), 3) := dk_167 255 132 (dk_at dksX4_reckons_5 15 rfl rfl)
theorem dX4_reckons_135 : decode cX4_reckons 135 = .ok (.aload_n 0, 1) := dk_42 (dk_at dksX4_reckons_5 18 rfl rfl)
theorem dX4_reckons_136 : decode cX4_reckons 136 = .ok (.invokevirtual 286, 3) := dk_182 1 30 (dk_at dksX4_reckons_5 19 rfl rfl)
theorem dX4_reckons_139 : decode cX4_reckons 139 = .ok (.lreturn, 1) := dk_173 (dk_at dksX4_reckons_5 22 rfl rfl)
abbrev cX4_push : ByteArray := prog_19_method_43_code
def yX4_push : MethodName := ⟨RX4, "push", "(J)V"⟩
def dkwX4_push_0 : List UInt8 := [42, 180, 0, 32, 42, 180, 1, 23, 31, 80, 42, 89, 180, 1, 23, 4, 96, 181, 1, 23, 177]
abbrev dktX4_push_0 : List UInt8 := dkwX4_push_0 ++ []
theorem dksX4_push_0 : cX4_push.data.toList.drop 0 = dktX4_push_0 := by decide +kernel
theorem dX4_push_0 : decode cX4_push 0 = .ok (.aload_n 0, 1) := dk_42 (dk_at dksX4_push_0 0 rfl rfl)
theorem dX4_push_1 : decode cX4_push 1 = .ok (.getfield 32, 3) := dk_180 0 32 (dk_at dksX4_push_0 1 rfl rfl)
theorem dX4_push_4 : decode cX4_push 4 = .ok (.aload_n 0, 1) := dk_42 (dk_at dksX4_push_0 4 rfl rfl)
theorem dX4_push_5 : decode cX4_push 5 = .ok (.getfield 279, 3) := dk_180 1 23 (dk_at dksX4_push_0 5 rfl rfl)
theorem dX4_push_8 : decode cX4_push 8 = .ok (.lload_n 1, 1) := dk_31 (dk_at dksX4_push_0 8 rfl rfl)
theorem dX4_push_9 : decode cX4_push 9 = .ok (.lastore, 1) := dk_80 (dk_at dksX4_push_0 9 rfl rfl)
theorem dX4_push_10 : decode cX4_push 10 = .ok (.aload_n 0, 1) := dk_42 (dk_at dksX4_push_0 10 rfl rfl)
theorem dX4_push_11 : decode cX4_push 11 = .ok (.dup, 1) := dk_89 (dk_at dksX4_push_0 11 rfl rfl)
theorem dX4_push_12 : decode cX4_push 12 = .ok (.getfield 279, 3) := dk_180 1 23 (dk_at dksX4_push_0 12 rfl rfl)
theorem dX4_push_15 : decode cX4_push 15 = .ok (.iconst 1, 1) := dk_4 (dk_at dksX4_push_0 15 rfl rfl)
theorem dX4_push_16 : decode cX4_push 16 = .ok (.iadd, 1) := dk_96 (dk_at dksX4_push_0 16 rfl rfl)
theorem dX4_push_17 : decode cX4_push 17 = .ok (.putfield 279, 3) := dk_181 1 23 (dk_at dksX4_push_0 17 rfl rfl)
theorem dX4_push_20 : decode cX4_push 20 = .ok (.return_, 1) := dk_177 (dk_at dksX4_push_0 20 rfl rfl)
abbrev cX4_pop : ByteArray := prog_19_method_44_code
def yX4_pop : MethodName := ⟨RX4, "pop", "()J"⟩
def dkwX4_pop_0 : List UInt8 := [42, 89, 180, 1, 23, 4, 100, 181, 1, 23, 42, 180, 0, 32, 42, 180, 1, 23, 47, 173]
abbrev dktX4_pop_0 : List UInt8 := dkwX4_pop_0 ++ []
theorem dksX4_pop_0 : cX4_pop.data.toList.drop 0 = dktX4_pop_0 := by decide +kernel
theorem dX4_pop_0 : decode cX4_pop 0 = .ok (.aload_n 0, 1) := dk_42 (dk_at dksX4_pop_0 0 rfl rfl)
theorem dX4_pop_1 : decode cX4_pop 1 = .ok (.dup, 1) := dk_89 (dk_at dksX4_pop_0 1 rfl rfl)
theorem dX4_pop_2 : decode cX4_pop 2 = .ok (.getfield 279, 3) := dk_180 1 23 (dk_at dksX4_pop_0 2 rfl rfl)
theorem dX4_pop_5 : decode cX4_pop 5 = .ok (.iconst 1, 1) := dk_4 (dk_at dksX4_pop_0 5 rfl rfl)
theorem dX4_pop_6 : decode cX4_pop 6 = .ok (.isub, 1) := dk_100 (dk_at dksX4_pop_0 6 rfl rfl)
theorem dX4_pop_7 : decode cX4_pop 7 = .ok (.putfield 279, 3) := dk_181 1 23 (dk_at dksX4_pop_0 7 rfl rfl)
theorem dX4_pop_10 : decode cX4_pop 10 = .ok (.aload_n 0, 1) := dk_42 (dk_at dksX4_pop_0 10 rfl rfl)
theorem dX4_pop_11 : decode cX4_pop 11 = .ok (.getfield 32, 3) := dk_180 0 32 (dk_at dksX4_pop_0 11 rfl rfl)
theorem dX4_pop_14 : decode cX4_pop 14 = .ok (.aload_n 0, 1) := dk_42 (dk_at dksX4_pop_0 14 rfl rfl)
theorem dX4_pop_15 : decode cX4_pop 15 = .ok (.getfield 279, 3) := dk_180 1 23 (dk_at dksX4_pop_0 15 rfl rfl)
theorem dX4_pop_18 : decode cX4_pop 18 = .ok (.laload, 1) := dk_47 (dk_at dksX4_pop_0 18 rfl rfl)
theorem dX4_pop_19 : decode cX4_pop 19 = .ok (.lreturn, 1) := dk_173 (dk_at dksX4_pop_0 19 rfl rfl)
abbrev cX4_one : ByteArray := prog_19_method_45_code
def yX4_one : MethodName := ⟨RX4, "one", "(IJJ)J"⟩
def dkwX4_one_6 : List UInt8 := [167, 0, 4, 9, 173, 31, 33, 127, 173, 31, 33, 129, 173]
abbrev dktX4_one_6 : List UInt8 := dkwX4_one_6 ++ []
def dkwX4_one_5 : List UInt8 := [167, 0, 4, 9, 173, 31, 33, 148, 155, 0, 7, 10, 167, 0, 4, 9, 173, 31, 33, 148, 158, 0, 7, 10]
abbrev dktX4_one_5 : List UInt8 := dkwX4_one_5 ++ dktX4_one_6
def dkwX4_one_4 : List UInt8 := [167, 0, 4, 9, 173, 31, 33, 148, 157, 0, 7, 10, 167, 0, 4, 9, 173, 31, 33, 148, 154, 0, 7, 10]
abbrev dktX4_one_4 : List UInt8 := dkwX4_one_4 ++ dktX4_one_5
def dkwX4_one_3 : List UInt8 := [109, 173, 33, 9, 148, 154, 0, 7, 9, 167, 0, 6, 31, 33, 113, 173, 31, 33, 148, 156, 0, 7, 10]
abbrev dktX4_one_3 : List UInt8 := dkwX4_one_3 ++ dktX4_one_4
def dkwX4_one_2 : List UInt8 := [31, 33, 97, 173, 31, 33, 101, 173, 31, 33, 105, 173, 33, 9, 148, 154, 0, 7, 9, 167, 0, 6, 31, 33]
abbrev dktX4_one_2 : List UInt8 := dkwX4_one_2 ++ dktX4_one_3
def dkwX4_one_1 : List UInt8 := [170, 0, 0, 0, 0, 0, 171, 0, 0, 0, 2, 0, 0, 0, 14, 0, 0, 0, 67, 0, 0, 0, 71, 0, 0, 0, 75, 0, 0, 0, 79, 0, 0, 0, 107, 0, 0, 0, 119, 0, 0, 0, 131, 0, 0, 0, 143, 0, 0, 0, 155, 0, 0, 0, 171, 0, 0, 0, 167, 0, 0, 0, 171, 0, 0, 0, 93]
abbrev dktX4_one_1 : List UInt8 := dkwX4_one_1 ++ dktX4_one_2
def dkwX4_one_0 : List UInt8 := [26]
abbrev dktX4_one_0 : List UInt8 := dkwX4_one_0 ++ dktX4_one_1
theorem dksX4_one_0 : cX4_one.data.toList.drop 0 = dktX4_one_0 := by decide +kernel
theorem dksX4_one_1 : cX4_one.data.toList.drop 1 = dktX4_one_1 := dk_seg dksX4_one_0 1 rfl rfl
theorem dksX4_one_2 : cX4_one.data.toList.drop 68 = dktX4_one_2 := dk_seg dksX4_one_1 67 rfl rfl
theorem dksX4_one_3 : cX4_one.data.toList.drop 92 = dktX4_one_3 := dk_seg dksX4_one_2 24 rfl rfl
theorem dksX4_one_4 : cX4_one.data.toList.drop 115 = dktX4_one_4 := dk_seg dksX4_one_3 23 rfl rfl
theorem dksX4_one_5 : cX4_one.data.toList.drop 139 = dktX4_one_5 := dk_seg dksX4_one_4 24 rfl rfl
theorem dksX4_one_6 : cX4_one.data.toList.drop 163 = dktX4_one_6 := dk_seg dksX4_one_5 24 rfl rfl
theorem dX4_one_0 : decode cX4_one 0 = .ok (.iload_n 0, 1) := dk_26 (dk_at dksX4_one_0 0 rfl rfl)
theorem dX4_one_1 : decode cX4_one 1 = .ok (.tableswitch 171 2 14 #[67, 71, 75, 79, 107, 119, 131, 143, 155, 171, 167, 171, 93], 67) := by decide +kernel
theorem dX4_one_68 : decode cX4_one 68 = .ok (.lload_n 1, 1) := dk_31 (dk_at dksX4_one_2 0 rfl rfl)
theorem dX4_one_69 : decode cX4_one 69 = .ok (.lload_n 3, 1) := dk_33 (dk_at dksX4_one_2 1 rfl rfl)
theorem dX4_one_70 : decode cX4_one 70 = .ok (.ladd, 1) := dk_97 (dk_at dksX4_one_2 2 rfl rfl)
theorem dX4_one_71 : decode cX4_one 71 = .ok (.lreturn, 1) := dk_173 (dk_at dksX4_one_2 3 rfl rfl)
theorem dX4_one_72 : decode cX4_one 72 = .ok (.lload_n 1, 1) := dk_31 (dk_at dksX4_one_2 4 rfl rfl)
theorem dX4_one_73 : decode cX4_one 73 = .ok (.lload_n 3, 1) := dk_33 (dk_at dksX4_one_2 5 rfl rfl)
theorem dX4_one_74 : decode cX4_one 74 = .ok (.lsub, 1) := dk_101 (dk_at dksX4_one_2 6 rfl rfl)
theorem dX4_one_75 : decode cX4_one 75 = .ok (.lreturn, 1) := dk_173 (dk_at dksX4_one_2 7 rfl rfl)
theorem dX4_one_76 : decode cX4_one 76 = .ok (.lload_n 1, 1) := dk_31 (dk_at dksX4_one_2 8 rfl rfl)
theorem dX4_one_77 : decode cX4_one 77 = .ok (.lload_n 3, 1) := dk_33 (dk_at dksX4_one_2 9 rfl rfl)
theorem dX4_one_78 : decode cX4_one 78 = .ok (.lmul, 1) := dk_105 (dk_at dksX4_one_2 10 rfl rfl)
theorem dX4_one_79 : decode cX4_one 79 = .ok (.lreturn, 1) := dk_173 (dk_at dksX4_one_2 11 rfl rfl)
theorem dX4_one_80 : decode cX4_one 80 = .ok (.lload_n 3, 1) := dk_33 (dk_at dksX4_one_2 12 rfl rfl)
theorem dX4_one_81 : decode cX4_one 81 = .ok (.lconst 0, 1) := dk_9 (dk_at dksX4_one_2 13 rfl rfl)
theorem dX4_one_82 : decode cX4_one 82 = .ok (.lcmp, 1) := dk_148 (dk_at dksX4_one_2 14 rfl rfl)
theorem dX4_one_83 : decode cX4_one 83 = .ok (.ifCond .ne 7, 3) := dk_154 0 7 (dk_at dksX4_one_2 15 rfl rfl)
theorem dX4_one_86 : decode cX4_one 86 = .ok (.lconst 0, 1) := dk_9 (dk_at dksX4_one_2 18 rfl rfl)
theorem dX4_one_87 : decode cX4_one 87 = .ok (.goto 6, 3) := dk_167 0 6 (dk_at dksX4_one_2 19 rfl rfl)
theorem dX4_one_90 : decode cX4_one 90 = .ok (.lload_n 1, 1) := dk_31 (dk_at dksX4_one_2 22 rfl rfl)
theorem dX4_one_91 : decode cX4_one 91 = .ok (.lload_n 3, 1) := dk_33 (dk_at dksX4_one_2 23 rfl rfl)
theorem dX4_one_92 : decode cX4_one 92 = .ok (.ldiv, 1) := dk_109 (dk_at dksX4_one_3 0 rfl rfl)
theorem dX4_one_93 : decode cX4_one 93 = .ok (.lreturn, 1) := dk_173 (dk_at dksX4_one_3 1 rfl rfl)
theorem dX4_one_94 : decode cX4_one 94 = .ok (.lload_n 3, 1) := dk_33 (dk_at dksX4_one_3 2 rfl rfl)
theorem dX4_one_95 : decode cX4_one 95 = .ok (.lconst 0, 1) := dk_9 (dk_at dksX4_one_3 3 rfl rfl)
theorem dX4_one_96 : decode cX4_one 96 = .ok (.lcmp, 1) := dk_148 (dk_at dksX4_one_3 4 rfl rfl)
theorem dX4_one_97 : decode cX4_one 97 = .ok (.ifCond .ne 7, 3) := dk_154 0 7 (dk_at dksX4_one_3 5 rfl rfl)
theorem dX4_one_100 : decode cX4_one 100 = .ok (.lconst 0, 1) := dk_9 (dk_at dksX4_one_3 8 rfl rfl)
theorem dX4_one_101 : decode cX4_one 101 = .ok (.goto 6, 3) := dk_167 0 6 (dk_at dksX4_one_3 9 rfl rfl)
theorem dX4_one_104 : decode cX4_one 104 = .ok (.lload_n 1, 1) := dk_31 (dk_at dksX4_one_3 12 rfl rfl)
theorem dX4_one_105 : decode cX4_one 105 = .ok (.lload_n 3, 1) := dk_33 (dk_at dksX4_one_3 13 rfl rfl)
theorem dX4_one_106 : decode cX4_one 106 = .ok (.lrem, 1) := dk_113 (dk_at dksX4_one_3 14 rfl rfl)
theorem dX4_one_107 : decode cX4_one 107 = .ok (.lreturn, 1) := dk_173 (dk_at dksX4_one_3 15 rfl rfl)
theorem dX4_one_108 : decode cX4_one 108 = .ok (.lload_n 1, 1) := dk_31 (dk_at dksX4_one_3 16 rfl rfl)
theorem dX4_one_109 : decode cX4_one 109 = .ok (.lload_n 3, 1) := dk_33 (dk_at dksX4_one_3 17 rfl rfl)
theorem dX4_one_110 : decode cX4_one 110 = .ok (.lcmp, 1) := dk_148 (dk_at dksX4_one_3 18 rfl rfl)
theorem dX4_one_111 : decode cX4_one 111 = .ok (.ifCond .ge 7, 3) := dk_156 0 7 (dk_at dksX4_one_3 19 rfl rfl)
theorem dX4_one_114 : decode cX4_one 114 = .ok (.lconst 1, 1) := dk_10 (dk_at dksX4_one_3 22 rfl rfl)
theorem dX4_one_115 : decode cX4_one 115 = .ok (.goto 4, 3) := dk_167 0 4 (dk_at dksX4_one_4 0 rfl rfl)
theorem dX4_one_118 : decode cX4_one 118 = .ok (.lconst 0, 1) := dk_9 (dk_at dksX4_one_4 3 rfl rfl)
theorem dX4_one_119 : decode cX4_one 119 = .ok (.lreturn, 1) := dk_173 (dk_at dksX4_one_4 4 rfl rfl)
theorem dX4_one_120 : decode cX4_one 120 = .ok (.lload_n 1, 1) := dk_31 (dk_at dksX4_one_4 5 rfl rfl)
theorem dX4_one_121 : decode cX4_one 121 = .ok (.lload_n 3, 1) := dk_33 (dk_at dksX4_one_4 6 rfl rfl)
theorem dX4_one_122 : decode cX4_one 122 = .ok (.lcmp, 1) := dk_148 (dk_at dksX4_one_4 7 rfl rfl)
theorem dX4_one_123 : decode cX4_one 123 = .ok (.ifCond .gt 7, 3) := dk_157 0 7 (dk_at dksX4_one_4 8 rfl rfl)
theorem dX4_one_126 : decode cX4_one 126 = .ok (.lconst 1, 1) := dk_10 (dk_at dksX4_one_4 11 rfl rfl)
theorem dX4_one_127 : decode cX4_one 127 = .ok (.goto 4, 3) := dk_167 0 4 (dk_at dksX4_one_4 12 rfl rfl)
theorem dX4_one_130 : decode cX4_one 130 = .ok (.lconst 0, 1) := dk_9 (dk_at dksX4_one_4 15 rfl rfl)
theorem dX4_one_131 : decode cX4_one 131 = .ok (.lreturn, 1) := dk_173 (dk_at dksX4_one_4 16 rfl rfl)
theorem dX4_one_132 : decode cX4_one 132 = .ok (.lload_n 1, 1) := dk_31 (dk_at dksX4_one_4 17 rfl rfl)
theorem dX4_one_133 : decode cX4_one 133 = .ok (.lload_n 3, 1) := dk_33 (dk_at dksX4_one_4 18 rfl rfl)
theorem dX4_one_134 : decode cX4_one 134 = .ok (.lcmp, 1) := dk_148 (dk_at dksX4_one_4 19 rfl rfl)
theorem dX4_one_135 : decode cX4_one 135 = .ok (.ifCond .ne 7, 3) := dk_154 0 7 (dk_at dksX4_one_4 20 rfl rfl)
theorem dX4_one_138 : decode cX4_one 138 = .ok (.lconst 1, 1) := dk_10 (dk_at dksX4_one_4 23 rfl rfl)
theorem dX4_one_139 : decode cX4_one 139 = .ok (.goto 4, 3) := dk_167 0 4 (dk_at dksX4_one_5 0 rfl rfl)
theorem dX4_one_142 : decode cX4_one 142 = .ok (.lconst 0, 1) := dk_9 (dk_at dksX4_one_5 3 rfl rfl)
theorem dX4_one_143 : decode cX4_one 143 = .ok (.lreturn, 1) := dk_173 (dk_at dksX4_one_5 4 rfl rfl)
theorem dX4_one_144 : decode cX4_one 144 = .ok (.lload_n 1, 1) := dk_31 (dk_at dksX4_one_5 5 rfl rfl)
theorem dX4_one_145 : decode cX4_one 145 = .ok (.lload_n 3, 1) := dk_33 (dk_at dksX4_one_5 6 rfl rfl)
theorem dX4_one_146 : decode cX4_one 146 = .ok (.lcmp, 1) := dk_148 (dk_at dksX4_one_5 7 rfl rfl)
theorem dX4_one_147 : decode cX4_one 147 = .ok (.ifCond .lt 7, 3) := dk_155 0 7 (dk_at dksX4_one_5 8 rfl rfl)
theorem dX4_one_150 : decode cX4_one 150 = .ok (.lconst 1, 1) := dk_10 (dk_at dksX4_one_5 11 rfl rfl)
theorem dX4_one_151 : decode cX4_one 151 = .ok (.goto 4, 3) := dk_167 0 4 (dk_at dksX4_one_5 12 rfl rfl)
theorem dX4_one_154 : decode cX4_one 154 = .ok (.lconst 0, 1) := dk_9 (dk_at dksX4_one_5 15 rfl rfl)
theorem dX4_one_155 : decode cX4_one 155 = .ok (.lreturn, 1) := dk_173 (dk_at dksX4_one_5 16 rfl rfl)
theorem dX4_one_156 : decode cX4_one 156 = .ok (.lload_n 1, 1) := dk_31 (dk_at dksX4_one_5 17 rfl rfl)
theorem dX4_one_157 : decode cX4_one 157 = .ok (.lload_n 3, 1) := dk_33 (dk_at dksX4_one_5 18 rfl rfl)
theorem dX4_one_158 : decode cX4_one 158 = .ok (.lcmp, 1) := dk_148 (dk_at dksX4_one_5 19 rfl rfl)
theorem dX4_one_159 : decode cX4_one 159 = .ok (.ifCond .le 7, 3) := dk_158 0 7 (dk_at dksX4_one_5 20 rfl rfl)
theorem dX4_one_162 : decode cX4_one 162 = .ok (.lconst 1, 1) := dk_10 (dk_at dksX4_one_5 23 rfl rfl)
theorem dX4_one_163 : decode cX4_one 163 = .ok (.goto 4, 3) := dk_167 0 4 (dk_at dksX4_one_6 0 rfl rfl)
theorem dX4_one_166 : decode cX4_one 166 = .ok (.lconst 0, 1) := dk_9 (dk_at dksX4_one_6 3 rfl rfl)
theorem dX4_one_167 : decode cX4_one 167 = .ok (.lreturn, 1) := dk_173 (dk_at dksX4_one_6 4 rfl rfl)
theorem dX4_one_168 : decode cX4_one 168 = .ok (.lload_n 1, 1) := dk_31 (dk_at dksX4_one_6 5 rfl rfl)
theorem dX4_one_169 : decode cX4_one 169 = .ok (.lload_n 3, 1) := dk_33 (dk_at dksX4_one_6 6 rfl rfl)
theorem dX4_one_170 : decode cX4_one 170 = .ok (.land, 1) := dk_127 (dk_at dksX4_one_6 7 rfl rfl)
theorem dX4_one_171 : decode cX4_one 171 = .ok (.lreturn, 1) := dk_173 (dk_at dksX4_one_6 8 rfl rfl)
theorem dX4_one_172 : decode cX4_one 172 = .ok (.lload_n 1, 1) := dk_31 (dk_at dksX4_one_6 9 rfl rfl)
theorem dX4_one_173 : decode cX4_one 173 = .ok (.lload_n 3, 1) := dk_33 (dk_at dksX4_one_6 10 rfl rfl)
theorem dX4_one_174 : decode cX4_one 174 = .ok (.lor, 1) := dk_129 (dk_at dksX4_one_6 11 rfl rfl)
theorem dX4_one_175 : decode cX4_one 175 = .ok (.lreturn, 1) := dk_173 (dk_at dksX4_one_6 12 rfl rfl)
abbrev cX4_goes : ByteArray := prog_19_method_68_code
def yX4_goes : MethodName := ⟨RX4, "goes", "(I)I"⟩
def dkwX4_goes_2 : List UInt8 := [180, 0, 39, 16, 11, 8, 27, 104, 96, 5, 96, 92, 46, 28, 96, 79, 28, 172]
abbrev dktX4_goes_2 : List UInt8 := dkwX4_goes_2 ++ []
def dkwX4_goes_1 : List UInt8 := [180, 0, 39, 5, 46, 61, 42, 180, 0, 39, 16, 11, 8, 27, 104, 96, 92, 46, 28, 100, 79, 42]
abbrev dktX4_goes_1 : List UInt8 := dkwX4_goes_1 ++ dktX4_goes_2
def dkwX4_goes_0 : List UInt8 := [42, 27, 182, 1, 56, 42, 180, 0, 39, 5, 46, 162, 0, 11, 42, 27, 182, 1, 56, 167, 0, 9, 42]
abbrev dktX4_goes_0 : List UInt8 := dkwX4_goes_0 ++ dktX4_goes_1
theorem dksX4_goes_0 : cX4_goes.data.toList.drop 0 = dktX4_goes_0 := by decide +kernel
theorem dksX4_goes_1 : cX4_goes.data.toList.drop 23 = dktX4_goes_1 := dk_seg dksX4_goes_0 23 rfl rfl
theorem dksX4_goes_2 : cX4_goes.data.toList.drop 45 = dktX4_goes_2 := dk_seg dksX4_goes_1 22 rfl rfl
theorem dX4_goes_0 : decode cX4_goes 0 = .ok (.aload_n 0, 1) := dk_42 (dk_at dksX4_goes_0 0 rfl rfl)
theorem dX4_goes_1 : decode cX4_goes 1 = .ok (.iload_n 1, 1) := dk_27 (dk_at dksX4_goes_0 1 rfl rfl)
theorem dX4_goes_2 : decode cX4_goes 2 = .ok (.invokevirtual 312, 3) := dk_182 1 56 (dk_at dksX4_goes_0 2 rfl rfl)
theorem dX4_goes_5 : decode cX4_goes 5 = .ok (.aload_n 0, 1) := dk_42 (dk_at dksX4_goes_0 5 rfl rfl)
theorem dX4_goes_6 : decode cX4_goes 6 = .ok (.getfield 39, 3) := dk_180 0 39 (dk_at dksX4_goes_0 6 rfl rfl)
theorem dX4_goes_9 : decode cX4_goes 9 = .ok (.iconst 2, 1) := dk_5 (dk_at dksX4_goes_0 9 rfl rfl)
theorem dX4_goes_10 : decode cX4_goes 10 = .ok (.iaload, 1) := dk_46 (dk_at dksX4_goes_0 10 rfl rfl)
theorem dX4_goes_11 : decode cX4_goes 11 = .ok (.if_icmp .ge 11, 3) := dk_162 0 11 (dk_at dksX4_goes_0 11 rfl rfl)
theorem dX4_goes_14 : decode cX4_goes 14 = .ok (.aload_n 0, 1) := dk_42 (dk_at dksX4_goes_0 14 rfl rfl)
theorem dX4_goes_15 : decode cX4_goes 15 = .ok (.iload_n 1, 1) := dk_27 (dk_at dksX4_goes_0 15 rfl rfl)
theorem dX4_goes_16 : decode cX4_goes 16 = .ok (.invokevirtual 312, 3) := dk_182 1 56 (dk_at dksX4_goes_0 16 rfl rfl)
theorem dX4_goes_19 : decode cX4_goes 19 = .ok (.goto 9, 3) := dk_167 0 9 (dk_at dksX4_goes_0 19 rfl rfl)
theorem dX4_goes_22 : decode cX4_goes 22 = .ok (.aload_n 0, 1) := dk_42 (dk_at dksX4_goes_0 22 rfl rfl)
theorem dX4_goes_23 : decode cX4_goes 23 = .ok (.getfield 39, 3) := dk_180 0 39 (dk_at dksX4_goes_1 0 rfl rfl)
theorem dX4_goes_26 : decode cX4_goes 26 = .ok (.iconst 2, 1) := dk_5 (dk_at dksX4_goes_1 3 rfl rfl)
theorem dX4_goes_27 : decode cX4_goes 27 = .ok (.iaload, 1) := dk_46 (dk_at dksX4_goes_1 4 rfl rfl)
theorem dX4_goes_28 : decode cX4_goes 28 = .ok (.istore_n 2, 1) := dk_61 (dk_at dksX4_goes_1 5 rfl rfl)
theorem dX4_goes_29 : decode cX4_goes 29 = .ok (.aload_n 0, 1) := dk_42 (dk_at dksX4_goes_1 6 rfl rfl)
theorem dX4_goes_30 : decode cX4_goes 30 = .ok (.getfield 39, 3) := dk_180 0 39 (dk_at dksX4_goes_1 7 rfl rfl)
theorem dX4_goes_33 : decode cX4_goes 33 = .ok (.bipush 11, 2) := dk_16 11 (dk_at dksX4_goes_1 10 rfl rfl)
theorem dX4_goes_35 : decode cX4_goes 35 = .ok (.iconst 5, 1) := dk_8 (dk_at dksX4_goes_1 12 rfl rfl)
theorem dX4_goes_36 : decode cX4_goes 36 = .ok (.iload_n 1, 1) := dk_27 (dk_at dksX4_goes_1 13 rfl rfl)
theorem dX4_goes_37 : decode cX4_goes 37 = .ok (.imul, 1) := dk_104 (dk_at dksX4_goes_1 14 rfl rfl)
theorem dX4_goes_38 : decode cX4_goes 38 = .ok (.iadd, 1) := dk_96 (dk_at dksX4_goes_1 15 rfl rfl)
theorem dX4_goes_39 : decode cX4_goes 39 = .ok (.dup2, 1) := dk_92 (dk_at dksX4_goes_1 16 rfl rfl)
theorem dX4_goes_40 : decode cX4_goes 40 = .ok (.iaload, 1) := dk_46 (dk_at dksX4_goes_1 17 rfl rfl)
theorem dX4_goes_41 : decode cX4_goes 41 = .ok (.iload_n 2, 1) := dk_28 (dk_at dksX4_goes_1 18 rfl rfl)
theorem dX4_goes_42 : decode cX4_goes 42 = .ok (.isub, 1) := dk_100 (dk_at dksX4_goes_1 19 rfl rfl)
theorem dX4_goes_43 : decode cX4_goes 43 = .ok (.iastore, 1) := dk_79 (dk_at dksX4_goes_1 20 rfl rfl)
theorem dX4_goes_44 : decode cX4_goes 44 = .ok (.aload_n 0, 1) := dk_42 (dk_at dksX4_goes_1 21 rfl rfl)
theorem dX4_goes_45 : decode cX4_goes 45 = .ok (.getfield 39, 3) := dk_180 0 39 (dk_at dksX4_goes_2 0 rfl rfl)
theorem dX4_goes_48 : decode cX4_goes 48 = .ok (.bipush 11, 2) := dk_16 11 (dk_at dksX4_goes_2 3 rfl rfl)
theorem dX4_goes_50 : decode cX4_goes 50 = .ok (.iconst 5, 1) := dk_8 (dk_at dksX4_goes_2 5 rfl rfl)
theorem dX4_goes_51 : decode cX4_goes 51 = .ok (.iload_n 1, 1) := dk_27 (dk_at dksX4_goes_2 6 rfl rfl)
theorem dX4_goes_52 : decode cX4_goes 52 = .ok (.imul, 1) := dk_104 (dk_at dksX4_goes_2 7 rfl rfl)
theorem dX4_goes_53 : decode cX4_goes 53 = .ok (.iadd, 1) := dk_96 (dk_at dksX4_goes_2 8 rfl rfl)
theorem dX4_goes_54 : decode cX4_goes 54 = .ok (.iconst 2, 1) := dk_5 (dk_at dksX4_goes_2 9 rfl rfl)
theorem dX4_goes_55 : decode cX4_goes 55 = .ok (.iadd, 1) := dk_96 (dk_at dksX4_goes_2 10 rfl rfl)
theorem dX4_goes_56 : decode cX4_goes 56 = .ok (.dup2, 1) := dk_92 (dk_at dksX4_goes_2 11 rfl rfl)
theorem dX4_goes_57 : decode cX4_goes 57 = .ok (.iaload, 1) := dk_46 (dk_at dksX4_goes_2 12 rfl rfl)
theorem dX4_goes_58 : decode cX4_goes 58 = .ok (.iload_n 2, 1) := dk_28 (dk_at dksX4_goes_2 13 rfl rfl)
theorem dX4_goes_59 : decode cX4_goes 59 = .ok (.iadd, 1) := dk_96 (dk_at dksX4_goes_2 14 rfl rfl)
theorem dX4_goes_60 : decode cX4_goes 60 = .ok (.iastore, 1) := dk_79 (dk_at dksX4_goes_2 15 rfl rfl)
theorem dX4_goes_61 : decode cX4_goes 61 = .ok (.iload_n 2, 1) := dk_28 (dk_at dksX4_goes_2 16 rfl rfl)
theorem dX4_goes_62 : decode cX4_goes 62 = .ok (.ireturn, 1) := dk_172 (dk_at dksX4_goes_2 17 rfl rfl)
abbrev cX4_sounds : ByteArray := prog_19_method_69_code
def yX4_sounds : MethodName := ⟨RX4, "sounds", "()V"⟩
def dkwX4_sounds_3 : List UInt8 := [28, 17, 216, 241, 162, 0, 9, 17, 216, 241, 167, 0, 4, 28, 79, 177]
abbrev dktX4_sounds_3 : List UInt8 := dkwX4_sounds_3 ++ []
def dkwX4_sounds_2 : List UInt8 := [182, 1, 81, 96, 61, 42, 180, 0, 39, 16, 53, 28, 17, 39, 15, 164, 0, 9, 17, 39, 15, 167, 0, 17]
abbrev dktX4_sounds_2 : List UInt8 := dkwX4_sounds_2 ++ dktX4_sounds_3
def dkwX4_sounds_1 : List UInt8 := [4, 28, 120, 167, 0, 4, 3, 128, 60, 132, 2, 1, 167, 255, 224, 42, 180, 0, 39, 16, 53, 46, 42, 27]
abbrev dktX4_sounds_1 : List UInt8 := dkwX4_sounds_1 ++ dktX4_sounds_2
def dkwX4_sounds_0 : List UInt8 := [3, 60, 3, 61, 28, 42, 180, 0, 39, 6, 46, 162, 0, 28, 27, 42, 180, 0, 52, 28, 46, 158, 0, 9]
abbrev dktX4_sounds_0 : List UInt8 := dkwX4_sounds_0 ++ dktX4_sounds_1
theorem dksX4_sounds_0 : cX4_sounds.data.toList.drop 0 = dktX4_sounds_0 := by decide +kernel
theorem dksX4_sounds_1 : cX4_sounds.data.toList.drop 24 = dktX4_sounds_1 := dk_seg dksX4_sounds_0 24 rfl rfl
theorem dksX4_sounds_2 : cX4_sounds.data.toList.drop 48 = dktX4_sounds_2 := dk_seg dksX4_sounds_1 24 rfl rfl
theorem dksX4_sounds_3 : cX4_sounds.data.toList.drop 72 = dktX4_sounds_3 := dk_seg dksX4_sounds_2 24 rfl rfl
theorem dX4_sounds_0 : decode cX4_sounds 0 = .ok (.iconst 0, 1) := dk_3 (dk_at dksX4_sounds_0 0 rfl rfl)
theorem dX4_sounds_1 : decode cX4_sounds 1 = .ok (.istore_n 1, 1) := dk_60 (dk_at dksX4_sounds_0 1 rfl rfl)
theorem dX4_sounds_2 : decode cX4_sounds 2 = .ok (.iconst 0, 1) := dk_3 (dk_at dksX4_sounds_0 2 rfl rfl)
theorem dX4_sounds_3 : decode cX4_sounds 3 = .ok (.istore_n 2, 1) := dk_61 (dk_at dksX4_sounds_0 3 rfl rfl)
theorem dX4_sounds_4 : decode cX4_sounds 4 = .ok (.iload_n 2, 1) := dk_28 (dk_at dksX4_sounds_0 4 rfl rfl)
theorem dX4_sounds_5 : decode cX4_sounds 5 = .ok (.aload_n 0, 1) := dk_42 (dk_at dksX4_sounds_0 5 rfl rfl)
theorem dX4_sounds_6 : decode cX4_sounds 6 = .ok (.getfield 39, 3) := dk_180 0 39 (dk_at dksX4_sounds_0 6 rfl rfl)
theorem dX4_sounds_9 : decode cX4_sounds 9 = .ok (.iconst 3, 1) := dk_6 (dk_at dksX4_sounds_0 9 rfl rfl)
theorem dX4_sounds_10 : decode cX4_sounds 10 = .ok (.iaload, 1) := dk_46 (dk_at dksX4_sounds_0 10 rfl rfl)
theorem dX4_sounds_11 : decode cX4_sounds 11 = .ok (.if_icmp .ge 28, 3) := dk_162 0 28 (dk_at dksX4_sounds_0 11 rfl rfl)
theorem dX4_sounds_14 : decode cX4_sounds 14 = .ok (.iload_n 1, 1) := dk_27 (dk_at dksX4_sounds_0 14 rfl rfl)
theorem dX4_sounds_15 : decode cX4_sounds 15 = .ok (.aload_n 0, 1) := dk_42 (dk_at dksX4_sounds_0 15 rfl rfl)
theorem dX4_sounds_16 : decode cX4_sounds 16 = .ok (.getfield 52, 3) := dk_180 0 52 (dk_at dksX4_sounds_0 16 rfl rfl)
theorem dX4_sounds_19 : decode cX4_sounds 19 = .ok (.iload_n 2, 1) := dk_28 (dk_at dksX4_sounds_0 19 rfl rfl)
theorem dX4_sounds_20 : decode cX4_sounds 20 = .ok (.iaload, 1) := dk_46 (dk_at dksX4_sounds_0 20 rfl rfl)
theorem dX4_sounds_21 : decode cX4_sounds 21 = .ok (.ifCond .le 9, 3) := dk_158 0 9 (dk_at dksX4_sounds_0 21 rfl rfl)
theorem dX4_sounds_24 : decode cX4_sounds 24 = .ok (.iconst 1, 1) := dk_4 (dk_at dksX4_sounds_1 0 rfl rfl)
theorem dX4_sounds_25 : decode cX4_sounds 25 = .ok (.iload_n 2, 1) := dk_28 (dk_at dksX4_sounds_1 1 rfl rfl)
theorem dX4_sounds_26 : decode cX4_sounds 26 = .ok (.ishl, 1) := dk_120 (dk_at dksX4_sounds_1 2 rfl rfl)
theorem dX4_sounds_27 : decode cX4_sounds 27 = .ok (.goto 4, 3) := dk_167 0 4 (dk_at dksX4_sounds_1 3 rfl rfl)
theorem dX4_sounds_30 : decode cX4_sounds 30 = .ok (.iconst 0, 1) := dk_3 (dk_at dksX4_sounds_1 6 rfl rfl)
theorem dX4_sounds_31 : decode cX4_sounds 31 = .ok (.ior, 1) := dk_128 (dk_at dksX4_sounds_1 7 rfl rfl)
theorem dX4_sounds_32 : decode cX4_sounds 32 = .ok (.istore_n 1, 1) := dk_60 (dk_at dksX4_sounds_1 8 rfl rfl)
theorem dX4_sounds_33 : decode cX4_sounds 33 = .ok (.iinc 2 1, 3) := dk_132 2 1 (dk_at dksX4_sounds_1 9 rfl rfl)
theorem dX4_sounds_36 : decode cX4_sounds 36 = .ok (.goto (-32), 3) := dk_167 255 224 (dk_at dksX4_sounds_1 12 rfl rfl)
theorem dX4_sounds_39 : decode cX4_sounds 39 = .ok (.aload_n 0, 1) := dk_42 (dk_at dksX4_sounds_1 15 rfl rfl)
theorem dX4_sounds_40 : decode cX4_sounds 40 = .ok (.getfield 39, 3) := dk_180 0 39 (dk_at dksX4_sounds_1 16 rfl rfl)
theorem dX4_sounds_43 : decode cX4_sounds 43 = .ok (.bipush 53, 2) := dk_16 53 (dk_at dksX4_sounds_1 19 rfl rfl)
theorem dX4_sounds_45 : decode cX4_sounds 45 = .ok (.iaload, 1) := dk_46 (dk_at dksX4_sounds_1 21 rfl rfl)
theorem dX4_sounds_46 : decode cX4_sounds 46 = .ok (.aload_n 0, 1) := dk_42 (dk_at dksX4_sounds_1 22 rfl rfl)
theorem dX4_sounds_47 : decode cX4_sounds 47 = .ok (.iload_n 1, 1) := dk_27 (dk_at dksX4_sounds_1 23 rfl rfl)
theorem dX4_sounds_48 : decode cX4_sounds 48 = .ok (.invokevirtual 337, 3) := dk_182 1 81 (dk_at dksX4_sounds_2 0 rfl rfl)
theorem dX4_sounds_51 : decode cX4_sounds 51 = .ok (.iadd, 1) := dk_96 (dk_at dksX4_sounds_2 3 rfl rfl)
theorem dX4_sounds_52 : decode cX4_sounds 52 = .ok (.istore_n 2, 1) := dk_61 (dk_at dksX4_sounds_2 4 rfl rfl)
theorem dX4_sounds_53 : decode cX4_sounds 53 = .ok (.aload_n 0, 1) := dk_42 (dk_at dksX4_sounds_2 5 rfl rfl)
theorem dX4_sounds_54 : decode cX4_sounds 54 = .ok (.getfield 39, 3) := dk_180 0 39 (dk_at dksX4_sounds_2 6 rfl rfl)
theorem dX4_sounds_57 : decode cX4_sounds 57 = .ok (.bipush 53, 2) := dk_16 53 (dk_at dksX4_sounds_2 9 rfl rfl)
theorem dX4_sounds_59 : decode cX4_sounds 59 = .ok (.iload_n 2, 1) := dk_28 (dk_at dksX4_sounds_2 11 rfl rfl)
theorem dX4_sounds_60 : decode cX4_sounds 60 = .ok (.sipush 9999, 3) := dk_17 39 15 (dk_at dksX4_sounds_2 12 rfl rfl)
theorem dX4_sounds_63 : decode cX4_sounds 63 = .ok (.if_icmp .le 9, 3) := dk_164 0 9 (dk_at dksX4_sounds_2 15 rfl rfl)
theorem dX4_sounds_66 : decode cX4_sounds 66 = .ok (.sipush 9999, 3) := dk_17 39 15 (dk_at dksX4_sounds_2 18 rfl rfl)
theorem dX4_sounds_69 : decode cX4_sounds 69 = .ok (.goto 17, 3) := dk_167 0 17 (dk_at dksX4_sounds_2 21 rfl rfl)
theorem dX4_sounds_72 : decode cX4_sounds 72 = .ok (.iload_n 2, 1) := dk_28 (dk_at dksX4_sounds_3 0 rfl rfl)
theorem dX4_sounds_73 : decode cX4_sounds 73 = .ok (.sipush (-9999), 3) := dk_17 216 241 (dk_at dksX4_sounds_3 1 rfl rfl)
theorem dX4_sounds_76 : decode cX4_sounds 76 = .ok (.if_icmp .ge 9, 3) := dk_162 0 9 (dk_at dksX4_sounds_3 4 rfl rfl)
theorem dX4_sounds_79 : decode cX4_sounds 79 = .ok (.sipush (-9999), 3) := dk_17 216 241 (dk_at dksX4_sounds_3 7 rfl rfl)
theorem dX4_sounds_82 : decode cX4_sounds 82 = .ok (.goto 4, 3) := dk_167 0 4 (dk_at dksX4_sounds_3 10 rfl rfl)
theorem dX4_sounds_85 : decode cX4_sounds 85 = .ok (.iload_n 2, 1) := dk_28 (dk_at dksX4_sounds_3 13 rfl rfl)
theorem dX4_sounds_86 : decode cX4_sounds 86 = .ok (.iastore, 1) := dk_79 (dk_at dksX4_sounds_3 14 rfl rfl)
theorem dX4_sounds_87 : decode cX4_sounds 87 = .ok (.return_, 1) := dk_177 (dk_at dksX4_sounds_3 15 rfl rfl)
abbrev cX4_come : ByteArray := prog_19_method_75_code
def yX4_come : MethodName := ⟨RX4, "come", "(II)I"⟩
def dkwX4_come_1 : List UInt8 := [182, 1, 109, 42, 27, 28, 182, 1, 94, 42, 27, 182, 1, 56, 172]
abbrev dktX4_come_1 : List UInt8 := dkwX4_come_1 ++ []
def dkwX4_come_0 : List UInt8 := [42, 27, 182, 1, 53, 153, 0, 15, 28, 133, 10, 20, 1, 112, 184, 0, 130, 154, 0, 5, 2, 172, 42]
abbrev dktX4_come_0 : List UInt8 := dkwX4_come_0 ++ dktX4_come_1
theorem dksX4_come_0 : cX4_come.data.toList.drop 0 = dktX4_come_0 := by decide +kernel
theorem dksX4_come_1 : cX4_come.data.toList.drop 23 = dktX4_come_1 := dk_seg dksX4_come_0 23 rfl rfl
theorem dX4_come_0 : decode cX4_come 0 = .ok (.aload_n 0, 1) := dk_42 (dk_at dksX4_come_0 0 rfl rfl)
theorem dX4_come_1 : decode cX4_come 1 = .ok (.iload_n 1, 1) := dk_27 (dk_at dksX4_come_0 1 rfl rfl)
theorem dX4_come_2 : decode cX4_come 2 = .ok (.invokevirtual 309, 3) := dk_182 1 53 (dk_at dksX4_come_0 2 rfl rfl)
theorem dX4_come_5 : decode cX4_come 5 = .ok (.ifCond .eq 15, 3) := dk_153 0 15 (dk_at dksX4_come_0 5 rfl rfl)
theorem dX4_come_8 : decode cX4_come 8 = .ok (.iload_n 2, 1) := dk_28 (dk_at dksX4_come_0 8 rfl rfl)
theorem dX4_come_9 : decode cX4_come 9 = .ok (.i2l, 1) := dk_133 (dk_at dksX4_come_0 9 rfl rfl)
theorem dX4_come_10 : decode cX4_come 10 = .ok (.lconst 1, 1) := dk_10 (dk_at dksX4_come_0 10 rfl rfl)
theorem dX4_come_11 : decode cX4_come 11 = .ok (.ldc2_w 368, 3) := dk_20 1 112 (dk_at dksX4_come_0 11 rfl rfl)
theorem dX4_come_14 : decode cX4_come 14 = .ok (.invokestatic 130, 3) := dk_184 0 130 (dk_at dksX4_come_0 14 rfl rfl)
theorem dX4_come_17 : decode cX4_come 17 = .ok (.ifCond .ne 5, 3) := dk_154 0 5 (dk_at dksX4_come_0 17 rfl rfl)
theorem dX4_come_20 : decode cX4_come 20 = .ok (.iconst (-1), 1) := dk_2 (dk_at dksX4_come_0 20 rfl rfl)
theorem dX4_come_21 : decode cX4_come 21 = .ok (.ireturn, 1) := dk_172 (dk_at dksX4_come_0 21 rfl rfl)
theorem dX4_come_22 : decode cX4_come 22 = .ok (.aload_n 0, 1) := dk_42 (dk_at dksX4_come_0 22 rfl rfl)
theorem dX4_come_23 : decode cX4_come 23 = .ok (.invokevirtual 365, 3) := dk_182 1 109 (dk_at dksX4_come_1 0 rfl rfl)
theorem dX4_come_26 : decode cX4_come 26 = .ok (.aload_n 0, 1) := dk_42 (dk_at dksX4_come_1 3 rfl rfl)
theorem dX4_come_27 : decode cX4_come 27 = .ok (.iload_n 1, 1) := dk_27 (dk_at dksX4_come_1 4 rfl rfl)
theorem dX4_come_28 : decode cX4_come 28 = .ok (.iload_n 2, 1) := dk_28 (dk_at dksX4_come_1 5 rfl rfl)
theorem dX4_come_29 : decode cX4_come 29 = .ok (.invokevirtual 350, 3) := dk_182 1 94 (dk_at dksX4_come_1 6 rfl rfl)
theorem dX4_come_32 : decode cX4_come 32 = .ok (.aload_n 0, 1) := dk_42 (dk_at dksX4_come_1 9 rfl rfl)
theorem dX4_come_33 : decode cX4_come 33 = .ok (.iload_n 1, 1) := dk_27 (dk_at dksX4_come_1 10 rfl rfl)
theorem dX4_come_34 : decode cX4_come 34 = .ok (.invokevirtual 312, 3) := dk_182 1 56 (dk_at dksX4_come_1 11 rfl rfl)
theorem dX4_come_37 : decode cX4_come 37 = .ok (.ireturn, 1) := dk_172 (dk_at dksX4_come_1 14 rfl rfl)
abbrev cX4_wave : ByteArray := prog_19_method_76_code
def yX4_wave : MethodName := ⟨RX4, "wave", "(I)I"⟩
def dkwX4_wave_1 : List UInt8 := [182, 1, 100, 172]
abbrev dktX4_wave_1 : List UInt8 := dkwX4_wave_1 ++ []
def dkwX4_wave_0 : List UInt8 := [42, 27, 182, 1, 53, 153, 0, 11, 42, 27, 182, 1, 56, 154, 0, 5, 2, 172, 42, 182, 1, 109, 42, 27]
abbrev dktX4_wave_0 : List UInt8 := dkwX4_wave_0 ++ dktX4_wave_1
theorem dksX4_wave_0 : cX4_wave.data.toList.drop 0 = dktX4_wave_0 := by decide +kernel
theorem dksX4_wave_1 : cX4_wave.data.toList.drop 24 = dktX4_wave_1 := dk_seg dksX4_wave_0 24 rfl rfl
theorem dX4_wave_0 : decode cX4_wave 0 = .ok (.aload_n 0, 1) := dk_42 (dk_at dksX4_wave_0 0 rfl rfl)
theorem dX4_wave_1 : decode cX4_wave 1 = .ok (.iload_n 1, 1) := dk_27 (dk_at dksX4_wave_0 1 rfl rfl)
theorem dX4_wave_2 : decode cX4_wave 2 = .ok (.invokevirtual 309, 3) := dk_182 1 53 (dk_at dksX4_wave_0 2 rfl rfl)
theorem dX4_wave_5 : decode cX4_wave 5 = .ok (.ifCond .eq 11, 3) := dk_153 0 11 (dk_at dksX4_wave_0 5 rfl rfl)
theorem dX4_wave_8 : decode cX4_wave 8 = .ok (.aload_n 0, 1) := dk_42 (dk_at dksX4_wave_0 8 rfl rfl)
theorem dX4_wave_9 : decode cX4_wave 9 = .ok (.iload_n 1, 1) := dk_27 (dk_at dksX4_wave_0 9 rfl rfl)
theorem dX4_wave_10 : decode cX4_wave 10 = .ok (.invokevirtual 312, 3) := dk_182 1 56 (dk_at dksX4_wave_0 10 rfl rfl)
theorem dX4_wave_13 : decode cX4_wave 13 = .ok (.ifCond .ne 5, 3) := dk_154 0 5 (dk_at dksX4_wave_0 13 rfl rfl)
theorem dX4_wave_16 : decode cX4_wave 16 = .ok (.iconst (-1), 1) := dk_2 (dk_at dksX4_wave_0 16 rfl rfl)
theorem dX4_wave_17 : decode cX4_wave 17 = .ok (.ireturn, 1) := dk_172 (dk_at dksX4_wave_0 17 rfl rfl)
theorem dX4_wave_18 : decode cX4_wave 18 = .ok (.aload_n 0, 1) := dk_42 (dk_at dksX4_wave_0 18 rfl rfl)
theorem dX4_wave_19 : decode cX4_wave 19 = .ok (.invokevirtual 365, 3) := dk_182 1 109 (dk_at dksX4_wave_0 19 rfl rfl)
theorem dX4_wave_22 : decode cX4_wave 22 = .ok (.aload_n 0, 1) := dk_42 (dk_at dksX4_wave_0 22 rfl rfl)
theorem dX4_wave_23 : decode cX4_wave 23 = .ok (.iload_n 1, 1) := dk_27 (dk_at dksX4_wave_0 23 rfl rfl)
theorem dX4_wave_24 : decode cX4_wave 24 = .ok (.invokevirtual 356, 3) := dk_182 1 100 (dk_at dksX4_wave_1 0 rfl rfl)
theorem dX4_wave_27 : decode cX4_wave 27 = .ok (.ireturn, 1) := dk_172 (dk_at dksX4_wave_1 3 rfl rfl)
abbrev cX4_score : ByteArray := prog_19_method_77_code
def yX4_score : MethodName := ⟨RX4, "score", "(II)I"⟩
def dkwX4_score_2 : List UInt8 := [122, 4, 126, 172]
abbrev dktX4_score_2 : List UInt8 := dkwX4_score_2 ++ []
def dkwX4_score_1 : List UInt8 := [180, 0, 39, 16, 41, 27, 96, 92, 46, 4, 28, 120, 130, 79, 42, 180, 0, 39, 16, 41, 27, 96, 46, 28]
abbrev dktX4_score_1 : List UInt8 := dkwX4_score_1 ++ dktX4_score_2
def dkwX4_score_0 : List UInt8 := [42, 27, 182, 1, 68, 153, 0, 11, 42, 28, 182, 1, 53, 154, 0, 5, 2, 172, 42, 182, 1, 109, 42]
abbrev dktX4_score_0 : List UInt8 := dkwX4_score_0 ++ dktX4_score_1
theorem dksX4_score_0 : cX4_score.data.toList.drop 0 = dktX4_score_0 := by decide +kernel
theorem dksX4_score_1 : cX4_score.data.toList.drop 23 = dktX4_score_1 := dk_seg dksX4_score_0 23 rfl rfl
theorem dksX4_score_2 : cX4_score.data.toList.drop 47 = dktX4_score_2 := dk_seg dksX4_score_1 24 rfl rfl
theorem dX4_score_0 : decode cX4_score 0 = .ok (.aload_n 0, 1) := dk_42 (dk_at dksX4_score_0 0 rfl rfl)
theorem dX4_score_1 : decode cX4_score 1 = .ok (.iload_n 1, 1) := dk_27 (dk_at dksX4_score_0 1 rfl rfl)
theorem dX4_score_2 : decode cX4_score 2 = .ok (.invokevirtual 324, 3) := dk_182 1 68 (dk_at dksX4_score_0 2 rfl rfl)
theorem dX4_score_5 : decode cX4_score 5 = .ok (.ifCond .eq 11, 3) := dk_153 0 11 (dk_at dksX4_score_0 5 rfl rfl)
theorem dX4_score_8 : decode cX4_score 8 = .ok (.aload_n 0, 1) := dk_42 (dk_at dksX4_score_0 8 rfl rfl)
theorem dX4_score_9 : decode cX4_score 9 = .ok (.iload_n 2, 1) := dk_28 (dk_at dksX4_score_0 9 rfl rfl)
theorem dX4_score_10 : decode cX4_score 10 = .ok (.invokevirtual 309, 3) := dk_182 1 53 (dk_at dksX4_score_0 10 rfl rfl)
theorem dX4_score_13 : decode cX4_score 13 = .ok (.ifCond .ne 5, 3) := dk_154 0 5 (dk_at dksX4_score_0 13 rfl rfl)
theorem dX4_score_16 : decode cX4_score 16 = .ok (.iconst (-1), 1) := dk_2 (dk_at dksX4_score_0 16 rfl rfl)
theorem dX4_score_17 : decode cX4_score 17 = .ok (.ireturn, 1) := dk_172 (dk_at dksX4_score_0 17 rfl rfl)
theorem dX4_score_18 : decode cX4_score 18 = .ok (.aload_n 0, 1) := dk_42 (dk_at dksX4_score_0 18 rfl rfl)
theorem dX4_score_19 : decode cX4_score 19 = .ok (.invokevirtual 365, 3) := dk_182 1 109 (dk_at dksX4_score_0 19 rfl rfl)
theorem dX4_score_22 : decode cX4_score 22 = .ok (.aload_n 0, 1) := dk_42 (dk_at dksX4_score_0 22 rfl rfl)
theorem dX4_score_23 : decode cX4_score 23 = .ok (.getfield 39, 3) := dk_180 0 39 (dk_at dksX4_score_1 0 rfl rfl)
theorem dX4_score_26 : decode cX4_score 26 = .ok (.bipush 41, 2) := dk_16 41 (dk_at dksX4_score_1 3 rfl rfl)
theorem dX4_score_28 : decode cX4_score 28 = .ok (.iload_n 1, 1) := dk_27 (dk_at dksX4_score_1 5 rfl rfl)
theorem dX4_score_29 : decode cX4_score 29 = .ok (.iadd, 1) := dk_96 (dk_at dksX4_score_1 6 rfl rfl)
theorem dX4_score_30 : decode cX4_score 30 = .ok (.dup2, 1) := dk_92 (dk_at dksX4_score_1 7 rfl rfl)
theorem dX4_score_31 : decode cX4_score 31 = .ok (.iaload, 1) := dk_46 (dk_at dksX4_score_1 8 rfl rfl)
theorem dX4_score_32 : decode cX4_score 32 = .ok (.iconst 1, 1) := dk_4 (dk_at dksX4_score_1 9 rfl rfl)
theorem dX4_score_33 : decode cX4_score 33 = .ok (.iload_n 2, 1) := dk_28 (dk_at dksX4_score_1 10 rfl rfl)
theorem dX4_score_34 : decode cX4_score 34 = .ok (.ishl, 1) := dk_120 (dk_at dksX4_score_1 11 rfl rfl)
theorem dX4_score_35 : decode cX4_score 35 = .ok (.ixor, 1) := dk_130 (dk_at dksX4_score_1 12 rfl rfl)
theorem dX4_score_36 : decode cX4_score 36 = .ok (.iastore, 1) := dk_79 (dk_at dksX4_score_1 13 rfl rfl)
theorem dX4_score_37 : decode cX4_score 37 = .ok (.aload_n 0, 1) := dk_42 (dk_at dksX4_score_1 14 rfl rfl)
theorem dX4_score_38 : decode cX4_score 38 = .ok (.getfield 39, 3) := dk_180 0 39 (dk_at dksX4_score_1 15 rfl rfl)
theorem dX4_score_41 : decode cX4_score 41 = .ok (.bipush 41, 2) := dk_16 41 (dk_at dksX4_score_1 18 rfl rfl)
theorem dX4_score_43 : decode cX4_score 43 = .ok (.iload_n 1, 1) := dk_27 (dk_at dksX4_score_1 20 rfl rfl)
theorem dX4_score_44 : decode cX4_score 44 = .ok (.iadd, 1) := dk_96 (dk_at dksX4_score_1 21 rfl rfl)
theorem dX4_score_45 : decode cX4_score 45 = .ok (.iaload, 1) := dk_46 (dk_at dksX4_score_1 22 rfl rfl)
theorem dX4_score_46 : decode cX4_score 46 = .ok (.iload_n 2, 1) := dk_28 (dk_at dksX4_score_1 23 rfl rfl)
theorem dX4_score_47 : decode cX4_score 47 = .ok (.ishr, 1) := dk_122 (dk_at dksX4_score_2 0 rfl rfl)
theorem dX4_score_48 : decode cX4_score 48 = .ok (.iconst 1, 1) := dk_4 (dk_at dksX4_score_2 1 rfl rfl)
theorem dX4_score_49 : decode cX4_score 49 = .ok (.iand, 1) := dk_126 (dk_at dksX4_score_2 2 rfl rfl)
theorem dX4_score_50 : decode cX4_score 50 = .ok (.ireturn, 1) := dk_172 (dk_at dksX4_score_2 3 rfl rfl)
abbrev cX4_tune : ByteArray := prog_19_method_78_code
def yX4_tune : MethodName := ⟨RX4, "tune", "(II)I"⟩
def dkwX4_tune_2 : List UInt8 := [16, 11, 8, 27, 104, 96, 4, 96, 28, 79, 29, 172]
abbrev dktX4_tune_2 : List UInt8 := dkwX4_tune_2 ++ []
def dkwX4_tune_1 : List UInt8 := [182, 1, 44, 28, 160, 0, 5, 2, 172, 42, 182, 1, 109, 42, 27, 182, 1, 44, 62, 42, 180, 0, 39]
abbrev dktX4_tune_1 : List UInt8 := dkwX4_tune_1 ++ dktX4_tune_2
def dkwX4_tune_0 : List UInt8 := [42, 27, 182, 1, 53, 153, 0, 24, 28, 133, 9, 20, 1, 114, 184, 0, 130, 153, 0, 12, 42, 27]
abbrev dktX4_tune_0 : List UInt8 := dkwX4_tune_0 ++ dktX4_tune_1
theorem dksX4_tune_0 : cX4_tune.data.toList.drop 0 = dktX4_tune_0 := by decide +kernel
theorem dksX4_tune_1 : cX4_tune.data.toList.drop 22 = dktX4_tune_1 := dk_seg dksX4_tune_0 22 rfl rfl
theorem dksX4_tune_2 : cX4_tune.data.toList.drop 45 = dktX4_tune_2 := dk_seg dksX4_tune_1 23 rfl rfl
theorem dX4_tune_0 : decode cX4_tune 0 = .ok (.aload_n 0, 1) := dk_42 (dk_at dksX4_tune_0 0 rfl rfl)
theorem dX4_tune_1 : decode cX4_tune 1 = .ok (.iload_n 1, 1) := dk_27 (dk_at dksX4_tune_0 1 rfl rfl)
theorem dX4_tune_2 : decode cX4_tune 2 = .ok (.invokevirtual 309, 3) := dk_182 1 53 (dk_at dksX4_tune_0 2 rfl rfl)
theorem dX4_tune_5 : decode cX4_tune 5 = .ok (.ifCond .eq 24, 3) := dk_153 0 24 (dk_at dksX4_tune_0 5 rfl rfl)
theorem dX4_tune_8 : decode cX4_tune 8 = .ok (.iload_n 2, 1) := dk_28 (dk_at dksX4_tune_0 8 rfl rfl)
theorem dX4_tune_9 : decode cX4_tune 9 = .ok (.i2l, 1) := dk_133 (dk_at dksX4_tune_0 9 rfl rfl)
theorem dX4_tune_10 : decode cX4_tune 10 = .ok (.lconst 0, 1) := dk_9 (dk_at dksX4_tune_0 10 rfl rfl)
theorem dX4_tune_11 : decode cX4_tune 11 = .ok (.ldc2_w 370, 3) := dk_20 1 114 (dk_at dksX4_tune_0 11 rfl rfl)
theorem dX4_tune_14 : decode cX4_tune 14 = .ok (.invokestatic 130, 3) := dk_184 0 130 (dk_at dksX4_tune_0 14 rfl rfl)
theorem dX4_tune_17 : decode cX4_tune 17 = .ok (.ifCond .eq 12, 3) := dk_153 0 12 (dk_at dksX4_tune_0 17 rfl rfl)
theorem dX4_tune_20 : decode cX4_tune 20 = .ok (.aload_n 0, 1) := dk_42 (dk_at dksX4_tune_0 20 rfl rfl)
theorem dX4_tune_21 : decode cX4_tune 21 = .ok (.iload_n 1, 1) := dk_27 (dk_at dksX4_tune_0 21 rfl rfl)
theorem dX4_tune_22 : decode cX4_tune 22 = .ok (.invokevirtual 300, 3) := dk_182 1 44 (dk_at dksX4_tune_1 0 rfl rfl)
theorem dX4_tune_25 : decode cX4_tune 25 = .ok (.iload_n 2, 1) := dk_28 (dk_at dksX4_tune_1 3 rfl rfl)
theorem dX4_tune_26 : decode cX4_tune 26 = .ok (.if_icmp .ne 5, 3) := dk_160 0 5 (dk_at dksX4_tune_1 4 rfl rfl)
theorem dX4_tune_29 : decode cX4_tune 29 = .ok (.iconst (-1), 1) := dk_2 (dk_at dksX4_tune_1 7 rfl rfl)
theorem dX4_tune_30 : decode cX4_tune 30 = .ok (.ireturn, 1) := dk_172 (dk_at dksX4_tune_1 8 rfl rfl)
theorem dX4_tune_31 : decode cX4_tune 31 = .ok (.aload_n 0, 1) := dk_42 (dk_at dksX4_tune_1 9 rfl rfl)
theorem dX4_tune_32 : decode cX4_tune 32 = .ok (.invokevirtual 365, 3) := dk_182 1 109 (dk_at dksX4_tune_1 10 rfl rfl)
theorem dX4_tune_35 : decode cX4_tune 35 = .ok (.aload_n 0, 1) := dk_42 (dk_at dksX4_tune_1 13 rfl rfl)
theorem dX4_tune_36 : decode cX4_tune 36 = .ok (.iload_n 1, 1) := dk_27 (dk_at dksX4_tune_1 14 rfl rfl)
theorem dX4_tune_37 : decode cX4_tune 37 = .ok (.invokevirtual 300, 3) := dk_182 1 44 (dk_at dksX4_tune_1 15 rfl rfl)
theorem dX4_tune_40 : decode cX4_tune 40 = .ok (.istore_n 3, 1) := dk_62 (dk_at dksX4_tune_1 18 rfl rfl)
theorem dX4_tune_41 : decode cX4_tune 41 = .ok (.aload_n 0, 1) := dk_42 (dk_at dksX4_tune_1 19 rfl rfl)
theorem dX4_tune_42 : decode cX4_tune 42 = .ok (.getfield 39, 3) := dk_180 0 39 (dk_at dksX4_tune_1 20 rfl rfl)
theorem dX4_tune_45 : decode cX4_tune 45 = .ok (.bipush 11, 2) := dk_16 11 (dk_at dksX4_tune_2 0 rfl rfl)
theorem dX4_tune_47 : decode cX4_tune 47 = .ok (.iconst 5, 1) := dk_8 (dk_at dksX4_tune_2 2 rfl rfl)
theorem dX4_tune_48 : decode cX4_tune 48 = .ok (.iload_n 1, 1) := dk_27 (dk_at dksX4_tune_2 3 rfl rfl)
theorem dX4_tune_49 : decode cX4_tune 49 = .ok (.imul, 1) := dk_104 (dk_at dksX4_tune_2 4 rfl rfl)
theorem dX4_tune_50 : decode cX4_tune 50 = .ok (.iadd, 1) := dk_96 (dk_at dksX4_tune_2 5 rfl rfl)
theorem dX4_tune_51 : decode cX4_tune 51 = .ok (.iconst 1, 1) := dk_4 (dk_at dksX4_tune_2 6 rfl rfl)
theorem dX4_tune_52 : decode cX4_tune 52 = .ok (.iadd, 1) := dk_96 (dk_at dksX4_tune_2 7 rfl rfl)
theorem dX4_tune_53 : decode cX4_tune 53 = .ok (.iload_n 2, 1) := dk_28 (dk_at dksX4_tune_2 8 rfl rfl)
theorem dX4_tune_54 : decode cX4_tune 54 = .ok (.iastore, 1) := dk_79 (dk_at dksX4_tune_2 9 rfl rfl)
theorem dX4_tune_55 : decode cX4_tune 55 = .ok (.iload_n 3, 1) := dk_29 (dk_at dksX4_tune_2 10 rfl rfl)
theorem dX4_tune_56 : decode cX4_tune 56 = .ok (.ireturn, 1) := dk_172 (dk_at dksX4_tune_2 11 rfl rfl)
abbrev cX4_heard : ByteArray := prog_19_method_79_code
def yX4_heard : MethodName := ⟨RX4, "heard", "()I"⟩
def dkwX4_heard_0 : List UInt8 := [42, 180, 0, 39, 16, 53, 46, 172]
abbrev dktX4_heard_0 : List UInt8 := dkwX4_heard_0 ++ []
theorem dksX4_heard_0 : cX4_heard.data.toList.drop 0 = dktX4_heard_0 := by decide +kernel
theorem dX4_heard_0 : decode cX4_heard 0 = .ok (.aload_n 0, 1) := dk_42 (dk_at dksX4_heard_0 0 rfl rfl)
theorem dX4_heard_1 : decode cX4_heard 1 = .ok (.getfield 39, 3) := dk_180 0 39 (dk_at dksX4_heard_0 1 rfl rfl)
theorem dX4_heard_4 : decode cX4_heard 4 = .ok (.bipush 53, 2) := dk_16 53 (dk_at dksX4_heard_0 4 rfl rfl)
theorem dX4_heard_6 : decode cX4_heard 6 = .ok (.iaload, 1) := dk_46 (dk_at dksX4_heard_0 6 rfl rfl)
theorem dX4_heard_7 : decode cX4_heard 7 = .ok (.ireturn, 1) := dk_172 (dk_at dksX4_heard_0 7 rfl rfl)
abbrev cX4_ahead : ByteArray := prog_19_method_82_code
def yX4_ahead : MethodName := ⟨RX4, "ahead", "(III)I"⟩
def dkwX4_ahead_4 : List UInt8 := [54, 4, 42, 182, 1, 126, 21, 4, 172]
abbrev dktX4_ahead_4 : List UInt8 := dkwX4_ahead_4 ++ []
def dkwX4_ahead_3 : List UInt8 := [167, 0, 23, 29, 4, 160, 0, 11, 42, 27, 182, 1, 59, 167, 0, 10, 42, 180, 0, 39, 16, 53, 46]
abbrev dktX4_ahead_3 : List UInt8 := dkwX4_ahead_3 ++ dktX4_ahead_4
def dkwX4_ahead_2 : List UInt8 := [17, 216, 240, 172, 42, 182, 1, 120, 42, 28, 182, 1, 123, 29, 154, 0, 11, 42, 27, 182, 1, 56]
abbrev dktX4_ahead_2 : List UInt8 := dkwX4_ahead_2 ++ dktX4_ahead_3
def dkwX4_ahead_1 : List UInt8 := [20, 1, 118, 184, 0, 130, 153, 0, 16, 29, 5, 162, 0, 15, 42, 27, 182, 1, 53, 154, 0, 7]
abbrev dktX4_ahead_1 : List UInt8 := dkwX4_ahead_1 ++ dktX4_ahead_2
def dkwX4_ahead_0 : List UInt8 := [42, 182, 1, 38, 153, 0, 40, 28, 133, 9, 20, 1, 116, 184, 0, 130, 153, 0, 28, 29, 133, 9]
abbrev dktX4_ahead_0 : List UInt8 := dkwX4_ahead_0 ++ dktX4_ahead_1
theorem dksX4_ahead_0 : cX4_ahead.data.toList.drop 0 = dktX4_ahead_0 := by decide +kernel
theorem dksX4_ahead_1 : cX4_ahead.data.toList.drop 22 = dktX4_ahead_1 := dk_seg dksX4_ahead_0 22 rfl rfl
theorem dksX4_ahead_2 : cX4_ahead.data.toList.drop 44 = dktX4_ahead_2 := dk_seg dksX4_ahead_1 22 rfl rfl
theorem dksX4_ahead_3 : cX4_ahead.data.toList.drop 66 = dktX4_ahead_3 := dk_seg dksX4_ahead_2 22 rfl rfl
theorem dksX4_ahead_4 : cX4_ahead.data.toList.drop 89 = dktX4_ahead_4 := dk_seg dksX4_ahead_3 23 rfl rfl
theorem dX4_ahead_0 : decode cX4_ahead 0 = .ok (.aload_n 0, 1) := dk_42 (dk_at dksX4_ahead_0 0 rfl rfl)
theorem dX4_ahead_1 : decode cX4_ahead 1 = .ok (.invokevirtual 294, 3) := dk_182 1 38 (dk_at dksX4_ahead_0 1 rfl rfl)
theorem dX4_ahead_4 : decode cX4_ahead 4 = .ok (.ifCond .eq 40, 3) := dk_153 0 40 (dk_at dksX4_ahead_0 4 rfl rfl)
theorem dX4_ahead_7 : decode cX4_ahead 7 = .ok (.iload_n 2, 1) := dk_28 (dk_at dksX4_ahead_0 7 rfl rfl)
theorem dX4_ahead_8 : decode cX4_ahead 8 = .ok (.i2l, 1) := dk_133 (dk_at dksX4_ahead_0 8 rfl rfl)
theorem dX4_ahead_9 : decode cX4_ahead 9 = .ok (.lconst 0, 1) := dk_9 (dk_at dksX4_ahead_0 9 rfl rfl)
theorem dX4_ahead_10 : decode cX4_ahead 10 = .ok (.ldc2_w 372, 3) := dk_20 1 116 (dk_at dksX4_ahead_0 10 rfl rfl)
theorem dX4_ahead_13 : decode cX4_ahead 13 = .ok (.invokestatic 130, 3) := dk_184 0 130 (dk_at dksX4_ahead_0 13 rfl rfl)
theorem dX4_ahead_16 : decode cX4_ahead 16 = .ok (.ifCond .eq 28, 3) := dk_153 0 28 (dk_at dksX4_ahead_0 16 rfl rfl)
theorem dX4_ahead_19 : decode cX4_ahead 19 = .ok (.iload_n 3, 1) := dk_29 (dk_at dksX4_ahead_0 19 rfl rfl)
theorem dX4_ahead_20 : decode cX4_ahead 20 = .ok (.i2l, 1) := dk_133 (dk_at dksX4_ahead_0 20 rfl rfl)
theorem dX4_ahead_21 : decode cX4_ahead 21 = .ok (.lconst 0, 1) := dk_9 (dk_at dksX4_ahead_0 21 rfl rfl)
theorem dX4_ahead_22 : decode cX4_ahead 22 = .ok (.ldc2_w 374, 3) := dk_20 1 118 (dk_at dksX4_ahead_1 0 rfl rfl)
theorem dX4_ahead_25 : decode cX4_ahead 25 = .ok (.invokestatic 130, 3) := dk_184 0 130 (dk_at dksX4_ahead_1 3 rfl rfl)
theorem dX4_ahead_28 : decode cX4_ahead 28 = .ok (.ifCond .eq 16, 3) := dk_153 0 16 (dk_at dksX4_ahead_1 6 rfl rfl)
theorem dX4_ahead_31 : decode cX4_ahead 31 = .ok (.iload_n 3, 1) := dk_29 (dk_at dksX4_ahead_1 9 rfl rfl)
theorem dX4_ahead_32 : decode cX4_ahead 32 = .ok (.iconst 2, 1) := dk_5 (dk_at dksX4_ahead_1 10 rfl rfl)
theorem dX4_ahead_33 : decode cX4_ahead 33 = .ok (.if_icmp .ge 15, 3) := dk_162 0 15 (dk_at dksX4_ahead_1 11 rfl rfl)
theorem dX4_ahead_36 : decode cX4_ahead 36 = .ok (.aload_n 0, 1) := dk_42 (dk_at dksX4_ahead_1 14 rfl rfl)
theorem dX4_ahead_37 : decode cX4_ahead 37 = .ok (.iload_n 1, 1) := dk_27 (dk_at dksX4_ahead_1 15 rfl rfl)
theorem dX4_ahead_38 : decode cX4_ahead 38 = .ok (.invokevirtual 309, 3) := dk_182 1 53 (dk_at dksX4_ahead_1 16 rfl rfl)
theorem dX4_ahead_41 : decode cX4_ahead 41 = .ok (.ifCond .ne 7, 3) := dk_154 0 7 (dk_at dksX4_ahead_1 19 rfl rfl)
theorem dX4_ahead_44 : decode cX4_ahead 44 = .ok (.sipush (-10000), 3) := dk_17 216 240 (dk_at dksX4_ahead_2 0 rfl rfl)
theorem dX4_ahead_47 : decode cX4_ahead 47 = .ok (.ireturn, 1) := dk_172 (dk_at dksX4_ahead_2 3 rfl rfl)
theorem dX4_ahead_48 : decode cX4_ahead 48 = .ok (.aload_n 0, 1) := dk_42 (dk_at dksX4_ahead_2 4 rfl rfl)
theorem dX4_ahead_49 : decode cX4_ahead 49 = .ok (.invokevirtual 376, 3) := dk_182 1 120 (dk_at dksX4_ahead_2 5 rfl rfl)
theorem dX4_ahead_52 : decode cX4_ahead 52 = .ok (.aload_n 0, 1) := dk_42 (dk_at dksX4_ahead_2 8 rfl rfl)
theorem dX4_ahead_53 : decode cX4_ahead 53 = .ok (.iload_n 2, 1) := dk_28 (dk_at dksX4_ahead_2 9 rfl rfl)
theorem dX4_ahead_54 : decode cX4_ahead 54 = .ok (.invokevirtual 379, 3) := dk_182 1 123 (dk_at dksX4_ahead_2 10 rfl rfl)
theorem dX4_ahead_57 : decode cX4_ahead 57 = .ok (.iload_n 3, 1) := dk_29 (dk_at dksX4_ahead_2 13 rfl rfl)
theorem dX4_ahead_58 : decode cX4_ahead 58 = .ok (.ifCond .ne 11, 3) := dk_154 0 11 (dk_at dksX4_ahead_2 14 rfl rfl)
theorem dX4_ahead_61 : decode cX4_ahead 61 = .ok (.aload_n 0, 1) := dk_42 (dk_at dksX4_ahead_2 17 rfl rfl)
theorem dX4_ahead_62 : decode cX4_ahead 62 = .ok (.iload_n 1, 1) := dk_27 (dk_at dksX4_ahead_2 18 rfl rfl)
theorem dX4_ahead_63 : decode cX4_ahead 63 = .ok (.invokevirtual 312, 3) := dk_182 1 56 (dk_at dksX4_ahead_2 19 rfl rfl)
theorem dX4_ahead_66 : decode cX4_ahead 66 = .ok (.goto 23, 3) := dk_167 0 23 (dk_at dksX4_ahead_3 0 rfl rfl)
theorem dX4_ahead_69 : decode cX4_ahead 69 = .ok (.iload_n 3, 1) := dk_29 (dk_at dksX4_ahead_3 3 rfl rfl)
theorem dX4_ahead_70 : decode cX4_ahead 70 = .ok (.iconst 1, 1) := dk_4 (dk_at dksX4_ahead_3 4 rfl rfl)
theorem dX4_ahead_71 : decode cX4_ahead 71 = .ok (.if_icmp .ne 11, 3) := dk_160 0 11 (dk_at dksX4_ahead_3 5 rfl rfl)
theorem dX4_ahead_74 : decode cX4_ahead 74 = .ok (.aload_n 0, 1) := dk_42 (dk_at dksX4_ahead_3 8 rfl rfl)
theorem dX4_ahead_75 : decode cX4_ahead 75 = .ok (.iload_n 1, 1) := dk_27 (dk_at dksX4_ahead_3 9 rfl rfl)
theorem dX4_ahead_76 : decode cX4_ahead 76 = .ok (.invokevirtual 315, 3) := dk_182 1 59 (dk_at dksX4_ahead_3 10 rfl rfl)
theorem dX4_ahead_79 : decode cX4_ahead 79 = .ok (.goto 10, 3) := dk_167 0 10 (dk_at dksX4_ahead_3 13 rfl rfl)
theorem dX4_ahead_82 : decode cX4_ahead 82 = .ok (.aload_n 0, 1) := dk_42 (dk_at dksX4_ahead_3 16 rfl rfl)
theorem dX4_ahead_83 : decode cX4_ahead 83 = .ok (.getfield 39, 3) := dk_180 0 39 (dk_at dksX4_ahead_3 17 rfl rfl)
theorem dX4_ahead_86 : decode cX4_ahead 86 = .ok (.bipush 53, 2) := dk_16 53 (dk_at dksX4_ahead_3 20 rfl rfl)
theorem dX4_ahead_88 : decode cX4_ahead 88 = .ok (.iaload, 1) := dk_46 (dk_at dksX4_ahead_3 22 rfl rfl)
theorem dX4_ahead_89 : decode cX4_ahead 89 = .ok (.istore 4, 2) := dk_54 4 (dk_at dksX4_ahead_4 0 rfl rfl)
theorem dX4_ahead_91 : decode cX4_ahead 91 = .ok (.aload_n 0, 1) := dk_42 (dk_at dksX4_ahead_4 2 rfl rfl)
theorem dX4_ahead_92 : decode cX4_ahead 92 = .ok (.invokevirtual 382, 3) := dk_182 1 126 (dk_at dksX4_ahead_4 3 rfl rfl)
theorem dX4_ahead_95 : decode cX4_ahead 95 = .ok (.iload 4, 2) := dk_21 4 (dk_at dksX4_ahead_4 6 rfl rfl)
theorem dX4_ahead_97 : decode cX4_ahead 97 = .ok (.ireturn, 1) := dk_172 (dk_at dksX4_ahead_4 8 rfl rfl)
abbrev cX4_keeps : ByteArray := prog_19_method_80_code
def yX4_keeps : MethodName := ⟨RX4, "keeps", "()V"⟩
def dkwX4_keeps_1 : List UInt8 := [132, 1, 1, 167, 255, 232, 177]
abbrev dktX4_keeps_1 : List UInt8 := dkwX4_keeps_1 ++ []
def dkwX4_keeps_0 : List UInt8 := [3, 60, 27, 16, 44, 162, 0, 24, 42, 180, 0, 58, 27, 42, 180, 0, 39, 16, 10, 27, 96, 46, 79]
abbrev dktX4_keeps_0 : List UInt8 := dkwX4_keeps_0 ++ dktX4_keeps_1
theorem dksX4_keeps_0 : cX4_keeps.data.toList.drop 0 = dktX4_keeps_0 := by decide +kernel
theorem dksX4_keeps_1 : cX4_keeps.data.toList.drop 23 = dktX4_keeps_1 := dk_seg dksX4_keeps_0 23 rfl rfl
theorem dX4_keeps_0 : decode cX4_keeps 0 = .ok (.iconst 0, 1) := dk_3 (dk_at dksX4_keeps_0 0 rfl rfl)
theorem dX4_keeps_1 : decode cX4_keeps 1 = .ok (.istore_n 1, 1) := dk_60 (dk_at dksX4_keeps_0 1 rfl rfl)
theorem dX4_keeps_2 : decode cX4_keeps 2 = .ok (.iload_n 1, 1) := dk_27 (dk_at dksX4_keeps_0 2 rfl rfl)
theorem dX4_keeps_3 : decode cX4_keeps 3 = .ok (.bipush 44, 2) := dk_16 44 (dk_at dksX4_keeps_0 3 rfl rfl)
theorem dX4_keeps_5 : decode cX4_keeps 5 = .ok (.if_icmp .ge 24, 3) := dk_162 0 24 (dk_at dksX4_keeps_0 5 rfl rfl)
theorem dX4_keeps_8 : decode cX4_keeps 8 = .ok (.aload_n 0, 1) := dk_42 (dk_at dksX4_keeps_0 8 rfl rfl)
theorem dX4_keeps_9 : decode cX4_keeps 9 = .ok (.getfield 58, 3) := dk_180 0 58 (dk_at dksX4_keeps_0 9 rfl rfl)
theorem dX4_keeps_12 : decode cX4_keeps 12 = .ok (.iload_n 1, 1) := dk_27 (dk_at dksX4_keeps_0 12 rfl rfl)
theorem dX4_keeps_13 : decode cX4_keeps 13 = .ok (.aload_n 0, 1) := dk_42 (dk_at dksX4_keeps_0 13 rfl rfl)
theorem dX4_keeps_14 : decode cX4_keeps 14 = .ok (.getfield 39, 3) := dk_180 0 39 (dk_at dksX4_keeps_0 14 rfl rfl)
theorem dX4_keeps_17 : decode cX4_keeps 17 = .ok (.bipush 10, 2) := dk_16 10 (dk_at dksX4_keeps_0 17 rfl rfl)
theorem dX4_keeps_19 : decode cX4_keeps 19 = .ok (.iload_n 1, 1) := dk_27 (dk_at dksX4_keeps_0 19 rfl rfl)
theorem dX4_keeps_20 : decode cX4_keeps 20 = .ok (.iadd, 1) := dk_96 (dk_at dksX4_keeps_0 20 rfl rfl)
theorem dX4_keeps_21 : decode cX4_keeps 21 = .ok (.iaload, 1) := dk_46 (dk_at dksX4_keeps_0 21 rfl rfl)
theorem dX4_keeps_22 : decode cX4_keeps 22 = .ok (.iastore, 1) := dk_79 (dk_at dksX4_keeps_0 22 rfl rfl)
theorem dX4_keeps_23 : decode cX4_keeps 23 = .ok (.iinc 1 1, 3) := dk_132 1 1 (dk_at dksX4_keeps_1 0 rfl rfl)
theorem dX4_keeps_26 : decode cX4_keeps 26 = .ok (.goto (-24), 3) := dk_167 255 232 (dk_at dksX4_keeps_1 3 rfl rfl)
theorem dX4_keeps_29 : decode cX4_keeps 29 = .ok (.return_, 1) := dk_177 (dk_at dksX4_keeps_1 6 rfl rfl)
abbrev cX4_passesAll : ByteArray := prog_19_method_71_code
def yX4_passesAll : MethodName := ⟨RX4, "passesAll", "(I)V"⟩
def dkwX4_passesAll_0 : List UInt8 := [3, 61, 28, 27, 162, 0, 14, 42, 182, 1, 106, 87, 132, 2, 1, 167, 255, 243, 177]
abbrev dktX4_passesAll_0 : List UInt8 := dkwX4_passesAll_0 ++ []
theorem dksX4_passesAll_0 : cX4_passesAll.data.toList.drop 0 = dktX4_passesAll_0 := by decide +kernel
theorem dX4_passesAll_0 : decode cX4_passesAll 0 = .ok (.iconst 0, 1) := dk_3 (dk_at dksX4_passesAll_0 0 rfl rfl)
theorem dX4_passesAll_1 : decode cX4_passesAll 1 = .ok (.istore_n 2, 1) := dk_61 (dk_at dksX4_passesAll_0 1 rfl rfl)
theorem dX4_passesAll_2 : decode cX4_passesAll 2 = .ok (.iload_n 2, 1) := dk_28 (dk_at dksX4_passesAll_0 2 rfl rfl)
theorem dX4_passesAll_3 : decode cX4_passesAll 3 = .ok (.iload_n 1, 1) := dk_27 (dk_at dksX4_passesAll_0 3 rfl rfl)
theorem dX4_passesAll_4 : decode cX4_passesAll 4 = .ok (.if_icmp .ge 14, 3) := dk_162 0 14 (dk_at dksX4_passesAll_0 4 rfl rfl)
theorem dX4_passesAll_7 : decode cX4_passesAll 7 = .ok (.aload_n 0, 1) := dk_42 (dk_at dksX4_passesAll_0 7 rfl rfl)
theorem dX4_passesAll_8 : decode cX4_passesAll 8 = .ok (.invokevirtual 362, 3) := dk_182 1 106 (dk_at dksX4_passesAll_0 8 rfl rfl)
theorem dX4_passesAll_11 : decode cX4_passesAll 11 = .ok (.pop, 1) := dk_87 (dk_at dksX4_passesAll_0 11 rfl rfl)
theorem dX4_passesAll_12 : decode cX4_passesAll 12 = .ok (.iinc 2 1, 3) := dk_132 2 1 (dk_at dksX4_passesAll_0 12 rfl rfl)
theorem dX4_passesAll_15 : decode cX4_passesAll 15 = .ok (.goto (-13), 3) := dk_167 255 243 (dk_at dksX4_passesAll_0 15 rfl rfl)
theorem dX4_passesAll_18 : decode cX4_passesAll 18 = .ok (.return_, 1) := dk_177 (dk_at dksX4_passesAll_0 18 rfl rfl)
abbrev cX4_laysBack : ByteArray := prog_19_method_81_code
def yX4_laysBack : MethodName := ⟨RX4, "laysBack", "()V"⟩
def dkwX4_laysBack_1 : List UInt8 := [132, 1, 1, 167, 255, 232, 177]
abbrev dktX4_laysBack_1 : List UInt8 := dkwX4_laysBack_1 ++ []
def dkwX4_laysBack_0 : List UInt8 := [3, 60, 27, 16, 44, 162, 0, 24, 42, 180, 0, 39, 16, 10, 27, 96, 42, 180, 0, 58, 27, 46, 79]
abbrev dktX4_laysBack_0 : List UInt8 := dkwX4_laysBack_0 ++ dktX4_laysBack_1
theorem dksX4_laysBack_0 : cX4_laysBack.data.toList.drop 0 = dktX4_laysBack_0 := by decide +kernel
theorem dksX4_laysBack_1 : cX4_laysBack.data.toList.drop 23 = dktX4_laysBack_1 := dk_seg dksX4_laysBack_0 23 rfl rfl
theorem dX4_laysBack_0 : decode cX4_laysBack 0 = .ok (.iconst 0, 1) := dk_3 (dk_at dksX4_laysBack_0 0 rfl rfl)
theorem dX4_laysBack_1 : decode cX4_laysBack 1 = .ok (.istore_n 1, 1) := dk_60 (dk_at dksX4_laysBack_0 1 rfl rfl)
theorem dX4_laysBack_2 : decode cX4_laysBack 2 = .ok (.iload_n 1, 1) := dk_27 (dk_at dksX4_laysBack_0 2 rfl rfl)
theorem dX4_laysBack_3 : decode cX4_laysBack 3 = .ok (.bipush 44, 2) := dk_16 44 (dk_at dksX4_laysBack_0 3 rfl rfl)
theorem dX4_laysBack_5 : decode cX4_laysBack 5 = .ok (.if_icmp .ge 24, 3) := dk_162 0 24 (dk_at dksX4_laysBack_0 5 rfl rfl)
theorem dX4_laysBack_8 : decode cX4_laysBack 8 = .ok (.aload_n 0, 1) := dk_42 (dk_at dksX4_laysBack_0 8 rfl rfl)
theorem dX4_laysBack_9 : decode cX4_laysBack 9 = .ok (.getfield 39, 3) := dk_180 0 39 (dk_at dksX4_laysBack_0 9 rfl rfl)
theorem dX4_laysBack_12 : decode cX4_laysBack 12 = .ok (.bipush 10, 2) := dk_16 10 (dk_at dksX4_laysBack_0 12 rfl rfl)
theorem dX4_laysBack_14 : decode cX4_laysBack 14 = .ok (.iload_n 1, 1) := dk_27 (dk_at dksX4_laysBack_0 14 rfl rfl)
theorem dX4_laysBack_15 : decode cX4_laysBack 15 = .ok (.iadd, 1) := dk_96 (dk_at dksX4_laysBack_0 15 rfl rfl)
theorem dX4_laysBack_16 : decode cX4_laysBack 16 = .ok (.aload_n 0, 1) := dk_42 (dk_at dksX4_laysBack_0 16 rfl rfl)
theorem dX4_laysBack_17 : decode cX4_laysBack 17 = .ok (.getfield 58, 3) := dk_180 0 58 (dk_at dksX4_laysBack_0 17 rfl rfl)
theorem dX4_laysBack_20 : decode cX4_laysBack 20 = .ok (.iload_n 1, 1) := dk_27 (dk_at dksX4_laysBack_0 20 rfl rfl)
theorem dX4_laysBack_21 : decode cX4_laysBack 21 = .ok (.iaload, 1) := dk_46 (dk_at dksX4_laysBack_0 21 rfl rfl)
theorem dX4_laysBack_22 : decode cX4_laysBack 22 = .ok (.iastore, 1) := dk_79 (dk_at dksX4_laysBack_0 22 rfl rfl)
theorem dX4_laysBack_23 : decode cX4_laysBack 23 = .ok (.iinc 1 1, 3) := dk_132 1 1 (dk_at dksX4_laysBack_1 0 rfl rfl)
theorem dX4_laysBack_26 : decode cX4_laysBack 26 = .ok (.goto (-24), 3) := dk_167 255 232 (dk_at dksX4_laysBack_1 3 rfl rfl)
theorem dX4_laysBack_29 : decode cX4_laysBack 29 = .ok (.return_, 1) := dk_177 (dk_at dksX4_laysBack_1 6 rfl rfl)
abbrev cX4_clear : ByteArray := prog_19_method_83_code
def yX4_clear : MethodName := ⟨RX4, "clear", "(I)I"⟩
def dkwX4_clear_2 : List UInt8 := [16, 10, 46, 4, 100, 61, 132, 3, 1, 167, 255, 219, 42, 182, 1, 126, 28, 172]
abbrev dktX4_clear_2 : List UInt8 := dkwX4_clear_2 ++ []
def dkwX4_clear_1 : List UInt8 := [162, 0, 36, 28, 156, 0, 32, 42, 182, 1, 106, 87, 42, 27, 182, 1, 56, 154, 0, 13, 42, 180, 0, 39]
abbrev dktX4_clear_1 : List UInt8 := dkwX4_clear_1 ++ dktX4_clear_2
def dkwX4_clear_0 : List UInt8 := [42, 27, 182, 1, 53, 154, 0, 5, 2, 172, 16, 254, 61, 42, 182, 1, 120, 3, 62, 29, 17, 0, 200]
abbrev dktX4_clear_0 : List UInt8 := dkwX4_clear_0 ++ dktX4_clear_1
theorem dksX4_clear_0 : cX4_clear.data.toList.drop 0 = dktX4_clear_0 := by decide +kernel
theorem dksX4_clear_1 : cX4_clear.data.toList.drop 23 = dktX4_clear_1 := dk_seg dksX4_clear_0 23 rfl rfl
theorem dksX4_clear_2 : cX4_clear.data.toList.drop 47 = dktX4_clear_2 := dk_seg dksX4_clear_1 24 rfl rfl
theorem dX4_clear_0 : decode cX4_clear 0 = .ok (.aload_n 0, 1) := dk_42 (dk_at dksX4_clear_0 0 rfl rfl)
theorem dX4_clear_1 : decode cX4_clear 1 = .ok (.iload_n 1, 1) := dk_27 (dk_at dksX4_clear_0 1 rfl rfl)
theorem dX4_clear_2 : decode cX4_clear 2 = .ok (.invokevirtual 309, 3) := dk_182 1 53 (dk_at dksX4_clear_0 2 rfl rfl)
theorem dX4_clear_5 : decode cX4_clear 5 = .ok (.ifCond .ne 5, 3) := dk_154 0 5 (dk_at dksX4_clear_0 5 rfl rfl)
theorem dX4_clear_8 : decode cX4_clear 8 = .ok (.iconst (-1), 1) := dk_2 (dk_at dksX4_clear_0 8 rfl rfl)
theorem dX4_clear_9 : decode cX4_clear 9 = .ok (.ireturn, 1) := dk_172 (dk_at dksX4_clear_0 9 rfl rfl)
theorem dX4_clear_10 : decode cX4_clear 10 = .ok (.bipush (-2), 2) := dk_16 254 (dk_at dksX4_clear_0 10 rfl rfl)
theorem dX4_clear_12 : decode cX4_clear 12 = .ok (.istore_n 2, 1) := dk_61 (dk_at dksX4_clear_0 12 rfl rfl)
theorem dX4_clear_13 : decode cX4_clear 13 = .ok (.aload_n 0, 1) := dk_42 (dk_at dksX4_clear_0 13 rfl rfl)
theorem dX4_clear_14 : decode cX4_clear 14 = .ok (.invokevirtual 376, 3) := dk_182 1 120 (dk_at dksX4_clear_0 14 rfl rfl)
theorem dX4_clear_17 : decode cX4_clear 17 = .ok (.iconst 0, 1) := dk_3 (dk_at dksX4_clear_0 17 rfl rfl)
theorem dX4_clear_18 : decode cX4_clear 18 = .ok (.istore_n 3, 1) := dk_62 (dk_at dksX4_clear_0 18 rfl rfl)
theorem dX4_clear_19 : decode cX4_clear 19 = .ok (.iload_n 3, 1) := dk_29 (dk_at dksX4_clear_0 19 rfl rfl)
theorem dX4_clear_20 : decode cX4_clear 20 = .ok (.sipush 200, 3) := dk_17 0 200 (dk_at dksX4_clear_0 20 rfl rfl)
theorem dX4_clear_23 : decode cX4_clear 23 = .ok (.if_icmp .ge 36, 3) := dk_162 0 36 (dk_at dksX4_clear_1 0 rfl rfl)
theorem dX4_clear_26 : decode cX4_clear 26 = .ok (.iload_n 2, 1) := dk_28 (dk_at dksX4_clear_1 3 rfl rfl)
theorem dX4_clear_27 : decode cX4_clear 27 = .ok (.ifCond .ge 32, 3) := dk_156 0 32 (dk_at dksX4_clear_1 4 rfl rfl)
theorem dX4_clear_30 : decode cX4_clear 30 = .ok (.aload_n 0, 1) := dk_42 (dk_at dksX4_clear_1 7 rfl rfl)
theorem dX4_clear_31 : decode cX4_clear 31 = .ok (.invokevirtual 362, 3) := dk_182 1 106 (dk_at dksX4_clear_1 8 rfl rfl)
theorem dX4_clear_34 : decode cX4_clear 34 = .ok (.pop, 1) := dk_87 (dk_at dksX4_clear_1 11 rfl rfl)
theorem dX4_clear_35 : decode cX4_clear 35 = .ok (.aload_n 0, 1) := dk_42 (dk_at dksX4_clear_1 12 rfl rfl)
theorem dX4_clear_36 : decode cX4_clear 36 = .ok (.iload_n 1, 1) := dk_27 (dk_at dksX4_clear_1 13 rfl rfl)
theorem dX4_clear_37 : decode cX4_clear 37 = .ok (.invokevirtual 312, 3) := dk_182 1 56 (dk_at dksX4_clear_1 14 rfl rfl)
theorem dX4_clear_40 : decode cX4_clear 40 = .ok (.ifCond .ne 13, 3) := dk_154 0 13 (dk_at dksX4_clear_1 17 rfl rfl)
theorem dX4_clear_43 : decode cX4_clear 43 = .ok (.aload_n 0, 1) := dk_42 (dk_at dksX4_clear_1 20 rfl rfl)
theorem dX4_clear_44 : decode cX4_clear 44 = .ok (.getfield 39, 3) := dk_180 0 39 (dk_at dksX4_clear_1 21 rfl rfl)
theorem dX4_clear_47 : decode cX4_clear 47 = .ok (.bipush 10, 2) := dk_16 10 (dk_at dksX4_clear_2 0 rfl rfl)
theorem dX4_clear_49 : decode cX4_clear 49 = .ok (.iaload, 1) := dk_46 (dk_at dksX4_clear_2 2 rfl rfl)
theorem dX4_clear_50 : decode cX4_clear 50 = .ok (.iconst 1, 1) := dk_4 (dk_at dksX4_clear_2 3 rfl rfl)
theorem dX4_clear_51 : decode cX4_clear 51 = .ok (.isub, 1) := dk_100 (dk_at dksX4_clear_2 4 rfl rfl)
theorem dX4_clear_52 : decode cX4_clear 52 = .ok (.istore_n 2, 1) := dk_61 (dk_at dksX4_clear_2 5 rfl rfl)
theorem dX4_clear_53 : decode cX4_clear 53 = .ok (.iinc 3 1, 3) := dk_132 3 1 (dk_at dksX4_clear_2 6 rfl rfl)
theorem dX4_clear_56 : decode cX4_clear 56 = .ok (.goto (-37), 3) := dk_167 255 219 (dk_at dksX4_clear_2 9 rfl rfl)
theorem dX4_clear_59 : decode cX4_clear 59 = .ok (.aload_n 0, 1) := dk_42 (dk_at dksX4_clear_2 12 rfl rfl)
theorem dX4_clear_60 : decode cX4_clear 60 = .ok (.invokevirtual 382, 3) := dk_182 1 126 (dk_at dksX4_clear_2 13 rfl rfl)
theorem dX4_clear_63 : decode cX4_clear 63 = .ok (.iload_n 2, 1) := dk_28 (dk_at dksX4_clear_2 16 rfl rfl)
theorem dX4_clear_64 : decode cX4_clear 64 = .ok (.ireturn, 1) := dk_172 (dk_at dksX4_clear_2 17 rfl rfl)
abbrev cX4_chord : ByteArray := prog_19_method_84_code
def yX4_chord : MethodName := ⟨RX4, "chord", "(I)I"⟩
def dkwX4_chord_4 : List UInt8 := [167, 0, 4, 28, 172]
abbrev dktX4_chord_4 : List UInt8 := dkwX4_chord_4 ++ []
def dkwX4_chord_3 : List UInt8 := [184, 1, 78, 162, 0, 5, 29, 61, 132, 3, 1, 167, 255, 197, 27, 154, 0, 11, 42, 28, 182, 1, 81]
abbrev dktX4_chord_3 : List UInt8 := dkwX4_chord_3 ++ dktX4_chord_4
def dkwX4_chord_2 : List UInt8 := [42, 29, 182, 1, 129, 153, 0, 26, 21, 4, 157, 0, 19, 21, 4, 154, 0, 16, 29, 184, 1, 78, 28]
abbrev dktX4_chord_2 : List UInt8 := dkwX4_chord_2 ++ dktX4_chord_3
def dkwX4_chord_1 : List UInt8 := [4, 42, 180, 0, 39, 6, 46, 120, 162, 0, 53, 42, 29, 182, 1, 81, 42, 28, 182, 1, 81, 100, 54, 4]
abbrev dktX4_chord_1 : List UInt8 := dkwX4_chord_1 ++ dktX4_chord_2
def dkwX4_chord_0 : List UInt8 := [42, 182, 1, 38, 153, 0, 13, 27, 133, 9, 10, 184, 0, 130, 154, 0, 5, 2, 172, 3, 61, 4, 62, 29]
abbrev dktX4_chord_0 : List UInt8 := dkwX4_chord_0 ++ dktX4_chord_1
theorem dksX4_chord_0 : cX4_chord.data.toList.drop 0 = dktX4_chord_0 := by decide +kernel
theorem dksX4_chord_1 : cX4_chord.data.toList.drop 24 = dktX4_chord_1 := dk_seg dksX4_chord_0 24 rfl rfl
theorem dksX4_chord_2 : cX4_chord.data.toList.drop 48 = dktX4_chord_2 := dk_seg dksX4_chord_1 24 rfl rfl
theorem dksX4_chord_3 : cX4_chord.data.toList.drop 71 = dktX4_chord_3 := dk_seg dksX4_chord_2 23 rfl rfl
theorem dksX4_chord_4 : cX4_chord.data.toList.drop 94 = dktX4_chord_4 := dk_seg dksX4_chord_3 23 rfl rfl
theorem dX4_chord_0 : decode cX4_chord 0 = .ok (.aload_n 0, 1) := dk_42 (dk_at dksX4_chord_0 0 rfl rfl)
theorem dX4_chord_1 : decode cX4_chord 1 = .ok (.invokevirtual 294, 3) := dk_182 1 38 (dk_at dksX4_chord_0 1 rfl rfl)
theorem dX4_chord_4 : decode cX4_chord 4 = .ok (.ifCond .eq 13, 3) := dk_153 0 13 (dk_at dksX4_chord_0 4 rfl rfl)
theorem dX4_chord_7 : decode cX4_chord 7 = .ok (.iload_n 1, 1) := dk_27 (dk_at dksX4_chord_0 7 rfl rfl)
theorem dX4_chord_8 : decode cX4_chord 8 = .ok (.i2l, 1) := dk_133 (dk_at dksX4_chord_0 8 rfl rfl)
theorem dX4_chord_9 : decode cX4_chord 9 = .ok (.lconst 0, 1) := dk_9 (dk_at dksX4_chord_0 9 rfl rfl)
theorem dX4_chord_10 : decode cX4_chord 10 = .ok (.lconst 1, 1) := dk_10 (dk_at dksX4_chord_0 10 rfl rfl)
theorem dX4_chord_11 : decode cX4_chord 11 = .ok (.invokestatic 130, 3) := dk_184 0 130 (dk_at dksX4_chord_0 11 rfl rfl)
theorem dX4_chord_14 : decode cX4_chord 14 = .ok (.ifCond .ne 5, 3) := dk_154 0 5 (dk_at dksX4_chord_0 14 rfl rfl)
theorem dX4_chord_17 : decode cX4_chord 17 = .ok (.iconst (-1), 1) := dk_2 (dk_at dksX4_chord_0 17 rfl rfl)
theorem dX4_chord_18 : decode cX4_chord 18 = .ok (.ireturn, 1) := dk_172 (dk_at dksX4_chord_0 18 rfl rfl)
theorem dX4_chord_19 : decode cX4_chord 19 = .ok (.iconst 0, 1) := dk_3 (dk_at dksX4_chord_0 19 rfl rfl)
theorem dX4_chord_20 : decode cX4_chord 20 = .ok (.istore_n 2, 1) := dk_61 (dk_at dksX4_chord_0 20 rfl rfl)
theorem dX4_chord_21 : decode cX4_chord 21 = .ok (.iconst 1, 1) := dk_4 (dk_at dksX4_chord_0 21 rfl rfl)
theorem dX4_chord_22 : decode cX4_chord 22 = .ok (.istore_n 3, 1) := dk_62 (dk_at dksX4_chord_0 22 rfl rfl)
theorem dX4_chord_23 : decode cX4_chord 23 = .ok (.iload_n 3, 1) := dk_29 (dk_at dksX4_chord_0 23 rfl rfl)
theorem dX4_chord_24 : decode cX4_chord 24 = .ok (.iconst 1, 1) := dk_4 (dk_at dksX4_chord_1 0 rfl rfl)
theorem dX4_chord_25 : decode cX4_chord 25 = .ok (.aload_n 0, 1) := dk_42 (dk_at dksX4_chord_1 1 rfl rfl)
theorem dX4_chord_26 : decode cX4_chord 26 = .ok (.getfield 39, 3) := dk_180 0 39 (dk_at dksX4_chord_1 2 rfl rfl)
theorem dX4_chord_29 : decode cX4_chord 29 = .ok (.iconst 3, 1) := dk_6 (dk_at dksX4_chord_1 5 rfl rfl)
theorem dX4_chord_30 : decode cX4_chord 30 = .ok (.iaload, 1) := dk_46 (dk_at dksX4_chord_1 6 rfl rfl)
theorem dX4_chord_31 : decode cX4_chord 31 = .ok (.ishl, 1) := dk_120 (dk_at dksX4_chord_1 7 rfl rfl)
theorem dX4_chord_32 : decode cX4_chord 32 = .ok (.if_icmp .ge 53, 3) := dk_162 0 53 (dk_at dksX4_chord_1 8 rfl rfl)
theorem dX4_chord_35 : decode cX4_chord 35 = .ok (.aload_n 0, 1) := dk_42 (dk_at dksX4_chord_1 11 rfl rfl)
theorem dX4_chord_36 : decode cX4_chord 36 = .ok (.iload_n 3, 1) := dk_29 (dk_at dksX4_chord_1 12 rfl rfl)
theorem dX4_chord_37 : decode cX4_chord 37 = .ok (.invokevirtual 337, 3) := dk_182 1 81 (dk_at dksX4_chord_1 13 rfl rfl)
theorem dX4_chord_40 : decode cX4_chord 40 = .ok (.aload_n 0, 1) := dk_42 (dk_at dksX4_chord_1 16 rfl rfl)
theorem dX4_chord_41 : decode cX4_chord 41 = .ok (.iload_n 2, 1) := dk_28 (dk_at dksX4_chord_1 17 rfl rfl)
theorem dX4_chord_42 : decode cX4_chord 42 = .ok (.invokevirtual 337, 3) := dk_182 1 81 (dk_at dksX4_chord_1 18 rfl rfl)
theorem dX4_chord_45 : decode cX4_chord 45 = .ok (.isub, 1) := dk_100 (dk_at dksX4_chord_1 21 rfl rfl)
theorem dX4_chord_46 : decode cX4_chord 46 = .ok (.istore 4, 2) := dk_54 4 (dk_at dksX4_chord_1 22 rfl rfl)
theorem dX4_chord_48 : decode cX4_chord 48 = .ok (.aload_n 0, 1) := dk_42 (dk_at dksX4_chord_2 0 rfl rfl)
theorem dX4_chord_49 : decode cX4_chord 49 = .ok (.iload_n 3, 1) := dk_29 (dk_at dksX4_chord_2 1 rfl rfl)
theorem dX4_chord_50 : decode cX4_chord 50 = .ok (.invokevirtual 385, 3) := dk_182 1 129 (dk_at dksX4_chord_2 2 rfl rfl)
theorem dX4_chord_53 : decode cX4_chord 53 = .ok (.ifCond .eq 26, 3) := dk_153 0 26 (dk_at dksX4_chord_2 5 rfl rfl)
theorem dX4_chord_56 : decode cX4_chord 56 = .ok (.iload 4, 2) := dk_21 4 (dk_at dksX4_chord_2 8 rfl rfl)
theorem dX4_chord_58 : decode cX4_chord 58 = .ok (.ifCond .gt 19, 3) := dk_157 0 19 (dk_at dksX4_chord_2 10 rfl rfl)
theorem dX4_chord_61 : decode cX4_chord 61 = .ok (.iload 4, 2) := dk_21 4 (dk_at dksX4_chord_2 13 rfl rfl)
theorem dX4_chord_63 : decode cX4_chord 63 = .ok (.ifCond .ne 16, 3) := dk_154 0 16 (dk_at dksX4_chord_2 15 rfl rfl)
theorem dX4_chord_66 : decode cX4_chord 66 = .ok (.iload_n 3, 1) := dk_29 (dk_at dksX4_chord_2 18 rfl rfl)
theorem dX4_chord_67 : decode cX4_chord 67 = .ok (.invokestatic 334, 3) := dk_184 1 78 (dk_at dksX4_chord_2 19 rfl rfl)
theorem dX4_chord_70 : decode cX4_chord 70 = .ok (.iload_n 2, 1) := dk_28 (dk_at dksX4_chord_2 22 rfl rfl)
theorem dX4_chord_71 : decode cX4_chord 71 = .ok (.invokestatic 334, 3) := dk_184 1 78 (dk_at dksX4_chord_3 0 rfl rfl)
theorem dX4_chord_74 : decode cX4_chord 74 = .ok (.if_icmp .ge 5, 3) := dk_162 0 5 (dk_at dksX4_chord_3 3 rfl rfl)
theorem dX4_chord_77 : decode cX4_chord 77 = .ok (.iload_n 3, 1) := dk_29 (dk_at dksX4_chord_3 6 rfl rfl)
theorem dX4_chord_78 : decode cX4_chord 78 = .ok (.istore_n 2, 1) := dk_61 (dk_at dksX4_chord_3 7 rfl rfl)
theorem dX4_chord_79 : decode cX4_chord 79 = .ok (.iinc 3 1, 3) := dk_132 3 1 (dk_at dksX4_chord_3 8 rfl rfl)
theorem dX4_chord_82 : decode cX4_chord 82 = .ok (.goto (-59), 3) := dk_167 255 197 (dk_at dksX4_chord_3 11 rfl rfl)
theorem dX4_chord_85 : decode cX4_chord 85 = .ok (.iload_n 1, 1) := dk_27 (dk_at dksX4_chord_3 14 rfl rfl)
theorem dX4_chord_86 : decode cX4_chord 86 = .ok (.ifCond .ne 11, 3) := dk_154 0 11 (dk_at dksX4_chord_3 15 rfl rfl)
theorem dX4_chord_89 : decode cX4_chord 89 = .ok (.aload_n 0, 1) := dk_42 (dk_at dksX4_chord_3 18 rfl rfl)
theorem dX4_chord_90 : decode cX4_chord 90 = .ok (.iload_n 2, 1) := dk_28 (dk_at dksX4_chord_3 19 rfl rfl)
theorem dX4_chord_91 : decode cX4_chord 91 = .ok (.invokevirtual 337, 3) := dk_182 1 81 (dk_at dksX4_chord_3 20 rfl rfl)
theorem dX4_chord_94 : decode cX4_chord 94 = .ok (.goto 4, 3) := dk_167 0 4 (dk_at dksX4_chord_4 0 rfl rfl)
theorem dX4_chord_97 : decode cX4_chord 97 = .ok (.iload_n 2, 1) := dk_28 (dk_at dksX4_chord_4 3 rfl rfl)
theorem dX4_chord_98 : decode cX4_chord 98 = .ok (.ireturn, 1) := dk_172 (dk_at dksX4_chord_4 4 rfl rfl)
abbrev cX4_isPeace : ByteArray := prog_19_method_58_code
def yX4_isPeace : MethodName := ⟨RX4, "isPeace", "(I)Z"⟩
def dkwX4_isPeace_1 : List UInt8 := [16, 72, 28, 96, 46, 27, 126, 153, 0, 5, 3, 172, 132, 2, 1, 167, 255, 219, 4, 172]
abbrev dktX4_isPeace_1 : List UInt8 := dkwX4_isPeace_1 ++ []
def dkwX4_isPeace_0 : List UInt8 := [3, 61, 28, 42, 180, 0, 39, 6, 46, 162, 0, 33, 27, 28, 184, 1, 41, 153, 0, 19, 42, 180, 0, 39]
abbrev dktX4_isPeace_0 : List UInt8 := dkwX4_isPeace_0 ++ dktX4_isPeace_1
theorem dksX4_isPeace_0 : cX4_isPeace.data.toList.drop 0 = dktX4_isPeace_0 := by decide +kernel
theorem dksX4_isPeace_1 : cX4_isPeace.data.toList.drop 24 = dktX4_isPeace_1 := dk_seg dksX4_isPeace_0 24 rfl rfl
theorem dX4_isPeace_0 : decode cX4_isPeace 0 = .ok (.iconst 0, 1) := dk_3 (dk_at dksX4_isPeace_0 0 rfl rfl)
theorem dX4_isPeace_1 : decode cX4_isPeace 1 = .ok (.istore_n 2, 1) := dk_61 (dk_at dksX4_isPeace_0 1 rfl rfl)
theorem dX4_isPeace_2 : decode cX4_isPeace 2 = .ok (.iload_n 2, 1) := dk_28 (dk_at dksX4_isPeace_0 2 rfl rfl)
theorem dX4_isPeace_3 : decode cX4_isPeace 3 = .ok (.aload_n 0, 1) := dk_42 (dk_at dksX4_isPeace_0 3 rfl rfl)
theorem dX4_isPeace_4 : decode cX4_isPeace 4 = .ok (.getfield 39, 3) := dk_180 0 39 (dk_at dksX4_isPeace_0 4 rfl rfl)
theorem dX4_isPeace_7 : decode cX4_isPeace 7 = .ok (.iconst 3, 1) := dk_6 (dk_at dksX4_isPeace_0 7 rfl rfl)
theorem dX4_isPeace_8 : decode cX4_isPeace 8 = .ok (.iaload, 1) := dk_46 (dk_at dksX4_isPeace_0 8 rfl rfl)
theorem dX4_isPeace_9 : decode cX4_isPeace 9 = .ok (.if_icmp .ge 33, 3) := dk_162 0 33 (dk_at dksX4_isPeace_0 9 rfl rfl)
theorem dX4_isPeace_12 : decode cX4_isPeace 12 = .ok (.iload_n 1, 1) := dk_27 (dk_at dksX4_isPeace_0 12 rfl rfl)
theorem dX4_isPeace_13 : decode cX4_isPeace 13 = .ok (.iload_n 2, 1) := dk_28 (dk_at dksX4_isPeace_0 13 rfl rfl)
theorem dX4_isPeace_14 : decode cX4_isPeace 14 = .ok (.invokestatic 297, 3) := dk_184 1 41 (dk_at dksX4_isPeace_0 14 rfl rfl)
theorem dX4_isPeace_17 : decode cX4_isPeace 17 = .ok (.ifCond .eq 19, 3) := dk_153 0 19 (dk_at dksX4_isPeace_0 17 rfl rfl)
theorem dX4_isPeace_20 : decode cX4_isPeace 20 = .ok (.aload_n 0, 1) := dk_42 (dk_at dksX4_isPeace_0 20 rfl rfl)
theorem dX4_isPeace_21 : decode cX4_isPeace 21 = .ok (.getfield 39, 3) := dk_180 0 39 (dk_at dksX4_isPeace_0 21 rfl rfl)
theorem dX4_isPeace_24 : decode cX4_isPeace 24 = .ok (.bipush 72, 2) := dk_16 72 (dk_at dksX4_isPeace_1 0 rfl rfl)
theorem dX4_isPeace_26 : decode cX4_isPeace 26 = .ok (.iload_n 2, 1) := dk_28 (dk_at dksX4_isPeace_1 2 rfl rfl)
theorem dX4_isPeace_27 : decode cX4_isPeace 27 = .ok (.iadd, 1) := dk_96 (dk_at dksX4_isPeace_1 3 rfl rfl)
theorem dX4_isPeace_28 : decode cX4_isPeace 28 = .ok (.iaload, 1) := dk_46 (dk_at dksX4_isPeace_1 4 rfl rfl)
theorem dX4_isPeace_29 : decode cX4_isPeace 29 = .ok (.iload_n 1, 1) := dk_27 (dk_at dksX4_isPeace_1 5 rfl rfl)
theorem dX4_isPeace_30 : decode cX4_isPeace 30 = .ok (.iand, 1) := dk_126 (dk_at dksX4_isPeace_1 6 rfl rfl)
theorem dX4_isPeace_31 : decode cX4_isPeace 31 = .ok (.ifCond .eq 5, 3) := dk_153 0 5 (dk_at dksX4_isPeace_1 7 rfl rfl)
theorem dX4_isPeace_34 : decode cX4_isPeace 34 = .ok (.iconst 0, 1) := dk_3 (dk_at dksX4_isPeace_1 10 rfl rfl)
theorem dX4_isPeace_35 : decode cX4_isPeace 35 = .ok (.ireturn, 1) := dk_172 (dk_at dksX4_isPeace_1 11 rfl rfl)
theorem dX4_isPeace_36 : decode cX4_isPeace 36 = .ok (.iinc 2 1, 3) := dk_132 2 1 (dk_at dksX4_isPeace_1 12 rfl rfl)
theorem dX4_isPeace_39 : decode cX4_isPeace 39 = .ok (.goto (-37), 3) := dk_167 255 219 (dk_at dksX4_isPeace_1 15 rfl rfl)
theorem dX4_isPeace_42 : decode cX4_isPeace 42 = .ok (.iconst 1, 1) := dk_4 (dk_at dksX4_isPeace_1 18 rfl rfl)
theorem dX4_isPeace_43 : decode cX4_isPeace 43 = .ok (.ireturn, 1) := dk_172 (dk_at dksX4_isPeace_1 19 rfl rfl)
abbrev cX4_beats : ByteArray := prog_19_method_87_code
def yX4_beats : MethodName := ⟨RX4, "beats", "(I)I"⟩
def dkwX4_beats_2 : List UInt8 := [167, 0, 22, 42, 27, 182, 1, 53, 153, 0, 12, 42, 180, 0, 61, 27, 46, 167, 0, 5, 16, 254, 172]
abbrev dktX4_beats_2 : List UInt8 := dkwX4_beats_2 ++ []
def dkwX4_beats_1 : List UInt8 := [3, 61, 42, 28, 182, 1, 139, 154, 0, 9, 132, 2, 1, 167, 255, 245, 27, 2, 160, 0, 7, 28]
abbrev dktX4_beats_1 : List UInt8 := dkwX4_beats_1 ++ dktX4_beats_2
def dkwX4_beats_0 : List UInt8 := [42, 182, 1, 38, 153, 0, 17, 27, 133, 20, 1, 135, 20, 1, 137, 184, 0, 130, 154, 0, 6, 16, 253, 172]
abbrev dktX4_beats_0 : List UInt8 := dkwX4_beats_0 ++ dktX4_beats_1
theorem dksX4_beats_0 : cX4_beats.data.toList.drop 0 = dktX4_beats_0 := by decide +kernel
theorem dksX4_beats_1 : cX4_beats.data.toList.drop 24 = dktX4_beats_1 := dk_seg dksX4_beats_0 24 rfl rfl
theorem dksX4_beats_2 : cX4_beats.data.toList.drop 46 = dktX4_beats_2 := dk_seg dksX4_beats_1 22 rfl rfl
theorem dX4_beats_0 : decode cX4_beats 0 = .ok (.aload_n 0, 1) := dk_42 (dk_at dksX4_beats_0 0 rfl rfl)
theorem dX4_beats_1 : decode cX4_beats 1 = .ok (.invokevirtual 294, 3) := dk_182 1 38 (dk_at dksX4_beats_0 1 rfl rfl)
theorem dX4_beats_4 : decode cX4_beats 4 = .ok (.ifCond .eq 17, 3) := dk_153 0 17 (dk_at dksX4_beats_0 4 rfl rfl)
theorem dX4_beats_7 : decode cX4_beats 7 = .ok (.iload_n 1, 1) := dk_27 (dk_at dksX4_beats_0 7 rfl rfl)
theorem dX4_beats_8 : decode cX4_beats 8 = .ok (.i2l, 1) := dk_133 (dk_at dksX4_beats_0 8 rfl rfl)
theorem dX4_beats_9 : decode cX4_beats 9 = .ok (.ldc2_w 391, 3) := dk_20 1 135 (dk_at dksX4_beats_0 9 rfl rfl)
theorem dX4_beats_12 : decode cX4_beats 12 = .ok (.ldc2_w 393, 3) := dk_20 1 137 (dk_at dksX4_beats_0 12 rfl rfl)
theorem dX4_beats_15 : decode cX4_beats 15 = .ok (.invokestatic 130, 3) := dk_184 0 130 (dk_at dksX4_beats_0 15 rfl rfl)
theorem dX4_beats_18 : decode cX4_beats 18 = .ok (.ifCond .ne 6, 3) := dk_154 0 6 (dk_at dksX4_beats_0 18 rfl rfl)
theorem dX4_beats_21 : decode cX4_beats 21 = .ok (.bipush (-3), 2) := dk_16 253 (dk_at dksX4_beats_0 21 rfl rfl)
theorem dX4_beats_23 : decode cX4_beats 23 = .ok (.ireturn, 1) := dk_172 (dk_at dksX4_beats_0 23 rfl rfl)
theorem dX4_beats_24 : decode cX4_beats 24 = .ok (.iconst 0, 1) := dk_3 (dk_at dksX4_beats_1 0 rfl rfl)
theorem dX4_beats_25 : decode cX4_beats 25 = .ok (.istore_n 2, 1) := dk_61 (dk_at dksX4_beats_1 1 rfl rfl)
theorem dX4_beats_26 : decode cX4_beats 26 = .ok (.aload_n 0, 1) := dk_42 (dk_at dksX4_beats_1 2 rfl rfl)
theorem dX4_beats_27 : decode cX4_beats 27 = .ok (.iload_n 2, 1) := dk_28 (dk_at dksX4_beats_1 3 rfl rfl)
theorem dX4_beats_28 : decode cX4_beats 28 = .ok (.invokevirtual 395, 3) := dk_182 1 139 (dk_at dksX4_beats_1 4 rfl rfl)
theorem dX4_beats_31 : decode cX4_beats 31 = .ok (.ifCond .ne 9, 3) := dk_154 0 9 (dk_at dksX4_beats_1 7 rfl rfl)
theorem dX4_beats_34 : decode cX4_beats 34 = .ok (.iinc 2 1, 3) := dk_132 2 1 (dk_at dksX4_beats_1 10 rfl rfl)
theorem dX4_beats_37 : decode cX4_beats 37 = .ok (.goto (-11), 3) := dk_167 255 245 (dk_at dksX4_beats_1 13 rfl rfl)
theorem dX4_beats_40 : decode cX4_beats 40 = .ok (.iload_n 1, 1) := dk_27 (dk_at dksX4_beats_1 16 rfl rfl)
theorem dX4_beats_41 : decode cX4_beats 41 = .ok (.iconst (-1), 1) := dk_2 (dk_at dksX4_beats_1 17 rfl rfl)
theorem dX4_beats_42 : decode cX4_beats 42 = .ok (.if_icmp .ne 7, 3) := dk_160 0 7 (dk_at dksX4_beats_1 18 rfl rfl)
theorem dX4_beats_45 : decode cX4_beats 45 = .ok (.iload_n 2, 1) := dk_28 (dk_at dksX4_beats_1 21 rfl rfl)
theorem dX4_beats_46 : decode cX4_beats 46 = .ok (.goto 22, 3) := dk_167 0 22 (dk_at dksX4_beats_2 0 rfl rfl)
theorem dX4_beats_49 : decode cX4_beats 49 = .ok (.aload_n 0, 1) := dk_42 (dk_at dksX4_beats_2 3 rfl rfl)
theorem dX4_beats_50 : decode cX4_beats 50 = .ok (.iload_n 1, 1) := dk_27 (dk_at dksX4_beats_2 4 rfl rfl)
theorem dX4_beats_51 : decode cX4_beats 51 = .ok (.invokevirtual 309, 3) := dk_182 1 53 (dk_at dksX4_beats_2 5 rfl rfl)
theorem dX4_beats_54 : decode cX4_beats 54 = .ok (.ifCond .eq 12, 3) := dk_153 0 12 (dk_at dksX4_beats_2 8 rfl rfl)
theorem dX4_beats_57 : decode cX4_beats 57 = .ok (.aload_n 0, 1) := dk_42 (dk_at dksX4_beats_2 11 rfl rfl)
theorem dX4_beats_58 : decode cX4_beats 58 = .ok (.getfield 61, 3) := dk_180 0 61 (dk_at dksX4_beats_2 12 rfl rfl)
theorem dX4_beats_61 : decode cX4_beats 61 = .ok (.iload_n 1, 1) := dk_27 (dk_at dksX4_beats_2 15 rfl rfl)
theorem dX4_beats_62 : decode cX4_beats 62 = .ok (.iaload, 1) := dk_46 (dk_at dksX4_beats_2 16 rfl rfl)
theorem dX4_beats_63 : decode cX4_beats 63 = .ok (.goto 5, 3) := dk_167 0 5 (dk_at dksX4_beats_2 17 rfl rfl)
theorem dX4_beats_66 : decode cX4_beats 66 = .ok (.bipush (-2), 2) := dk_16 254 (dk_at dksX4_beats_2 20 rfl rfl)
theorem dX4_beats_68 : decode cX4_beats 68 = .ok (.ireturn, 1) := dk_172 (dk_at dksX4_beats_2 22 rfl rfl)
abbrev cX4_isDoneBy : ByteArray := prog_19_method_86_code
def yX4_isDoneBy : MethodName := ⟨RX4, "isDoneBy", "(I)Z"⟩
def dkwX4_isDoneBy_3 : List UInt8 := [28, 42, 180, 0, 39, 6, 46, 160, 0, 7, 4, 167, 0, 4, 3, 172]
abbrev dktX4_isDoneBy_3 : List UInt8 := dkwX4_isDoneBy_3 ++ []
def dkwX4_isDoneBy_2 : List UInt8 := [167, 255, 219, 42, 28, 182, 1, 132, 153, 255, 211, 132, 2, 1, 42, 180, 0, 61, 28, 2, 79, 167, 255, 198]
abbrev dktX4_isDoneBy_2 : List UInt8 := dkwX4_isDoneBy_2 ++ dktX4_isDoneBy_3
def dkwX4_isDoneBy_1 : List UInt8 := [180, 0, 61, 28, 92, 46, 4, 96, 79, 42, 180, 0, 61, 28, 46, 27, 161, 0, 9, 132, 2, 255]
abbrev dktX4_isDoneBy_1 : List UInt8 := dkwX4_isDoneBy_1 ++ dktX4_isDoneBy_2
def dkwX4_isDoneBy_0 : List UInt8 := [3, 61, 42, 180, 0, 61, 3, 2, 79, 28, 155, 0, 60, 28, 42, 180, 0, 39, 6, 46, 162, 0, 50, 42]
abbrev dktX4_isDoneBy_0 : List UInt8 := dkwX4_isDoneBy_0 ++ dktX4_isDoneBy_1
theorem dksX4_isDoneBy_0 : cX4_isDoneBy.data.toList.drop 0 = dktX4_isDoneBy_0 := by decide +kernel
theorem dksX4_isDoneBy_1 : cX4_isDoneBy.data.toList.drop 24 = dktX4_isDoneBy_1 := dk_seg dksX4_isDoneBy_0 24 rfl rfl
theorem dksX4_isDoneBy_2 : cX4_isDoneBy.data.toList.drop 46 = dktX4_isDoneBy_2 := dk_seg dksX4_isDoneBy_1 22 rfl rfl
theorem dksX4_isDoneBy_3 : cX4_isDoneBy.data.toList.drop 70 = dktX4_isDoneBy_3 := dk_seg dksX4_isDoneBy_2 24 rfl rfl
theorem dX4_isDoneBy_0 : decode cX4_isDoneBy 0 = .ok (.iconst 0, 1) := dk_3 (dk_at dksX4_isDoneBy_0 0 rfl rfl)
theorem dX4_isDoneBy_1 : decode cX4_isDoneBy 1 = .ok (.istore_n 2, 1) := dk_61 (dk_at dksX4_isDoneBy_0 1 rfl rfl)
theorem dX4_isDoneBy_2 : decode cX4_isDoneBy 2 = .ok (.aload_n 0, 1) := dk_42 (dk_at dksX4_isDoneBy_0 2 rfl rfl)
theorem dX4_isDoneBy_3 : decode cX4_isDoneBy 3 = .ok (.getfield 61, 3) := dk_180 0 61 (dk_at dksX4_isDoneBy_0 3 rfl rfl)
theorem dX4_isDoneBy_6 : decode cX4_isDoneBy 6 = .ok (.iconst 0, 1) := dk_3 (dk_at dksX4_isDoneBy_0 6 rfl rfl)
theorem dX4_isDoneBy_7 : decode cX4_isDoneBy 7 = .ok (.iconst (-1), 1) := dk_2 (dk_at dksX4_isDoneBy_0 7 rfl rfl)
theorem dX4_isDoneBy_8 : decode cX4_isDoneBy 8 = .ok (.iastore, 1) := dk_79 (dk_at dksX4_isDoneBy_0 8 rfl rfl)
theorem dX4_isDoneBy_9 : decode cX4_isDoneBy 9 = .ok (.iload_n 2, 1) := dk_28 (dk_at dksX4_isDoneBy_0 9 rfl rfl)
theorem dX4_isDoneBy_10 : decode cX4_isDoneBy 10 = .ok (.ifCond .lt 60, 3) := dk_155 0 60 (dk_at dksX4_isDoneBy_0 10 rfl rfl)
theorem dX4_isDoneBy_13 : decode cX4_isDoneBy 13 = .ok (.iload_n 2, 1) := dk_28 (dk_at dksX4_isDoneBy_0 13 rfl rfl)
theorem dX4_isDoneBy_14 : decode cX4_isDoneBy 14 = .ok (.aload_n 0, 1) := dk_42 (dk_at dksX4_isDoneBy_0 14 rfl rfl)
theorem dX4_isDoneBy_15 : decode cX4_isDoneBy 15 = .ok (.getfield 39, 3) := dk_180 0 39 (dk_at dksX4_isDoneBy_0 15 rfl rfl)
theorem dX4_isDoneBy_18 : decode cX4_isDoneBy 18 = .ok (.iconst 3, 1) := dk_6 (dk_at dksX4_isDoneBy_0 18 rfl rfl)
theorem dX4_isDoneBy_19 : decode cX4_isDoneBy 19 = .ok (.iaload, 1) := dk_46 (dk_at dksX4_isDoneBy_0 19 rfl rfl)
theorem dX4_isDoneBy_20 : decode cX4_isDoneBy 20 = .ok (.if_icmp .ge 50, 3) := dk_162 0 50 (dk_at dksX4_isDoneBy_0 20 rfl rfl)
theorem dX4_isDoneBy_23 : decode cX4_isDoneBy 23 = .ok (.aload_n 0, 1) := dk_42 (dk_at dksX4_isDoneBy_0 23 rfl rfl)
theorem dX4_isDoneBy_24 : decode cX4_isDoneBy 24 = .ok (.getfield 61, 3) := dk_180 0 61 (dk_at dksX4_isDoneBy_1 0 rfl rfl)
theorem dX4_isDoneBy_27 : decode cX4_isDoneBy 27 = .ok (.iload_n 2, 1) := dk_28 (dk_at dksX4_isDoneBy_1 3 rfl rfl)
theorem dX4_isDoneBy_28 : decode cX4_isDoneBy 28 = .ok (.dup2, 1) := dk_92 (dk_at dksX4_isDoneBy_1 4 rfl rfl)
theorem dX4_isDoneBy_29 : decode cX4_isDoneBy 29 = .ok (.iaload, 1) := dk_46 (dk_at dksX4_isDoneBy_1 5 rfl rfl)
theorem dX4_isDoneBy_30 : decode cX4_isDoneBy 30 = .ok (.iconst 1, 1) := dk_4 (dk_at dksX4_isDoneBy_1 6 rfl rfl)
theorem dX4_isDoneBy_31 : decode cX4_isDoneBy 31 = .ok (.iadd, 1) := dk_96 (dk_at dksX4_isDoneBy_1 7 rfl rfl)
theorem dX4_isDoneBy_32 : decode cX4_isDoneBy 32 = .ok (.iastore, 1) := dk_79 (dk_at dksX4_isDoneBy_1 8 rfl rfl)
theorem dX4_isDoneBy_33 : decode cX4_isDoneBy 33 = .ok (.aload_n 0, 1) := dk_42 (dk_at dksX4_isDoneBy_1 9 rfl rfl)
theorem dX4_isDoneBy_34 : decode cX4_isDoneBy 34 = .ok (.getfield 61, 3) := dk_180 0 61 (dk_at dksX4_isDoneBy_1 10 rfl rfl)
theorem dX4_isDoneBy_37 : decode cX4_isDoneBy 37 = .ok (.iload_n 2, 1) := dk_28 (dk_at dksX4_isDoneBy_1 13 rfl rfl)
theorem dX4_isDoneBy_38 : decode cX4_isDoneBy 38 = .ok (.iaload, 1) := dk_46 (dk_at dksX4_isDoneBy_1 14 rfl rfl)
theorem dX4_isDoneBy_39 : decode cX4_isDoneBy 39 = .ok (.iload_n 1, 1) := dk_27 (dk_at dksX4_isDoneBy_1 15 rfl rfl)
theorem dX4_isDoneBy_40 : decode cX4_isDoneBy 40 = .ok (.if_icmp .lt 9, 3) := dk_161 0 9 (dk_at dksX4_isDoneBy_1 16 rfl rfl)
theorem dX4_isDoneBy_43 : decode cX4_isDoneBy 43 = .ok (.iinc 2 (-1), 3) := dk_132 2 255 (dk_at dksX4_isDoneBy_1 19 rfl rfl)
theorem dX4_isDoneBy_46 : decode cX4_isDoneBy 46 = .ok (.goto (-37), 3) := dk_167 255 219 (dk_at dksX4_isDoneBy_2 0 rfl rfl)
theorem dX4_isDoneBy_49 : decode cX4_isDoneBy 49 = .ok (.aload_n 0, 1) := dk_42 (dk_at dksX4_isDoneBy_2 3 rfl rfl)
theorem dX4_isDoneBy_50 : decode cX4_isDoneBy 50 = .ok (.iload_n 2, 1) := dk_28 (dk_at dksX4_isDoneBy_2 4 rfl rfl)
theorem dX4_isDoneBy_51 : decode cX4_isDoneBy 51 = .ok (.invokevirtual 388, 3) := dk_182 1 132 (dk_at dksX4_isDoneBy_2 5 rfl rfl)
theorem dX4_isDoneBy_54 : decode cX4_isDoneBy 54 = .ok (.ifCond .eq (-45), 3) := dk_153 255 211 (dk_at dksX4_isDoneBy_2 8 rfl rfl)
theorem dX4_isDoneBy_57 : decode cX4_isDoneBy 57 = .ok (.iinc 2 1, 3) := dk_132 2 1 (dk_at dksX4_isDoneBy_2 11 rfl rfl)
theorem dX4_isDoneBy_60 : decode cX4_isDoneBy 60 = .ok (.aload_n 0, 1) := dk_42 (dk_at dksX4_isDoneBy_2 14 rfl rfl)
theorem dX4_isDoneBy_61 : decode cX4_isDoneBy 61 = .ok (.getfield 61, 3) := dk_180 0 61 (dk_at dksX4_isDoneBy_2 15 rfl rfl)
theorem dX4_isDoneBy_64 : decode cX4_isDoneBy 64 = .ok (.iload_n 2, 1) := dk_28 (dk_at dksX4_isDoneBy_2 18 rfl rfl)
theorem dX4_isDoneBy_65 : decode cX4_isDoneBy 65 = .ok (.iconst (-1), 1) := dk_2 (dk_at dksX4_isDoneBy_2 19 rfl rfl)
theorem dX4_isDoneBy_66 : decode cX4_isDoneBy 66 = .ok (.iastore, 1) := dk_79 (dk_at dksX4_isDoneBy_2 20 rfl rfl)
theorem dX4_isDoneBy_67 : decode cX4_isDoneBy 67 = .ok (.goto (-58), 3) := dk_167 255 198 (dk_at dksX4_isDoneBy_2 21 rfl rfl)
theorem dX4_isDoneBy_70 : decode cX4_isDoneBy 70 = .ok (.iload_n 2, 1) := dk_28 (dk_at dksX4_isDoneBy_3 0 rfl rfl)
theorem dX4_isDoneBy_71 : decode cX4_isDoneBy 71 = .ok (.aload_n 0, 1) := dk_42 (dk_at dksX4_isDoneBy_3 1 rfl rfl)
theorem dX4_isDoneBy_72 : decode cX4_isDoneBy 72 = .ok (.getfield 39, 3) := dk_180 0 39 (dk_at dksX4_isDoneBy_3 2 rfl rfl)
theorem dX4_isDoneBy_75 : decode cX4_isDoneBy 75 = .ok (.iconst 3, 1) := dk_6 (dk_at dksX4_isDoneBy_3 5 rfl rfl)
theorem dX4_isDoneBy_76 : decode cX4_isDoneBy 76 = .ok (.iaload, 1) := dk_46 (dk_at dksX4_isDoneBy_3 6 rfl rfl)
theorem dX4_isDoneBy_77 : decode cX4_isDoneBy 77 = .ok (.if_icmp .ne 7, 3) := dk_160 0 7 (dk_at dksX4_isDoneBy_3 7 rfl rfl)
theorem dX4_isDoneBy_80 : decode cX4_isDoneBy 80 = .ok (.iconst 1, 1) := dk_4 (dk_at dksX4_isDoneBy_3 10 rfl rfl)
theorem dX4_isDoneBy_81 : decode cX4_isDoneBy 81 = .ok (.goto 4, 3) := dk_167 0 4 (dk_at dksX4_isDoneBy_3 11 rfl rfl)
theorem dX4_isDoneBy_84 : decode cX4_isDoneBy 84 = .ok (.iconst 0, 1) := dk_3 (dk_at dksX4_isDoneBy_3 14 rfl rfl)
theorem dX4_isDoneBy_85 : decode cX4_isDoneBy 85 = .ok (.ireturn, 1) := dk_172 (dk_at dksX4_isDoneBy_3 15 rfl rfl)
abbrev cX4_isFree : ByteArray := prog_19_method_85_code
def yX4_isFree : MethodName := ⟨RX4, "isFree", "(I)Z"⟩
def dkwX4_isFree_2 : List UInt8 := [172]
abbrev dktX4_isFree_2 : List UInt8 := dkwX4_isFree_2 ++ []
def dkwX4_isFree_1 : List UInt8 := [180, 0, 39, 16, 72, 27, 96, 46, 28, 184, 1, 41, 153, 0, 5, 3, 172, 132, 2, 1, 167, 255, 215, 4]
abbrev dktX4_isFree_1 : List UInt8 := dkwX4_isFree_1 ++ dktX4_isFree_2
def dkwX4_isFree_0 : List UInt8 := [3, 61, 28, 27, 162, 0, 42, 42, 180, 0, 61, 28, 46, 42, 180, 0, 61, 27, 46, 160, 0, 21, 42]
abbrev dktX4_isFree_0 : List UInt8 := dkwX4_isFree_0 ++ dktX4_isFree_1
theorem dksX4_isFree_0 : cX4_isFree.data.toList.drop 0 = dktX4_isFree_0 := by decide +kernel
theorem dksX4_isFree_1 : cX4_isFree.data.toList.drop 23 = dktX4_isFree_1 := dk_seg dksX4_isFree_0 23 rfl rfl
theorem dksX4_isFree_2 : cX4_isFree.data.toList.drop 47 = dktX4_isFree_2 := dk_seg dksX4_isFree_1 24 rfl rfl
theorem dX4_isFree_0 : decode cX4_isFree 0 = .ok (.iconst 0, 1) := dk_3 (dk_at dksX4_isFree_0 0 rfl rfl)
theorem dX4_isFree_1 : decode cX4_isFree 1 = .ok (.istore_n 2, 1) := dk_61 (dk_at dksX4_isFree_0 1 rfl rfl)
theorem dX4_isFree_2 : decode cX4_isFree 2 = .ok (.iload_n 2, 1) := dk_28 (dk_at dksX4_isFree_0 2 rfl rfl)
theorem dX4_isFree_3 : decode cX4_isFree 3 = .ok (.iload_n 1, 1) := dk_27 (dk_at dksX4_isFree_0 3 rfl rfl)
theorem dX4_isFree_4 : decode cX4_isFree 4 = .ok (.if_icmp .ge 42, 3) := dk_162 0 42 (dk_at dksX4_isFree_0 4 rfl rfl)
theorem dX4_isFree_7 : decode cX4_isFree 7 = .ok (.aload_n 0, 1) := dk_42 (dk_at dksX4_isFree_0 7 rfl rfl)
theorem dX4_isFree_8 : decode cX4_isFree 8 = .ok (.getfield 61, 3) := dk_180 0 61 (dk_at dksX4_isFree_0 8 rfl rfl)
theorem dX4_isFree_11 : decode cX4_isFree 11 = .ok (.iload_n 2, 1) := dk_28 (dk_at dksX4_isFree_0 11 rfl rfl)
theorem dX4_isFree_12 : decode cX4_isFree 12 = .ok (.iaload, 1) := dk_46 (dk_at dksX4_isFree_0 12 rfl rfl)
theorem dX4_isFree_13 : decode cX4_isFree 13 = .ok (.aload_n 0, 1) := dk_42 (dk_at dksX4_isFree_0 13 rfl rfl)
theorem dX4_isFree_14 : decode cX4_isFree 14 = .ok (.getfield 61, 3) := dk_180 0 61 (dk_at dksX4_isFree_0 14 rfl rfl)
theorem dX4_isFree_17 : decode cX4_isFree 17 = .ok (.iload_n 1, 1) := dk_27 (dk_at dksX4_isFree_0 17 rfl rfl)
theorem dX4_isFree_18 : decode cX4_isFree 18 = .ok (.iaload, 1) := dk_46 (dk_at dksX4_isFree_0 18 rfl rfl)
theorem dX4_isFree_19 : decode cX4_isFree 19 = .ok (.if_icmp .ne 21, 3) := dk_160 0 21 (dk_at dksX4_isFree_0 19 rfl rfl)
theorem dX4_isFree_22 : decode cX4_isFree 22 = .ok (.aload_n 0, 1) := dk_42 (dk_at dksX4_isFree_0 22 rfl rfl)
theorem dX4_isFree_23 : decode cX4_isFree 23 = .ok (.getfield 39, 3) := dk_180 0 39 (dk_at dksX4_isFree_1 0 rfl rfl)
theorem dX4_isFree_26 : decode cX4_isFree 26 = .ok (.bipush 72, 2) := dk_16 72 (dk_at dksX4_isFree_1 3 rfl rfl)
theorem dX4_isFree_28 : decode cX4_isFree 28 = .ok (.iload_n 1, 1) := dk_27 (dk_at dksX4_isFree_1 5 rfl rfl)
theorem dX4_isFree_29 : decode cX4_isFree 29 = .ok (.iadd, 1) := dk_96 (dk_at dksX4_isFree_1 6 rfl rfl)
theorem dX4_isFree_30 : decode cX4_isFree 30 = .ok (.iaload, 1) := dk_46 (dk_at dksX4_isFree_1 7 rfl rfl)
theorem dX4_isFree_31 : decode cX4_isFree 31 = .ok (.iload_n 2, 1) := dk_28 (dk_at dksX4_isFree_1 8 rfl rfl)
theorem dX4_isFree_32 : decode cX4_isFree 32 = .ok (.invokestatic 297, 3) := dk_184 1 41 (dk_at dksX4_isFree_1 9 rfl rfl)
theorem dX4_isFree_35 : decode cX4_isFree 35 = .ok (.ifCond .eq 5, 3) := dk_153 0 5 (dk_at dksX4_isFree_1 12 rfl rfl)
theorem dX4_isFree_38 : decode cX4_isFree 38 = .ok (.iconst 0, 1) := dk_3 (dk_at dksX4_isFree_1 15 rfl rfl)
theorem dX4_isFree_39 : decode cX4_isFree 39 = .ok (.ireturn, 1) := dk_172 (dk_at dksX4_isFree_1 16 rfl rfl)
theorem dX4_isFree_40 : decode cX4_isFree 40 = .ok (.iinc 2 1, 3) := dk_132 2 1 (dk_at dksX4_isFree_1 17 rfl rfl)
theorem dX4_isFree_43 : decode cX4_isFree 43 = .ok (.goto (-41), 3) := dk_167 255 215 (dk_at dksX4_isFree_1 20 rfl rfl)
theorem dX4_isFree_46 : decode cX4_isFree 46 = .ok (.iconst 1, 1) := dk_4 (dk_at dksX4_isFree_1 23 rfl rfl)
theorem dX4_isFree_47 : decode cX4_isFree 47 = .ok (.ireturn, 1) := dk_172 (dk_at dksX4_isFree_2 0 rfl rfl)
abbrev cX4_bestScore : ByteArray := prog_19_method_89_code
def yX4_bestScore : MethodName := ⟨RX4, "bestScore", "(II)I"⟩
def dkwX4_bestScore_6 : List UInt8 := [167, 0, 14, 28, 4, 160, 0, 7, 29, 167, 0, 5, 21, 4, 172]
abbrev dktX4_bestScore_6 : List UInt8 := dkwX4_bestScore_6 ++ []
def dkwX4_bestScore_5 : List UInt8 := [54, 4, 21, 8, 54, 5, 132, 7, 1, 167, 255, 197, 132, 6, 1, 167, 255, 177, 28, 154, 0, 8, 21, 5]
abbrev dktX4_bestScore_5 : List UInt8 := dkwX4_bestScore_5 ++ dktX4_bestScore_6
def dkwX4_bestScore_4 : List UInt8 := [130, 79, 42, 27, 182, 1, 144, 54, 8, 21, 8, 21, 5, 161, 0, 6, 167, 0, 14, 21, 6, 62, 21, 7]
abbrev dktX4_bestScore_4 : List UInt8 := dkwX4_bestScore_4 ++ dktX4_bestScore_5
def dkwX4_bestScore_3 : List UInt8 := [42, 180, 0, 39, 6, 46, 162, 0, 54, 42, 180, 0, 39, 16, 41, 21, 6, 96, 92, 46, 4, 21, 7, 120]
abbrev dktX4_bestScore_3 : List UInt8 := dkwX4_bestScore_3 ++ dktX4_bestScore_4
def dkwX4_bestScore_2 : List UInt8 := [182, 1, 144, 54, 5, 3, 54, 6, 21, 6, 42, 180, 0, 39, 4, 46, 162, 0, 74, 3, 54, 7, 21, 7]
abbrev dktX4_bestScore_2 : List UInt8 := dkwX4_bestScore_2 ++ dktX4_bestScore_3
def dkwX4_bestScore_1 : List UInt8 := [20, 1, 118, 184, 0, 130, 154, 0, 5, 2, 172, 42, 182, 1, 120, 16, 254, 62, 16, 254, 54, 4, 42, 27]
abbrev dktX4_bestScore_1 : List UInt8 := dkwX4_bestScore_1 ++ dktX4_bestScore_2
def dkwX4_bestScore_0 : List UInt8 := [42, 182, 1, 38, 153, 0, 27, 27, 133, 10, 20, 1, 142, 184, 0, 130, 153, 0, 15, 28, 133, 9]
abbrev dktX4_bestScore_0 : List UInt8 := dkwX4_bestScore_0 ++ dktX4_bestScore_1
theorem dksX4_bestScore_0 : cX4_bestScore.data.toList.drop 0 = dktX4_bestScore_0 := by decide +kernel
theorem dksX4_bestScore_1 : cX4_bestScore.data.toList.drop 22 = dktX4_bestScore_1 := dk_seg dksX4_bestScore_0 22 rfl rfl
theorem dksX4_bestScore_2 : cX4_bestScore.data.toList.drop 46 = dktX4_bestScore_2 := dk_seg dksX4_bestScore_1 24 rfl rfl
theorem dksX4_bestScore_3 : cX4_bestScore.data.toList.drop 70 = dktX4_bestScore_3 := dk_seg dksX4_bestScore_2 24 rfl rfl
theorem dksX4_bestScore_4 : cX4_bestScore.data.toList.drop 94 = dktX4_bestScore_4 := dk_seg dksX4_bestScore_3 24 rfl rfl
theorem dksX4_bestScore_5 : cX4_bestScore.data.toList.drop 118 = dktX4_bestScore_5 := dk_seg dksX4_bestScore_4 24 rfl rfl
theorem dksX4_bestScore_6 : cX4_bestScore.data.toList.drop 142 = dktX4_bestScore_6 := dk_seg dksX4_bestScore_5 24 rfl rfl
theorem dX4_bestScore_0 : decode cX4_bestScore 0 = .ok (.aload_n 0, 1) := dk_42 (dk_at dksX4_bestScore_0 0 rfl rfl)
theorem dX4_bestScore_1 : decode cX4_bestScore 1 = .ok (.invokevirtual 294, 3) := dk_182 1 38 (dk_at dksX4_bestScore_0 1 rfl rfl)
theorem dX4_bestScore_4 : decode cX4_bestScore 4 = .ok (.ifCond .eq 27, 3) := dk_153 0 27 (dk_at dksX4_bestScore_0 4 rfl rfl)
theorem dX4_bestScore_7 : decode cX4_bestScore 7 = .ok (.iload_n 1, 1) := dk_27 (dk_at dksX4_bestScore_0 7 rfl rfl)
theorem dX4_bestScore_8 : decode cX4_bestScore 8 = .ok (.i2l, 1) := dk_133 (dk_at dksX4_bestScore_0 8 rfl rfl)
theorem dX4_bestScore_9 : decode cX4_bestScore 9 = .ok (.lconst 1, 1) := dk_10 (dk_at dksX4_bestScore_0 9 rfl rfl)
theorem dX4_bestScore_10 : decode cX4_bestScore 10 = .ok (.ldc2_w 398, 3) := dk_20 1 142 (dk_at dksX4_bestScore_0 10 rfl rfl)
theorem dX4_bestScore_13 : decode cX4_bestScore 13 = .ok (.invokestatic 130, 3) := dk_184 0 130 (dk_at dksX4_bestScore_0 13 rfl rfl)
theorem dX4_bestScore_16 : decode cX4_bestScore 16 = .ok (.ifCond .eq 15, 3) := dk_153 0 15 (dk_at dksX4_bestScore_0 16 rfl rfl)
theorem dX4_bestScore_19 : decode cX4_bestScore 19 = .ok (.iload_n 2, 1) := dk_28 (dk_at dksX4_bestScore_0 19 rfl rfl)
theorem dX4_bestScore_20 : decode cX4_bestScore 20 = .ok (.i2l, 1) := dk_133 (dk_at dksX4_bestScore_0 20 rfl rfl)
theorem dX4_bestScore_21 : decode cX4_bestScore 21 = .ok (.lconst 0, 1) := dk_9 (dk_at dksX4_bestScore_0 21 rfl rfl)
theorem dX4_bestScore_22 : decode cX4_bestScore 22 = .ok (.ldc2_w 374, 3) := dk_20 1 118 (dk_at dksX4_bestScore_1 0 rfl rfl)
theorem dX4_bestScore_25 : decode cX4_bestScore 25 = .ok (.invokestatic 130, 3) := dk_184 0 130 (dk_at dksX4_bestScore_1 3 rfl rfl)
theorem dX4_bestScore_28 : decode cX4_bestScore 28 = .ok (.ifCond .ne 5, 3) := dk_154 0 5 (dk_at dksX4_bestScore_1 6 rfl rfl)
theorem dX4_bestScore_31 : decode cX4_bestScore 31 = .ok (.iconst (-1), 1) := dk_2 (dk_at dksX4_bestScore_1 9 rfl rfl)
theorem dX4_bestScore_32 : decode cX4_bestScore 32 = .ok (.ireturn, 1) := dk_172 (dk_at dksX4_bestScore_1 10 rfl rfl)
theorem dX4_bestScore_33 : decode cX4_bestScore 33 = .ok (.aload_n 0, 1) := dk_42 (dk_at dksX4_bestScore_1 11 rfl rfl)
theorem dX4_bestScore_34 : decode cX4_bestScore 34 = .ok (.invokevirtual 376, 3) := dk_182 1 120 (dk_at dksX4_bestScore_1 12 rfl rfl)
theorem dX4_bestScore_37 : decode cX4_bestScore 37 = .ok (.bipush (-2), 2) := dk_16 254 (dk_at dksX4_bestScore_1 15 rfl rfl)
theorem dX4_bestScore_39 : decode cX4_bestScore 39 = .ok (.istore_n 3, 1) := dk_62 (dk_at dksX4_bestScore_1 17 rfl rfl)
theorem dX4_bestScore_40 : decode cX4_bestScore 40 = .ok (.bipush (-2), 2) := dk_16 254 (dk_at dksX4_bestScore_1 18 rfl rfl)
theorem dX4_bestScore_42 : decode cX4_bestScore 42 = .ok (.istore 4, 2) := dk_54 4 (dk_at dksX4_bestScore_1 20 rfl rfl)
theorem dX4_bestScore_44 : decode cX4_bestScore 44 = .ok (.aload_n 0, 1) := dk_42 (dk_at dksX4_bestScore_1 22 rfl rfl)
theorem dX4_bestScore_45 : decode cX4_bestScore 45 = .ok (.iload_n 1, 1) := dk_27 (dk_at dksX4_bestScore_1 23 rfl rfl)
theorem dX4_bestScore_46 : decode cX4_bestScore 46 = .ok (.invokevirtual 400, 3) := dk_182 1 144 (dk_at dksX4_bestScore_2 0 rfl rfl)
theorem dX4_bestScore_49 : decode cX4_bestScore 49 = .ok (.istore 5, 2) := dk_54 5 (dk_at dksX4_bestScore_2 3 rfl rfl)
theorem dX4_bestScore_51 : decode cX4_bestScore 51 = .ok (.iconst 0, 1) := dk_3 (dk_at dksX4_bestScore_2 5 rfl rfl)
theorem dX4_bestScore_52 : decode cX4_bestScore 52 = .ok (.istore 6, 2) := dk_54 6 (dk_at dksX4_bestScore_2 6 rfl rfl)
theorem dX4_bestScore_54 : decode cX4_bestScore 54 = .ok (.iload 6, 2) := dk_21 6 (dk_at dksX4_bestScore_2 8 rfl rfl)
theorem dX4_bestScore_56 : decode cX4_bestScore 56 = .ok (.aload_n 0, 1) := dk_42 (dk_at dksX4_bestScore_2 10 rfl rfl)
theorem dX4_bestScore_57 : decode cX4_bestScore 57 = .ok (.getfield 39, 3) := dk_180 0 39 (dk_at dksX4_bestScore_2 11 rfl rfl)
theorem dX4_bestScore_60 : decode cX4_bestScore 60 = .ok (.iconst 1, 1) := dk_4 (dk_at dksX4_bestScore_2 14 rfl rfl)
theorem dX4_bestScore_61 : decode cX4_bestScore 61 = .ok (.iaload, 1) := dk_46 (dk_at dksX4_bestScore_2 15 rfl rfl)
theorem dX4_bestScore_62 : decode cX4_bestScore 62 = .ok (.if_icmp .ge 74, 3) := dk_162 0 74 (dk_at dksX4_bestScore_2 16 rfl rfl)
theorem dX4_bestScore_65 : decode cX4_bestScore 65 = .ok (.iconst 0, 1) := dk_3 (dk_at dksX4_bestScore_2 19 rfl rfl)
theorem dX4_bestScore_66 : decode cX4_bestScore 66 = .ok (.istore 7, 2) := dk_54 7 (dk_at dksX4_bestScore_2 20 rfl rfl)
theorem dX4_bestScore_68 : decode cX4_bestScore 68 = .ok (.iload 7, 2) := dk_21 7 (dk_at dksX4_bestScore_2 22 rfl rfl)
theorem dX4_bestScore_70 : decode cX4_bestScore 70 = .ok (.aload_n 0, 1) := dk_42 (dk_at dksX4_bestScore_3 0 rfl rfl)
theorem dX4_bestScore_71 : decode cX4_bestScore 71 = .ok (.getfield 39, 3) := dk_180 0 39 (dk_at dksX4_bestScore_3 1 rfl rfl)
theorem dX4_bestScore_74 : decode cX4_bestScore 74 = .ok (.iconst 3, 1) := dk_6 (dk_at dksX4_bestScore_3 4 rfl rfl)
theorem dX4_bestScore_75 : decode cX4_bestScore 75 = .ok (.iaload, 1) := dk_46 (dk_at dksX4_bestScore_3 5 rfl rfl)
theorem dX4_bestScore_76 : decode cX4_bestScore 76 = .ok (.if_icmp .ge 54, 3) := dk_162 0 54 (dk_at dksX4_bestScore_3 6 rfl rfl)
theorem dX4_bestScore_79 : decode cX4_bestScore 79 = .ok (.aload_n 0, 1) := dk_42 (dk_at dksX4_bestScore_3 9 rfl rfl)
theorem dX4_bestScore_80 : decode cX4_bestScore 80 = .ok (.getfield 39, 3) := dk_180 0 39 (dk_at dksX4_bestScore_3 10 rfl rfl)
theorem dX4_bestScore_83 : decode cX4_bestScore 83 = .ok (.bipush 41, 2) := dk_16 41 (dk_at dksX4_bestScore_3 13 rfl rfl)
theorem dX4_bestScore_85 : decode cX4_bestScore 85 = .ok (.iload 6, 2) := dk_21 6 (dk_at dksX4_bestScore_3 15 rfl rfl)
theorem dX4_bestScore_87 : decode cX4_bestScore 87 = .ok (.iadd, 1) := dk_96 (dk_at dksX4_bestScore_3 17 rfl rfl)
theorem dX4_bestScore_88 : decode cX4_bestScore 88 = .ok (.dup2, 1) := dk_92 (dk_at dksX4_bestScore_3 18 rfl rfl)
theorem dX4_bestScore_89 : decode cX4_bestScore 89 = .ok (.iaload, 1) := dk_46 (dk_at dksX4_bestScore_3 19 rfl rfl)
theorem dX4_bestScore_90 : decode cX4_bestScore 90 = .ok (.iconst 1, 1) := dk_4 (dk_at dksX4_bestScore_3 20 rfl rfl)
theorem dX4_bestScore_91 : decode cX4_bestScore 91 = .ok (.iload 7, 2) := dk_21 7 (dk_at dksX4_bestScore_3 21 rfl rfl)
theorem dX4_bestScore_93 : decode cX4_bestScore 93 = .ok (.ishl, 1) := dk_120 (dk_at dksX4_bestScore_3 23 rfl rfl)
theorem dX4_bestScore_94 : decode cX4_bestScore 94 = .ok (.ixor, 1) := dk_130 (dk_at dksX4_bestScore_4 0 rfl rfl)
theorem dX4_bestScore_95 : decode cX4_bestScore 95 = .ok (.iastore, 1) := dk_79 (dk_at dksX4_bestScore_4 1 rfl rfl)
theorem dX4_bestScore_96 : decode cX4_bestScore 96 = .ok (.aload_n 0, 1) := dk_42 (dk_at dksX4_bestScore_4 2 rfl rfl)
theorem dX4_bestScore_97 : decode cX4_bestScore 97 = .ok (.iload_n 1, 1) := dk_27 (dk_at dksX4_bestScore_4 3 rfl rfl)
theorem dX4_bestScore_98 : decode cX4_bestScore 98 = .ok (.invokevirtual 400, 3) := dk_182 1 144 (dk_at dksX4_bestScore_4 4 rfl rfl)
theorem dX4_bestScore_101 : decode cX4_bestScore 101 = .ok (.istore 8, 2) := dk_54 8 (dk_at dksX4_bestScore_4 7 rfl rfl)
theorem dX4_bestScore_103 : decode cX4_bestScore 103 = .ok (.iload 8, 2) := dk_21 8 (dk_at dksX4_bestScore_4 9 rfl rfl)
theorem dX4_bestScore_105 : decode cX4_bestScore 105 = .ok (.iload 5, 2) := dk_21 5 (dk_at dksX4_bestScore_4 11 rfl rfl)
theorem dX4_bestScore_107 : decode cX4_bestScore 107 = .ok (.if_icmp .lt 6, 3) := dk_161 0 6 (dk_at dksX4_bestScore_4 13 rfl rfl)
theorem dX4_bestScore_110 : decode cX4_bestScore 110 = .ok (.goto 14, 3) := dk_167 0 14 (dk_at dksX4_bestScore_4 16 rfl rfl)
theorem dX4_bestScore_113 : decode cX4_bestScore 113 = .ok (.iload 6, 2) := dk_21 6 (dk_at dksX4_bestScore_4 19 rfl rfl)
theorem dX4_bestScore_115 : decode cX4_bestScore 115 = .ok (.istore_n 3, 1) := dk_62 (dk_at dksX4_bestScore_4 21 rfl rfl)
theorem dX4_bestScore_116 : decode cX4_bestScore 116 = .ok (.iload 7, 2) := dk_21 7 (dk_at dksX4_bestScore_4 22 rfl rfl)
theorem dX4_bestScore_118 : decode cX4_bestScore 118 = .ok (.istore 4, 2) := dk_54 4 (dk_at dksX4_bestScore_5 0 rfl rfl)
theorem dX4_bestScore_120 : decode cX4_bestScore 120 = .ok (.iload 8, 2) := dk_21 8 (dk_at dksX4_bestScore_5 2 rfl rfl)
theorem dX4_bestScore_122 : decode cX4_bestScore 122 = .ok (.istore 5, 2) := dk_54 5 (dk_at dksX4_bestScore_5 4 rfl rfl)
theorem dX4_bestScore_124 : decode cX4_bestScore 124 = .ok (.iinc 7 1, 3) := dk_132 7 1 (dk_at dksX4_bestScore_5 6 rfl rfl)
theorem dX4_bestScore_127 : decode cX4_bestScore 127 = .ok (.goto (-59), 3) := dk_167 255 197 (dk_at dksX4_bestScore_5 9 rfl rfl)
theorem dX4_bestScore_130 : decode cX4_bestScore 130 = .ok (.iinc 6 1, 3) := dk_132 6 1 (dk_at dksX4_bestScore_5 12 rfl rfl)
theorem dX4_bestScore_133 : decode cX4_bestScore 133 = .ok (.goto (-79), 3) := dk_167 255 177 (dk_at dksX4_bestScore_5 15 rfl rfl)
theorem dX4_bestScore_136 : decode cX4_bestScore 136 = .ok (.iload_n 2, 1) := dk_28 (dk_at dksX4_bestScore_5 18 rfl rfl)
theorem dX4_bestScore_137 : decode cX4_bestScore 137 = .ok (.ifCond .ne 8, 3) := dk_154 0 8 (dk_at dksX4_bestScore_5 19 rfl rfl)
theorem dX4_bestScore_140 : decode cX4_bestScore 140 = .ok (.iload 5, 2) := dk_21 5 (dk_at dksX4_bestScore_5 22 rfl rfl)
theorem dX4_bestScore_142 : decode cX4_bestScore 142 = .ok (.goto 14, 3) := dk_167 0 14 (dk_at dksX4_bestScore_6 0 rfl rfl)
theorem dX4_bestScore_145 : decode cX4_bestScore 145 = .ok (.iload_n 2, 1) := dk_28 (dk_at dksX4_bestScore_6 3 rfl rfl)
theorem dX4_bestScore_146 : decode cX4_bestScore 146 = .ok (.iconst 1, 1) := dk_4 (dk_at dksX4_bestScore_6 4 rfl rfl)
theorem dX4_bestScore_147 : decode cX4_bestScore 147 = .ok (.if_icmp .ne 7, 3) := dk_160 0 7 (dk_at dksX4_bestScore_6 5 rfl rfl)
theorem dX4_bestScore_150 : decode cX4_bestScore 150 = .ok (.iload_n 3, 1) := dk_29 (dk_at dksX4_bestScore_6 8 rfl rfl)
theorem dX4_bestScore_151 : decode cX4_bestScore 151 = .ok (.goto 5, 3) := dk_167 0 5 (dk_at dksX4_bestScore_6 9 rfl rfl)
theorem dX4_bestScore_154 : decode cX4_bestScore 154 = .ok (.iload 4, 2) := dk_21 4 (dk_at dksX4_bestScore_6 12 rfl rfl)
theorem dX4_bestScore_156 : decode cX4_bestScore 156 = .ok (.ireturn, 1) := dk_172 (dk_at dksX4_bestScore_6 14 rfl rfl)
abbrev cX4_waitedBy : ByteArray := prog_19_method_88_code
def yX4_waitedBy : MethodName := ⟨RX4, "waitedBy", "(I)I"⟩
def dkwX4_waitedBy_0 : List UInt8 := [42, 27, 182, 1, 123, 42, 6, 182, 1, 84, 61, 42, 182, 1, 126, 28, 172]
abbrev dktX4_waitedBy_0 : List UInt8 := dkwX4_waitedBy_0 ++ []
theorem dksX4_waitedBy_0 : cX4_waitedBy.data.toList.drop 0 = dktX4_waitedBy_0 := by decide +kernel
theorem dX4_waitedBy_0 : decode cX4_waitedBy 0 = .ok (.aload_n 0, 1) := dk_42 (dk_at dksX4_waitedBy_0 0 rfl rfl)
theorem dX4_waitedBy_1 : decode cX4_waitedBy 1 = .ok (.iload_n 1, 1) := dk_27 (dk_at dksX4_waitedBy_0 1 rfl rfl)
theorem dX4_waitedBy_2 : decode cX4_waitedBy 2 = .ok (.invokevirtual 379, 3) := dk_182 1 123 (dk_at dksX4_waitedBy_0 2 rfl rfl)
theorem dX4_waitedBy_5 : decode cX4_waitedBy 5 = .ok (.aload_n 0, 1) := dk_42 (dk_at dksX4_waitedBy_0 5 rfl rfl)
theorem dX4_waitedBy_6 : decode cX4_waitedBy 6 = .ok (.iconst 3, 1) := dk_6 (dk_at dksX4_waitedBy_0 6 rfl rfl)
theorem dX4_waitedBy_7 : decode cX4_waitedBy 7 = .ok (.invokevirtual 340, 3) := dk_182 1 84 (dk_at dksX4_waitedBy_0 7 rfl rfl)
theorem dX4_waitedBy_10 : decode cX4_waitedBy 10 = .ok (.istore_n 2, 1) := dk_61 (dk_at dksX4_waitedBy_0 10 rfl rfl)
theorem dX4_waitedBy_11 : decode cX4_waitedBy 11 = .ok (.aload_n 0, 1) := dk_42 (dk_at dksX4_waitedBy_0 11 rfl rfl)
theorem dX4_waitedBy_12 : decode cX4_waitedBy 12 = .ok (.invokevirtual 382, 3) := dk_182 1 126 (dk_at dksX4_waitedBy_0 12 rfl rfl)
theorem dX4_waitedBy_15 : decode cX4_waitedBy 15 = .ok (.iload_n 2, 1) := dk_28 (dk_at dksX4_waitedBy_0 15 rfl rfl)
theorem dX4_waitedBy_16 : decode cX4_waitedBy 16 = .ok (.ireturn, 1) := dk_172 (dk_at dksX4_waitedBy_0 16 rfl rfl)
abbrev cX4_row : ByteArray := prog_19_method_92_code
def yX4_row : MethodName := ⟨RX4, "row", "(II)I"⟩
def dkwX4_row_7 : List UInt8 := [167, 0, 23, 28, 5, 100, 27, 162, 0, 14, 42, 180, 0, 64, 28, 5, 100, 46, 167, 0, 5, 16, 254, 172]
abbrev dktX4_row_7 : List UInt8 := dkwX4_row_7 ++ []
def dkwX4_row_6 : List UInt8 := [42, 29, 27, 182, 1, 157, 87, 28, 154, 0, 8, 21, 4, 167, 0, 33, 28, 4, 160, 0, 8, 21, 5]
abbrev dktX4_row_6 : List UInt8 := dkwX4_row_6 ++ dktX4_row_7
def dkwX4_row_5 : List UInt8 := [167, 0, 18, 21, 6, 62, 42, 180, 1, 147, 54, 4, 42, 180, 1, 150, 54, 5, 132, 6, 1, 167, 255, 171]
abbrev dktX4_row_5 : List UInt8 := dkwX4_row_5 ++ dktX4_row_6
def dkwX4_row_4 : List UInt8 := [21, 4, 163, 0, 39, 42, 180, 1, 147, 21, 4, 160, 0, 15, 42, 180, 1, 150, 21, 5, 163, 0, 6]
abbrev dktX4_row_4 : List UInt8 := dkwX4_row_4 ++ dktX4_row_5
def dkwX4_row_3 : List UInt8 := [27, 182, 1, 157, 154, 0, 6, 167, 0, 57, 42, 27, 182, 1, 160, 29, 155, 0, 33, 42, 180, 1, 147]
abbrev dktX4_row_3 : List UInt8 := dkwX4_row_3 ++ dktX4_row_4
def dkwX4_row_2 : List UInt8 := [182, 1, 120, 3, 54, 6, 21, 6, 4, 27, 42, 180, 0, 39, 6, 46, 104, 120, 162, 0, 76, 42, 21, 6]
abbrev dktX4_row_2 : List UInt8 := dkwX4_row_2 ++ dktX4_row_3
def dkwX4_row_1 : List UInt8 := [20, 1, 155, 184, 0, 130, 154, 0, 7, 17, 216, 240, 172, 2, 62, 3, 54, 4, 3, 54, 5, 42]
abbrev dktX4_row_1 : List UInt8 := dkwX4_row_1 ++ dktX4_row_2
def dkwX4_row_0 : List UInt8 := [42, 182, 1, 38, 153, 0, 27, 27, 133, 10, 20, 1, 153, 184, 0, 130, 153, 0, 15, 28, 133, 9]
abbrev dktX4_row_0 : List UInt8 := dkwX4_row_0 ++ dktX4_row_1
theorem dksX4_row_0 : cX4_row.data.toList.drop 0 = dktX4_row_0 := by decide +kernel
theorem dksX4_row_1 : cX4_row.data.toList.drop 22 = dktX4_row_1 := dk_seg dksX4_row_0 22 rfl rfl
theorem dksX4_row_2 : cX4_row.data.toList.drop 44 = dktX4_row_2 := dk_seg dksX4_row_1 22 rfl rfl
theorem dksX4_row_3 : cX4_row.data.toList.drop 68 = dktX4_row_3 := dk_seg dksX4_row_2 24 rfl rfl
theorem dksX4_row_4 : cX4_row.data.toList.drop 91 = dktX4_row_4 := dk_seg dksX4_row_3 23 rfl rfl
theorem dksX4_row_5 : cX4_row.data.toList.drop 114 = dktX4_row_5 := dk_seg dksX4_row_4 23 rfl rfl
theorem dksX4_row_6 : cX4_row.data.toList.drop 138 = dktX4_row_6 := dk_seg dksX4_row_5 24 rfl rfl
theorem dksX4_row_7 : cX4_row.data.toList.drop 161 = dktX4_row_7 := dk_seg dksX4_row_6 23 rfl rfl
theorem dX4_row_0 : decode cX4_row 0 = .ok (.aload_n 0, 1) := dk_42 (dk_at dksX4_row_0 0 rfl rfl)
theorem dX4_row_1 : decode cX4_row 1 = .ok (.invokevirtual 294, 3) := dk_182 1 38 (dk_at dksX4_row_0 1 rfl rfl)
theorem dX4_row_4 : decode cX4_row 4 = .ok (.ifCond .eq 27, 3) := dk_153 0 27 (dk_at dksX4_row_0 4 rfl rfl)
theorem dX4_row_7 : decode cX4_row 7 = .ok (.iload_n 1, 1) := dk_27 (dk_at dksX4_row_0 7 rfl rfl)
theorem dX4_row_8 : decode cX4_row 8 = .ok (.i2l, 1) := dk_133 (dk_at dksX4_row_0 8 rfl rfl)
theorem dX4_row_9 : decode cX4_row 9 = .ok (.lconst 1, 1) := dk_10 (dk_at dksX4_row_0 9 rfl rfl)
theorem dX4_row_10 : decode cX4_row 10 = .ok (.ldc2_w 409, 3) := dk_20 1 153 (dk_at dksX4_row_0 10 rfl rfl)
theorem dX4_row_13 : decode cX4_row 13 = .ok (.invokestatic 130, 3) := dk_184 0 130 (dk_at dksX4_row_0 13 rfl rfl)
theorem dX4_row_16 : decode cX4_row 16 = .ok (.ifCond .eq 15, 3) := dk_153 0 15 (dk_at dksX4_row_0 16 rfl rfl)
theorem dX4_row_19 : decode cX4_row 19 = .ok (.iload_n 2, 1) := dk_28 (dk_at dksX4_row_0 19 rfl rfl)
theorem dX4_row_20 : decode cX4_row 20 = .ok (.i2l, 1) := dk_133 (dk_at dksX4_row_0 20 rfl rfl)
theorem dX4_row_21 : decode cX4_row 21 = .ok (.lconst 0, 1) := dk_9 (dk_at dksX4_row_0 21 rfl rfl)
theorem dX4_row_22 : decode cX4_row 22 = .ok (.ldc2_w 411, 3) := dk_20 1 155 (dk_at dksX4_row_1 0 rfl rfl)
theorem dX4_row_25 : decode cX4_row 25 = .ok (.invokestatic 130, 3) := dk_184 0 130 (dk_at dksX4_row_1 3 rfl rfl)
theorem dX4_row_28 : decode cX4_row 28 = .ok (.ifCond .ne 7, 3) := dk_154 0 7 (dk_at dksX4_row_1 6 rfl rfl)
theorem dX4_row_31 : decode cX4_row 31 = .ok (.sipush (-10000), 3) := dk_17 216 240 (dk_at dksX4_row_1 9 rfl rfl)
theorem dX4_row_34 : decode cX4_row 34 = .ok (.ireturn, 1) := dk_172 (dk_at dksX4_row_1 12 rfl rfl)
theorem dX4_row_35 : decode cX4_row 35 = .ok (.iconst (-1), 1) := dk_2 (dk_at dksX4_row_1 13 rfl rfl)
theorem dX4_row_36 : decode cX4_row 36 = .ok (.istore_n 3, 1) := dk_62 (dk_at dksX4_row_1 14 rfl rfl)
theorem dX4_row_37 : decode cX4_row 37 = .ok (.iconst 0, 1) := dk_3 (dk_at dksX4_row_1 15 rfl rfl)
theorem dX4_row_38 : decode cX4_row 38 = .ok (.istore 4, 2) := dk_54 4 (dk_at dksX4_row_1 16 rfl rfl)
theorem dX4_row_40 : decode cX4_row 40 = .ok (.iconst 0, 1) := dk_3 (dk_at dksX4_row_1 18 rfl rfl)
theorem dX4_row_41 : decode cX4_row 41 = .ok (.istore 5, 2) := dk_54 5 (dk_at dksX4_row_1 19 rfl rfl)
theorem dX4_row_43 : decode cX4_row 43 = .ok (.aload_n 0, 1) := dk_42 (dk_at dksX4_row_1 21 rfl rfl)
theorem dX4_row_44 : decode cX4_row 44 = .ok (.invokevirtual 376, 3) := dk_182 1 120 (dk_at dksX4_row_2 0 rfl rfl)
theorem dX4_row_47 : decode cX4_row 47 = .ok (.iconst 0, 1) := dk_3 (dk_at dksX4_row_2 3 rfl rfl)
theorem dX4_row_48 : decode cX4_row 48 = .ok (.istore 6, 2) := dk_54 6 (dk_at dksX4_row_2 4 rfl rfl)
theorem dX4_row_50 : decode cX4_row 50 = .ok (.iload 6, 2) := dk_21 6 (dk_at dksX4_row_2 6 rfl rfl)
theorem dX4_row_52 : decode cX4_row 52 = .ok (.iconst 1, 1) := dk_4 (dk_at dksX4_row_2 8 rfl rfl)
theorem dX4_row_53 : decode cX4_row 53 = .ok (.iload_n 1, 1) := dk_27 (dk_at dksX4_row_2 9 rfl rfl)
theorem dX4_row_54 : decode cX4_row 54 = .ok (.aload_n 0, 1) := dk_42 (dk_at dksX4_row_2 10 rfl rfl)
theorem dX4_row_55 : decode cX4_row 55 = .ok (.getfield 39, 3) := dk_180 0 39 (dk_at dksX4_row_2 11 rfl rfl)
theorem dX4_row_58 : decode cX4_row 58 = .ok (.iconst 3, 1) := dk_6 (dk_at dksX4_row_2 14 rfl rfl)
theorem dX4_row_59 : decode cX4_row 59 = .ok (.iaload, 1) := dk_46 (dk_at dksX4_row_2 15 rfl rfl)
theorem dX4_row_60 : decode cX4_row 60 = .ok (.imul, 1) := dk_104 (dk_at dksX4_row_2 16 rfl rfl)
theorem dX4_row_61 : decode cX4_row 61 = .ok (.ishl, 1) := dk_120 (dk_at dksX4_row_2 17 rfl rfl)
theorem dX4_row_62 : decode cX4_row 62 = .ok (.if_icmp .ge 76, 3) := dk_162 0 76 (dk_at dksX4_row_2 18 rfl rfl)
theorem dX4_row_65 : decode cX4_row 65 = .ok (.aload_n 0, 1) := dk_42 (dk_at dksX4_row_2 21 rfl rfl)
theorem dX4_row_66 : decode cX4_row 66 = .ok (.iload 6, 2) := dk_21 6 (dk_at dksX4_row_2 22 rfl rfl)
theorem dX4_row_68 : decode cX4_row 68 = .ok (.iload_n 1, 1) := dk_27 (dk_at dksX4_row_3 0 rfl rfl)
theorem dX4_row_69 : decode cX4_row 69 = .ok (.invokevirtual 413, 3) := dk_182 1 157 (dk_at dksX4_row_3 1 rfl rfl)
theorem dX4_row_72 : decode cX4_row 72 = .ok (.ifCond .ne 6, 3) := dk_154 0 6 (dk_at dksX4_row_3 4 rfl rfl)
theorem dX4_row_75 : decode cX4_row 75 = .ok (.goto 57, 3) := dk_167 0 57 (dk_at dksX4_row_3 7 rfl rfl)
theorem dX4_row_78 : decode cX4_row 78 = .ok (.aload_n 0, 1) := dk_42 (dk_at dksX4_row_3 10 rfl rfl)
theorem dX4_row_79 : decode cX4_row 79 = .ok (.iload_n 1, 1) := dk_27 (dk_at dksX4_row_3 11 rfl rfl)
theorem dX4_row_80 : decode cX4_row 80 = .ok (.invokevirtual 416, 3) := dk_182 1 160 (dk_at dksX4_row_3 12 rfl rfl)
theorem dX4_row_83 : decode cX4_row 83 = .ok (.iload_n 3, 1) := dk_29 (dk_at dksX4_row_3 15 rfl rfl)
theorem dX4_row_84 : decode cX4_row 84 = .ok (.ifCond .lt 33, 3) := dk_155 0 33 (dk_at dksX4_row_3 16 rfl rfl)
theorem dX4_row_87 : decode cX4_row 87 = .ok (.aload_n 0, 1) := dk_42 (dk_at dksX4_row_3 19 rfl rfl)
theorem dX4_row_88 : decode cX4_row 88 = .ok (.getfield 403, 3) := dk_180 1 147 (dk_at dksX4_row_3 20 rfl rfl)
theorem dX4_row_91 : decode cX4_row 91 = .ok (.iload 4, 2) := dk_21 4 (dk_at dksX4_row_4 0 rfl rfl)
theorem dX4_row_93 : decode cX4_row 93 = .ok (.if_icmp .gt 39, 3) := dk_163 0 39 (dk_at dksX4_row_4 2 rfl rfl)
theorem dX4_row_96 : decode cX4_row 96 = .ok (.aload_n 0, 1) := dk_42 (dk_at dksX4_row_4 5 rfl rfl)
theorem dX4_row_97 : decode cX4_row 97 = .ok (.getfield 403, 3) := dk_180 1 147 (dk_at dksX4_row_4 6 rfl rfl)
theorem dX4_row_100 : decode cX4_row 100 = .ok (.iload 4, 2) := dk_21 4 (dk_at dksX4_row_4 9 rfl rfl)
theorem dX4_row_102 : decode cX4_row 102 = .ok (.if_icmp .ne 15, 3) := dk_160 0 15 (dk_at dksX4_row_4 11 rfl rfl)
theorem dX4_row_105 : decode cX4_row 105 = .ok (.aload_n 0, 1) := dk_42 (dk_at dksX4_row_4 14 rfl rfl)
theorem dX4_row_106 : decode cX4_row 106 = .ok (.getfield 406, 3) := dk_180 1 150 (dk_at dksX4_row_4 15 rfl rfl)
theorem dX4_row_109 : decode cX4_row 109 = .ok (.iload 5, 2) := dk_21 5 (dk_at dksX4_row_4 18 rfl rfl)
theorem dX4_row_111 : decode cX4_row 111 = .ok (.if_icmp .gt 6, 3) := dk_163 0 6 (dk_at dksX4_row_4 20 rfl rfl)
theorem dX4_row_114 : decode cX4_row 114 = .ok (.goto 18, 3) := dk_167 0 18 (dk_at dksX4_row_5 0 rfl rfl)
theorem dX4_row_117 : decode cX4_row 117 = .ok (.iload 6, 2) := dk_21 6 (dk_at dksX4_row_5 3 rfl rfl)
theorem dX4_row_119 : decode cX4_row 119 = .ok (.istore_n 3, 1) := dk_62 (dk_at dksX4_row_5 5 rfl rfl)
theorem dX4_row_120 : decode cX4_row 120 = .ok (.aload_n 0, 1) := dk_42 (dk_at dksX4_row_5 6 rfl rfl)
theorem dX4_row_121 : decode cX4_row 121 = .ok (.getfield 403, 3) := dk_180 1 147 (dk_at dksX4_row_5 7 rfl rfl)
theorem dX4_row_124 : decode cX4_row 124 = .ok (.istore 4, 2) := dk_54 4 (dk_at dksX4_row_5 10 rfl rfl)
theorem dX4_row_126 : decode cX4_row 126 = .ok (.aload_n 0, 1) := dk_42 (dk_at dksX4_row_5 12 rfl rfl)
theorem dX4_row_127 : decode cX4_row 127 = .ok (.getfield 406, 3) := dk_180 1 150 (dk_at dksX4_row_5 13 rfl rfl)
theorem dX4_row_130 : decode cX4_row 130 = .ok (.istore 5, 2) := dk_54 5 (dk_at dksX4_row_5 16 rfl rfl)
theorem dX4_row_132 : decode cX4_row 132 = .ok (.iinc 6 1, 3) := dk_132 6 1 (dk_at dksX4_row_5 18 rfl rfl)
theorem dX4_row_135 : decode cX4_row 135 = .ok (.goto (-85), 3) := dk_167 255 171 (dk_at dksX4_row_5 21 rfl rfl)
theorem dX4_row_138 : decode cX4_row 138 = .ok (.aload_n 0, 1) := dk_42 (dk_at dksX4_row_6 0 rfl rfl)
theorem dX4_row_139 : decode cX4_row 139 = .ok (.iload_n 3, 1) := dk_29 (dk_at dksX4_row_6 1 rfl rfl)
theorem dX4_row_140 : decode cX4_row 140 = .ok (.iload_n 1, 1) := dk_27 (dk_at dksX4_row_6 2 rfl rfl)
theorem dX4_row_141 : decode cX4_row 141 = .ok (.invokevirtual 413, 3) := dk_182 1 157 (dk_at dksX4_row_6 3 rfl rfl)
theorem dX4_row_144 : decode cX4_row 144 = .ok (.pop, 1) := dk_87 (dk_at dksX4_row_6 6 rfl rfl)
theorem dX4_row_145 : decode cX4_row 145 = .ok (.iload_n 2, 1) := dk_28 (dk_at dksX4_row_6 7 rfl rfl)
theorem dX4_row_146 : decode cX4_row 146 = .ok (.ifCond .ne 8, 3) := dk_154 0 8 (dk_at dksX4_row_6 8 rfl rfl)
theorem dX4_row_149 : decode cX4_row 149 = .ok (.iload 4, 2) := dk_21 4 (dk_at dksX4_row_6 11 rfl rfl)
theorem dX4_row_151 : decode cX4_row 151 = .ok (.goto 33, 3) := dk_167 0 33 (dk_at dksX4_row_6 13 rfl rfl)
theorem dX4_row_154 : decode cX4_row 154 = .ok (.iload_n 2, 1) := dk_28 (dk_at dksX4_row_6 16 rfl rfl)
theorem dX4_row_155 : decode cX4_row 155 = .ok (.iconst 1, 1) := dk_4 (dk_at dksX4_row_6 17 rfl rfl)
theorem dX4_row_156 : decode cX4_row 156 = .ok (.if_icmp .ne 8, 3) := dk_160 0 8 (dk_at dksX4_row_6 18 rfl rfl)
theorem dX4_row_159 : decode cX4_row 159 = .ok (.iload 5, 2) := dk_21 5 (dk_at dksX4_row_6 21 rfl rfl)
theorem dX4_row_161 : decode cX4_row 161 = .ok (.goto 23, 3) := dk_167 0 23 (dk_at dksX4_row_7 0 rfl rfl)
theorem dX4_row_164 : decode cX4_row 164 = .ok (.iload_n 2, 1) := dk_28 (dk_at dksX4_row_7 3 rfl rfl)
theorem dX4_row_165 : decode cX4_row 165 = .ok (.iconst 2, 1) := dk_5 (dk_at dksX4_row_7 4 rfl rfl)
theorem dX4_row_166 : decode cX4_row 166 = .ok (.isub, 1) := dk_100 (dk_at dksX4_row_7 5 rfl rfl)
theorem dX4_row_167 : decode cX4_row 167 = .ok (.iload_n 1, 1) := dk_27 (dk_at dksX4_row_7 6 rfl rfl)
theorem dX4_row_168 : decode cX4_row 168 = .ok (.if_icmp .ge 14, 3) := dk_162 0 14 (dk_at dksX4_row_7 7 rfl rfl)
theorem dX4_row_171 : decode cX4_row 171 = .ok (.aload_n 0, 1) := dk_42 (dk_at dksX4_row_7 10 rfl rfl)
theorem dX4_row_172 : decode cX4_row 172 = .ok (.getfield 64, 3) := dk_180 0 64 (dk_at dksX4_row_7 11 rfl rfl)
theorem dX4_row_175 : decode cX4_row 175 = .ok (.iload_n 2, 1) := dk_28 (dk_at dksX4_row_7 14 rfl rfl)
theorem dX4_row_176 : decode cX4_row 176 = .ok (.iconst 2, 1) := dk_5 (dk_at dksX4_row_7 15 rfl rfl)
theorem dX4_row_177 : decode cX4_row 177 = .ok (.isub, 1) := dk_100 (dk_at dksX4_row_7 16 rfl rfl)
theorem dX4_row_178 : decode cX4_row 178 = .ok (.iaload, 1) := dk_46 (dk_at dksX4_row_7 17 rfl rfl)
theorem dX4_row_179 : decode cX4_row 179 = .ok (.goto 5, 3) := dk_167 0 5 (dk_at dksX4_row_7 18 rfl rfl)
theorem dX4_row_182 : decode cX4_row 182 = .ok (.bipush (-2), 2) := dk_16 254 (dk_at dksX4_row_7 21 rfl rfl)
theorem dX4_row_184 : decode cX4_row 184 = .ok (.ireturn, 1) := dk_172 (dk_at dksX4_row_7 23 rfl rfl)
abbrev cX4_fillsRow : ByteArray := prog_19_method_90_code
def yX4_fillsRow : MethodName := ⟨RX4, "fillsRow", "(II)Z"⟩
def dkwX4_fillsRow_2 : List UInt8 := [182, 1, 129, 154, 0, 5, 3, 172, 132, 4, 255, 167, 255, 204, 4, 172]
abbrev dktX4_fillsRow_2 : List UInt8 := dkwX4_fillsRow_2 ++ []
def dkwX4_fillsRow_1 : List UInt8 := [6, 46, 120, 112, 79, 29, 4, 42, 180, 0, 39, 6, 46, 120, 108, 62, 42, 42, 180, 0, 64, 21, 4, 46]
abbrev dktX4_fillsRow_1 : List UInt8 := dkwX4_fillsRow_1 ++ dktX4_fillsRow_2
def dkwX4_fillsRow_0 : List UInt8 := [27, 62, 28, 4, 100, 54, 4, 21, 4, 155, 0, 53, 42, 180, 0, 64, 21, 4, 29, 4, 42, 180, 0, 39]
abbrev dktX4_fillsRow_0 : List UInt8 := dkwX4_fillsRow_0 ++ dktX4_fillsRow_1
theorem dksX4_fillsRow_0 : cX4_fillsRow.data.toList.drop 0 = dktX4_fillsRow_0 := by decide +kernel
theorem dksX4_fillsRow_1 : cX4_fillsRow.data.toList.drop 24 = dktX4_fillsRow_1 := dk_seg dksX4_fillsRow_0 24 rfl rfl
theorem dksX4_fillsRow_2 : cX4_fillsRow.data.toList.drop 48 = dktX4_fillsRow_2 := dk_seg dksX4_fillsRow_1 24 rfl rfl
theorem dX4_fillsRow_0 : decode cX4_fillsRow 0 = .ok (.iload_n 1, 1) := dk_27 (dk_at dksX4_fillsRow_0 0 rfl rfl)
theorem dX4_fillsRow_1 : decode cX4_fillsRow 1 = .ok (.istore_n 3, 1) := dk_62 (dk_at dksX4_fillsRow_0 1 rfl rfl)
theorem dX4_fillsRow_2 : decode cX4_fillsRow 2 = .ok (.iload_n 2, 1) := dk_28 (dk_at dksX4_fillsRow_0 2 rfl rfl)
theorem dX4_fillsRow_3 : decode cX4_fillsRow 3 = .ok (.iconst 1, 1) := dk_4 (dk_at dksX4_fillsRow_0 3 rfl rfl)
theorem dX4_fillsRow_4 : decode cX4_fillsRow 4 = .ok (.isub, 1) := dk_100 (dk_at dksX4_fillsRow_0 4 rfl rfl)
theorem dX4_fillsRow_5 : decode cX4_fillsRow 5 = .ok (.istore 4, 2) := dk_54 4 (dk_at dksX4_fillsRow_0 5 rfl rfl)
theorem dX4_fillsRow_7 : decode cX4_fillsRow 7 = .ok (.iload 4, 2) := dk_21 4 (dk_at dksX4_fillsRow_0 7 rfl rfl)
theorem dX4_fillsRow_9 : decode cX4_fillsRow 9 = .ok (.ifCond .lt 53, 3) := dk_155 0 53 (dk_at dksX4_fillsRow_0 9 rfl rfl)
theorem dX4_fillsRow_12 : decode cX4_fillsRow 12 = .ok (.aload_n 0, 1) := dk_42 (dk_at dksX4_fillsRow_0 12 rfl rfl)
theorem dX4_fillsRow_13 : decode cX4_fillsRow 13 = .ok (.getfield 64, 3) := dk_180 0 64 (dk_at dksX4_fillsRow_0 13 rfl rfl)
theorem dX4_fillsRow_16 : decode cX4_fillsRow 16 = .ok (.iload 4, 2) := dk_21 4 (dk_at dksX4_fillsRow_0 16 rfl rfl)
theorem dX4_fillsRow_18 : decode cX4_fillsRow 18 = .ok (.iload_n 3, 1) := dk_29 (dk_at dksX4_fillsRow_0 18 rfl rfl)
theorem dX4_fillsRow_19 : decode cX4_fillsRow 19 = .ok (.iconst 1, 1) := dk_4 (dk_at dksX4_fillsRow_0 19 rfl rfl)
theorem dX4_fillsRow_20 : decode cX4_fillsRow 20 = .ok (.aload_n 0, 1) := dk_42 (dk_at dksX4_fillsRow_0 20 rfl rfl)
theorem dX4_fillsRow_21 : decode cX4_fillsRow 21 = .ok (.getfield 39, 3) := dk_180 0 39 (dk_at dksX4_fillsRow_0 21 rfl rfl)
theorem dX4_fillsRow_24 : decode cX4_fillsRow 24 = .ok (.iconst 3, 1) := dk_6 (dk_at dksX4_fillsRow_1 0 rfl rfl)
theorem dX4_fillsRow_25 : decode cX4_fillsRow 25 = .ok (.iaload, 1) := dk_46 (dk_at dksX4_fillsRow_1 1 rfl rfl)
theorem dX4_fillsRow_26 : decode cX4_fillsRow 26 = .ok (.ishl, 1) := dk_120 (dk_at dksX4_fillsRow_1 2 rfl rfl)
theorem dX4_fillsRow_27 : decode cX4_fillsRow 27 = .ok (.irem, 1) := dk_112 (dk_at dksX4_fillsRow_1 3 rfl rfl)
theorem dX4_fillsRow_28 : decode cX4_fillsRow 28 = .ok (.iastore, 1) := dk_79 (dk_at dksX4_fillsRow_1 4 rfl rfl)
theorem dX4_fillsRow_29 : decode cX4_fillsRow 29 = .ok (.iload_n 3, 1) := dk_29 (dk_at dksX4_fillsRow_1 5 rfl rfl)
theorem dX4_fillsRow_30 : decode cX4_fillsRow 30 = .ok (.iconst 1, 1) := dk_4 (dk_at dksX4_fillsRow_1 6 rfl rfl)
theorem dX4_fillsRow_31 : decode cX4_fillsRow 31 = .ok (.aload_n 0, 1) := dk_42 (dk_at dksX4_fillsRow_1 7 rfl rfl)
theorem dX4_fillsRow_32 : decode cX4_fillsRow 32 = .ok (.getfield 39, 3) := dk_180 0 39 (dk_at dksX4_fillsRow_1 8 rfl rfl)
theorem dX4_fillsRow_35 : decode cX4_fillsRow 35 = .ok (.iconst 3, 1) := dk_6 (dk_at dksX4_fillsRow_1 11 rfl rfl)
theorem dX4_fillsRow_36 : decode cX4_fillsRow 36 = .ok (.iaload, 1) := dk_46 (dk_at dksX4_fillsRow_1 12 rfl rfl)
theorem dX4_fillsRow_37 : decode cX4_fillsRow 37 = .ok (.ishl, 1) := dk_120 (dk_at dksX4_fillsRow_1 13 rfl rfl)
theorem dX4_fillsRow_38 : decode cX4_fillsRow 38 = .ok (.idiv, 1) := dk_108 (dk_at dksX4_fillsRow_1 14 rfl rfl)
theorem dX4_fillsRow_39 : decode cX4_fillsRow 39 = .ok (.istore_n 3, 1) := dk_62 (dk_at dksX4_fillsRow_1 15 rfl rfl)
theorem dX4_fillsRow_40 : decode cX4_fillsRow 40 = .ok (.aload_n 0, 1) := dk_42 (dk_at dksX4_fillsRow_1 16 rfl rfl)
theorem dX4_fillsRow_41 : decode cX4_fillsRow 41 = .ok (.aload_n 0, 1) := dk_42 (dk_at dksX4_fillsRow_1 17 rfl rfl)
theorem dX4_fillsRow_42 : decode cX4_fillsRow 42 = .ok (.getfield 64, 3) := dk_180 0 64 (dk_at dksX4_fillsRow_1 18 rfl rfl)
theorem dX4_fillsRow_45 : decode cX4_fillsRow 45 = .ok (.iload 4, 2) := dk_21 4 (dk_at dksX4_fillsRow_1 21 rfl rfl)
theorem dX4_fillsRow_47 : decode cX4_fillsRow 47 = .ok (.iaload, 1) := dk_46 (dk_at dksX4_fillsRow_1 23 rfl rfl)
theorem dX4_fillsRow_48 : decode cX4_fillsRow 48 = .ok (.invokevirtual 385, 3) := dk_182 1 129 (dk_at dksX4_fillsRow_2 0 rfl rfl)
theorem dX4_fillsRow_51 : decode cX4_fillsRow 51 = .ok (.ifCond .ne 5, 3) := dk_154 0 5 (dk_at dksX4_fillsRow_2 3 rfl rfl)
theorem dX4_fillsRow_54 : decode cX4_fillsRow 54 = .ok (.iconst 0, 1) := dk_3 (dk_at dksX4_fillsRow_2 6 rfl rfl)
theorem dX4_fillsRow_55 : decode cX4_fillsRow 55 = .ok (.ireturn, 1) := dk_172 (dk_at dksX4_fillsRow_2 7 rfl rfl)
theorem dX4_fillsRow_56 : decode cX4_fillsRow 56 = .ok (.iinc 4 (-1), 3) := dk_132 4 255 (dk_at dksX4_fillsRow_2 8 rfl rfl)
theorem dX4_fillsRow_59 : decode cX4_fillsRow 59 = .ok (.goto (-52), 3) := dk_167 255 204 (dk_at dksX4_fillsRow_2 11 rfl rfl)
theorem dX4_fillsRow_62 : decode cX4_fillsRow 62 = .ok (.iconst 1, 1) := dk_4 (dk_at dksX4_fillsRow_2 14 rfl rfl)
theorem dX4_fillsRow_63 : decode cX4_fillsRow 63 = .ok (.ireturn, 1) := dk_172 (dk_at dksX4_fillsRow_2 15 rfl rfl)
abbrev cX4_weighsRow : ByteArray := prog_19_method_91_code
def yX4_weighsRow : MethodName := ⟨RX4, "weighsRow", "(I)V"⟩
def dkwX4_weighsRow_2 : List UInt8 := [180, 0, 39, 16, 53, 46, 181, 1, 150, 42, 182, 1, 126, 177]
abbrev dktX4_weighsRow_2 : List UInt8 := dkwX4_weighsRow_2 ++ []
def dkwX4_weighsRow_1 : List UInt8 := [132, 2, 1, 167, 255, 233, 42, 2, 181, 0, 49, 42, 42, 6, 182, 1, 84, 181, 1, 147, 42, 42]
abbrev dktX4_weighsRow_1 : List UInt8 := dkwX4_weighsRow_1 ++ dktX4_weighsRow_2
def dkwX4_weighsRow_0 : List UInt8 := [3, 61, 28, 27, 162, 0, 24, 42, 42, 180, 0, 64, 28, 46, 181, 0, 49, 42, 182, 1, 106, 87]
abbrev dktX4_weighsRow_0 : List UInt8 := dkwX4_weighsRow_0 ++ dktX4_weighsRow_1
theorem dksX4_weighsRow_0 : cX4_weighsRow.data.toList.drop 0 = dktX4_weighsRow_0 := by decide +kernel
theorem dksX4_weighsRow_1 : cX4_weighsRow.data.toList.drop 22 = dktX4_weighsRow_1 := dk_seg dksX4_weighsRow_0 22 rfl rfl
theorem dksX4_weighsRow_2 : cX4_weighsRow.data.toList.drop 44 = dktX4_weighsRow_2 := dk_seg dksX4_weighsRow_1 22 rfl rfl
theorem dX4_weighsRow_0 : decode cX4_weighsRow 0 = .ok (.iconst 0, 1) := dk_3 (dk_at dksX4_weighsRow_0 0 rfl rfl)
theorem dX4_weighsRow_1 : decode cX4_weighsRow 1 = .ok (.istore_n 2, 1) := dk_61 (dk_at dksX4_weighsRow_0 1 rfl rfl)
theorem dX4_weighsRow_2 : decode cX4_weighsRow 2 = .ok (.iload_n 2, 1) := dk_28 (dk_at dksX4_weighsRow_0 2 rfl rfl)
theorem dX4_weighsRow_3 : decode cX4_weighsRow 3 = .ok (.iload_n 1, 1) := dk_27 (dk_at dksX4_weighsRow_0 3 rfl rfl)
theorem dX4_weighsRow_4 : decode cX4_weighsRow 4 = .ok (.if_icmp .ge 24, 3) := dk_162 0 24 (dk_at dksX4_weighsRow_0 4 rfl rfl)
theorem dX4_weighsRow_7 : decode cX4_weighsRow 7 = .ok (.aload_n 0, 1) := dk_42 (dk_at dksX4_weighsRow_0 7 rfl rfl)
theorem dX4_weighsRow_8 : decode cX4_weighsRow 8 = .ok (.aload_n 0, 1) := dk_42 (dk_at dksX4_weighsRow_0 8 rfl rfl)
theorem dX4_weighsRow_9 : decode cX4_weighsRow 9 = .ok (.getfield 64, 3) := dk_180 0 64 (dk_at dksX4_weighsRow_0 9 rfl rfl)
theorem dX4_weighsRow_12 : decode cX4_weighsRow 12 = .ok (.iload_n 2, 1) := dk_28 (dk_at dksX4_weighsRow_0 12 rfl rfl)
theorem dX4_weighsRow_13 : decode cX4_weighsRow 13 = .ok (.iaload, 1) := dk_46 (dk_at dksX4_weighsRow_0 13 rfl rfl)
theorem dX4_weighsRow_14 : decode cX4_weighsRow 14 = .ok (.putfield 49, 3) := dk_181 0 49 (dk_at dksX4_weighsRow_0 14 rfl rfl)
theorem dX4_weighsRow_17 : decode cX4_weighsRow 17 = .ok (.aload_n 0, 1) := dk_42 (dk_at dksX4_weighsRow_0 17 rfl rfl)
theorem dX4_weighsRow_18 : decode cX4_weighsRow 18 = .ok (.invokevirtual 362, 3) := dk_182 1 106 (dk_at dksX4_weighsRow_0 18 rfl rfl)
theorem dX4_weighsRow_21 : decode cX4_weighsRow 21 = .ok (.pop, 1) := dk_87 (dk_at dksX4_weighsRow_0 21 rfl rfl)
theorem dX4_weighsRow_22 : decode cX4_weighsRow 22 = .ok (.iinc 2 1, 3) := dk_132 2 1 (dk_at dksX4_weighsRow_1 0 rfl rfl)
theorem dX4_weighsRow_25 : decode cX4_weighsRow 25 = .ok (.goto (-23), 3) := dk_167 255 233 (dk_at dksX4_weighsRow_1 3 rfl rfl)
theorem dX4_weighsRow_28 : decode cX4_weighsRow 28 = .ok (.aload_n 0, 1) := dk_42 (dk_at dksX4_weighsRow_1 6 rfl rfl)
theorem dX4_weighsRow_29 : decode cX4_weighsRow 29 = .ok (.iconst (-1), 1) := dk_2 (dk_at dksX4_weighsRow_1 7 rfl rfl)
theorem dX4_weighsRow_30 : decode cX4_weighsRow 30 = .ok (.putfield 49, 3) := dk_181 0 49 (dk_at dksX4_weighsRow_1 8 rfl rfl)
theorem dX4_weighsRow_33 : decode cX4_weighsRow 33 = .ok (.aload_n 0, 1) := dk_42 (dk_at dksX4_weighsRow_1 11 rfl rfl)
theorem dX4_weighsRow_34 : decode cX4_weighsRow 34 = .ok (.aload_n 0, 1) := dk_42 (dk_at dksX4_weighsRow_1 12 rfl rfl)
theorem dX4_weighsRow_35 : decode cX4_weighsRow 35 = .ok (.iconst 3, 1) := dk_6 (dk_at dksX4_weighsRow_1 13 rfl rfl)
theorem dX4_weighsRow_36 : decode cX4_weighsRow 36 = .ok (.invokevirtual 340, 3) := dk_182 1 84 (dk_at dksX4_weighsRow_1 14 rfl rfl)
theorem dX4_weighsRow_39 : decode cX4_weighsRow 39 = .ok (.putfield 403, 3) := dk_181 1 147 (dk_at dksX4_weighsRow_1 17 rfl rfl)
theorem dX4_weighsRow_42 : decode cX4_weighsRow 42 = .ok (.aload_n 0, 1) := dk_42 (dk_at dksX4_weighsRow_1 20 rfl rfl)
theorem dX4_weighsRow_43 : decode cX4_weighsRow 43 = .ok (.aload_n 0, 1) := dk_42 (dk_at dksX4_weighsRow_1 21 rfl rfl)
theorem dX4_weighsRow_44 : decode cX4_weighsRow 44 = .ok (.getfield 39, 3) := dk_180 0 39 (dk_at dksX4_weighsRow_2 0 rfl rfl)
theorem dX4_weighsRow_47 : decode cX4_weighsRow 47 = .ok (.bipush 53, 2) := dk_16 53 (dk_at dksX4_weighsRow_2 3 rfl rfl)
theorem dX4_weighsRow_49 : decode cX4_weighsRow 49 = .ok (.iaload, 1) := dk_46 (dk_at dksX4_weighsRow_2 5 rfl rfl)
theorem dX4_weighsRow_50 : decode cX4_weighsRow 50 = .ok (.putfield 406, 3) := dk_181 1 150 (dk_at dksX4_weighsRow_2 6 rfl rfl)
theorem dX4_weighsRow_53 : decode cX4_weighsRow 53 = .ok (.aload_n 0, 1) := dk_42 (dk_at dksX4_weighsRow_2 9 rfl rfl)
theorem dX4_weighsRow_54 : decode cX4_weighsRow 54 = .ok (.invokevirtual 382, 3) := dk_182 1 126 (dk_at dksX4_weighsRow_2 10 rfl rfl)
theorem dX4_weighsRow_57 : decode cX4_weighsRow 57 = .ok (.return_, 1) := dk_177 (dk_at dksX4_weighsRow_2 13 rfl rfl)
abbrev cX4_leastRoom : ByteArray := prog_19_method_94_code
def yX4_leastRoom : MethodName := ⟨RX4, "leastRoom", "(I)I"⟩
def dkwX4_leastRoom_5 : List UInt8 := [42, 180, 0, 39, 5, 28, 79, 29, 172]
abbrev dktX4_leastRoom_5 : List UInt8 := dkwX4_leastRoom_5 ++ []
def dkwX4_leastRoom_4 : List UInt8 := [132, 6, 1, 167, 255, 223, 21, 5, 153, 0, 6, 21, 4, 62, 42, 182, 1, 126, 132, 4, 1, 167, 255, 180]
abbrev dktX4_leastRoom_4 : List UInt8 := dkwX4_leastRoom_4 ++ dktX4_leastRoom_5
def dkwX4_leastRoom_3 : List UInt8 := [182, 1, 106, 87, 21, 5, 153, 0, 14, 42, 182, 1, 165, 154, 0, 7, 4, 167, 0, 4, 3, 54, 5]
abbrev dktX4_leastRoom_3 : List UInt8 := dkwX4_leastRoom_3 ++ dktX4_leastRoom_4
def dkwX4_leastRoom_2 : List UInt8 := [156, 0, 71, 4, 54, 5, 42, 180, 0, 39, 5, 21, 4, 79, 3, 54, 6, 21, 6, 27, 162, 0, 33, 42]
abbrev dktX4_leastRoom_2 : List UInt8 := dkwX4_leastRoom_2 ++ dktX4_leastRoom_3
def dkwX4_leastRoom_1 : List UInt8 := [180, 0, 39, 5, 46, 61, 16, 254, 62, 42, 182, 1, 120, 4, 54, 4, 21, 4, 16, 9, 163, 0, 75, 29]
abbrev dktX4_leastRoom_1 : List UInt8 := dkwX4_leastRoom_1 ++ dktX4_leastRoom_2
def dkwX4_leastRoom_0 : List UInt8 := [42, 182, 1, 38, 153, 0, 15, 27, 133, 10, 20, 1, 163, 184, 0, 130, 154, 0, 5, 2, 172, 42]
abbrev dktX4_leastRoom_0 : List UInt8 := dkwX4_leastRoom_0 ++ dktX4_leastRoom_1
theorem dksX4_leastRoom_0 : cX4_leastRoom.data.toList.drop 0 = dktX4_leastRoom_0 := by decide +kernel
theorem dksX4_leastRoom_1 : cX4_leastRoom.data.toList.drop 22 = dktX4_leastRoom_1 := dk_seg dksX4_leastRoom_0 22 rfl rfl
theorem dksX4_leastRoom_2 : cX4_leastRoom.data.toList.drop 46 = dktX4_leastRoom_2 := dk_seg dksX4_leastRoom_1 24 rfl rfl
theorem dksX4_leastRoom_3 : cX4_leastRoom.data.toList.drop 70 = dktX4_leastRoom_3 := dk_seg dksX4_leastRoom_2 24 rfl rfl
theorem dksX4_leastRoom_4 : cX4_leastRoom.data.toList.drop 93 = dktX4_leastRoom_4 := dk_seg dksX4_leastRoom_3 23 rfl rfl
theorem dksX4_leastRoom_5 : cX4_leastRoom.data.toList.drop 117 = dktX4_leastRoom_5 := dk_seg dksX4_leastRoom_4 24 rfl rfl
theorem dX4_leastRoom_0 : decode cX4_leastRoom 0 = .ok (.aload_n 0, 1) := dk_42 (dk_at dksX4_leastRoom_0 0 rfl rfl)
theorem dX4_leastRoom_1 : decode cX4_leastRoom 1 = .ok (.invokevirtual 294, 3) := dk_182 1 38 (dk_at dksX4_leastRoom_0 1 rfl rfl)
theorem dX4_leastRoom_4 : decode cX4_leastRoom 4 = .ok (.ifCond .eq 15, 3) := dk_153 0 15 (dk_at dksX4_leastRoom_0 4 rfl rfl)
theorem dX4_leastRoom_7 : decode cX4_leastRoom 7 = .ok (.iload_n 1, 1) := dk_27 (dk_at dksX4_leastRoom_0 7 rfl rfl)
theorem dX4_leastRoom_8 : decode cX4_leastRoom 8 = .ok (.i2l, 1) := dk_133 (dk_at dksX4_leastRoom_0 8 rfl rfl)
theorem dX4_leastRoom_9 : decode cX4_leastRoom 9 = .ok (.lconst 1, 1) := dk_10 (dk_at dksX4_leastRoom_0 9 rfl rfl)
theorem dX4_leastRoom_10 : decode cX4_leastRoom 10 = .ok (.ldc2_w 419, 3) := dk_20 1 163 (dk_at dksX4_leastRoom_0 10 rfl rfl)
theorem dX4_leastRoom_13 : decode cX4_leastRoom 13 = .ok (.invokestatic 130, 3) := dk_184 0 130 (dk_at dksX4_leastRoom_0 13 rfl rfl)
theorem dX4_leastRoom_16 : decode cX4_leastRoom 16 = .ok (.ifCond .ne 5, 3) := dk_154 0 5 (dk_at dksX4_leastRoom_0 16 rfl rfl)
theorem dX4_leastRoom_19 : decode cX4_leastRoom 19 = .ok (.iconst (-1), 1) := dk_2 (dk_at dksX4_leastRoom_0 19 rfl rfl)
theorem dX4_leastRoom_20 : decode cX4_leastRoom 20 = .ok (.ireturn, 1) := dk_172 (dk_at dksX4_leastRoom_0 20 rfl rfl)
theorem dX4_leastRoom_21 : decode cX4_leastRoom 21 = .ok (.aload_n 0, 1) := dk_42 (dk_at dksX4_leastRoom_0 21 rfl rfl)
theorem dX4_leastRoom_22 : decode cX4_leastRoom 22 = .ok (.getfield 39, 3) := dk_180 0 39 (dk_at dksX4_leastRoom_1 0 rfl rfl)
theorem dX4_leastRoom_25 : decode cX4_leastRoom 25 = .ok (.iconst 2, 1) := dk_5 (dk_at dksX4_leastRoom_1 3 rfl rfl)
theorem dX4_leastRoom_26 : decode cX4_leastRoom 26 = .ok (.iaload, 1) := dk_46 (dk_at dksX4_leastRoom_1 4 rfl rfl)
theorem dX4_leastRoom_27 : decode cX4_leastRoom 27 = .ok (.istore_n 2, 1) := dk_61 (dk_at dksX4_leastRoom_1 5 rfl rfl)
theorem dX4_leastRoom_28 : decode cX4_leastRoom 28 = .ok (.bipush (-2), 2) := dk_16 254 (dk_at dksX4_leastRoom_1 6 rfl rfl)
theorem dX4_leastRoom_30 : decode cX4_leastRoom 30 = .ok (.istore_n 3, 1) := dk_62 (dk_at dksX4_leastRoom_1 8 rfl rfl)
theorem dX4_leastRoom_31 : decode cX4_leastRoom 31 = .ok (.aload_n 0, 1) := dk_42 (dk_at dksX4_leastRoom_1 9 rfl rfl)
theorem dX4_leastRoom_32 : decode cX4_leastRoom 32 = .ok (.invokevirtual 376, 3) := dk_182 1 120 (dk_at dksX4_leastRoom_1 10 rfl rfl)
theorem dX4_leastRoom_35 : decode cX4_leastRoom 35 = .ok (.iconst 1, 1) := dk_4 (dk_at dksX4_leastRoom_1 13 rfl rfl)
theorem dX4_leastRoom_36 : decode cX4_leastRoom 36 = .ok (.istore 4, 2) := dk_54 4 (dk_at dksX4_leastRoom_1 14 rfl rfl)
theorem dX4_leastRoom_38 : decode cX4_leastRoom 38 = .ok (.iload 4, 2) := dk_21 4 (dk_at dksX4_leastRoom_1 16 rfl rfl)
theorem dX4_leastRoom_40 : decode cX4_leastRoom 40 = .ok (.bipush 9, 2) := dk_16 9 (dk_at dksX4_leastRoom_1 18 rfl rfl)
theorem dX4_leastRoom_42 : decode cX4_leastRoom 42 = .ok (.if_icmp .gt 75, 3) := dk_163 0 75 (dk_at dksX4_leastRoom_1 20 rfl rfl)
theorem dX4_leastRoom_45 : decode cX4_leastRoom 45 = .ok (.iload_n 3, 1) := dk_29 (dk_at dksX4_leastRoom_1 23 rfl rfl)
theorem dX4_leastRoom_46 : decode cX4_leastRoom 46 = .ok (.ifCond .ge 71, 3) := dk_156 0 71 (dk_at dksX4_leastRoom_2 0 rfl rfl)
theorem dX4_leastRoom_49 : decode cX4_leastRoom 49 = .ok (.iconst 1, 1) := dk_4 (dk_at dksX4_leastRoom_2 3 rfl rfl)
theorem dX4_leastRoom_50 : decode cX4_leastRoom 50 = .ok (.istore 5, 2) := dk_54 5 (dk_at dksX4_leastRoom_2 4 rfl rfl)
theorem dX4_leastRoom_52 : decode cX4_leastRoom 52 = .ok (.aload_n 0, 1) := dk_42 (dk_at dksX4_leastRoom_2 6 rfl rfl)
theorem dX4_leastRoom_53 : decode cX4_leastRoom 53 = .ok (.getfield 39, 3) := dk_180 0 39 (dk_at dksX4_leastRoom_2 7 rfl rfl)
theorem dX4_leastRoom_56 : decode cX4_leastRoom 56 = .ok (.iconst 2, 1) := dk_5 (dk_at dksX4_leastRoom_2 10 rfl rfl)
theorem dX4_leastRoom_57 : decode cX4_leastRoom 57 = .ok (.iload 4, 2) := dk_21 4 (dk_at dksX4_leastRoom_2 11 rfl rfl)
theorem dX4_leastRoom_59 : decode cX4_leastRoom 59 = .ok (.iastore, 1) := dk_79 (dk_at dksX4_leastRoom_2 13 rfl rfl)
theorem dX4_leastRoom_60 : decode cX4_leastRoom 60 = .ok (.iconst 0, 1) := dk_3 (dk_at dksX4_leastRoom_2 14 rfl rfl)
theorem dX4_leastRoom_61 : decode cX4_leastRoom 61 = .ok (.istore 6, 2) := dk_54 6 (dk_at dksX4_leastRoom_2 15 rfl rfl)
theorem dX4_leastRoom_63 : decode cX4_leastRoom 63 = .ok (.iload 6, 2) := dk_21 6 (dk_at dksX4_leastRoom_2 17 rfl rfl)
theorem dX4_leastRoom_65 : decode cX4_leastRoom 65 = .ok (.iload_n 1, 1) := dk_27 (dk_at dksX4_leastRoom_2 19 rfl rfl)
theorem dX4_leastRoom_66 : decode cX4_leastRoom 66 = .ok (.if_icmp .ge 33, 3) := dk_162 0 33 (dk_at dksX4_leastRoom_2 20 rfl rfl)
theorem dX4_leastRoom_69 : decode cX4_leastRoom 69 = .ok (.aload_n 0, 1) := dk_42 (dk_at dksX4_leastRoom_2 23 rfl rfl)
theorem dX4_leastRoom_70 : decode cX4_leastRoom 70 = .ok (.invokevirtual 362, 3) := dk_182 1 106 (dk_at dksX4_leastRoom_3 0 rfl rfl)
theorem dX4_leastRoom_73 : decode cX4_leastRoom 73 = .ok (.pop, 1) := dk_87 (dk_at dksX4_leastRoom_3 3 rfl rfl)
theorem dX4_leastRoom_74 : decode cX4_leastRoom 74 = .ok (.iload 5, 2) := dk_21 5 (dk_at dksX4_leastRoom_3 4 rfl rfl)
theorem dX4_leastRoom_76 : decode cX4_leastRoom 76 = .ok (.ifCond .eq 14, 3) := dk_153 0 14 (dk_at dksX4_leastRoom_3 6 rfl rfl)
theorem dX4_leastRoom_79 : decode cX4_leastRoom 79 = .ok (.aload_n 0, 1) := dk_42 (dk_at dksX4_leastRoom_3 9 rfl rfl)
theorem dX4_leastRoom_80 : decode cX4_leastRoom 80 = .ok (.invokevirtual 421, 3) := dk_182 1 165 (dk_at dksX4_leastRoom_3 10 rfl rfl)
theorem dX4_leastRoom_83 : decode cX4_leastRoom 83 = .ok (.ifCond .ne 7, 3) := dk_154 0 7 (dk_at dksX4_leastRoom_3 13 rfl rfl)
theorem dX4_leastRoom_86 : decode cX4_leastRoom 86 = .ok (.iconst 1, 1) := dk_4 (dk_at dksX4_leastRoom_3 16 rfl rfl)
theorem dX4_leastRoom_87 : decode cX4_leastRoom 87 = .ok (.goto 4, 3) := dk_167 0 4 (dk_at dksX4_leastRoom_3 17 rfl rfl)
theorem dX4_leastRoom_90 : decode cX4_leastRoom 90 = .ok (.iconst 0, 1) := dk_3 (dk_at dksX4_leastRoom_3 20 rfl rfl)
theorem dX4_leastRoom_91 : decode cX4_leastRoom 91 = .ok (.istore 5, 2) := dk_54 5 (dk_at dksX4_leastRoom_3 21 rfl rfl)
theorem dX4_leastRoom_93 : decode cX4_leastRoom 93 = .ok (.iinc 6 1, 3) := dk_132 6 1 (dk_at dksX4_leastRoom_4 0 rfl rfl)
theorem dX4_leastRoom_96 : decode cX4_leastRoom 96 = .ok (.goto (-33), 3) := dk_167 255 223 (dk_at dksX4_leastRoom_4 3 rfl rfl)
theorem dX4_leastRoom_99 : decode cX4_leastRoom 99 = .ok (.iload 5, 2) := dk_21 5 (dk_at dksX4_leastRoom_4 6 rfl rfl)
theorem dX4_leastRoom_101 : decode cX4_leastRoom 101 = .ok (.ifCond .eq 6, 3) := dk_153 0 6 (dk_at dksX4_leastRoom_4 8 rfl rfl)
theorem dX4_leastRoom_104 : decode cX4_leastRoom 104 = .ok (.iload 4, 2) := dk_21 4 (dk_at dksX4_leastRoom_4 11 rfl rfl)
theorem dX4_leastRoom_106 : decode cX4_leastRoom 106 = .ok (.istore_n 3, 1) := dk_62 (dk_at dksX4_leastRoom_4 13 rfl rfl)
theorem dX4_leastRoom_107 : decode cX4_leastRoom 107 = .ok (.aload_n 0, 1) := dk_42 (dk_at dksX4_leastRoom_4 14 rfl rfl)
theorem dX4_leastRoom_108 : decode cX4_leastRoom 108 = .ok (.invokevirtual 382, 3) := dk_182 1 126 (dk_at dksX4_leastRoom_4 15 rfl rfl)
theorem dX4_leastRoom_111 : decode cX4_leastRoom 111 = .ok (.iinc 4 1, 3) := dk_132 4 1 (dk_at dksX4_leastRoom_4 18 rfl rfl)
theorem dX4_leastRoom_114 : decode cX4_leastRoom 114 = .ok (.goto (-76), 3) := dk_167 255 180 (dk_at dksX4_leastRoom_4 21 rfl rfl)
theorem dX4_leastRoom_117 : decode cX4_leastRoom 117 = .ok (.aload_n 0, 1) := dk_42 (dk_at dksX4_leastRoom_5 0 rfl rfl)
theorem dX4_leastRoom_118 : decode cX4_leastRoom 118 = .ok (.getfield 39, 3) := dk_180 0 39 (dk_at dksX4_leastRoom_5 1 rfl rfl)
theorem dX4_leastRoom_121 : decode cX4_leastRoom 121 = .ok (.iconst 2, 1) := dk_5 (dk_at dksX4_leastRoom_5 4 rfl rfl)
theorem dX4_leastRoom_122 : decode cX4_leastRoom 122 = .ok (.iload_n 2, 1) := dk_28 (dk_at dksX4_leastRoom_5 5 rfl rfl)
theorem dX4_leastRoom_123 : decode cX4_leastRoom 123 = .ok (.iastore, 1) := dk_79 (dk_at dksX4_leastRoom_5 6 rfl rfl)
theorem dX4_leastRoom_124 : decode cX4_leastRoom 124 = .ok (.iload_n 3, 1) := dk_29 (dk_at dksX4_leastRoom_5 7 rfl rfl)
theorem dX4_leastRoom_125 : decode cX4_leastRoom 125 = .ok (.ireturn, 1) := dk_172 (dk_at dksX4_leastRoom_5 8 rfl rfl)
abbrev cX4_isAnyCrowd : ByteArray := prog_19_method_93_code
def yX4_isAnyCrowd : MethodName := ⟨RX4, "isAnyCrowd", "()Z"⟩
def dkwX4_isAnyCrowd_1 : List UInt8 := [132, 1, 1, 167, 255, 231, 3, 172]
abbrev dktX4_isAnyCrowd_1 : List UInt8 := dkwX4_isAnyCrowd_1 ++ []
def dkwX4_isAnyCrowd_0 : List UInt8 := [3, 60, 27, 42, 180, 0, 39, 6, 46, 162, 0, 21, 42, 27, 182, 1, 56, 16, 20, 164, 0, 5, 4, 172]
abbrev dktX4_isAnyCrowd_0 : List UInt8 := dkwX4_isAnyCrowd_0 ++ dktX4_isAnyCrowd_1
theorem dksX4_isAnyCrowd_0 : cX4_isAnyCrowd.data.toList.drop 0 = dktX4_isAnyCrowd_0 := by decide +kernel
theorem dksX4_isAnyCrowd_1 : cX4_isAnyCrowd.data.toList.drop 24 = dktX4_isAnyCrowd_1 := dk_seg dksX4_isAnyCrowd_0 24 rfl rfl
theorem dX4_isAnyCrowd_0 : decode cX4_isAnyCrowd 0 = .ok (.iconst 0, 1) := dk_3 (dk_at dksX4_isAnyCrowd_0 0 rfl rfl)
theorem dX4_isAnyCrowd_1 : decode cX4_isAnyCrowd 1 = .ok (.istore_n 1, 1) := dk_60 (dk_at dksX4_isAnyCrowd_0 1 rfl rfl)
theorem dX4_isAnyCrowd_2 : decode cX4_isAnyCrowd 2 = .ok (.iload_n 1, 1) := dk_27 (dk_at dksX4_isAnyCrowd_0 2 rfl rfl)
theorem dX4_isAnyCrowd_3 : decode cX4_isAnyCrowd 3 = .ok (.aload_n 0, 1) := dk_42 (dk_at dksX4_isAnyCrowd_0 3 rfl rfl)
theorem dX4_isAnyCrowd_4 : decode cX4_isAnyCrowd 4 = .ok (.getfield 39, 3) := dk_180 0 39 (dk_at dksX4_isAnyCrowd_0 4 rfl rfl)
theorem dX4_isAnyCrowd_7 : decode cX4_isAnyCrowd 7 = .ok (.iconst 3, 1) := dk_6 (dk_at dksX4_isAnyCrowd_0 7 rfl rfl)
theorem dX4_isAnyCrowd_8 : decode cX4_isAnyCrowd 8 = .ok (.iaload, 1) := dk_46 (dk_at dksX4_isAnyCrowd_0 8 rfl rfl)
theorem dX4_isAnyCrowd_9 : decode cX4_isAnyCrowd 9 = .ok (.if_icmp .ge 21, 3) := dk_162 0 21 (dk_at dksX4_isAnyCrowd_0 9 rfl rfl)
theorem dX4_isAnyCrowd_12 : decode cX4_isAnyCrowd 12 = .ok (.aload_n 0, 1) := dk_42 (dk_at dksX4_isAnyCrowd_0 12 rfl rfl)
theorem dX4_isAnyCrowd_13 : decode cX4_isAnyCrowd 13 = .ok (.iload_n 1, 1) := dk_27 (dk_at dksX4_isAnyCrowd_0 13 rfl rfl)
theorem dX4_isAnyCrowd_14 : decode cX4_isAnyCrowd 14 = .ok (.invokevirtual 312, 3) := dk_182 1 56 (dk_at dksX4_isAnyCrowd_0 14 rfl rfl)
theorem dX4_isAnyCrowd_17 : decode cX4_isAnyCrowd 17 = .ok (.bipush 20, 2) := dk_16 20 (dk_at dksX4_isAnyCrowd_0 17 rfl rfl)
theorem dX4_isAnyCrowd_19 : decode cX4_isAnyCrowd 19 = .ok (.if_icmp .le 5, 3) := dk_164 0 5 (dk_at dksX4_isAnyCrowd_0 19 rfl rfl)
theorem dX4_isAnyCrowd_22 : decode cX4_isAnyCrowd 22 = .ok (.iconst 1, 1) := dk_4 (dk_at dksX4_isAnyCrowd_0 22 rfl rfl)
theorem dX4_isAnyCrowd_23 : decode cX4_isAnyCrowd 23 = .ok (.ireturn, 1) := dk_172 (dk_at dksX4_isAnyCrowd_0 23 rfl rfl)
theorem dX4_isAnyCrowd_24 : decode cX4_isAnyCrowd 24 = .ok (.iinc 1 1, 3) := dk_132 1 1 (dk_at dksX4_isAnyCrowd_1 0 rfl rfl)
theorem dX4_isAnyCrowd_27 : decode cX4_isAnyCrowd 27 = .ok (.goto (-25), 3) := dk_167 255 231 (dk_at dksX4_isAnyCrowd_1 3 rfl rfl)
theorem dX4_isAnyCrowd_30 : decode cX4_isAnyCrowd 30 = .ok (.iconst 0, 1) := dk_3 (dk_at dksX4_isAnyCrowd_1 6 rfl rfl)
theorem dX4_isAnyCrowd_31 : decode cX4_isAnyCrowd 31 = .ok (.ireturn, 1) := dk_172 (dk_at dksX4_isAnyCrowd_1 7 rfl rfl)
abbrev cX4_shut : ByteArray := prog_19_method_95_code
def yX4_shut : MethodName := ⟨RX4, "shut", "(II)I"⟩
def dkwX4_shut_5 : List UInt8 := [132, 5, 1, 167, 255, 184, 42, 2, 181, 0, 46, 28, 154, 0, 7, 29, 167, 0, 5, 21, 4, 172]
abbrev dktX4_shut_5 : List UInt8 := dkwX4_shut_5 ++ []
def dkwX4_shut_4 : List UInt8 := [42, 27, 182, 1, 144, 54, 6, 21, 6, 21, 4, 161, 0, 6, 167, 0, 10, 21, 5, 62, 21, 6, 54, 4]
abbrev dktX4_shut_4 : List UInt8 := dkwX4_shut_4 ++ dktX4_shut_5
def dkwX4_shut_3 : List UInt8 := [16, 11, 8, 21, 5, 104, 96, 3, 79, 42, 180, 0, 39, 16, 11, 8, 21, 5, 104, 96, 6, 96, 3, 79]
abbrev dktX4_shut_3 : List UInt8 := dkwX4_shut_3 ++ dktX4_shut_4
def dkwX4_shut_2 : List UInt8 := [54, 5, 21, 5, 42, 180, 0, 39, 6, 46, 162, 0, 67, 42, 21, 5, 181, 0, 46, 42, 180, 0, 39]
abbrev dktX4_shut_2 : List UInt8 := dkwX4_shut_2 ++ dktX4_shut_3
def dkwX4_shut_1 : List UInt8 := [184, 0, 130, 154, 0, 6, 16, 254, 172, 42, 182, 1, 120, 2, 62, 42, 27, 182, 1, 144, 54, 4, 3]
abbrev dktX4_shut_1 : List UInt8 := dkwX4_shut_1 ++ dktX4_shut_2
def dkwX4_shut_0 : List UInt8 := [42, 182, 1, 38, 153, 0, 25, 27, 133, 10, 20, 1, 163, 184, 0, 130, 153, 0, 13, 28, 133, 9, 10]
abbrev dktX4_shut_0 : List UInt8 := dkwX4_shut_0 ++ dktX4_shut_1
theorem dksX4_shut_0 : cX4_shut.data.toList.drop 0 = dktX4_shut_0 := by decide +kernel
theorem dksX4_shut_1 : cX4_shut.data.toList.drop 23 = dktX4_shut_1 := dk_seg dksX4_shut_0 23 rfl rfl
theorem dksX4_shut_2 : cX4_shut.data.toList.drop 46 = dktX4_shut_2 := dk_seg dksX4_shut_1 23 rfl rfl
theorem dksX4_shut_3 : cX4_shut.data.toList.drop 69 = dktX4_shut_3 := dk_seg dksX4_shut_2 23 rfl rfl
theorem dksX4_shut_4 : cX4_shut.data.toList.drop 93 = dktX4_shut_4 := dk_seg dksX4_shut_3 24 rfl rfl
theorem dksX4_shut_5 : cX4_shut.data.toList.drop 117 = dktX4_shut_5 := dk_seg dksX4_shut_4 24 rfl rfl
theorem dX4_shut_0 : decode cX4_shut 0 = .ok (.aload_n 0, 1) := dk_42 (dk_at dksX4_shut_0 0 rfl rfl)
theorem dX4_shut_1 : decode cX4_shut 1 = .ok (.invokevirtual 294, 3) := dk_182 1 38 (dk_at dksX4_shut_0 1 rfl rfl)
theorem dX4_shut_4 : decode cX4_shut 4 = .ok (.ifCond .eq 25, 3) := dk_153 0 25 (dk_at dksX4_shut_0 4 rfl rfl)
theorem dX4_shut_7 : decode cX4_shut 7 = .ok (.iload_n 1, 1) := dk_27 (dk_at dksX4_shut_0 7 rfl rfl)
theorem dX4_shut_8 : decode cX4_shut 8 = .ok (.i2l, 1) := dk_133 (dk_at dksX4_shut_0 8 rfl rfl)
theorem dX4_shut_9 : decode cX4_shut 9 = .ok (.lconst 1, 1) := dk_10 (dk_at dksX4_shut_0 9 rfl rfl)
theorem dX4_shut_10 : decode cX4_shut 10 = .ok (.ldc2_w 419, 3) := dk_20 1 163 (dk_at dksX4_shut_0 10 rfl rfl)
theorem dX4_shut_13 : decode cX4_shut 13 = .ok (.invokestatic 130, 3) := dk_184 0 130 (dk_at dksX4_shut_0 13 rfl rfl)
theorem dX4_shut_16 : decode cX4_shut 16 = .ok (.ifCond .eq 13, 3) := dk_153 0 13 (dk_at dksX4_shut_0 16 rfl rfl)
theorem dX4_shut_19 : decode cX4_shut 19 = .ok (.iload_n 2, 1) := dk_28 (dk_at dksX4_shut_0 19 rfl rfl)
theorem dX4_shut_20 : decode cX4_shut 20 = .ok (.i2l, 1) := dk_133 (dk_at dksX4_shut_0 20 rfl rfl)
theorem dX4_shut_21 : decode cX4_shut 21 = .ok (.lconst 0, 1) := dk_9 (dk_at dksX4_shut_0 21 rfl rfl)
theorem dX4_shut_22 : decode cX4_shut 22 = .ok (.lconst 1, 1) := dk_10 (dk_at dksX4_shut_0 22 rfl rfl)
theorem dX4_shut_23 : decode cX4_shut 23 = .ok (.invokestatic 130, 3) := dk_184 0 130 (dk_at dksX4_shut_1 0 rfl rfl)
theorem dX4_shut_26 : decode cX4_shut 26 = .ok (.ifCond .ne 6, 3) := dk_154 0 6 (dk_at dksX4_shut_1 3 rfl rfl)
theorem dX4_shut_29 : decode cX4_shut 29 = .ok (.bipush (-2), 2) := dk_16 254 (dk_at dksX4_shut_1 6 rfl rfl)
theorem dX4_shut_31 : decode cX4_shut 31 = .ok (.ireturn, 1) := dk_172 (dk_at dksX4_shut_1 8 rfl rfl)
theorem dX4_shut_32 : decode cX4_shut 32 = .ok (.aload_n 0, 1) := dk_42 (dk_at dksX4_shut_1 9 rfl rfl)
theorem dX4_shut_33 : decode cX4_shut 33 = .ok (.invokevirtual 376, 3) := dk_182 1 120 (dk_at dksX4_shut_1 10 rfl rfl)
theorem dX4_shut_36 : decode cX4_shut 36 = .ok (.iconst (-1), 1) := dk_2 (dk_at dksX4_shut_1 13 rfl rfl)
theorem dX4_shut_37 : decode cX4_shut 37 = .ok (.istore_n 3, 1) := dk_62 (dk_at dksX4_shut_1 14 rfl rfl)
theorem dX4_shut_38 : decode cX4_shut 38 = .ok (.aload_n 0, 1) := dk_42 (dk_at dksX4_shut_1 15 rfl rfl)
theorem dX4_shut_39 : decode cX4_shut 39 = .ok (.iload_n 1, 1) := dk_27 (dk_at dksX4_shut_1 16 rfl rfl)
theorem dX4_shut_40 : decode cX4_shut 40 = .ok (.invokevirtual 400, 3) := dk_182 1 144 (dk_at dksX4_shut_1 17 rfl rfl)
theorem dX4_shut_43 : decode cX4_shut 43 = .ok (.istore 4, 2) := dk_54 4 (dk_at dksX4_shut_1 20 rfl rfl)
theorem dX4_shut_45 : decode cX4_shut 45 = .ok (.iconst 0, 1) := dk_3 (dk_at dksX4_shut_1 22 rfl rfl)
theorem dX4_shut_46 : decode cX4_shut 46 = .ok (.istore 5, 2) := dk_54 5 (dk_at dksX4_shut_2 0 rfl rfl)
theorem dX4_shut_48 : decode cX4_shut 48 = .ok (.iload 5, 2) := dk_21 5 (dk_at dksX4_shut_2 2 rfl rfl)
theorem dX4_shut_50 : decode cX4_shut 50 = .ok (.aload_n 0, 1) := dk_42 (dk_at dksX4_shut_2 4 rfl rfl)
theorem dX4_shut_51 : decode cX4_shut 51 = .ok (.getfield 39, 3) := dk_180 0 39 (dk_at dksX4_shut_2 5 rfl rfl)
theorem dX4_shut_54 : decode cX4_shut 54 = .ok (.iconst 3, 1) := dk_6 (dk_at dksX4_shut_2 8 rfl rfl)
theorem dX4_shut_55 : decode cX4_shut 55 = .ok (.iaload, 1) := dk_46 (dk_at dksX4_shut_2 9 rfl rfl)
theorem dX4_shut_56 : decode cX4_shut 56 = .ok (.if_icmp .ge 67, 3) := dk_162 0 67 (dk_at dksX4_shut_2 10 rfl rfl)
theorem dX4_shut_59 : decode cX4_shut 59 = .ok (.aload_n 0, 1) := dk_42 (dk_at dksX4_shut_2 13 rfl rfl)
theorem dX4_shut_60 : decode cX4_shut 60 = .ok (.iload 5, 2) := dk_21 5 (dk_at dksX4_shut_2 14 rfl rfl)
theorem dX4_shut_62 : decode cX4_shut 62 = .ok (.putfield 46, 3) := dk_181 0 46 (dk_at dksX4_shut_2 16 rfl rfl)
theorem dX4_shut_65 : decode cX4_shut 65 = .ok (.aload_n 0, 1) := dk_42 (dk_at dksX4_shut_2 19 rfl rfl)
theorem dX4_shut_66 : decode cX4_shut 66 = .ok (.getfield 39, 3) := dk_180 0 39 (dk_at dksX4_shut_2 20 rfl rfl)
theorem dX4_shut_69 : decode cX4_shut 69 = .ok (.bipush 11, 2) := dk_16 11 (dk_at dksX4_shut_3 0 rfl rfl)
theorem dX4_shut_71 : decode cX4_shut 71 = .ok (.iconst 5, 1) := dk_8 (dk_at dksX4_shut_3 2 rfl rfl)
theorem dX4_shut_72 : decode cX4_shut 72 = .ok (.iload 5, 2) := dk_21 5 (dk_at dksX4_shut_3 3 rfl rfl)
theorem dX4_shut_74 : decode cX4_shut 74 = .ok (.imul, 1) := dk_104 (dk_at dksX4_shut_3 5 rfl rfl)
theorem dX4_shut_75 : decode cX4_shut 75 = .ok (.iadd, 1) := dk_96 (dk_at dksX4_shut_3 6 rfl rfl)
theorem dX4_shut_76 : decode cX4_shut 76 = .ok (.iconst 0, 1) := dk_3 (dk_at dksX4_shut_3 7 rfl rfl)
theorem dX4_shut_77 : decode cX4_shut 77 = .ok (.iastore, 1) := dk_79 (dk_at dksX4_shut_3 8 rfl rfl)
theorem dX4_shut_78 : decode cX4_shut 78 = .ok (.aload_n 0, 1) := dk_42 (dk_at dksX4_shut_3 9 rfl rfl)
theorem dX4_shut_79 : decode cX4_shut 79 = .ok (.getfield 39, 3) := dk_180 0 39 (dk_at dksX4_shut_3 10 rfl rfl)
theorem dX4_shut_82 : decode cX4_shut 82 = .ok (.bipush 11, 2) := dk_16 11 (dk_at dksX4_shut_3 13 rfl rfl)
theorem dX4_shut_84 : decode cX4_shut 84 = .ok (.iconst 5, 1) := dk_8 (dk_at dksX4_shut_3 15 rfl rfl)
theorem dX4_shut_85 : decode cX4_shut 85 = .ok (.iload 5, 2) := dk_21 5 (dk_at dksX4_shut_3 16 rfl rfl)
theorem dX4_shut_87 : decode cX4_shut 87 = .ok (.imul, 1) := dk_104 (dk_at dksX4_shut_3 18 rfl rfl)
theorem dX4_shut_88 : decode cX4_shut 88 = .ok (.iadd, 1) := dk_96 (dk_at dksX4_shut_3 19 rfl rfl)
theorem dX4_shut_89 : decode cX4_shut 89 = .ok (.iconst 3, 1) := dk_6 (dk_at dksX4_shut_3 20 rfl rfl)
theorem dX4_shut_90 : decode cX4_shut 90 = .ok (.iadd, 1) := dk_96 (dk_at dksX4_shut_3 21 rfl rfl)
theorem dX4_shut_91 : decode cX4_shut 91 = .ok (.iconst 0, 1) := dk_3 (dk_at dksX4_shut_3 22 rfl rfl)
theorem dX4_shut_92 : decode cX4_shut 92 = .ok (.iastore, 1) := dk_79 (dk_at dksX4_shut_3 23 rfl rfl)
theorem dX4_shut_93 : decode cX4_shut 93 = .ok (.aload_n 0, 1) := dk_42 (dk_at dksX4_shut_4 0 rfl rfl)
theorem dX4_shut_94 : decode cX4_shut 94 = .ok (.iload_n 1, 1) := dk_27 (dk_at dksX4_shut_4 1 rfl rfl)
theorem dX4_shut_95 : decode cX4_shut 95 = .ok (.invokevirtual 400, 3) := dk_182 1 144 (dk_at dksX4_shut_4 2 rfl rfl)
theorem dX4_shut_98 : decode cX4_shut 98 = .ok (.istore 6, 2) := dk_54 6 (dk_at dksX4_shut_4 5 rfl rfl)
theorem dX4_shut_100 : decode cX4_shut 100 = .ok (.iload 6, 2) := dk_21 6 (dk_at dksX4_shut_4 7 rfl rfl)
theorem dX4_shut_102 : decode cX4_shut 102 = .ok (.iload 4, 2) := dk_21 4 (dk_at dksX4_shut_4 9 rfl rfl)
theorem dX4_shut_104 : decode cX4_shut 104 = .ok (.if_icmp .lt 6, 3) := dk_161 0 6 (dk_at dksX4_shut_4 11 rfl rfl)
theorem dX4_shut_107 : decode cX4_shut 107 = .ok (.goto 10, 3) := dk_167 0 10 (dk_at dksX4_shut_4 14 rfl rfl)
theorem dX4_shut_110 : decode cX4_shut 110 = .ok (.iload 5, 2) := dk_21 5 (dk_at dksX4_shut_4 17 rfl rfl)
theorem dX4_shut_112 : decode cX4_shut 112 = .ok (.istore_n 3, 1) := dk_62 (dk_at dksX4_shut_4 19 rfl rfl)
theorem dX4_shut_113 : decode cX4_shut 113 = .ok (.iload 6, 2) := dk_21 6 (dk_at dksX4_shut_4 20 rfl rfl)
theorem dX4_shut_115 : decode cX4_shut 115 = .ok (.istore 4, 2) := dk_54 4 (dk_at dksX4_shut_4 22 rfl rfl)
theorem dX4_shut_117 : decode cX4_shut 117 = .ok (.iinc 5 1, 3) := dk_132 5 1 (dk_at dksX4_shut_5 0 rfl rfl)
theorem dX4_shut_120 : decode cX4_shut 120 = .ok (.goto (-72), 3) := dk_167 255 184 (dk_at dksX4_shut_5 3 rfl rfl)
theorem dX4_shut_123 : decode cX4_shut 123 = .ok (.aload_n 0, 1) := dk_42 (dk_at dksX4_shut_5 6 rfl rfl)
theorem dX4_shut_124 : decode cX4_shut 124 = .ok (.iconst (-1), 1) := dk_2 (dk_at dksX4_shut_5 7 rfl rfl)
theorem dX4_shut_125 : decode cX4_shut 125 = .ok (.putfield 46, 3) := dk_181 0 46 (dk_at dksX4_shut_5 8 rfl rfl)
theorem dX4_shut_128 : decode cX4_shut 128 = .ok (.iload_n 2, 1) := dk_28 (dk_at dksX4_shut_5 11 rfl rfl)
theorem dX4_shut_129 : decode cX4_shut 129 = .ok (.ifCond .ne 7, 3) := dk_154 0 7 (dk_at dksX4_shut_5 12 rfl rfl)
theorem dX4_shut_132 : decode cX4_shut 132 = .ok (.iload_n 3, 1) := dk_29 (dk_at dksX4_shut_5 15 rfl rfl)
theorem dX4_shut_133 : decode cX4_shut 133 = .ok (.goto 5, 3) := dk_167 0 5 (dk_at dksX4_shut_5 16 rfl rfl)
theorem dX4_shut_136 : decode cX4_shut 136 = .ok (.iload 4, 2) := dk_21 4 (dk_at dksX4_shut_5 19 rfl rfl)
theorem dX4_shut_138 : decode cX4_shut 138 = .ok (.ireturn, 1) := dk_172 (dk_at dksX4_shut_5 21 rfl rfl)
abbrev cX4_longest : ByteArray := prog_19_method_96_code
def yX4_longest : MethodName := ⟨RX4, "longest", "(II)I"⟩
def dkwX4_longest_6 : List UInt8 := [167, 0, 19, 29, 167, 0, 15, 28, 4, 160, 0, 8, 21, 4, 167, 0, 5, 21, 5, 172]
abbrev dktX4_longest_6 : List UInt8 := dkwX4_longest_6 ++ []
def dkwX4_longest_5 : List UInt8 := [167, 255, 207, 132, 6, 1, 167, 255, 187, 42, 182, 1, 126, 28, 154, 0, 15, 29, 156, 0, 7, 3]
abbrev dktX4_longest_5 : List UInt8 := dkwX4_longest_5 ++ dktX4_longest_6
def dkwX4_longest_4 : List UInt8 := [182, 1, 56, 62, 42, 180, 0, 39, 16, 10, 46, 4, 100, 54, 4, 21, 7, 54, 5, 132, 7, 1]
abbrev dktX4_longest_4 : List UInt8 := dkwX4_longest_4 ++ dktX4_longest_5
def dkwX4_longest_3 : List UInt8 := [180, 0, 39, 6, 46, 162, 0, 44, 42, 21, 7, 182, 1, 56, 29, 163, 0, 6, 167, 0, 25, 42, 21, 7]
abbrev dktX4_longest_3 : List UInt8 := dkwX4_longest_3 ++ dktX4_longest_4
def dkwX4_longest_2 : List UInt8 := [182, 1, 120, 3, 54, 6, 21, 6, 27, 162, 0, 69, 42, 182, 1, 106, 87, 3, 54, 7, 21, 7, 42]
abbrev dktX4_longest_2 : List UInt8 := dkwX4_longest_2 ++ dktX4_longest_3
def dkwX4_longest_1 : List UInt8 := [20, 1, 118, 184, 0, 130, 154, 0, 5, 2, 172, 2, 62, 16, 254, 54, 4, 16, 254, 54, 5, 42]
abbrev dktX4_longest_1 : List UInt8 := dkwX4_longest_1 ++ dktX4_longest_2
def dkwX4_longest_0 : List UInt8 := [42, 182, 1, 38, 153, 0, 27, 27, 133, 10, 20, 1, 116, 184, 0, 130, 153, 0, 15, 28, 133, 9]
abbrev dktX4_longest_0 : List UInt8 := dkwX4_longest_0 ++ dktX4_longest_1
theorem dksX4_longest_0 : cX4_longest.data.toList.drop 0 = dktX4_longest_0 := by decide +kernel
theorem dksX4_longest_1 : cX4_longest.data.toList.drop 22 = dktX4_longest_1 := dk_seg dksX4_longest_0 22 rfl rfl
theorem dksX4_longest_2 : cX4_longest.data.toList.drop 44 = dktX4_longest_2 := dk_seg dksX4_longest_1 22 rfl rfl
theorem dksX4_longest_3 : cX4_longest.data.toList.drop 67 = dktX4_longest_3 := dk_seg dksX4_longest_2 23 rfl rfl
theorem dksX4_longest_4 : cX4_longest.data.toList.drop 91 = dktX4_longest_4 := dk_seg dksX4_longest_3 24 rfl rfl
theorem dksX4_longest_5 : cX4_longest.data.toList.drop 113 = dktX4_longest_5 := dk_seg dksX4_longest_4 22 rfl rfl
theorem dksX4_longest_6 : cX4_longest.data.toList.drop 135 = dktX4_longest_6 := dk_seg dksX4_longest_5 22 rfl rfl
theorem dX4_longest_0 : decode cX4_longest 0 = .ok (.aload_n 0, 1) := dk_42 (dk_at dksX4_longest_0 0 rfl rfl)
theorem dX4_longest_1 : decode cX4_longest 1 = .ok (.invokevirtual 294, 3) := dk_182 1 38 (dk_at dksX4_longest_0 1 rfl rfl)
theorem dX4_longest_4 : decode cX4_longest 4 = .ok (.ifCond .eq 27, 3) := dk_153 0 27 (dk_at dksX4_longest_0 4 rfl rfl)
theorem dX4_longest_7 : decode cX4_longest 7 = .ok (.iload_n 1, 1) := dk_27 (dk_at dksX4_longest_0 7 rfl rfl)
theorem dX4_longest_8 : decode cX4_longest 8 = .ok (.i2l, 1) := dk_133 (dk_at dksX4_longest_0 8 rfl rfl)
theorem dX4_longest_9 : decode cX4_longest 9 = .ok (.lconst 1, 1) := dk_10 (dk_at dksX4_longest_0 9 rfl rfl)
theorem dX4_longest_10 : decode cX4_longest 10 = .ok (.ldc2_w 372, 3) := dk_20 1 116 (dk_at dksX4_longest_0 10 rfl rfl)
theorem dX4_longest_13 : decode cX4_longest 13 = .ok (.invokestatic 130, 3) := dk_184 0 130 (dk_at dksX4_longest_0 13 rfl rfl)
theorem dX4_longest_16 : decode cX4_longest 16 = .ok (.ifCond .eq 15, 3) := dk_153 0 15 (dk_at dksX4_longest_0 16 rfl rfl)
theorem dX4_longest_19 : decode cX4_longest 19 = .ok (.iload_n 2, 1) := dk_28 (dk_at dksX4_longest_0 19 rfl rfl)
theorem dX4_longest_20 : decode cX4_longest 20 = .ok (.i2l, 1) := dk_133 (dk_at dksX4_longest_0 20 rfl rfl)
theorem dX4_longest_21 : decode cX4_longest 21 = .ok (.lconst 0, 1) := dk_9 (dk_at dksX4_longest_0 21 rfl rfl)
theorem dX4_longest_22 : decode cX4_longest 22 = .ok (.ldc2_w 374, 3) := dk_20 1 118 (dk_at dksX4_longest_1 0 rfl rfl)
theorem dX4_longest_25 : decode cX4_longest 25 = .ok (.invokestatic 130, 3) := dk_184 0 130 (dk_at dksX4_longest_1 3 rfl rfl)
theorem dX4_longest_28 : decode cX4_longest 28 = .ok (.ifCond .ne 5, 3) := dk_154 0 5 (dk_at dksX4_longest_1 6 rfl rfl)
theorem dX4_longest_31 : decode cX4_longest 31 = .ok (.iconst (-1), 1) := dk_2 (dk_at dksX4_longest_1 9 rfl rfl)
theorem dX4_longest_32 : decode cX4_longest 32 = .ok (.ireturn, 1) := dk_172 (dk_at dksX4_longest_1 10 rfl rfl)
theorem dX4_longest_33 : decode cX4_longest 33 = .ok (.iconst (-1), 1) := dk_2 (dk_at dksX4_longest_1 11 rfl rfl)
theorem dX4_longest_34 : decode cX4_longest 34 = .ok (.istore_n 3, 1) := dk_62 (dk_at dksX4_longest_1 12 rfl rfl)
theorem dX4_longest_35 : decode cX4_longest 35 = .ok (.bipush (-2), 2) := dk_16 254 (dk_at dksX4_longest_1 13 rfl rfl)
theorem dX4_longest_37 : decode cX4_longest 37 = .ok (.istore 4, 2) := dk_54 4 (dk_at dksX4_longest_1 15 rfl rfl)
theorem dX4_longest_39 : decode cX4_longest 39 = .ok (.bipush (-2), 2) := dk_16 254 (dk_at dksX4_longest_1 17 rfl rfl)
theorem dX4_longest_41 : decode cX4_longest 41 = .ok (.istore 5, 2) := dk_54 5 (dk_at dksX4_longest_1 19 rfl rfl)
theorem dX4_longest_43 : decode cX4_longest 43 = .ok (.aload_n 0, 1) := dk_42 (dk_at dksX4_longest_1 21 rfl rfl)
theorem dX4_longest_44 : decode cX4_longest 44 = .ok (.invokevirtual 376, 3) := dk_182 1 120 (dk_at dksX4_longest_2 0 rfl rfl)
theorem dX4_longest_47 : decode cX4_longest 47 = .ok (.iconst 0, 1) := dk_3 (dk_at dksX4_longest_2 3 rfl rfl)
theorem dX4_longest_48 : decode cX4_longest 48 = .ok (.istore 6, 2) := dk_54 6 (dk_at dksX4_longest_2 4 rfl rfl)
theorem dX4_longest_50 : decode cX4_longest 50 = .ok (.iload 6, 2) := dk_21 6 (dk_at dksX4_longest_2 6 rfl rfl)
theorem dX4_longest_52 : decode cX4_longest 52 = .ok (.iload_n 1, 1) := dk_27 (dk_at dksX4_longest_2 8 rfl rfl)
theorem dX4_longest_53 : decode cX4_longest 53 = .ok (.if_icmp .ge 69, 3) := dk_162 0 69 (dk_at dksX4_longest_2 9 rfl rfl)
theorem dX4_longest_56 : decode cX4_longest 56 = .ok (.aload_n 0, 1) := dk_42 (dk_at dksX4_longest_2 12 rfl rfl)
theorem dX4_longest_57 : decode cX4_longest 57 = .ok (.invokevirtual 362, 3) := dk_182 1 106 (dk_at dksX4_longest_2 13 rfl rfl)
theorem dX4_longest_60 : decode cX4_longest 60 = .ok (.pop, 1) := dk_87 (dk_at dksX4_longest_2 16 rfl rfl)
theorem dX4_longest_61 : decode cX4_longest 61 = .ok (.iconst 0, 1) := dk_3 (dk_at dksX4_longest_2 17 rfl rfl)
theorem dX4_longest_62 : decode cX4_longest 62 = .ok (.istore 7, 2) := dk_54 7 (dk_at dksX4_longest_2 18 rfl rfl)
theorem dX4_longest_64 : decode cX4_longest 64 = .ok (.iload 7, 2) := dk_21 7 (dk_at dksX4_longest_2 20 rfl rfl)
theorem dX4_longest_66 : decode cX4_longest 66 = .ok (.aload_n 0, 1) := dk_42 (dk_at dksX4_longest_2 22 rfl rfl)
theorem dX4_longest_67 : decode cX4_longest 67 = .ok (.getfield 39, 3) := dk_180 0 39 (dk_at dksX4_longest_3 0 rfl rfl)
theorem dX4_longest_70 : decode cX4_longest 70 = .ok (.iconst 3, 1) := dk_6 (dk_at dksX4_longest_3 3 rfl rfl)
theorem dX4_longest_71 : decode cX4_longest 71 = .ok (.iaload, 1) := dk_46 (dk_at dksX4_longest_3 4 rfl rfl)
theorem dX4_longest_72 : decode cX4_longest 72 = .ok (.if_icmp .ge 44, 3) := dk_162 0 44 (dk_at dksX4_longest_3 5 rfl rfl)
theorem dX4_longest_75 : decode cX4_longest 75 = .ok (.aload_n 0, 1) := dk_42 (dk_at dksX4_longest_3 8 rfl rfl)
theorem dX4_longest_76 : decode cX4_longest 76 = .ok (.iload 7, 2) := dk_21 7 (dk_at dksX4_longest_3 9 rfl rfl)
theorem dX4_longest_78 : decode cX4_longest 78 = .ok (.invokevirtual 312, 3) := dk_182 1 56 (dk_at dksX4_longest_3 11 rfl rfl)
theorem dX4_longest_81 : decode cX4_longest 81 = .ok (.iload_n 3, 1) := dk_29 (dk_at dksX4_longest_3 14 rfl rfl)
theorem dX4_longest_82 : decode cX4_longest 82 = .ok (.if_icmp .gt 6, 3) := dk_163 0 6 (dk_at dksX4_longest_3 15 rfl rfl)
theorem dX4_longest_85 : decode cX4_longest 85 = .ok (.goto 25, 3) := dk_167 0 25 (dk_at dksX4_longest_3 18 rfl rfl)
theorem dX4_longest_88 : decode cX4_longest 88 = .ok (.aload_n 0, 1) := dk_42 (dk_at dksX4_longest_3 21 rfl rfl)
theorem dX4_longest_89 : decode cX4_longest 89 = .ok (.iload 7, 2) := dk_21 7 (dk_at dksX4_longest_3 22 rfl rfl)
theorem dX4_longest_91 : decode cX4_longest 91 = .ok (.invokevirtual 312, 3) := dk_182 1 56 (dk_at dksX4_longest_4 0 rfl rfl)
theorem dX4_longest_94 : decode cX4_longest 94 = .ok (.istore_n 3, 1) := dk_62 (dk_at dksX4_longest_4 3 rfl rfl)
theorem dX4_longest_95 : decode cX4_longest 95 = .ok (.aload_n 0, 1) := dk_42 (dk_at dksX4_longest_4 4 rfl rfl)
theorem dX4_longest_96 : decode cX4_longest 96 = .ok (.getfield 39, 3) := dk_180 0 39 (dk_at dksX4_longest_4 5 rfl rfl)
theorem dX4_longest_99 : decode cX4_longest 99 = .ok (.bipush 10, 2) := dk_16 10 (dk_at dksX4_longest_4 8 rfl rfl)
theorem dX4_longest_101 : decode cX4_longest 101 = .ok (.iaload, 1) := dk_46 (dk_at dksX4_longest_4 10 rfl rfl)
theorem dX4_longest_102 : decode cX4_longest 102 = .ok (.iconst 1, 1) := dk_4 (dk_at dksX4_longest_4 11 rfl rfl)
theorem dX4_longest_103 : decode cX4_longest 103 = .ok (.isub, 1) := dk_100 (dk_at dksX4_longest_4 12 rfl rfl)
theorem dX4_longest_104 : decode cX4_longest 104 = .ok (.istore 4, 2) := dk_54 4 (dk_at dksX4_longest_4 13 rfl rfl)
theorem dX4_longest_106 : decode cX4_longest 106 = .ok (.iload 7, 2) := dk_21 7 (dk_at dksX4_longest_4 15 rfl rfl)
theorem dX4_longest_108 : decode cX4_longest 108 = .ok (.istore 5, 2) := dk_54 5 (dk_at dksX4_longest_4 17 rfl rfl)
theorem dX4_longest_110 : decode cX4_longest 110 = .ok (.iinc 7 1, 3) := dk_132 7 1 (dk_at dksX4_longest_4 19 rfl rfl)
theorem dX4_longest_113 : decode cX4_longest 113 = .ok (.goto (-49), 3) := dk_167 255 207 (dk_at dksX4_longest_5 0 rfl rfl)
theorem dX4_longest_116 : decode cX4_longest 116 = .ok (.iinc 6 1, 3) := dk_132 6 1 (dk_at dksX4_longest_5 3 rfl rfl)
theorem dX4_longest_119 : decode cX4_longest 119 = .ok (.goto (-69), 3) := dk_167 255 187 (dk_at dksX4_longest_5 6 rfl rfl)
theorem dX4_longest_122 : decode cX4_longest 122 = .ok (.aload_n 0, 1) := dk_42 (dk_at dksX4_longest_5 9 rfl rfl)
theorem dX4_longest_123 : decode cX4_longest 123 = .ok (.invokevirtual 382, 3) := dk_182 1 126 (dk_at dksX4_longest_5 10 rfl rfl)
theorem dX4_longest_126 : decode cX4_longest 126 = .ok (.iload_n 2, 1) := dk_28 (dk_at dksX4_longest_5 13 rfl rfl)
theorem dX4_longest_127 : decode cX4_longest 127 = .ok (.ifCond .ne 15, 3) := dk_154 0 15 (dk_at dksX4_longest_5 14 rfl rfl)
theorem dX4_longest_130 : decode cX4_longest 130 = .ok (.iload_n 3, 1) := dk_29 (dk_at dksX4_longest_5 17 rfl rfl)
theorem dX4_longest_131 : decode cX4_longest 131 = .ok (.ifCond .ge 7, 3) := dk_156 0 7 (dk_at dksX4_longest_5 18 rfl rfl)
theorem dX4_longest_134 : decode cX4_longest 134 = .ok (.iconst 0, 1) := dk_3 (dk_at dksX4_longest_5 21 rfl rfl)
theorem dX4_longest_135 : decode cX4_longest 135 = .ok (.goto 19, 3) := dk_167 0 19 (dk_at dksX4_longest_6 0 rfl rfl)
theorem dX4_longest_138 : decode cX4_longest 138 = .ok (.iload_n 3, 1) := dk_29 (dk_at dksX4_longest_6 3 rfl rfl)
theorem dX4_longest_139 : decode cX4_longest 139 = .ok (.goto 15, 3) := dk_167 0 15 (dk_at dksX4_longest_6 4 rfl rfl)
theorem dX4_longest_142 : decode cX4_longest 142 = .ok (.iload_n 2, 1) := dk_28 (dk_at dksX4_longest_6 7 rfl rfl)
theorem dX4_longest_143 : decode cX4_longest 143 = .ok (.iconst 1, 1) := dk_4 (dk_at dksX4_longest_6 8 rfl rfl)
theorem dX4_longest_144 : decode cX4_longest 144 = .ok (.if_icmp .ne 8, 3) := dk_160 0 8 (dk_at dksX4_longest_6 9 rfl rfl)
theorem dX4_longest_147 : decode cX4_longest 147 = .ok (.iload 4, 2) := dk_21 4 (dk_at dksX4_longest_6 12 rfl rfl)
theorem dX4_longest_149 : decode cX4_longest 149 = .ok (.goto 5, 3) := dk_167 0 5 (dk_at dksX4_longest_6 14 rfl rfl)
theorem dX4_longest_152 : decode cX4_longest 152 = .ok (.iload 5, 2) := dk_21 5 (dk_at dksX4_longest_6 17 rfl rfl)
theorem dX4_longest_154 : decode cX4_longest 154 = .ok (.ireturn, 1) := dk_172 (dk_at dksX4_longest_6 19 rfl rfl)
abbrev cX4_cadenza : ByteArray := prog_19_method_98_code
def yX4_cadenza : MethodName := ⟨RX4, "cadenza", "(I)I"⟩
def dkwX4_cadenza_2 : List UInt8 := [16, 10, 46, 4, 100, 61, 132, 3, 1, 167, 255, 219, 42, 182, 1, 126, 28, 172]
abbrev dktX4_cadenza_2 : List UInt8 := dkwX4_cadenza_2 ++ []
def dkwX4_cadenza_1 : List UInt8 := [162, 0, 36, 28, 156, 0, 32, 42, 182, 1, 106, 87, 42, 27, 182, 1, 168, 153, 0, 13, 42, 180, 0, 39]
abbrev dktX4_cadenza_1 : List UInt8 := dkwX4_cadenza_1 ++ dktX4_cadenza_2
def dkwX4_cadenza_0 : List UInt8 := [42, 27, 182, 1, 53, 154, 0, 5, 2, 172, 16, 254, 61, 42, 182, 1, 120, 3, 62, 29, 17, 0, 200]
abbrev dktX4_cadenza_0 : List UInt8 := dkwX4_cadenza_0 ++ dktX4_cadenza_1
theorem dksX4_cadenza_0 : cX4_cadenza.data.toList.drop 0 = dktX4_cadenza_0 := by decide +kernel
theorem dksX4_cadenza_1 : cX4_cadenza.data.toList.drop 23 = dktX4_cadenza_1 := dk_seg dksX4_cadenza_0 23 rfl rfl
theorem dksX4_cadenza_2 : cX4_cadenza.data.toList.drop 47 = dktX4_cadenza_2 := dk_seg dksX4_cadenza_1 24 rfl rfl
theorem dX4_cadenza_0 : decode cX4_cadenza 0 = .ok (.aload_n 0, 1) := dk_42 (dk_at dksX4_cadenza_0 0 rfl rfl)
theorem dX4_cadenza_1 : decode cX4_cadenza 1 = .ok (.iload_n 1, 1) := dk_27 (dk_at dksX4_cadenza_0 1 rfl rfl)
theorem dX4_cadenza_2 : decode cX4_cadenza 2 = .ok (.invokevirtual 309, 3) := dk_182 1 53 (dk_at dksX4_cadenza_0 2 rfl rfl)
theorem dX4_cadenza_5 : decode cX4_cadenza 5 = .ok (.ifCond .ne 5, 3) := dk_154 0 5 (dk_at dksX4_cadenza_0 5 rfl rfl)
theorem dX4_cadenza_8 : decode cX4_cadenza 8 = .ok (.iconst (-1), 1) := dk_2 (dk_at dksX4_cadenza_0 8 rfl rfl)
theorem dX4_cadenza_9 : decode cX4_cadenza 9 = .ok (.ireturn, 1) := dk_172 (dk_at dksX4_cadenza_0 9 rfl rfl)
theorem dX4_cadenza_10 : decode cX4_cadenza 10 = .ok (.bipush (-2), 2) := dk_16 254 (dk_at dksX4_cadenza_0 10 rfl rfl)
theorem dX4_cadenza_12 : decode cX4_cadenza 12 = .ok (.istore_n 2, 1) := dk_61 (dk_at dksX4_cadenza_0 12 rfl rfl)
theorem dX4_cadenza_13 : decode cX4_cadenza 13 = .ok (.aload_n 0, 1) := dk_42 (dk_at dksX4_cadenza_0 13 rfl rfl)
theorem dX4_cadenza_14 : decode cX4_cadenza 14 = .ok (.invokevirtual 376, 3) := dk_182 1 120 (dk_at dksX4_cadenza_0 14 rfl rfl)
theorem dX4_cadenza_17 : decode cX4_cadenza 17 = .ok (.iconst 0, 1) := dk_3 (dk_at dksX4_cadenza_0 17 rfl rfl)
theorem dX4_cadenza_18 : decode cX4_cadenza 18 = .ok (.istore_n 3, 1) := dk_62 (dk_at dksX4_cadenza_0 18 rfl rfl)
theorem dX4_cadenza_19 : decode cX4_cadenza 19 = .ok (.iload_n 3, 1) := dk_29 (dk_at dksX4_cadenza_0 19 rfl rfl)
theorem dX4_cadenza_20 : decode cX4_cadenza 20 = .ok (.sipush 200, 3) := dk_17 0 200 (dk_at dksX4_cadenza_0 20 rfl rfl)
theorem dX4_cadenza_23 : decode cX4_cadenza 23 = .ok (.if_icmp .ge 36, 3) := dk_162 0 36 (dk_at dksX4_cadenza_1 0 rfl rfl)
theorem dX4_cadenza_26 : decode cX4_cadenza 26 = .ok (.iload_n 2, 1) := dk_28 (dk_at dksX4_cadenza_1 3 rfl rfl)
theorem dX4_cadenza_27 : decode cX4_cadenza 27 = .ok (.ifCond .ge 32, 3) := dk_156 0 32 (dk_at dksX4_cadenza_1 4 rfl rfl)
theorem dX4_cadenza_30 : decode cX4_cadenza 30 = .ok (.aload_n 0, 1) := dk_42 (dk_at dksX4_cadenza_1 7 rfl rfl)
theorem dX4_cadenza_31 : decode cX4_cadenza 31 = .ok (.invokevirtual 362, 3) := dk_182 1 106 (dk_at dksX4_cadenza_1 8 rfl rfl)
theorem dX4_cadenza_34 : decode cX4_cadenza 34 = .ok (.pop, 1) := dk_87 (dk_at dksX4_cadenza_1 11 rfl rfl)
theorem dX4_cadenza_35 : decode cX4_cadenza 35 = .ok (.aload_n 0, 1) := dk_42 (dk_at dksX4_cadenza_1 12 rfl rfl)
theorem dX4_cadenza_36 : decode cX4_cadenza 36 = .ok (.iload_n 1, 1) := dk_27 (dk_at dksX4_cadenza_1 13 rfl rfl)
theorem dX4_cadenza_37 : decode cX4_cadenza 37 = .ok (.invokevirtual 424, 3) := dk_182 1 168 (dk_at dksX4_cadenza_1 14 rfl rfl)
theorem dX4_cadenza_40 : decode cX4_cadenza 40 = .ok (.ifCond .eq 13, 3) := dk_153 0 13 (dk_at dksX4_cadenza_1 17 rfl rfl)
theorem dX4_cadenza_43 : decode cX4_cadenza 43 = .ok (.aload_n 0, 1) := dk_42 (dk_at dksX4_cadenza_1 20 rfl rfl)
theorem dX4_cadenza_44 : decode cX4_cadenza 44 = .ok (.getfield 39, 3) := dk_180 0 39 (dk_at dksX4_cadenza_1 21 rfl rfl)
theorem dX4_cadenza_47 : decode cX4_cadenza 47 = .ok (.bipush 10, 2) := dk_16 10 (dk_at dksX4_cadenza_2 0 rfl rfl)
theorem dX4_cadenza_49 : decode cX4_cadenza 49 = .ok (.iaload, 1) := dk_46 (dk_at dksX4_cadenza_2 2 rfl rfl)
theorem dX4_cadenza_50 : decode cX4_cadenza 50 = .ok (.iconst 1, 1) := dk_4 (dk_at dksX4_cadenza_2 3 rfl rfl)
theorem dX4_cadenza_51 : decode cX4_cadenza 51 = .ok (.isub, 1) := dk_100 (dk_at dksX4_cadenza_2 4 rfl rfl)
theorem dX4_cadenza_52 : decode cX4_cadenza 52 = .ok (.istore_n 2, 1) := dk_61 (dk_at dksX4_cadenza_2 5 rfl rfl)
theorem dX4_cadenza_53 : decode cX4_cadenza 53 = .ok (.iinc 3 1, 3) := dk_132 3 1 (dk_at dksX4_cadenza_2 6 rfl rfl)
theorem dX4_cadenza_56 : decode cX4_cadenza 56 = .ok (.goto (-37), 3) := dk_167 255 219 (dk_at dksX4_cadenza_2 9 rfl rfl)
theorem dX4_cadenza_59 : decode cX4_cadenza 59 = .ok (.aload_n 0, 1) := dk_42 (dk_at dksX4_cadenza_2 12 rfl rfl)
theorem dX4_cadenza_60 : decode cX4_cadenza 60 = .ok (.invokevirtual 382, 3) := dk_182 1 126 (dk_at dksX4_cadenza_2 13 rfl rfl)
theorem dX4_cadenza_63 : decode cX4_cadenza 63 = .ok (.iload_n 2, 1) := dk_28 (dk_at dksX4_cadenza_2 16 rfl rfl)
theorem dX4_cadenza_64 : decode cX4_cadenza 64 = .ok (.ireturn, 1) := dk_172 (dk_at dksX4_cadenza_2 17 rfl rfl)
abbrev cX4_isAlone : ByteArray := prog_19_method_97_code
def yX4_isAlone : MethodName := ⟨RX4, "isAlone", "(I)Z"⟩
def dkwX4_isAlone_2 : List UInt8 := [4, 172]
abbrev dktX4_isAlone_2 : List UInt8 := dkwX4_isAlone_2 ++ []
def dkwX4_isAlone_1 : List UInt8 := [180, 0, 52, 28, 46, 158, 0, 7, 4, 167, 0, 4, 3, 159, 0, 5, 3, 172, 132, 2, 1, 167, 255, 214]
abbrev dktX4_isAlone_1 : List UInt8 := dkwX4_isAlone_1 ++ dktX4_isAlone_2
def dkwX4_isAlone_0 : List UInt8 := [3, 61, 28, 42, 180, 0, 39, 6, 46, 162, 0, 38, 28, 27, 160, 0, 7, 4, 167, 0, 4, 3, 42]
abbrev dktX4_isAlone_0 : List UInt8 := dkwX4_isAlone_0 ++ dktX4_isAlone_1
theorem dksX4_isAlone_0 : cX4_isAlone.data.toList.drop 0 = dktX4_isAlone_0 := by decide +kernel
theorem dksX4_isAlone_1 : cX4_isAlone.data.toList.drop 23 = dktX4_isAlone_1 := dk_seg dksX4_isAlone_0 23 rfl rfl
theorem dksX4_isAlone_2 : cX4_isAlone.data.toList.drop 47 = dktX4_isAlone_2 := dk_seg dksX4_isAlone_1 24 rfl rfl
theorem dX4_isAlone_0 : decode cX4_isAlone 0 = .ok (.iconst 0, 1) := dk_3 (dk_at dksX4_isAlone_0 0 rfl rfl)
theorem dX4_isAlone_1 : decode cX4_isAlone 1 = .ok (.istore_n 2, 1) := dk_61 (dk_at dksX4_isAlone_0 1 rfl rfl)
theorem dX4_isAlone_2 : decode cX4_isAlone 2 = .ok (.iload_n 2, 1) := dk_28 (dk_at dksX4_isAlone_0 2 rfl rfl)
theorem dX4_isAlone_3 : decode cX4_isAlone 3 = .ok (.aload_n 0, 1) := dk_42 (dk_at dksX4_isAlone_0 3 rfl rfl)
theorem dX4_isAlone_4 : decode cX4_isAlone 4 = .ok (.getfield 39, 3) := dk_180 0 39 (dk_at dksX4_isAlone_0 4 rfl rfl)
theorem dX4_isAlone_7 : decode cX4_isAlone 7 = .ok (.iconst 3, 1) := dk_6 (dk_at dksX4_isAlone_0 7 rfl rfl)
theorem dX4_isAlone_8 : decode cX4_isAlone 8 = .ok (.iaload, 1) := dk_46 (dk_at dksX4_isAlone_0 8 rfl rfl)
theorem dX4_isAlone_9 : decode cX4_isAlone 9 = .ok (.if_icmp .ge 38, 3) := dk_162 0 38 (dk_at dksX4_isAlone_0 9 rfl rfl)
theorem dX4_isAlone_12 : decode cX4_isAlone 12 = .ok (.iload_n 2, 1) := dk_28 (dk_at dksX4_isAlone_0 12 rfl rfl)
theorem dX4_isAlone_13 : decode cX4_isAlone 13 = .ok (.iload_n 1, 1) := dk_27 (dk_at dksX4_isAlone_0 13 rfl rfl)
theorem dX4_isAlone_14 : decode cX4_isAlone 14 = .ok (.if_icmp .ne 7, 3) := dk_160 0 7 (dk_at dksX4_isAlone_0 14 rfl rfl)
theorem dX4_isAlone_17 : decode cX4_isAlone 17 = .ok (.iconst 1, 1) := dk_4 (dk_at dksX4_isAlone_0 17 rfl rfl)
theorem dX4_isAlone_18 : decode cX4_isAlone 18 = .ok (.goto 4, 3) := dk_167 0 4 (dk_at dksX4_isAlone_0 18 rfl rfl)
theorem dX4_isAlone_21 : decode cX4_isAlone 21 = .ok (.iconst 0, 1) := dk_3 (dk_at dksX4_isAlone_0 21 rfl rfl)
theorem dX4_isAlone_22 : decode cX4_isAlone 22 = .ok (.aload_n 0, 1) := dk_42 (dk_at dksX4_isAlone_0 22 rfl rfl)
theorem dX4_isAlone_23 : decode cX4_isAlone 23 = .ok (.getfield 52, 3) := dk_180 0 52 (dk_at dksX4_isAlone_1 0 rfl rfl)
theorem dX4_isAlone_26 : decode cX4_isAlone 26 = .ok (.iload_n 2, 1) := dk_28 (dk_at dksX4_isAlone_1 3 rfl rfl)
theorem dX4_isAlone_27 : decode cX4_isAlone 27 = .ok (.iaload, 1) := dk_46 (dk_at dksX4_isAlone_1 4 rfl rfl)
theorem dX4_isAlone_28 : decode cX4_isAlone 28 = .ok (.ifCond .le 7, 3) := dk_158 0 7 (dk_at dksX4_isAlone_1 5 rfl rfl)
theorem dX4_isAlone_31 : decode cX4_isAlone 31 = .ok (.iconst 1, 1) := dk_4 (dk_at dksX4_isAlone_1 8 rfl rfl)
theorem dX4_isAlone_32 : decode cX4_isAlone 32 = .ok (.goto 4, 3) := dk_167 0 4 (dk_at dksX4_isAlone_1 9 rfl rfl)
theorem dX4_isAlone_35 : decode cX4_isAlone 35 = .ok (.iconst 0, 1) := dk_3 (dk_at dksX4_isAlone_1 12 rfl rfl)
theorem dX4_isAlone_36 : decode cX4_isAlone 36 = .ok (.if_icmp .eq 5, 3) := dk_159 0 5 (dk_at dksX4_isAlone_1 13 rfl rfl)
theorem dX4_isAlone_39 : decode cX4_isAlone 39 = .ok (.iconst 0, 1) := dk_3 (dk_at dksX4_isAlone_1 16 rfl rfl)
theorem dX4_isAlone_40 : decode cX4_isAlone 40 = .ok (.ireturn, 1) := dk_172 (dk_at dksX4_isAlone_1 17 rfl rfl)
theorem dX4_isAlone_41 : decode cX4_isAlone 41 = .ok (.iinc 2 1, 3) := dk_132 2 1 (dk_at dksX4_isAlone_1 18 rfl rfl)
theorem dX4_isAlone_44 : decode cX4_isAlone 44 = .ok (.goto (-42), 3) := dk_167 255 214 (dk_at dksX4_isAlone_1 21 rfl rfl)
theorem dX4_isAlone_47 : decode cX4_isAlone 47 = .ok (.iconst 1, 1) := dk_4 (dk_at dksX4_isAlone_2 0 rfl rfl)
theorem dX4_isAlone_48 : decode cX4_isAlone 48 = .ok (.ireturn, 1) := dk_172 (dk_at dksX4_isAlone_2 1 rfl rfl)
abbrev cX4_rests : ByteArray := prog_19_method_102_code
def yX4_rests : MethodName := ⟨RX4, "rests", "(IIII)I"⟩
def dkwX4_rests_6 : List UInt8 := [96, 172]
abbrev dktX4_rests_6 : List UInt8 := dkwX4_rests_6 ++ []
def dkwX4_rests_5 : List UInt8 := [21, 4, 4, 160, 0, 14, 4, 5, 21, 6, 8, 108, 104, 96, 167, 0, 11, 4, 5, 21, 6, 8, 112, 104]
abbrev dktX4_rests_5 : List UInt8 := dkwX4_rests_5 ++ dktX4_rests_6
def dkwX4_rests_4 : List UInt8 := [132, 7, 255, 167, 255, 223, 21, 4, 154, 0, 6, 21, 5, 172, 21, 6, 156, 0, 8, 16, 254, 167, 0, 28]
abbrev dktX4_rests_4 : List UInt8 := dkwX4_rests_4 ++ dktX4_rests_5
def dkwX4_rests_3 : List UInt8 := [21, 7, 8, 108, 21, 7, 8, 112, 182, 1, 179, 154, 0, 6, 167, 0, 10, 21, 7, 54, 6, 132, 5, 1]
abbrev dktX4_rests_3 : List UInt8 := dkwX4_rests_3 ++ dktX4_rests_4
def dkwX4_rests_2 : List UInt8 := [42, 27, 28, 29, 182, 1, 175, 3, 54, 5, 2, 54, 6, 16, 24, 54, 7, 21, 7, 155, 0, 34, 42]
abbrev dktX4_rests_2 : List UInt8 := dkwX4_rests_2 ++ dktX4_rests_3
def dkwX4_rests_1 : List UInt8 := [20, 1, 112, 184, 0, 130, 153, 0, 16, 21, 4, 133, 9, 20, 1, 118, 184, 0, 130, 154, 0, 5, 2, 172]
abbrev dktX4_rests_1 : List UInt8 := dkwX4_rests_1 ++ dktX4_rests_2
def dkwX4_rests_0 : List UInt8 := [42, 27, 182, 1, 53, 153, 0, 41, 42, 28, 182, 1, 53, 153, 0, 33, 27, 28, 159, 0, 28, 29, 133, 10]
abbrev dktX4_rests_0 : List UInt8 := dkwX4_rests_0 ++ dktX4_rests_1
theorem dksX4_rests_0 : cX4_rests.data.toList.drop 0 = dktX4_rests_0 := by decide +kernel
theorem dksX4_rests_1 : cX4_rests.data.toList.drop 24 = dktX4_rests_1 := dk_seg dksX4_rests_0 24 rfl rfl
theorem dksX4_rests_2 : cX4_rests.data.toList.drop 48 = dktX4_rests_2 := dk_seg dksX4_rests_1 24 rfl rfl
theorem dksX4_rests_3 : cX4_rests.data.toList.drop 71 = dktX4_rests_3 := dk_seg dksX4_rests_2 23 rfl rfl
theorem dksX4_rests_4 : cX4_rests.data.toList.drop 95 = dktX4_rests_4 := dk_seg dksX4_rests_3 24 rfl rfl
theorem dksX4_rests_5 : cX4_rests.data.toList.drop 119 = dktX4_rests_5 := dk_seg dksX4_rests_4 24 rfl rfl
theorem dksX4_rests_6 : cX4_rests.data.toList.drop 143 = dktX4_rests_6 := dk_seg dksX4_rests_5 24 rfl rfl
theorem dX4_rests_0 : decode cX4_rests 0 = .ok (.aload_n 0, 1) := dk_42 (dk_at dksX4_rests_0 0 rfl rfl)
theorem dX4_rests_1 : decode cX4_rests 1 = .ok (.iload_n 1, 1) := dk_27 (dk_at dksX4_rests_0 1 rfl rfl)
theorem dX4_rests_2 : decode cX4_rests 2 = .ok (.invokevirtual 309, 3) := dk_182 1 53 (dk_at dksX4_rests_0 2 rfl rfl)
theorem dX4_rests_5 : decode cX4_rests 5 = .ok (.ifCond .eq 41, 3) := dk_153 0 41 (dk_at dksX4_rests_0 5 rfl rfl)
theorem dX4_rests_8 : decode cX4_rests 8 = .ok (.aload_n 0, 1) := dk_42 (dk_at dksX4_rests_0 8 rfl rfl)
theorem dX4_rests_9 : decode cX4_rests 9 = .ok (.iload_n 2, 1) := dk_28 (dk_at dksX4_rests_0 9 rfl rfl)
theorem dX4_rests_10 : decode cX4_rests 10 = .ok (.invokevirtual 309, 3) := dk_182 1 53 (dk_at dksX4_rests_0 10 rfl rfl)
theorem dX4_rests_13 : decode cX4_rests 13 = .ok (.ifCond .eq 33, 3) := dk_153 0 33 (dk_at dksX4_rests_0 13 rfl rfl)
theorem dX4_rests_16 : decode cX4_rests 16 = .ok (.iload_n 1, 1) := dk_27 (dk_at dksX4_rests_0 16 rfl rfl)
theorem dX4_rests_17 : decode cX4_rests 17 = .ok (.iload_n 2, 1) := dk_28 (dk_at dksX4_rests_0 17 rfl rfl)
theorem dX4_rests_18 : decode cX4_rests 18 = .ok (.if_icmp .eq 28, 3) := dk_159 0 28 (dk_at dksX4_rests_0 18 rfl rfl)
theorem dX4_rests_21 : decode cX4_rests 21 = .ok (.iload_n 3, 1) := dk_29 (dk_at dksX4_rests_0 21 rfl rfl)
theorem dX4_rests_22 : decode cX4_rests 22 = .ok (.i2l, 1) := dk_133 (dk_at dksX4_rests_0 22 rfl rfl)
theorem dX4_rests_23 : decode cX4_rests 23 = .ok (.lconst 1, 1) := dk_10 (dk_at dksX4_rests_0 23 rfl rfl)
theorem dX4_rests_24 : decode cX4_rests 24 = .ok (.ldc2_w 368, 3) := dk_20 1 112 (dk_at dksX4_rests_1 0 rfl rfl)
theorem dX4_rests_27 : decode cX4_rests 27 = .ok (.invokestatic 130, 3) := dk_184 0 130 (dk_at dksX4_rests_1 3 rfl rfl)
theorem dX4_rests_30 : decode cX4_rests 30 = .ok (.ifCond .eq 16, 3) := dk_153 0 16 (dk_at dksX4_rests_1 6 rfl rfl)
theorem dX4_rests_33 : decode cX4_rests 33 = .ok (.iload 4, 2) := dk_21 4 (dk_at dksX4_rests_1 9 rfl rfl)
theorem dX4_rests_35 : decode cX4_rests 35 = .ok (.i2l, 1) := dk_133 (dk_at dksX4_rests_1 11 rfl rfl)
theorem dX4_rests_36 : decode cX4_rests 36 = .ok (.lconst 0, 1) := dk_9 (dk_at dksX4_rests_1 12 rfl rfl)
theorem dX4_rests_37 : decode cX4_rests 37 = .ok (.ldc2_w 374, 3) := dk_20 1 118 (dk_at dksX4_rests_1 13 rfl rfl)
theorem dX4_rests_40 : decode cX4_rests 40 = .ok (.invokestatic 130, 3) := dk_184 0 130 (dk_at dksX4_rests_1 16 rfl rfl)
theorem dX4_rests_43 : decode cX4_rests 43 = .ok (.ifCond .ne 5, 3) := dk_154 0 5 (dk_at dksX4_rests_1 19 rfl rfl)
theorem dX4_rests_46 : decode cX4_rests 46 = .ok (.iconst (-1), 1) := dk_2 (dk_at dksX4_rests_1 22 rfl rfl)
theorem dX4_rests_47 : decode cX4_rests 47 = .ok (.ireturn, 1) := dk_172 (dk_at dksX4_rests_1 23 rfl rfl)
theorem dX4_rests_48 : decode cX4_rests 48 = .ok (.aload_n 0, 1) := dk_42 (dk_at dksX4_rests_2 0 rfl rfl)
theorem dX4_rests_49 : decode cX4_rests 49 = .ok (.iload_n 1, 1) := dk_27 (dk_at dksX4_rests_2 1 rfl rfl)
theorem dX4_rests_50 : decode cX4_rests 50 = .ok (.iload_n 2, 1) := dk_28 (dk_at dksX4_rests_2 2 rfl rfl)
theorem dX4_rests_51 : decode cX4_rests 51 = .ok (.iload_n 3, 1) := dk_29 (dk_at dksX4_rests_2 3 rfl rfl)
theorem dX4_rests_52 : decode cX4_rests 52 = .ok (.invokevirtual 431, 3) := dk_182 1 175 (dk_at dksX4_rests_2 4 rfl rfl)
theorem dX4_rests_55 : decode cX4_rests 55 = .ok (.iconst 0, 1) := dk_3 (dk_at dksX4_rests_2 7 rfl rfl)
theorem dX4_rests_56 : decode cX4_rests 56 = .ok (.istore 5, 2) := dk_54 5 (dk_at dksX4_rests_2 8 rfl rfl)
theorem dX4_rests_58 : decode cX4_rests 58 = .ok (.iconst (-1), 1) := dk_2 (dk_at dksX4_rests_2 10 rfl rfl)
theorem dX4_rests_59 : decode cX4_rests 59 = .ok (.istore 6, 2) := dk_54 6 (dk_at dksX4_rests_2 11 rfl rfl)
theorem dX4_rests_61 : decode cX4_rests 61 = .ok (.bipush 24, 2) := dk_16 24 (dk_at dksX4_rests_2 13 rfl rfl)
theorem dX4_rests_63 : decode cX4_rests 63 = .ok (.istore 7, 2) := dk_54 7 (dk_at dksX4_rests_2 15 rfl rfl)
theorem dX4_rests_65 : decode cX4_rests 65 = .ok (.iload 7, 2) := dk_21 7 (dk_at dksX4_rests_2 17 rfl rfl)
theorem dX4_rests_67 : decode cX4_rests 67 = .ok (.ifCond .lt 34, 3) := dk_155 0 34 (dk_at dksX4_rests_2 19 rfl rfl)
theorem dX4_rests_70 : decode cX4_rests 70 = .ok (.aload_n 0, 1) := dk_42 (dk_at dksX4_rests_2 22 rfl rfl)
theorem dX4_rests_71 : decode cX4_rests 71 = .ok (.iload 7, 2) := dk_21 7 (dk_at dksX4_rests_3 0 rfl rfl)
theorem dX4_rests_73 : decode cX4_rests 73 = .ok (.iconst 5, 1) := dk_8 (dk_at dksX4_rests_3 2 rfl rfl)
theorem dX4_rests_74 : decode cX4_rests 74 = .ok (.idiv, 1) := dk_108 (dk_at dksX4_rests_3 3 rfl rfl)
theorem dX4_rests_75 : decode cX4_rests 75 = .ok (.iload 7, 2) := dk_21 7 (dk_at dksX4_rests_3 4 rfl rfl)
theorem dX4_rests_77 : decode cX4_rests 77 = .ok (.iconst 5, 1) := dk_8 (dk_at dksX4_rests_3 6 rfl rfl)
theorem dX4_rests_78 : decode cX4_rests 78 = .ok (.irem, 1) := dk_112 (dk_at dksX4_rests_3 7 rfl rfl)
theorem dX4_rests_79 : decode cX4_rests 79 = .ok (.invokevirtual 435, 3) := dk_182 1 179 (dk_at dksX4_rests_3 8 rfl rfl)
theorem dX4_rests_82 : decode cX4_rests 82 = .ok (.ifCond .ne 6, 3) := dk_154 0 6 (dk_at dksX4_rests_3 11 rfl rfl)
theorem dX4_rests_85 : decode cX4_rests 85 = .ok (.goto 10, 3) := dk_167 0 10 (dk_at dksX4_rests_3 14 rfl rfl)
theorem dX4_rests_88 : decode cX4_rests 88 = .ok (.iload 7, 2) := dk_21 7 (dk_at dksX4_rests_3 17 rfl rfl)
theorem dX4_rests_90 : decode cX4_rests 90 = .ok (.istore 6, 2) := dk_54 6 (dk_at dksX4_rests_3 19 rfl rfl)
theorem dX4_rests_92 : decode cX4_rests 92 = .ok (.iinc 5 1, 3) := dk_132 5 1 (dk_at dksX4_rests_3 21 rfl rfl)
theorem dX4_rests_95 : decode cX4_rests 95 = .ok (.iinc 7 (-1), 3) := dk_132 7 255 (dk_at dksX4_rests_4 0 rfl rfl)
theorem dX4_rests_98 : decode cX4_rests 98 = .ok (.goto (-33), 3) := dk_167 255 223 (dk_at dksX4_rests_4 3 rfl rfl)
theorem dX4_rests_101 : decode cX4_rests 101 = .ok (.iload 4, 2) := dk_21 4 (dk_at dksX4_rests_4 6 rfl rfl)
theorem dX4_rests_103 : decode cX4_rests 103 = .ok (.ifCond .ne 6, 3) := dk_154 0 6 (dk_at dksX4_rests_4 8 rfl rfl)
theorem dX4_rests_106 : decode cX4_rests 106 = .ok (.iload 5, 2) := dk_21 5 (dk_at dksX4_rests_4 11 rfl rfl)
theorem dX4_rests_108 : decode cX4_rests 108 = .ok (.ireturn, 1) := dk_172 (dk_at dksX4_rests_4 13 rfl rfl)
theorem dX4_rests_109 : decode cX4_rests 109 = .ok (.iload 6, 2) := dk_21 6 (dk_at dksX4_rests_4 14 rfl rfl)
theorem dX4_rests_111 : decode cX4_rests 111 = .ok (.ifCond .ge 8, 3) := dk_156 0 8 (dk_at dksX4_rests_4 16 rfl rfl)
theorem dX4_rests_114 : decode cX4_rests 114 = .ok (.bipush (-2), 2) := dk_16 254 (dk_at dksX4_rests_4 19 rfl rfl)
theorem dX4_rests_116 : decode cX4_rests 116 = .ok (.goto 28, 3) := dk_167 0 28 (dk_at dksX4_rests_4 21 rfl rfl)
theorem dX4_rests_119 : decode cX4_rests 119 = .ok (.iload 4, 2) := dk_21 4 (dk_at dksX4_rests_5 0 rfl rfl)
theorem dX4_rests_121 : decode cX4_rests 121 = .ok (.iconst 1, 1) := dk_4 (dk_at dksX4_rests_5 2 rfl rfl)
theorem dX4_rests_122 : decode cX4_rests 122 = .ok (.if_icmp .ne 14, 3) := dk_160 0 14 (dk_at dksX4_rests_5 3 rfl rfl)
theorem dX4_rests_125 : decode cX4_rests 125 = .ok (.iconst 1, 1) := dk_4 (dk_at dksX4_rests_5 6 rfl rfl)
theorem dX4_rests_126 : decode cX4_rests 126 = .ok (.iconst 2, 1) := dk_5 (dk_at dksX4_rests_5 7 rfl rfl)
theorem dX4_rests_127 : decode cX4_rests 127 = .ok (.iload 6, 2) := dk_21 6 (dk_at dksX4_rests_5 8 rfl rfl)
theorem dX4_rests_129 : decode cX4_rests 129 = .ok (.iconst 5, 1) := dk_8 (dk_at dksX4_rests_5 10 rfl rfl)
theorem dX4_rests_130 : decode cX4_rests 130 = .ok (.idiv, 1) := dk_108 (dk_at dksX4_rests_5 11 rfl rfl)
theorem dX4_rests_131 : decode cX4_rests 131 = .ok (.imul, 1) := dk_104 (dk_at dksX4_rests_5 12 rfl rfl)
theorem dX4_rests_132 : decode cX4_rests 132 = .ok (.iadd, 1) := dk_96 (dk_at dksX4_rests_5 13 rfl rfl)
theorem dX4_rests_133 : decode cX4_rests 133 = .ok (.goto 11, 3) := dk_167 0 11 (dk_at dksX4_rests_5 14 rfl rfl)
theorem dX4_rests_136 : decode cX4_rests 136 = .ok (.iconst 1, 1) := dk_4 (dk_at dksX4_rests_5 17 rfl rfl)
theorem dX4_rests_137 : decode cX4_rests 137 = .ok (.iconst 2, 1) := dk_5 (dk_at dksX4_rests_5 18 rfl rfl)
theorem dX4_rests_138 : decode cX4_rests 138 = .ok (.iload 6, 2) := dk_21 6 (dk_at dksX4_rests_5 19 rfl rfl)
theorem dX4_rests_140 : decode cX4_rests 140 = .ok (.iconst 5, 1) := dk_8 (dk_at dksX4_rests_5 21 rfl rfl)
theorem dX4_rests_141 : decode cX4_rests 141 = .ok (.irem, 1) := dk_112 (dk_at dksX4_rests_5 22 rfl rfl)
theorem dX4_rests_142 : decode cX4_rests 142 = .ok (.imul, 1) := dk_104 (dk_at dksX4_rests_5 23 rfl rfl)
theorem dX4_rests_143 : decode cX4_rests 143 = .ok (.iadd, 1) := dk_96 (dk_at dksX4_rests_6 0 rfl rfl)
theorem dX4_rests_144 : decode cX4_rests 144 = .ok (.ireturn, 1) := dk_172 (dk_at dksX4_rests_6 1 rfl rfl)
abbrev cX4_fillsRests : ByteArray := prog_19_method_101_code
def yX4_fillsRests : MethodName := ⟨RX4, "fillsRests", "(III)V"⟩
def dkwX4_fillsRests_6 : List UInt8 := [21, 4, 79, 42, 180, 0, 39, 16, 54, 28, 96, 21, 5, 79, 177]
abbrev dktX4_fillsRests_6 : List UInt8 := dkwX4_fillsRests_6 ++ []
def dkwX4_fillsRests_5 : List UInt8 := [21, 7, 182, 1, 171, 79, 42, 182, 1, 126, 132, 8, 1, 167, 255, 169, 42, 180, 0, 39, 16, 54, 27, 96]
abbrev dktX4_fillsRests_5 : List UInt8 := dkwX4_fillsRests_5 ++ dktX4_fillsRests_6
def dkwX4_fillsRests_4 : List UInt8 := [21, 8, 104, 42, 27, 21, 6, 182, 1, 171, 79, 42, 180, 0, 67, 5, 21, 8, 104, 4, 96, 42, 28]
abbrev dktX4_fillsRests_4 : List UInt8 := dkwX4_fillsRests_4 ++ dktX4_fillsRests_5
def dkwX4_fillsRests_3 : List UInt8 := [16, 54, 28, 96, 4, 5, 21, 8, 8, 112, 104, 96, 79, 42, 29, 182, 1, 123, 42, 180, 0, 67, 5]
abbrev dktX4_fillsRests_3 : List UInt8 := dkwX4_fillsRests_3 ++ dktX4_fillsRests_4
def dkwX4_fillsRests_2 : List UInt8 := [162, 0, 86, 42, 180, 0, 39, 16, 54, 27, 96, 4, 5, 21, 8, 8, 108, 104, 96, 79, 42, 180, 0, 39]
abbrev dktX4_fillsRests_2 : List UInt8 := dkwX4_fillsRests_2 ++ dktX4_fillsRests_3
def dkwX4_fillsRests_1 : List UInt8 := [182, 1, 59, 54, 6, 42, 28, 182, 1, 59, 54, 7, 42, 182, 1, 120, 3, 54, 8, 21, 8, 16, 25]
abbrev dktX4_fillsRests_1 : List UInt8 := dkwX4_fillsRests_1 ++ dktX4_fillsRests_2
def dkwX4_fillsRests_0 : List UInt8 := [42, 180, 0, 39, 16, 54, 27, 96, 46, 54, 4, 42, 180, 0, 39, 16, 54, 28, 96, 46, 54, 5, 42, 27]
abbrev dktX4_fillsRests_0 : List UInt8 := dkwX4_fillsRests_0 ++ dktX4_fillsRests_1
theorem dksX4_fillsRests_0 : cX4_fillsRests.data.toList.drop 0 = dktX4_fillsRests_0 := by decide +kernel
theorem dksX4_fillsRests_1 : cX4_fillsRests.data.toList.drop 24 = dktX4_fillsRests_1 := dk_seg dksX4_fillsRests_0 24 rfl rfl
theorem dksX4_fillsRests_2 : cX4_fillsRests.data.toList.drop 47 = dktX4_fillsRests_2 := dk_seg dksX4_fillsRests_1 23 rfl rfl
theorem dksX4_fillsRests_3 : cX4_fillsRests.data.toList.drop 71 = dktX4_fillsRests_3 := dk_seg dksX4_fillsRests_2 24 rfl rfl
theorem dksX4_fillsRests_4 : cX4_fillsRests.data.toList.drop 94 = dktX4_fillsRests_4 := dk_seg dksX4_fillsRests_3 23 rfl rfl
theorem dksX4_fillsRests_5 : cX4_fillsRests.data.toList.drop 117 = dktX4_fillsRests_5 := dk_seg dksX4_fillsRests_4 23 rfl rfl
theorem dksX4_fillsRests_6 : cX4_fillsRests.data.toList.drop 141 = dktX4_fillsRests_6 := dk_seg dksX4_fillsRests_5 24 rfl rfl
theorem dX4_fillsRests_0 : decode cX4_fillsRests 0 = .ok (.aload_n 0, 1) := dk_42 (dk_at dksX4_fillsRests_0 0 rfl rfl)
theorem dX4_fillsRests_1 : decode cX4_fillsRests 1 = .ok (.getfield 39, 3) := dk_180 0 39 (dk_at dksX4_fillsRests_0 1 rfl rfl)
theorem dX4_fillsRests_4 : decode cX4_fillsRests 4 = .ok (.bipush 54, 2) := dk_16 54 (dk_at dksX4_fillsRests_0 4 rfl rfl)
theorem dX4_fillsRests_6 : decode cX4_fillsRests 6 = .ok (.iload_n 1, 1) := dk_27 (dk_at dksX4_fillsRests_0 6 rfl rfl)
theorem dX4_fillsRests_7 : decode cX4_fillsRests 7 = .ok (.iadd, 1) := dk_96 (dk_at dksX4_fillsRests_0 7 rfl rfl)
theorem dX4_fillsRests_8 : decode cX4_fillsRests 8 = .ok (.iaload, 1) := dk_46 (dk_at dksX4_fillsRests_0 8 rfl rfl)
theorem dX4_fillsRests_9 : decode cX4_fillsRests 9 = .ok (.istore 4, 2) := dk_54 4 (dk_at dksX4_fillsRests_0 9 rfl rfl)
theorem dX4_fillsRests_11 : decode cX4_fillsRests 11 = .ok (.aload_n 0, 1) := dk_42 (dk_at dksX4_fillsRests_0 11 rfl rfl)
theorem dX4_fillsRests_12 : decode cX4_fillsRests 12 = .ok (.getfield 39, 3) := dk_180 0 39 (dk_at dksX4_fillsRests_0 12 rfl rfl)
theorem dX4_fillsRests_15 : decode cX4_fillsRests 15 = .ok (.bipush 54, 2) := dk_16 54 (dk_at dksX4_fillsRests_0 15 rfl rfl)
theorem dX4_fillsRests_17 : decode cX4_fillsRests 17 = .ok (.iload_n 2, 1) := dk_28 (dk_at dksX4_fillsRests_0 17 rfl rfl)
theorem dX4_fillsRests_18 : decode cX4_fillsRests 18 = .ok (.iadd, 1) := dk_96 (dk_at dksX4_fillsRests_0 18 rfl rfl)
theorem dX4_fillsRests_19 : decode cX4_fillsRests 19 = .ok (.iaload, 1) := dk_46 (dk_at dksX4_fillsRests_0 19 rfl rfl)
theorem dX4_fillsRests_20 : decode cX4_fillsRests 20 = .ok (.istore 5, 2) := dk_54 5 (dk_at dksX4_fillsRests_0 20 rfl rfl)
theorem dX4_fillsRests_22 : decode cX4_fillsRests 22 = .ok (.aload_n 0, 1) := dk_42 (dk_at dksX4_fillsRests_0 22 rfl rfl)
theorem dX4_fillsRests_23 : decode cX4_fillsRests 23 = .ok (.iload_n 1, 1) := dk_27 (dk_at dksX4_fillsRests_0 23 rfl rfl)
theorem dX4_fillsRests_24 : decode cX4_fillsRests 24 = .ok (.invokevirtual 315, 3) := dk_182 1 59 (dk_at dksX4_fillsRests_1 0 rfl rfl)
theorem dX4_fillsRests_27 : decode cX4_fillsRests 27 = .ok (.istore 6, 2) := dk_54 6 (dk_at dksX4_fillsRests_1 3 rfl rfl)
theorem dX4_fillsRests_29 : decode cX4_fillsRests 29 = .ok (.aload_n 0, 1) := dk_42 (dk_at dksX4_fillsRests_1 5 rfl rfl)
theorem dX4_fillsRests_30 : decode cX4_fillsRests 30 = .ok (.iload_n 2, 1) := dk_28 (dk_at dksX4_fillsRests_1 6 rfl rfl)
theorem dX4_fillsRests_31 : decode cX4_fillsRests 31 = .ok (.invokevirtual 315, 3) := dk_182 1 59 (dk_at dksX4_fillsRests_1 7 rfl rfl)
theorem dX4_fillsRests_34 : decode cX4_fillsRests 34 = .ok (.istore 7, 2) := dk_54 7 (dk_at dksX4_fillsRests_1 10 rfl rfl)
theorem dX4_fillsRests_36 : decode cX4_fillsRests 36 = .ok (.aload_n 0, 1) := dk_42 (dk_at dksX4_fillsRests_1 12 rfl rfl)
theorem dX4_fillsRests_37 : decode cX4_fillsRests 37 = .ok (.invokevirtual 376, 3) := dk_182 1 120 (dk_at dksX4_fillsRests_1 13 rfl rfl)
theorem dX4_fillsRests_40 : decode cX4_fillsRests 40 = .ok (.iconst 0, 1) := dk_3 (dk_at dksX4_fillsRests_1 16 rfl rfl)
theorem dX4_fillsRests_41 : decode cX4_fillsRests 41 = .ok (.istore 8, 2) := dk_54 8 (dk_at dksX4_fillsRests_1 17 rfl rfl)
theorem dX4_fillsRests_43 : decode cX4_fillsRests 43 = .ok (.iload 8, 2) := dk_21 8 (dk_at dksX4_fillsRests_1 19 rfl rfl)
theorem dX4_fillsRests_45 : decode cX4_fillsRests 45 = .ok (.bipush 25, 2) := dk_16 25 (dk_at dksX4_fillsRests_1 21 rfl rfl)
theorem dX4_fillsRests_47 : decode cX4_fillsRests 47 = .ok (.if_icmp .ge 86, 3) := dk_162 0 86 (dk_at dksX4_fillsRests_2 0 rfl rfl)
theorem dX4_fillsRests_50 : decode cX4_fillsRests 50 = .ok (.aload_n 0, 1) := dk_42 (dk_at dksX4_fillsRests_2 3 rfl rfl)
theorem dX4_fillsRests_51 : decode cX4_fillsRests 51 = .ok (.getfield 39, 3) := dk_180 0 39 (dk_at dksX4_fillsRests_2 4 rfl rfl)
theorem dX4_fillsRests_54 : decode cX4_fillsRests 54 = .ok (.bipush 54, 2) := dk_16 54 (dk_at dksX4_fillsRests_2 7 rfl rfl)
theorem dX4_fillsRests_56 : decode cX4_fillsRests 56 = .ok (.iload_n 1, 1) := dk_27 (dk_at dksX4_fillsRests_2 9 rfl rfl)
theorem dX4_fillsRests_57 : decode cX4_fillsRests 57 = .ok (.iadd, 1) := dk_96 (dk_at dksX4_fillsRests_2 10 rfl rfl)
theorem dX4_fillsRests_58 : decode cX4_fillsRests 58 = .ok (.iconst 1, 1) := dk_4 (dk_at dksX4_fillsRests_2 11 rfl rfl)
theorem dX4_fillsRests_59 : decode cX4_fillsRests 59 = .ok (.iconst 2, 1) := dk_5 (dk_at dksX4_fillsRests_2 12 rfl rfl)
theorem dX4_fillsRests_60 : decode cX4_fillsRests 60 = .ok (.iload 8, 2) := dk_21 8 (dk_at dksX4_fillsRests_2 13 rfl rfl)
theorem dX4_fillsRests_62 : decode cX4_fillsRests 62 = .ok (.iconst 5, 1) := dk_8 (dk_at dksX4_fillsRests_2 15 rfl rfl)
theorem dX4_fillsRests_63 : decode cX4_fillsRests 63 = .ok (.idiv, 1) := dk_108 (dk_at dksX4_fillsRests_2 16 rfl rfl)
theorem dX4_fillsRests_64 : decode cX4_fillsRests 64 = .ok (.imul, 1) := dk_104 (dk_at dksX4_fillsRests_2 17 rfl rfl)
theorem dX4_fillsRests_65 : decode cX4_fillsRests 65 = .ok (.iadd, 1) := dk_96 (dk_at dksX4_fillsRests_2 18 rfl rfl)
theorem dX4_fillsRests_66 : decode cX4_fillsRests 66 = .ok (.iastore, 1) := dk_79 (dk_at dksX4_fillsRests_2 19 rfl rfl)
theorem dX4_fillsRests_67 : decode cX4_fillsRests 67 = .ok (.aload_n 0, 1) := dk_42 (dk_at dksX4_fillsRests_2 20 rfl rfl)
theorem dX4_fillsRests_68 : decode cX4_fillsRests 68 = .ok (.getfield 39, 3) := dk_180 0 39 (dk_at dksX4_fillsRests_2 21 rfl rfl)
theorem dX4_fillsRests_71 : decode cX4_fillsRests 71 = .ok (.bipush 54, 2) := dk_16 54 (dk_at dksX4_fillsRests_3 0 rfl rfl)
theorem dX4_fillsRests_73 : decode cX4_fillsRests 73 = .ok (.iload_n 2, 1) := dk_28 (dk_at dksX4_fillsRests_3 2 rfl rfl)
theorem dX4_fillsRests_74 : decode cX4_fillsRests 74 = .ok (.iadd, 1) := dk_96 (dk_at dksX4_fillsRests_3 3 rfl rfl)
theorem dX4_fillsRests_75 : decode cX4_fillsRests 75 = .ok (.iconst 1, 1) := dk_4 (dk_at dksX4_fillsRests_3 4 rfl rfl)
theorem dX4_fillsRests_76 : decode cX4_fillsRests 76 = .ok (.iconst 2, 1) := dk_5 (dk_at dksX4_fillsRests_3 5 rfl rfl)
theorem dX4_fillsRests_77 : decode cX4_fillsRests 77 = .ok (.iload 8, 2) := dk_21 8 (dk_at dksX4_fillsRests_3 6 rfl rfl)
theorem dX4_fillsRests_79 : decode cX4_fillsRests 79 = .ok (.iconst 5, 1) := dk_8 (dk_at dksX4_fillsRests_3 8 rfl rfl)
theorem dX4_fillsRests_80 : decode cX4_fillsRests 80 = .ok (.irem, 1) := dk_112 (dk_at dksX4_fillsRests_3 9 rfl rfl)
theorem dX4_fillsRests_81 : decode cX4_fillsRests 81 = .ok (.imul, 1) := dk_104 (dk_at dksX4_fillsRests_3 10 rfl rfl)
theorem dX4_fillsRests_82 : decode cX4_fillsRests 82 = .ok (.iadd, 1) := dk_96 (dk_at dksX4_fillsRests_3 11 rfl rfl)
theorem dX4_fillsRests_83 : decode cX4_fillsRests 83 = .ok (.iastore, 1) := dk_79 (dk_at dksX4_fillsRests_3 12 rfl rfl)
theorem dX4_fillsRests_84 : decode cX4_fillsRests 84 = .ok (.aload_n 0, 1) := dk_42 (dk_at dksX4_fillsRests_3 13 rfl rfl)
theorem dX4_fillsRests_85 : decode cX4_fillsRests 85 = .ok (.iload_n 3, 1) := dk_29 (dk_at dksX4_fillsRests_3 14 rfl rfl)
theorem dX4_fillsRests_86 : decode cX4_fillsRests 86 = .ok (.invokevirtual 379, 3) := dk_182 1 123 (dk_at dksX4_fillsRests_3 15 rfl rfl)
theorem dX4_fillsRests_89 : decode cX4_fillsRests 89 = .ok (.aload_n 0, 1) := dk_42 (dk_at dksX4_fillsRests_3 18 rfl rfl)
theorem dX4_fillsRests_90 : decode cX4_fillsRests 90 = .ok (.getfield 67, 3) := dk_180 0 67 (dk_at dksX4_fillsRests_3 19 rfl rfl)
theorem dX4_fillsRests_93 : decode cX4_fillsRests 93 = .ok (.iconst 2, 1) := dk_5 (dk_at dksX4_fillsRests_3 22 rfl rfl)
theorem dX4_fillsRests_94 : decode cX4_fillsRests 94 = .ok (.iload 8, 2) := dk_21 8 (dk_at dksX4_fillsRests_4 0 rfl rfl)
theorem dX4_fillsRests_96 : decode cX4_fillsRests 96 = .ok (.imul, 1) := dk_104 (dk_at dksX4_fillsRests_4 2 rfl rfl)
theorem dX4_fillsRests_97 : decode cX4_fillsRests 97 = .ok (.aload_n 0, 1) := dk_42 (dk_at dksX4_fillsRests_4 3 rfl rfl)
theorem dX4_fillsRests_98 : decode cX4_fillsRests 98 = .ok (.iload_n 1, 1) := dk_27 (dk_at dksX4_fillsRests_4 4 rfl rfl)
theorem dX4_fillsRests_99 : decode cX4_fillsRests 99 = .ok (.iload 6, 2) := dk_21 6 (dk_at dksX4_fillsRests_4 5 rfl rfl)
theorem dX4_fillsRests_101 : decode cX4_fillsRests 101 = .ok (.invokevirtual 427, 3) := dk_182 1 171 (dk_at dksX4_fillsRests_4 7 rfl rfl)
theorem dX4_fillsRests_104 : decode cX4_fillsRests 104 = .ok (.iastore, 1) := dk_79 (dk_at dksX4_fillsRests_4 10 rfl rfl)
theorem dX4_fillsRests_105 : decode cX4_fillsRests 105 = .ok (.aload_n 0, 1) := dk_42 (dk_at dksX4_fillsRests_4 11 rfl rfl)
theorem dX4_fillsRests_106 : decode cX4_fillsRests 106 = .ok (.getfield 67, 3) := dk_180 0 67 (dk_at dksX4_fillsRests_4 12 rfl rfl)
theorem dX4_fillsRests_109 : decode cX4_fillsRests 109 = .ok (.iconst 2, 1) := dk_5 (dk_at dksX4_fillsRests_4 15 rfl rfl)
theorem dX4_fillsRests_110 : decode cX4_fillsRests 110 = .ok (.iload 8, 2) := dk_21 8 (dk_at dksX4_fillsRests_4 16 rfl rfl)
theorem dX4_fillsRests_112 : decode cX4_fillsRests 112 = .ok (.imul, 1) := dk_104 (dk_at dksX4_fillsRests_4 18 rfl rfl)
theorem dX4_fillsRests_113 : decode cX4_fillsRests 113 = .ok (.iconst 1, 1) := dk_4 (dk_at dksX4_fillsRests_4 19 rfl rfl)
theorem dX4_fillsRests_114 : decode cX4_fillsRests 114 = .ok (.iadd, 1) := dk_96 (dk_at dksX4_fillsRests_4 20 rfl rfl)
theorem dX4_fillsRests_115 : decode cX4_fillsRests 115 = .ok (.aload_n 0, 1) := dk_42 (dk_at dksX4_fillsRests_4 21 rfl rfl)
theorem dX4_fillsRests_116 : decode cX4_fillsRests 116 = .ok (.iload_n 2, 1) := dk_28 (dk_at dksX4_fillsRests_4 22 rfl rfl)
theorem dX4_fillsRests_117 : decode cX4_fillsRests 117 = .ok (.iload 7, 2) := dk_21 7 (dk_at dksX4_fillsRests_5 0 rfl rfl)
theorem dX4_fillsRests_119 : decode cX4_fillsRests 119 = .ok (.invokevirtual 427, 3) := dk_182 1 171 (dk_at dksX4_fillsRests_5 2 rfl rfl)
theorem dX4_fillsRests_122 : decode cX4_fillsRests 122 = .ok (.iastore, 1) := dk_79 (dk_at dksX4_fillsRests_5 5 rfl rfl)
theorem dX4_fillsRests_123 : decode cX4_fillsRests 123 = .ok (.aload_n 0, 1) := dk_42 (dk_at dksX4_fillsRests_5 6 rfl rfl)
theorem dX4_fillsRests_124 : decode cX4_fillsRests 124 = .ok (.invokevirtual 382, 3) := dk_182 1 126 (dk_at dksX4_fillsRests_5 7 rfl rfl)
theorem dX4_fillsRests_127 : decode cX4_fillsRests 127 = .ok (.iinc 8 1, 3) := dk_132 8 1 (dk_at dksX4_fillsRests_5 10 rfl rfl)
theorem dX4_fillsRests_130 : decode cX4_fillsRests 130 = .ok (.goto (-87), 3) := dk_167 255 169 (dk_at dksX4_fillsRests_5 13 rfl rfl)
theorem dX4_fillsRests_133 : decode cX4_fillsRests 133 = .ok (.aload_n 0, 1) := dk_42 (dk_at dksX4_fillsRests_5 16 rfl rfl)
theorem dX4_fillsRests_134 : decode cX4_fillsRests 134 = .ok (.getfield 39, 3) := dk_180 0 39 (dk_at dksX4_fillsRests_5 17 rfl rfl)
theorem dX4_fillsRests_137 : decode cX4_fillsRests 137 = .ok (.bipush 54, 2) := dk_16 54 (dk_at dksX4_fillsRests_5 20 rfl rfl)
theorem dX4_fillsRests_139 : decode cX4_fillsRests 139 = .ok (.iload_n 1, 1) := dk_27 (dk_at dksX4_fillsRests_5 22 rfl rfl)
theorem dX4_fillsRests_140 : decode cX4_fillsRests 140 = .ok (.iadd, 1) := dk_96 (dk_at dksX4_fillsRests_5 23 rfl rfl)
theorem dX4_fillsRests_141 : decode cX4_fillsRests 141 = .ok (.iload 4, 2) := dk_21 4 (dk_at dksX4_fillsRests_6 0 rfl rfl)
theorem dX4_fillsRests_143 : decode cX4_fillsRests 143 = .ok (.iastore, 1) := dk_79 (dk_at dksX4_fillsRests_6 2 rfl rfl)
theorem dX4_fillsRests_144 : decode cX4_fillsRests 144 = .ok (.aload_n 0, 1) := dk_42 (dk_at dksX4_fillsRests_6 3 rfl rfl)
theorem dX4_fillsRests_145 : decode cX4_fillsRests 145 = .ok (.getfield 39, 3) := dk_180 0 39 (dk_at dksX4_fillsRests_6 4 rfl rfl)
theorem dX4_fillsRests_148 : decode cX4_fillsRests 148 = .ok (.bipush 54, 2) := dk_16 54 (dk_at dksX4_fillsRests_6 7 rfl rfl)
theorem dX4_fillsRests_150 : decode cX4_fillsRests 150 = .ok (.iload_n 2, 1) := dk_28 (dk_at dksX4_fillsRests_6 9 rfl rfl)
theorem dX4_fillsRests_151 : decode cX4_fillsRests 151 = .ok (.iadd, 1) := dk_96 (dk_at dksX4_fillsRests_6 10 rfl rfl)
theorem dX4_fillsRests_152 : decode cX4_fillsRests 152 = .ok (.iload 5, 2) := dk_21 5 (dk_at dksX4_fillsRests_6 11 rfl rfl)
theorem dX4_fillsRests_154 : decode cX4_fillsRests 154 = .ok (.iastore, 1) := dk_79 (dk_at dksX4_fillsRests_6 13 rfl rfl)
theorem dX4_fillsRests_155 : decode cX4_fillsRests 155 = .ok (.return_, 1) := dk_177 (dk_at dksX4_fillsRests_6 14 rfl rfl)
abbrev cX4_hasThen : ByteArray := prog_19_method_100_code
def yX4_hasThen : MethodName := ⟨RX4, "hasThen", "(II)I"⟩
def dkwX4_hasThen_0 : List UInt8 := [42, 27, 182, 1, 59, 28, 100, 42, 27, 182, 1, 56, 6, 108, 100, 172]
abbrev dktX4_hasThen_0 : List UInt8 := dkwX4_hasThen_0 ++ []
theorem dksX4_hasThen_0 : cX4_hasThen.data.toList.drop 0 = dktX4_hasThen_0 := by decide +kernel
theorem dX4_hasThen_0 : decode cX4_hasThen 0 = .ok (.aload_n 0, 1) := dk_42 (dk_at dksX4_hasThen_0 0 rfl rfl)
theorem dX4_hasThen_1 : decode cX4_hasThen 1 = .ok (.iload_n 1, 1) := dk_27 (dk_at dksX4_hasThen_0 1 rfl rfl)
theorem dX4_hasThen_2 : decode cX4_hasThen 2 = .ok (.invokevirtual 315, 3) := dk_182 1 59 (dk_at dksX4_hasThen_0 2 rfl rfl)
theorem dX4_hasThen_5 : decode cX4_hasThen 5 = .ok (.iload_n 2, 1) := dk_28 (dk_at dksX4_hasThen_0 5 rfl rfl)
theorem dX4_hasThen_6 : decode cX4_hasThen 6 = .ok (.isub, 1) := dk_100 (dk_at dksX4_hasThen_0 6 rfl rfl)
theorem dX4_hasThen_7 : decode cX4_hasThen 7 = .ok (.aload_n 0, 1) := dk_42 (dk_at dksX4_hasThen_0 7 rfl rfl)
theorem dX4_hasThen_8 : decode cX4_hasThen 8 = .ok (.iload_n 1, 1) := dk_27 (dk_at dksX4_hasThen_0 8 rfl rfl)
theorem dX4_hasThen_9 : decode cX4_hasThen 9 = .ok (.invokevirtual 312, 3) := dk_182 1 56 (dk_at dksX4_hasThen_0 9 rfl rfl)
theorem dX4_hasThen_12 : decode cX4_hasThen 12 = .ok (.iconst 3, 1) := dk_6 (dk_at dksX4_hasThen_0 12 rfl rfl)
theorem dX4_hasThen_13 : decode cX4_hasThen 13 = .ok (.idiv, 1) := dk_108 (dk_at dksX4_hasThen_0 13 rfl rfl)
theorem dX4_hasThen_14 : decode cX4_hasThen 14 = .ok (.isub, 1) := dk_100 (dk_at dksX4_hasThen_0 14 rfl rfl)
theorem dX4_hasThen_15 : decode cX4_hasThen 15 = .ok (.ireturn, 1) := dk_172 (dk_at dksX4_hasThen_0 15 rfl rfl)
abbrev cX4_isRest : ByteArray := prog_19_method_99_code
def yX4_isRest : MethodName := ⟨RX4, "isRest", "(II)Z"⟩
def dkwX4_isRest_3 : List UInt8 := [167, 255, 188, 4, 172]
abbrev dktX4_isRest_3 : List UInt8 := dkwX4_isRest_3 ++ []
def dkwX4_isRest_2 : List UInt8 := [42, 180, 0, 67, 5, 8, 27, 104, 28, 96, 104, 4, 96, 46, 164, 0, 5, 3, 172, 132, 3, 1]
abbrev dktX4_isRest_2 : List UInt8 := dkwX4_isRest_2 ++ dktX4_isRest_3
def dkwX4_isRest_1 : List UInt8 := [8, 27, 104, 28, 96, 104, 46, 163, 0, 34, 42, 180, 0, 67, 5, 8, 27, 104, 29, 96, 104, 4, 96, 46]
abbrev dktX4_isRest_1 : List UInt8 := dkwX4_isRest_1 ++ dktX4_isRest_2
def dkwX4_isRest_0 : List UInt8 := [3, 62, 29, 8, 162, 0, 69, 42, 180, 0, 67, 5, 8, 29, 104, 28, 96, 104, 46, 42, 180, 0, 67, 5]
abbrev dktX4_isRest_0 : List UInt8 := dkwX4_isRest_0 ++ dktX4_isRest_1
theorem dksX4_isRest_0 : cX4_isRest.data.toList.drop 0 = dktX4_isRest_0 := by decide +kernel
theorem dksX4_isRest_1 : cX4_isRest.data.toList.drop 24 = dktX4_isRest_1 := dk_seg dksX4_isRest_0 24 rfl rfl
theorem dksX4_isRest_2 : cX4_isRest.data.toList.drop 48 = dktX4_isRest_2 := dk_seg dksX4_isRest_1 24 rfl rfl
theorem dksX4_isRest_3 : cX4_isRest.data.toList.drop 70 = dktX4_isRest_3 := dk_seg dksX4_isRest_2 22 rfl rfl
theorem dX4_isRest_0 : decode cX4_isRest 0 = .ok (.iconst 0, 1) := dk_3 (dk_at dksX4_isRest_0 0 rfl rfl)
theorem dX4_isRest_1 : decode cX4_isRest 1 = .ok (.istore_n 3, 1) := dk_62 (dk_at dksX4_isRest_0 1 rfl rfl)
theorem dX4_isRest_2 : decode cX4_isRest 2 = .ok (.iload_n 3, 1) := dk_29 (dk_at dksX4_isRest_0 2 rfl rfl)
theorem dX4_isRest_3 : decode cX4_isRest 3 = .ok (.iconst 5, 1) := dk_8 (dk_at dksX4_isRest_0 3 rfl rfl)
theorem dX4_isRest_4 : decode cX4_isRest 4 = .ok (.if_icmp .ge 69, 3) := dk_162 0 69 (dk_at dksX4_isRest_0 4 rfl rfl)
theorem dX4_isRest_7 : decode cX4_isRest 7 = .ok (.aload_n 0, 1) := dk_42 (dk_at dksX4_isRest_0 7 rfl rfl)
theorem dX4_isRest_8 : decode cX4_isRest 8 = .ok (.getfield 67, 3) := dk_180 0 67 (dk_at dksX4_isRest_0 8 rfl rfl)
theorem dX4_isRest_11 : decode cX4_isRest 11 = .ok (.iconst 2, 1) := dk_5 (dk_at dksX4_isRest_0 11 rfl rfl)
theorem dX4_isRest_12 : decode cX4_isRest 12 = .ok (.iconst 5, 1) := dk_8 (dk_at dksX4_isRest_0 12 rfl rfl)
theorem dX4_isRest_13 : decode cX4_isRest 13 = .ok (.iload_n 3, 1) := dk_29 (dk_at dksX4_isRest_0 13 rfl rfl)
theorem dX4_isRest_14 : decode cX4_isRest 14 = .ok (.imul, 1) := dk_104 (dk_at dksX4_isRest_0 14 rfl rfl)
theorem dX4_isRest_15 : decode cX4_isRest 15 = .ok (.iload_n 2, 1) := dk_28 (dk_at dksX4_isRest_0 15 rfl rfl)
theorem dX4_isRest_16 : decode cX4_isRest 16 = .ok (.iadd, 1) := dk_96 (dk_at dksX4_isRest_0 16 rfl rfl)
theorem dX4_isRest_17 : decode cX4_isRest 17 = .ok (.imul, 1) := dk_104 (dk_at dksX4_isRest_0 17 rfl rfl)
theorem dX4_isRest_18 : decode cX4_isRest 18 = .ok (.iaload, 1) := dk_46 (dk_at dksX4_isRest_0 18 rfl rfl)
theorem dX4_isRest_19 : decode cX4_isRest 19 = .ok (.aload_n 0, 1) := dk_42 (dk_at dksX4_isRest_0 19 rfl rfl)
theorem dX4_isRest_20 : decode cX4_isRest 20 = .ok (.getfield 67, 3) := dk_180 0 67 (dk_at dksX4_isRest_0 20 rfl rfl)
theorem dX4_isRest_23 : decode cX4_isRest 23 = .ok (.iconst 2, 1) := dk_5 (dk_at dksX4_isRest_0 23 rfl rfl)
theorem dX4_isRest_24 : decode cX4_isRest 24 = .ok (.iconst 5, 1) := dk_8 (dk_at dksX4_isRest_1 0 rfl rfl)
theorem dX4_isRest_25 : decode cX4_isRest 25 = .ok (.iload_n 1, 1) := dk_27 (dk_at dksX4_isRest_1 1 rfl rfl)
theorem dX4_isRest_26 : decode cX4_isRest 26 = .ok (.imul, 1) := dk_104 (dk_at dksX4_isRest_1 2 rfl rfl)
theorem dX4_isRest_27 : decode cX4_isRest 27 = .ok (.iload_n 2, 1) := dk_28 (dk_at dksX4_isRest_1 3 rfl rfl)
theorem dX4_isRest_28 : decode cX4_isRest 28 = .ok (.iadd, 1) := dk_96 (dk_at dksX4_isRest_1 4 rfl rfl)
theorem dX4_isRest_29 : decode cX4_isRest 29 = .ok (.imul, 1) := dk_104 (dk_at dksX4_isRest_1 5 rfl rfl)
theorem dX4_isRest_30 : decode cX4_isRest 30 = .ok (.iaload, 1) := dk_46 (dk_at dksX4_isRest_1 6 rfl rfl)
theorem dX4_isRest_31 : decode cX4_isRest 31 = .ok (.if_icmp .gt 34, 3) := dk_163 0 34 (dk_at dksX4_isRest_1 7 rfl rfl)
theorem dX4_isRest_34 : decode cX4_isRest 34 = .ok (.aload_n 0, 1) := dk_42 (dk_at dksX4_isRest_1 10 rfl rfl)
theorem dX4_isRest_35 : decode cX4_isRest 35 = .ok (.getfield 67, 3) := dk_180 0 67 (dk_at dksX4_isRest_1 11 rfl rfl)
theorem dX4_isRest_38 : decode cX4_isRest 38 = .ok (.iconst 2, 1) := dk_5 (dk_at dksX4_isRest_1 14 rfl rfl)
theorem dX4_isRest_39 : decode cX4_isRest 39 = .ok (.iconst 5, 1) := dk_8 (dk_at dksX4_isRest_1 15 rfl rfl)
theorem dX4_isRest_40 : decode cX4_isRest 40 = .ok (.iload_n 1, 1) := dk_27 (dk_at dksX4_isRest_1 16 rfl rfl)
theorem dX4_isRest_41 : decode cX4_isRest 41 = .ok (.imul, 1) := dk_104 (dk_at dksX4_isRest_1 17 rfl rfl)
theorem dX4_isRest_42 : decode cX4_isRest 42 = .ok (.iload_n 3, 1) := dk_29 (dk_at dksX4_isRest_1 18 rfl rfl)
theorem dX4_isRest_43 : decode cX4_isRest 43 = .ok (.iadd, 1) := dk_96 (dk_at dksX4_isRest_1 19 rfl rfl)
theorem dX4_isRest_44 : decode cX4_isRest 44 = .ok (.imul, 1) := dk_104 (dk_at dksX4_isRest_1 20 rfl rfl)
theorem dX4_isRest_45 : decode cX4_isRest 45 = .ok (.iconst 1, 1) := dk_4 (dk_at dksX4_isRest_1 21 rfl rfl)
theorem dX4_isRest_46 : decode cX4_isRest 46 = .ok (.iadd, 1) := dk_96 (dk_at dksX4_isRest_1 22 rfl rfl)
theorem dX4_isRest_47 : decode cX4_isRest 47 = .ok (.iaload, 1) := dk_46 (dk_at dksX4_isRest_1 23 rfl rfl)
theorem dX4_isRest_48 : decode cX4_isRest 48 = .ok (.aload_n 0, 1) := dk_42 (dk_at dksX4_isRest_2 0 rfl rfl)
theorem dX4_isRest_49 : decode cX4_isRest 49 = .ok (.getfield 67, 3) := dk_180 0 67 (dk_at dksX4_isRest_2 1 rfl rfl)
theorem dX4_isRest_52 : decode cX4_isRest 52 = .ok (.iconst 2, 1) := dk_5 (dk_at dksX4_isRest_2 4 rfl rfl)
theorem dX4_isRest_53 : decode cX4_isRest 53 = .ok (.iconst 5, 1) := dk_8 (dk_at dksX4_isRest_2 5 rfl rfl)
theorem dX4_isRest_54 : decode cX4_isRest 54 = .ok (.iload_n 1, 1) := dk_27 (dk_at dksX4_isRest_2 6 rfl rfl)
theorem dX4_isRest_55 : decode cX4_isRest 55 = .ok (.imul, 1) := dk_104 (dk_at dksX4_isRest_2 7 rfl rfl)
theorem dX4_isRest_56 : decode cX4_isRest 56 = .ok (.iload_n 2, 1) := dk_28 (dk_at dksX4_isRest_2 8 rfl rfl)
theorem dX4_isRest_57 : decode cX4_isRest 57 = .ok (.iadd, 1) := dk_96 (dk_at dksX4_isRest_2 9 rfl rfl)
theorem dX4_isRest_58 : decode cX4_isRest 58 = .ok (.imul, 1) := dk_104 (dk_at dksX4_isRest_2 10 rfl rfl)
theorem dX4_isRest_59 : decode cX4_isRest 59 = .ok (.iconst 1, 1) := dk_4 (dk_at dksX4_isRest_2 11 rfl rfl)
theorem dX4_isRest_60 : decode cX4_isRest 60 = .ok (.iadd, 1) := dk_96 (dk_at dksX4_isRest_2 12 rfl rfl)
theorem dX4_isRest_61 : decode cX4_isRest 61 = .ok (.iaload, 1) := dk_46 (dk_at dksX4_isRest_2 13 rfl rfl)
theorem dX4_isRest_62 : decode cX4_isRest 62 = .ok (.if_icmp .le 5, 3) := dk_164 0 5 (dk_at dksX4_isRest_2 14 rfl rfl)
theorem dX4_isRest_65 : decode cX4_isRest 65 = .ok (.iconst 0, 1) := dk_3 (dk_at dksX4_isRest_2 17 rfl rfl)
theorem dX4_isRest_66 : decode cX4_isRest 66 = .ok (.ireturn, 1) := dk_172 (dk_at dksX4_isRest_2 18 rfl rfl)
theorem dX4_isRest_67 : decode cX4_isRest 67 = .ok (.iinc 3 1, 3) := dk_132 3 1 (dk_at dksX4_isRest_2 19 rfl rfl)
theorem dX4_isRest_70 : decode cX4_isRest 70 = .ok (.goto (-68), 3) := dk_167 255 188 (dk_at dksX4_isRest_3 0 rfl rfl)
theorem dX4_isRest_73 : decode cX4_isRest 73 = .ok (.iconst 1, 1) := dk_4 (dk_at dksX4_isRest_3 3 rfl rfl)
theorem dX4_isRest_74 : decode cX4_isRest 74 = .ok (.ireturn, 1) := dk_172 (dk_at dksX4_isRest_3 4 rfl rfl)
abbrev cX4_ring : ByteArray := prog_19_method_104_code
def yX4_ring : MethodName := ⟨RX4, "ring", "(I)I"⟩
def dkwX4_ring_6 : List UInt8 := [172]
abbrev dktX4_ring_6 : List UInt8 := dkwX4_ring_6 ++ []
def dkwX4_ring_5 : List UInt8 := [46, 28, 96, 167, 0, 6, 29, 28, 100, 172, 132, 3, 1, 167, 255, 218, 132, 2, 1, 167, 255, 202, 16, 254]
abbrev dktX4_ring_5 : List UInt8 := dkwX4_ring_5 ++ dktX4_ring_6
def dkwX4_ring_4 : List UInt8 := [16, 60, 163, 0, 38, 42, 28, 29, 182, 1, 182, 153, 0, 23, 27, 154, 0, 15, 42, 180, 0, 39, 16, 10]
abbrev dktX4_ring_4 : List UInt8 := dkwX4_ring_4 ++ dktX4_ring_5
def dkwX4_ring_3 : List UInt8 := [132, 2, 1, 167, 255, 208, 42, 182, 1, 126, 3, 61, 28, 16, 60, 162, 0, 54, 28, 4, 96, 62, 29]
abbrev dktX4_ring_3 : List UInt8 := dkwX4_ring_3 ++ dktX4_ring_4
def dkwX4_ring_2 : List UInt8 := [16, 6, 28, 104, 29, 96, 42, 29, 182, 1, 56, 79, 132, 3, 1, 167, 255, 227, 42, 182, 1, 106, 87]
abbrev dktX4_ring_2 : List UInt8 := dkwX4_ring_2 ++ dktX4_ring_3
def dkwX4_ring_1 : List UInt8 := [61, 28, 16, 60, 163, 0, 48, 3, 62, 29, 42, 180, 0, 39, 6, 46, 162, 0, 25, 42, 180, 0, 70]
abbrev dktX4_ring_1 : List UInt8 := dkwX4_ring_1 ++ dktX4_ring_2
def dkwX4_ring_0 : List UInt8 := [42, 182, 1, 38, 153, 0, 13, 27, 133, 9, 10, 184, 0, 130, 154, 0, 5, 2, 172, 42, 182, 1, 120, 3]
abbrev dktX4_ring_0 : List UInt8 := dkwX4_ring_0 ++ dktX4_ring_1
theorem dksX4_ring_0 : cX4_ring.data.toList.drop 0 = dktX4_ring_0 := by decide +kernel
theorem dksX4_ring_1 : cX4_ring.data.toList.drop 24 = dktX4_ring_1 := dk_seg dksX4_ring_0 24 rfl rfl
theorem dksX4_ring_2 : cX4_ring.data.toList.drop 47 = dktX4_ring_2 := dk_seg dksX4_ring_1 23 rfl rfl
theorem dksX4_ring_3 : cX4_ring.data.toList.drop 70 = dktX4_ring_3 := dk_seg dksX4_ring_2 23 rfl rfl
theorem dksX4_ring_4 : cX4_ring.data.toList.drop 93 = dktX4_ring_4 := dk_seg dksX4_ring_3 23 rfl rfl
theorem dksX4_ring_5 : cX4_ring.data.toList.drop 117 = dktX4_ring_5 := dk_seg dksX4_ring_4 24 rfl rfl
theorem dksX4_ring_6 : cX4_ring.data.toList.drop 141 = dktX4_ring_6 := dk_seg dksX4_ring_5 24 rfl rfl
theorem dX4_ring_0 : decode cX4_ring 0 = .ok (.aload_n 0, 1) := dk_42 (dk_at dksX4_ring_0 0 rfl rfl)
theorem dX4_ring_1 : decode cX4_ring 1 = .ok (.invokevirtual 294, 3) := dk_182 1 38 (dk_at dksX4_ring_0 1 rfl rfl)
theorem dX4_ring_4 : decode cX4_ring 4 = .ok (.ifCond .eq 13, 3) := dk_153 0 13 (dk_at dksX4_ring_0 4 rfl rfl)
theorem dX4_ring_7 : decode cX4_ring 7 = .ok (.iload_n 1, 1) := dk_27 (dk_at dksX4_ring_0 7 rfl rfl)
theorem dX4_ring_8 : decode cX4_ring 8 = .ok (.i2l, 1) := dk_133 (dk_at dksX4_ring_0 8 rfl rfl)
theorem dX4_ring_9 : decode cX4_ring 9 = .ok (.lconst 0, 1) := dk_9 (dk_at dksX4_ring_0 9 rfl rfl)
theorem dX4_ring_10 : decode cX4_ring 10 = .ok (.lconst 1, 1) := dk_10 (dk_at dksX4_ring_0 10 rfl rfl)
theorem dX4_ring_11 : decode cX4_ring 11 = .ok (.invokestatic 130, 3) := dk_184 0 130 (dk_at dksX4_ring_0 11 rfl rfl)
theorem dX4_ring_14 : decode cX4_ring 14 = .ok (.ifCond .ne 5, 3) := dk_154 0 5 (dk_at dksX4_ring_0 14 rfl rfl)
theorem dX4_ring_17 : decode cX4_ring 17 = .ok (.iconst (-1), 1) := dk_2 (dk_at dksX4_ring_0 17 rfl rfl)
theorem dX4_ring_18 : decode cX4_ring 18 = .ok (.ireturn, 1) := dk_172 (dk_at dksX4_ring_0 18 rfl rfl)
theorem dX4_ring_19 : decode cX4_ring 19 = .ok (.aload_n 0, 1) := dk_42 (dk_at dksX4_ring_0 19 rfl rfl)
theorem dX4_ring_20 : decode cX4_ring 20 = .ok (.invokevirtual 376, 3) := dk_182 1 120 (dk_at dksX4_ring_0 20 rfl rfl)
theorem dX4_ring_23 : decode cX4_ring 23 = .ok (.iconst 0, 1) := dk_3 (dk_at dksX4_ring_0 23 rfl rfl)
theorem dX4_ring_24 : decode cX4_ring 24 = .ok (.istore_n 2, 1) := dk_61 (dk_at dksX4_ring_1 0 rfl rfl)
theorem dX4_ring_25 : decode cX4_ring 25 = .ok (.iload_n 2, 1) := dk_28 (dk_at dksX4_ring_1 1 rfl rfl)
theorem dX4_ring_26 : decode cX4_ring 26 = .ok (.bipush 60, 2) := dk_16 60 (dk_at dksX4_ring_1 2 rfl rfl)
theorem dX4_ring_28 : decode cX4_ring 28 = .ok (.if_icmp .gt 48, 3) := dk_163 0 48 (dk_at dksX4_ring_1 4 rfl rfl)
theorem dX4_ring_31 : decode cX4_ring 31 = .ok (.iconst 0, 1) := dk_3 (dk_at dksX4_ring_1 7 rfl rfl)
theorem dX4_ring_32 : decode cX4_ring 32 = .ok (.istore_n 3, 1) := dk_62 (dk_at dksX4_ring_1 8 rfl rfl)
theorem dX4_ring_33 : decode cX4_ring 33 = .ok (.iload_n 3, 1) := dk_29 (dk_at dksX4_ring_1 9 rfl rfl)
theorem dX4_ring_34 : decode cX4_ring 34 = .ok (.aload_n 0, 1) := dk_42 (dk_at dksX4_ring_1 10 rfl rfl)
theorem dX4_ring_35 : decode cX4_ring 35 = .ok (.getfield 39, 3) := dk_180 0 39 (dk_at dksX4_ring_1 11 rfl rfl)
theorem dX4_ring_38 : decode cX4_ring 38 = .ok (.iconst 3, 1) := dk_6 (dk_at dksX4_ring_1 14 rfl rfl)
theorem dX4_ring_39 : decode cX4_ring 39 = .ok (.iaload, 1) := dk_46 (dk_at dksX4_ring_1 15 rfl rfl)
theorem dX4_ring_40 : decode cX4_ring 40 = .ok (.if_icmp .ge 25, 3) := dk_162 0 25 (dk_at dksX4_ring_1 16 rfl rfl)
theorem dX4_ring_43 : decode cX4_ring 43 = .ok (.aload_n 0, 1) := dk_42 (dk_at dksX4_ring_1 19 rfl rfl)
theorem dX4_ring_44 : decode cX4_ring 44 = .ok (.getfield 70, 3) := dk_180 0 70 (dk_at dksX4_ring_1 20 rfl rfl)
theorem dX4_ring_47 : decode cX4_ring 47 = .ok (.bipush 6, 2) := dk_16 6 (dk_at dksX4_ring_2 0 rfl rfl)
theorem dX4_ring_49 : decode cX4_ring 49 = .ok (.iload_n 2, 1) := dk_28 (dk_at dksX4_ring_2 2 rfl rfl)
theorem dX4_ring_50 : decode cX4_ring 50 = .ok (.imul, 1) := dk_104 (dk_at dksX4_ring_2 3 rfl rfl)
theorem dX4_ring_51 : decode cX4_ring 51 = .ok (.iload_n 3, 1) := dk_29 (dk_at dksX4_ring_2 4 rfl rfl)
theorem dX4_ring_52 : decode cX4_ring 52 = .ok (.iadd, 1) := dk_96 (dk_at dksX4_ring_2 5 rfl rfl)
theorem dX4_ring_53 : decode cX4_ring 53 = .ok (.aload_n 0, 1) := dk_42 (dk_at dksX4_ring_2 6 rfl rfl)
theorem dX4_ring_54 : decode cX4_ring 54 = .ok (.iload_n 3, 1) := dk_29 (dk_at dksX4_ring_2 7 rfl rfl)
theorem dX4_ring_55 : decode cX4_ring 55 = .ok (.invokevirtual 312, 3) := dk_182 1 56 (dk_at dksX4_ring_2 8 rfl rfl)
theorem dX4_ring_58 : decode cX4_ring 58 = .ok (.iastore, 1) := dk_79 (dk_at dksX4_ring_2 11 rfl rfl)
theorem dX4_ring_59 : decode cX4_ring 59 = .ok (.iinc 3 1, 3) := dk_132 3 1 (dk_at dksX4_ring_2 12 rfl rfl)
theorem dX4_ring_62 : decode cX4_ring 62 = .ok (.goto (-29), 3) := dk_167 255 227 (dk_at dksX4_ring_2 15 rfl rfl)
theorem dX4_ring_65 : decode cX4_ring 65 = .ok (.aload_n 0, 1) := dk_42 (dk_at dksX4_ring_2 18 rfl rfl)
theorem dX4_ring_66 : decode cX4_ring 66 = .ok (.invokevirtual 362, 3) := dk_182 1 106 (dk_at dksX4_ring_2 19 rfl rfl)
theorem dX4_ring_69 : decode cX4_ring 69 = .ok (.pop, 1) := dk_87 (dk_at dksX4_ring_2 22 rfl rfl)
theorem dX4_ring_70 : decode cX4_ring 70 = .ok (.iinc 2 1, 3) := dk_132 2 1 (dk_at dksX4_ring_3 0 rfl rfl)
theorem dX4_ring_73 : decode cX4_ring 73 = .ok (.goto (-48), 3) := dk_167 255 208 (dk_at dksX4_ring_3 3 rfl rfl)
theorem dX4_ring_76 : decode cX4_ring 76 = .ok (.aload_n 0, 1) := dk_42 (dk_at dksX4_ring_3 6 rfl rfl)
theorem dX4_ring_77 : decode cX4_ring 77 = .ok (.invokevirtual 382, 3) := dk_182 1 126 (dk_at dksX4_ring_3 7 rfl rfl)
theorem dX4_ring_80 : decode cX4_ring 80 = .ok (.iconst 0, 1) := dk_3 (dk_at dksX4_ring_3 10 rfl rfl)
theorem dX4_ring_81 : decode cX4_ring 81 = .ok (.istore_n 2, 1) := dk_61 (dk_at dksX4_ring_3 11 rfl rfl)
theorem dX4_ring_82 : decode cX4_ring 82 = .ok (.iload_n 2, 1) := dk_28 (dk_at dksX4_ring_3 12 rfl rfl)
theorem dX4_ring_83 : decode cX4_ring 83 = .ok (.bipush 60, 2) := dk_16 60 (dk_at dksX4_ring_3 13 rfl rfl)
theorem dX4_ring_85 : decode cX4_ring 85 = .ok (.if_icmp .ge 54, 3) := dk_162 0 54 (dk_at dksX4_ring_3 15 rfl rfl)
theorem dX4_ring_88 : decode cX4_ring 88 = .ok (.iload_n 2, 1) := dk_28 (dk_at dksX4_ring_3 18 rfl rfl)
theorem dX4_ring_89 : decode cX4_ring 89 = .ok (.iconst 1, 1) := dk_4 (dk_at dksX4_ring_3 19 rfl rfl)
theorem dX4_ring_90 : decode cX4_ring 90 = .ok (.iadd, 1) := dk_96 (dk_at dksX4_ring_3 20 rfl rfl)
theorem dX4_ring_91 : decode cX4_ring 91 = .ok (.istore_n 3, 1) := dk_62 (dk_at dksX4_ring_3 21 rfl rfl)
theorem dX4_ring_92 : decode cX4_ring 92 = .ok (.iload_n 3, 1) := dk_29 (dk_at dksX4_ring_3 22 rfl rfl)
theorem dX4_ring_93 : decode cX4_ring 93 = .ok (.bipush 60, 2) := dk_16 60 (dk_at dksX4_ring_4 0 rfl rfl)
theorem dX4_ring_95 : decode cX4_ring 95 = .ok (.if_icmp .gt 38, 3) := dk_163 0 38 (dk_at dksX4_ring_4 2 rfl rfl)
theorem dX4_ring_98 : decode cX4_ring 98 = .ok (.aload_n 0, 1) := dk_42 (dk_at dksX4_ring_4 5 rfl rfl)
theorem dX4_ring_99 : decode cX4_ring 99 = .ok (.iload_n 2, 1) := dk_28 (dk_at dksX4_ring_4 6 rfl rfl)
theorem dX4_ring_100 : decode cX4_ring 100 = .ok (.iload_n 3, 1) := dk_29 (dk_at dksX4_ring_4 7 rfl rfl)
theorem dX4_ring_101 : decode cX4_ring 101 = .ok (.invokevirtual 438, 3) := dk_182 1 182 (dk_at dksX4_ring_4 8 rfl rfl)
theorem dX4_ring_104 : decode cX4_ring 104 = .ok (.ifCond .eq 23, 3) := dk_153 0 23 (dk_at dksX4_ring_4 11 rfl rfl)
theorem dX4_ring_107 : decode cX4_ring 107 = .ok (.iload_n 1, 1) := dk_27 (dk_at dksX4_ring_4 14 rfl rfl)
theorem dX4_ring_108 : decode cX4_ring 108 = .ok (.ifCond .ne 15, 3) := dk_154 0 15 (dk_at dksX4_ring_4 15 rfl rfl)
theorem dX4_ring_111 : decode cX4_ring 111 = .ok (.aload_n 0, 1) := dk_42 (dk_at dksX4_ring_4 18 rfl rfl)
theorem dX4_ring_112 : decode cX4_ring 112 = .ok (.getfield 39, 3) := dk_180 0 39 (dk_at dksX4_ring_4 19 rfl rfl)
theorem dX4_ring_115 : decode cX4_ring 115 = .ok (.bipush 10, 2) := dk_16 10 (dk_at dksX4_ring_4 22 rfl rfl)
theorem dX4_ring_117 : decode cX4_ring 117 = .ok (.iaload, 1) := dk_46 (dk_at dksX4_ring_5 0 rfl rfl)
theorem dX4_ring_118 : decode cX4_ring 118 = .ok (.iload_n 2, 1) := dk_28 (dk_at dksX4_ring_5 1 rfl rfl)
theorem dX4_ring_119 : decode cX4_ring 119 = .ok (.iadd, 1) := dk_96 (dk_at dksX4_ring_5 2 rfl rfl)
theorem dX4_ring_120 : decode cX4_ring 120 = .ok (.goto 6, 3) := dk_167 0 6 (dk_at dksX4_ring_5 3 rfl rfl)
theorem dX4_ring_123 : decode cX4_ring 123 = .ok (.iload_n 3, 1) := dk_29 (dk_at dksX4_ring_5 6 rfl rfl)
theorem dX4_ring_124 : decode cX4_ring 124 = .ok (.iload_n 2, 1) := dk_28 (dk_at dksX4_ring_5 7 rfl rfl)
theorem dX4_ring_125 : decode cX4_ring 125 = .ok (.isub, 1) := dk_100 (dk_at dksX4_ring_5 8 rfl rfl)
theorem dX4_ring_126 : decode cX4_ring 126 = .ok (.ireturn, 1) := dk_172 (dk_at dksX4_ring_5 9 rfl rfl)
theorem dX4_ring_127 : decode cX4_ring 127 = .ok (.iinc 3 1, 3) := dk_132 3 1 (dk_at dksX4_ring_5 10 rfl rfl)
theorem dX4_ring_130 : decode cX4_ring 130 = .ok (.goto (-38), 3) := dk_167 255 218 (dk_at dksX4_ring_5 13 rfl rfl)
theorem dX4_ring_133 : decode cX4_ring 133 = .ok (.iinc 2 1, 3) := dk_132 2 1 (dk_at dksX4_ring_5 16 rfl rfl)
theorem dX4_ring_136 : decode cX4_ring 136 = .ok (.goto (-54), 3) := dk_167 255 202 (dk_at dksX4_ring_5 19 rfl rfl)
theorem dX4_ring_139 : decode cX4_ring 139 = .ok (.bipush (-2), 2) := dk_16 254 (dk_at dksX4_ring_5 22 rfl rfl)
theorem dX4_ring_141 : decode cX4_ring 141 = .ok (.ireturn, 1) := dk_172 (dk_at dksX4_ring_6 0 rfl rfl)
abbrev cX4_areAlike : ByteArray := prog_19_method_103_code
def yX4_areAlike : MethodName := ⟨RX4, "areAlike", "(II)Z"⟩
def dkwX4_areAlike_2 : List UInt8 := [46, 159, 0, 5, 3, 172, 132, 3, 1, 167, 255, 216, 4, 172]
abbrev dktX4_areAlike_2 : List UInt8 := dkwX4_areAlike_2 ++ []
def dkwX4_areAlike_1 : List UInt8 := [162, 0, 36, 42, 180, 0, 70, 16, 6, 27, 104, 29, 96, 46, 42, 180, 0, 70, 16, 6, 28, 104, 29, 96]
abbrev dktX4_areAlike_1 : List UInt8 := dkwX4_areAlike_1 ++ dktX4_areAlike_2
def dkwX4_areAlike_0 : List UInt8 := [28, 27, 100, 42, 180, 0, 39, 4, 46, 112, 153, 0, 5, 3, 172, 3, 62, 29, 42, 180, 0, 39, 6, 46]
abbrev dktX4_areAlike_0 : List UInt8 := dkwX4_areAlike_0 ++ dktX4_areAlike_1
theorem dksX4_areAlike_0 : cX4_areAlike.data.toList.drop 0 = dktX4_areAlike_0 := by decide +kernel
theorem dksX4_areAlike_1 : cX4_areAlike.data.toList.drop 24 = dktX4_areAlike_1 := dk_seg dksX4_areAlike_0 24 rfl rfl
theorem dksX4_areAlike_2 : cX4_areAlike.data.toList.drop 48 = dktX4_areAlike_2 := dk_seg dksX4_areAlike_1 24 rfl rfl
theorem dX4_areAlike_0 : decode cX4_areAlike 0 = .ok (.iload_n 2, 1) := dk_28 (dk_at dksX4_areAlike_0 0 rfl rfl)
theorem dX4_areAlike_1 : decode cX4_areAlike 1 = .ok (.iload_n 1, 1) := dk_27 (dk_at dksX4_areAlike_0 1 rfl rfl)
theorem dX4_areAlike_2 : decode cX4_areAlike 2 = .ok (.isub, 1) := dk_100 (dk_at dksX4_areAlike_0 2 rfl rfl)
theorem dX4_areAlike_3 : decode cX4_areAlike 3 = .ok (.aload_n 0, 1) := dk_42 (dk_at dksX4_areAlike_0 3 rfl rfl)
theorem dX4_areAlike_4 : decode cX4_areAlike 4 = .ok (.getfield 39, 3) := dk_180 0 39 (dk_at dksX4_areAlike_0 4 rfl rfl)
theorem dX4_areAlike_7 : decode cX4_areAlike 7 = .ok (.iconst 1, 1) := dk_4 (dk_at dksX4_areAlike_0 7 rfl rfl)
theorem dX4_areAlike_8 : decode cX4_areAlike 8 = .ok (.iaload, 1) := dk_46 (dk_at dksX4_areAlike_0 8 rfl rfl)
theorem dX4_areAlike_9 : decode cX4_areAlike 9 = .ok (.irem, 1) := dk_112 (dk_at dksX4_areAlike_0 9 rfl rfl)
theorem dX4_areAlike_10 : decode cX4_areAlike 10 = .ok (.ifCond .eq 5, 3) := dk_153 0 5 (dk_at dksX4_areAlike_0 10 rfl rfl)
theorem dX4_areAlike_13 : decode cX4_areAlike 13 = .ok (.iconst 0, 1) := dk_3 (dk_at dksX4_areAlike_0 13 rfl rfl)
theorem dX4_areAlike_14 : decode cX4_areAlike 14 = .ok (.ireturn, 1) := dk_172 (dk_at dksX4_areAlike_0 14 rfl rfl)
theorem dX4_areAlike_15 : decode cX4_areAlike 15 = .ok (.iconst 0, 1) := dk_3 (dk_at dksX4_areAlike_0 15 rfl rfl)
theorem dX4_areAlike_16 : decode cX4_areAlike 16 = .ok (.istore_n 3, 1) := dk_62 (dk_at dksX4_areAlike_0 16 rfl rfl)
theorem dX4_areAlike_17 : decode cX4_areAlike 17 = .ok (.iload_n 3, 1) := dk_29 (dk_at dksX4_areAlike_0 17 rfl rfl)
theorem dX4_areAlike_18 : decode cX4_areAlike 18 = .ok (.aload_n 0, 1) := dk_42 (dk_at dksX4_areAlike_0 18 rfl rfl)
theorem dX4_areAlike_19 : decode cX4_areAlike 19 = .ok (.getfield 39, 3) := dk_180 0 39 (dk_at dksX4_areAlike_0 19 rfl rfl)
theorem dX4_areAlike_22 : decode cX4_areAlike 22 = .ok (.iconst 3, 1) := dk_6 (dk_at dksX4_areAlike_0 22 rfl rfl)
theorem dX4_areAlike_23 : decode cX4_areAlike 23 = .ok (.iaload, 1) := dk_46 (dk_at dksX4_areAlike_0 23 rfl rfl)
theorem dX4_areAlike_24 : decode cX4_areAlike 24 = .ok (.if_icmp .ge 36, 3) := dk_162 0 36 (dk_at dksX4_areAlike_1 0 rfl rfl)
theorem dX4_areAlike_27 : decode cX4_areAlike 27 = .ok (.aload_n 0, 1) := dk_42 (dk_at dksX4_areAlike_1 3 rfl rfl)
theorem dX4_areAlike_28 : decode cX4_areAlike 28 = .ok (.getfield 70, 3) := dk_180 0 70 (dk_at dksX4_areAlike_1 4 rfl rfl)
theorem dX4_areAlike_31 : decode cX4_areAlike 31 = .ok (.bipush 6, 2) := dk_16 6 (dk_at dksX4_areAlike_1 7 rfl rfl)
theorem dX4_areAlike_33 : decode cX4_areAlike 33 = .ok (.iload_n 1, 1) := dk_27 (dk_at dksX4_areAlike_1 9 rfl rfl)
theorem dX4_areAlike_34 : decode cX4_areAlike 34 = .ok (.imul, 1) := dk_104 (dk_at dksX4_areAlike_1 10 rfl rfl)
theorem dX4_areAlike_35 : decode cX4_areAlike 35 = .ok (.iload_n 3, 1) := dk_29 (dk_at dksX4_areAlike_1 11 rfl rfl)
theorem dX4_areAlike_36 : decode cX4_areAlike 36 = .ok (.iadd, 1) := dk_96 (dk_at dksX4_areAlike_1 12 rfl rfl)
theorem dX4_areAlike_37 : decode cX4_areAlike 37 = .ok (.iaload, 1) := dk_46 (dk_at dksX4_areAlike_1 13 rfl rfl)
theorem dX4_areAlike_38 : decode cX4_areAlike 38 = .ok (.aload_n 0, 1) := dk_42 (dk_at dksX4_areAlike_1 14 rfl rfl)
theorem dX4_areAlike_39 : decode cX4_areAlike 39 = .ok (.getfield 70, 3) := dk_180 0 70 (dk_at dksX4_areAlike_1 15 rfl rfl)
theorem dX4_areAlike_42 : decode cX4_areAlike 42 = .ok (.bipush 6, 2) := dk_16 6 (dk_at dksX4_areAlike_1 18 rfl rfl)
theorem dX4_areAlike_44 : decode cX4_areAlike 44 = .ok (.iload_n 2, 1) := dk_28 (dk_at dksX4_areAlike_1 20 rfl rfl)
theorem dX4_areAlike_45 : decode cX4_areAlike 45 = .ok (.imul, 1) := dk_104 (dk_at dksX4_areAlike_1 21 rfl rfl)
theorem dX4_areAlike_46 : decode cX4_areAlike 46 = .ok (.iload_n 3, 1) := dk_29 (dk_at dksX4_areAlike_1 22 rfl rfl)
theorem dX4_areAlike_47 : decode cX4_areAlike 47 = .ok (.iadd, 1) := dk_96 (dk_at dksX4_areAlike_1 23 rfl rfl)
theorem dX4_areAlike_48 : decode cX4_areAlike 48 = .ok (.iaload, 1) := dk_46 (dk_at dksX4_areAlike_2 0 rfl rfl)
theorem dX4_areAlike_49 : decode cX4_areAlike 49 = .ok (.if_icmp .eq 5, 3) := dk_159 0 5 (dk_at dksX4_areAlike_2 1 rfl rfl)
theorem dX4_areAlike_52 : decode cX4_areAlike 52 = .ok (.iconst 0, 1) := dk_3 (dk_at dksX4_areAlike_2 4 rfl rfl)
theorem dX4_areAlike_53 : decode cX4_areAlike 53 = .ok (.ireturn, 1) := dk_172 (dk_at dksX4_areAlike_2 5 rfl rfl)
theorem dX4_areAlike_54 : decode cX4_areAlike 54 = .ok (.iinc 3 1, 3) := dk_132 3 1 (dk_at dksX4_areAlike_2 6 rfl rfl)
theorem dX4_areAlike_57 : decode cX4_areAlike 57 = .ok (.goto (-40), 3) := dk_167 255 216 (dk_at dksX4_areAlike_2 9 rfl rfl)
theorem dX4_areAlike_60 : decode cX4_areAlike 60 = .ok (.iconst 1, 1) := dk_4 (dk_at dksX4_areAlike_2 12 rfl rfl)
theorem dX4_areAlike_61 : decode cX4_areAlike 61 = .ok (.ireturn, 1) := dk_172 (dk_at dksX4_areAlike_2 13 rfl rfl)
abbrev cX4_pence : ByteArray := prog_19_method_105_code
def yX4_pence : MethodName := ⟨RX4, "pence", "(II)I"⟩
def dkwX4_pence_6 : List UInt8 := [96, 172]
abbrev dktX4_pence_6 : List UInt8 := dkwX4_pence_6 ++ []
def dkwX4_pence_5 : List UInt8 := [54, 6, 132, 7, 1, 167, 255, 185, 21, 4, 29, 108, 21, 6, 21, 5, 162, 0, 7, 4, 167, 0, 4, 3]
abbrev dktX4_pence_5 : List UInt8 := dkwX4_pence_5 ++ dktX4_pence_6
def dkwX4_pence_4 : List UInt8 := [21, 8, 29, 112, 21, 4, 29, 112, 160, 0, 13, 21, 7, 28, 162, 0, 7, 4, 167, 0, 4, 3, 96]
abbrev dktX4_pence_4 : List UInt8 := dkwX4_pence_4 ++ dktX4_pence_5
def dkwX4_pence_3 : List UInt8 := [54, 8, 21, 5, 21, 8, 29, 108, 100, 54, 5, 21, 6, 21, 8, 29, 112, 21, 4, 29, 112, 163, 0, 20]
abbrev dktX4_pence_3 : List UInt8 := dkwX4_pence_3 ++ dktX4_pence_4
def dkwX4_pence_2 : List UInt8 := [54, 6, 3, 54, 7, 21, 7, 42, 180, 0, 39, 6, 46, 162, 0, 66, 27, 42, 21, 7, 182, 1, 62, 104]
abbrev dktX4_pence_2 : List UInt8 := dkwX4_pence_2 ++ dktX4_pence_3
def dkwX4_pence_1 : List UInt8 := [182, 1, 84, 62, 29, 154, 0, 5, 3, 172, 27, 42, 28, 182, 1, 62, 104, 54, 4, 27, 54, 5, 3]
abbrev dktX4_pence_1 : List UInt8 := dkwX4_pence_1 ++ dktX4_pence_2
def dkwX4_pence_0 : List UInt8 := [42, 28, 182, 1, 53, 153, 0, 15, 27, 133, 9, 20, 1, 185, 184, 0, 130, 154, 0, 5, 2, 172, 42, 6]
abbrev dktX4_pence_0 : List UInt8 := dkwX4_pence_0 ++ dktX4_pence_1
theorem dksX4_pence_0 : cX4_pence.data.toList.drop 0 = dktX4_pence_0 := by decide +kernel
theorem dksX4_pence_1 : cX4_pence.data.toList.drop 24 = dktX4_pence_1 := dk_seg dksX4_pence_0 24 rfl rfl
theorem dksX4_pence_2 : cX4_pence.data.toList.drop 47 = dktX4_pence_2 := dk_seg dksX4_pence_1 23 rfl rfl
theorem dksX4_pence_3 : cX4_pence.data.toList.drop 71 = dktX4_pence_3 := dk_seg dksX4_pence_2 24 rfl rfl
theorem dksX4_pence_4 : cX4_pence.data.toList.drop 95 = dktX4_pence_4 := dk_seg dksX4_pence_3 24 rfl rfl
theorem dksX4_pence_5 : cX4_pence.data.toList.drop 118 = dktX4_pence_5 := dk_seg dksX4_pence_4 23 rfl rfl
theorem dksX4_pence_6 : cX4_pence.data.toList.drop 142 = dktX4_pence_6 := dk_seg dksX4_pence_5 24 rfl rfl
theorem dX4_pence_0 : decode cX4_pence 0 = .ok (.aload_n 0, 1) := dk_42 (dk_at dksX4_pence_0 0 rfl rfl)
theorem dX4_pence_1 : decode cX4_pence 1 = .ok (.iload_n 2, 1) := dk_28 (dk_at dksX4_pence_0 1 rfl rfl)
theorem dX4_pence_2 : decode cX4_pence 2 = .ok (.invokevirtual 309, 3) := dk_182 1 53 (dk_at dksX4_pence_0 2 rfl rfl)
theorem dX4_pence_5 : decode cX4_pence 5 = .ok (.ifCond .eq 15, 3) := dk_153 0 15 (dk_at dksX4_pence_0 5 rfl rfl)
theorem dX4_pence_8 : decode cX4_pence 8 = .ok (.iload_n 1, 1) := dk_27 (dk_at dksX4_pence_0 8 rfl rfl)
theorem dX4_pence_9 : decode cX4_pence 9 = .ok (.i2l, 1) := dk_133 (dk_at dksX4_pence_0 9 rfl rfl)
theorem dX4_pence_10 : decode cX4_pence 10 = .ok (.lconst 0, 1) := dk_9 (dk_at dksX4_pence_0 10 rfl rfl)
theorem dX4_pence_11 : decode cX4_pence 11 = .ok (.ldc2_w 441, 3) := dk_20 1 185 (dk_at dksX4_pence_0 11 rfl rfl)
theorem dX4_pence_14 : decode cX4_pence 14 = .ok (.invokestatic 130, 3) := dk_184 0 130 (dk_at dksX4_pence_0 14 rfl rfl)
theorem dX4_pence_17 : decode cX4_pence 17 = .ok (.ifCond .ne 5, 3) := dk_154 0 5 (dk_at dksX4_pence_0 17 rfl rfl)
theorem dX4_pence_20 : decode cX4_pence 20 = .ok (.iconst (-1), 1) := dk_2 (dk_at dksX4_pence_0 20 rfl rfl)
theorem dX4_pence_21 : decode cX4_pence 21 = .ok (.ireturn, 1) := dk_172 (dk_at dksX4_pence_0 21 rfl rfl)
theorem dX4_pence_22 : decode cX4_pence 22 = .ok (.aload_n 0, 1) := dk_42 (dk_at dksX4_pence_0 22 rfl rfl)
theorem dX4_pence_23 : decode cX4_pence 23 = .ok (.iconst 3, 1) := dk_6 (dk_at dksX4_pence_0 23 rfl rfl)
theorem dX4_pence_24 : decode cX4_pence 24 = .ok (.invokevirtual 340, 3) := dk_182 1 84 (dk_at dksX4_pence_1 0 rfl rfl)
theorem dX4_pence_27 : decode cX4_pence 27 = .ok (.istore_n 3, 1) := dk_62 (dk_at dksX4_pence_1 3 rfl rfl)
theorem dX4_pence_28 : decode cX4_pence 28 = .ok (.iload_n 3, 1) := dk_29 (dk_at dksX4_pence_1 4 rfl rfl)
theorem dX4_pence_29 : decode cX4_pence 29 = .ok (.ifCond .ne 5, 3) := dk_154 0 5 (dk_at dksX4_pence_1 5 rfl rfl)
theorem dX4_pence_32 : decode cX4_pence 32 = .ok (.iconst 0, 1) := dk_3 (dk_at dksX4_pence_1 8 rfl rfl)
theorem dX4_pence_33 : decode cX4_pence 33 = .ok (.ireturn, 1) := dk_172 (dk_at dksX4_pence_1 9 rfl rfl)
theorem dX4_pence_34 : decode cX4_pence 34 = .ok (.iload_n 1, 1) := dk_27 (dk_at dksX4_pence_1 10 rfl rfl)
theorem dX4_pence_35 : decode cX4_pence 35 = .ok (.aload_n 0, 1) := dk_42 (dk_at dksX4_pence_1 11 rfl rfl)
theorem dX4_pence_36 : decode cX4_pence 36 = .ok (.iload_n 2, 1) := dk_28 (dk_at dksX4_pence_1 12 rfl rfl)
theorem dX4_pence_37 : decode cX4_pence 37 = .ok (.invokevirtual 318, 3) := dk_182 1 62 (dk_at dksX4_pence_1 13 rfl rfl)
theorem dX4_pence_40 : decode cX4_pence 40 = .ok (.imul, 1) := dk_104 (dk_at dksX4_pence_1 16 rfl rfl)
theorem dX4_pence_41 : decode cX4_pence 41 = .ok (.istore 4, 2) := dk_54 4 (dk_at dksX4_pence_1 17 rfl rfl)
theorem dX4_pence_43 : decode cX4_pence 43 = .ok (.iload_n 1, 1) := dk_27 (dk_at dksX4_pence_1 19 rfl rfl)
theorem dX4_pence_44 : decode cX4_pence 44 = .ok (.istore 5, 2) := dk_54 5 (dk_at dksX4_pence_1 20 rfl rfl)
theorem dX4_pence_46 : decode cX4_pence 46 = .ok (.iconst 0, 1) := dk_3 (dk_at dksX4_pence_1 22 rfl rfl)
theorem dX4_pence_47 : decode cX4_pence 47 = .ok (.istore 6, 2) := dk_54 6 (dk_at dksX4_pence_2 0 rfl rfl)
theorem dX4_pence_49 : decode cX4_pence 49 = .ok (.iconst 0, 1) := dk_3 (dk_at dksX4_pence_2 2 rfl rfl)
theorem dX4_pence_50 : decode cX4_pence 50 = .ok (.istore 7, 2) := dk_54 7 (dk_at dksX4_pence_2 3 rfl rfl)
theorem dX4_pence_52 : decode cX4_pence 52 = .ok (.iload 7, 2) := dk_21 7 (dk_at dksX4_pence_2 5 rfl rfl)
theorem dX4_pence_54 : decode cX4_pence 54 = .ok (.aload_n 0, 1) := dk_42 (dk_at dksX4_pence_2 7 rfl rfl)
theorem dX4_pence_55 : decode cX4_pence 55 = .ok (.getfield 39, 3) := dk_180 0 39 (dk_at dksX4_pence_2 8 rfl rfl)
theorem dX4_pence_58 : decode cX4_pence 58 = .ok (.iconst 3, 1) := dk_6 (dk_at dksX4_pence_2 11 rfl rfl)
theorem dX4_pence_59 : decode cX4_pence 59 = .ok (.iaload, 1) := dk_46 (dk_at dksX4_pence_2 12 rfl rfl)
theorem dX4_pence_60 : decode cX4_pence 60 = .ok (.if_icmp .ge 66, 3) := dk_162 0 66 (dk_at dksX4_pence_2 13 rfl rfl)
theorem dX4_pence_63 : decode cX4_pence 63 = .ok (.iload_n 1, 1) := dk_27 (dk_at dksX4_pence_2 16 rfl rfl)
theorem dX4_pence_64 : decode cX4_pence 64 = .ok (.aload_n 0, 1) := dk_42 (dk_at dksX4_pence_2 17 rfl rfl)
theorem dX4_pence_65 : decode cX4_pence 65 = .ok (.iload 7, 2) := dk_21 7 (dk_at dksX4_pence_2 18 rfl rfl)
theorem dX4_pence_67 : decode cX4_pence 67 = .ok (.invokevirtual 318, 3) := dk_182 1 62 (dk_at dksX4_pence_2 20 rfl rfl)
theorem dX4_pence_70 : decode cX4_pence 70 = .ok (.imul, 1) := dk_104 (dk_at dksX4_pence_2 23 rfl rfl)
theorem dX4_pence_71 : decode cX4_pence 71 = .ok (.istore 8, 2) := dk_54 8 (dk_at dksX4_pence_3 0 rfl rfl)
theorem dX4_pence_73 : decode cX4_pence 73 = .ok (.iload 5, 2) := dk_21 5 (dk_at dksX4_pence_3 2 rfl rfl)
theorem dX4_pence_75 : decode cX4_pence 75 = .ok (.iload 8, 2) := dk_21 8 (dk_at dksX4_pence_3 4 rfl rfl)
theorem dX4_pence_77 : decode cX4_pence 77 = .ok (.iload_n 3, 1) := dk_29 (dk_at dksX4_pence_3 6 rfl rfl)
theorem dX4_pence_78 : decode cX4_pence 78 = .ok (.idiv, 1) := dk_108 (dk_at dksX4_pence_3 7 rfl rfl)
theorem dX4_pence_79 : decode cX4_pence 79 = .ok (.isub, 1) := dk_100 (dk_at dksX4_pence_3 8 rfl rfl)
theorem dX4_pence_80 : decode cX4_pence 80 = .ok (.istore 5, 2) := dk_54 5 (dk_at dksX4_pence_3 9 rfl rfl)
theorem dX4_pence_82 : decode cX4_pence 82 = .ok (.iload 6, 2) := dk_21 6 (dk_at dksX4_pence_3 11 rfl rfl)
theorem dX4_pence_84 : decode cX4_pence 84 = .ok (.iload 8, 2) := dk_21 8 (dk_at dksX4_pence_3 13 rfl rfl)
theorem dX4_pence_86 : decode cX4_pence 86 = .ok (.iload_n 3, 1) := dk_29 (dk_at dksX4_pence_3 15 rfl rfl)
theorem dX4_pence_87 : decode cX4_pence 87 = .ok (.irem, 1) := dk_112 (dk_at dksX4_pence_3 16 rfl rfl)
theorem dX4_pence_88 : decode cX4_pence 88 = .ok (.iload 4, 2) := dk_21 4 (dk_at dksX4_pence_3 17 rfl rfl)
theorem dX4_pence_90 : decode cX4_pence 90 = .ok (.iload_n 3, 1) := dk_29 (dk_at dksX4_pence_3 19 rfl rfl)
theorem dX4_pence_91 : decode cX4_pence 91 = .ok (.irem, 1) := dk_112 (dk_at dksX4_pence_3 20 rfl rfl)
theorem dX4_pence_92 : decode cX4_pence 92 = .ok (.if_icmp .gt 20, 3) := dk_163 0 20 (dk_at dksX4_pence_3 21 rfl rfl)
theorem dX4_pence_95 : decode cX4_pence 95 = .ok (.iload 8, 2) := dk_21 8 (dk_at dksX4_pence_4 0 rfl rfl)
theorem dX4_pence_97 : decode cX4_pence 97 = .ok (.iload_n 3, 1) := dk_29 (dk_at dksX4_pence_4 2 rfl rfl)
theorem dX4_pence_98 : decode cX4_pence 98 = .ok (.irem, 1) := dk_112 (dk_at dksX4_pence_4 3 rfl rfl)
theorem dX4_pence_99 : decode cX4_pence 99 = .ok (.iload 4, 2) := dk_21 4 (dk_at dksX4_pence_4 4 rfl rfl)
theorem dX4_pence_101 : decode cX4_pence 101 = .ok (.iload_n 3, 1) := dk_29 (dk_at dksX4_pence_4 6 rfl rfl)
theorem dX4_pence_102 : decode cX4_pence 102 = .ok (.irem, 1) := dk_112 (dk_at dksX4_pence_4 7 rfl rfl)
theorem dX4_pence_103 : decode cX4_pence 103 = .ok (.if_icmp .ne 13, 3) := dk_160 0 13 (dk_at dksX4_pence_4 8 rfl rfl)
theorem dX4_pence_106 : decode cX4_pence 106 = .ok (.iload 7, 2) := dk_21 7 (dk_at dksX4_pence_4 11 rfl rfl)
theorem dX4_pence_108 : decode cX4_pence 108 = .ok (.iload_n 2, 1) := dk_28 (dk_at dksX4_pence_4 13 rfl rfl)
theorem dX4_pence_109 : decode cX4_pence 109 = .ok (.if_icmp .ge 7, 3) := dk_162 0 7 (dk_at dksX4_pence_4 14 rfl rfl)
theorem dX4_pence_112 : decode cX4_pence 112 = .ok (.iconst 1, 1) := dk_4 (dk_at dksX4_pence_4 17 rfl rfl)
theorem dX4_pence_113 : decode cX4_pence 113 = .ok (.goto 4, 3) := dk_167 0 4 (dk_at dksX4_pence_4 18 rfl rfl)
theorem dX4_pence_116 : decode cX4_pence 116 = .ok (.iconst 0, 1) := dk_3 (dk_at dksX4_pence_4 21 rfl rfl)
theorem dX4_pence_117 : decode cX4_pence 117 = .ok (.iadd, 1) := dk_96 (dk_at dksX4_pence_4 22 rfl rfl)
theorem dX4_pence_118 : decode cX4_pence 118 = .ok (.istore 6, 2) := dk_54 6 (dk_at dksX4_pence_5 0 rfl rfl)
theorem dX4_pence_120 : decode cX4_pence 120 = .ok (.iinc 7 1, 3) := dk_132 7 1 (dk_at dksX4_pence_5 2 rfl rfl)
theorem dX4_pence_123 : decode cX4_pence 123 = .ok (.goto (-71), 3) := dk_167 255 185 (dk_at dksX4_pence_5 5 rfl rfl)
theorem dX4_pence_126 : decode cX4_pence 126 = .ok (.iload 4, 2) := dk_21 4 (dk_at dksX4_pence_5 8 rfl rfl)
theorem dX4_pence_128 : decode cX4_pence 128 = .ok (.iload_n 3, 1) := dk_29 (dk_at dksX4_pence_5 10 rfl rfl)
theorem dX4_pence_129 : decode cX4_pence 129 = .ok (.idiv, 1) := dk_108 (dk_at dksX4_pence_5 11 rfl rfl)
theorem dX4_pence_130 : decode cX4_pence 130 = .ok (.iload 6, 2) := dk_21 6 (dk_at dksX4_pence_5 12 rfl rfl)
theorem dX4_pence_132 : decode cX4_pence 132 = .ok (.iload 5, 2) := dk_21 5 (dk_at dksX4_pence_5 14 rfl rfl)
theorem dX4_pence_134 : decode cX4_pence 134 = .ok (.if_icmp .ge 7, 3) := dk_162 0 7 (dk_at dksX4_pence_5 16 rfl rfl)
theorem dX4_pence_137 : decode cX4_pence 137 = .ok (.iconst 1, 1) := dk_4 (dk_at dksX4_pence_5 19 rfl rfl)
theorem dX4_pence_138 : decode cX4_pence 138 = .ok (.goto 4, 3) := dk_167 0 4 (dk_at dksX4_pence_5 20 rfl rfl)
theorem dX4_pence_141 : decode cX4_pence 141 = .ok (.iconst 0, 1) := dk_3 (dk_at dksX4_pence_5 23 rfl rfl)
theorem dX4_pence_142 : decode cX4_pence 142 = .ok (.iadd, 1) := dk_96 (dk_at dksX4_pence_6 0 rfl rfl)
theorem dX4_pence_143 : decode cX4_pence 143 = .ok (.ireturn, 1) := dk_172 (dk_at dksX4_pence_6 1 rfl rfl)
abbrev cX4_note : ByteArray := prog_19_method_106_code
def yX4_note : MethodName := ⟨RX4, "note", "(III)I"⟩
def dkwX4_note_5 : List UInt8 := [16, 120, 46, 172]
abbrev dktX4_note_5 : List UInt8 := dkwX4_note_5 ++ []
def dkwX4_note_4 : List UInt8 := [180, 0, 39, 21, 4, 5, 96, 29, 79, 42, 180, 0, 39, 16, 120, 92, 46, 4, 96, 79, 42, 180, 0, 39]
abbrev dktX4_note_4 : List UInt8 := dkwX4_note_4 ++ dktX4_note_5
def dkwX4_note_3 : List UInt8 := [104, 96, 54, 4, 42, 180, 0, 39, 21, 4, 27, 79, 42, 180, 0, 39, 21, 4, 4, 96, 28, 79, 42]
abbrev dktX4_note_3 : List UInt8 := dkwX4_note_3 ++ dktX4_note_4
def dkwX4_note_2 : List UInt8 := [180, 0, 39, 16, 120, 46, 16, 10, 160, 0, 6, 16, 254, 172, 16, 90, 6, 42, 180, 0, 39, 16, 120, 46]
abbrev dktX4_note_2 : List UInt8 := dkwX4_note_2 ++ dktX4_note_3
def dkwX4_note_1 : List UInt8 := [153, 0, 35, 42, 28, 182, 1, 53, 153, 0, 27, 29, 133, 9, 20, 1, 187, 184, 0, 130, 153, 0, 15, 42]
abbrev dktX4_note_1 : List UInt8 := dkwX4_note_1 ++ dktX4_note_2
def dkwX4_note_0 : List UInt8 := [27, 2, 160, 0, 13, 42, 180, 0, 39, 16, 120, 3, 79, 3, 172, 27, 133, 9, 20, 1, 163, 184, 0, 130]
abbrev dktX4_note_0 : List UInt8 := dkwX4_note_0 ++ dktX4_note_1
theorem dksX4_note_0 : cX4_note.data.toList.drop 0 = dktX4_note_0 := by decide +kernel
theorem dksX4_note_1 : cX4_note.data.toList.drop 24 = dktX4_note_1 := dk_seg dksX4_note_0 24 rfl rfl
theorem dksX4_note_2 : cX4_note.data.toList.drop 48 = dktX4_note_2 := dk_seg dksX4_note_1 24 rfl rfl
theorem dksX4_note_3 : cX4_note.data.toList.drop 72 = dktX4_note_3 := dk_seg dksX4_note_2 24 rfl rfl
theorem dksX4_note_4 : cX4_note.data.toList.drop 95 = dktX4_note_4 := dk_seg dksX4_note_3 23 rfl rfl
theorem dksX4_note_5 : cX4_note.data.toList.drop 119 = dktX4_note_5 := dk_seg dksX4_note_4 24 rfl rfl
theorem dX4_note_0 : decode cX4_note 0 = .ok (.iload_n 1, 1) := dk_27 (dk_at dksX4_note_0 0 rfl rfl)
theorem dX4_note_1 : decode cX4_note 1 = .ok (.iconst (-1), 1) := dk_2 (dk_at dksX4_note_0 1 rfl rfl)
theorem dX4_note_2 : decode cX4_note 2 = .ok (.if_icmp .ne 13, 3) := dk_160 0 13 (dk_at dksX4_note_0 2 rfl rfl)
theorem dX4_note_5 : decode cX4_note 5 = .ok (.aload_n 0, 1) := dk_42 (dk_at dksX4_note_0 5 rfl rfl)
theorem dX4_note_6 : decode cX4_note 6 = .ok (.getfield 39, 3) := dk_180 0 39 (dk_at dksX4_note_0 6 rfl rfl)
theorem dX4_note_9 : decode cX4_note 9 = .ok (.bipush 120, 2) := dk_16 120 (dk_at dksX4_note_0 9 rfl rfl)
theorem dX4_note_11 : decode cX4_note 11 = .ok (.iconst 0, 1) := dk_3 (dk_at dksX4_note_0 11 rfl rfl)
theorem dX4_note_12 : decode cX4_note 12 = .ok (.iastore, 1) := dk_79 (dk_at dksX4_note_0 12 rfl rfl)
theorem dX4_note_13 : decode cX4_note 13 = .ok (.iconst 0, 1) := dk_3 (dk_at dksX4_note_0 13 rfl rfl)
theorem dX4_note_14 : decode cX4_note 14 = .ok (.ireturn, 1) := dk_172 (dk_at dksX4_note_0 14 rfl rfl)
theorem dX4_note_15 : decode cX4_note 15 = .ok (.iload_n 1, 1) := dk_27 (dk_at dksX4_note_0 15 rfl rfl)
theorem dX4_note_16 : decode cX4_note 16 = .ok (.i2l, 1) := dk_133 (dk_at dksX4_note_0 16 rfl rfl)
theorem dX4_note_17 : decode cX4_note 17 = .ok (.lconst 0, 1) := dk_9 (dk_at dksX4_note_0 17 rfl rfl)
theorem dX4_note_18 : decode cX4_note 18 = .ok (.ldc2_w 419, 3) := dk_20 1 163 (dk_at dksX4_note_0 18 rfl rfl)
theorem dX4_note_21 : decode cX4_note 21 = .ok (.invokestatic 130, 3) := dk_184 0 130 (dk_at dksX4_note_0 21 rfl rfl)
theorem dX4_note_24 : decode cX4_note 24 = .ok (.ifCond .eq 35, 3) := dk_153 0 35 (dk_at dksX4_note_1 0 rfl rfl)
theorem dX4_note_27 : decode cX4_note 27 = .ok (.aload_n 0, 1) := dk_42 (dk_at dksX4_note_1 3 rfl rfl)
theorem dX4_note_28 : decode cX4_note 28 = .ok (.iload_n 2, 1) := dk_28 (dk_at dksX4_note_1 4 rfl rfl)
theorem dX4_note_29 : decode cX4_note 29 = .ok (.invokevirtual 309, 3) := dk_182 1 53 (dk_at dksX4_note_1 5 rfl rfl)
theorem dX4_note_32 : decode cX4_note 32 = .ok (.ifCond .eq 27, 3) := dk_153 0 27 (dk_at dksX4_note_1 8 rfl rfl)
theorem dX4_note_35 : decode cX4_note 35 = .ok (.iload_n 3, 1) := dk_29 (dk_at dksX4_note_1 11 rfl rfl)
theorem dX4_note_36 : decode cX4_note 36 = .ok (.i2l, 1) := dk_133 (dk_at dksX4_note_1 12 rfl rfl)
theorem dX4_note_37 : decode cX4_note 37 = .ok (.lconst 0, 1) := dk_9 (dk_at dksX4_note_1 13 rfl rfl)
theorem dX4_note_38 : decode cX4_note 38 = .ok (.ldc2_w 443, 3) := dk_20 1 187 (dk_at dksX4_note_1 14 rfl rfl)
theorem dX4_note_41 : decode cX4_note 41 = .ok (.invokestatic 130, 3) := dk_184 0 130 (dk_at dksX4_note_1 17 rfl rfl)
theorem dX4_note_44 : decode cX4_note 44 = .ok (.ifCond .eq 15, 3) := dk_153 0 15 (dk_at dksX4_note_1 20 rfl rfl)
theorem dX4_note_47 : decode cX4_note 47 = .ok (.aload_n 0, 1) := dk_42 (dk_at dksX4_note_1 23 rfl rfl)
theorem dX4_note_48 : decode cX4_note 48 = .ok (.getfield 39, 3) := dk_180 0 39 (dk_at dksX4_note_2 0 rfl rfl)
theorem dX4_note_51 : decode cX4_note 51 = .ok (.bipush 120, 2) := dk_16 120 (dk_at dksX4_note_2 3 rfl rfl)
theorem dX4_note_53 : decode cX4_note 53 = .ok (.iaload, 1) := dk_46 (dk_at dksX4_note_2 5 rfl rfl)
theorem dX4_note_54 : decode cX4_note 54 = .ok (.bipush 10, 2) := dk_16 10 (dk_at dksX4_note_2 6 rfl rfl)
theorem dX4_note_56 : decode cX4_note 56 = .ok (.if_icmp .ne 6, 3) := dk_160 0 6 (dk_at dksX4_note_2 8 rfl rfl)
theorem dX4_note_59 : decode cX4_note 59 = .ok (.bipush (-2), 2) := dk_16 254 (dk_at dksX4_note_2 11 rfl rfl)
theorem dX4_note_61 : decode cX4_note 61 = .ok (.ireturn, 1) := dk_172 (dk_at dksX4_note_2 13 rfl rfl)
theorem dX4_note_62 : decode cX4_note 62 = .ok (.bipush 90, 2) := dk_16 90 (dk_at dksX4_note_2 14 rfl rfl)
theorem dX4_note_64 : decode cX4_note 64 = .ok (.iconst 3, 1) := dk_6 (dk_at dksX4_note_2 16 rfl rfl)
theorem dX4_note_65 : decode cX4_note 65 = .ok (.aload_n 0, 1) := dk_42 (dk_at dksX4_note_2 17 rfl rfl)
theorem dX4_note_66 : decode cX4_note 66 = .ok (.getfield 39, 3) := dk_180 0 39 (dk_at dksX4_note_2 18 rfl rfl)
theorem dX4_note_69 : decode cX4_note 69 = .ok (.bipush 120, 2) := dk_16 120 (dk_at dksX4_note_2 21 rfl rfl)
theorem dX4_note_71 : decode cX4_note 71 = .ok (.iaload, 1) := dk_46 (dk_at dksX4_note_2 23 rfl rfl)
theorem dX4_note_72 : decode cX4_note 72 = .ok (.imul, 1) := dk_104 (dk_at dksX4_note_3 0 rfl rfl)
theorem dX4_note_73 : decode cX4_note 73 = .ok (.iadd, 1) := dk_96 (dk_at dksX4_note_3 1 rfl rfl)
theorem dX4_note_74 : decode cX4_note 74 = .ok (.istore 4, 2) := dk_54 4 (dk_at dksX4_note_3 2 rfl rfl)
theorem dX4_note_76 : decode cX4_note 76 = .ok (.aload_n 0, 1) := dk_42 (dk_at dksX4_note_3 4 rfl rfl)
theorem dX4_note_77 : decode cX4_note 77 = .ok (.getfield 39, 3) := dk_180 0 39 (dk_at dksX4_note_3 5 rfl rfl)
theorem dX4_note_80 : decode cX4_note 80 = .ok (.iload 4, 2) := dk_21 4 (dk_at dksX4_note_3 8 rfl rfl)
theorem dX4_note_82 : decode cX4_note 82 = .ok (.iload_n 1, 1) := dk_27 (dk_at dksX4_note_3 10 rfl rfl)
theorem dX4_note_83 : decode cX4_note 83 = .ok (.iastore, 1) := dk_79 (dk_at dksX4_note_3 11 rfl rfl)
theorem dX4_note_84 : decode cX4_note 84 = .ok (.aload_n 0, 1) := dk_42 (dk_at dksX4_note_3 12 rfl rfl)
theorem dX4_note_85 : decode cX4_note 85 = .ok (.getfield 39, 3) := dk_180 0 39 (dk_at dksX4_note_3 13 rfl rfl)
theorem dX4_note_88 : decode cX4_note 88 = .ok (.iload 4, 2) := dk_21 4 (dk_at dksX4_note_3 16 rfl rfl)
theorem dX4_note_90 : decode cX4_note 90 = .ok (.iconst 1, 1) := dk_4 (dk_at dksX4_note_3 18 rfl rfl)
theorem dX4_note_91 : decode cX4_note 91 = .ok (.iadd, 1) := dk_96 (dk_at dksX4_note_3 19 rfl rfl)
theorem dX4_note_92 : decode cX4_note 92 = .ok (.iload_n 2, 1) := dk_28 (dk_at dksX4_note_3 20 rfl rfl)
theorem dX4_note_93 : decode cX4_note 93 = .ok (.iastore, 1) := dk_79 (dk_at dksX4_note_3 21 rfl rfl)
theorem dX4_note_94 : decode cX4_note 94 = .ok (.aload_n 0, 1) := dk_42 (dk_at dksX4_note_3 22 rfl rfl)
theorem dX4_note_95 : decode cX4_note 95 = .ok (.getfield 39, 3) := dk_180 0 39 (dk_at dksX4_note_4 0 rfl rfl)
theorem dX4_note_98 : decode cX4_note 98 = .ok (.iload 4, 2) := dk_21 4 (dk_at dksX4_note_4 3 rfl rfl)
theorem dX4_note_100 : decode cX4_note 100 = .ok (.iconst 2, 1) := dk_5 (dk_at dksX4_note_4 5 rfl rfl)
theorem dX4_note_101 : decode cX4_note 101 = .ok (.iadd, 1) := dk_96 (dk_at dksX4_note_4 6 rfl rfl)
theorem dX4_note_102 : decode cX4_note 102 = .ok (.iload_n 3, 1) := dk_29 (dk_at dksX4_note_4 7 rfl rfl)
theorem dX4_note_103 : decode cX4_note 103 = .ok (.iastore, 1) := dk_79 (dk_at dksX4_note_4 8 rfl rfl)
theorem dX4_note_104 : decode cX4_note 104 = .ok (.aload_n 0, 1) := dk_42 (dk_at dksX4_note_4 9 rfl rfl)
theorem dX4_note_105 : decode cX4_note 105 = .ok (.getfield 39, 3) := dk_180 0 39 (dk_at dksX4_note_4 10 rfl rfl)
theorem dX4_note_108 : decode cX4_note 108 = .ok (.bipush 120, 2) := dk_16 120 (dk_at dksX4_note_4 13 rfl rfl)
theorem dX4_note_110 : decode cX4_note 110 = .ok (.dup2, 1) := dk_92 (dk_at dksX4_note_4 15 rfl rfl)
theorem dX4_note_111 : decode cX4_note 111 = .ok (.iaload, 1) := dk_46 (dk_at dksX4_note_4 16 rfl rfl)
theorem dX4_note_112 : decode cX4_note 112 = .ok (.iconst 1, 1) := dk_4 (dk_at dksX4_note_4 17 rfl rfl)
theorem dX4_note_113 : decode cX4_note 113 = .ok (.iadd, 1) := dk_96 (dk_at dksX4_note_4 18 rfl rfl)
theorem dX4_note_114 : decode cX4_note 114 = .ok (.iastore, 1) := dk_79 (dk_at dksX4_note_4 19 rfl rfl)
theorem dX4_note_115 : decode cX4_note 115 = .ok (.aload_n 0, 1) := dk_42 (dk_at dksX4_note_4 20 rfl rfl)
theorem dX4_note_116 : decode cX4_note 116 = .ok (.getfield 39, 3) := dk_180 0 39 (dk_at dksX4_note_4 21 rfl rfl)
theorem dX4_note_119 : decode cX4_note 119 = .ok (.bipush 120, 2) := dk_16 120 (dk_at dksX4_note_5 0 rfl rfl)
theorem dX4_note_121 : decode cX4_note 121 = .ok (.iaload, 1) := dk_46 (dk_at dksX4_note_5 2 rfl rfl)
theorem dX4_note_122 : decode cX4_note 122 = .ok (.ireturn, 1) := dk_172 (dk_at dksX4_note_5 3 rfl rfl)
abbrev cX4_ruled : ByteArray := prog_19_method_109_code
def yX4_ruled : MethodName := ⟨RX4, "ruled", "(I)I"⟩
def dkwX4_ruled_3 : List UInt8 := [154, 0, 7, 28, 167, 0, 4, 29, 172]
abbrev dktX4_ruled_3 : List UInt8 := dkwX4_ruled_3 ++ []
def dkwX4_ruled_2 : List UInt8 := [21, 4, 51, 154, 0, 6, 167, 0, 11, 21, 4, 4, 100, 62, 132, 2, 1, 132, 4, 255, 167, 255, 227, 27]
abbrev dktX4_ruled_2 : List UInt8 := dkwX4_ruled_2 ++ dktX4_ruled_3
def dkwX4_ruled_1 : List UInt8 := [182, 1, 192, 3, 61, 16, 254, 62, 42, 180, 1, 11, 54, 4, 21, 4, 155, 0, 30, 42, 180, 0, 73]
abbrev dktX4_ruled_1 : List UInt8 := dkwX4_ruled_1 ++ dktX4_ruled_2
def dkwX4_ruled_0 : List UInt8 := [42, 182, 1, 38, 153, 0, 13, 27, 133, 9, 10, 184, 0, 130, 154, 0, 6, 16, 253, 172, 42, 3]
abbrev dktX4_ruled_0 : List UInt8 := dkwX4_ruled_0 ++ dktX4_ruled_1
theorem dksX4_ruled_0 : cX4_ruled.data.toList.drop 0 = dktX4_ruled_0 := by decide +kernel
theorem dksX4_ruled_1 : cX4_ruled.data.toList.drop 22 = dktX4_ruled_1 := dk_seg dksX4_ruled_0 22 rfl rfl
theorem dksX4_ruled_2 : cX4_ruled.data.toList.drop 45 = dktX4_ruled_2 := dk_seg dksX4_ruled_1 23 rfl rfl
theorem dksX4_ruled_3 : cX4_ruled.data.toList.drop 69 = dktX4_ruled_3 := dk_seg dksX4_ruled_2 24 rfl rfl
theorem dX4_ruled_0 : decode cX4_ruled 0 = .ok (.aload_n 0, 1) := dk_42 (dk_at dksX4_ruled_0 0 rfl rfl)
theorem dX4_ruled_1 : decode cX4_ruled 1 = .ok (.invokevirtual 294, 3) := dk_182 1 38 (dk_at dksX4_ruled_0 1 rfl rfl)
theorem dX4_ruled_4 : decode cX4_ruled 4 = .ok (.ifCond .eq 13, 3) := dk_153 0 13 (dk_at dksX4_ruled_0 4 rfl rfl)
theorem dX4_ruled_7 : decode cX4_ruled 7 = .ok (.iload_n 1, 1) := dk_27 (dk_at dksX4_ruled_0 7 rfl rfl)
theorem dX4_ruled_8 : decode cX4_ruled 8 = .ok (.i2l, 1) := dk_133 (dk_at dksX4_ruled_0 8 rfl rfl)
theorem dX4_ruled_9 : decode cX4_ruled 9 = .ok (.lconst 0, 1) := dk_9 (dk_at dksX4_ruled_0 9 rfl rfl)
theorem dX4_ruled_10 : decode cX4_ruled 10 = .ok (.lconst 1, 1) := dk_10 (dk_at dksX4_ruled_0 10 rfl rfl)
theorem dX4_ruled_11 : decode cX4_ruled 11 = .ok (.invokestatic 130, 3) := dk_184 0 130 (dk_at dksX4_ruled_0 11 rfl rfl)
theorem dX4_ruled_14 : decode cX4_ruled 14 = .ok (.ifCond .ne 6, 3) := dk_154 0 6 (dk_at dksX4_ruled_0 14 rfl rfl)
theorem dX4_ruled_17 : decode cX4_ruled 17 = .ok (.bipush (-3), 2) := dk_16 253 (dk_at dksX4_ruled_0 17 rfl rfl)
theorem dX4_ruled_19 : decode cX4_ruled 19 = .ok (.ireturn, 1) := dk_172 (dk_at dksX4_ruled_0 19 rfl rfl)
theorem dX4_ruled_20 : decode cX4_ruled 20 = .ok (.aload_n 0, 1) := dk_42 (dk_at dksX4_ruled_0 20 rfl rfl)
theorem dX4_ruled_21 : decode cX4_ruled 21 = .ok (.iconst 0, 1) := dk_3 (dk_at dksX4_ruled_0 21 rfl rfl)
theorem dX4_ruled_22 : decode cX4_ruled 22 = .ok (.invokevirtual 448, 3) := dk_182 1 192 (dk_at dksX4_ruled_1 0 rfl rfl)
theorem dX4_ruled_25 : decode cX4_ruled 25 = .ok (.iconst 0, 1) := dk_3 (dk_at dksX4_ruled_1 3 rfl rfl)
theorem dX4_ruled_26 : decode cX4_ruled 26 = .ok (.istore_n 2, 1) := dk_61 (dk_at dksX4_ruled_1 4 rfl rfl)
theorem dX4_ruled_27 : decode cX4_ruled 27 = .ok (.bipush (-2), 2) := dk_16 254 (dk_at dksX4_ruled_1 5 rfl rfl)
theorem dX4_ruled_29 : decode cX4_ruled 29 = .ok (.istore_n 3, 1) := dk_62 (dk_at dksX4_ruled_1 7 rfl rfl)
theorem dX4_ruled_30 : decode cX4_ruled 30 = .ok (.aload_n 0, 1) := dk_42 (dk_at dksX4_ruled_1 8 rfl rfl)
theorem dX4_ruled_31 : decode cX4_ruled 31 = .ok (.getfield 267, 3) := dk_180 1 11 (dk_at dksX4_ruled_1 9 rfl rfl)
theorem dX4_ruled_34 : decode cX4_ruled 34 = .ok (.istore 4, 2) := dk_54 4 (dk_at dksX4_ruled_1 12 rfl rfl)
theorem dX4_ruled_36 : decode cX4_ruled 36 = .ok (.iload 4, 2) := dk_21 4 (dk_at dksX4_ruled_1 14 rfl rfl)
theorem dX4_ruled_38 : decode cX4_ruled 38 = .ok (.ifCond .lt 30, 3) := dk_155 0 30 (dk_at dksX4_ruled_1 16 rfl rfl)
theorem dX4_ruled_41 : decode cX4_ruled 41 = .ok (.aload_n 0, 1) := dk_42 (dk_at dksX4_ruled_1 19 rfl rfl)
theorem dX4_ruled_42 : decode cX4_ruled 42 = .ok (.getfield 73, 3) := dk_180 0 73 (dk_at dksX4_ruled_1 20 rfl rfl)
theorem dX4_ruled_45 : decode cX4_ruled 45 = .ok (.iload 4, 2) := dk_21 4 (dk_at dksX4_ruled_2 0 rfl rfl)
theorem dX4_ruled_47 : decode cX4_ruled 47 = .ok (.baload, 1) := dk_51 (dk_at dksX4_ruled_2 2 rfl rfl)
theorem dX4_ruled_48 : decode cX4_ruled 48 = .ok (.ifCond .ne 6, 3) := dk_154 0 6 (dk_at dksX4_ruled_2 3 rfl rfl)
theorem dX4_ruled_51 : decode cX4_ruled 51 = .ok (.goto 11, 3) := dk_167 0 11 (dk_at dksX4_ruled_2 6 rfl rfl)
theorem dX4_ruled_54 : decode cX4_ruled 54 = .ok (.iload 4, 2) := dk_21 4 (dk_at dksX4_ruled_2 9 rfl rfl)
theorem dX4_ruled_56 : decode cX4_ruled 56 = .ok (.iconst 1, 1) := dk_4 (dk_at dksX4_ruled_2 11 rfl rfl)
theorem dX4_ruled_57 : decode cX4_ruled 57 = .ok (.isub, 1) := dk_100 (dk_at dksX4_ruled_2 12 rfl rfl)
theorem dX4_ruled_58 : decode cX4_ruled 58 = .ok (.istore_n 3, 1) := dk_62 (dk_at dksX4_ruled_2 13 rfl rfl)
theorem dX4_ruled_59 : decode cX4_ruled 59 = .ok (.iinc 2 1, 3) := dk_132 2 1 (dk_at dksX4_ruled_2 14 rfl rfl)
theorem dX4_ruled_62 : decode cX4_ruled 62 = .ok (.iinc 4 (-1), 3) := dk_132 4 255 (dk_at dksX4_ruled_2 17 rfl rfl)
theorem dX4_ruled_65 : decode cX4_ruled 65 = .ok (.goto (-29), 3) := dk_167 255 227 (dk_at dksX4_ruled_2 20 rfl rfl)
theorem dX4_ruled_68 : decode cX4_ruled 68 = .ok (.iload_n 1, 1) := dk_27 (dk_at dksX4_ruled_2 23 rfl rfl)
theorem dX4_ruled_69 : decode cX4_ruled 69 = .ok (.ifCond .ne 7, 3) := dk_154 0 7 (dk_at dksX4_ruled_3 0 rfl rfl)
theorem dX4_ruled_72 : decode cX4_ruled 72 = .ok (.iload_n 2, 1) := dk_28 (dk_at dksX4_ruled_3 3 rfl rfl)
theorem dX4_ruled_73 : decode cX4_ruled 73 = .ok (.goto 4, 3) := dk_167 0 4 (dk_at dksX4_ruled_3 4 rfl rfl)
theorem dX4_ruled_76 : decode cX4_ruled 76 = .ok (.iload_n 3, 1) := dk_29 (dk_at dksX4_ruled_3 7 rfl rfl)
theorem dX4_ruled_77 : decode cX4_ruled 77 = .ok (.ireturn, 1) := dk_172 (dk_at dksX4_ruled_3 8 rfl rfl)
abbrev cX4_fillsFits : ByteArray := prog_19_method_108_code
def yX4_fillsFits : MethodName := ⟨RX4, "fillsFits", "(I)V"⟩
def dkwX4_fillsFits_6 : List UInt8 := [182, 1, 126, 177]
abbrev dktX4_fillsFits_6 : List UInt8 := dkwX4_fillsFits_6 ++ []
def dkwX4_fillsFits_5 : List UInt8 := [167, 255, 175, 42, 180, 0, 73, 29, 21, 4, 84, 132, 3, 1, 167, 255, 136, 42, 28, 181, 0, 42, 42]
abbrev dktX4_fillsFits_5 : List UInt8 := dkwX4_fillsFits_5 ++ dktX4_fillsFits_6
def dkwX4_fillsFits_4 : List UInt8 := [16, 6, 29, 104, 21, 6, 96, 42, 180, 0, 52, 21, 6, 46, 79, 132, 6, 1, 167, 255, 217, 132, 5, 1]
abbrev dktX4_fillsFits_4 : List UInt8 := dkwX4_fillsFits_4 ++ dktX4_fillsFits_5
def dkwX4_fillsFits_3 : List UInt8 := [54, 6, 21, 6, 42, 180, 0, 39, 6, 46, 162, 0, 34, 21, 5, 27, 160, 0, 28, 42, 180, 0, 77]
abbrev dktX4_fillsFits_3 : List UInt8 := dkwX4_fillsFits_3 ++ dktX4_fillsFits_4
def dkwX4_fillsFits_2 : List UInt8 := [87, 21, 4, 153, 0, 16, 42, 21, 5, 182, 1, 189, 153, 0, 7, 4, 167, 0, 4, 3, 54, 4, 3]
abbrev dktX4_fillsFits_2 : List UInt8 := dkwX4_fillsFits_2 ++ dktX4_fillsFits_3
def dkwX4_fillsFits_1 : List UInt8 := [181, 0, 42, 42, 182, 1, 17, 4, 54, 4, 3, 54, 5, 21, 5, 16, 60, 163, 0, 80, 42, 182, 1, 106]
abbrev dktX4_fillsFits_1 : List UInt8 := dkwX4_fillsFits_1 ++ dktX4_fillsFits_2
def dkwX4_fillsFits_0 : List UInt8 := [42, 180, 0, 42, 61, 42, 182, 1, 120, 3, 62, 29, 42, 180, 1, 11, 163, 0, 118, 42, 29, 4, 100]
abbrev dktX4_fillsFits_0 : List UInt8 := dkwX4_fillsFits_0 ++ dktX4_fillsFits_1
theorem dksX4_fillsFits_0 : cX4_fillsFits.data.toList.drop 0 = dktX4_fillsFits_0 := by decide +kernel
theorem dksX4_fillsFits_1 : cX4_fillsFits.data.toList.drop 23 = dktX4_fillsFits_1 := dk_seg dksX4_fillsFits_0 23 rfl rfl
theorem dksX4_fillsFits_2 : cX4_fillsFits.data.toList.drop 47 = dktX4_fillsFits_2 := dk_seg dksX4_fillsFits_1 24 rfl rfl
theorem dksX4_fillsFits_3 : cX4_fillsFits.data.toList.drop 70 = dktX4_fillsFits_3 := dk_seg dksX4_fillsFits_2 23 rfl rfl
theorem dksX4_fillsFits_4 : cX4_fillsFits.data.toList.drop 93 = dktX4_fillsFits_4 := dk_seg dksX4_fillsFits_3 23 rfl rfl
theorem dksX4_fillsFits_5 : cX4_fillsFits.data.toList.drop 117 = dktX4_fillsFits_5 := dk_seg dksX4_fillsFits_4 24 rfl rfl
theorem dksX4_fillsFits_6 : cX4_fillsFits.data.toList.drop 140 = dktX4_fillsFits_6 := dk_seg dksX4_fillsFits_5 23 rfl rfl
theorem dX4_fillsFits_0 : decode cX4_fillsFits 0 = .ok (.aload_n 0, 1) := dk_42 (dk_at dksX4_fillsFits_0 0 rfl rfl)
theorem dX4_fillsFits_1 : decode cX4_fillsFits 1 = .ok (.getfield 42, 3) := dk_180 0 42 (dk_at dksX4_fillsFits_0 1 rfl rfl)
theorem dX4_fillsFits_4 : decode cX4_fillsFits 4 = .ok (.istore_n 2, 1) := dk_61 (dk_at dksX4_fillsFits_0 4 rfl rfl)
theorem dX4_fillsFits_5 : decode cX4_fillsFits 5 = .ok (.aload_n 0, 1) := dk_42 (dk_at dksX4_fillsFits_0 5 rfl rfl)
theorem dX4_fillsFits_6 : decode cX4_fillsFits 6 = .ok (.invokevirtual 376, 3) := dk_182 1 120 (dk_at dksX4_fillsFits_0 6 rfl rfl)
theorem dX4_fillsFits_9 : decode cX4_fillsFits 9 = .ok (.iconst 0, 1) := dk_3 (dk_at dksX4_fillsFits_0 9 rfl rfl)
theorem dX4_fillsFits_10 : decode cX4_fillsFits 10 = .ok (.istore_n 3, 1) := dk_62 (dk_at dksX4_fillsFits_0 10 rfl rfl)
theorem dX4_fillsFits_11 : decode cX4_fillsFits 11 = .ok (.iload_n 3, 1) := dk_29 (dk_at dksX4_fillsFits_0 11 rfl rfl)
theorem dX4_fillsFits_12 : decode cX4_fillsFits 12 = .ok (.aload_n 0, 1) := dk_42 (dk_at dksX4_fillsFits_0 12 rfl rfl)
theorem dX4_fillsFits_13 : decode cX4_fillsFits 13 = .ok (.getfield 267, 3) := dk_180 1 11 (dk_at dksX4_fillsFits_0 13 rfl rfl)
theorem dX4_fillsFits_16 : decode cX4_fillsFits 16 = .ok (.if_icmp .gt 118, 3) := dk_163 0 118 (dk_at dksX4_fillsFits_0 16 rfl rfl)
theorem dX4_fillsFits_19 : decode cX4_fillsFits 19 = .ok (.aload_n 0, 1) := dk_42 (dk_at dksX4_fillsFits_0 19 rfl rfl)
theorem dX4_fillsFits_20 : decode cX4_fillsFits 20 = .ok (.iload_n 3, 1) := dk_29 (dk_at dksX4_fillsFits_0 20 rfl rfl)
theorem dX4_fillsFits_21 : decode cX4_fillsFits 21 = .ok (.iconst 1, 1) := dk_4 (dk_at dksX4_fillsFits_0 21 rfl rfl)
theorem dX4_fillsFits_22 : decode cX4_fillsFits 22 = .ok (.isub, 1) := dk_100 (dk_at dksX4_fillsFits_0 22 rfl rfl)
theorem dX4_fillsFits_23 : decode cX4_fillsFits 23 = .ok (.putfield 42, 3) := dk_181 0 42 (dk_at dksX4_fillsFits_1 0 rfl rfl)
theorem dX4_fillsFits_26 : decode cX4_fillsFits 26 = .ok (.aload_n 0, 1) := dk_42 (dk_at dksX4_fillsFits_1 3 rfl rfl)
theorem dX4_fillsFits_27 : decode cX4_fillsFits 27 = .ok (.invokevirtual 273, 3) := dk_182 1 17 (dk_at dksX4_fillsFits_1 4 rfl rfl)
theorem dX4_fillsFits_30 : decode cX4_fillsFits 30 = .ok (.iconst 1, 1) := dk_4 (dk_at dksX4_fillsFits_1 7 rfl rfl)
theorem dX4_fillsFits_31 : decode cX4_fillsFits 31 = .ok (.istore 4, 2) := dk_54 4 (dk_at dksX4_fillsFits_1 8 rfl rfl)
theorem dX4_fillsFits_33 : decode cX4_fillsFits 33 = .ok (.iconst 0, 1) := dk_3 (dk_at dksX4_fillsFits_1 10 rfl rfl)
theorem dX4_fillsFits_34 : decode cX4_fillsFits 34 = .ok (.istore 5, 2) := dk_54 5 (dk_at dksX4_fillsFits_1 11 rfl rfl)
theorem dX4_fillsFits_36 : decode cX4_fillsFits 36 = .ok (.iload 5, 2) := dk_21 5 (dk_at dksX4_fillsFits_1 13 rfl rfl)
theorem dX4_fillsFits_38 : decode cX4_fillsFits 38 = .ok (.bipush 60, 2) := dk_16 60 (dk_at dksX4_fillsFits_1 15 rfl rfl)
theorem dX4_fillsFits_40 : decode cX4_fillsFits 40 = .ok (.if_icmp .gt 80, 3) := dk_163 0 80 (dk_at dksX4_fillsFits_1 17 rfl rfl)
theorem dX4_fillsFits_43 : decode cX4_fillsFits 43 = .ok (.aload_n 0, 1) := dk_42 (dk_at dksX4_fillsFits_1 20 rfl rfl)
theorem dX4_fillsFits_44 : decode cX4_fillsFits 44 = .ok (.invokevirtual 362, 3) := dk_182 1 106 (dk_at dksX4_fillsFits_1 21 rfl rfl)
theorem dX4_fillsFits_47 : decode cX4_fillsFits 47 = .ok (.pop, 1) := dk_87 (dk_at dksX4_fillsFits_2 0 rfl rfl)
theorem dX4_fillsFits_48 : decode cX4_fillsFits 48 = .ok (.iload 4, 2) := dk_21 4 (dk_at dksX4_fillsFits_2 1 rfl rfl)
theorem dX4_fillsFits_50 : decode cX4_fillsFits 50 = .ok (.ifCond .eq 16, 3) := dk_153 0 16 (dk_at dksX4_fillsFits_2 3 rfl rfl)
theorem dX4_fillsFits_53 : decode cX4_fillsFits 53 = .ok (.aload_n 0, 1) := dk_42 (dk_at dksX4_fillsFits_2 6 rfl rfl)
theorem dX4_fillsFits_54 : decode cX4_fillsFits 54 = .ok (.iload 5, 2) := dk_21 5 (dk_at dksX4_fillsFits_2 7 rfl rfl)
theorem dX4_fillsFits_56 : decode cX4_fillsFits 56 = .ok (.invokevirtual 445, 3) := dk_182 1 189 (dk_at dksX4_fillsFits_2 9 rfl rfl)
theorem dX4_fillsFits_59 : decode cX4_fillsFits 59 = .ok (.ifCond .eq 7, 3) := dk_153 0 7 (dk_at dksX4_fillsFits_2 12 rfl rfl)
theorem dX4_fillsFits_62 : decode cX4_fillsFits 62 = .ok (.iconst 1, 1) := dk_4 (dk_at dksX4_fillsFits_2 15 rfl rfl)
theorem dX4_fillsFits_63 : decode cX4_fillsFits 63 = .ok (.goto 4, 3) := dk_167 0 4 (dk_at dksX4_fillsFits_2 16 rfl rfl)
theorem dX4_fillsFits_66 : decode cX4_fillsFits 66 = .ok (.iconst 0, 1) := dk_3 (dk_at dksX4_fillsFits_2 19 rfl rfl)
theorem dX4_fillsFits_67 : decode cX4_fillsFits 67 = .ok (.istore 4, 2) := dk_54 4 (dk_at dksX4_fillsFits_2 20 rfl rfl)
theorem dX4_fillsFits_69 : decode cX4_fillsFits 69 = .ok (.iconst 0, 1) := dk_3 (dk_at dksX4_fillsFits_2 22 rfl rfl)
theorem dX4_fillsFits_70 : decode cX4_fillsFits 70 = .ok (.istore 6, 2) := dk_54 6 (dk_at dksX4_fillsFits_3 0 rfl rfl)
theorem dX4_fillsFits_72 : decode cX4_fillsFits 72 = .ok (.iload 6, 2) := dk_21 6 (dk_at dksX4_fillsFits_3 2 rfl rfl)
theorem dX4_fillsFits_74 : decode cX4_fillsFits 74 = .ok (.aload_n 0, 1) := dk_42 (dk_at dksX4_fillsFits_3 4 rfl rfl)
theorem dX4_fillsFits_75 : decode cX4_fillsFits 75 = .ok (.getfield 39, 3) := dk_180 0 39 (dk_at dksX4_fillsFits_3 5 rfl rfl)
theorem dX4_fillsFits_78 : decode cX4_fillsFits 78 = .ok (.iconst 3, 1) := dk_6 (dk_at dksX4_fillsFits_3 8 rfl rfl)
theorem dX4_fillsFits_79 : decode cX4_fillsFits 79 = .ok (.iaload, 1) := dk_46 (dk_at dksX4_fillsFits_3 9 rfl rfl)
theorem dX4_fillsFits_80 : decode cX4_fillsFits 80 = .ok (.if_icmp .ge 34, 3) := dk_162 0 34 (dk_at dksX4_fillsFits_3 10 rfl rfl)
theorem dX4_fillsFits_83 : decode cX4_fillsFits 83 = .ok (.iload 5, 2) := dk_21 5 (dk_at dksX4_fillsFits_3 13 rfl rfl)
theorem dX4_fillsFits_85 : decode cX4_fillsFits 85 = .ok (.iload_n 1, 1) := dk_27 (dk_at dksX4_fillsFits_3 15 rfl rfl)
theorem dX4_fillsFits_86 : decode cX4_fillsFits 86 = .ok (.if_icmp .ne 28, 3) := dk_160 0 28 (dk_at dksX4_fillsFits_3 16 rfl rfl)
theorem dX4_fillsFits_89 : decode cX4_fillsFits 89 = .ok (.aload_n 0, 1) := dk_42 (dk_at dksX4_fillsFits_3 19 rfl rfl)
theorem dX4_fillsFits_90 : decode cX4_fillsFits 90 = .ok (.getfield 77, 3) := dk_180 0 77 (dk_at dksX4_fillsFits_3 20 rfl rfl)
theorem dX4_fillsFits_93 : decode cX4_fillsFits 93 = .ok (.bipush 6, 2) := dk_16 6 (dk_at dksX4_fillsFits_4 0 rfl rfl)
theorem dX4_fillsFits_95 : decode cX4_fillsFits 95 = .ok (.iload_n 3, 1) := dk_29 (dk_at dksX4_fillsFits_4 2 rfl rfl)
theorem dX4_fillsFits_96 : decode cX4_fillsFits 96 = .ok (.imul, 1) := dk_104 (dk_at dksX4_fillsFits_4 3 rfl rfl)
theorem dX4_fillsFits_97 : decode cX4_fillsFits 97 = .ok (.iload 6, 2) := dk_21 6 (dk_at dksX4_fillsFits_4 4 rfl rfl)
theorem dX4_fillsFits_99 : decode cX4_fillsFits 99 = .ok (.iadd, 1) := dk_96 (dk_at dksX4_fillsFits_4 6 rfl rfl)
theorem dX4_fillsFits_100 : decode cX4_fillsFits 100 = .ok (.aload_n 0, 1) := dk_42 (dk_at dksX4_fillsFits_4 7 rfl rfl)
theorem dX4_fillsFits_101 : decode cX4_fillsFits 101 = .ok (.getfield 52, 3) := dk_180 0 52 (dk_at dksX4_fillsFits_4 8 rfl rfl)
theorem dX4_fillsFits_104 : decode cX4_fillsFits 104 = .ok (.iload 6, 2) := dk_21 6 (dk_at dksX4_fillsFits_4 11 rfl rfl)
theorem dX4_fillsFits_106 : decode cX4_fillsFits 106 = .ok (.iaload, 1) := dk_46 (dk_at dksX4_fillsFits_4 13 rfl rfl)
theorem dX4_fillsFits_107 : decode cX4_fillsFits 107 = .ok (.iastore, 1) := dk_79 (dk_at dksX4_fillsFits_4 14 rfl rfl)
theorem dX4_fillsFits_108 : decode cX4_fillsFits 108 = .ok (.iinc 6 1, 3) := dk_132 6 1 (dk_at dksX4_fillsFits_4 15 rfl rfl)
theorem dX4_fillsFits_111 : decode cX4_fillsFits 111 = .ok (.goto (-39), 3) := dk_167 255 217 (dk_at dksX4_fillsFits_4 18 rfl rfl)
theorem dX4_fillsFits_114 : decode cX4_fillsFits 114 = .ok (.iinc 5 1, 3) := dk_132 5 1 (dk_at dksX4_fillsFits_4 21 rfl rfl)
theorem dX4_fillsFits_117 : decode cX4_fillsFits 117 = .ok (.goto (-81), 3) := dk_167 255 175 (dk_at dksX4_fillsFits_5 0 rfl rfl)
theorem dX4_fillsFits_120 : decode cX4_fillsFits 120 = .ok (.aload_n 0, 1) := dk_42 (dk_at dksX4_fillsFits_5 3 rfl rfl)
theorem dX4_fillsFits_121 : decode cX4_fillsFits 121 = .ok (.getfield 73, 3) := dk_180 0 73 (dk_at dksX4_fillsFits_5 4 rfl rfl)
theorem dX4_fillsFits_124 : decode cX4_fillsFits 124 = .ok (.iload_n 3, 1) := dk_29 (dk_at dksX4_fillsFits_5 7 rfl rfl)
theorem dX4_fillsFits_125 : decode cX4_fillsFits 125 = .ok (.iload 4, 2) := dk_21 4 (dk_at dksX4_fillsFits_5 8 rfl rfl)
theorem dX4_fillsFits_127 : decode cX4_fillsFits 127 = .ok (.bastore, 1) := dk_84 (dk_at dksX4_fillsFits_5 10 rfl rfl)
theorem dX4_fillsFits_128 : decode cX4_fillsFits 128 = .ok (.iinc 3 1, 3) := dk_132 3 1 (dk_at dksX4_fillsFits_5 11 rfl rfl)
theorem dX4_fillsFits_131 : decode cX4_fillsFits 131 = .ok (.goto (-120), 3) := dk_167 255 136 (dk_at dksX4_fillsFits_5 14 rfl rfl)
theorem dX4_fillsFits_134 : decode cX4_fillsFits 134 = .ok (.aload_n 0, 1) := dk_42 (dk_at dksX4_fillsFits_5 17 rfl rfl)
theorem dX4_fillsFits_135 : decode cX4_fillsFits 135 = .ok (.iload_n 2, 1) := dk_28 (dk_at dksX4_fillsFits_5 18 rfl rfl)
theorem dX4_fillsFits_136 : decode cX4_fillsFits 136 = .ok (.putfield 42, 3) := dk_181 0 42 (dk_at dksX4_fillsFits_5 19 rfl rfl)
theorem dX4_fillsFits_139 : decode cX4_fillsFits 139 = .ok (.aload_n 0, 1) := dk_42 (dk_at dksX4_fillsFits_5 22 rfl rfl)
theorem dX4_fillsFits_140 : decode cX4_fillsFits 140 = .ok (.invokevirtual 382, 3) := dk_182 1 126 (dk_at dksX4_fillsFits_6 0 rfl rfl)
theorem dX4_fillsFits_143 : decode cX4_fillsFits 143 = .ok (.return_, 1) := dk_177 (dk_at dksX4_fillsFits_6 3 rfl rfl)
abbrev cX4_areNotesSo : ByteArray := prog_19_method_107_code
def yX4_areNotesSo : MethodName := ⟨RX4, "areNotesSo", "(I)Z"⟩
def dkwX4_areNotesSo_2 : List UInt8 := [16, 90, 28, 96, 5, 96, 46, 159, 0, 5, 3, 172, 132, 2, 3, 167, 255, 195, 4, 172]
abbrev dktX4_areNotesSo_2 : List UInt8 := dkwX4_areNotesSo_2 ++ []
def dkwX4_areNotesSo_1 : List UInt8 := [27, 160, 0, 35, 42, 180, 0, 52, 42, 180, 0, 39, 16, 90, 28, 96, 4, 96, 46, 46, 42, 180, 0, 39]
abbrev dktX4_areNotesSo_1 : List UInt8 := dkwX4_areNotesSo_1 ++ dktX4_areNotesSo_2
def dkwX4_areNotesSo_0 : List UInt8 := [3, 61, 28, 6, 42, 180, 0, 39, 16, 120, 46, 104, 162, 0, 54, 42, 180, 0, 39, 16, 90, 28, 96, 46]
abbrev dktX4_areNotesSo_0 : List UInt8 := dkwX4_areNotesSo_0 ++ dktX4_areNotesSo_1
theorem dksX4_areNotesSo_0 : cX4_areNotesSo.data.toList.drop 0 = dktX4_areNotesSo_0 := by decide +kernel
theorem dksX4_areNotesSo_1 : cX4_areNotesSo.data.toList.drop 24 = dktX4_areNotesSo_1 := dk_seg dksX4_areNotesSo_0 24 rfl rfl
theorem dksX4_areNotesSo_2 : cX4_areNotesSo.data.toList.drop 48 = dktX4_areNotesSo_2 := dk_seg dksX4_areNotesSo_1 24 rfl rfl
theorem dX4_areNotesSo_0 : decode cX4_areNotesSo 0 = .ok (.iconst 0, 1) := dk_3 (dk_at dksX4_areNotesSo_0 0 rfl rfl)
theorem dX4_areNotesSo_1 : decode cX4_areNotesSo 1 = .ok (.istore_n 2, 1) := dk_61 (dk_at dksX4_areNotesSo_0 1 rfl rfl)
theorem dX4_areNotesSo_2 : decode cX4_areNotesSo 2 = .ok (.iload_n 2, 1) := dk_28 (dk_at dksX4_areNotesSo_0 2 rfl rfl)
theorem dX4_areNotesSo_3 : decode cX4_areNotesSo 3 = .ok (.iconst 3, 1) := dk_6 (dk_at dksX4_areNotesSo_0 3 rfl rfl)
theorem dX4_areNotesSo_4 : decode cX4_areNotesSo 4 = .ok (.aload_n 0, 1) := dk_42 (dk_at dksX4_areNotesSo_0 4 rfl rfl)
theorem dX4_areNotesSo_5 : decode cX4_areNotesSo 5 = .ok (.getfield 39, 3) := dk_180 0 39 (dk_at dksX4_areNotesSo_0 5 rfl rfl)
theorem dX4_areNotesSo_8 : decode cX4_areNotesSo 8 = .ok (.bipush 120, 2) := dk_16 120 (dk_at dksX4_areNotesSo_0 8 rfl rfl)
theorem dX4_areNotesSo_10 : decode cX4_areNotesSo 10 = .ok (.iaload, 1) := dk_46 (dk_at dksX4_areNotesSo_0 10 rfl rfl)
theorem dX4_areNotesSo_11 : decode cX4_areNotesSo 11 = .ok (.imul, 1) := dk_104 (dk_at dksX4_areNotesSo_0 11 rfl rfl)
theorem dX4_areNotesSo_12 : decode cX4_areNotesSo 12 = .ok (.if_icmp .ge 54, 3) := dk_162 0 54 (dk_at dksX4_areNotesSo_0 12 rfl rfl)
theorem dX4_areNotesSo_15 : decode cX4_areNotesSo 15 = .ok (.aload_n 0, 1) := dk_42 (dk_at dksX4_areNotesSo_0 15 rfl rfl)
theorem dX4_areNotesSo_16 : decode cX4_areNotesSo 16 = .ok (.getfield 39, 3) := dk_180 0 39 (dk_at dksX4_areNotesSo_0 16 rfl rfl)
theorem dX4_areNotesSo_19 : decode cX4_areNotesSo 19 = .ok (.bipush 90, 2) := dk_16 90 (dk_at dksX4_areNotesSo_0 19 rfl rfl)
theorem dX4_areNotesSo_21 : decode cX4_areNotesSo 21 = .ok (.iload_n 2, 1) := dk_28 (dk_at dksX4_areNotesSo_0 21 rfl rfl)
theorem dX4_areNotesSo_22 : decode cX4_areNotesSo 22 = .ok (.iadd, 1) := dk_96 (dk_at dksX4_areNotesSo_0 22 rfl rfl)
theorem dX4_areNotesSo_23 : decode cX4_areNotesSo 23 = .ok (.iaload, 1) := dk_46 (dk_at dksX4_areNotesSo_0 23 rfl rfl)
theorem dX4_areNotesSo_24 : decode cX4_areNotesSo 24 = .ok (.iload_n 1, 1) := dk_27 (dk_at dksX4_areNotesSo_1 0 rfl rfl)
theorem dX4_areNotesSo_25 : decode cX4_areNotesSo 25 = .ok (.if_icmp .ne 35, 3) := dk_160 0 35 (dk_at dksX4_areNotesSo_1 1 rfl rfl)
theorem dX4_areNotesSo_28 : decode cX4_areNotesSo 28 = .ok (.aload_n 0, 1) := dk_42 (dk_at dksX4_areNotesSo_1 4 rfl rfl)
theorem dX4_areNotesSo_29 : decode cX4_areNotesSo 29 = .ok (.getfield 52, 3) := dk_180 0 52 (dk_at dksX4_areNotesSo_1 5 rfl rfl)
theorem dX4_areNotesSo_32 : decode cX4_areNotesSo 32 = .ok (.aload_n 0, 1) := dk_42 (dk_at dksX4_areNotesSo_1 8 rfl rfl)
theorem dX4_areNotesSo_33 : decode cX4_areNotesSo 33 = .ok (.getfield 39, 3) := dk_180 0 39 (dk_at dksX4_areNotesSo_1 9 rfl rfl)
theorem dX4_areNotesSo_36 : decode cX4_areNotesSo 36 = .ok (.bipush 90, 2) := dk_16 90 (dk_at dksX4_areNotesSo_1 12 rfl rfl)
theorem dX4_areNotesSo_38 : decode cX4_areNotesSo 38 = .ok (.iload_n 2, 1) := dk_28 (dk_at dksX4_areNotesSo_1 14 rfl rfl)
theorem dX4_areNotesSo_39 : decode cX4_areNotesSo 39 = .ok (.iadd, 1) := dk_96 (dk_at dksX4_areNotesSo_1 15 rfl rfl)
theorem dX4_areNotesSo_40 : decode cX4_areNotesSo 40 = .ok (.iconst 1, 1) := dk_4 (dk_at dksX4_areNotesSo_1 16 rfl rfl)
theorem dX4_areNotesSo_41 : decode cX4_areNotesSo 41 = .ok (.iadd, 1) := dk_96 (dk_at dksX4_areNotesSo_1 17 rfl rfl)
theorem dX4_areNotesSo_42 : decode cX4_areNotesSo 42 = .ok (.iaload, 1) := dk_46 (dk_at dksX4_areNotesSo_1 18 rfl rfl)
theorem dX4_areNotesSo_43 : decode cX4_areNotesSo 43 = .ok (.iaload, 1) := dk_46 (dk_at dksX4_areNotesSo_1 19 rfl rfl)
theorem dX4_areNotesSo_44 : decode cX4_areNotesSo 44 = .ok (.aload_n 0, 1) := dk_42 (dk_at dksX4_areNotesSo_1 20 rfl rfl)
theorem dX4_areNotesSo_45 : decode cX4_areNotesSo 45 = .ok (.getfield 39, 3) := dk_180 0 39 (dk_at dksX4_areNotesSo_1 21 rfl rfl)
theorem dX4_areNotesSo_48 : decode cX4_areNotesSo 48 = .ok (.bipush 90, 2) := dk_16 90 (dk_at dksX4_areNotesSo_2 0 rfl rfl)
theorem dX4_areNotesSo_50 : decode cX4_areNotesSo 50 = .ok (.iload_n 2, 1) := dk_28 (dk_at dksX4_areNotesSo_2 2 rfl rfl)
theorem dX4_areNotesSo_51 : decode cX4_areNotesSo 51 = .ok (.iadd, 1) := dk_96 (dk_at dksX4_areNotesSo_2 3 rfl rfl)
theorem dX4_areNotesSo_52 : decode cX4_areNotesSo 52 = .ok (.iconst 2, 1) := dk_5 (dk_at dksX4_areNotesSo_2 4 rfl rfl)
theorem dX4_areNotesSo_53 : decode cX4_areNotesSo 53 = .ok (.iadd, 1) := dk_96 (dk_at dksX4_areNotesSo_2 5 rfl rfl)
theorem dX4_areNotesSo_54 : decode cX4_areNotesSo 54 = .ok (.iaload, 1) := dk_46 (dk_at dksX4_areNotesSo_2 6 rfl rfl)
theorem dX4_areNotesSo_55 : decode cX4_areNotesSo 55 = .ok (.if_icmp .eq 5, 3) := dk_159 0 5 (dk_at dksX4_areNotesSo_2 7 rfl rfl)
theorem dX4_areNotesSo_58 : decode cX4_areNotesSo 58 = .ok (.iconst 0, 1) := dk_3 (dk_at dksX4_areNotesSo_2 10 rfl rfl)
theorem dX4_areNotesSo_59 : decode cX4_areNotesSo 59 = .ok (.ireturn, 1) := dk_172 (dk_at dksX4_areNotesSo_2 11 rfl rfl)
theorem dX4_areNotesSo_60 : decode cX4_areNotesSo 60 = .ok (.iinc 2 3, 3) := dk_132 2 3 (dk_at dksX4_areNotesSo_2 12 rfl rfl)
theorem dX4_areNotesSo_63 : decode cX4_areNotesSo 63 = .ok (.goto (-61), 3) := dk_167 255 195 (dk_at dksX4_areNotesSo_2 15 rfl rfl)
theorem dX4_areNotesSo_66 : decode cX4_areNotesSo 66 = .ok (.iconst 1, 1) := dk_4 (dk_at dksX4_areNotesSo_2 18 rfl rfl)
theorem dX4_areNotesSo_67 : decode cX4_areNotesSo 67 = .ok (.ireturn, 1) := dk_172 (dk_at dksX4_areNotesSo_2 19 rfl rfl)
abbrev cX4_look : ByteArray := prog_19_method_111_code
def yX4_look : MethodName := ⟨RX4, "look", "(II)I"⟩
def dkwX4_look_4 : List UInt8 := [167, 255, 208, 28, 154, 0, 7, 29, 167, 0, 5, 21, 4, 172]
abbrev dktX4_look_4 : List UInt8 := dkwX4_look_4 ++ []
def dkwX4_look_3 : List UInt8 := [29, 155, 0, 13, 21, 6, 21, 4, 161, 0, 6, 167, 0, 10, 21, 5, 62, 21, 6, 54, 4, 132, 5, 1]
abbrev dktX4_look_3 : List UInt8 := dkwX4_look_3 ++ dktX4_look_4
def dkwX4_look_2 : List UInt8 := [21, 5, 42, 180, 0, 39, 6, 46, 162, 0, 43, 42, 21, 5, 182, 1, 195, 54, 6, 21, 6, 153, 0, 24]
abbrev dktX4_look_2 : List UInt8 := dkwX4_look_2 ++ dktX4_look_3
def dkwX4_look_1 : List UInt8 := [184, 0, 130, 154, 0, 5, 2, 172, 42, 27, 182, 1, 192, 16, 254, 62, 16, 254, 54, 4, 3, 54, 5]
abbrev dktX4_look_1 : List UInt8 := dkwX4_look_1 ++ dktX4_look_2
def dkwX4_look_0 : List UInt8 := [42, 182, 1, 38, 153, 0, 25, 27, 133, 9, 20, 1, 163, 184, 0, 130, 153, 0, 13, 28, 133, 9, 10]
abbrev dktX4_look_0 : List UInt8 := dkwX4_look_0 ++ dktX4_look_1
theorem dksX4_look_0 : cX4_look.data.toList.drop 0 = dktX4_look_0 := by decide +kernel
theorem dksX4_look_1 : cX4_look.data.toList.drop 23 = dktX4_look_1 := dk_seg dksX4_look_0 23 rfl rfl
theorem dksX4_look_2 : cX4_look.data.toList.drop 46 = dktX4_look_2 := dk_seg dksX4_look_1 23 rfl rfl
theorem dksX4_look_3 : cX4_look.data.toList.drop 70 = dktX4_look_3 := dk_seg dksX4_look_2 24 rfl rfl
theorem dksX4_look_4 : cX4_look.data.toList.drop 94 = dktX4_look_4 := dk_seg dksX4_look_3 24 rfl rfl
theorem dX4_look_0 : decode cX4_look 0 = .ok (.aload_n 0, 1) := dk_42 (dk_at dksX4_look_0 0 rfl rfl)
theorem dX4_look_1 : decode cX4_look 1 = .ok (.invokevirtual 294, 3) := dk_182 1 38 (dk_at dksX4_look_0 1 rfl rfl)
theorem dX4_look_4 : decode cX4_look 4 = .ok (.ifCond .eq 25, 3) := dk_153 0 25 (dk_at dksX4_look_0 4 rfl rfl)
theorem dX4_look_7 : decode cX4_look 7 = .ok (.iload_n 1, 1) := dk_27 (dk_at dksX4_look_0 7 rfl rfl)
theorem dX4_look_8 : decode cX4_look 8 = .ok (.i2l, 1) := dk_133 (dk_at dksX4_look_0 8 rfl rfl)
theorem dX4_look_9 : decode cX4_look 9 = .ok (.lconst 0, 1) := dk_9 (dk_at dksX4_look_0 9 rfl rfl)
theorem dX4_look_10 : decode cX4_look 10 = .ok (.ldc2_w 419, 3) := dk_20 1 163 (dk_at dksX4_look_0 10 rfl rfl)
theorem dX4_look_13 : decode cX4_look 13 = .ok (.invokestatic 130, 3) := dk_184 0 130 (dk_at dksX4_look_0 13 rfl rfl)
theorem dX4_look_16 : decode cX4_look 16 = .ok (.ifCond .eq 13, 3) := dk_153 0 13 (dk_at dksX4_look_0 16 rfl rfl)
theorem dX4_look_19 : decode cX4_look 19 = .ok (.iload_n 2, 1) := dk_28 (dk_at dksX4_look_0 19 rfl rfl)
theorem dX4_look_20 : decode cX4_look 20 = .ok (.i2l, 1) := dk_133 (dk_at dksX4_look_0 20 rfl rfl)
theorem dX4_look_21 : decode cX4_look 21 = .ok (.lconst 0, 1) := dk_9 (dk_at dksX4_look_0 21 rfl rfl)
theorem dX4_look_22 : decode cX4_look 22 = .ok (.lconst 1, 1) := dk_10 (dk_at dksX4_look_0 22 rfl rfl)
theorem dX4_look_23 : decode cX4_look 23 = .ok (.invokestatic 130, 3) := dk_184 0 130 (dk_at dksX4_look_1 0 rfl rfl)
theorem dX4_look_26 : decode cX4_look 26 = .ok (.ifCond .ne 5, 3) := dk_154 0 5 (dk_at dksX4_look_1 3 rfl rfl)
theorem dX4_look_29 : decode cX4_look 29 = .ok (.iconst (-1), 1) := dk_2 (dk_at dksX4_look_1 6 rfl rfl)
theorem dX4_look_30 : decode cX4_look 30 = .ok (.ireturn, 1) := dk_172 (dk_at dksX4_look_1 7 rfl rfl)
theorem dX4_look_31 : decode cX4_look 31 = .ok (.aload_n 0, 1) := dk_42 (dk_at dksX4_look_1 8 rfl rfl)
theorem dX4_look_32 : decode cX4_look 32 = .ok (.iload_n 1, 1) := dk_27 (dk_at dksX4_look_1 9 rfl rfl)
theorem dX4_look_33 : decode cX4_look 33 = .ok (.invokevirtual 448, 3) := dk_182 1 192 (dk_at dksX4_look_1 10 rfl rfl)
theorem dX4_look_36 : decode cX4_look 36 = .ok (.bipush (-2), 2) := dk_16 254 (dk_at dksX4_look_1 13 rfl rfl)
theorem dX4_look_38 : decode cX4_look 38 = .ok (.istore_n 3, 1) := dk_62 (dk_at dksX4_look_1 15 rfl rfl)
theorem dX4_look_39 : decode cX4_look 39 = .ok (.bipush (-2), 2) := dk_16 254 (dk_at dksX4_look_1 16 rfl rfl)
theorem dX4_look_41 : decode cX4_look 41 = .ok (.istore 4, 2) := dk_54 4 (dk_at dksX4_look_1 18 rfl rfl)
theorem dX4_look_43 : decode cX4_look 43 = .ok (.iconst 0, 1) := dk_3 (dk_at dksX4_look_1 20 rfl rfl)
theorem dX4_look_44 : decode cX4_look 44 = .ok (.istore 5, 2) := dk_54 5 (dk_at dksX4_look_1 21 rfl rfl)
theorem dX4_look_46 : decode cX4_look 46 = .ok (.iload 5, 2) := dk_21 5 (dk_at dksX4_look_2 0 rfl rfl)
theorem dX4_look_48 : decode cX4_look 48 = .ok (.aload_n 0, 1) := dk_42 (dk_at dksX4_look_2 2 rfl rfl)
theorem dX4_look_49 : decode cX4_look 49 = .ok (.getfield 39, 3) := dk_180 0 39 (dk_at dksX4_look_2 3 rfl rfl)
theorem dX4_look_52 : decode cX4_look 52 = .ok (.iconst 3, 1) := dk_6 (dk_at dksX4_look_2 6 rfl rfl)
theorem dX4_look_53 : decode cX4_look 53 = .ok (.iaload, 1) := dk_46 (dk_at dksX4_look_2 7 rfl rfl)
theorem dX4_look_54 : decode cX4_look 54 = .ok (.if_icmp .ge 43, 3) := dk_162 0 43 (dk_at dksX4_look_2 8 rfl rfl)
theorem dX4_look_57 : decode cX4_look 57 = .ok (.aload_n 0, 1) := dk_42 (dk_at dksX4_look_2 11 rfl rfl)
theorem dX4_look_58 : decode cX4_look 58 = .ok (.iload 5, 2) := dk_21 5 (dk_at dksX4_look_2 12 rfl rfl)
theorem dX4_look_60 : decode cX4_look 60 = .ok (.invokevirtual 451, 3) := dk_182 1 195 (dk_at dksX4_look_2 14 rfl rfl)
theorem dX4_look_63 : decode cX4_look 63 = .ok (.istore 6, 2) := dk_54 6 (dk_at dksX4_look_2 17 rfl rfl)
theorem dX4_look_65 : decode cX4_look 65 = .ok (.iload 6, 2) := dk_21 6 (dk_at dksX4_look_2 19 rfl rfl)
theorem dX4_look_67 : decode cX4_look 67 = .ok (.ifCond .eq 24, 3) := dk_153 0 24 (dk_at dksX4_look_2 21 rfl rfl)
theorem dX4_look_70 : decode cX4_look 70 = .ok (.iload_n 3, 1) := dk_29 (dk_at dksX4_look_3 0 rfl rfl)
theorem dX4_look_71 : decode cX4_look 71 = .ok (.ifCond .lt 13, 3) := dk_155 0 13 (dk_at dksX4_look_3 1 rfl rfl)
theorem dX4_look_74 : decode cX4_look 74 = .ok (.iload 6, 2) := dk_21 6 (dk_at dksX4_look_3 4 rfl rfl)
theorem dX4_look_76 : decode cX4_look 76 = .ok (.iload 4, 2) := dk_21 4 (dk_at dksX4_look_3 6 rfl rfl)
theorem dX4_look_78 : decode cX4_look 78 = .ok (.if_icmp .lt 6, 3) := dk_161 0 6 (dk_at dksX4_look_3 8 rfl rfl)
theorem dX4_look_81 : decode cX4_look 81 = .ok (.goto 10, 3) := dk_167 0 10 (dk_at dksX4_look_3 11 rfl rfl)
theorem dX4_look_84 : decode cX4_look 84 = .ok (.iload 5, 2) := dk_21 5 (dk_at dksX4_look_3 14 rfl rfl)
theorem dX4_look_86 : decode cX4_look 86 = .ok (.istore_n 3, 1) := dk_62 (dk_at dksX4_look_3 16 rfl rfl)
theorem dX4_look_87 : decode cX4_look 87 = .ok (.iload 6, 2) := dk_21 6 (dk_at dksX4_look_3 17 rfl rfl)
theorem dX4_look_89 : decode cX4_look 89 = .ok (.istore 4, 2) := dk_54 4 (dk_at dksX4_look_3 19 rfl rfl)
theorem dX4_look_91 : decode cX4_look 91 = .ok (.iinc 5 1, 3) := dk_132 5 1 (dk_at dksX4_look_3 21 rfl rfl)
theorem dX4_look_94 : decode cX4_look 94 = .ok (.goto (-48), 3) := dk_167 255 208 (dk_at dksX4_look_4 0 rfl rfl)
theorem dX4_look_97 : decode cX4_look 97 = .ok (.iload_n 2, 1) := dk_28 (dk_at dksX4_look_4 3 rfl rfl)
theorem dX4_look_98 : decode cX4_look 98 = .ok (.ifCond .ne 7, 3) := dk_154 0 7 (dk_at dksX4_look_4 4 rfl rfl)
theorem dX4_look_101 : decode cX4_look 101 = .ok (.iload_n 3, 1) := dk_29 (dk_at dksX4_look_4 7 rfl rfl)
theorem dX4_look_102 : decode cX4_look 102 = .ok (.goto 5, 3) := dk_167 0 5 (dk_at dksX4_look_4 8 rfl rfl)
theorem dX4_look_105 : decode cX4_look 105 = .ok (.iload 4, 2) := dk_21 4 (dk_at dksX4_look_4 11 rfl rfl)
theorem dX4_look_107 : decode cX4_look 107 = .ok (.ireturn, 1) := dk_172 (dk_at dksX4_look_4 13 rfl rfl)
abbrev cX4_alikeAt : ByteArray := prog_19_method_110_code
def yX4_alikeAt : MethodName := ⟨RX4, "alikeAt", "(I)I"⟩
def dkwX4_alikeAt_4 : List UInt8 := [21, 4, 167, 0, 4, 28, 61, 132, 3, 1, 167, 255, 156, 28, 172]
abbrev dktX4_alikeAt_4 : List UInt8 := dkwX4_alikeAt_4 ++ []
def dkwX4_alikeAt_3 : List UInt8 := [160, 0, 7, 4, 167, 0, 4, 3, 96, 54, 4, 132, 5, 1, 167, 255, 189, 21, 4, 28, 164, 0, 8]
abbrev dktX4_alikeAt_3 : List UInt8 := dkwX4_alikeAt_3 ++ dktX4_alikeAt_4
def dkwX4_alikeAt_2 : List UInt8 := [42, 180, 0, 77, 16, 6, 29, 104, 27, 96, 46, 42, 180, 0, 77, 16, 6, 21, 5, 104, 27, 96, 46]
abbrev dktX4_alikeAt_2 : List UInt8 := dkwX4_alikeAt_2 ++ dktX4_alikeAt_3
def dkwX4_alikeAt_1 : List UInt8 := [163, 0, 64, 42, 180, 0, 73, 29, 51, 153, 0, 55, 21, 4, 42, 180, 0, 73, 21, 5, 51, 153, 0, 33]
abbrev dktX4_alikeAt_1 : List UInt8 := dkwX4_alikeAt_1 ++ dktX4_alikeAt_2
def dkwX4_alikeAt_0 : List UInt8 := [3, 61, 3, 62, 29, 42, 180, 1, 11, 163, 0, 98, 3, 54, 4, 3, 54, 5, 21, 5, 42, 180, 1, 11]
abbrev dktX4_alikeAt_0 : List UInt8 := dkwX4_alikeAt_0 ++ dktX4_alikeAt_1
theorem dksX4_alikeAt_0 : cX4_alikeAt.data.toList.drop 0 = dktX4_alikeAt_0 := by decide +kernel
theorem dksX4_alikeAt_1 : cX4_alikeAt.data.toList.drop 24 = dktX4_alikeAt_1 := dk_seg dksX4_alikeAt_0 24 rfl rfl
theorem dksX4_alikeAt_2 : cX4_alikeAt.data.toList.drop 48 = dktX4_alikeAt_2 := dk_seg dksX4_alikeAt_1 24 rfl rfl
theorem dksX4_alikeAt_3 : cX4_alikeAt.data.toList.drop 71 = dktX4_alikeAt_3 := dk_seg dksX4_alikeAt_2 23 rfl rfl
theorem dksX4_alikeAt_4 : cX4_alikeAt.data.toList.drop 94 = dktX4_alikeAt_4 := dk_seg dksX4_alikeAt_3 23 rfl rfl
theorem dX4_alikeAt_0 : decode cX4_alikeAt 0 = .ok (.iconst 0, 1) := dk_3 (dk_at dksX4_alikeAt_0 0 rfl rfl)
theorem dX4_alikeAt_1 : decode cX4_alikeAt 1 = .ok (.istore_n 2, 1) := dk_61 (dk_at dksX4_alikeAt_0 1 rfl rfl)
theorem dX4_alikeAt_2 : decode cX4_alikeAt 2 = .ok (.iconst 0, 1) := dk_3 (dk_at dksX4_alikeAt_0 2 rfl rfl)
theorem dX4_alikeAt_3 : decode cX4_alikeAt 3 = .ok (.istore_n 3, 1) := dk_62 (dk_at dksX4_alikeAt_0 3 rfl rfl)
theorem dX4_alikeAt_4 : decode cX4_alikeAt 4 = .ok (.iload_n 3, 1) := dk_29 (dk_at dksX4_alikeAt_0 4 rfl rfl)
theorem dX4_alikeAt_5 : decode cX4_alikeAt 5 = .ok (.aload_n 0, 1) := dk_42 (dk_at dksX4_alikeAt_0 5 rfl rfl)
theorem dX4_alikeAt_6 : decode cX4_alikeAt 6 = .ok (.getfield 267, 3) := dk_180 1 11 (dk_at dksX4_alikeAt_0 6 rfl rfl)
theorem dX4_alikeAt_9 : decode cX4_alikeAt 9 = .ok (.if_icmp .gt 98, 3) := dk_163 0 98 (dk_at dksX4_alikeAt_0 9 rfl rfl)
theorem dX4_alikeAt_12 : decode cX4_alikeAt 12 = .ok (.iconst 0, 1) := dk_3 (dk_at dksX4_alikeAt_0 12 rfl rfl)
theorem dX4_alikeAt_13 : decode cX4_alikeAt 13 = .ok (.istore 4, 2) := dk_54 4 (dk_at dksX4_alikeAt_0 13 rfl rfl)
theorem dX4_alikeAt_15 : decode cX4_alikeAt 15 = .ok (.iconst 0, 1) := dk_3 (dk_at dksX4_alikeAt_0 15 rfl rfl)
theorem dX4_alikeAt_16 : decode cX4_alikeAt 16 = .ok (.istore 5, 2) := dk_54 5 (dk_at dksX4_alikeAt_0 16 rfl rfl)
theorem dX4_alikeAt_18 : decode cX4_alikeAt 18 = .ok (.iload 5, 2) := dk_21 5 (dk_at dksX4_alikeAt_0 18 rfl rfl)
theorem dX4_alikeAt_20 : decode cX4_alikeAt 20 = .ok (.aload_n 0, 1) := dk_42 (dk_at dksX4_alikeAt_0 20 rfl rfl)
theorem dX4_alikeAt_21 : decode cX4_alikeAt 21 = .ok (.getfield 267, 3) := dk_180 1 11 (dk_at dksX4_alikeAt_0 21 rfl rfl)
theorem dX4_alikeAt_24 : decode cX4_alikeAt 24 = .ok (.if_icmp .gt 64, 3) := dk_163 0 64 (dk_at dksX4_alikeAt_1 0 rfl rfl)
theorem dX4_alikeAt_27 : decode cX4_alikeAt 27 = .ok (.aload_n 0, 1) := dk_42 (dk_at dksX4_alikeAt_1 3 rfl rfl)
theorem dX4_alikeAt_28 : decode cX4_alikeAt 28 = .ok (.getfield 73, 3) := dk_180 0 73 (dk_at dksX4_alikeAt_1 4 rfl rfl)
theorem dX4_alikeAt_31 : decode cX4_alikeAt 31 = .ok (.iload_n 3, 1) := dk_29 (dk_at dksX4_alikeAt_1 7 rfl rfl)
theorem dX4_alikeAt_32 : decode cX4_alikeAt 32 = .ok (.baload, 1) := dk_51 (dk_at dksX4_alikeAt_1 8 rfl rfl)
theorem dX4_alikeAt_33 : decode cX4_alikeAt 33 = .ok (.ifCond .eq 55, 3) := dk_153 0 55 (dk_at dksX4_alikeAt_1 9 rfl rfl)
theorem dX4_alikeAt_36 : decode cX4_alikeAt 36 = .ok (.iload 4, 2) := dk_21 4 (dk_at dksX4_alikeAt_1 12 rfl rfl)
theorem dX4_alikeAt_38 : decode cX4_alikeAt 38 = .ok (.aload_n 0, 1) := dk_42 (dk_at dksX4_alikeAt_1 14 rfl rfl)
theorem dX4_alikeAt_39 : decode cX4_alikeAt 39 = .ok (.getfield 73, 3) := dk_180 0 73 (dk_at dksX4_alikeAt_1 15 rfl rfl)
theorem dX4_alikeAt_42 : decode cX4_alikeAt 42 = .ok (.iload 5, 2) := dk_21 5 (dk_at dksX4_alikeAt_1 18 rfl rfl)
theorem dX4_alikeAt_44 : decode cX4_alikeAt 44 = .ok (.baload, 1) := dk_51 (dk_at dksX4_alikeAt_1 20 rfl rfl)
theorem dX4_alikeAt_45 : decode cX4_alikeAt 45 = .ok (.ifCond .eq 33, 3) := dk_153 0 33 (dk_at dksX4_alikeAt_1 21 rfl rfl)
theorem dX4_alikeAt_48 : decode cX4_alikeAt 48 = .ok (.aload_n 0, 1) := dk_42 (dk_at dksX4_alikeAt_2 0 rfl rfl)
theorem dX4_alikeAt_49 : decode cX4_alikeAt 49 = .ok (.getfield 77, 3) := dk_180 0 77 (dk_at dksX4_alikeAt_2 1 rfl rfl)
theorem dX4_alikeAt_52 : decode cX4_alikeAt 52 = .ok (.bipush 6, 2) := dk_16 6 (dk_at dksX4_alikeAt_2 4 rfl rfl)
theorem dX4_alikeAt_54 : decode cX4_alikeAt 54 = .ok (.iload_n 3, 1) := dk_29 (dk_at dksX4_alikeAt_2 6 rfl rfl)
theorem dX4_alikeAt_55 : decode cX4_alikeAt 55 = .ok (.imul, 1) := dk_104 (dk_at dksX4_alikeAt_2 7 rfl rfl)
theorem dX4_alikeAt_56 : decode cX4_alikeAt 56 = .ok (.iload_n 1, 1) := dk_27 (dk_at dksX4_alikeAt_2 8 rfl rfl)
theorem dX4_alikeAt_57 : decode cX4_alikeAt 57 = .ok (.iadd, 1) := dk_96 (dk_at dksX4_alikeAt_2 9 rfl rfl)
theorem dX4_alikeAt_58 : decode cX4_alikeAt 58 = .ok (.iaload, 1) := dk_46 (dk_at dksX4_alikeAt_2 10 rfl rfl)
theorem dX4_alikeAt_59 : decode cX4_alikeAt 59 = .ok (.aload_n 0, 1) := dk_42 (dk_at dksX4_alikeAt_2 11 rfl rfl)
theorem dX4_alikeAt_60 : decode cX4_alikeAt 60 = .ok (.getfield 77, 3) := dk_180 0 77 (dk_at dksX4_alikeAt_2 12 rfl rfl)
theorem dX4_alikeAt_63 : decode cX4_alikeAt 63 = .ok (.bipush 6, 2) := dk_16 6 (dk_at dksX4_alikeAt_2 15 rfl rfl)
theorem dX4_alikeAt_65 : decode cX4_alikeAt 65 = .ok (.iload 5, 2) := dk_21 5 (dk_at dksX4_alikeAt_2 17 rfl rfl)
theorem dX4_alikeAt_67 : decode cX4_alikeAt 67 = .ok (.imul, 1) := dk_104 (dk_at dksX4_alikeAt_2 19 rfl rfl)
theorem dX4_alikeAt_68 : decode cX4_alikeAt 68 = .ok (.iload_n 1, 1) := dk_27 (dk_at dksX4_alikeAt_2 20 rfl rfl)
theorem dX4_alikeAt_69 : decode cX4_alikeAt 69 = .ok (.iadd, 1) := dk_96 (dk_at dksX4_alikeAt_2 21 rfl rfl)
theorem dX4_alikeAt_70 : decode cX4_alikeAt 70 = .ok (.iaload, 1) := dk_46 (dk_at dksX4_alikeAt_2 22 rfl rfl)
theorem dX4_alikeAt_71 : decode cX4_alikeAt 71 = .ok (.if_icmp .ne 7, 3) := dk_160 0 7 (dk_at dksX4_alikeAt_3 0 rfl rfl)
theorem dX4_alikeAt_74 : decode cX4_alikeAt 74 = .ok (.iconst 1, 1) := dk_4 (dk_at dksX4_alikeAt_3 3 rfl rfl)
theorem dX4_alikeAt_75 : decode cX4_alikeAt 75 = .ok (.goto 4, 3) := dk_167 0 4 (dk_at dksX4_alikeAt_3 4 rfl rfl)
theorem dX4_alikeAt_78 : decode cX4_alikeAt 78 = .ok (.iconst 0, 1) := dk_3 (dk_at dksX4_alikeAt_3 7 rfl rfl)
theorem dX4_alikeAt_79 : decode cX4_alikeAt 79 = .ok (.iadd, 1) := dk_96 (dk_at dksX4_alikeAt_3 8 rfl rfl)
theorem dX4_alikeAt_80 : decode cX4_alikeAt 80 = .ok (.istore 4, 2) := dk_54 4 (dk_at dksX4_alikeAt_3 9 rfl rfl)
theorem dX4_alikeAt_82 : decode cX4_alikeAt 82 = .ok (.iinc 5 1, 3) := dk_132 5 1 (dk_at dksX4_alikeAt_3 11 rfl rfl)
theorem dX4_alikeAt_85 : decode cX4_alikeAt 85 = .ok (.goto (-67), 3) := dk_167 255 189 (dk_at dksX4_alikeAt_3 14 rfl rfl)
theorem dX4_alikeAt_88 : decode cX4_alikeAt 88 = .ok (.iload 4, 2) := dk_21 4 (dk_at dksX4_alikeAt_3 17 rfl rfl)
theorem dX4_alikeAt_90 : decode cX4_alikeAt 90 = .ok (.iload_n 2, 1) := dk_28 (dk_at dksX4_alikeAt_3 19 rfl rfl)
theorem dX4_alikeAt_91 : decode cX4_alikeAt 91 = .ok (.if_icmp .le 8, 3) := dk_164 0 8 (dk_at dksX4_alikeAt_3 20 rfl rfl)
theorem dX4_alikeAt_94 : decode cX4_alikeAt 94 = .ok (.iload 4, 2) := dk_21 4 (dk_at dksX4_alikeAt_4 0 rfl rfl)
theorem dX4_alikeAt_96 : decode cX4_alikeAt 96 = .ok (.goto 4, 3) := dk_167 0 4 (dk_at dksX4_alikeAt_4 2 rfl rfl)
theorem dX4_alikeAt_99 : decode cX4_alikeAt 99 = .ok (.iload_n 2, 1) := dk_28 (dk_at dksX4_alikeAt_4 5 rfl rfl)
theorem dX4_alikeAt_100 : decode cX4_alikeAt 100 = .ok (.istore_n 2, 1) := dk_61 (dk_at dksX4_alikeAt_4 6 rfl rfl)
theorem dX4_alikeAt_101 : decode cX4_alikeAt 101 = .ok (.iinc 3 1, 3) := dk_132 3 1 (dk_at dksX4_alikeAt_4 7 rfl rfl)
theorem dX4_alikeAt_104 : decode cX4_alikeAt 104 = .ok (.goto (-100), 3) := dk_167 255 156 (dk_at dksX4_alikeAt_4 10 rfl rfl)
theorem dX4_alikeAt_107 : decode cX4_alikeAt 107 = .ok (.iload_n 2, 1) := dk_28 (dk_at dksX4_alikeAt_4 13 rfl rfl)
theorem dX4_alikeAt_108 : decode cX4_alikeAt 108 = .ok (.ireturn, 1) := dk_172 (dk_at dksX4_alikeAt_4 14 rfl rfl)
abbrev cX4_seed : ByteArray := prog_19_method_112_code
def yX4_seed : MethodName := ⟨RX4, "seed", "(I)I"⟩
def dkwX4_seed_0 : List UInt8 := [27, 156, 0, 5, 2, 172, 42, 180, 1, 198, 61, 42, 27, 181, 1, 198, 28, 172]
abbrev dktX4_seed_0 : List UInt8 := dkwX4_seed_0 ++ []
theorem dksX4_seed_0 : cX4_seed.data.toList.drop 0 = dktX4_seed_0 := by decide +kernel
theorem dX4_seed_0 : decode cX4_seed 0 = .ok (.iload_n 1, 1) := dk_27 (dk_at dksX4_seed_0 0 rfl rfl)
theorem dX4_seed_1 : decode cX4_seed 1 = .ok (.ifCond .ge 5, 3) := dk_156 0 5 (dk_at dksX4_seed_0 1 rfl rfl)
theorem dX4_seed_4 : decode cX4_seed 4 = .ok (.iconst (-1), 1) := dk_2 (dk_at dksX4_seed_0 4 rfl rfl)
theorem dX4_seed_5 : decode cX4_seed 5 = .ok (.ireturn, 1) := dk_172 (dk_at dksX4_seed_0 5 rfl rfl)
theorem dX4_seed_6 : decode cX4_seed 6 = .ok (.aload_n 0, 1) := dk_42 (dk_at dksX4_seed_0 6 rfl rfl)
theorem dX4_seed_7 : decode cX4_seed 7 = .ok (.getfield 454, 3) := dk_180 1 198 (dk_at dksX4_seed_0 7 rfl rfl)
theorem dX4_seed_10 : decode cX4_seed 10 = .ok (.istore_n 2, 1) := dk_61 (dk_at dksX4_seed_0 10 rfl rfl)
theorem dX4_seed_11 : decode cX4_seed 11 = .ok (.aload_n 0, 1) := dk_42 (dk_at dksX4_seed_0 11 rfl rfl)
theorem dX4_seed_12 : decode cX4_seed 12 = .ok (.iload_n 1, 1) := dk_27 (dk_at dksX4_seed_0 12 rfl rfl)
theorem dX4_seed_13 : decode cX4_seed 13 = .ok (.putfield 454, 3) := dk_181 1 198 (dk_at dksX4_seed_0 13 rfl rfl)
theorem dX4_seed_16 : decode cX4_seed 16 = .ok (.iload_n 2, 1) := dk_28 (dk_at dksX4_seed_0 16 rfl rfl)
theorem dX4_seed_17 : decode cX4_seed 17 = .ok (.ireturn, 1) := dk_172 (dk_at dksX4_seed_0 17 rfl rfl)
abbrev cX4_mornings : ByteArray := prog_19_method_114_code
def yX4_mornings : MethodName := ⟨RX4, "mornings", "(IIII)I"⟩
def dkwX4_mornings_8 : List UInt8 := [167, 255, 156, 21, 4, 154, 0, 8, 21, 5, 167, 0, 5, 21, 6, 172]
abbrev dktX4_mornings_8 : List UInt8 := dkwX4_mornings_8 ++ []
def dkwX4_mornings_7 : List UInt8 := [180, 0, 39, 16, 53, 46, 42, 180, 0, 58, 16, 43, 46, 100, 96, 54, 6, 42, 182, 1, 126, 132, 8, 1]
abbrev dktX4_mornings_7 : List UInt8 := dkwX4_mornings_7 ++ dktX4_mornings_8
def dkwX4_mornings_6 : List UInt8 := [132, 9, 1, 167, 255, 208, 21, 5, 42, 5, 182, 1, 84, 21, 7, 100, 96, 54, 5, 21, 6, 42]
abbrev dktX4_mornings_6 : List UInt8 := dkwX4_mornings_6 ++ dktX4_mornings_7
def dkwX4_mornings_5 : List UInt8 := [158, 0, 18, 42, 42, 42, 180, 0, 39, 6, 46, 182, 1, 216, 6, 182, 1, 94, 42, 182, 1, 106, 87]
abbrev dktX4_mornings_5 : List UInt8 := dkwX4_mornings_5 ++ dktX4_mornings_6
def dkwX4_mornings_4 : List UInt8 := [54, 9, 21, 9, 28, 162, 0, 48, 42, 16, 100, 182, 1, 216, 29, 162, 0, 27, 42, 180, 0, 39, 6, 46]
abbrev dktX4_mornings_4 : List UInt8 := dkwX4_mornings_4 ++ dktX4_mornings_5
def dkwX4_mornings_3 : List UInt8 := [3, 54, 6, 42, 5, 182, 1, 84, 54, 7, 42, 182, 1, 120, 3, 54, 8, 21, 8, 27, 162, 0, 100, 3]
abbrev dktX4_mornings_3 : List UInt8 := dkwX4_mornings_3 ++ dktX4_mornings_4
def dkwX4_mornings_2 : List UInt8 := [9, 10, 184, 0, 130, 154, 0, 7, 19, 1, 215, 172, 42, 42, 180, 1, 198, 133, 181, 1, 201, 3, 54, 5]
abbrev dktX4_mornings_2 : List UInt8 := dkwX4_mornings_2 ++ dktX4_mornings_3
def dkwX4_mornings_1 : List UInt8 := [20, 1, 163, 184, 0, 130, 153, 0, 26, 29, 133, 9, 20, 1, 116, 184, 0, 130, 153, 0, 14, 21, 4, 133]
abbrev dktX4_mornings_1 : List UInt8 := dkwX4_mornings_1 ++ dktX4_mornings_2
def dkwX4_mornings_0 : List UInt8 := [42, 182, 1, 38, 153, 0, 50, 27, 133, 10, 20, 1, 213, 184, 0, 130, 153, 0, 38, 28, 133, 10]
abbrev dktX4_mornings_0 : List UInt8 := dkwX4_mornings_0 ++ dktX4_mornings_1
theorem dksX4_mornings_0 : cX4_mornings.data.toList.drop 0 = dktX4_mornings_0 := by decide +kernel
theorem dksX4_mornings_1 : cX4_mornings.data.toList.drop 22 = dktX4_mornings_1 := dk_seg dksX4_mornings_0 22 rfl rfl
theorem dksX4_mornings_2 : cX4_mornings.data.toList.drop 46 = dktX4_mornings_2 := dk_seg dksX4_mornings_1 24 rfl rfl
theorem dksX4_mornings_3 : cX4_mornings.data.toList.drop 70 = dktX4_mornings_3 := dk_seg dksX4_mornings_2 24 rfl rfl
theorem dksX4_mornings_4 : cX4_mornings.data.toList.drop 94 = dktX4_mornings_4 := dk_seg dksX4_mornings_3 24 rfl rfl
theorem dksX4_mornings_5 : cX4_mornings.data.toList.drop 118 = dktX4_mornings_5 := dk_seg dksX4_mornings_4 24 rfl rfl
theorem dksX4_mornings_6 : cX4_mornings.data.toList.drop 141 = dktX4_mornings_6 := dk_seg dksX4_mornings_5 23 rfl rfl
theorem dksX4_mornings_7 : cX4_mornings.data.toList.drop 163 = dktX4_mornings_7 := dk_seg dksX4_mornings_6 22 rfl rfl
theorem dksX4_mornings_8 : cX4_mornings.data.toList.drop 187 = dktX4_mornings_8 := dk_seg dksX4_mornings_7 24 rfl rfl
theorem dX4_mornings_0 : decode cX4_mornings 0 = .ok (.aload_n 0, 1) := dk_42 (dk_at dksX4_mornings_0 0 rfl rfl)
theorem dX4_mornings_1 : decode cX4_mornings 1 = .ok (.invokevirtual 294, 3) := dk_182 1 38 (dk_at dksX4_mornings_0 1 rfl rfl)
theorem dX4_mornings_4 : decode cX4_mornings 4 = .ok (.ifCond .eq 50, 3) := dk_153 0 50 (dk_at dksX4_mornings_0 4 rfl rfl)
theorem dX4_mornings_7 : decode cX4_mornings 7 = .ok (.iload_n 1, 1) := dk_27 (dk_at dksX4_mornings_0 7 rfl rfl)
theorem dX4_mornings_8 : decode cX4_mornings 8 = .ok (.i2l, 1) := dk_133 (dk_at dksX4_mornings_0 8 rfl rfl)
theorem dX4_mornings_9 : decode cX4_mornings 9 = .ok (.lconst 1, 1) := dk_10 (dk_at dksX4_mornings_0 9 rfl rfl)
theorem dX4_mornings_10 : decode cX4_mornings 10 = .ok (.ldc2_w 469, 3) := dk_20 1 213 (dk_at dksX4_mornings_0 10 rfl rfl)
theorem dX4_mornings_13 : decode cX4_mornings 13 = .ok (.invokestatic 130, 3) := dk_184 0 130 (dk_at dksX4_mornings_0 13 rfl rfl)
theorem dX4_mornings_16 : decode cX4_mornings 16 = .ok (.ifCond .eq 38, 3) := dk_153 0 38 (dk_at dksX4_mornings_0 16 rfl rfl)
theorem dX4_mornings_19 : decode cX4_mornings 19 = .ok (.iload_n 2, 1) := dk_28 (dk_at dksX4_mornings_0 19 rfl rfl)
theorem dX4_mornings_20 : decode cX4_mornings 20 = .ok (.i2l, 1) := dk_133 (dk_at dksX4_mornings_0 20 rfl rfl)
theorem dX4_mornings_21 : decode cX4_mornings 21 = .ok (.lconst 1, 1) := dk_10 (dk_at dksX4_mornings_0 21 rfl rfl)
theorem dX4_mornings_22 : decode cX4_mornings 22 = .ok (.ldc2_w 419, 3) := dk_20 1 163 (dk_at dksX4_mornings_1 0 rfl rfl)
theorem dX4_mornings_25 : decode cX4_mornings 25 = .ok (.invokestatic 130, 3) := dk_184 0 130 (dk_at dksX4_mornings_1 3 rfl rfl)
theorem dX4_mornings_28 : decode cX4_mornings 28 = .ok (.ifCond .eq 26, 3) := dk_153 0 26 (dk_at dksX4_mornings_1 6 rfl rfl)
theorem dX4_mornings_31 : decode cX4_mornings 31 = .ok (.iload_n 3, 1) := dk_29 (dk_at dksX4_mornings_1 9 rfl rfl)
theorem dX4_mornings_32 : decode cX4_mornings 32 = .ok (.i2l, 1) := dk_133 (dk_at dksX4_mornings_1 10 rfl rfl)
theorem dX4_mornings_33 : decode cX4_mornings 33 = .ok (.lconst 0, 1) := dk_9 (dk_at dksX4_mornings_1 11 rfl rfl)
theorem dX4_mornings_34 : decode cX4_mornings 34 = .ok (.ldc2_w 372, 3) := dk_20 1 116 (dk_at dksX4_mornings_1 12 rfl rfl)
theorem dX4_mornings_37 : decode cX4_mornings 37 = .ok (.invokestatic 130, 3) := dk_184 0 130 (dk_at dksX4_mornings_1 15 rfl rfl)
theorem dX4_mornings_40 : decode cX4_mornings 40 = .ok (.ifCond .eq 14, 3) := dk_153 0 14 (dk_at dksX4_mornings_1 18 rfl rfl)
theorem dX4_mornings_43 : decode cX4_mornings 43 = .ok (.iload 4, 2) := dk_21 4 (dk_at dksX4_mornings_1 21 rfl rfl)
theorem dX4_mornings_45 : decode cX4_mornings 45 = .ok (.i2l, 1) := dk_133 (dk_at dksX4_mornings_1 23 rfl rfl)
theorem dX4_mornings_46 : decode cX4_mornings 46 = .ok (.lconst 0, 1) := dk_9 (dk_at dksX4_mornings_2 0 rfl rfl)
theorem dX4_mornings_47 : decode cX4_mornings 47 = .ok (.lconst 1, 1) := dk_10 (dk_at dksX4_mornings_2 1 rfl rfl)
theorem dX4_mornings_48 : decode cX4_mornings 48 = .ok (.invokestatic 130, 3) := dk_184 0 130 (dk_at dksX4_mornings_2 2 rfl rfl)
theorem dX4_mornings_51 : decode cX4_mornings 51 = .ok (.ifCond .ne 7, 3) := dk_154 0 7 (dk_at dksX4_mornings_2 5 rfl rfl)
theorem dX4_mornings_54 : decode cX4_mornings 54 = .ok (.ldc_w 471, 3) := dk_19 1 215 (dk_at dksX4_mornings_2 8 rfl rfl)
theorem dX4_mornings_57 : decode cX4_mornings 57 = .ok (.ireturn, 1) := dk_172 (dk_at dksX4_mornings_2 11 rfl rfl)
theorem dX4_mornings_58 : decode cX4_mornings 58 = .ok (.aload_n 0, 1) := dk_42 (dk_at dksX4_mornings_2 12 rfl rfl)
theorem dX4_mornings_59 : decode cX4_mornings 59 = .ok (.aload_n 0, 1) := dk_42 (dk_at dksX4_mornings_2 13 rfl rfl)
theorem dX4_mornings_60 : decode cX4_mornings 60 = .ok (.getfield 454, 3) := dk_180 1 198 (dk_at dksX4_mornings_2 14 rfl rfl)
theorem dX4_mornings_63 : decode cX4_mornings 63 = .ok (.i2l, 1) := dk_133 (dk_at dksX4_mornings_2 17 rfl rfl)
theorem dX4_mornings_64 : decode cX4_mornings 64 = .ok (.putfield 457, 3) := dk_181 1 201 (dk_at dksX4_mornings_2 18 rfl rfl)
theorem dX4_mornings_67 : decode cX4_mornings 67 = .ok (.iconst 0, 1) := dk_3 (dk_at dksX4_mornings_2 21 rfl rfl)
theorem dX4_mornings_68 : decode cX4_mornings 68 = .ok (.istore 5, 2) := dk_54 5 (dk_at dksX4_mornings_2 22 rfl rfl)
theorem dX4_mornings_70 : decode cX4_mornings 70 = .ok (.iconst 0, 1) := dk_3 (dk_at dksX4_mornings_3 0 rfl rfl)
theorem dX4_mornings_71 : decode cX4_mornings 71 = .ok (.istore 6, 2) := dk_54 6 (dk_at dksX4_mornings_3 1 rfl rfl)
theorem dX4_mornings_73 : decode cX4_mornings 73 = .ok (.aload_n 0, 1) := dk_42 (dk_at dksX4_mornings_3 3 rfl rfl)
theorem dX4_mornings_74 : decode cX4_mornings 74 = .ok (.iconst 2, 1) := dk_5 (dk_at dksX4_mornings_3 4 rfl rfl)
theorem dX4_mornings_75 : decode cX4_mornings 75 = .ok (.invokevirtual 340, 3) := dk_182 1 84 (dk_at dksX4_mornings_3 5 rfl rfl)
theorem dX4_mornings_78 : decode cX4_mornings 78 = .ok (.istore 7, 2) := dk_54 7 (dk_at dksX4_mornings_3 8 rfl rfl)
theorem dX4_mornings_80 : decode cX4_mornings 80 = .ok (.aload_n 0, 1) := dk_42 (dk_at dksX4_mornings_3 10 rfl rfl)
theorem dX4_mornings_81 : decode cX4_mornings 81 = .ok (.invokevirtual 376, 3) := dk_182 1 120 (dk_at dksX4_mornings_3 11 rfl rfl)
theorem dX4_mornings_84 : decode cX4_mornings 84 = .ok (.iconst 0, 1) := dk_3 (dk_at dksX4_mornings_3 14 rfl rfl)
theorem dX4_mornings_85 : decode cX4_mornings 85 = .ok (.istore 8, 2) := dk_54 8 (dk_at dksX4_mornings_3 15 rfl rfl)
theorem dX4_mornings_87 : decode cX4_mornings 87 = .ok (.iload 8, 2) := dk_21 8 (dk_at dksX4_mornings_3 17 rfl rfl)
theorem dX4_mornings_89 : decode cX4_mornings 89 = .ok (.iload_n 1, 1) := dk_27 (dk_at dksX4_mornings_3 19 rfl rfl)
theorem dX4_mornings_90 : decode cX4_mornings 90 = .ok (.if_icmp .ge 100, 3) := dk_162 0 100 (dk_at dksX4_mornings_3 20 rfl rfl)
theorem dX4_mornings_93 : decode cX4_mornings 93 = .ok (.iconst 0, 1) := dk_3 (dk_at dksX4_mornings_3 23 rfl rfl)
theorem dX4_mornings_94 : decode cX4_mornings 94 = .ok (.istore 9, 2) := dk_54 9 (dk_at dksX4_mornings_4 0 rfl rfl)
theorem dX4_mornings_96 : decode cX4_mornings 96 = .ok (.iload 9, 2) := dk_21 9 (dk_at dksX4_mornings_4 2 rfl rfl)
theorem dX4_mornings_98 : decode cX4_mornings 98 = .ok (.iload_n 2, 1) := dk_28 (dk_at dksX4_mornings_4 4 rfl rfl)
theorem dX4_mornings_99 : decode cX4_mornings 99 = .ok (.if_icmp .ge 48, 3) := dk_162 0 48 (dk_at dksX4_mornings_4 5 rfl rfl)
theorem dX4_mornings_102 : decode cX4_mornings 102 = .ok (.aload_n 0, 1) := dk_42 (dk_at dksX4_mornings_4 8 rfl rfl)
theorem dX4_mornings_103 : decode cX4_mornings 103 = .ok (.bipush 100, 2) := dk_16 100 (dk_at dksX4_mornings_4 9 rfl rfl)
theorem dX4_mornings_105 : decode cX4_mornings 105 = .ok (.invokevirtual 472, 3) := dk_182 1 216 (dk_at dksX4_mornings_4 11 rfl rfl)
theorem dX4_mornings_108 : decode cX4_mornings 108 = .ok (.iload_n 3, 1) := dk_29 (dk_at dksX4_mornings_4 14 rfl rfl)
theorem dX4_mornings_109 : decode cX4_mornings 109 = .ok (.if_icmp .ge 27, 3) := dk_162 0 27 (dk_at dksX4_mornings_4 15 rfl rfl)
theorem dX4_mornings_112 : decode cX4_mornings 112 = .ok (.aload_n 0, 1) := dk_42 (dk_at dksX4_mornings_4 18 rfl rfl)
theorem dX4_mornings_113 : decode cX4_mornings 113 = .ok (.getfield 39, 3) := dk_180 0 39 (dk_at dksX4_mornings_4 19 rfl rfl)
theorem dX4_mornings_116 : decode cX4_mornings 116 = .ok (.iconst 3, 1) := dk_6 (dk_at dksX4_mornings_4 22 rfl rfl)
theorem dX4_mornings_117 : decode cX4_mornings 117 = .ok (.iaload, 1) := dk_46 (dk_at dksX4_mornings_4 23 rfl rfl)
theorem dX4_mornings_118 : decode cX4_mornings 118 = .ok (.ifCond .le 18, 3) := dk_158 0 18 (dk_at dksX4_mornings_5 0 rfl rfl)
theorem dX4_mornings_121 : decode cX4_mornings 121 = .ok (.aload_n 0, 1) := dk_42 (dk_at dksX4_mornings_5 3 rfl rfl)
theorem dX4_mornings_122 : decode cX4_mornings 122 = .ok (.aload_n 0, 1) := dk_42 (dk_at dksX4_mornings_5 4 rfl rfl)
theorem dX4_mornings_123 : decode cX4_mornings 123 = .ok (.aload_n 0, 1) := dk_42 (dk_at dksX4_mornings_5 5 rfl rfl)
theorem dX4_mornings_124 : decode cX4_mornings 124 = .ok (.getfield 39, 3) := dk_180 0 39 (dk_at dksX4_mornings_5 6 rfl rfl)
theorem dX4_mornings_127 : decode cX4_mornings 127 = .ok (.iconst 3, 1) := dk_6 (dk_at dksX4_mornings_5 9 rfl rfl)
theorem dX4_mornings_128 : decode cX4_mornings 128 = .ok (.iaload, 1) := dk_46 (dk_at dksX4_mornings_5 10 rfl rfl)
theorem dX4_mornings_129 : decode cX4_mornings 129 = .ok (.invokevirtual 472, 3) := dk_182 1 216 (dk_at dksX4_mornings_5 11 rfl rfl)
theorem dX4_mornings_132 : decode cX4_mornings 132 = .ok (.iconst 3, 1) := dk_6 (dk_at dksX4_mornings_5 14 rfl rfl)
theorem dX4_mornings_133 : decode cX4_mornings 133 = .ok (.invokevirtual 350, 3) := dk_182 1 94 (dk_at dksX4_mornings_5 15 rfl rfl)
theorem dX4_mornings_136 : decode cX4_mornings 136 = .ok (.aload_n 0, 1) := dk_42 (dk_at dksX4_mornings_5 18 rfl rfl)
theorem dX4_mornings_137 : decode cX4_mornings 137 = .ok (.invokevirtual 362, 3) := dk_182 1 106 (dk_at dksX4_mornings_5 19 rfl rfl)
theorem dX4_mornings_140 : decode cX4_mornings 140 = .ok (.pop, 1) := dk_87 (dk_at dksX4_mornings_5 22 rfl rfl)
theorem dX4_mornings_141 : decode cX4_mornings 141 = .ok (.iinc 9 1, 3) := dk_132 9 1 (dk_at dksX4_mornings_6 0 rfl rfl)
theorem dX4_mornings_144 : decode cX4_mornings 144 = .ok (.goto (-48), 3) := dk_167 255 208 (dk_at dksX4_mornings_6 3 rfl rfl)
theorem dX4_mornings_147 : decode cX4_mornings 147 = .ok (.iload 5, 2) := dk_21 5 (dk_at dksX4_mornings_6 6 rfl rfl)
theorem dX4_mornings_149 : decode cX4_mornings 149 = .ok (.aload_n 0, 1) := dk_42 (dk_at dksX4_mornings_6 8 rfl rfl)
theorem dX4_mornings_150 : decode cX4_mornings 150 = .ok (.iconst 2, 1) := dk_5 (dk_at dksX4_mornings_6 9 rfl rfl)
theorem dX4_mornings_151 : decode cX4_mornings 151 = .ok (.invokevirtual 340, 3) := dk_182 1 84 (dk_at dksX4_mornings_6 10 rfl rfl)
theorem dX4_mornings_154 : decode cX4_mornings 154 = .ok (.iload 7, 2) := dk_21 7 (dk_at dksX4_mornings_6 13 rfl rfl)
theorem dX4_mornings_156 : decode cX4_mornings 156 = .ok (.isub, 1) := dk_100 (dk_at dksX4_mornings_6 15 rfl rfl)
theorem dX4_mornings_157 : decode cX4_mornings 157 = .ok (.iadd, 1) := dk_96 (dk_at dksX4_mornings_6 16 rfl rfl)
theorem dX4_mornings_158 : decode cX4_mornings 158 = .ok (.istore 5, 2) := dk_54 5 (dk_at dksX4_mornings_6 17 rfl rfl)
theorem dX4_mornings_160 : decode cX4_mornings 160 = .ok (.iload 6, 2) := dk_21 6 (dk_at dksX4_mornings_6 19 rfl rfl)
theorem dX4_mornings_162 : decode cX4_mornings 162 = .ok (.aload_n 0, 1) := dk_42 (dk_at dksX4_mornings_6 21 rfl rfl)
theorem dX4_mornings_163 : decode cX4_mornings 163 = .ok (.getfield 39, 3) := dk_180 0 39 (dk_at dksX4_mornings_7 0 rfl rfl)
theorem dX4_mornings_166 : decode cX4_mornings 166 = .ok (.bipush 53, 2) := dk_16 53 (dk_at dksX4_mornings_7 3 rfl rfl)
theorem dX4_mornings_168 : decode cX4_mornings 168 = .ok (.iaload, 1) := dk_46 (dk_at dksX4_mornings_7 5 rfl rfl)
theorem dX4_mornings_169 : decode cX4_mornings 169 = .ok (.aload_n 0, 1) := dk_42 (dk_at dksX4_mornings_7 6 rfl rfl)
theorem dX4_mornings_170 : decode cX4_mornings 170 = .ok (.getfield 58, 3) := dk_180 0 58 (dk_at dksX4_mornings_7 7 rfl rfl)
theorem dX4_mornings_173 : decode cX4_mornings 173 = .ok (.bipush 43, 2) := dk_16 43 (dk_at dksX4_mornings_7 10 rfl rfl)
theorem dX4_mornings_175 : decode cX4_mornings 175 = .ok (.iaload, 1) := dk_46 (dk_at dksX4_mornings_7 12 rfl rfl)
theorem dX4_mornings_176 : decode cX4_mornings 176 = .ok (.isub, 1) := dk_100 (dk_at dksX4_mornings_7 13 rfl rfl)
theorem dX4_mornings_177 : decode cX4_mornings 177 = .ok (.iadd, 1) := dk_96 (dk_at dksX4_mornings_7 14 rfl rfl)
theorem dX4_mornings_178 : decode cX4_mornings 178 = .ok (.istore 6, 2) := dk_54 6 (dk_at dksX4_mornings_7 15 rfl rfl)
theorem dX4_mornings_180 : decode cX4_mornings 180 = .ok (.aload_n 0, 1) := dk_42 (dk_at dksX4_mornings_7 17 rfl rfl)
theorem dX4_mornings_181 : decode cX4_mornings 181 = .ok (.invokevirtual 382, 3) := dk_182 1 126 (dk_at dksX4_mornings_7 18 rfl rfl)
theorem dX4_mornings_184 : decode cX4_mornings 184 = .ok (.iinc 8 1, 3) := dk_132 8 1 (dk_at dksX4_mornings_7 21 rfl rfl)
theorem dX4_mornings_187 : decode cX4_mornings 187 = .ok (.goto (-100), 3) := dk_167 255 156 (dk_at dksX4_mornings_8 0 rfl rfl)
theorem dX4_mornings_190 : decode cX4_mornings 190 = .ok (.iload 4, 2) := dk_21 4 (dk_at dksX4_mornings_8 3 rfl rfl)
theorem dX4_mornings_192 : decode cX4_mornings 192 = .ok (.ifCond .ne 8, 3) := dk_154 0 8 (dk_at dksX4_mornings_8 5 rfl rfl)
theorem dX4_mornings_195 : decode cX4_mornings 195 = .ok (.iload 5, 2) := dk_21 5 (dk_at dksX4_mornings_8 8 rfl rfl)
theorem dX4_mornings_197 : decode cX4_mornings 197 = .ok (.goto 5, 3) := dk_167 0 5 (dk_at dksX4_mornings_8 10 rfl rfl)
theorem dX4_mornings_200 : decode cX4_mornings 200 = .ok (.iload 6, 2) := dk_21 6 (dk_at dksX4_mornings_8 13 rfl rfl)
theorem dX4_mornings_202 : decode cX4_mornings 202 = .ok (.ireturn, 1) := dk_172 (dk_at dksX4_mornings_8 15 rfl rfl)
abbrev cX4_draw : ByteArray := prog_19_method_113_code
def yX4_draw : MethodName := ⟨RX4, "draw", "(I)I"⟩
def dkwX4_draw_1 : List UInt8 := [20, 1, 211, 109, 27, 133, 113, 136, 172]
abbrev dktX4_draw_1 : List UInt8 := dkwX4_draw_1 ++ []
def dkwX4_draw_0 : List UInt8 := [42, 42, 180, 1, 201, 20, 1, 205, 105, 20, 1, 207, 97, 20, 1, 209, 113, 181, 1, 201, 42, 180, 1, 201]
abbrev dktX4_draw_0 : List UInt8 := dkwX4_draw_0 ++ dktX4_draw_1
theorem dksX4_draw_0 : cX4_draw.data.toList.drop 0 = dktX4_draw_0 := by decide +kernel
theorem dksX4_draw_1 : cX4_draw.data.toList.drop 24 = dktX4_draw_1 := dk_seg dksX4_draw_0 24 rfl rfl
theorem dX4_draw_0 : decode cX4_draw 0 = .ok (.aload_n 0, 1) := dk_42 (dk_at dksX4_draw_0 0 rfl rfl)
theorem dX4_draw_1 : decode cX4_draw 1 = .ok (.aload_n 0, 1) := dk_42 (dk_at dksX4_draw_0 1 rfl rfl)
theorem dX4_draw_2 : decode cX4_draw 2 = .ok (.getfield 457, 3) := dk_180 1 201 (dk_at dksX4_draw_0 2 rfl rfl)
theorem dX4_draw_5 : decode cX4_draw 5 = .ok (.ldc2_w 461, 3) := dk_20 1 205 (dk_at dksX4_draw_0 5 rfl rfl)
theorem dX4_draw_8 : decode cX4_draw 8 = .ok (.lmul, 1) := dk_105 (dk_at dksX4_draw_0 8 rfl rfl)
theorem dX4_draw_9 : decode cX4_draw 9 = .ok (.ldc2_w 463, 3) := dk_20 1 207 (dk_at dksX4_draw_0 9 rfl rfl)
theorem dX4_draw_12 : decode cX4_draw 12 = .ok (.ladd, 1) := dk_97 (dk_at dksX4_draw_0 12 rfl rfl)
theorem dX4_draw_13 : decode cX4_draw 13 = .ok (.ldc2_w 465, 3) := dk_20 1 209 (dk_at dksX4_draw_0 13 rfl rfl)
theorem dX4_draw_16 : decode cX4_draw 16 = .ok (.lrem, 1) := dk_113 (dk_at dksX4_draw_0 16 rfl rfl)
theorem dX4_draw_17 : decode cX4_draw 17 = .ok (.putfield 457, 3) := dk_181 1 201 (dk_at dksX4_draw_0 17 rfl rfl)
theorem dX4_draw_20 : decode cX4_draw 20 = .ok (.aload_n 0, 1) := dk_42 (dk_at dksX4_draw_0 20 rfl rfl)
theorem dX4_draw_21 : decode cX4_draw 21 = .ok (.getfield 457, 3) := dk_180 1 201 (dk_at dksX4_draw_0 21 rfl rfl)
theorem dX4_draw_24 : decode cX4_draw 24 = .ok (.ldc2_w 467, 3) := dk_20 1 211 (dk_at dksX4_draw_1 0 rfl rfl)
theorem dX4_draw_27 : decode cX4_draw 27 = .ok (.ldiv, 1) := dk_109 (dk_at dksX4_draw_1 3 rfl rfl)
theorem dX4_draw_28 : decode cX4_draw 28 = .ok (.iload_n 1, 1) := dk_27 (dk_at dksX4_draw_1 4 rfl rfl)
theorem dX4_draw_29 : decode cX4_draw 29 = .ok (.i2l, 1) := dk_133 (dk_at dksX4_draw_1 5 rfl rfl)
theorem dX4_draw_30 : decode cX4_draw 30 = .ok (.lrem, 1) := dk_113 (dk_at dksX4_draw_1 6 rfl rfl)
theorem dX4_draw_31 : decode cX4_draw 31 = .ok (.l2i, 1) := dk_136 (dk_at dksX4_draw_1 7 rfl rfl)
theorem dX4_draw_32 : decode cX4_draw 32 = .ok (.ireturn, 1) := dk_172 (dk_at dksX4_draw_1 8 rfl rfl)
abbrev cX4_count : ByteArray := prog_19_method_115_code
def yX4_count : MethodName := ⟨RX4, "count", "(I)I"⟩
def dkwX4_count_5 : List UInt8 := [180, 0, 92, 172, 2, 172]
abbrev dktX4_count_5 : List UInt8 := dkwX4_count_5 ++ []
def dkwX4_count_4 : List UInt8 := [182, 1, 84, 172, 42, 180, 0, 39, 16, 120, 46, 172, 42, 180, 1, 20, 172, 42, 180, 1, 198, 172, 42]
abbrev dktX4_count_4 : List UInt8 := dkwX4_count_4 ++ dktX4_count_5
def dkwX4_count_3 : List UInt8 := [16, 10, 46, 172, 42, 182, 1, 75, 172, 42, 3, 182, 1, 84, 172, 42, 5, 182, 1, 84, 172, 42, 6]
abbrev dktX4_count_3 : List UInt8 := dkwX4_count_3 ++ dktX4_count_4
def dkwX4_count_2 : List UInt8 := [42, 180, 0, 39, 27, 4, 96, 46, 172, 42, 180, 1, 11, 172, 42, 180, 0, 42, 172, 42, 180, 0, 39]
abbrev dktX4_count_2 : List UInt8 := dkwX4_count_2 ++ dktX4_count_3
def dkwX4_count_1 : List UInt8 := [170, 0, 0, 0, 0, 0, 144, 0, 0, 0, 0, 0, 0, 0, 13, 0, 0, 0, 71, 0, 0, 0, 71, 0, 0, 0, 71, 0, 0, 0, 80, 0, 0, 0, 85, 0, 0, 0, 90, 0, 0, 0, 98, 0, 0, 0, 103, 0, 0, 0, 109, 0, 0, 0, 115, 0, 0, 0, 121, 0, 0, 0, 129, 0, 0, 0, 134, 0, 0, 0, 139]
abbrev dktX4_count_1 : List UInt8 := dkwX4_count_1 ++ dktX4_count_2
def dkwX4_count_0 : List UInt8 := [27]
abbrev dktX4_count_0 : List UInt8 := dkwX4_count_0 ++ dktX4_count_1
theorem dksX4_count_0 : cX4_count.data.toList.drop 0 = dktX4_count_0 := by decide +kernel
theorem dksX4_count_1 : cX4_count.data.toList.drop 1 = dktX4_count_1 := dk_seg dksX4_count_0 1 rfl rfl
theorem dksX4_count_2 : cX4_count.data.toList.drop 72 = dktX4_count_2 := dk_seg dksX4_count_1 71 rfl rfl
theorem dksX4_count_3 : cX4_count.data.toList.drop 95 = dktX4_count_3 := dk_seg dksX4_count_2 23 rfl rfl
theorem dksX4_count_4 : cX4_count.data.toList.drop 118 = dktX4_count_4 := dk_seg dksX4_count_3 23 rfl rfl
theorem dksX4_count_5 : cX4_count.data.toList.drop 141 = dktX4_count_5 := dk_seg dksX4_count_4 23 rfl rfl
theorem dX4_count_0 : decode cX4_count 0 = .ok (.iload_n 1, 1) := dk_27 (dk_at dksX4_count_0 0 rfl rfl)
theorem dX4_count_1 : decode cX4_count 1 = .ok (.tableswitch 144 0 13 #[71, 71, 71, 80, 85, 90, 98, 103, 109, 115, 121, 129, 134, 139], 71) := by decide +kernel
theorem dX4_count_72 : decode cX4_count 72 = .ok (.aload_n 0, 1) := dk_42 (dk_at dksX4_count_2 0 rfl rfl)
theorem dX4_count_73 : decode cX4_count 73 = .ok (.getfield 39, 3) := dk_180 0 39 (dk_at dksX4_count_2 1 rfl rfl)
theorem dX4_count_76 : decode cX4_count 76 = .ok (.iload_n 1, 1) := dk_27 (dk_at dksX4_count_2 4 rfl rfl)
theorem dX4_count_77 : decode cX4_count 77 = .ok (.iconst 1, 1) := dk_4 (dk_at dksX4_count_2 5 rfl rfl)
theorem dX4_count_78 : decode cX4_count 78 = .ok (.iadd, 1) := dk_96 (dk_at dksX4_count_2 6 rfl rfl)
theorem dX4_count_79 : decode cX4_count 79 = .ok (.iaload, 1) := dk_46 (dk_at dksX4_count_2 7 rfl rfl)
theorem dX4_count_80 : decode cX4_count 80 = .ok (.ireturn, 1) := dk_172 (dk_at dksX4_count_2 8 rfl rfl)
theorem dX4_count_81 : decode cX4_count 81 = .ok (.aload_n 0, 1) := dk_42 (dk_at dksX4_count_2 9 rfl rfl)
theorem dX4_count_82 : decode cX4_count 82 = .ok (.getfield 267, 3) := dk_180 1 11 (dk_at dksX4_count_2 10 rfl rfl)
theorem dX4_count_85 : decode cX4_count 85 = .ok (.ireturn, 1) := dk_172 (dk_at dksX4_count_2 13 rfl rfl)
theorem dX4_count_86 : decode cX4_count 86 = .ok (.aload_n 0, 1) := dk_42 (dk_at dksX4_count_2 14 rfl rfl)
theorem dX4_count_87 : decode cX4_count 87 = .ok (.getfield 42, 3) := dk_180 0 42 (dk_at dksX4_count_2 15 rfl rfl)
theorem dX4_count_90 : decode cX4_count 90 = .ok (.ireturn, 1) := dk_172 (dk_at dksX4_count_2 18 rfl rfl)
theorem dX4_count_91 : decode cX4_count 91 = .ok (.aload_n 0, 1) := dk_42 (dk_at dksX4_count_2 19 rfl rfl)
theorem dX4_count_92 : decode cX4_count 92 = .ok (.getfield 39, 3) := dk_180 0 39 (dk_at dksX4_count_2 20 rfl rfl)
theorem dX4_count_95 : decode cX4_count 95 = .ok (.bipush 10, 2) := dk_16 10 (dk_at dksX4_count_3 0 rfl rfl)
theorem dX4_count_97 : decode cX4_count 97 = .ok (.iaload, 1) := dk_46 (dk_at dksX4_count_3 2 rfl rfl)
theorem dX4_count_98 : decode cX4_count 98 = .ok (.ireturn, 1) := dk_172 (dk_at dksX4_count_3 3 rfl rfl)
theorem dX4_count_99 : decode cX4_count 99 = .ok (.aload_n 0, 1) := dk_42 (dk_at dksX4_count_3 4 rfl rfl)
theorem dX4_count_100 : decode cX4_count 100 = .ok (.invokevirtual 331, 3) := dk_182 1 75 (dk_at dksX4_count_3 5 rfl rfl)
theorem dX4_count_103 : decode cX4_count 103 = .ok (.ireturn, 1) := dk_172 (dk_at dksX4_count_3 8 rfl rfl)
theorem dX4_count_104 : decode cX4_count 104 = .ok (.aload_n 0, 1) := dk_42 (dk_at dksX4_count_3 9 rfl rfl)
theorem dX4_count_105 : decode cX4_count 105 = .ok (.iconst 0, 1) := dk_3 (dk_at dksX4_count_3 10 rfl rfl)
theorem dX4_count_106 : decode cX4_count 106 = .ok (.invokevirtual 340, 3) := dk_182 1 84 (dk_at dksX4_count_3 11 rfl rfl)
theorem dX4_count_109 : decode cX4_count 109 = .ok (.ireturn, 1) := dk_172 (dk_at dksX4_count_3 14 rfl rfl)
theorem dX4_count_110 : decode cX4_count 110 = .ok (.aload_n 0, 1) := dk_42 (dk_at dksX4_count_3 15 rfl rfl)
theorem dX4_count_111 : decode cX4_count 111 = .ok (.iconst 2, 1) := dk_5 (dk_at dksX4_count_3 16 rfl rfl)
theorem dX4_count_112 : decode cX4_count 112 = .ok (.invokevirtual 340, 3) := dk_182 1 84 (dk_at dksX4_count_3 17 rfl rfl)
theorem dX4_count_115 : decode cX4_count 115 = .ok (.ireturn, 1) := dk_172 (dk_at dksX4_count_3 20 rfl rfl)
theorem dX4_count_116 : decode cX4_count 116 = .ok (.aload_n 0, 1) := dk_42 (dk_at dksX4_count_3 21 rfl rfl)
theorem dX4_count_117 : decode cX4_count 117 = .ok (.iconst 3, 1) := dk_6 (dk_at dksX4_count_3 22 rfl rfl)
theorem dX4_count_118 : decode cX4_count 118 = .ok (.invokevirtual 340, 3) := dk_182 1 84 (dk_at dksX4_count_4 0 rfl rfl)
theorem dX4_count_121 : decode cX4_count 121 = .ok (.ireturn, 1) := dk_172 (dk_at dksX4_count_4 3 rfl rfl)
theorem dX4_count_122 : decode cX4_count 122 = .ok (.aload_n 0, 1) := dk_42 (dk_at dksX4_count_4 4 rfl rfl)
theorem dX4_count_123 : decode cX4_count 123 = .ok (.getfield 39, 3) := dk_180 0 39 (dk_at dksX4_count_4 5 rfl rfl)
theorem dX4_count_126 : decode cX4_count 126 = .ok (.bipush 120, 2) := dk_16 120 (dk_at dksX4_count_4 8 rfl rfl)
theorem dX4_count_128 : decode cX4_count 128 = .ok (.iaload, 1) := dk_46 (dk_at dksX4_count_4 10 rfl rfl)
theorem dX4_count_129 : decode cX4_count 129 = .ok (.ireturn, 1) := dk_172 (dk_at dksX4_count_4 11 rfl rfl)
theorem dX4_count_130 : decode cX4_count 130 = .ok (.aload_n 0, 1) := dk_42 (dk_at dksX4_count_4 12 rfl rfl)
theorem dX4_count_131 : decode cX4_count 131 = .ok (.getfield 276, 3) := dk_180 1 20 (dk_at dksX4_count_4 13 rfl rfl)
theorem dX4_count_134 : decode cX4_count 134 = .ok (.ireturn, 1) := dk_172 (dk_at dksX4_count_4 16 rfl rfl)
theorem dX4_count_135 : decode cX4_count 135 = .ok (.aload_n 0, 1) := dk_42 (dk_at dksX4_count_4 17 rfl rfl)
theorem dX4_count_136 : decode cX4_count 136 = .ok (.getfield 454, 3) := dk_180 1 198 (dk_at dksX4_count_4 18 rfl rfl)
theorem dX4_count_139 : decode cX4_count 139 = .ok (.ireturn, 1) := dk_172 (dk_at dksX4_count_4 21 rfl rfl)
theorem dX4_count_140 : decode cX4_count 140 = .ok (.aload_n 0, 1) := dk_42 (dk_at dksX4_count_4 22 rfl rfl)
theorem dX4_count_141 : decode cX4_count 141 = .ok (.getfield 92, 3) := dk_180 0 92 (dk_at dksX4_count_5 0 rfl rfl)
theorem dX4_count_144 : decode cX4_count 144 = .ok (.ireturn, 1) := dk_172 (dk_at dksX4_count_5 3 rfl rfl)
theorem dX4_count_145 : decode cX4_count 145 = .ok (.iconst (-1), 1) := dk_2 (dk_at dksX4_count_5 4 rfl rfl)
theorem dX4_count_146 : decode cX4_count 146 = .ok (.ireturn, 1) := dk_172 (dk_at dksX4_count_5 5 rfl rfl)
abbrev cX4_image : ByteArray := prog_19_method_116_code
def yX4_image : MethodName := ⟨RX4, "image", "(I)I"⟩
def dkwX4_image_3 : List UInt8 := [167, 255, 230, 42, 180, 0, 39, 16, 10, 46, 172]
abbrev dktX4_image_3 : List UInt8 := dkwX4_image_3 ++ []
def dkwX4_image_2 : List UInt8 := [162, 0, 26, 42, 180, 0, 80, 16, 121, 27, 104, 28, 96, 42, 180, 0, 39, 28, 46, 79, 132, 2, 1]
abbrev dktX4_image_2 : List UInt8 := dkwX4_image_2 ++ dktX4_image_3
def dkwX4_image_1 : List UInt8 := [180, 0, 83, 27, 42, 180, 0, 42, 79, 42, 180, 0, 86, 27, 42, 180, 1, 198, 79, 3, 61, 28, 16, 121]
abbrev dktX4_image_1 : List UInt8 := dkwX4_image_1 ++ dktX4_image_2
def dkwX4_image_0 : List UInt8 := [27, 133, 9, 20, 1, 153, 184, 0, 130, 154, 0, 5, 2, 172, 42, 180, 0, 89, 27, 4, 84, 42]
abbrev dktX4_image_0 : List UInt8 := dkwX4_image_0 ++ dktX4_image_1
theorem dksX4_image_0 : cX4_image.data.toList.drop 0 = dktX4_image_0 := by decide +kernel
theorem dksX4_image_1 : cX4_image.data.toList.drop 22 = dktX4_image_1 := dk_seg dksX4_image_0 22 rfl rfl
theorem dksX4_image_2 : cX4_image.data.toList.drop 46 = dktX4_image_2 := dk_seg dksX4_image_1 24 rfl rfl
theorem dksX4_image_3 : cX4_image.data.toList.drop 69 = dktX4_image_3 := dk_seg dksX4_image_2 23 rfl rfl
theorem dX4_image_0 : decode cX4_image 0 = .ok (.iload_n 1, 1) := dk_27 (dk_at dksX4_image_0 0 rfl rfl)
theorem dX4_image_1 : decode cX4_image 1 = .ok (.i2l, 1) := dk_133 (dk_at dksX4_image_0 1 rfl rfl)
theorem dX4_image_2 : decode cX4_image 2 = .ok (.lconst 0, 1) := dk_9 (dk_at dksX4_image_0 2 rfl rfl)
theorem dX4_image_3 : decode cX4_image 3 = .ok (.ldc2_w 409, 3) := dk_20 1 153 (dk_at dksX4_image_0 3 rfl rfl)
theorem dX4_image_6 : decode cX4_image 6 = .ok (.invokestatic 130, 3) := dk_184 0 130 (dk_at dksX4_image_0 6 rfl rfl)
theorem dX4_image_9 : decode cX4_image 9 = .ok (.ifCond .ne 5, 3) := dk_154 0 5 (dk_at dksX4_image_0 9 rfl rfl)
theorem dX4_image_12 : decode cX4_image 12 = .ok (.iconst (-1), 1) := dk_2 (dk_at dksX4_image_0 12 rfl rfl)
theorem dX4_image_13 : decode cX4_image 13 = .ok (.ireturn, 1) := dk_172 (dk_at dksX4_image_0 13 rfl rfl)
theorem dX4_image_14 : decode cX4_image 14 = .ok (.aload_n 0, 1) := dk_42 (dk_at dksX4_image_0 14 rfl rfl)
theorem dX4_image_15 : decode cX4_image 15 = .ok (.getfield 89, 3) := dk_180 0 89 (dk_at dksX4_image_0 15 rfl rfl)
theorem dX4_image_18 : decode cX4_image 18 = .ok (.iload_n 1, 1) := dk_27 (dk_at dksX4_image_0 18 rfl rfl)
theorem dX4_image_19 : decode cX4_image 19 = .ok (.iconst 1, 1) := dk_4 (dk_at dksX4_image_0 19 rfl rfl)
theorem dX4_image_20 : decode cX4_image 20 = .ok (.bastore, 1) := dk_84 (dk_at dksX4_image_0 20 rfl rfl)
theorem dX4_image_21 : decode cX4_image 21 = .ok (.aload_n 0, 1) := dk_42 (dk_at dksX4_image_0 21 rfl rfl)
theorem dX4_image_22 : decode cX4_image 22 = .ok (.getfield 83, 3) := dk_180 0 83 (dk_at dksX4_image_1 0 rfl rfl)
theorem dX4_image_25 : decode cX4_image 25 = .ok (.iload_n 1, 1) := dk_27 (dk_at dksX4_image_1 3 rfl rfl)
theorem dX4_image_26 : decode cX4_image 26 = .ok (.aload_n 0, 1) := dk_42 (dk_at dksX4_image_1 4 rfl rfl)
theorem dX4_image_27 : decode cX4_image 27 = .ok (.getfield 42, 3) := dk_180 0 42 (dk_at dksX4_image_1 5 rfl rfl)
theorem dX4_image_30 : decode cX4_image 30 = .ok (.iastore, 1) := dk_79 (dk_at dksX4_image_1 8 rfl rfl)
theorem dX4_image_31 : decode cX4_image 31 = .ok (.aload_n 0, 1) := dk_42 (dk_at dksX4_image_1 9 rfl rfl)
theorem dX4_image_32 : decode cX4_image 32 = .ok (.getfield 86, 3) := dk_180 0 86 (dk_at dksX4_image_1 10 rfl rfl)
theorem dX4_image_35 : decode cX4_image 35 = .ok (.iload_n 1, 1) := dk_27 (dk_at dksX4_image_1 13 rfl rfl)
theorem dX4_image_36 : decode cX4_image 36 = .ok (.aload_n 0, 1) := dk_42 (dk_at dksX4_image_1 14 rfl rfl)
theorem dX4_image_37 : decode cX4_image 37 = .ok (.getfield 454, 3) := dk_180 1 198 (dk_at dksX4_image_1 15 rfl rfl)
theorem dX4_image_40 : decode cX4_image 40 = .ok (.iastore, 1) := dk_79 (dk_at dksX4_image_1 18 rfl rfl)
theorem dX4_image_41 : decode cX4_image 41 = .ok (.iconst 0, 1) := dk_3 (dk_at dksX4_image_1 19 rfl rfl)
theorem dX4_image_42 : decode cX4_image 42 = .ok (.istore_n 2, 1) := dk_61 (dk_at dksX4_image_1 20 rfl rfl)
theorem dX4_image_43 : decode cX4_image 43 = .ok (.iload_n 2, 1) := dk_28 (dk_at dksX4_image_1 21 rfl rfl)
theorem dX4_image_44 : decode cX4_image 44 = .ok (.bipush 121, 2) := dk_16 121 (dk_at dksX4_image_1 22 rfl rfl)
theorem dX4_image_46 : decode cX4_image 46 = .ok (.if_icmp .ge 26, 3) := dk_162 0 26 (dk_at dksX4_image_2 0 rfl rfl)
theorem dX4_image_49 : decode cX4_image 49 = .ok (.aload_n 0, 1) := dk_42 (dk_at dksX4_image_2 3 rfl rfl)
theorem dX4_image_50 : decode cX4_image 50 = .ok (.getfield 80, 3) := dk_180 0 80 (dk_at dksX4_image_2 4 rfl rfl)
theorem dX4_image_53 : decode cX4_image 53 = .ok (.bipush 121, 2) := dk_16 121 (dk_at dksX4_image_2 7 rfl rfl)
theorem dX4_image_55 : decode cX4_image 55 = .ok (.iload_n 1, 1) := dk_27 (dk_at dksX4_image_2 9 rfl rfl)
theorem dX4_image_56 : decode cX4_image 56 = .ok (.imul, 1) := dk_104 (dk_at dksX4_image_2 10 rfl rfl)
theorem dX4_image_57 : decode cX4_image 57 = .ok (.iload_n 2, 1) := dk_28 (dk_at dksX4_image_2 11 rfl rfl)
theorem dX4_image_58 : decode cX4_image 58 = .ok (.iadd, 1) := dk_96 (dk_at dksX4_image_2 12 rfl rfl)
theorem dX4_image_59 : decode cX4_image 59 = .ok (.aload_n 0, 1) := dk_42 (dk_at dksX4_image_2 13 rfl rfl)
theorem dX4_image_60 : decode cX4_image 60 = .ok (.getfield 39, 3) := dk_180 0 39 (dk_at dksX4_image_2 14 rfl rfl)
theorem dX4_image_63 : decode cX4_image 63 = .ok (.iload_n 2, 1) := dk_28 (dk_at dksX4_image_2 17 rfl rfl)
theorem dX4_image_64 : decode cX4_image 64 = .ok (.iaload, 1) := dk_46 (dk_at dksX4_image_2 18 rfl rfl)
theorem dX4_image_65 : decode cX4_image 65 = .ok (.iastore, 1) := dk_79 (dk_at dksX4_image_2 19 rfl rfl)
theorem dX4_image_66 : decode cX4_image 66 = .ok (.iinc 2 1, 3) := dk_132 2 1 (dk_at dksX4_image_2 20 rfl rfl)
theorem dX4_image_69 : decode cX4_image 69 = .ok (.goto (-26), 3) := dk_167 255 230 (dk_at dksX4_image_3 0 rfl rfl)
theorem dX4_image_72 : decode cX4_image 72 = .ok (.aload_n 0, 1) := dk_42 (dk_at dksX4_image_3 3 rfl rfl)
theorem dX4_image_73 : decode cX4_image 73 = .ok (.getfield 39, 3) := dk_180 0 39 (dk_at dksX4_image_3 4 rfl rfl)
theorem dX4_image_76 : decode cX4_image 76 = .ok (.bipush 10, 2) := dk_16 10 (dk_at dksX4_image_3 7 rfl rfl)
theorem dX4_image_78 : decode cX4_image 78 = .ok (.iaload, 1) := dk_46 (dk_at dksX4_image_3 9 rfl rfl)
theorem dX4_image_79 : decode cX4_image 79 = .ok (.ireturn, 1) := dk_172 (dk_at dksX4_image_3 10 rfl rfl)
abbrev cX4_back : ByteArray := prog_19_method_117_code
def yX4_back : MethodName := ⟨RX4, "back", "(I)I"⟩
def dkwX4_back_3 : List UInt8 := [79, 132, 2, 1, 167, 255, 230, 42, 180, 0, 39, 16, 10, 46, 172]
abbrev dktX4_back_3 : List UInt8 := dkwX4_back_3 ++ []
def dkwX4_back_2 : List UInt8 := [3, 61, 28, 16, 121, 162, 0, 26, 42, 180, 0, 39, 28, 42, 180, 0, 80, 16, 121, 27, 104, 28, 96, 46]
abbrev dktX4_back_2 : List UInt8 := dkwX4_back_2 ++ dktX4_back_3
def dkwX4_back_1 : List UInt8 := [42, 180, 0, 83, 27, 46, 181, 0, 42, 42, 42, 180, 0, 86, 27, 46, 181, 1, 198, 42, 3, 181, 1, 20]
abbrev dktX4_back_1 : List UInt8 := dkwX4_back_1 ++ dktX4_back_2
def dkwX4_back_0 : List UInt8 := [27, 133, 9, 20, 1, 153, 184, 0, 130, 153, 0, 12, 42, 180, 0, 89, 27, 51, 154, 0, 5, 2, 172, 42]
abbrev dktX4_back_0 : List UInt8 := dkwX4_back_0 ++ dktX4_back_1
theorem dksX4_back_0 : cX4_back.data.toList.drop 0 = dktX4_back_0 := by decide +kernel
theorem dksX4_back_1 : cX4_back.data.toList.drop 24 = dktX4_back_1 := dk_seg dksX4_back_0 24 rfl rfl
theorem dksX4_back_2 : cX4_back.data.toList.drop 48 = dktX4_back_2 := dk_seg dksX4_back_1 24 rfl rfl
theorem dksX4_back_3 : cX4_back.data.toList.drop 72 = dktX4_back_3 := dk_seg dksX4_back_2 24 rfl rfl
theorem dX4_back_0 : decode cX4_back 0 = .ok (.iload_n 1, 1) := dk_27 (dk_at dksX4_back_0 0 rfl rfl)
theorem dX4_back_1 : decode cX4_back 1 = .ok (.i2l, 1) := dk_133 (dk_at dksX4_back_0 1 rfl rfl)
theorem dX4_back_2 : decode cX4_back 2 = .ok (.lconst 0, 1) := dk_9 (dk_at dksX4_back_0 2 rfl rfl)
theorem dX4_back_3 : decode cX4_back 3 = .ok (.ldc2_w 409, 3) := dk_20 1 153 (dk_at dksX4_back_0 3 rfl rfl)
theorem dX4_back_6 : decode cX4_back 6 = .ok (.invokestatic 130, 3) := dk_184 0 130 (dk_at dksX4_back_0 6 rfl rfl)
theorem dX4_back_9 : decode cX4_back 9 = .ok (.ifCond .eq 12, 3) := dk_153 0 12 (dk_at dksX4_back_0 9 rfl rfl)
theorem dX4_back_12 : decode cX4_back 12 = .ok (.aload_n 0, 1) := dk_42 (dk_at dksX4_back_0 12 rfl rfl)
theorem dX4_back_13 : decode cX4_back 13 = .ok (.getfield 89, 3) := dk_180 0 89 (dk_at dksX4_back_0 13 rfl rfl)
theorem dX4_back_16 : decode cX4_back 16 = .ok (.iload_n 1, 1) := dk_27 (dk_at dksX4_back_0 16 rfl rfl)
theorem dX4_back_17 : decode cX4_back 17 = .ok (.baload, 1) := dk_51 (dk_at dksX4_back_0 17 rfl rfl)
theorem dX4_back_18 : decode cX4_back 18 = .ok (.ifCond .ne 5, 3) := dk_154 0 5 (dk_at dksX4_back_0 18 rfl rfl)
theorem dX4_back_21 : decode cX4_back 21 = .ok (.iconst (-1), 1) := dk_2 (dk_at dksX4_back_0 21 rfl rfl)
theorem dX4_back_22 : decode cX4_back 22 = .ok (.ireturn, 1) := dk_172 (dk_at dksX4_back_0 22 rfl rfl)
theorem dX4_back_23 : decode cX4_back 23 = .ok (.aload_n 0, 1) := dk_42 (dk_at dksX4_back_0 23 rfl rfl)
theorem dX4_back_24 : decode cX4_back 24 = .ok (.aload_n 0, 1) := dk_42 (dk_at dksX4_back_1 0 rfl rfl)
theorem dX4_back_25 : decode cX4_back 25 = .ok (.getfield 83, 3) := dk_180 0 83 (dk_at dksX4_back_1 1 rfl rfl)
theorem dX4_back_28 : decode cX4_back 28 = .ok (.iload_n 1, 1) := dk_27 (dk_at dksX4_back_1 4 rfl rfl)
theorem dX4_back_29 : decode cX4_back 29 = .ok (.iaload, 1) := dk_46 (dk_at dksX4_back_1 5 rfl rfl)
theorem dX4_back_30 : decode cX4_back 30 = .ok (.putfield 42, 3) := dk_181 0 42 (dk_at dksX4_back_1 6 rfl rfl)
theorem dX4_back_33 : decode cX4_back 33 = .ok (.aload_n 0, 1) := dk_42 (dk_at dksX4_back_1 9 rfl rfl)
theorem dX4_back_34 : decode cX4_back 34 = .ok (.aload_n 0, 1) := dk_42 (dk_at dksX4_back_1 10 rfl rfl)
theorem dX4_back_35 : decode cX4_back 35 = .ok (.getfield 86, 3) := dk_180 0 86 (dk_at dksX4_back_1 11 rfl rfl)
theorem dX4_back_38 : decode cX4_back 38 = .ok (.iload_n 1, 1) := dk_27 (dk_at dksX4_back_1 14 rfl rfl)
theorem dX4_back_39 : decode cX4_back 39 = .ok (.iaload, 1) := dk_46 (dk_at dksX4_back_1 15 rfl rfl)
theorem dX4_back_40 : decode cX4_back 40 = .ok (.putfield 454, 3) := dk_181 1 198 (dk_at dksX4_back_1 16 rfl rfl)
theorem dX4_back_43 : decode cX4_back 43 = .ok (.aload_n 0, 1) := dk_42 (dk_at dksX4_back_1 19 rfl rfl)
theorem dX4_back_44 : decode cX4_back 44 = .ok (.iconst 0, 1) := dk_3 (dk_at dksX4_back_1 20 rfl rfl)
theorem dX4_back_45 : decode cX4_back 45 = .ok (.putfield 276, 3) := dk_181 1 20 (dk_at dksX4_back_1 21 rfl rfl)
theorem dX4_back_48 : decode cX4_back 48 = .ok (.iconst 0, 1) := dk_3 (dk_at dksX4_back_2 0 rfl rfl)
theorem dX4_back_49 : decode cX4_back 49 = .ok (.istore_n 2, 1) := dk_61 (dk_at dksX4_back_2 1 rfl rfl)
theorem dX4_back_50 : decode cX4_back 50 = .ok (.iload_n 2, 1) := dk_28 (dk_at dksX4_back_2 2 rfl rfl)
theorem dX4_back_51 : decode cX4_back 51 = .ok (.bipush 121, 2) := dk_16 121 (dk_at dksX4_back_2 3 rfl rfl)
theorem dX4_back_53 : decode cX4_back 53 = .ok (.if_icmp .ge 26, 3) := dk_162 0 26 (dk_at dksX4_back_2 5 rfl rfl)
theorem dX4_back_56 : decode cX4_back 56 = .ok (.aload_n 0, 1) := dk_42 (dk_at dksX4_back_2 8 rfl rfl)
theorem dX4_back_57 : decode cX4_back 57 = .ok (.getfield 39, 3) := dk_180 0 39 (dk_at dksX4_back_2 9 rfl rfl)
theorem dX4_back_60 : decode cX4_back 60 = .ok (.iload_n 2, 1) := dk_28 (dk_at dksX4_back_2 12 rfl rfl)
theorem dX4_back_61 : decode cX4_back 61 = .ok (.aload_n 0, 1) := dk_42 (dk_at dksX4_back_2 13 rfl rfl)
theorem dX4_back_62 : decode cX4_back 62 = .ok (.getfield 80, 3) := dk_180 0 80 (dk_at dksX4_back_2 14 rfl rfl)
theorem dX4_back_65 : decode cX4_back 65 = .ok (.bipush 121, 2) := dk_16 121 (dk_at dksX4_back_2 17 rfl rfl)
theorem dX4_back_67 : decode cX4_back 67 = .ok (.iload_n 1, 1) := dk_27 (dk_at dksX4_back_2 19 rfl rfl)
theorem dX4_back_68 : decode cX4_back 68 = .ok (.imul, 1) := dk_104 (dk_at dksX4_back_2 20 rfl rfl)
theorem dX4_back_69 : decode cX4_back 69 = .ok (.iload_n 2, 1) := dk_28 (dk_at dksX4_back_2 21 rfl rfl)
theorem dX4_back_70 : decode cX4_back 70 = .ok (.iadd, 1) := dk_96 (dk_at dksX4_back_2 22 rfl rfl)
theorem dX4_back_71 : decode cX4_back 71 = .ok (.iaload, 1) := dk_46 (dk_at dksX4_back_2 23 rfl rfl)
theorem dX4_back_72 : decode cX4_back 72 = .ok (.iastore, 1) := dk_79 (dk_at dksX4_back_3 0 rfl rfl)
theorem dX4_back_73 : decode cX4_back 73 = .ok (.iinc 2 1, 3) := dk_132 2 1 (dk_at dksX4_back_3 1 rfl rfl)
theorem dX4_back_76 : decode cX4_back 76 = .ok (.goto (-26), 3) := dk_167 255 230 (dk_at dksX4_back_3 4 rfl rfl)
theorem dX4_back_79 : decode cX4_back 79 = .ok (.aload_n 0, 1) := dk_42 (dk_at dksX4_back_3 7 rfl rfl)
theorem dX4_back_80 : decode cX4_back 80 = .ok (.getfield 39, 3) := dk_180 0 39 (dk_at dksX4_back_3 8 rfl rfl)
theorem dX4_back_83 : decode cX4_back 83 = .ok (.bipush 10, 2) := dk_16 10 (dk_at dksX4_back_3 11 rfl rfl)
theorem dX4_back_85 : decode cX4_back 85 = .ok (.iaload, 1) := dk_46 (dk_at dksX4_back_3 13 rfl rfl)
theorem dX4_back_86 : decode cX4_back 86 = .ok (.ireturn, 1) := dk_172 (dk_at dksX4_back_3 14 rfl rfl)
