set_option maxRecDepth 100000
abbrev cX0_init : ByteArray := prog_1_method_4_code
def yX0_init : MethodName := ⟨RX0, "<init>", "()V"⟩
def dkwX0_init_9 : List UInt8 := [177]
abbrev dktX0_init_9 : List UInt8 := dkwX0_init_9 ++ []
def dkwX0_init_8 : List UInt8 := [17, 1, 110, 188, 10, 181, 0, 106, 42, 16, 42, 188, 10, 181, 0, 109, 42, 7, 189, 0, 112, 181, 0, 114]
abbrev dktX0_init_8 : List UInt8 := dkwX0_init_8 ++ dktX0_init_9
def dkwX0_init_7 : List UInt8 := [184, 0, 80, 181, 0, 97, 42, 16, 25, 188, 10, 181, 0, 100, 42, 16, 25, 188, 10, 181, 0, 103, 42]
abbrev dktX0_init_7 : List UInt8 := dkwX0_init_7 ++ dktX0_init_8
def dkwX0_init_6 : List UInt8 := [16, 6, 188, 10, 181, 0, 88, 42, 6, 188, 10, 181, 0, 91, 42, 6, 188, 10, 181, 0, 94, 42, 7]
abbrev dktX0_init_6 : List UInt8 := dkwX0_init_6 ++ dktX0_init_7
def dkwX0_init_5 : List UInt8 := [190, 188, 11, 181, 0, 73, 42, 16, 6, 188, 10, 181, 0, 77, 42, 16, 20, 184, 0, 80, 181, 0, 84, 42]
abbrev dktX0_init_5 : List UInt8 := dkwX0_init_5 ++ dktX0_init_6
def dkwX0_init_4 : List UInt8 := [188, 10, 181, 0, 57, 42, 2, 181, 0, 60, 42, 2, 181, 0, 63, 42, 2, 181, 0, 66, 42, 178, 0, 69]
abbrev dktX0_init_4 : List UInt8 := dkwX0_init_4 ++ dktX0_init_5
def dkwX0_init_3 : List UInt8 := [188, 8, 181, 0, 46, 42, 16, 10, 188, 10, 181, 0, 50, 42, 16, 10, 188, 10, 181, 0, 54, 42, 16, 10]
abbrev dktX0_init_3 : List UInt8 := dkwX0_init_3 ++ dktX0_init_4
def dkwX0_init_2 : List UInt8 := [181, 0, 31, 42, 2, 181, 0, 35, 42, 187, 0, 39, 89, 183, 0, 41, 181, 0, 42, 42, 17, 1, 144]
abbrev dktX0_init_2 : List UInt8 := dkwX0_init_2 ++ dktX0_init_3
def dkwX0_init_1 : List UInt8 := [181, 0, 19, 42, 187, 0, 16, 89, 183, 0, 18, 181, 0, 23, 42, 187, 0, 26, 89, 5, 183, 0, 28]
abbrev dktX0_init_1 : List UInt8 := dkwX0_init_1 ++ dktX0_init_2
def dkwX0_init_0 : List UInt8 := [42, 183, 0, 1, 42, 187, 0, 7, 89, 183, 0, 9, 181, 0, 10, 42, 187, 0, 16, 89, 183, 0, 18]
abbrev dktX0_init_0 : List UInt8 := dkwX0_init_0 ++ dktX0_init_1
theorem dksX0_init_0 : cX0_init.data.toList.drop 0 = dktX0_init_0 := by decide +kernel
theorem dksX0_init_1 : cX0_init.data.toList.drop 23 = dktX0_init_1 := dk_seg dksX0_init_0 23 rfl rfl
theorem dksX0_init_2 : cX0_init.data.toList.drop 46 = dktX0_init_2 := dk_seg dksX0_init_1 23 rfl rfl
theorem dksX0_init_3 : cX0_init.data.toList.drop 69 = dktX0_init_3 := dk_seg dksX0_init_2 23 rfl rfl
theorem dksX0_init_4 : cX0_init.data.toList.drop 93 = dktX0_init_4 := dk_seg dksX0_init_3 24 rfl rfl
theorem dksX0_init_5 : cX0_init.data.toList.drop 117 = dktX0_init_5 := dk_seg dksX0_init_4 24 rfl rfl
theorem dksX0_init_6 : cX0_init.data.toList.drop 141 = dktX0_init_6 := dk_seg dksX0_init_5 24 rfl rfl
theorem dksX0_init_7 : cX0_init.data.toList.drop 164 = dktX0_init_7 := dk_seg dksX0_init_6 23 rfl rfl
theorem dksX0_init_8 : cX0_init.data.toList.drop 187 = dktX0_init_8 := dk_seg dksX0_init_7 23 rfl rfl
theorem dksX0_init_9 : cX0_init.data.toList.drop 211 = dktX0_init_9 := dk_seg dksX0_init_8 24 rfl rfl
theorem dX0_init_0 : decode cX0_init 0 = .ok (.aload_n 0, 1) := dk_42 (dk_at dksX0_init_0 0 rfl rfl)
theorem dX0_init_1 : decode cX0_init 1 = .ok (.invokespecial 1, 3) := dk_183 0 1 (dk_at dksX0_init_0 1 rfl rfl)
theorem dX0_init_4 : decode cX0_init 4 = .ok (.aload_n 0, 1) := dk_42 (dk_at dksX0_init_0 4 rfl rfl)
theorem dX0_init_5 : decode cX0_init 5 = .ok (.new 7, 3) := dk_187 0 7 (dk_at dksX0_init_0 5 rfl rfl)
theorem dX0_init_8 : decode cX0_init 8 = .ok (.dup, 1) := dk_89 (dk_at dksX0_init_0 8 rfl rfl)
theorem dX0_init_9 : decode cX0_init 9 = .ok (.invokespecial 9, 3) := dk_183 0 9 (dk_at dksX0_init_0 9 rfl rfl)
theorem dX0_init_12 : decode cX0_init 12 = .ok (.putfield 10, 3) := dk_181 0 10 (dk_at dksX0_init_0 12 rfl rfl)
theorem dX0_init_15 : decode cX0_init 15 = .ok (.aload_n 0, 1) := dk_42 (dk_at dksX0_init_0 15 rfl rfl)
theorem dX0_init_16 : decode cX0_init 16 = .ok (.new 16, 3) := dk_187 0 16 (dk_at dksX0_init_0 16 rfl rfl)
theorem dX0_init_19 : decode cX0_init 19 = .ok (.dup, 1) := dk_89 (dk_at dksX0_init_0 19 rfl rfl)
theorem dX0_init_20 : decode cX0_init 20 = .ok (.invokespecial 18, 3) := dk_183 0 18 (dk_at dksX0_init_0 20 rfl rfl)
theorem dX0_init_23 : decode cX0_init 23 = .ok (.putfield 19, 3) := dk_181 0 19 (dk_at dksX0_init_1 0 rfl rfl)
theorem dX0_init_26 : decode cX0_init 26 = .ok (.aload_n 0, 1) := dk_42 (dk_at dksX0_init_1 3 rfl rfl)
theorem dX0_init_27 : decode cX0_init 27 = .ok (.new 16, 3) := dk_187 0 16 (dk_at dksX0_init_1 4 rfl rfl)
theorem dX0_init_30 : decode cX0_init 30 = .ok (.dup, 1) := dk_89 (dk_at dksX0_init_1 7 rfl rfl)
theorem dX0_init_31 : decode cX0_init 31 = .ok (.invokespecial 18, 3) := dk_183 0 18 (dk_at dksX0_init_1 8 rfl rfl)
theorem dX0_init_34 : decode cX0_init 34 = .ok (.putfield 23, 3) := dk_181 0 23 (dk_at dksX0_init_1 11 rfl rfl)
theorem dX0_init_37 : decode cX0_init 37 = .ok (.aload_n 0, 1) := dk_42 (dk_at dksX0_init_1 14 rfl rfl)
theorem dX0_init_38 : decode cX0_init 38 = .ok (.new 26, 3) := dk_187 0 26 (dk_at dksX0_init_1 15 rfl rfl)
theorem dX0_init_41 : decode cX0_init 41 = .ok (.dup, 1) := dk_89 (dk_at dksX0_init_1 18 rfl rfl)
theorem dX0_init_42 : decode cX0_init 42 = .ok (.iconst 2, 1) := dk_5 (dk_at dksX0_init_1 19 rfl rfl)
theorem dX0_init_43 : decode cX0_init 43 = .ok (.invokespecial 28, 3) := dk_183 0 28 (dk_at dksX0_init_1 20 rfl rfl)
theorem dX0_init_46 : decode cX0_init 46 = .ok (.putfield 31, 3) := dk_181 0 31 (dk_at dksX0_init_2 0 rfl rfl)
theorem dX0_init_49 : decode cX0_init 49 = .ok (.aload_n 0, 1) := dk_42 (dk_at dksX0_init_2 3 rfl rfl)
theorem dX0_init_50 : decode cX0_init 50 = .ok (.iconst (-1), 1) := dk_2 (dk_at dksX0_init_2 4 rfl rfl)
theorem dX0_init_51 : decode cX0_init 51 = .ok (.putfield 35, 3) := dk_181 0 35 (dk_at dksX0_init_2 5 rfl rfl)
theorem dX0_init_54 : decode cX0_init 54 = .ok (.aload_n 0, 1) := dk_42 (dk_at dksX0_init_2 8 rfl rfl)
theorem dX0_init_55 : decode cX0_init 55 = .ok (.new 39, 3) := dk_187 0 39 (dk_at dksX0_init_2 9 rfl rfl)
theorem dX0_init_58 : decode cX0_init 58 = .ok (.dup, 1) := dk_89 (dk_at dksX0_init_2 12 rfl rfl)
theorem dX0_init_59 : decode cX0_init 59 = .ok (.invokespecial 41, 3) := dk_183 0 41 (dk_at dksX0_init_2 13 rfl rfl)
theorem dX0_init_62 : decode cX0_init 62 = .ok (.putfield 42, 3) := dk_181 0 42 (dk_at dksX0_init_2 16 rfl rfl)
theorem dX0_init_65 : decode cX0_init 65 = .ok (.aload_n 0, 1) := dk_42 (dk_at dksX0_init_2 19 rfl rfl)
theorem dX0_init_66 : decode cX0_init 66 = .ok (.sipush 400, 3) := dk_17 1 144 (dk_at dksX0_init_2 20 rfl rfl)
theorem dX0_init_69 : decode cX0_init 69 = .ok (.newarray .byte, 2) := dk_188_8 (dk_at dksX0_init_3 0 rfl rfl)
theorem dX0_init_71 : decode cX0_init 71 = .ok (.putfield 46, 3) := dk_181 0 46 (dk_at dksX0_init_3 2 rfl rfl)
theorem dX0_init_74 : decode cX0_init 74 = .ok (.aload_n 0, 1) := dk_42 (dk_at dksX0_init_3 5 rfl rfl)
theorem dX0_init_75 : decode cX0_init 75 = .ok (.bipush 10, 2) := dk_16 10 (dk_at dksX0_init_3 6 rfl rfl)
theorem dX0_init_77 : decode cX0_init 77 = .ok (.newarray .int, 2) := dk_188_10 (dk_at dksX0_init_3 8 rfl rfl)
theorem dX0_init_79 : decode cX0_init 79 = .ok (.putfield 50, 3) := dk_181 0 50 (dk_at dksX0_init_3 10 rfl rfl)
theorem dX0_init_82 : decode cX0_init 82 = .ok (.aload_n 0, 1) := dk_42 (dk_at dksX0_init_3 13 rfl rfl)
theorem dX0_init_83 : decode cX0_init 83 = .ok (.bipush 10, 2) := dk_16 10 (dk_at dksX0_init_3 14 rfl rfl)
theorem dX0_init_85 : decode cX0_init 85 = .ok (.newarray .int, 2) := dk_188_10 (dk_at dksX0_init_3 16 rfl rfl)
theorem dX0_init_87 : decode cX0_init 87 = .ok (.putfield 54, 3) := dk_181 0 54 (dk_at dksX0_init_3 18 rfl rfl)
theorem dX0_init_90 : decode cX0_init 90 = .ok (.aload_n 0, 1) := dk_42 (dk_at dksX0_init_3 21 rfl rfl)
theorem dX0_init_91 : decode cX0_init 91 = .ok (.bipush 10, 2) := dk_16 10 (dk_at dksX0_init_3 22 rfl rfl)
theorem dX0_init_93 : decode cX0_init 93 = .ok (.newarray .int, 2) := dk_188_10 (dk_at dksX0_init_4 0 rfl rfl)
theorem dX0_init_95 : decode cX0_init 95 = .ok (.putfield 57, 3) := dk_181 0 57 (dk_at dksX0_init_4 2 rfl rfl)
theorem dX0_init_98 : decode cX0_init 98 = .ok (.aload_n 0, 1) := dk_42 (dk_at dksX0_init_4 5 rfl rfl)
theorem dX0_init_99 : decode cX0_init 99 = .ok (.iconst (-1), 1) := dk_2 (dk_at dksX0_init_4 6 rfl rfl)
theorem dX0_init_100 : decode cX0_init 100 = .ok (.putfield 60, 3) := dk_181 0 60 (dk_at dksX0_init_4 7 rfl rfl)
theorem dX0_init_103 : decode cX0_init 103 = .ok (.aload_n 0, 1) := dk_42 (dk_at dksX0_init_4 10 rfl rfl)
theorem dX0_init_104 : decode cX0_init 104 = .ok (.iconst (-1), 1) := dk_2 (dk_at dksX0_init_4 11 rfl rfl)
theorem dX0_init_105 : decode cX0_init 105 = .ok (.putfield 63, 3) := dk_181 0 63 (dk_at dksX0_init_4 12 rfl rfl)
theorem dX0_init_108 : decode cX0_init 108 = .ok (.aload_n 0, 1) := dk_42 (dk_at dksX0_init_4 15 rfl rfl)
theorem dX0_init_109 : decode cX0_init 109 = .ok (.iconst (-1), 1) := dk_2 (dk_at dksX0_init_4 16 rfl rfl)
theorem dX0_init_110 : decode cX0_init 110 = .ok (.putfield 66, 3) := dk_181 0 66 (dk_at dksX0_init_4 17 rfl rfl)
theorem dX0_init_113 : decode cX0_init 113 = .ok (.aload_n 0, 1) := dk_42 (dk_at dksX0_init_4 20 rfl rfl)
theorem dX0_init_114 : decode cX0_init 114 = .ok (.getstatic 69, 3) := dk_178 0 69 (dk_at dksX0_init_4 21 rfl rfl)
theorem dX0_init_117 : decode cX0_init 117 = .ok (.arraylength, 1) := dk_190 (dk_at dksX0_init_5 0 rfl rfl)
theorem dX0_init_118 : decode cX0_init 118 = .ok (.newarray .long, 2) := dk_188_11 (dk_at dksX0_init_5 1 rfl rfl)
theorem dX0_init_120 : decode cX0_init 120 = .ok (.putfield 73, 3) := dk_181 0 73 (dk_at dksX0_init_5 3 rfl rfl)
theorem dX0_init_123 : decode cX0_init 123 = .ok (.aload_n 0, 1) := dk_42 (dk_at dksX0_init_5 6 rfl rfl)
theorem dX0_init_124 : decode cX0_init 124 = .ok (.bipush 6, 2) := dk_16 6 (dk_at dksX0_init_5 7 rfl rfl)
theorem dX0_init_126 : decode cX0_init 126 = .ok (.newarray .int, 2) := dk_188_10 (dk_at dksX0_init_5 9 rfl rfl)
theorem dX0_init_128 : decode cX0_init 128 = .ok (.putfield 77, 3) := dk_181 0 77 (dk_at dksX0_init_5 11 rfl rfl)
theorem dX0_init_131 : decode cX0_init 131 = .ok (.aload_n 0, 1) := dk_42 (dk_at dksX0_init_5 14 rfl rfl)
theorem dX0_init_132 : decode cX0_init 132 = .ok (.bipush 20, 2) := dk_16 20 (dk_at dksX0_init_5 15 rfl rfl)
theorem dX0_init_134 : decode cX0_init 134 = .ok (.invokestatic 80, 3) := dk_184 0 80 (dk_at dksX0_init_5 17 rfl rfl)
theorem dX0_init_137 : decode cX0_init 137 = .ok (.putfield 84, 3) := dk_181 0 84 (dk_at dksX0_init_5 20 rfl rfl)
theorem dX0_init_140 : decode cX0_init 140 = .ok (.aload_n 0, 1) := dk_42 (dk_at dksX0_init_5 23 rfl rfl)
theorem dX0_init_141 : decode cX0_init 141 = .ok (.bipush 6, 2) := dk_16 6 (dk_at dksX0_init_6 0 rfl rfl)
theorem dX0_init_143 : decode cX0_init 143 = .ok (.newarray .int, 2) := dk_188_10 (dk_at dksX0_init_6 2 rfl rfl)
theorem dX0_init_145 : decode cX0_init 145 = .ok (.putfield 88, 3) := dk_181 0 88 (dk_at dksX0_init_6 4 rfl rfl)
theorem dX0_init_148 : decode cX0_init 148 = .ok (.aload_n 0, 1) := dk_42 (dk_at dksX0_init_6 7 rfl rfl)
theorem dX0_init_149 : decode cX0_init 149 = .ok (.iconst 3, 1) := dk_6 (dk_at dksX0_init_6 8 rfl rfl)
theorem dX0_init_150 : decode cX0_init 150 = .ok (.newarray .int, 2) := dk_188_10 (dk_at dksX0_init_6 9 rfl rfl)
theorem dX0_init_152 : decode cX0_init 152 = .ok (.putfield 91, 3) := dk_181 0 91 (dk_at dksX0_init_6 11 rfl rfl)
theorem dX0_init_155 : decode cX0_init 155 = .ok (.aload_n 0, 1) := dk_42 (dk_at dksX0_init_6 14 rfl rfl)
theorem dX0_init_156 : decode cX0_init 156 = .ok (.iconst 3, 1) := dk_6 (dk_at dksX0_init_6 15 rfl rfl)
theorem dX0_init_157 : decode cX0_init 157 = .ok (.newarray .int, 2) := dk_188_10 (dk_at dksX0_init_6 16 rfl rfl)
theorem dX0_init_159 : decode cX0_init 159 = .ok (.putfield 94, 3) := dk_181 0 94 (dk_at dksX0_init_6 18 rfl rfl)
theorem dX0_init_162 : decode cX0_init 162 = .ok (.aload_n 0, 1) := dk_42 (dk_at dksX0_init_6 21 rfl rfl)
theorem dX0_init_163 : decode cX0_init 163 = .ok (.iconst 4, 1) := dk_7 (dk_at dksX0_init_6 22 rfl rfl)
theorem dX0_init_164 : decode cX0_init 164 = .ok (.invokestatic 80, 3) := dk_184 0 80 (dk_at dksX0_init_7 0 rfl rfl)
theorem dX0_init_167 : decode cX0_init 167 = .ok (.putfield 97, 3) := dk_181 0 97 (dk_at dksX0_init_7 3 rfl rfl)
theorem dX0_init_170 : decode cX0_init 170 = .ok (.aload_n 0, 1) := dk_42 (dk_at dksX0_init_7 6 rfl rfl)
theorem dX0_init_171 : decode cX0_init 171 = .ok (.bipush 25, 2) := dk_16 25 (dk_at dksX0_init_7 7 rfl rfl)
theorem dX0_init_173 : decode cX0_init 173 = .ok (.newarray .int, 2) := dk_188_10 (dk_at dksX0_init_7 9 rfl rfl)
theorem dX0_init_175 : decode cX0_init 175 = .ok (.putfield 100, 3) := dk_181 0 100 (dk_at dksX0_init_7 11 rfl rfl)
theorem dX0_init_178 : decode cX0_init 178 = .ok (.aload_n 0, 1) := dk_42 (dk_at dksX0_init_7 14 rfl rfl)
theorem dX0_init_179 : decode cX0_init 179 = .ok (.bipush 25, 2) := dk_16 25 (dk_at dksX0_init_7 15 rfl rfl)
theorem dX0_init_181 : decode cX0_init 181 = .ok (.newarray .int, 2) := dk_188_10 (dk_at dksX0_init_7 17 rfl rfl)
theorem dX0_init_183 : decode cX0_init 183 = .ok (.putfield 103, 3) := dk_181 0 103 (dk_at dksX0_init_7 19 rfl rfl)
theorem dX0_init_186 : decode cX0_init 186 = .ok (.aload_n 0, 1) := dk_42 (dk_at dksX0_init_7 22 rfl rfl)
theorem dX0_init_187 : decode cX0_init 187 = .ok (.sipush 366, 3) := dk_17 1 110 (dk_at dksX0_init_8 0 rfl rfl)
theorem dX0_init_190 : decode cX0_init 190 = .ok (.newarray .int, 2) := dk_188_10 (dk_at dksX0_init_8 3 rfl rfl)
theorem dX0_init_192 : decode cX0_init 192 = .ok (.putfield 106, 3) := dk_181 0 106 (dk_at dksX0_init_8 5 rfl rfl)
theorem dX0_init_195 : decode cX0_init 195 = .ok (.aload_n 0, 1) := dk_42 (dk_at dksX0_init_8 8 rfl rfl)
theorem dX0_init_196 : decode cX0_init 196 = .ok (.bipush 42, 2) := dk_16 42 (dk_at dksX0_init_8 9 rfl rfl)
theorem dX0_init_198 : decode cX0_init 198 = .ok (.newarray .int, 2) := dk_188_10 (dk_at dksX0_init_8 11 rfl rfl)
theorem dX0_init_200 : decode cX0_init 200 = .ok (.putfield 109, 3) := dk_181 0 109 (dk_at dksX0_init_8 13 rfl rfl)
theorem dX0_init_203 : decode cX0_init 203 = .ok (.aload_n 0, 1) := dk_42 (dk_at dksX0_init_8 16 rfl rfl)
theorem dX0_init_204 : decode cX0_init 204 = .ok (.iconst 4, 1) := dk_7 (dk_at dksX0_init_8 17 rfl rfl)
theorem dX0_init_205 : decode cX0_init 205 = .ok (.anewarray 112, 3) := dk_189 0 112 (dk_at dksX0_init_8 18 rfl rfl)
theorem dX0_init_208 : decode cX0_init 208 = .ok (.putfield 114, 3) := dk_181 0 114 (dk_at dksX0_init_8 21 rfl rfl)
theorem dX0_init_211 : decode cX0_init 211 = .ok (.return_, 1) := dk_177 (dk_at dksX0_init_9 0 rfl rfl)
abbrev cX0_newStates : ByteArray := prog_1_method_24_code
def yX0_newStates : MethodName := ⟨RX0, "newStates", "(I)[LDutyBeats$State;"⟩
def dkwX0_newStates_1 : List UInt8 := [132, 2, 1, 167, 255, 238, 43, 176]
abbrev dktX0_newStates_1 : List UInt8 := dkwX0_newStates_1 ++ []
def dkwX0_newStates_0 : List UInt8 := [26, 189, 0, 16, 76, 3, 61, 28, 26, 162, 0, 19, 43, 28, 187, 0, 16, 89, 183, 0, 18, 83]
abbrev dktX0_newStates_0 : List UInt8 := dkwX0_newStates_0 ++ dktX0_newStates_1
theorem dksX0_newStates_0 : cX0_newStates.data.toList.drop 0 = dktX0_newStates_0 := by decide +kernel
theorem dksX0_newStates_1 : cX0_newStates.data.toList.drop 22 = dktX0_newStates_1 := dk_seg dksX0_newStates_0 22 rfl rfl
theorem dX0_newStates_0 : decode cX0_newStates 0 = .ok (.iload_n 0, 1) := dk_26 (dk_at dksX0_newStates_0 0 rfl rfl)
theorem dX0_newStates_1 : decode cX0_newStates 1 = .ok (.anewarray 16, 3) := dk_189 0 16 (dk_at dksX0_newStates_0 1 rfl rfl)
theorem dX0_newStates_4 : decode cX0_newStates 4 = .ok (.astore_n 1, 1) := dk_76 (dk_at dksX0_newStates_0 4 rfl rfl)
theorem dX0_newStates_5 : decode cX0_newStates 5 = .ok (.iconst 0, 1) := dk_3 (dk_at dksX0_newStates_0 5 rfl rfl)
theorem dX0_newStates_6 : decode cX0_newStates 6 = .ok (.istore_n 2, 1) := dk_61 (dk_at dksX0_newStates_0 6 rfl rfl)
theorem dX0_newStates_7 : decode cX0_newStates 7 = .ok (.iload_n 2, 1) := dk_28 (dk_at dksX0_newStates_0 7 rfl rfl)
theorem dX0_newStates_8 : decode cX0_newStates 8 = .ok (.iload_n 0, 1) := dk_26 (dk_at dksX0_newStates_0 8 rfl rfl)
theorem dX0_newStates_9 : decode cX0_newStates 9 = .ok (.if_icmp .ge 19, 3) := dk_162 0 19 (dk_at dksX0_newStates_0 9 rfl rfl)
theorem dX0_newStates_12 : decode cX0_newStates 12 = .ok (.aload_n 1, 1) := dk_43 (dk_at dksX0_newStates_0 12 rfl rfl)
theorem dX0_newStates_13 : decode cX0_newStates 13 = .ok (.iload_n 2, 1) := dk_28 (dk_at dksX0_newStates_0 13 rfl rfl)
theorem dX0_newStates_14 : decode cX0_newStates 14 = .ok (.new 16, 3) := dk_187 0 16 (dk_at dksX0_newStates_0 14 rfl rfl)
theorem dX0_newStates_17 : decode cX0_newStates 17 = .ok (.dup, 1) := dk_89 (dk_at dksX0_newStates_0 17 rfl rfl)
theorem dX0_newStates_18 : decode cX0_newStates 18 = .ok (.invokespecial 18, 3) := dk_183 0 18 (dk_at dksX0_newStates_0 18 rfl rfl)
theorem dX0_newStates_21 : decode cX0_newStates 21 = .ok (.aastore, 1) := dk_83 (dk_at dksX0_newStates_0 21 rfl rfl)
theorem dX0_newStates_22 : decode cX0_newStates 22 = .ok (.iinc 2 1, 3) := dk_132 2 1 (dk_at dksX0_newStates_1 0 rfl rfl)
theorem dX0_newStates_25 : decode cX0_newStates 25 = .ok (.goto (-18), 3) := dk_167 255 238 (dk_at dksX0_newStates_1 3 rfl rfl)
theorem dX0_newStates_28 : decode cX0_newStates 28 = .ok (.aload_n 1, 1) := dk_43 (dk_at dksX0_newStates_1 6 rfl rfl)
theorem dX0_newStates_29 : decode cX0_newStates 29 = .ok (.areturn, 1) := dk_176 (dk_at dksX0_newStates_1 7 rfl rfl)
abbrev cX0_feed : ByteArray := prog_1_method_9_code
def yX0_feed : MethodName := ⟨RX0, "feed", "(IIIII)I"⟩
def dkwX0_feed_2 : List UInt8 := [172]
abbrev dktX0_feed_2 : List UInt8 := dkwX0_feed_2 ++ []
def dkwX0_feed_1 : List UInt8 := [182, 0, 135, 42, 29, 182, 0, 135, 42, 21, 4, 182, 0, 135, 42, 21, 5, 182, 0, 135, 42, 180, 0, 132]
abbrev dktX0_feed_1 : List UInt8 := dkwX0_feed_1 ++ dktX0_feed_2
def dkwX0_feed_0 : List UInt8 := [42, 180, 0, 132, 16, 20, 96, 17, 1, 144, 164, 0, 5, 2, 172, 42, 27, 182, 0, 135, 42, 28]
abbrev dktX0_feed_0 : List UInt8 := dkwX0_feed_0 ++ dktX0_feed_1
theorem dksX0_feed_0 : cX0_feed.data.toList.drop 0 = dktX0_feed_0 := by decide +kernel
theorem dksX0_feed_1 : cX0_feed.data.toList.drop 22 = dktX0_feed_1 := dk_seg dksX0_feed_0 22 rfl rfl
theorem dksX0_feed_2 : cX0_feed.data.toList.drop 46 = dktX0_feed_2 := dk_seg dksX0_feed_1 24 rfl rfl
theorem dX0_feed_0 : decode cX0_feed 0 = .ok (.aload_n 0, 1) := dk_42 (dk_at dksX0_feed_0 0 rfl rfl)
theorem dX0_feed_1 : decode cX0_feed 1 = .ok (.getfield 132, 3) := dk_180 0 132 (dk_at dksX0_feed_0 1 rfl rfl)
theorem dX0_feed_4 : decode cX0_feed 4 = .ok (.bipush 20, 2) := dk_16 20 (dk_at dksX0_feed_0 4 rfl rfl)
theorem dX0_feed_6 : decode cX0_feed 6 = .ok (.iadd, 1) := dk_96 (dk_at dksX0_feed_0 6 rfl rfl)
theorem dX0_feed_7 : decode cX0_feed 7 = .ok (.sipush 400, 3) := dk_17 1 144 (dk_at dksX0_feed_0 7 rfl rfl)
theorem dX0_feed_10 : decode cX0_feed 10 = .ok (.if_icmp .le 5, 3) := dk_164 0 5 (dk_at dksX0_feed_0 10 rfl rfl)
theorem dX0_feed_13 : decode cX0_feed 13 = .ok (.iconst (-1), 1) := dk_2 (dk_at dksX0_feed_0 13 rfl rfl)
theorem dX0_feed_14 : decode cX0_feed 14 = .ok (.ireturn, 1) := dk_172 (dk_at dksX0_feed_0 14 rfl rfl)
theorem dX0_feed_15 : decode cX0_feed 15 = .ok (.aload_n 0, 1) := dk_42 (dk_at dksX0_feed_0 15 rfl rfl)
theorem dX0_feed_16 : decode cX0_feed 16 = .ok (.iload_n 1, 1) := dk_27 (dk_at dksX0_feed_0 16 rfl rfl)
theorem dX0_feed_17 : decode cX0_feed 17 = .ok (.invokevirtual 135, 3) := dk_182 0 135 (dk_at dksX0_feed_0 17 rfl rfl)
theorem dX0_feed_20 : decode cX0_feed 20 = .ok (.aload_n 0, 1) := dk_42 (dk_at dksX0_feed_0 20 rfl rfl)
theorem dX0_feed_21 : decode cX0_feed 21 = .ok (.iload_n 2, 1) := dk_28 (dk_at dksX0_feed_0 21 rfl rfl)
theorem dX0_feed_22 : decode cX0_feed 22 = .ok (.invokevirtual 135, 3) := dk_182 0 135 (dk_at dksX0_feed_1 0 rfl rfl)
theorem dX0_feed_25 : decode cX0_feed 25 = .ok (.aload_n 0, 1) := dk_42 (dk_at dksX0_feed_1 3 rfl rfl)
theorem dX0_feed_26 : decode cX0_feed 26 = .ok (.iload_n 3, 1) := dk_29 (dk_at dksX0_feed_1 4 rfl rfl)
theorem dX0_feed_27 : decode cX0_feed 27 = .ok (.invokevirtual 135, 3) := dk_182 0 135 (dk_at dksX0_feed_1 5 rfl rfl)
theorem dX0_feed_30 : decode cX0_feed 30 = .ok (.aload_n 0, 1) := dk_42 (dk_at dksX0_feed_1 8 rfl rfl)
theorem dX0_feed_31 : decode cX0_feed 31 = .ok (.iload 4, 2) := dk_21 4 (dk_at dksX0_feed_1 9 rfl rfl)
theorem dX0_feed_33 : decode cX0_feed 33 = .ok (.invokevirtual 135, 3) := dk_182 0 135 (dk_at dksX0_feed_1 11 rfl rfl)
theorem dX0_feed_36 : decode cX0_feed 36 = .ok (.aload_n 0, 1) := dk_42 (dk_at dksX0_feed_1 14 rfl rfl)
theorem dX0_feed_37 : decode cX0_feed 37 = .ok (.iload 5, 2) := dk_21 5 (dk_at dksX0_feed_1 15 rfl rfl)
theorem dX0_feed_39 : decode cX0_feed 39 = .ok (.invokevirtual 135, 3) := dk_182 0 135 (dk_at dksX0_feed_1 17 rfl rfl)
theorem dX0_feed_42 : decode cX0_feed 42 = .ok (.aload_n 0, 1) := dk_42 (dk_at dksX0_feed_1 20 rfl rfl)
theorem dX0_feed_43 : decode cX0_feed 43 = .ok (.getfield 132, 3) := dk_180 0 132 (dk_at dksX0_feed_1 21 rfl rfl)
theorem dX0_feed_46 : decode cX0_feed 46 = .ok (.ireturn, 1) := dk_172 (dk_at dksX0_feed_2 0 rfl rfl)
abbrev cX0_put : ByteArray := prog_1_method_10_code
def yX0_put : MethodName := ⟨RX0, "put", "(I)V"⟩
def dkwX0_put_1 : List UInt8 := [180, 0, 132, 4, 96, 181, 0, 132, 132, 2, 248, 167, 255, 226, 177]
abbrev dktX0_put_1 : List UInt8 := dkwX0_put_1 ++ []
def dkwX0_put_0 : List UInt8 := [16, 24, 61, 28, 155, 0, 32, 42, 180, 0, 46, 42, 180, 0, 132, 27, 28, 122, 145, 84, 42, 89]
abbrev dktX0_put_0 : List UInt8 := dkwX0_put_0 ++ dktX0_put_1
theorem dksX0_put_0 : cX0_put.data.toList.drop 0 = dktX0_put_0 := by decide +kernel
theorem dksX0_put_1 : cX0_put.data.toList.drop 22 = dktX0_put_1 := dk_seg dksX0_put_0 22 rfl rfl
theorem dX0_put_0 : decode cX0_put 0 = .ok (.bipush 24, 2) := dk_16 24 (dk_at dksX0_put_0 0 rfl rfl)
theorem dX0_put_2 : decode cX0_put 2 = .ok (.istore_n 2, 1) := dk_61 (dk_at dksX0_put_0 2 rfl rfl)
theorem dX0_put_3 : decode cX0_put 3 = .ok (.iload_n 2, 1) := dk_28 (dk_at dksX0_put_0 3 rfl rfl)
theorem dX0_put_4 : decode cX0_put 4 = .ok (.ifCond .lt 32, 3) := dk_155 0 32 (dk_at dksX0_put_0 4 rfl rfl)
theorem dX0_put_7 : decode cX0_put 7 = .ok (.aload_n 0, 1) := dk_42 (dk_at dksX0_put_0 7 rfl rfl)
theorem dX0_put_8 : decode cX0_put 8 = .ok (.getfield 46, 3) := dk_180 0 46 (dk_at dksX0_put_0 8 rfl rfl)
theorem dX0_put_11 : decode cX0_put 11 = .ok (.aload_n 0, 1) := dk_42 (dk_at dksX0_put_0 11 rfl rfl)
theorem dX0_put_12 : decode cX0_put 12 = .ok (.getfield 132, 3) := dk_180 0 132 (dk_at dksX0_put_0 12 rfl rfl)
theorem dX0_put_15 : decode cX0_put 15 = .ok (.iload_n 1, 1) := dk_27 (dk_at dksX0_put_0 15 rfl rfl)
theorem dX0_put_16 : decode cX0_put 16 = .ok (.iload_n 2, 1) := dk_28 (dk_at dksX0_put_0 16 rfl rfl)
theorem dX0_put_17 : decode cX0_put 17 = .ok (.ishr, 1) := dk_122 (dk_at dksX0_put_0 17 rfl rfl)
theorem dX0_put_18 : decode cX0_put 18 = .ok (.i2b, 1) := dk_145 (dk_at dksX0_put_0 18 rfl rfl)
theorem dX0_put_19 : decode cX0_put 19 = .ok (.bastore, 1) := dk_84 (dk_at dksX0_put_0 19 rfl rfl)
theorem dX0_put_20 : decode cX0_put 20 = .ok (.aload_n 0, 1) := dk_42 (dk_at dksX0_put_0 20 rfl rfl)
theorem dX0_put_21 : decode cX0_put 21 = .ok (.dup, 1) := dk_89 (dk_at dksX0_put_0 21 rfl rfl)
theorem dX0_put_22 : decode cX0_put 22 = .ok (.getfield 132, 3) := dk_180 0 132 (dk_at dksX0_put_1 0 rfl rfl)
theorem dX0_put_25 : decode cX0_put 25 = .ok (.iconst 1, 1) := dk_4 (dk_at dksX0_put_1 3 rfl rfl)
theorem dX0_put_26 : decode cX0_put 26 = .ok (.iadd, 1) := dk_96 (dk_at dksX0_put_1 4 rfl rfl)
theorem dX0_put_27 : decode cX0_put 27 = .ok (.putfield 132, 3) := dk_181 0 132 (dk_at dksX0_put_1 5 rfl rfl)
theorem dX0_put_30 : decode cX0_put 30 = .ok (.iinc 2 (-8), 3) := dk_132 2 248 (dk_at dksX0_put_1 8 rfl rfl)
theorem dX0_put_33 : decode cX0_put 33 = .ok (.goto (-30), 3) := dk_167 255 226 (dk_at dksX0_put_1 11 rfl rfl)
theorem dX0_put_36 : decode cX0_put 36 = .ok (.return_, 1) := dk_177 (dk_at dksX0_put_1 14 rfl rfl)
abbrev cX0_end : ByteArray := prog_1_method_11_code
def yX0_end : MethodName := ⟨RX0, "end", "(I)I"⟩
def dkwX0_end_0 : List UInt8 := [27, 155, 0, 11, 27, 42, 180, 0, 132, 164, 0, 5, 2, 172, 42, 27, 181, 0, 132, 27, 172]
abbrev dktX0_end_0 : List UInt8 := dkwX0_end_0 ++ []
theorem dksX0_end_0 : cX0_end.data.toList.drop 0 = dktX0_end_0 := by decide +kernel
theorem dX0_end_0 : decode cX0_end 0 = .ok (.iload_n 1, 1) := dk_27 (dk_at dksX0_end_0 0 rfl rfl)
theorem dX0_end_1 : decode cX0_end 1 = .ok (.ifCond .lt 11, 3) := dk_155 0 11 (dk_at dksX0_end_0 1 rfl rfl)
theorem dX0_end_4 : decode cX0_end 4 = .ok (.iload_n 1, 1) := dk_27 (dk_at dksX0_end_0 4 rfl rfl)
theorem dX0_end_5 : decode cX0_end 5 = .ok (.aload_n 0, 1) := dk_42 (dk_at dksX0_end_0 5 rfl rfl)
theorem dX0_end_6 : decode cX0_end 6 = .ok (.getfield 132, 3) := dk_180 0 132 (dk_at dksX0_end_0 6 rfl rfl)
theorem dX0_end_9 : decode cX0_end 9 = .ok (.if_icmp .le 5, 3) := dk_164 0 5 (dk_at dksX0_end_0 9 rfl rfl)
theorem dX0_end_12 : decode cX0_end 12 = .ok (.iconst (-1), 1) := dk_2 (dk_at dksX0_end_0 12 rfl rfl)
theorem dX0_end_13 : decode cX0_end 13 = .ok (.ireturn, 1) := dk_172 (dk_at dksX0_end_0 13 rfl rfl)
theorem dX0_end_14 : decode cX0_end 14 = .ok (.aload_n 0, 1) := dk_42 (dk_at dksX0_end_0 14 rfl rfl)
theorem dX0_end_15 : decode cX0_end 15 = .ok (.iload_n 1, 1) := dk_27 (dk_at dksX0_end_0 15 rfl rfl)
theorem dX0_end_16 : decode cX0_end 16 = .ok (.putfield 132, 3) := dk_181 0 132 (dk_at dksX0_end_0 16 rfl rfl)
theorem dX0_end_19 : decode cX0_end 19 = .ok (.iload_n 1, 1) := dk_27 (dk_at dksX0_end_0 19 rfl rfl)
theorem dX0_end_20 : decode cX0_end 20 = .ok (.ireturn, 1) := dk_172 (dk_at dksX0_end_0 20 rfl rfl)
abbrev cX0_junction : ByteArray := prog_1_method_12_code
def yX0_junction : MethodName := ⟨RX0, "junction", "()I"⟩
def dkwX0_junction_3 : List UInt8 := [78, 42, 3, 181, 0, 132, 45, 191]
abbrev dktX0_junction_3 : List UInt8 := dkwX0_junction_3 ++ []
def dkwX0_junction_2 : List UInt8 := [60, 42, 3, 181, 0, 132, 27, 172, 76, 16, 254, 43, 180, 0, 129, 100, 61, 42, 3, 181, 0, 132, 28, 172]
abbrev dktX0_junction_2 : List UInt8 := dkwX0_junction_2 ++ dktX0_junction_3
def dkwX0_junction_1 : List UInt8 := [42, 180, 0, 10, 182, 0, 146, 42, 3, 181, 0, 150, 42, 3, 181, 0, 153, 42, 180, 0, 10, 182, 0, 121]
abbrev dktX0_junction_1 : List UInt8 := dkwX0_junction_1 ++ dktX0_junction_2
def dkwX0_junction_0 : List UInt8 := [42, 187, 0, 138, 89, 42, 178, 0, 69, 16, 40, 183, 0, 140, 182, 0, 143, 181, 0, 10, 42, 180, 0, 19]
abbrev dktX0_junction_0 : List UInt8 := dkwX0_junction_0 ++ dktX0_junction_1
theorem dksX0_junction_0 : cX0_junction.data.toList.drop 0 = dktX0_junction_0 := by decide +kernel
theorem dksX0_junction_1 : cX0_junction.data.toList.drop 24 = dktX0_junction_1 := dk_seg dksX0_junction_0 24 rfl rfl
theorem dksX0_junction_2 : cX0_junction.data.toList.drop 48 = dktX0_junction_2 := dk_seg dksX0_junction_1 24 rfl rfl
theorem dksX0_junction_3 : cX0_junction.data.toList.drop 72 = dktX0_junction_3 := dk_seg dksX0_junction_2 24 rfl rfl
theorem dX0_junction_0 : decode cX0_junction 0 = .ok (.aload_n 0, 1) := dk_42 (dk_at dksX0_junction_0 0 rfl rfl)
theorem dX0_junction_1 : decode cX0_junction 1 = .ok (.new 138, 3) := dk_187 0 138 (dk_at dksX0_junction_0 1 rfl rfl)
theorem dX0_junction_4 : decode cX0_junction 4 = .ok (.dup, 1) := dk_89 (dk_at dksX0_junction_0 4 rfl rfl)
theorem dX0_junction_5 : decode cX0_junction 5 = .ok (.aload_n 0, 1) := dk_42 (dk_at dksX0_junction_0 5 rfl rfl)
theorem dX0_junction_6 : decode cX0_junction 6 = .ok (.getstatic 69, 3) := dk_178 0 69 (dk_at dksX0_junction_0 6 rfl rfl)
theorem dX0_junction_9 : decode cX0_junction 9 = .ok (.bipush 40, 2) := dk_16 40 (dk_at dksX0_junction_0 9 rfl rfl)
theorem dX0_junction_11 : decode cX0_junction 11 = .ok (.invokespecial 140, 3) := dk_183 0 140 (dk_at dksX0_junction_0 11 rfl rfl)
theorem dX0_junction_14 : decode cX0_junction 14 = .ok (.invokevirtual 143, 3) := dk_182 0 143 (dk_at dksX0_junction_0 14 rfl rfl)
theorem dX0_junction_17 : decode cX0_junction 17 = .ok (.putfield 10, 3) := dk_181 0 10 (dk_at dksX0_junction_0 17 rfl rfl)
theorem dX0_junction_20 : decode cX0_junction 20 = .ok (.aload_n 0, 1) := dk_42 (dk_at dksX0_junction_0 20 rfl rfl)
theorem dX0_junction_21 : decode cX0_junction 21 = .ok (.getfield 19, 3) := dk_180 0 19 (dk_at dksX0_junction_0 21 rfl rfl)
theorem dX0_junction_24 : decode cX0_junction 24 = .ok (.aload_n 0, 1) := dk_42 (dk_at dksX0_junction_1 0 rfl rfl)
theorem dX0_junction_25 : decode cX0_junction 25 = .ok (.getfield 10, 3) := dk_180 0 10 (dk_at dksX0_junction_1 1 rfl rfl)
theorem dX0_junction_28 : decode cX0_junction 28 = .ok (.invokevirtual 146, 3) := dk_182 0 146 (dk_at dksX0_junction_1 4 rfl rfl)
theorem dX0_junction_31 : decode cX0_junction 31 = .ok (.aload_n 0, 1) := dk_42 (dk_at dksX0_junction_1 7 rfl rfl)
theorem dX0_junction_32 : decode cX0_junction 32 = .ok (.iconst 0, 1) := dk_3 (dk_at dksX0_junction_1 8 rfl rfl)
theorem dX0_junction_33 : decode cX0_junction 33 = .ok (.putfield 150, 3) := dk_181 0 150 (dk_at dksX0_junction_1 9 rfl rfl)
theorem dX0_junction_36 : decode cX0_junction 36 = .ok (.aload_n 0, 1) := dk_42 (dk_at dksX0_junction_1 12 rfl rfl)
theorem dX0_junction_37 : decode cX0_junction 37 = .ok (.iconst 0, 1) := dk_3 (dk_at dksX0_junction_1 13 rfl rfl)
theorem dX0_junction_38 : decode cX0_junction 38 = .ok (.putfield 153, 3) := dk_181 0 153 (dk_at dksX0_junction_1 14 rfl rfl)
theorem dX0_junction_41 : decode cX0_junction 41 = .ok (.aload_n 0, 1) := dk_42 (dk_at dksX0_junction_1 17 rfl rfl)
theorem dX0_junction_42 : decode cX0_junction 42 = .ok (.getfield 10, 3) := dk_180 0 10 (dk_at dksX0_junction_1 18 rfl rfl)
theorem dX0_junction_45 : decode cX0_junction 45 = .ok (.invokevirtual 121, 3) := dk_182 0 121 (dk_at dksX0_junction_1 21 rfl rfl)
theorem dX0_junction_48 : decode cX0_junction 48 = .ok (.istore_n 1, 1) := dk_60 (dk_at dksX0_junction_2 0 rfl rfl)
theorem dX0_junction_49 : decode cX0_junction 49 = .ok (.aload_n 0, 1) := dk_42 (dk_at dksX0_junction_2 1 rfl rfl)
theorem dX0_junction_50 : decode cX0_junction 50 = .ok (.iconst 0, 1) := dk_3 (dk_at dksX0_junction_2 2 rfl rfl)
theorem dX0_junction_51 : decode cX0_junction 51 = .ok (.putfield 132, 3) := dk_181 0 132 (dk_at dksX0_junction_2 3 rfl rfl)
theorem dX0_junction_54 : decode cX0_junction 54 = .ok (.iload_n 1, 1) := dk_27 (dk_at dksX0_junction_2 6 rfl rfl)
theorem dX0_junction_55 : decode cX0_junction 55 = .ok (.ireturn, 1) := dk_172 (dk_at dksX0_junction_2 7 rfl rfl)
theorem dX0_junction_56 : decode cX0_junction 56 = .ok (.astore_n 1, 1) := dk_76 (dk_at dksX0_junction_2 8 rfl rfl)
theorem dX0_junction_57 : decode cX0_junction 57 = .ok (.bipush (-2), 2) := dk_16 254 (dk_at dksX0_junction_2 9 rfl rfl)
theorem dX0_junction_59 : decode cX0_junction 59 = .ok (.aload_n 1, 1) := dk_43 (dk_at dksX0_junction_2 11 rfl rfl)
theorem dX0_junction_60 : decode cX0_junction 60 = .ok (.getfield 129, 3) := dk_180 0 129 (dk_at dksX0_junction_2 12 rfl rfl)
theorem dX0_junction_63 : decode cX0_junction 63 = .ok (.isub, 1) := dk_100 (dk_at dksX0_junction_2 15 rfl rfl)
theorem dX0_junction_64 : decode cX0_junction 64 = .ok (.istore_n 2, 1) := dk_61 (dk_at dksX0_junction_2 16 rfl rfl)
theorem dX0_junction_65 : decode cX0_junction 65 = .ok (.aload_n 0, 1) := dk_42 (dk_at dksX0_junction_2 17 rfl rfl)
theorem dX0_junction_66 : decode cX0_junction 66 = .ok (.iconst 0, 1) := dk_3 (dk_at dksX0_junction_2 18 rfl rfl)
theorem dX0_junction_67 : decode cX0_junction 67 = .ok (.putfield 132, 3) := dk_181 0 132 (dk_at dksX0_junction_2 19 rfl rfl)
theorem dX0_junction_70 : decode cX0_junction 70 = .ok (.iload_n 2, 1) := dk_28 (dk_at dksX0_junction_2 22 rfl rfl)
theorem dX0_junction_71 : decode cX0_junction 71 = .ok (.ireturn, 1) := dk_172 (dk_at dksX0_junction_2 23 rfl rfl)
theorem dX0_junction_72 : decode cX0_junction 72 = .ok (.astore_n 3, 1) := dk_78 (dk_at dksX0_junction_3 0 rfl rfl)
theorem dX0_junction_73 : decode cX0_junction 73 = .ok (.aload_n 0, 1) := dk_42 (dk_at dksX0_junction_3 1 rfl rfl)
theorem dX0_junction_74 : decode cX0_junction 74 = .ok (.iconst 0, 1) := dk_3 (dk_at dksX0_junction_3 2 rfl rfl)
theorem dX0_junction_75 : decode cX0_junction 75 = .ok (.putfield 132, 3) := dk_181 0 132 (dk_at dksX0_junction_3 3 rfl rfl)
theorem dX0_junction_78 : decode cX0_junction 78 = .ok (.aload_n 3, 1) := dk_45 (dk_at dksX0_junction_3 6 rfl rfl)
theorem dX0_junction_79 : decode cX0_junction 79 = .ok (.athrow, 1) := dk_191 (dk_at dksX0_junction_3 7 rfl rfl)
abbrev cX0_in : ByteArray := prog_1_method_1_code
def yX0_in : MethodName := ⟨RX0, "in", "(JJJ)Z"⟩
def dkwX0_in_0 : List UInt8 := [30, 32, 148, 155, 0, 14, 30, 22, 4, 148, 157, 0, 7, 4, 167, 0, 4, 3, 172]
abbrev dktX0_in_0 : List UInt8 := dkwX0_in_0 ++ []
theorem dksX0_in_0 : cX0_in.data.toList.drop 0 = dktX0_in_0 := by decide +kernel
theorem dX0_in_0 : decode cX0_in 0 = .ok (.lload_n 0, 1) := dk_30 (dk_at dksX0_in_0 0 rfl rfl)
theorem dX0_in_1 : decode cX0_in 1 = .ok (.lload_n 2, 1) := dk_32 (dk_at dksX0_in_0 1 rfl rfl)
theorem dX0_in_2 : decode cX0_in 2 = .ok (.lcmp, 1) := dk_148 (dk_at dksX0_in_0 2 rfl rfl)
theorem dX0_in_3 : decode cX0_in 3 = .ok (.ifCond .lt 14, 3) := dk_155 0 14 (dk_at dksX0_in_0 3 rfl rfl)
theorem dX0_in_6 : decode cX0_in 6 = .ok (.lload_n 0, 1) := dk_30 (dk_at dksX0_in_0 6 rfl rfl)
theorem dX0_in_7 : decode cX0_in 7 = .ok (.lload 4, 2) := dk_22 4 (dk_at dksX0_in_0 7 rfl rfl)
theorem dX0_in_9 : decode cX0_in 9 = .ok (.lcmp, 1) := dk_148 (dk_at dksX0_in_0 9 rfl rfl)
theorem dX0_in_10 : decode cX0_in 10 = .ok (.ifCond .gt 7, 3) := dk_157 0 7 (dk_at dksX0_in_0 10 rfl rfl)
theorem dX0_in_13 : decode cX0_in 13 = .ok (.iconst 1, 1) := dk_4 (dk_at dksX0_in_0 13 rfl rfl)
theorem dX0_in_14 : decode cX0_in 14 = .ok (.goto 4, 3) := dk_167 0 4 (dk_at dksX0_in_0 14 rfl rfl)
theorem dX0_in_17 : decode cX0_in 17 = .ok (.iconst 0, 1) := dk_3 (dk_at dksX0_in_0 17 rfl rfl)
theorem dX0_in_18 : decode cX0_in 18 = .ok (.ireturn, 1) := dk_172 (dk_at dksX0_in_0 18 rfl rfl)
abbrev cX0_fails : ByteArray := prog_1_method_8_code
def yX0_fails : MethodName := ⟨RX0, "fails", "(II)LDutyBeats$Wrong;"⟩
def dkwX0_fails_0 : List UInt8 := [42, 180, 0, 42, 4, 16, 8, 28, 104, 96, 27, 96, 181, 0, 129, 42, 180, 0, 42, 176]
abbrev dktX0_fails_0 : List UInt8 := dkwX0_fails_0 ++ []
theorem dksX0_fails_0 : cX0_fails.data.toList.drop 0 = dktX0_fails_0 := by decide +kernel
theorem dX0_fails_0 : decode cX0_fails 0 = .ok (.aload_n 0, 1) := dk_42 (dk_at dksX0_fails_0 0 rfl rfl)
theorem dX0_fails_1 : decode cX0_fails 1 = .ok (.getfield 42, 3) := dk_180 0 42 (dk_at dksX0_fails_0 1 rfl rfl)
theorem dX0_fails_4 : decode cX0_fails 4 = .ok (.iconst 1, 1) := dk_4 (dk_at dksX0_fails_0 4 rfl rfl)
theorem dX0_fails_5 : decode cX0_fails 5 = .ok (.bipush 8, 2) := dk_16 8 (dk_at dksX0_fails_0 5 rfl rfl)
theorem dX0_fails_7 : decode cX0_fails 7 = .ok (.iload_n 2, 1) := dk_28 (dk_at dksX0_fails_0 7 rfl rfl)
theorem dX0_fails_8 : decode cX0_fails 8 = .ok (.imul, 1) := dk_104 (dk_at dksX0_fails_0 8 rfl rfl)
theorem dX0_fails_9 : decode cX0_fails 9 = .ok (.iadd, 1) := dk_96 (dk_at dksX0_fails_0 9 rfl rfl)
theorem dX0_fails_10 : decode cX0_fails 10 = .ok (.iload_n 1, 1) := dk_27 (dk_at dksX0_fails_0 10 rfl rfl)
theorem dX0_fails_11 : decode cX0_fails 11 = .ok (.iadd, 1) := dk_96 (dk_at dksX0_fails_0 11 rfl rfl)
theorem dX0_fails_12 : decode cX0_fails 12 = .ok (.putfield 129, 3) := dk_181 0 129 (dk_at dksX0_fails_0 12 rfl rfl)
theorem dX0_fails_15 : decode cX0_fails 15 = .ok (.aload_n 0, 1) := dk_42 (dk_at dksX0_fails_0 15 rfl rfl)
theorem dX0_fails_16 : decode cX0_fails 16 = .ok (.getfield 42, 3) := dk_180 0 42 (dk_at dksX0_fails_0 16 rfl rfl)
theorem dX0_fails_19 : decode cX0_fails 19 = .ok (.areturn, 1) := dk_176 (dk_at dksX0_fails_0 19 rfl rfl)
abbrev cX0_rule : ByteArray := prog_1_method_13_code
def yX0_rule : MethodName := ⟨RX0, "rule", "()I"⟩
def dkwX0_rule_2 : List UInt8 := [3, 181, 0, 132, 28, 172, 78, 42, 3, 181, 0, 132, 45, 191]
abbrev dktX0_rule_2 : List UInt8 := dkwX0_rule_2 ++ []
def dkwX0_rule_1 : List UInt8 := [183, 0, 140, 182, 0, 159, 60, 42, 3, 181, 0, 132, 27, 172, 76, 16, 254, 43, 180, 0, 129, 100, 61, 42]
abbrev dktX0_rule_1 : List UInt8 := dkwX0_rule_1 ++ dktX0_rule_2
def dkwX0_rule_0 : List UInt8 := [42, 180, 0, 31, 182, 0, 156, 16, 6, 160, 0, 5, 2, 172, 187, 0, 138, 89, 42, 178, 0, 69, 16, 12]
abbrev dktX0_rule_0 : List UInt8 := dkwX0_rule_0 ++ dktX0_rule_1
theorem dksX0_rule_0 : cX0_rule.data.toList.drop 0 = dktX0_rule_0 := by decide +kernel
theorem dksX0_rule_1 : cX0_rule.data.toList.drop 24 = dktX0_rule_1 := dk_seg dksX0_rule_0 24 rfl rfl
theorem dksX0_rule_2 : cX0_rule.data.toList.drop 48 = dktX0_rule_2 := dk_seg dksX0_rule_1 24 rfl rfl
theorem dX0_rule_0 : decode cX0_rule 0 = .ok (.aload_n 0, 1) := dk_42 (dk_at dksX0_rule_0 0 rfl rfl)
theorem dX0_rule_1 : decode cX0_rule 1 = .ok (.getfield 31, 3) := dk_180 0 31 (dk_at dksX0_rule_0 1 rfl rfl)
theorem dX0_rule_4 : decode cX0_rule 4 = .ok (.invokevirtual 156, 3) := dk_182 0 156 (dk_at dksX0_rule_0 4 rfl rfl)
theorem dX0_rule_7 : decode cX0_rule 7 = .ok (.bipush 6, 2) := dk_16 6 (dk_at dksX0_rule_0 7 rfl rfl)
theorem dX0_rule_9 : decode cX0_rule 9 = .ok (.if_icmp .ne 5, 3) := dk_160 0 5 (dk_at dksX0_rule_0 9 rfl rfl)
theorem dX0_rule_12 : decode cX0_rule 12 = .ok (.iconst (-1), 1) := dk_2 (dk_at dksX0_rule_0 12 rfl rfl)
theorem dX0_rule_13 : decode cX0_rule 13 = .ok (.ireturn, 1) := dk_172 (dk_at dksX0_rule_0 13 rfl rfl)
theorem dX0_rule_14 : decode cX0_rule 14 = .ok (.new 138, 3) := dk_187 0 138 (dk_at dksX0_rule_0 14 rfl rfl)
theorem dX0_rule_17 : decode cX0_rule 17 = .ok (.dup, 1) := dk_89 (dk_at dksX0_rule_0 17 rfl rfl)
theorem dX0_rule_18 : decode cX0_rule 18 = .ok (.aload_n 0, 1) := dk_42 (dk_at dksX0_rule_0 18 rfl rfl)
theorem dX0_rule_19 : decode cX0_rule 19 = .ok (.getstatic 69, 3) := dk_178 0 69 (dk_at dksX0_rule_0 19 rfl rfl)
theorem dX0_rule_22 : decode cX0_rule 22 = .ok (.bipush 12, 2) := dk_16 12 (dk_at dksX0_rule_0 22 rfl rfl)
theorem dX0_rule_24 : decode cX0_rule 24 = .ok (.invokespecial 140, 3) := dk_183 0 140 (dk_at dksX0_rule_1 0 rfl rfl)
theorem dX0_rule_27 : decode cX0_rule 27 = .ok (.invokevirtual 159, 3) := dk_182 0 159 (dk_at dksX0_rule_1 3 rfl rfl)
theorem dX0_rule_30 : decode cX0_rule 30 = .ok (.istore_n 1, 1) := dk_60 (dk_at dksX0_rule_1 6 rfl rfl)
theorem dX0_rule_31 : decode cX0_rule 31 = .ok (.aload_n 0, 1) := dk_42 (dk_at dksX0_rule_1 7 rfl rfl)
theorem dX0_rule_32 : decode cX0_rule 32 = .ok (.iconst 0, 1) := dk_3 (dk_at dksX0_rule_1 8 rfl rfl)
theorem dX0_rule_33 : decode cX0_rule 33 = .ok (.putfield 132, 3) := dk_181 0 132 (dk_at dksX0_rule_1 9 rfl rfl)
theorem dX0_rule_36 : decode cX0_rule 36 = .ok (.iload_n 1, 1) := dk_27 (dk_at dksX0_rule_1 12 rfl rfl)
theorem dX0_rule_37 : decode cX0_rule 37 = .ok (.ireturn, 1) := dk_172 (dk_at dksX0_rule_1 13 rfl rfl)
theorem dX0_rule_38 : decode cX0_rule 38 = .ok (.astore_n 1, 1) := dk_76 (dk_at dksX0_rule_1 14 rfl rfl)
theorem dX0_rule_39 : decode cX0_rule 39 = .ok (.bipush (-2), 2) := dk_16 254 (dk_at dksX0_rule_1 15 rfl rfl)
theorem dX0_rule_41 : decode cX0_rule 41 = .ok (.aload_n 1, 1) := dk_43 (dk_at dksX0_rule_1 17 rfl rfl)
theorem dX0_rule_42 : decode cX0_rule 42 = .ok (.getfield 129, 3) := dk_180 0 129 (dk_at dksX0_rule_1 18 rfl rfl)
theorem dX0_rule_45 : decode cX0_rule 45 = .ok (.isub, 1) := dk_100 (dk_at dksX0_rule_1 21 rfl rfl)
theorem dX0_rule_46 : decode cX0_rule 46 = .ok (.istore_n 2, 1) := dk_61 (dk_at dksX0_rule_1 22 rfl rfl)
theorem dX0_rule_47 : decode cX0_rule 47 = .ok (.aload_n 0, 1) := dk_42 (dk_at dksX0_rule_1 23 rfl rfl)
theorem dX0_rule_48 : decode cX0_rule 48 = .ok (.iconst 0, 1) := dk_3 (dk_at dksX0_rule_2 0 rfl rfl)
theorem dX0_rule_49 : decode cX0_rule 49 = .ok (.putfield 132, 3) := dk_181 0 132 (dk_at dksX0_rule_2 1 rfl rfl)
theorem dX0_rule_52 : decode cX0_rule 52 = .ok (.iload_n 2, 1) := dk_28 (dk_at dksX0_rule_2 4 rfl rfl)
theorem dX0_rule_53 : decode cX0_rule 53 = .ok (.ireturn, 1) := dk_172 (dk_at dksX0_rule_2 5 rfl rfl)
theorem dX0_rule_54 : decode cX0_rule 54 = .ok (.astore_n 3, 1) := dk_78 (dk_at dksX0_rule_2 6 rfl rfl)
theorem dX0_rule_55 : decode cX0_rule 55 = .ok (.aload_n 0, 1) := dk_42 (dk_at dksX0_rule_2 7 rfl rfl)
theorem dX0_rule_56 : decode cX0_rule 56 = .ok (.iconst 0, 1) := dk_3 (dk_at dksX0_rule_2 8 rfl rfl)
theorem dX0_rule_57 : decode cX0_rule 57 = .ok (.putfield 132, 3) := dk_181 0 132 (dk_at dksX0_rule_2 9 rfl rfl)
theorem dX0_rule_60 : decode cX0_rule 60 = .ok (.aload_n 3, 1) := dk_45 (dk_at dksX0_rule_2 12 rfl rfl)
theorem dX0_rule_61 : decode cX0_rule 61 = .ok (.athrow, 1) := dk_191 (dk_at dksX0_rule_2 13 rfl rfl)
abbrev cX0_force : ByteArray := prog_1_method_14_code
def yX0_force : MethodName := ⟨RX0, "force", "(I)I"⟩
def dkwX0_force_1 : List UInt8 := [42, 180, 0, 35, 61, 42, 27, 181, 0, 35, 28, 172]
abbrev dktX0_force_1 : List UInt8 := dkwX0_force_1 ++ []
def dkwX0_force_0 : List UInt8 := [27, 133, 20, 0, 162, 42, 180, 0, 31, 182, 0, 156, 4, 100, 133, 184, 0, 125, 154, 0, 6, 16, 254, 172]
abbrev dktX0_force_0 : List UInt8 := dkwX0_force_0 ++ dktX0_force_1
theorem dksX0_force_0 : cX0_force.data.toList.drop 0 = dktX0_force_0 := by decide +kernel
theorem dksX0_force_1 : cX0_force.data.toList.drop 24 = dktX0_force_1 := dk_seg dksX0_force_0 24 rfl rfl
theorem dX0_force_0 : decode cX0_force 0 = .ok (.iload_n 1, 1) := dk_27 (dk_at dksX0_force_0 0 rfl rfl)
theorem dX0_force_1 : decode cX0_force 1 = .ok (.i2l, 1) := dk_133 (dk_at dksX0_force_0 1 rfl rfl)
theorem dX0_force_2 : decode cX0_force 2 = .ok (.ldc2_w 162, 3) := dk_20 0 162 (dk_at dksX0_force_0 2 rfl rfl)
theorem dX0_force_5 : decode cX0_force 5 = .ok (.aload_n 0, 1) := dk_42 (dk_at dksX0_force_0 5 rfl rfl)
theorem dX0_force_6 : decode cX0_force 6 = .ok (.getfield 31, 3) := dk_180 0 31 (dk_at dksX0_force_0 6 rfl rfl)
theorem dX0_force_9 : decode cX0_force 9 = .ok (.invokevirtual 156, 3) := dk_182 0 156 (dk_at dksX0_force_0 9 rfl rfl)
theorem dX0_force_12 : decode cX0_force 12 = .ok (.iconst 1, 1) := dk_4 (dk_at dksX0_force_0 12 rfl rfl)
theorem dX0_force_13 : decode cX0_force 13 = .ok (.isub, 1) := dk_100 (dk_at dksX0_force_0 13 rfl rfl)
theorem dX0_force_14 : decode cX0_force 14 = .ok (.i2l, 1) := dk_133 (dk_at dksX0_force_0 14 rfl rfl)
theorem dX0_force_15 : decode cX0_force 15 = .ok (.invokestatic 125, 3) := dk_184 0 125 (dk_at dksX0_force_0 15 rfl rfl)
theorem dX0_force_18 : decode cX0_force 18 = .ok (.ifCond .ne 6, 3) := dk_154 0 6 (dk_at dksX0_force_0 18 rfl rfl)
theorem dX0_force_21 : decode cX0_force 21 = .ok (.bipush (-2), 2) := dk_16 254 (dk_at dksX0_force_0 21 rfl rfl)
theorem dX0_force_23 : decode cX0_force 23 = .ok (.ireturn, 1) := dk_172 (dk_at dksX0_force_0 23 rfl rfl)
theorem dX0_force_24 : decode cX0_force 24 = .ok (.aload_n 0, 1) := dk_42 (dk_at dksX0_force_1 0 rfl rfl)
theorem dX0_force_25 : decode cX0_force 25 = .ok (.getfield 35, 3) := dk_180 0 35 (dk_at dksX0_force_1 1 rfl rfl)
theorem dX0_force_28 : decode cX0_force 28 = .ok (.istore_n 2, 1) := dk_61 (dk_at dksX0_force_1 4 rfl rfl)
theorem dX0_force_29 : decode cX0_force 29 = .ok (.aload_n 0, 1) := dk_42 (dk_at dksX0_force_1 5 rfl rfl)
theorem dX0_force_30 : decode cX0_force 30 = .ok (.iload_n 1, 1) := dk_27 (dk_at dksX0_force_1 6 rfl rfl)
theorem dX0_force_31 : decode cX0_force 31 = .ok (.putfield 35, 3) := dk_181 0 35 (dk_at dksX0_force_1 7 rfl rfl)
theorem dX0_force_34 : decode cX0_force 34 = .ok (.iload_n 2, 1) := dk_28 (dk_at dksX0_force_1 10 rfl rfl)
theorem dX0_force_35 : decode cX0_force 35 = .ok (.ireturn, 1) := dk_172 (dk_at dksX0_force_1 11 rfl rfl)
abbrev cX0_road : ByteArray := prog_1_method_15_code
def yX0_road : MethodName := ⟨RX0, "road", "(II)I"⟩
def dkwX0_road_4 : List UInt8 := [46, 172, 42, 180, 0, 19, 180, 0, 183, 27, 46, 172, 42, 180, 0, 19, 27, 182, 0, 186, 172, 2, 172]
abbrev dktX0_road_4 : List UInt8 := dkwX0_road_4 ++ []
def dkwX0_road_3 : List UInt8 := [180, 0, 174, 27, 46, 172, 42, 180, 0, 10, 180, 0, 177, 27, 46, 172, 42, 180, 0, 19, 180, 0, 180, 27]
abbrev dktX0_road_3 : List UInt8 := dkwX0_road_3 ++ dktX0_road_4
def dkwX0_road_2 : List UInt8 := [42, 180, 0, 19, 180, 0, 168, 27, 46, 172, 42, 180, 0, 19, 180, 0, 171, 27, 46, 172, 42, 180, 0, 19]
abbrev dktX0_road_2 : List UInt8 := dkwX0_road_2 ++ dktX0_road_3
def dkwX0_road_1 : List UInt8 := [170, 0, 0, 0, 110, 0, 0, 0, 0, 0, 0, 0, 6, 0, 0, 0, 41, 0, 0, 0, 51, 0, 0, 0, 61, 0, 0, 0, 71, 0, 0, 0, 81, 0, 0, 0, 91, 0, 0, 0, 101]
abbrev dktX0_road_1 : List UInt8 := dkwX0_road_1 ++ dktX0_road_2
def dkwX0_road_0 : List UInt8 := [42, 27, 182, 0, 164, 154, 0, 5, 2, 172, 28]
abbrev dktX0_road_0 : List UInt8 := dkwX0_road_0 ++ dktX0_road_1
theorem dksX0_road_0 : cX0_road.data.toList.drop 0 = dktX0_road_0 := by decide +kernel
theorem dksX0_road_1 : cX0_road.data.toList.drop 11 = dktX0_road_1 := dk_seg dksX0_road_0 11 rfl rfl
theorem dksX0_road_2 : cX0_road.data.toList.drop 52 = dktX0_road_2 := dk_seg dksX0_road_1 41 rfl rfl
theorem dksX0_road_3 : cX0_road.data.toList.drop 76 = dktX0_road_3 := dk_seg dksX0_road_2 24 rfl rfl
theorem dksX0_road_4 : cX0_road.data.toList.drop 100 = dktX0_road_4 := dk_seg dksX0_road_3 24 rfl rfl
theorem dX0_road_0 : decode cX0_road 0 = .ok (.aload_n 0, 1) := dk_42 (dk_at dksX0_road_0 0 rfl rfl)
theorem dX0_road_1 : decode cX0_road 1 = .ok (.iload_n 1, 1) := dk_27 (dk_at dksX0_road_0 1 rfl rfl)
theorem dX0_road_2 : decode cX0_road 2 = .ok (.invokevirtual 164, 3) := dk_182 0 164 (dk_at dksX0_road_0 2 rfl rfl)
theorem dX0_road_5 : decode cX0_road 5 = .ok (.ifCond .ne 5, 3) := dk_154 0 5 (dk_at dksX0_road_0 5 rfl rfl)
theorem dX0_road_8 : decode cX0_road 8 = .ok (.iconst (-1), 1) := dk_2 (dk_at dksX0_road_0 8 rfl rfl)
theorem dX0_road_9 : decode cX0_road 9 = .ok (.ireturn, 1) := dk_172 (dk_at dksX0_road_0 9 rfl rfl)
theorem dX0_road_10 : decode cX0_road 10 = .ok (.iload_n 2, 1) := dk_28 (dk_at dksX0_road_0 10 rfl rfl)
theorem dX0_road_11 : decode cX0_road 11 = .ok (.tableswitch 110 0 6 #[41, 51, 61, 71, 81, 91, 101], 41) := by decide +kernel
theorem dX0_road_52 : decode cX0_road 52 = .ok (.aload_n 0, 1) := dk_42 (dk_at dksX0_road_2 0 rfl rfl)
theorem dX0_road_53 : decode cX0_road 53 = .ok (.getfield 19, 3) := dk_180 0 19 (dk_at dksX0_road_2 1 rfl rfl)
theorem dX0_road_56 : decode cX0_road 56 = .ok (.getfield 168, 3) := dk_180 0 168 (dk_at dksX0_road_2 4 rfl rfl)
theorem dX0_road_59 : decode cX0_road 59 = .ok (.iload_n 1, 1) := dk_27 (dk_at dksX0_road_2 7 rfl rfl)
theorem dX0_road_60 : decode cX0_road 60 = .ok (.iaload, 1) := dk_46 (dk_at dksX0_road_2 8 rfl rfl)
theorem dX0_road_61 : decode cX0_road 61 = .ok (.ireturn, 1) := dk_172 (dk_at dksX0_road_2 9 rfl rfl)
theorem dX0_road_62 : decode cX0_road 62 = .ok (.aload_n 0, 1) := dk_42 (dk_at dksX0_road_2 10 rfl rfl)
theorem dX0_road_63 : decode cX0_road 63 = .ok (.getfield 19, 3) := dk_180 0 19 (dk_at dksX0_road_2 11 rfl rfl)
theorem dX0_road_66 : decode cX0_road 66 = .ok (.getfield 171, 3) := dk_180 0 171 (dk_at dksX0_road_2 14 rfl rfl)
theorem dX0_road_69 : decode cX0_road 69 = .ok (.iload_n 1, 1) := dk_27 (dk_at dksX0_road_2 17 rfl rfl)
theorem dX0_road_70 : decode cX0_road 70 = .ok (.iaload, 1) := dk_46 (dk_at dksX0_road_2 18 rfl rfl)
theorem dX0_road_71 : decode cX0_road 71 = .ok (.ireturn, 1) := dk_172 (dk_at dksX0_road_2 19 rfl rfl)
theorem dX0_road_72 : decode cX0_road 72 = .ok (.aload_n 0, 1) := dk_42 (dk_at dksX0_road_2 20 rfl rfl)
theorem dX0_road_73 : decode cX0_road 73 = .ok (.getfield 19, 3) := dk_180 0 19 (dk_at dksX0_road_2 21 rfl rfl)
theorem dX0_road_76 : decode cX0_road 76 = .ok (.getfield 174, 3) := dk_180 0 174 (dk_at dksX0_road_3 0 rfl rfl)
theorem dX0_road_79 : decode cX0_road 79 = .ok (.iload_n 1, 1) := dk_27 (dk_at dksX0_road_3 3 rfl rfl)
theorem dX0_road_80 : decode cX0_road 80 = .ok (.iaload, 1) := dk_46 (dk_at dksX0_road_3 4 rfl rfl)
theorem dX0_road_81 : decode cX0_road 81 = .ok (.ireturn, 1) := dk_172 (dk_at dksX0_road_3 5 rfl rfl)
theorem dX0_road_82 : decode cX0_road 82 = .ok (.aload_n 0, 1) := dk_42 (dk_at dksX0_road_3 6 rfl rfl)
theorem dX0_road_83 : decode cX0_road 83 = .ok (.getfield 10, 3) := dk_180 0 10 (dk_at dksX0_road_3 7 rfl rfl)
theorem dX0_road_86 : decode cX0_road 86 = .ok (.getfield 177, 3) := dk_180 0 177 (dk_at dksX0_road_3 10 rfl rfl)
theorem dX0_road_89 : decode cX0_road 89 = .ok (.iload_n 1, 1) := dk_27 (dk_at dksX0_road_3 13 rfl rfl)
theorem dX0_road_90 : decode cX0_road 90 = .ok (.iaload, 1) := dk_46 (dk_at dksX0_road_3 14 rfl rfl)
theorem dX0_road_91 : decode cX0_road 91 = .ok (.ireturn, 1) := dk_172 (dk_at dksX0_road_3 15 rfl rfl)
theorem dX0_road_92 : decode cX0_road 92 = .ok (.aload_n 0, 1) := dk_42 (dk_at dksX0_road_3 16 rfl rfl)
theorem dX0_road_93 : decode cX0_road 93 = .ok (.getfield 19, 3) := dk_180 0 19 (dk_at dksX0_road_3 17 rfl rfl)
theorem dX0_road_96 : decode cX0_road 96 = .ok (.getfield 180, 3) := dk_180 0 180 (dk_at dksX0_road_3 20 rfl rfl)
theorem dX0_road_99 : decode cX0_road 99 = .ok (.iload_n 1, 1) := dk_27 (dk_at dksX0_road_3 23 rfl rfl)
theorem dX0_road_100 : decode cX0_road 100 = .ok (.iaload, 1) := dk_46 (dk_at dksX0_road_4 0 rfl rfl)
theorem dX0_road_101 : decode cX0_road 101 = .ok (.ireturn, 1) := dk_172 (dk_at dksX0_road_4 1 rfl rfl)
theorem dX0_road_102 : decode cX0_road 102 = .ok (.aload_n 0, 1) := dk_42 (dk_at dksX0_road_4 2 rfl rfl)
theorem dX0_road_103 : decode cX0_road 103 = .ok (.getfield 19, 3) := dk_180 0 19 (dk_at dksX0_road_4 3 rfl rfl)
theorem dX0_road_106 : decode cX0_road 106 = .ok (.getfield 183, 3) := dk_180 0 183 (dk_at dksX0_road_4 6 rfl rfl)
theorem dX0_road_109 : decode cX0_road 109 = .ok (.iload_n 1, 1) := dk_27 (dk_at dksX0_road_4 9 rfl rfl)
theorem dX0_road_110 : decode cX0_road 110 = .ok (.iaload, 1) := dk_46 (dk_at dksX0_road_4 10 rfl rfl)
theorem dX0_road_111 : decode cX0_road 111 = .ok (.ireturn, 1) := dk_172 (dk_at dksX0_road_4 11 rfl rfl)
theorem dX0_road_112 : decode cX0_road 112 = .ok (.aload_n 0, 1) := dk_42 (dk_at dksX0_road_4 12 rfl rfl)
theorem dX0_road_113 : decode cX0_road 113 = .ok (.getfield 19, 3) := dk_180 0 19 (dk_at dksX0_road_4 13 rfl rfl)
theorem dX0_road_116 : decode cX0_road 116 = .ok (.iload_n 1, 1) := dk_27 (dk_at dksX0_road_4 16 rfl rfl)
theorem dX0_road_117 : decode cX0_road 117 = .ok (.invokevirtual 186, 3) := dk_182 0 186 (dk_at dksX0_road_4 17 rfl rfl)
theorem dX0_road_120 : decode cX0_road 120 = .ok (.ireturn, 1) := dk_172 (dk_at dksX0_road_4 20 rfl rfl)
theorem dX0_road_121 : decode cX0_road 121 = .ok (.iconst (-1), 1) := dk_2 (dk_at dksX0_road_4 21 rfl rfl)
theorem dX0_road_122 : decode cX0_road 122 = .ok (.ireturn, 1) := dk_172 (dk_at dksX0_road_4 22 rfl rfl)
abbrev cX0_isRoad : ByteArray := prog_1_method_6_code
def yX0_isRoad : MethodName := ⟨RX0, "isRoad", "(I)Z"⟩
def dkwX0_isRoad_0 : List UInt8 := [27, 133, 9, 42, 180, 0, 10, 182, 0, 121, 4, 100, 133, 184, 0, 125, 172]
abbrev dktX0_isRoad_0 : List UInt8 := dkwX0_isRoad_0 ++ []
theorem dksX0_isRoad_0 : cX0_isRoad.data.toList.drop 0 = dktX0_isRoad_0 := by decide +kernel
theorem dX0_isRoad_0 : decode cX0_isRoad 0 = .ok (.iload_n 1, 1) := dk_27 (dk_at dksX0_isRoad_0 0 rfl rfl)
theorem dX0_isRoad_1 : decode cX0_isRoad 1 = .ok (.i2l, 1) := dk_133 (dk_at dksX0_isRoad_0 1 rfl rfl)
theorem dX0_isRoad_2 : decode cX0_isRoad 2 = .ok (.lconst 0, 1) := dk_9 (dk_at dksX0_isRoad_0 2 rfl rfl)
theorem dX0_isRoad_3 : decode cX0_isRoad 3 = .ok (.aload_n 0, 1) := dk_42 (dk_at dksX0_isRoad_0 3 rfl rfl)
theorem dX0_isRoad_4 : decode cX0_isRoad 4 = .ok (.getfield 10, 3) := dk_180 0 10 (dk_at dksX0_isRoad_0 4 rfl rfl)
theorem dX0_isRoad_7 : decode cX0_isRoad 7 = .ok (.invokevirtual 121, 3) := dk_182 0 121 (dk_at dksX0_isRoad_0 7 rfl rfl)
theorem dX0_isRoad_10 : decode cX0_isRoad 10 = .ok (.iconst 1, 1) := dk_4 (dk_at dksX0_isRoad_0 10 rfl rfl)
theorem dX0_isRoad_11 : decode cX0_isRoad 11 = .ok (.isub, 1) := dk_100 (dk_at dksX0_isRoad_0 11 rfl rfl)
theorem dX0_isRoad_12 : decode cX0_isRoad 12 = .ok (.i2l, 1) := dk_133 (dk_at dksX0_isRoad_0 12 rfl rfl)
theorem dX0_isRoad_13 : decode cX0_isRoad 13 = .ok (.invokestatic 125, 3) := dk_184 0 125 (dk_at dksX0_isRoad_0 13 rfl rfl)
theorem dX0_isRoad_16 : decode cX0_isRoad 16 = .ok (.ireturn, 1) := dk_172 (dk_at dksX0_isRoad_0 16 rfl rfl)
abbrev cX0_scored : ByteArray := prog_1_method_16_code
def yX0_scored : MethodName := ⟨RX0, "scored", "(I)I"⟩
def dkwX0_scored_0 : List UInt8 := [42, 27, 182, 0, 190, 153, 0, 15, 42, 180, 0, 19, 180, 0, 193, 27, 46, 167, 0, 4, 2, 172]
abbrev dktX0_scored_0 : List UInt8 := dkwX0_scored_0 ++ []
theorem dksX0_scored_0 : cX0_scored.data.toList.drop 0 = dktX0_scored_0 := by decide +kernel
theorem dX0_scored_0 : decode cX0_scored 0 = .ok (.aload_n 0, 1) := dk_42 (dk_at dksX0_scored_0 0 rfl rfl)
theorem dX0_scored_1 : decode cX0_scored 1 = .ok (.iload_n 1, 1) := dk_27 (dk_at dksX0_scored_0 1 rfl rfl)
theorem dX0_scored_2 : decode cX0_scored 2 = .ok (.invokevirtual 190, 3) := dk_182 0 190 (dk_at dksX0_scored_0 2 rfl rfl)
theorem dX0_scored_5 : decode cX0_scored 5 = .ok (.ifCond .eq 15, 3) := dk_153 0 15 (dk_at dksX0_scored_0 5 rfl rfl)
theorem dX0_scored_8 : decode cX0_scored 8 = .ok (.aload_n 0, 1) := dk_42 (dk_at dksX0_scored_0 8 rfl rfl)
theorem dX0_scored_9 : decode cX0_scored 9 = .ok (.getfield 19, 3) := dk_180 0 19 (dk_at dksX0_scored_0 9 rfl rfl)
theorem dX0_scored_12 : decode cX0_scored 12 = .ok (.getfield 193, 3) := dk_180 0 193 (dk_at dksX0_scored_0 12 rfl rfl)
theorem dX0_scored_15 : decode cX0_scored 15 = .ok (.iload_n 1, 1) := dk_27 (dk_at dksX0_scored_0 15 rfl rfl)
theorem dX0_scored_16 : decode cX0_scored 16 = .ok (.iaload, 1) := dk_46 (dk_at dksX0_scored_0 16 rfl rfl)
theorem dX0_scored_17 : decode cX0_scored 17 = .ok (.goto 4, 3) := dk_167 0 4 (dk_at dksX0_scored_0 17 rfl rfl)
theorem dX0_scored_20 : decode cX0_scored 20 = .ok (.iconst (-1), 1) := dk_2 (dk_at dksX0_scored_0 20 rfl rfl)
theorem dX0_scored_21 : decode cX0_scored 21 = .ok (.ireturn, 1) := dk_172 (dk_at dksX0_scored_0 21 rfl rfl)
abbrev cX0_isBeat : ByteArray := prog_1_method_7_code
def yX0_isBeat : MethodName := ⟨RX0, "isBeat", "(I)Z"⟩
def dkwX0_isBeat_0 : List UInt8 := [27, 133, 9, 42, 180, 0, 10, 180, 0, 118, 4, 100, 133, 184, 0, 125, 172]
abbrev dktX0_isBeat_0 : List UInt8 := dkwX0_isBeat_0 ++ []
theorem dksX0_isBeat_0 : cX0_isBeat.data.toList.drop 0 = dktX0_isBeat_0 := by decide +kernel
theorem dX0_isBeat_0 : decode cX0_isBeat 0 = .ok (.iload_n 1, 1) := dk_27 (dk_at dksX0_isBeat_0 0 rfl rfl)
theorem dX0_isBeat_1 : decode cX0_isBeat 1 = .ok (.i2l, 1) := dk_133 (dk_at dksX0_isBeat_0 1 rfl rfl)
theorem dX0_isBeat_2 : decode cX0_isBeat 2 = .ok (.lconst 0, 1) := dk_9 (dk_at dksX0_isBeat_0 2 rfl rfl)
theorem dX0_isBeat_3 : decode cX0_isBeat 3 = .ok (.aload_n 0, 1) := dk_42 (dk_at dksX0_isBeat_0 3 rfl rfl)
theorem dX0_isBeat_4 : decode cX0_isBeat 4 = .ok (.getfield 10, 3) := dk_180 0 10 (dk_at dksX0_isBeat_0 4 rfl rfl)
theorem dX0_isBeat_7 : decode cX0_isBeat 7 = .ok (.getfield 118, 3) := dk_180 0 118 (dk_at dksX0_isBeat_0 7 rfl rfl)
theorem dX0_isBeat_10 : decode cX0_isBeat 10 = .ok (.iconst 1, 1) := dk_4 (dk_at dksX0_isBeat_0 10 rfl rfl)
theorem dX0_isBeat_11 : decode cX0_isBeat 11 = .ok (.isub, 1) := dk_100 (dk_at dksX0_isBeat_0 11 rfl rfl)
theorem dX0_isBeat_12 : decode cX0_isBeat 12 = .ok (.i2l, 1) := dk_133 (dk_at dksX0_isBeat_0 12 rfl rfl)
theorem dX0_isBeat_13 : decode cX0_isBeat 13 = .ok (.invokestatic 125, 3) := dk_184 0 125 (dk_at dksX0_isBeat_0 13 rfl rfl)
theorem dX0_isBeat_16 : decode cX0_isBeat 16 = .ok (.ireturn, 1) := dk_172 (dk_at dksX0_isBeat_0 16 rfl rfl)
abbrev cX0_heard : ByteArray := prog_1_method_17_code
def yX0_heard : MethodName := ⟨RX0, "heard", "()I"⟩
def dkwX0_heard_0 : List UInt8 := [42, 180, 0, 19, 180, 0, 196, 172]
abbrev dktX0_heard_0 : List UInt8 := dkwX0_heard_0 ++ []
theorem dksX0_heard_0 : cX0_heard.data.toList.drop 0 = dktX0_heard_0 := by decide +kernel
theorem dX0_heard_0 : decode cX0_heard 0 = .ok (.aload_n 0, 1) := dk_42 (dk_at dksX0_heard_0 0 rfl rfl)
theorem dX0_heard_1 : decode cX0_heard 1 = .ok (.getfield 19, 3) := dk_180 0 19 (dk_at dksX0_heard_0 1 rfl rfl)
theorem dX0_heard_4 : decode cX0_heard 4 = .ok (.getfield 196, 3) := dk_180 0 196 (dk_at dksX0_heard_0 4 rfl rfl)
theorem dX0_heard_7 : decode cX0_heard 7 = .ok (.ireturn, 1) := dk_172 (dk_at dksX0_heard_0 7 rfl rfl)
abbrev cX0_undo : ByteArray := prog_1_method_26_code
def yX0_undo : MethodName := ⟨RX0, "undo", "()I"⟩
def dkwX0_undo_2 : List UInt8 := [180, 1, 19, 50, 182, 1, 22, 42, 180, 0, 153, 172]
abbrev dktX0_undo_2 : List UInt8 := dkwX0_undo_2 ++ []
def dkwX0_undo_1 : List UInt8 := [181, 1, 19, 42, 89, 180, 0, 153, 4, 100, 181, 0, 153, 42, 180, 0, 19, 42, 180, 0, 84, 42]
abbrev dktX0_undo_1 : List UInt8 := dkwX0_undo_1 ++ dktX0_undo_2
def dkwX0_undo_0 : List UInt8 := [42, 180, 0, 153, 154, 0, 5, 2, 172, 42, 42, 180, 1, 19, 16, 20, 96, 4, 100, 16, 20, 112]
abbrev dktX0_undo_0 : List UInt8 := dkwX0_undo_0 ++ dktX0_undo_1
theorem dksX0_undo_0 : cX0_undo.data.toList.drop 0 = dktX0_undo_0 := by decide +kernel
theorem dksX0_undo_1 : cX0_undo.data.toList.drop 22 = dktX0_undo_1 := dk_seg dksX0_undo_0 22 rfl rfl
theorem dksX0_undo_2 : cX0_undo.data.toList.drop 44 = dktX0_undo_2 := dk_seg dksX0_undo_1 22 rfl rfl
theorem dX0_undo_0 : decode cX0_undo 0 = .ok (.aload_n 0, 1) := dk_42 (dk_at dksX0_undo_0 0 rfl rfl)
theorem dX0_undo_1 : decode cX0_undo 1 = .ok (.getfield 153, 3) := dk_180 0 153 (dk_at dksX0_undo_0 1 rfl rfl)
theorem dX0_undo_4 : decode cX0_undo 4 = .ok (.ifCond .ne 5, 3) := dk_154 0 5 (dk_at dksX0_undo_0 4 rfl rfl)
theorem dX0_undo_7 : decode cX0_undo 7 = .ok (.iconst (-1), 1) := dk_2 (dk_at dksX0_undo_0 7 rfl rfl)
theorem dX0_undo_8 : decode cX0_undo 8 = .ok (.ireturn, 1) := dk_172 (dk_at dksX0_undo_0 8 rfl rfl)
theorem dX0_undo_9 : decode cX0_undo 9 = .ok (.aload_n 0, 1) := dk_42 (dk_at dksX0_undo_0 9 rfl rfl)
theorem dX0_undo_10 : decode cX0_undo 10 = .ok (.aload_n 0, 1) := dk_42 (dk_at dksX0_undo_0 10 rfl rfl)
theorem dX0_undo_11 : decode cX0_undo 11 = .ok (.getfield 275, 3) := dk_180 1 19 (dk_at dksX0_undo_0 11 rfl rfl)
theorem dX0_undo_14 : decode cX0_undo 14 = .ok (.bipush 20, 2) := dk_16 20 (dk_at dksX0_undo_0 14 rfl rfl)
theorem dX0_undo_16 : decode cX0_undo 16 = .ok (.iadd, 1) := dk_96 (dk_at dksX0_undo_0 16 rfl rfl)
theorem dX0_undo_17 : decode cX0_undo 17 = .ok (.iconst 1, 1) := dk_4 (dk_at dksX0_undo_0 17 rfl rfl)
theorem dX0_undo_18 : decode cX0_undo 18 = .ok (.isub, 1) := dk_100 (dk_at dksX0_undo_0 18 rfl rfl)
theorem dX0_undo_19 : decode cX0_undo 19 = .ok (.bipush 20, 2) := dk_16 20 (dk_at dksX0_undo_0 19 rfl rfl)
theorem dX0_undo_21 : decode cX0_undo 21 = .ok (.irem, 1) := dk_112 (dk_at dksX0_undo_0 21 rfl rfl)
theorem dX0_undo_22 : decode cX0_undo 22 = .ok (.putfield 275, 3) := dk_181 1 19 (dk_at dksX0_undo_1 0 rfl rfl)
theorem dX0_undo_25 : decode cX0_undo 25 = .ok (.aload_n 0, 1) := dk_42 (dk_at dksX0_undo_1 3 rfl rfl)
theorem dX0_undo_26 : decode cX0_undo 26 = .ok (.dup, 1) := dk_89 (dk_at dksX0_undo_1 4 rfl rfl)
theorem dX0_undo_27 : decode cX0_undo 27 = .ok (.getfield 153, 3) := dk_180 0 153 (dk_at dksX0_undo_1 5 rfl rfl)
theorem dX0_undo_30 : decode cX0_undo 30 = .ok (.iconst 1, 1) := dk_4 (dk_at dksX0_undo_1 8 rfl rfl)
theorem dX0_undo_31 : decode cX0_undo 31 = .ok (.isub, 1) := dk_100 (dk_at dksX0_undo_1 9 rfl rfl)
theorem dX0_undo_32 : decode cX0_undo 32 = .ok (.putfield 153, 3) := dk_181 0 153 (dk_at dksX0_undo_1 10 rfl rfl)
theorem dX0_undo_35 : decode cX0_undo 35 = .ok (.aload_n 0, 1) := dk_42 (dk_at dksX0_undo_1 13 rfl rfl)
theorem dX0_undo_36 : decode cX0_undo 36 = .ok (.getfield 19, 3) := dk_180 0 19 (dk_at dksX0_undo_1 14 rfl rfl)
theorem dX0_undo_39 : decode cX0_undo 39 = .ok (.aload_n 0, 1) := dk_42 (dk_at dksX0_undo_1 17 rfl rfl)
theorem dX0_undo_40 : decode cX0_undo 40 = .ok (.getfield 84, 3) := dk_180 0 84 (dk_at dksX0_undo_1 18 rfl rfl)
theorem dX0_undo_43 : decode cX0_undo 43 = .ok (.aload_n 0, 1) := dk_42 (dk_at dksX0_undo_1 21 rfl rfl)
theorem dX0_undo_44 : decode cX0_undo 44 = .ok (.getfield 275, 3) := dk_180 1 19 (dk_at dksX0_undo_2 0 rfl rfl)
theorem dX0_undo_47 : decode cX0_undo 47 = .ok (.aaload, 1) := dk_50 (dk_at dksX0_undo_2 3 rfl rfl)
theorem dX0_undo_48 : decode cX0_undo 48 = .ok (.invokevirtual 278, 3) := dk_182 1 22 (dk_at dksX0_undo_2 4 rfl rfl)
theorem dX0_undo_51 : decode cX0_undo 51 = .ok (.aload_n 0, 1) := dk_42 (dk_at dksX0_undo_2 7 rfl rfl)
theorem dX0_undo_52 : decode cX0_undo 52 = .ok (.getfield 153, 3) := dk_180 0 153 (dk_at dksX0_undo_2 8 rfl rfl)
theorem dX0_undo_55 : decode cX0_undo 55 = .ok (.ireturn, 1) := dk_172 (dk_at dksX0_undo_2 11 rfl rfl)
abbrev cX0_beat : ByteArray := prog_1_method_27_code
def yX0_beat : MethodName := ⟨RX0, "beat", "()I"⟩
def dkwX0_beat_1 : List UInt8 := [182, 1, 30, 42, 42, 180, 0, 19, 182, 1, 13, 172]
abbrev dktX0_beat_1 : List UInt8 := dkwX0_beat_1 ++ []
def dkwX0_beat_0 : List UInt8 := [42, 182, 1, 26, 153, 0, 16, 42, 180, 0, 19, 180, 0, 199, 17, 3, 231, 160, 0, 5, 2, 172, 42]
abbrev dktX0_beat_0 : List UInt8 := dkwX0_beat_0 ++ dktX0_beat_1
theorem dksX0_beat_0 : cX0_beat.data.toList.drop 0 = dktX0_beat_0 := by decide +kernel
theorem dksX0_beat_1 : cX0_beat.data.toList.drop 23 = dktX0_beat_1 := dk_seg dksX0_beat_0 23 rfl rfl
theorem dX0_beat_0 : decode cX0_beat 0 = .ok (.aload_n 0, 1) := dk_42 (dk_at dksX0_beat_0 0 rfl rfl)
theorem dX0_beat_1 : decode cX0_beat 1 = .ok (.invokevirtual 282, 3) := dk_182 1 26 (dk_at dksX0_beat_0 1 rfl rfl)
theorem dX0_beat_4 : decode cX0_beat 4 = .ok (.ifCond .eq 16, 3) := dk_153 0 16 (dk_at dksX0_beat_0 4 rfl rfl)
theorem dX0_beat_7 : decode cX0_beat 7 = .ok (.aload_n 0, 1) := dk_42 (dk_at dksX0_beat_0 7 rfl rfl)
theorem dX0_beat_8 : decode cX0_beat 8 = .ok (.getfield 19, 3) := dk_180 0 19 (dk_at dksX0_beat_0 8 rfl rfl)
theorem dX0_beat_11 : decode cX0_beat 11 = .ok (.getfield 199, 3) := dk_180 0 199 (dk_at dksX0_beat_0 11 rfl rfl)
theorem dX0_beat_14 : decode cX0_beat 14 = .ok (.sipush 999, 3) := dk_17 3 231 (dk_at dksX0_beat_0 14 rfl rfl)
theorem dX0_beat_17 : decode cX0_beat 17 = .ok (.if_icmp .ne 5, 3) := dk_160 0 5 (dk_at dksX0_beat_0 17 rfl rfl)
theorem dX0_beat_20 : decode cX0_beat 20 = .ok (.iconst (-1), 1) := dk_2 (dk_at dksX0_beat_0 20 rfl rfl)
theorem dX0_beat_21 : decode cX0_beat 21 = .ok (.ireturn, 1) := dk_172 (dk_at dksX0_beat_0 21 rfl rfl)
theorem dX0_beat_22 : decode cX0_beat 22 = .ok (.aload_n 0, 1) := dk_42 (dk_at dksX0_beat_0 22 rfl rfl)
theorem dX0_beat_23 : decode cX0_beat 23 = .ok (.invokevirtual 286, 3) := dk_182 1 30 (dk_at dksX0_beat_1 0 rfl rfl)
theorem dX0_beat_26 : decode cX0_beat 26 = .ok (.aload_n 0, 1) := dk_42 (dk_at dksX0_beat_1 3 rfl rfl)
theorem dX0_beat_27 : decode cX0_beat 27 = .ok (.aload_n 0, 1) := dk_42 (dk_at dksX0_beat_1 4 rfl rfl)
theorem dX0_beat_28 : decode cX0_beat 28 = .ok (.getfield 19, 3) := dk_180 0 19 (dk_at dksX0_beat_1 5 rfl rfl)
theorem dX0_beat_31 : decode cX0_beat 31 = .ok (.invokevirtual 269, 3) := dk_182 1 13 (dk_at dksX0_beat_1 8 rfl rfl)
theorem dX0_beat_34 : decode cX0_beat 34 = .ok (.ireturn, 1) := dk_172 (dk_at dksX0_beat_1 11 rfl rfl)
abbrev cX0_isJunction : ByteArray := prog_1_method_5_code
def yX0_isJunction : MethodName := ⟨RX0, "isJunction", "()Z"⟩
def dkwX0_isJunction_0 : List UInt8 := [42, 180, 0, 10, 180, 0, 118, 158, 0, 7, 4, 167, 0, 4, 3, 172]
abbrev dktX0_isJunction_0 : List UInt8 := dkwX0_isJunction_0 ++ []
theorem dksX0_isJunction_0 : cX0_isJunction.data.toList.drop 0 = dktX0_isJunction_0 := by decide +kernel
theorem dX0_isJunction_0 : decode cX0_isJunction 0 = .ok (.aload_n 0, 1) := dk_42 (dk_at dksX0_isJunction_0 0 rfl rfl)
theorem dX0_isJunction_1 : decode cX0_isJunction 1 = .ok (.getfield 10, 3) := dk_180 0 10 (dk_at dksX0_isJunction_0 1 rfl rfl)
theorem dX0_isJunction_4 : decode cX0_isJunction 4 = .ok (.getfield 118, 3) := dk_180 0 118 (dk_at dksX0_isJunction_0 4 rfl rfl)
theorem dX0_isJunction_7 : decode cX0_isJunction 7 = .ok (.ifCond .le 7, 3) := dk_158 0 7 (dk_at dksX0_isJunction_0 7 rfl rfl)
theorem dX0_isJunction_10 : decode cX0_isJunction 10 = .ok (.iconst 1, 1) := dk_4 (dk_at dksX0_isJunction_0 10 rfl rfl)
theorem dX0_isJunction_11 : decode cX0_isJunction 11 = .ok (.goto 4, 3) := dk_167 0 4 (dk_at dksX0_isJunction_0 11 rfl rfl)
theorem dX0_isJunction_14 : decode cX0_isJunction 14 = .ok (.iconst 0, 1) := dk_3 (dk_at dksX0_isJunction_0 14 rfl rfl)
theorem dX0_isJunction_15 : decode cX0_isJunction 15 = .ok (.ireturn, 1) := dk_172 (dk_at dksX0_isJunction_0 15 rfl rfl)
abbrev cX0_keeps : ByteArray := prog_1_method_25_code
def yX0_keeps : MethodName := ⟨RX0, "keeps", "()V"⟩
def dkwX0_keeps_1 : List UInt8 := [16, 20, 112, 181, 1, 19, 42, 16, 20, 42, 180, 0, 153, 4, 96, 184, 1, 2, 181, 0, 153, 177]
abbrev dktX0_keeps_1 : List UInt8 := dkwX0_keeps_1 ++ []
def dkwX0_keeps_0 : List UInt8 := [42, 180, 0, 84, 42, 180, 1, 19, 50, 42, 180, 0, 19, 182, 1, 22, 42, 42, 180, 1, 19, 4, 96]
abbrev dktX0_keeps_0 : List UInt8 := dkwX0_keeps_0 ++ dktX0_keeps_1
theorem dksX0_keeps_0 : cX0_keeps.data.toList.drop 0 = dktX0_keeps_0 := by decide +kernel
theorem dksX0_keeps_1 : cX0_keeps.data.toList.drop 23 = dktX0_keeps_1 := dk_seg dksX0_keeps_0 23 rfl rfl
theorem dX0_keeps_0 : decode cX0_keeps 0 = .ok (.aload_n 0, 1) := dk_42 (dk_at dksX0_keeps_0 0 rfl rfl)
theorem dX0_keeps_1 : decode cX0_keeps 1 = .ok (.getfield 84, 3) := dk_180 0 84 (dk_at dksX0_keeps_0 1 rfl rfl)
theorem dX0_keeps_4 : decode cX0_keeps 4 = .ok (.aload_n 0, 1) := dk_42 (dk_at dksX0_keeps_0 4 rfl rfl)
theorem dX0_keeps_5 : decode cX0_keeps 5 = .ok (.getfield 275, 3) := dk_180 1 19 (dk_at dksX0_keeps_0 5 rfl rfl)
theorem dX0_keeps_8 : decode cX0_keeps 8 = .ok (.aaload, 1) := dk_50 (dk_at dksX0_keeps_0 8 rfl rfl)
theorem dX0_keeps_9 : decode cX0_keeps 9 = .ok (.aload_n 0, 1) := dk_42 (dk_at dksX0_keeps_0 9 rfl rfl)
theorem dX0_keeps_10 : decode cX0_keeps 10 = .ok (.getfield 19, 3) := dk_180 0 19 (dk_at dksX0_keeps_0 10 rfl rfl)
theorem dX0_keeps_13 : decode cX0_keeps 13 = .ok (.invokevirtual 278, 3) := dk_182 1 22 (dk_at dksX0_keeps_0 13 rfl rfl)
theorem dX0_keeps_16 : decode cX0_keeps 16 = .ok (.aload_n 0, 1) := dk_42 (dk_at dksX0_keeps_0 16 rfl rfl)
theorem dX0_keeps_17 : decode cX0_keeps 17 = .ok (.aload_n 0, 1) := dk_42 (dk_at dksX0_keeps_0 17 rfl rfl)
theorem dX0_keeps_18 : decode cX0_keeps 18 = .ok (.getfield 275, 3) := dk_180 1 19 (dk_at dksX0_keeps_0 18 rfl rfl)
theorem dX0_keeps_21 : decode cX0_keeps 21 = .ok (.iconst 1, 1) := dk_4 (dk_at dksX0_keeps_0 21 rfl rfl)
theorem dX0_keeps_22 : decode cX0_keeps 22 = .ok (.iadd, 1) := dk_96 (dk_at dksX0_keeps_0 22 rfl rfl)
theorem dX0_keeps_23 : decode cX0_keeps 23 = .ok (.bipush 20, 2) := dk_16 20 (dk_at dksX0_keeps_1 0 rfl rfl)
theorem dX0_keeps_25 : decode cX0_keeps 25 = .ok (.irem, 1) := dk_112 (dk_at dksX0_keeps_1 2 rfl rfl)
theorem dX0_keeps_26 : decode cX0_keeps 26 = .ok (.putfield 275, 3) := dk_181 1 19 (dk_at dksX0_keeps_1 3 rfl rfl)
theorem dX0_keeps_29 : decode cX0_keeps 29 = .ok (.aload_n 0, 1) := dk_42 (dk_at dksX0_keeps_1 6 rfl rfl)
theorem dX0_keeps_30 : decode cX0_keeps 30 = .ok (.bipush 20, 2) := dk_16 20 (dk_at dksX0_keeps_1 7 rfl rfl)
theorem dX0_keeps_32 : decode cX0_keeps 32 = .ok (.aload_n 0, 1) := dk_42 (dk_at dksX0_keeps_1 9 rfl rfl)
theorem dX0_keeps_33 : decode cX0_keeps 33 = .ok (.getfield 153, 3) := dk_180 0 153 (dk_at dksX0_keeps_1 10 rfl rfl)
theorem dX0_keeps_36 : decode cX0_keeps 36 = .ok (.iconst 1, 1) := dk_4 (dk_at dksX0_keeps_1 13 rfl rfl)
theorem dX0_keeps_37 : decode cX0_keeps 37 = .ok (.iadd, 1) := dk_96 (dk_at dksX0_keeps_1 14 rfl rfl)
theorem dX0_keeps_38 : decode cX0_keeps 38 = .ok (.invokestatic 258, 3) := dk_184 1 2 (dk_at dksX0_keeps_1 15 rfl rfl)
theorem dX0_keeps_41 : decode cX0_keeps 41 = .ok (.putfield 153, 3) := dk_181 0 153 (dk_at dksX0_keeps_1 18 rfl rfl)
theorem dX0_keeps_44 : decode cX0_keeps 44 = .ok (.return_, 1) := dk_177 (dk_at dksX0_keeps_1 21 rfl rfl)
abbrev cX0_goesOn : ByteArray := prog_1_method_21_code
def yX0_goesOn : MethodName := ⟨RX0, "goesOn", "(LDutyBeats$State;)I"⟩
def dkwX0_goesOn_8 : List UInt8 := [180, 0, 10, 182, 1, 10, 28, 172]
abbrev dktX0_goesOn_8 : List UInt8 := dkwX0_goesOn_8 ++ []
def dkwX0_goesOn_7 : List UInt8 := [17, 39, 15, 43, 180, 0, 196, 43, 29, 182, 0, 219, 96, 184, 1, 2, 184, 1, 7, 181, 0, 196, 43, 42]
abbrev dktX0_goesOn_7 : List UInt8 := dkwX0_goesOn_7 ++ dktX0_goesOn_8
def dkwX0_goesOn_6 : List UInt8 := [153, 0, 14, 43, 180, 0, 255, 21, 4, 43, 180, 0, 199, 79, 132, 4, 1, 167, 255, 157, 43, 17, 216, 241]
abbrev dktX0_goesOn_6 : List UInt8 := dkwX0_goesOn_6 ++ dktX0_goesOn_7
def dkwX0_goesOn_5 : List UInt8 := [21, 4, 46, 158, 0, 10, 4, 21, 4, 120, 167, 0, 4, 3, 128, 62, 28, 21, 4, 184, 0, 202]
abbrev dktX0_goesOn_5 : List UInt8 := dkwX0_goesOn_5 ++ dktX0_goesOn_6
def dkwX0_goesOn_4 : List UInt8 := [180, 0, 248, 167, 0, 7, 42, 180, 0, 60, 182, 0, 251, 167, 0, 4, 3, 79, 29, 42, 180, 0, 77]
abbrev dktX0_goesOn_4 : List UInt8 := dkwX0_goesOn_4 ++ dktX0_goesOn_5
def dkwX0_goesOn_3 : List UInt8 := [21, 4, 184, 0, 202, 153, 0, 34, 43, 21, 4, 42, 180, 0, 60, 2, 160, 0, 13, 42, 180, 0, 10]
abbrev dktX0_goesOn_3 : List UInt8 := dkwX0_goesOn_3 ++ dktX0_goesOn_4
def dkwX0_goesOn_2 : List UInt8 := [43, 182, 0, 244, 61, 3, 62, 3, 54, 4, 21, 4, 16, 6, 162, 0, 98, 42, 180, 0, 77, 21, 4, 28]
abbrev dktX0_goesOn_2 : List UInt8 := dkwX0_goesOn_2 ++ dktX0_goesOn_3
def dkwX0_goesOn_1 : List UInt8 := [154, 0, 17, 28, 42, 180, 0, 63, 159, 0, 9, 43, 28, 4, 182, 0, 240, 132, 2, 1, 167, 255, 214, 42]
abbrev dktX0_goesOn_1 : List UInt8 := dkwX0_goesOn_1 ++ dktX0_goesOn_2
def dkwX0_goesOn_0 : List UInt8 := [3, 61, 28, 42, 180, 0, 10, 182, 0, 121, 162, 0, 37, 43, 180, 0, 199, 43, 180, 0, 171, 28, 46, 112]
abbrev dktX0_goesOn_0 : List UInt8 := dkwX0_goesOn_0 ++ dktX0_goesOn_1
theorem dksX0_goesOn_0 : cX0_goesOn.data.toList.drop 0 = dktX0_goesOn_0 := by decide +kernel
theorem dksX0_goesOn_1 : cX0_goesOn.data.toList.drop 24 = dktX0_goesOn_1 := dk_seg dksX0_goesOn_0 24 rfl rfl
theorem dksX0_goesOn_2 : cX0_goesOn.data.toList.drop 48 = dktX0_goesOn_2 := dk_seg dksX0_goesOn_1 24 rfl rfl
theorem dksX0_goesOn_3 : cX0_goesOn.data.toList.drop 72 = dktX0_goesOn_3 := dk_seg dksX0_goesOn_2 24 rfl rfl
theorem dksX0_goesOn_4 : cX0_goesOn.data.toList.drop 95 = dktX0_goesOn_4 := dk_seg dksX0_goesOn_3 23 rfl rfl
theorem dksX0_goesOn_5 : cX0_goesOn.data.toList.drop 118 = dktX0_goesOn_5 := dk_seg dksX0_goesOn_4 23 rfl rfl
theorem dksX0_goesOn_6 : cX0_goesOn.data.toList.drop 140 = dktX0_goesOn_6 := dk_seg dksX0_goesOn_5 22 rfl rfl
theorem dksX0_goesOn_7 : cX0_goesOn.data.toList.drop 164 = dktX0_goesOn_7 := dk_seg dksX0_goesOn_6 24 rfl rfl
theorem dksX0_goesOn_8 : cX0_goesOn.data.toList.drop 188 = dktX0_goesOn_8 := dk_seg dksX0_goesOn_7 24 rfl rfl
theorem dX0_goesOn_0 : decode cX0_goesOn 0 = .ok (.iconst 0, 1) := dk_3 (dk_at dksX0_goesOn_0 0 rfl rfl)
theorem dX0_goesOn_1 : decode cX0_goesOn 1 = .ok (.istore_n 2, 1) := dk_61 (dk_at dksX0_goesOn_0 1 rfl rfl)
theorem dX0_goesOn_2 : decode cX0_goesOn 2 = .ok (.iload_n 2, 1) := dk_28 (dk_at dksX0_goesOn_0 2 rfl rfl)
theorem dX0_goesOn_3 : decode cX0_goesOn 3 = .ok (.aload_n 0, 1) := dk_42 (dk_at dksX0_goesOn_0 3 rfl rfl)
theorem dX0_goesOn_4 : decode cX0_goesOn 4 = .ok (.getfield 10, 3) := dk_180 0 10 (dk_at dksX0_goesOn_0 4 rfl rfl)
theorem dX0_goesOn_7 : decode cX0_goesOn 7 = .ok (.invokevirtual 121, 3) := dk_182 0 121 (dk_at dksX0_goesOn_0 7 rfl rfl)
theorem dX0_goesOn_10 : decode cX0_goesOn 10 = .ok (.if_icmp .ge 37, 3) := dk_162 0 37 (dk_at dksX0_goesOn_0 10 rfl rfl)
theorem dX0_goesOn_13 : decode cX0_goesOn 13 = .ok (.aload_n 1, 1) := dk_43 (dk_at dksX0_goesOn_0 13 rfl rfl)
theorem dX0_goesOn_14 : decode cX0_goesOn 14 = .ok (.getfield 199, 3) := dk_180 0 199 (dk_at dksX0_goesOn_0 14 rfl rfl)
theorem dX0_goesOn_17 : decode cX0_goesOn 17 = .ok (.aload_n 1, 1) := dk_43 (dk_at dksX0_goesOn_0 17 rfl rfl)
theorem dX0_goesOn_18 : decode cX0_goesOn 18 = .ok (.getfield 171, 3) := dk_180 0 171 (dk_at dksX0_goesOn_0 18 rfl rfl)
theorem dX0_goesOn_21 : decode cX0_goesOn 21 = .ok (.iload_n 2, 1) := dk_28 (dk_at dksX0_goesOn_0 21 rfl rfl)
theorem dX0_goesOn_22 : decode cX0_goesOn 22 = .ok (.iaload, 1) := dk_46 (dk_at dksX0_goesOn_0 22 rfl rfl)
theorem dX0_goesOn_23 : decode cX0_goesOn 23 = .ok (.irem, 1) := dk_112 (dk_at dksX0_goesOn_0 23 rfl rfl)
theorem dX0_goesOn_24 : decode cX0_goesOn 24 = .ok (.ifCond .ne 17, 3) := dk_154 0 17 (dk_at dksX0_goesOn_1 0 rfl rfl)
theorem dX0_goesOn_27 : decode cX0_goesOn 27 = .ok (.iload_n 2, 1) := dk_28 (dk_at dksX0_goesOn_1 3 rfl rfl)
theorem dX0_goesOn_28 : decode cX0_goesOn 28 = .ok (.aload_n 0, 1) := dk_42 (dk_at dksX0_goesOn_1 4 rfl rfl)
theorem dX0_goesOn_29 : decode cX0_goesOn 29 = .ok (.getfield 63, 3) := dk_180 0 63 (dk_at dksX0_goesOn_1 5 rfl rfl)
theorem dX0_goesOn_32 : decode cX0_goesOn 32 = .ok (.if_icmp .eq 9, 3) := dk_159 0 9 (dk_at dksX0_goesOn_1 8 rfl rfl)
theorem dX0_goesOn_35 : decode cX0_goesOn 35 = .ok (.aload_n 1, 1) := dk_43 (dk_at dksX0_goesOn_1 11 rfl rfl)
theorem dX0_goesOn_36 : decode cX0_goesOn 36 = .ok (.iload_n 2, 1) := dk_28 (dk_at dksX0_goesOn_1 12 rfl rfl)
theorem dX0_goesOn_37 : decode cX0_goesOn 37 = .ok (.iconst 1, 1) := dk_4 (dk_at dksX0_goesOn_1 13 rfl rfl)
theorem dX0_goesOn_38 : decode cX0_goesOn 38 = .ok (.invokevirtual 240, 3) := dk_182 0 240 (dk_at dksX0_goesOn_1 14 rfl rfl)
theorem dX0_goesOn_41 : decode cX0_goesOn 41 = .ok (.iinc 2 1, 3) := dk_132 2 1 (dk_at dksX0_goesOn_1 17 rfl rfl)
theorem dX0_goesOn_44 : decode cX0_goesOn 44 = .ok (.goto (-42), 3) := dk_167 255 214 (dk_at dksX0_goesOn_1 20 rfl rfl)
theorem dX0_goesOn_47 : decode cX0_goesOn 47 = .ok (.aload_n 0, 1) := dk_42 (dk_at dksX0_goesOn_1 23 rfl rfl)
theorem dX0_goesOn_48 : decode cX0_goesOn 48 = .ok (.aload_n 1, 1) := dk_43 (dk_at dksX0_goesOn_2 0 rfl rfl)
theorem dX0_goesOn_49 : decode cX0_goesOn 49 = .ok (.invokevirtual 244, 3) := dk_182 0 244 (dk_at dksX0_goesOn_2 1 rfl rfl)
theorem dX0_goesOn_52 : decode cX0_goesOn 52 = .ok (.istore_n 2, 1) := dk_61 (dk_at dksX0_goesOn_2 4 rfl rfl)
theorem dX0_goesOn_53 : decode cX0_goesOn 53 = .ok (.iconst 0, 1) := dk_3 (dk_at dksX0_goesOn_2 5 rfl rfl)
theorem dX0_goesOn_54 : decode cX0_goesOn 54 = .ok (.istore_n 3, 1) := dk_62 (dk_at dksX0_goesOn_2 6 rfl rfl)
theorem dX0_goesOn_55 : decode cX0_goesOn 55 = .ok (.iconst 0, 1) := dk_3 (dk_at dksX0_goesOn_2 7 rfl rfl)
theorem dX0_goesOn_56 : decode cX0_goesOn 56 = .ok (.istore 4, 2) := dk_54 4 (dk_at dksX0_goesOn_2 8 rfl rfl)
theorem dX0_goesOn_58 : decode cX0_goesOn 58 = .ok (.iload 4, 2) := dk_21 4 (dk_at dksX0_goesOn_2 10 rfl rfl)
theorem dX0_goesOn_60 : decode cX0_goesOn 60 = .ok (.bipush 6, 2) := dk_16 6 (dk_at dksX0_goesOn_2 12 rfl rfl)
theorem dX0_goesOn_62 : decode cX0_goesOn 62 = .ok (.if_icmp .ge 98, 3) := dk_162 0 98 (dk_at dksX0_goesOn_2 14 rfl rfl)
theorem dX0_goesOn_65 : decode cX0_goesOn 65 = .ok (.aload_n 0, 1) := dk_42 (dk_at dksX0_goesOn_2 17 rfl rfl)
theorem dX0_goesOn_66 : decode cX0_goesOn 66 = .ok (.getfield 77, 3) := dk_180 0 77 (dk_at dksX0_goesOn_2 18 rfl rfl)
theorem dX0_goesOn_69 : decode cX0_goesOn 69 = .ok (.iload 4, 2) := dk_21 4 (dk_at dksX0_goesOn_2 21 rfl rfl)
theorem dX0_goesOn_71 : decode cX0_goesOn 71 = .ok (.iload_n 2, 1) := dk_28 (dk_at dksX0_goesOn_2 23 rfl rfl)
theorem dX0_goesOn_72 : decode cX0_goesOn 72 = .ok (.iload 4, 2) := dk_21 4 (dk_at dksX0_goesOn_3 0 rfl rfl)
theorem dX0_goesOn_74 : decode cX0_goesOn 74 = .ok (.invokestatic 202, 3) := dk_184 0 202 (dk_at dksX0_goesOn_3 2 rfl rfl)
theorem dX0_goesOn_77 : decode cX0_goesOn 77 = .ok (.ifCond .eq 34, 3) := dk_153 0 34 (dk_at dksX0_goesOn_3 5 rfl rfl)
theorem dX0_goesOn_80 : decode cX0_goesOn 80 = .ok (.aload_n 1, 1) := dk_43 (dk_at dksX0_goesOn_3 8 rfl rfl)
theorem dX0_goesOn_81 : decode cX0_goesOn 81 = .ok (.iload 4, 2) := dk_21 4 (dk_at dksX0_goesOn_3 9 rfl rfl)
theorem dX0_goesOn_83 : decode cX0_goesOn 83 = .ok (.aload_n 0, 1) := dk_42 (dk_at dksX0_goesOn_3 11 rfl rfl)
theorem dX0_goesOn_84 : decode cX0_goesOn 84 = .ok (.getfield 60, 3) := dk_180 0 60 (dk_at dksX0_goesOn_3 12 rfl rfl)
theorem dX0_goesOn_87 : decode cX0_goesOn 87 = .ok (.iconst (-1), 1) := dk_2 (dk_at dksX0_goesOn_3 15 rfl rfl)
theorem dX0_goesOn_88 : decode cX0_goesOn 88 = .ok (.if_icmp .ne 13, 3) := dk_160 0 13 (dk_at dksX0_goesOn_3 16 rfl rfl)
theorem dX0_goesOn_91 : decode cX0_goesOn 91 = .ok (.aload_n 0, 1) := dk_42 (dk_at dksX0_goesOn_3 19 rfl rfl)
theorem dX0_goesOn_92 : decode cX0_goesOn 92 = .ok (.getfield 10, 3) := dk_180 0 10 (dk_at dksX0_goesOn_3 20 rfl rfl)
theorem dX0_goesOn_95 : decode cX0_goesOn 95 = .ok (.getfield 248, 3) := dk_180 0 248 (dk_at dksX0_goesOn_4 0 rfl rfl)
theorem dX0_goesOn_98 : decode cX0_goesOn 98 = .ok (.goto 7, 3) := dk_167 0 7 (dk_at dksX0_goesOn_4 3 rfl rfl)
theorem dX0_goesOn_101 : decode cX0_goesOn 101 = .ok (.aload_n 0, 1) := dk_42 (dk_at dksX0_goesOn_4 6 rfl rfl)
theorem dX0_goesOn_102 : decode cX0_goesOn 102 = .ok (.getfield 60, 3) := dk_180 0 60 (dk_at dksX0_goesOn_4 7 rfl rfl)
theorem dX0_goesOn_105 : decode cX0_goesOn 105 = .ok (.invokevirtual 251, 3) := dk_182 0 251 (dk_at dksX0_goesOn_4 10 rfl rfl)
theorem dX0_goesOn_108 : decode cX0_goesOn 108 = .ok (.goto 4, 3) := dk_167 0 4 (dk_at dksX0_goesOn_4 13 rfl rfl)
theorem dX0_goesOn_111 : decode cX0_goesOn 111 = .ok (.iconst 0, 1) := dk_3 (dk_at dksX0_goesOn_4 16 rfl rfl)
theorem dX0_goesOn_112 : decode cX0_goesOn 112 = .ok (.iastore, 1) := dk_79 (dk_at dksX0_goesOn_4 17 rfl rfl)
theorem dX0_goesOn_113 : decode cX0_goesOn 113 = .ok (.iload_n 3, 1) := dk_29 (dk_at dksX0_goesOn_4 18 rfl rfl)
theorem dX0_goesOn_114 : decode cX0_goesOn 114 = .ok (.aload_n 0, 1) := dk_42 (dk_at dksX0_goesOn_4 19 rfl rfl)
theorem dX0_goesOn_115 : decode cX0_goesOn 115 = .ok (.getfield 77, 3) := dk_180 0 77 (dk_at dksX0_goesOn_4 20 rfl rfl)
theorem dX0_goesOn_118 : decode cX0_goesOn 118 = .ok (.iload 4, 2) := dk_21 4 (dk_at dksX0_goesOn_5 0 rfl rfl)
theorem dX0_goesOn_120 : decode cX0_goesOn 120 = .ok (.iaload, 1) := dk_46 (dk_at dksX0_goesOn_5 2 rfl rfl)
theorem dX0_goesOn_121 : decode cX0_goesOn 121 = .ok (.ifCond .le 10, 3) := dk_158 0 10 (dk_at dksX0_goesOn_5 3 rfl rfl)
theorem dX0_goesOn_124 : decode cX0_goesOn 124 = .ok (.iconst 1, 1) := dk_4 (dk_at dksX0_goesOn_5 6 rfl rfl)
theorem dX0_goesOn_125 : decode cX0_goesOn 125 = .ok (.iload 4, 2) := dk_21 4 (dk_at dksX0_goesOn_5 7 rfl rfl)
theorem dX0_goesOn_127 : decode cX0_goesOn 127 = .ok (.ishl, 1) := dk_120 (dk_at dksX0_goesOn_5 9 rfl rfl)
theorem dX0_goesOn_128 : decode cX0_goesOn 128 = .ok (.goto 4, 3) := dk_167 0 4 (dk_at dksX0_goesOn_5 10 rfl rfl)
theorem dX0_goesOn_131 : decode cX0_goesOn 131 = .ok (.iconst 0, 1) := dk_3 (dk_at dksX0_goesOn_5 13 rfl rfl)
theorem dX0_goesOn_132 : decode cX0_goesOn 132 = .ok (.ior, 1) := dk_128 (dk_at dksX0_goesOn_5 14 rfl rfl)
theorem dX0_goesOn_133 : decode cX0_goesOn 133 = .ok (.istore_n 3, 1) := dk_62 (dk_at dksX0_goesOn_5 15 rfl rfl)
theorem dX0_goesOn_134 : decode cX0_goesOn 134 = .ok (.iload_n 2, 1) := dk_28 (dk_at dksX0_goesOn_5 16 rfl rfl)
theorem dX0_goesOn_135 : decode cX0_goesOn 135 = .ok (.iload 4, 2) := dk_21 4 (dk_at dksX0_goesOn_5 17 rfl rfl)
theorem dX0_goesOn_137 : decode cX0_goesOn 137 = .ok (.invokestatic 202, 3) := dk_184 0 202 (dk_at dksX0_goesOn_5 19 rfl rfl)
theorem dX0_goesOn_140 : decode cX0_goesOn 140 = .ok (.ifCond .eq 14, 3) := dk_153 0 14 (dk_at dksX0_goesOn_6 0 rfl rfl)
theorem dX0_goesOn_143 : decode cX0_goesOn 143 = .ok (.aload_n 1, 1) := dk_43 (dk_at dksX0_goesOn_6 3 rfl rfl)
theorem dX0_goesOn_144 : decode cX0_goesOn 144 = .ok (.getfield 255, 3) := dk_180 0 255 (dk_at dksX0_goesOn_6 4 rfl rfl)
theorem dX0_goesOn_147 : decode cX0_goesOn 147 = .ok (.iload 4, 2) := dk_21 4 (dk_at dksX0_goesOn_6 7 rfl rfl)
theorem dX0_goesOn_149 : decode cX0_goesOn 149 = .ok (.aload_n 1, 1) := dk_43 (dk_at dksX0_goesOn_6 9 rfl rfl)
theorem dX0_goesOn_150 : decode cX0_goesOn 150 = .ok (.getfield 199, 3) := dk_180 0 199 (dk_at dksX0_goesOn_6 10 rfl rfl)
theorem dX0_goesOn_153 : decode cX0_goesOn 153 = .ok (.iastore, 1) := dk_79 (dk_at dksX0_goesOn_6 13 rfl rfl)
theorem dX0_goesOn_154 : decode cX0_goesOn 154 = .ok (.iinc 4 1, 3) := dk_132 4 1 (dk_at dksX0_goesOn_6 14 rfl rfl)
theorem dX0_goesOn_157 : decode cX0_goesOn 157 = .ok (.goto (-99), 3) := dk_167 255 157 (dk_at dksX0_goesOn_6 17 rfl rfl)
theorem dX0_goesOn_160 : decode cX0_goesOn 160 = .ok (.aload_n 1, 1) := dk_43 (dk_at dksX0_goesOn_6 20 rfl rfl)
theorem dX0_goesOn_161 : decode cX0_goesOn 161 = .ok (.sipush (-9999), 3) := dk_17 216 241 (dk_at dksX0_goesOn_6 21 rfl rfl)
theorem dX0_goesOn_164 : decode cX0_goesOn 164 = .ok (.sipush 9999, 3) := dk_17 39 15 (dk_at dksX0_goesOn_7 0 rfl rfl)
theorem dX0_goesOn_167 : decode cX0_goesOn 167 = .ok (.aload_n 1, 1) := dk_43 (dk_at dksX0_goesOn_7 3 rfl rfl)
theorem dX0_goesOn_168 : decode cX0_goesOn 168 = .ok (.getfield 196, 3) := dk_180 0 196 (dk_at dksX0_goesOn_7 4 rfl rfl)
theorem dX0_goesOn_171 : decode cX0_goesOn 171 = .ok (.aload_n 1, 1) := dk_43 (dk_at dksX0_goesOn_7 7 rfl rfl)
theorem dX0_goesOn_172 : decode cX0_goesOn 172 = .ok (.iload_n 3, 1) := dk_29 (dk_at dksX0_goesOn_7 8 rfl rfl)
theorem dX0_goesOn_173 : decode cX0_goesOn 173 = .ok (.invokevirtual 219, 3) := dk_182 0 219 (dk_at dksX0_goesOn_7 9 rfl rfl)
theorem dX0_goesOn_176 : decode cX0_goesOn 176 = .ok (.iadd, 1) := dk_96 (dk_at dksX0_goesOn_7 12 rfl rfl)
theorem dX0_goesOn_177 : decode cX0_goesOn 177 = .ok (.invokestatic 258, 3) := dk_184 1 2 (dk_at dksX0_goesOn_7 13 rfl rfl)
theorem dX0_goesOn_180 : decode cX0_goesOn 180 = .ok (.invokestatic 263, 3) := dk_184 1 7 (dk_at dksX0_goesOn_7 16 rfl rfl)
theorem dX0_goesOn_183 : decode cX0_goesOn 183 = .ok (.putfield 196, 3) := dk_181 0 196 (dk_at dksX0_goesOn_7 19 rfl rfl)
theorem dX0_goesOn_186 : decode cX0_goesOn 186 = .ok (.aload_n 1, 1) := dk_43 (dk_at dksX0_goesOn_7 22 rfl rfl)
theorem dX0_goesOn_187 : decode cX0_goesOn 187 = .ok (.aload_n 0, 1) := dk_42 (dk_at dksX0_goesOn_7 23 rfl rfl)
theorem dX0_goesOn_188 : decode cX0_goesOn 188 = .ok (.getfield 10, 3) := dk_180 0 10 (dk_at dksX0_goesOn_8 0 rfl rfl)
theorem dX0_goesOn_191 : decode cX0_goesOn 191 = .ok (.invokevirtual 266, 3) := dk_182 1 10 (dk_at dksX0_goesOn_8 3 rfl rfl)
theorem dX0_goesOn_194 : decode cX0_goesOn 194 = .ok (.iload_n 2, 1) := dk_28 (dk_at dksX0_goesOn_8 6 rfl rfl)
theorem dX0_goesOn_195 : decode cX0_goesOn 195 = .ok (.ireturn, 1) := dk_172 (dk_at dksX0_goesOn_8 7 rfl rfl)
abbrev cX0_letsIn : ByteArray := prog_1_method_20_code
def yX0_letsIn : MethodName := ⟨RX0, "letsIn", "(LDutyBeats$State;)I"⟩
def dkwX0_letsIn_2 : List UInt8 := [182, 0, 236, 153, 0, 9, 28, 4, 29, 120, 128, 61, 132, 3, 1, 167, 255, 212, 28, 172]
abbrev dktX0_letsIn_2 : List UInt8 := dkwX0_letsIn_2 ++ []
def dkwX0_letsIn_1 : List UInt8 := [182, 0, 121, 162, 0, 39, 42, 180, 0, 10, 180, 0, 177, 29, 46, 28, 126, 154, 0, 19, 42, 43, 29, 28]
abbrev dktX0_letsIn_1 : List UInt8 := dkwX0_letsIn_1 ++ dktX0_letsIn_2
def dkwX0_letsIn_0 : List UInt8 := [42, 180, 0, 66, 2, 159, 0, 8, 42, 180, 0, 66, 172, 3, 61, 3, 62, 29, 42, 180, 0, 10]
abbrev dktX0_letsIn_0 : List UInt8 := dkwX0_letsIn_0 ++ dktX0_letsIn_1
theorem dksX0_letsIn_0 : cX0_letsIn.data.toList.drop 0 = dktX0_letsIn_0 := by decide +kernel
theorem dksX0_letsIn_1 : cX0_letsIn.data.toList.drop 22 = dktX0_letsIn_1 := dk_seg dksX0_letsIn_0 22 rfl rfl
theorem dksX0_letsIn_2 : cX0_letsIn.data.toList.drop 46 = dktX0_letsIn_2 := dk_seg dksX0_letsIn_1 24 rfl rfl
theorem dX0_letsIn_0 : decode cX0_letsIn 0 = .ok (.aload_n 0, 1) := dk_42 (dk_at dksX0_letsIn_0 0 rfl rfl)
theorem dX0_letsIn_1 : decode cX0_letsIn 1 = .ok (.getfield 66, 3) := dk_180 0 66 (dk_at dksX0_letsIn_0 1 rfl rfl)
theorem dX0_letsIn_4 : decode cX0_letsIn 4 = .ok (.iconst (-1), 1) := dk_2 (dk_at dksX0_letsIn_0 4 rfl rfl)
theorem dX0_letsIn_5 : decode cX0_letsIn 5 = .ok (.if_icmp .eq 8, 3) := dk_159 0 8 (dk_at dksX0_letsIn_0 5 rfl rfl)
theorem dX0_letsIn_8 : decode cX0_letsIn 8 = .ok (.aload_n 0, 1) := dk_42 (dk_at dksX0_letsIn_0 8 rfl rfl)
theorem dX0_letsIn_9 : decode cX0_letsIn 9 = .ok (.getfield 66, 3) := dk_180 0 66 (dk_at dksX0_letsIn_0 9 rfl rfl)
theorem dX0_letsIn_12 : decode cX0_letsIn 12 = .ok (.ireturn, 1) := dk_172 (dk_at dksX0_letsIn_0 12 rfl rfl)
theorem dX0_letsIn_13 : decode cX0_letsIn 13 = .ok (.iconst 0, 1) := dk_3 (dk_at dksX0_letsIn_0 13 rfl rfl)
theorem dX0_letsIn_14 : decode cX0_letsIn 14 = .ok (.istore_n 2, 1) := dk_61 (dk_at dksX0_letsIn_0 14 rfl rfl)
theorem dX0_letsIn_15 : decode cX0_letsIn 15 = .ok (.iconst 0, 1) := dk_3 (dk_at dksX0_letsIn_0 15 rfl rfl)
theorem dX0_letsIn_16 : decode cX0_letsIn 16 = .ok (.istore_n 3, 1) := dk_62 (dk_at dksX0_letsIn_0 16 rfl rfl)
theorem dX0_letsIn_17 : decode cX0_letsIn 17 = .ok (.iload_n 3, 1) := dk_29 (dk_at dksX0_letsIn_0 17 rfl rfl)
theorem dX0_letsIn_18 : decode cX0_letsIn 18 = .ok (.aload_n 0, 1) := dk_42 (dk_at dksX0_letsIn_0 18 rfl rfl)
theorem dX0_letsIn_19 : decode cX0_letsIn 19 = .ok (.getfield 10, 3) := dk_180 0 10 (dk_at dksX0_letsIn_0 19 rfl rfl)
theorem dX0_letsIn_22 : decode cX0_letsIn 22 = .ok (.invokevirtual 121, 3) := dk_182 0 121 (dk_at dksX0_letsIn_1 0 rfl rfl)
theorem dX0_letsIn_25 : decode cX0_letsIn 25 = .ok (.if_icmp .ge 39, 3) := dk_162 0 39 (dk_at dksX0_letsIn_1 3 rfl rfl)
theorem dX0_letsIn_28 : decode cX0_letsIn 28 = .ok (.aload_n 0, 1) := dk_42 (dk_at dksX0_letsIn_1 6 rfl rfl)
theorem dX0_letsIn_29 : decode cX0_letsIn 29 = .ok (.getfield 10, 3) := dk_180 0 10 (dk_at dksX0_letsIn_1 7 rfl rfl)
theorem dX0_letsIn_32 : decode cX0_letsIn 32 = .ok (.getfield 177, 3) := dk_180 0 177 (dk_at dksX0_letsIn_1 10 rfl rfl)
theorem dX0_letsIn_35 : decode cX0_letsIn 35 = .ok (.iload_n 3, 1) := dk_29 (dk_at dksX0_letsIn_1 13 rfl rfl)
theorem dX0_letsIn_36 : decode cX0_letsIn 36 = .ok (.iaload, 1) := dk_46 (dk_at dksX0_letsIn_1 14 rfl rfl)
theorem dX0_letsIn_37 : decode cX0_letsIn 37 = .ok (.iload_n 2, 1) := dk_28 (dk_at dksX0_letsIn_1 15 rfl rfl)
theorem dX0_letsIn_38 : decode cX0_letsIn 38 = .ok (.iand, 1) := dk_126 (dk_at dksX0_letsIn_1 16 rfl rfl)
theorem dX0_letsIn_39 : decode cX0_letsIn 39 = .ok (.ifCond .ne 19, 3) := dk_154 0 19 (dk_at dksX0_letsIn_1 17 rfl rfl)
theorem dX0_letsIn_42 : decode cX0_letsIn 42 = .ok (.aload_n 0, 1) := dk_42 (dk_at dksX0_letsIn_1 20 rfl rfl)
theorem dX0_letsIn_43 : decode cX0_letsIn 43 = .ok (.aload_n 1, 1) := dk_43 (dk_at dksX0_letsIn_1 21 rfl rfl)
theorem dX0_letsIn_44 : decode cX0_letsIn 44 = .ok (.iload_n 3, 1) := dk_29 (dk_at dksX0_letsIn_1 22 rfl rfl)
theorem dX0_letsIn_45 : decode cX0_letsIn 45 = .ok (.iload_n 2, 1) := dk_28 (dk_at dksX0_letsIn_1 23 rfl rfl)
theorem dX0_letsIn_46 : decode cX0_letsIn 46 = .ok (.invokevirtual 236, 3) := dk_182 0 236 (dk_at dksX0_letsIn_2 0 rfl rfl)
theorem dX0_letsIn_49 : decode cX0_letsIn 49 = .ok (.ifCond .eq 9, 3) := dk_153 0 9 (dk_at dksX0_letsIn_2 3 rfl rfl)
theorem dX0_letsIn_52 : decode cX0_letsIn 52 = .ok (.iload_n 2, 1) := dk_28 (dk_at dksX0_letsIn_2 6 rfl rfl)
theorem dX0_letsIn_53 : decode cX0_letsIn 53 = .ok (.iconst 1, 1) := dk_4 (dk_at dksX0_letsIn_2 7 rfl rfl)
theorem dX0_letsIn_54 : decode cX0_letsIn 54 = .ok (.iload_n 3, 1) := dk_29 (dk_at dksX0_letsIn_2 8 rfl rfl)
theorem dX0_letsIn_55 : decode cX0_letsIn 55 = .ok (.ishl, 1) := dk_120 (dk_at dksX0_letsIn_2 9 rfl rfl)
theorem dX0_letsIn_56 : decode cX0_letsIn 56 = .ok (.ior, 1) := dk_128 (dk_at dksX0_letsIn_2 10 rfl rfl)
theorem dX0_letsIn_57 : decode cX0_letsIn 57 = .ok (.istore_n 2, 1) := dk_61 (dk_at dksX0_letsIn_2 11 rfl rfl)
theorem dX0_letsIn_58 : decode cX0_letsIn 58 = .ok (.iinc 3 1, 3) := dk_132 3 1 (dk_at dksX0_letsIn_2 12 rfl rfl)
theorem dX0_letsIn_61 : decode cX0_letsIn 61 = .ok (.goto (-44), 3) := dk_167 255 212 (dk_at dksX0_letsIn_2 15 rfl rfl)
theorem dX0_letsIn_64 : decode cX0_letsIn 64 = .ok (.iload_n 2, 1) := dk_28 (dk_at dksX0_letsIn_2 18 rfl rfl)
theorem dX0_letsIn_65 : decode cX0_letsIn 65 = .ok (.ireturn, 1) := dk_172 (dk_at dksX0_letsIn_2 19 rfl rfl)
abbrev cX0_isWanted : ByteArray := prog_1_method_19_code
def yX0_isWanted : MethodName := ⟨RX0, "isWanted", "(LDutyBeats$State;II)Z"⟩
def dkwX0_isWanted_9 : List UInt8 := [182, 0, 232, 172]
abbrev dktX0_isWanted_9 : List UInt8 := dkwX0_isWanted_9 ++ []
def dkwX0_isWanted_8 : List UInt8 := [180, 0, 118, 108, 133, 80, 42, 180, 0, 31, 42, 180, 0, 35, 182, 0, 226, 192, 0, 230, 42, 180, 0, 73]
abbrev dktX0_isWanted_8 : List UInt8 := dkwX0_isWanted_8 ++ dktX0_isWanted_9
def dkwX0_isWanted_7 : List UInt8 := [42, 180, 0, 10, 180, 0, 118, 112, 133, 80, 42, 180, 0, 73, 16, 11, 43, 180, 0, 199, 42, 180, 0, 10]
abbrev dktX0_isWanted_7 : List UInt8 := dkwX0_isWanted_7 ++ dktX0_isWanted_8
def dkwX0_isWanted_6 : List UInt8 := [180, 0, 73, 16, 9, 43, 180, 0, 168, 184, 0, 222, 133, 80, 42, 180, 0, 73, 16, 10, 43, 180, 0, 199]
abbrev dktX0_isWanted_6 : List UInt8 := dkwX0_isWanted_6 ++ dktX0_isWanted_7
def dkwX0_isWanted_5 : List UInt8 := [16, 7, 43, 28, 182, 0, 186, 133, 80, 42, 180, 0, 73, 16, 8, 43, 180, 0, 180, 28, 46, 133, 80, 42]
abbrev dktX0_isWanted_5 : List UInt8 := dkwX0_isWanted_5 ++ dktX0_isWanted_6
def dkwX0_isWanted_4 : List UInt8 := [16, 6, 43, 29, 4, 28, 120, 128, 182, 0, 219, 43, 29, 182, 0, 219, 100, 133, 80, 42, 180, 0, 73]
abbrev dktX0_isWanted_4 : List UInt8 := dkwX0_isWanted_4 ++ dktX0_isWanted_5
def dkwX0_isWanted_3 : List UInt8 := [182, 0, 206, 184, 0, 210, 133, 80, 42, 180, 0, 73, 8, 29, 184, 0, 214, 133, 80, 42, 180, 0, 73]
abbrev dktX0_isWanted_3 : List UInt8 := dkwX0_isWanted_3 ++ dktX0_isWanted_4
def dkwX0_isWanted_2 : List UInt8 := [80, 42, 180, 0, 73, 6, 43, 180, 0, 174, 28, 46, 133, 80, 42, 180, 0, 73, 7, 42, 43, 28]
abbrev dktX0_isWanted_2 : List UInt8 := dkwX0_isWanted_2 ++ dktX0_isWanted_3
def dkwX0_isWanted_1 : List UInt8 := [180, 0, 73, 4, 43, 180, 0, 168, 28, 46, 133, 80, 42, 180, 0, 73, 5, 43, 180, 0, 171, 28, 46, 133]
abbrev dktX0_isWanted_1 : List UInt8 := dkwX0_isWanted_1 ++ dktX0_isWanted_2
def dkwX0_isWanted_0 : List UInt8 := [42, 180, 0, 35, 2, 160, 0, 10, 42, 43, 28, 182, 0, 206, 172, 42, 180, 0, 73, 3, 28, 133, 80, 42]
abbrev dktX0_isWanted_0 : List UInt8 := dkwX0_isWanted_0 ++ dktX0_isWanted_1
theorem dksX0_isWanted_0 : cX0_isWanted.data.toList.drop 0 = dktX0_isWanted_0 := by decide +kernel
theorem dksX0_isWanted_1 : cX0_isWanted.data.toList.drop 24 = dktX0_isWanted_1 := dk_seg dksX0_isWanted_0 24 rfl rfl
theorem dksX0_isWanted_2 : cX0_isWanted.data.toList.drop 48 = dktX0_isWanted_2 := dk_seg dksX0_isWanted_1 24 rfl rfl
theorem dksX0_isWanted_3 : cX0_isWanted.data.toList.drop 70 = dktX0_isWanted_3 := dk_seg dksX0_isWanted_2 22 rfl rfl
theorem dksX0_isWanted_4 : cX0_isWanted.data.toList.drop 93 = dktX0_isWanted_4 := dk_seg dksX0_isWanted_3 23 rfl rfl
theorem dksX0_isWanted_5 : cX0_isWanted.data.toList.drop 116 = dktX0_isWanted_5 := dk_seg dksX0_isWanted_4 23 rfl rfl
theorem dksX0_isWanted_6 : cX0_isWanted.data.toList.drop 140 = dktX0_isWanted_6 := dk_seg dksX0_isWanted_5 24 rfl rfl
theorem dksX0_isWanted_7 : cX0_isWanted.data.toList.drop 164 = dktX0_isWanted_7 := dk_seg dksX0_isWanted_6 24 rfl rfl
theorem dksX0_isWanted_8 : cX0_isWanted.data.toList.drop 188 = dktX0_isWanted_8 := dk_seg dksX0_isWanted_7 24 rfl rfl
theorem dksX0_isWanted_9 : cX0_isWanted.data.toList.drop 212 = dktX0_isWanted_9 := dk_seg dksX0_isWanted_8 24 rfl rfl
theorem dX0_isWanted_0 : decode cX0_isWanted 0 = .ok (.aload_n 0, 1) := dk_42 (dk_at dksX0_isWanted_0 0 rfl rfl)
theorem dX0_isWanted_1 : decode cX0_isWanted 1 = .ok (.getfield 35, 3) := dk_180 0 35 (dk_at dksX0_isWanted_0 1 rfl rfl)
theorem dX0_isWanted_4 : decode cX0_isWanted 4 = .ok (.iconst (-1), 1) := dk_2 (dk_at dksX0_isWanted_0 4 rfl rfl)
theorem dX0_isWanted_5 : decode cX0_isWanted 5 = .ok (.if_icmp .ne 10, 3) := dk_160 0 10 (dk_at dksX0_isWanted_0 5 rfl rfl)
theorem dX0_isWanted_8 : decode cX0_isWanted 8 = .ok (.aload_n 0, 1) := dk_42 (dk_at dksX0_isWanted_0 8 rfl rfl)
theorem dX0_isWanted_9 : decode cX0_isWanted 9 = .ok (.aload_n 1, 1) := dk_43 (dk_at dksX0_isWanted_0 9 rfl rfl)
theorem dX0_isWanted_10 : decode cX0_isWanted 10 = .ok (.iload_n 2, 1) := dk_28 (dk_at dksX0_isWanted_0 10 rfl rfl)
theorem dX0_isWanted_11 : decode cX0_isWanted 11 = .ok (.invokevirtual 206, 3) := dk_182 0 206 (dk_at dksX0_isWanted_0 11 rfl rfl)
theorem dX0_isWanted_14 : decode cX0_isWanted 14 = .ok (.ireturn, 1) := dk_172 (dk_at dksX0_isWanted_0 14 rfl rfl)
theorem dX0_isWanted_15 : decode cX0_isWanted 15 = .ok (.aload_n 0, 1) := dk_42 (dk_at dksX0_isWanted_0 15 rfl rfl)
theorem dX0_isWanted_16 : decode cX0_isWanted 16 = .ok (.getfield 73, 3) := dk_180 0 73 (dk_at dksX0_isWanted_0 16 rfl rfl)
theorem dX0_isWanted_19 : decode cX0_isWanted 19 = .ok (.iconst 0, 1) := dk_3 (dk_at dksX0_isWanted_0 19 rfl rfl)
theorem dX0_isWanted_20 : decode cX0_isWanted 20 = .ok (.iload_n 2, 1) := dk_28 (dk_at dksX0_isWanted_0 20 rfl rfl)
theorem dX0_isWanted_21 : decode cX0_isWanted 21 = .ok (.i2l, 1) := dk_133 (dk_at dksX0_isWanted_0 21 rfl rfl)
theorem dX0_isWanted_22 : decode cX0_isWanted 22 = .ok (.lastore, 1) := dk_80 (dk_at dksX0_isWanted_0 22 rfl rfl)
theorem dX0_isWanted_23 : decode cX0_isWanted 23 = .ok (.aload_n 0, 1) := dk_42 (dk_at dksX0_isWanted_0 23 rfl rfl)
theorem dX0_isWanted_24 : decode cX0_isWanted 24 = .ok (.getfield 73, 3) := dk_180 0 73 (dk_at dksX0_isWanted_1 0 rfl rfl)
theorem dX0_isWanted_27 : decode cX0_isWanted 27 = .ok (.iconst 1, 1) := dk_4 (dk_at dksX0_isWanted_1 3 rfl rfl)
theorem dX0_isWanted_28 : decode cX0_isWanted 28 = .ok (.aload_n 1, 1) := dk_43 (dk_at dksX0_isWanted_1 4 rfl rfl)
theorem dX0_isWanted_29 : decode cX0_isWanted 29 = .ok (.getfield 168, 3) := dk_180 0 168 (dk_at dksX0_isWanted_1 5 rfl rfl)
theorem dX0_isWanted_32 : decode cX0_isWanted 32 = .ok (.iload_n 2, 1) := dk_28 (dk_at dksX0_isWanted_1 8 rfl rfl)
theorem dX0_isWanted_33 : decode cX0_isWanted 33 = .ok (.iaload, 1) := dk_46 (dk_at dksX0_isWanted_1 9 rfl rfl)
theorem dX0_isWanted_34 : decode cX0_isWanted 34 = .ok (.i2l, 1) := dk_133 (dk_at dksX0_isWanted_1 10 rfl rfl)
theorem dX0_isWanted_35 : decode cX0_isWanted 35 = .ok (.lastore, 1) := dk_80 (dk_at dksX0_isWanted_1 11 rfl rfl)
theorem dX0_isWanted_36 : decode cX0_isWanted 36 = .ok (.aload_n 0, 1) := dk_42 (dk_at dksX0_isWanted_1 12 rfl rfl)
theorem dX0_isWanted_37 : decode cX0_isWanted 37 = .ok (.getfield 73, 3) := dk_180 0 73 (dk_at dksX0_isWanted_1 13 rfl rfl)
theorem dX0_isWanted_40 : decode cX0_isWanted 40 = .ok (.iconst 2, 1) := dk_5 (dk_at dksX0_isWanted_1 16 rfl rfl)
theorem dX0_isWanted_41 : decode cX0_isWanted 41 = .ok (.aload_n 1, 1) := dk_43 (dk_at dksX0_isWanted_1 17 rfl rfl)
theorem dX0_isWanted_42 : decode cX0_isWanted 42 = .ok (.getfield 171, 3) := dk_180 0 171 (dk_at dksX0_isWanted_1 18 rfl rfl)
theorem dX0_isWanted_45 : decode cX0_isWanted 45 = .ok (.iload_n 2, 1) := dk_28 (dk_at dksX0_isWanted_1 21 rfl rfl)
theorem dX0_isWanted_46 : decode cX0_isWanted 46 = .ok (.iaload, 1) := dk_46 (dk_at dksX0_isWanted_1 22 rfl rfl)
theorem dX0_isWanted_47 : decode cX0_isWanted 47 = .ok (.i2l, 1) := dk_133 (dk_at dksX0_isWanted_1 23 rfl rfl)
theorem dX0_isWanted_48 : decode cX0_isWanted 48 = .ok (.lastore, 1) := dk_80 (dk_at dksX0_isWanted_2 0 rfl rfl)
theorem dX0_isWanted_49 : decode cX0_isWanted 49 = .ok (.aload_n 0, 1) := dk_42 (dk_at dksX0_isWanted_2 1 rfl rfl)
theorem dX0_isWanted_50 : decode cX0_isWanted 50 = .ok (.getfield 73, 3) := dk_180 0 73 (dk_at dksX0_isWanted_2 2 rfl rfl)
theorem dX0_isWanted_53 : decode cX0_isWanted 53 = .ok (.iconst 3, 1) := dk_6 (dk_at dksX0_isWanted_2 5 rfl rfl)
theorem dX0_isWanted_54 : decode cX0_isWanted 54 = .ok (.aload_n 1, 1) := dk_43 (dk_at dksX0_isWanted_2 6 rfl rfl)
theorem dX0_isWanted_55 : decode cX0_isWanted 55 = .ok (.getfield 174, 3) := dk_180 0 174 (dk_at dksX0_isWanted_2 7 rfl rfl)
theorem dX0_isWanted_58 : decode cX0_isWanted 58 = .ok (.iload_n 2, 1) := dk_28 (dk_at dksX0_isWanted_2 10 rfl rfl)
theorem dX0_isWanted_59 : decode cX0_isWanted 59 = .ok (.iaload, 1) := dk_46 (dk_at dksX0_isWanted_2 11 rfl rfl)
theorem dX0_isWanted_60 : decode cX0_isWanted 60 = .ok (.i2l, 1) := dk_133 (dk_at dksX0_isWanted_2 12 rfl rfl)
theorem dX0_isWanted_61 : decode cX0_isWanted 61 = .ok (.lastore, 1) := dk_80 (dk_at dksX0_isWanted_2 13 rfl rfl)
theorem dX0_isWanted_62 : decode cX0_isWanted 62 = .ok (.aload_n 0, 1) := dk_42 (dk_at dksX0_isWanted_2 14 rfl rfl)
theorem dX0_isWanted_63 : decode cX0_isWanted 63 = .ok (.getfield 73, 3) := dk_180 0 73 (dk_at dksX0_isWanted_2 15 rfl rfl)
theorem dX0_isWanted_66 : decode cX0_isWanted 66 = .ok (.iconst 4, 1) := dk_7 (dk_at dksX0_isWanted_2 18 rfl rfl)
theorem dX0_isWanted_67 : decode cX0_isWanted 67 = .ok (.aload_n 0, 1) := dk_42 (dk_at dksX0_isWanted_2 19 rfl rfl)
theorem dX0_isWanted_68 : decode cX0_isWanted 68 = .ok (.aload_n 1, 1) := dk_43 (dk_at dksX0_isWanted_2 20 rfl rfl)
theorem dX0_isWanted_69 : decode cX0_isWanted 69 = .ok (.iload_n 2, 1) := dk_28 (dk_at dksX0_isWanted_2 21 rfl rfl)
theorem dX0_isWanted_70 : decode cX0_isWanted 70 = .ok (.invokevirtual 206, 3) := dk_182 0 206 (dk_at dksX0_isWanted_3 0 rfl rfl)
theorem dX0_isWanted_73 : decode cX0_isWanted 73 = .ok (.invokestatic 210, 3) := dk_184 0 210 (dk_at dksX0_isWanted_3 3 rfl rfl)
theorem dX0_isWanted_76 : decode cX0_isWanted 76 = .ok (.i2l, 1) := dk_133 (dk_at dksX0_isWanted_3 6 rfl rfl)
theorem dX0_isWanted_77 : decode cX0_isWanted 77 = .ok (.lastore, 1) := dk_80 (dk_at dksX0_isWanted_3 7 rfl rfl)
theorem dX0_isWanted_78 : decode cX0_isWanted 78 = .ok (.aload_n 0, 1) := dk_42 (dk_at dksX0_isWanted_3 8 rfl rfl)
theorem dX0_isWanted_79 : decode cX0_isWanted 79 = .ok (.getfield 73, 3) := dk_180 0 73 (dk_at dksX0_isWanted_3 9 rfl rfl)
theorem dX0_isWanted_82 : decode cX0_isWanted 82 = .ok (.iconst 5, 1) := dk_8 (dk_at dksX0_isWanted_3 12 rfl rfl)
theorem dX0_isWanted_83 : decode cX0_isWanted 83 = .ok (.iload_n 3, 1) := dk_29 (dk_at dksX0_isWanted_3 13 rfl rfl)
theorem dX0_isWanted_84 : decode cX0_isWanted 84 = .ok (.invokestatic 214, 3) := dk_184 0 214 (dk_at dksX0_isWanted_3 14 rfl rfl)
theorem dX0_isWanted_87 : decode cX0_isWanted 87 = .ok (.i2l, 1) := dk_133 (dk_at dksX0_isWanted_3 17 rfl rfl)
theorem dX0_isWanted_88 : decode cX0_isWanted 88 = .ok (.lastore, 1) := dk_80 (dk_at dksX0_isWanted_3 18 rfl rfl)
theorem dX0_isWanted_89 : decode cX0_isWanted 89 = .ok (.aload_n 0, 1) := dk_42 (dk_at dksX0_isWanted_3 19 rfl rfl)
theorem dX0_isWanted_90 : decode cX0_isWanted 90 = .ok (.getfield 73, 3) := dk_180 0 73 (dk_at dksX0_isWanted_3 20 rfl rfl)
theorem dX0_isWanted_93 : decode cX0_isWanted 93 = .ok (.bipush 6, 2) := dk_16 6 (dk_at dksX0_isWanted_4 0 rfl rfl)
theorem dX0_isWanted_95 : decode cX0_isWanted 95 = .ok (.aload_n 1, 1) := dk_43 (dk_at dksX0_isWanted_4 2 rfl rfl)
theorem dX0_isWanted_96 : decode cX0_isWanted 96 = .ok (.iload_n 3, 1) := dk_29 (dk_at dksX0_isWanted_4 3 rfl rfl)
theorem dX0_isWanted_97 : decode cX0_isWanted 97 = .ok (.iconst 1, 1) := dk_4 (dk_at dksX0_isWanted_4 4 rfl rfl)
theorem dX0_isWanted_98 : decode cX0_isWanted 98 = .ok (.iload_n 2, 1) := dk_28 (dk_at dksX0_isWanted_4 5 rfl rfl)
theorem dX0_isWanted_99 : decode cX0_isWanted 99 = .ok (.ishl, 1) := dk_120 (dk_at dksX0_isWanted_4 6 rfl rfl)
theorem dX0_isWanted_100 : decode cX0_isWanted 100 = .ok (.ior, 1) := dk_128 (dk_at dksX0_isWanted_4 7 rfl rfl)
theorem dX0_isWanted_101 : decode cX0_isWanted 101 = .ok (.invokevirtual 219, 3) := dk_182 0 219 (dk_at dksX0_isWanted_4 8 rfl rfl)
theorem dX0_isWanted_104 : decode cX0_isWanted 104 = .ok (.aload_n 1, 1) := dk_43 (dk_at dksX0_isWanted_4 11 rfl rfl)
theorem dX0_isWanted_105 : decode cX0_isWanted 105 = .ok (.iload_n 3, 1) := dk_29 (dk_at dksX0_isWanted_4 12 rfl rfl)
theorem dX0_isWanted_106 : decode cX0_isWanted 106 = .ok (.invokevirtual 219, 3) := dk_182 0 219 (dk_at dksX0_isWanted_4 13 rfl rfl)
theorem dX0_isWanted_109 : decode cX0_isWanted 109 = .ok (.isub, 1) := dk_100 (dk_at dksX0_isWanted_4 16 rfl rfl)
theorem dX0_isWanted_110 : decode cX0_isWanted 110 = .ok (.i2l, 1) := dk_133 (dk_at dksX0_isWanted_4 17 rfl rfl)
theorem dX0_isWanted_111 : decode cX0_isWanted 111 = .ok (.lastore, 1) := dk_80 (dk_at dksX0_isWanted_4 18 rfl rfl)
theorem dX0_isWanted_112 : decode cX0_isWanted 112 = .ok (.aload_n 0, 1) := dk_42 (dk_at dksX0_isWanted_4 19 rfl rfl)
theorem dX0_isWanted_113 : decode cX0_isWanted 113 = .ok (.getfield 73, 3) := dk_180 0 73 (dk_at dksX0_isWanted_4 20 rfl rfl)
theorem dX0_isWanted_116 : decode cX0_isWanted 116 = .ok (.bipush 7, 2) := dk_16 7 (dk_at dksX0_isWanted_5 0 rfl rfl)
theorem dX0_isWanted_118 : decode cX0_isWanted 118 = .ok (.aload_n 1, 1) := dk_43 (dk_at dksX0_isWanted_5 2 rfl rfl)
theorem dX0_isWanted_119 : decode cX0_isWanted 119 = .ok (.iload_n 2, 1) := dk_28 (dk_at dksX0_isWanted_5 3 rfl rfl)
theorem dX0_isWanted_120 : decode cX0_isWanted 120 = .ok (.invokevirtual 186, 3) := dk_182 0 186 (dk_at dksX0_isWanted_5 4 rfl rfl)
theorem dX0_isWanted_123 : decode cX0_isWanted 123 = .ok (.i2l, 1) := dk_133 (dk_at dksX0_isWanted_5 7 rfl rfl)
theorem dX0_isWanted_124 : decode cX0_isWanted 124 = .ok (.lastore, 1) := dk_80 (dk_at dksX0_isWanted_5 8 rfl rfl)
theorem dX0_isWanted_125 : decode cX0_isWanted 125 = .ok (.aload_n 0, 1) := dk_42 (dk_at dksX0_isWanted_5 9 rfl rfl)
theorem dX0_isWanted_126 : decode cX0_isWanted 126 = .ok (.getfield 73, 3) := dk_180 0 73 (dk_at dksX0_isWanted_5 10 rfl rfl)
theorem dX0_isWanted_129 : decode cX0_isWanted 129 = .ok (.bipush 8, 2) := dk_16 8 (dk_at dksX0_isWanted_5 13 rfl rfl)
theorem dX0_isWanted_131 : decode cX0_isWanted 131 = .ok (.aload_n 1, 1) := dk_43 (dk_at dksX0_isWanted_5 15 rfl rfl)
theorem dX0_isWanted_132 : decode cX0_isWanted 132 = .ok (.getfield 180, 3) := dk_180 0 180 (dk_at dksX0_isWanted_5 16 rfl rfl)
theorem dX0_isWanted_135 : decode cX0_isWanted 135 = .ok (.iload_n 2, 1) := dk_28 (dk_at dksX0_isWanted_5 19 rfl rfl)
theorem dX0_isWanted_136 : decode cX0_isWanted 136 = .ok (.iaload, 1) := dk_46 (dk_at dksX0_isWanted_5 20 rfl rfl)
theorem dX0_isWanted_137 : decode cX0_isWanted 137 = .ok (.i2l, 1) := dk_133 (dk_at dksX0_isWanted_5 21 rfl rfl)
theorem dX0_isWanted_138 : decode cX0_isWanted 138 = .ok (.lastore, 1) := dk_80 (dk_at dksX0_isWanted_5 22 rfl rfl)
theorem dX0_isWanted_139 : decode cX0_isWanted 139 = .ok (.aload_n 0, 1) := dk_42 (dk_at dksX0_isWanted_5 23 rfl rfl)
theorem dX0_isWanted_140 : decode cX0_isWanted 140 = .ok (.getfield 73, 3) := dk_180 0 73 (dk_at dksX0_isWanted_6 0 rfl rfl)
theorem dX0_isWanted_143 : decode cX0_isWanted 143 = .ok (.bipush 9, 2) := dk_16 9 (dk_at dksX0_isWanted_6 3 rfl rfl)
theorem dX0_isWanted_145 : decode cX0_isWanted 145 = .ok (.aload_n 1, 1) := dk_43 (dk_at dksX0_isWanted_6 5 rfl rfl)
theorem dX0_isWanted_146 : decode cX0_isWanted 146 = .ok (.getfield 168, 3) := dk_180 0 168 (dk_at dksX0_isWanted_6 6 rfl rfl)
theorem dX0_isWanted_149 : decode cX0_isWanted 149 = .ok (.invokestatic 222, 3) := dk_184 0 222 (dk_at dksX0_isWanted_6 9 rfl rfl)
theorem dX0_isWanted_152 : decode cX0_isWanted 152 = .ok (.i2l, 1) := dk_133 (dk_at dksX0_isWanted_6 12 rfl rfl)
theorem dX0_isWanted_153 : decode cX0_isWanted 153 = .ok (.lastore, 1) := dk_80 (dk_at dksX0_isWanted_6 13 rfl rfl)
theorem dX0_isWanted_154 : decode cX0_isWanted 154 = .ok (.aload_n 0, 1) := dk_42 (dk_at dksX0_isWanted_6 14 rfl rfl)
theorem dX0_isWanted_155 : decode cX0_isWanted 155 = .ok (.getfield 73, 3) := dk_180 0 73 (dk_at dksX0_isWanted_6 15 rfl rfl)
theorem dX0_isWanted_158 : decode cX0_isWanted 158 = .ok (.bipush 10, 2) := dk_16 10 (dk_at dksX0_isWanted_6 18 rfl rfl)
theorem dX0_isWanted_160 : decode cX0_isWanted 160 = .ok (.aload_n 1, 1) := dk_43 (dk_at dksX0_isWanted_6 20 rfl rfl)
theorem dX0_isWanted_161 : decode cX0_isWanted 161 = .ok (.getfield 199, 3) := dk_180 0 199 (dk_at dksX0_isWanted_6 21 rfl rfl)
theorem dX0_isWanted_164 : decode cX0_isWanted 164 = .ok (.aload_n 0, 1) := dk_42 (dk_at dksX0_isWanted_7 0 rfl rfl)
theorem dX0_isWanted_165 : decode cX0_isWanted 165 = .ok (.getfield 10, 3) := dk_180 0 10 (dk_at dksX0_isWanted_7 1 rfl rfl)
theorem dX0_isWanted_168 : decode cX0_isWanted 168 = .ok (.getfield 118, 3) := dk_180 0 118 (dk_at dksX0_isWanted_7 4 rfl rfl)
theorem dX0_isWanted_171 : decode cX0_isWanted 171 = .ok (.irem, 1) := dk_112 (dk_at dksX0_isWanted_7 7 rfl rfl)
theorem dX0_isWanted_172 : decode cX0_isWanted 172 = .ok (.i2l, 1) := dk_133 (dk_at dksX0_isWanted_7 8 rfl rfl)
theorem dX0_isWanted_173 : decode cX0_isWanted 173 = .ok (.lastore, 1) := dk_80 (dk_at dksX0_isWanted_7 9 rfl rfl)
theorem dX0_isWanted_174 : decode cX0_isWanted 174 = .ok (.aload_n 0, 1) := dk_42 (dk_at dksX0_isWanted_7 10 rfl rfl)
theorem dX0_isWanted_175 : decode cX0_isWanted 175 = .ok (.getfield 73, 3) := dk_180 0 73 (dk_at dksX0_isWanted_7 11 rfl rfl)
theorem dX0_isWanted_178 : decode cX0_isWanted 178 = .ok (.bipush 11, 2) := dk_16 11 (dk_at dksX0_isWanted_7 14 rfl rfl)
theorem dX0_isWanted_180 : decode cX0_isWanted 180 = .ok (.aload_n 1, 1) := dk_43 (dk_at dksX0_isWanted_7 16 rfl rfl)
theorem dX0_isWanted_181 : decode cX0_isWanted 181 = .ok (.getfield 199, 3) := dk_180 0 199 (dk_at dksX0_isWanted_7 17 rfl rfl)
theorem dX0_isWanted_184 : decode cX0_isWanted 184 = .ok (.aload_n 0, 1) := dk_42 (dk_at dksX0_isWanted_7 20 rfl rfl)
theorem dX0_isWanted_185 : decode cX0_isWanted 185 = .ok (.getfield 10, 3) := dk_180 0 10 (dk_at dksX0_isWanted_7 21 rfl rfl)
theorem dX0_isWanted_188 : decode cX0_isWanted 188 = .ok (.getfield 118, 3) := dk_180 0 118 (dk_at dksX0_isWanted_8 0 rfl rfl)
theorem dX0_isWanted_191 : decode cX0_isWanted 191 = .ok (.idiv, 1) := dk_108 (dk_at dksX0_isWanted_8 3 rfl rfl)
theorem dX0_isWanted_192 : decode cX0_isWanted 192 = .ok (.i2l, 1) := dk_133 (dk_at dksX0_isWanted_8 4 rfl rfl)
theorem dX0_isWanted_193 : decode cX0_isWanted 193 = .ok (.lastore, 1) := dk_80 (dk_at dksX0_isWanted_8 5 rfl rfl)
theorem dX0_isWanted_194 : decode cX0_isWanted 194 = .ok (.aload_n 0, 1) := dk_42 (dk_at dksX0_isWanted_8 6 rfl rfl)
theorem dX0_isWanted_195 : decode cX0_isWanted 195 = .ok (.getfield 31, 3) := dk_180 0 31 (dk_at dksX0_isWanted_8 7 rfl rfl)
theorem dX0_isWanted_198 : decode cX0_isWanted 198 = .ok (.aload_n 0, 1) := dk_42 (dk_at dksX0_isWanted_8 10 rfl rfl)
theorem dX0_isWanted_199 : decode cX0_isWanted 199 = .ok (.getfield 35, 3) := dk_180 0 35 (dk_at dksX0_isWanted_8 11 rfl rfl)
theorem dX0_isWanted_202 : decode cX0_isWanted 202 = .ok (.invokevirtual 226, 3) := dk_182 0 226 (dk_at dksX0_isWanted_8 14 rfl rfl)
theorem dX0_isWanted_205 : decode cX0_isWanted 205 = .ok (.checkcast 230, 3) := dk_192 0 230 (dk_at dksX0_isWanted_8 17 rfl rfl)
theorem dX0_isWanted_208 : decode cX0_isWanted 208 = .ok (.aload_n 0, 1) := dk_42 (dk_at dksX0_isWanted_8 20 rfl rfl)
theorem dX0_isWanted_209 : decode cX0_isWanted 209 = .ok (.getfield 73, 3) := dk_180 0 73 (dk_at dksX0_isWanted_8 21 rfl rfl)
theorem dX0_isWanted_212 : decode cX0_isWanted 212 = .ok (.invokevirtual 232, 3) := dk_182 0 232 (dk_at dksX0_isWanted_9 0 rfl rfl)
theorem dX0_isWanted_215 : decode cX0_isWanted 215 = .ok (.ireturn, 1) := dk_172 (dk_at dksX0_isWanted_9 3 rfl rfl)
abbrev cX0_isScored : ByteArray := prog_1_method_18_code
def yX0_isScored : MethodName := ⟨RX0, "isScored", "(LDutyBeats$State;I)Z"⟩
def dkwX0_isScored_0 : List UInt8 := [43, 180, 0, 193, 43, 180, 0, 199, 42, 180, 0, 10, 180, 0, 118, 112, 46, 28, 184, 0, 202, 172]
abbrev dktX0_isScored_0 : List UInt8 := dkwX0_isScored_0 ++ []
theorem dksX0_isScored_0 : cX0_isScored.data.toList.drop 0 = dktX0_isScored_0 := by decide +kernel
theorem dX0_isScored_0 : decode cX0_isScored 0 = .ok (.aload_n 1, 1) := dk_43 (dk_at dksX0_isScored_0 0 rfl rfl)
theorem dX0_isScored_1 : decode cX0_isScored 1 = .ok (.getfield 193, 3) := dk_180 0 193 (dk_at dksX0_isScored_0 1 rfl rfl)
theorem dX0_isScored_4 : decode cX0_isScored 4 = .ok (.aload_n 1, 1) := dk_43 (dk_at dksX0_isScored_0 4 rfl rfl)
theorem dX0_isScored_5 : decode cX0_isScored 5 = .ok (.getfield 199, 3) := dk_180 0 199 (dk_at dksX0_isScored_0 5 rfl rfl)
theorem dX0_isScored_8 : decode cX0_isScored 8 = .ok (.aload_n 0, 1) := dk_42 (dk_at dksX0_isScored_0 8 rfl rfl)
theorem dX0_isScored_9 : decode cX0_isScored 9 = .ok (.getfield 10, 3) := dk_180 0 10 (dk_at dksX0_isScored_0 9 rfl rfl)
theorem dX0_isScored_12 : decode cX0_isScored 12 = .ok (.getfield 118, 3) := dk_180 0 118 (dk_at dksX0_isScored_0 12 rfl rfl)
theorem dX0_isScored_15 : decode cX0_isScored 15 = .ok (.irem, 1) := dk_112 (dk_at dksX0_isScored_0 15 rfl rfl)
theorem dX0_isScored_16 : decode cX0_isScored 16 = .ok (.iaload, 1) := dk_46 (dk_at dksX0_isScored_0 16 rfl rfl)
theorem dX0_isScored_17 : decode cX0_isScored 17 = .ok (.iload_n 2, 1) := dk_28 (dk_at dksX0_isScored_0 17 rfl rfl)
theorem dX0_isScored_18 : decode cX0_isScored 18 = .ok (.invokestatic 202, 3) := dk_184 0 202 (dk_at dksX0_isScored_0 18 rfl rfl)
theorem dX0_isScored_21 : decode cX0_isScored 21 = .ok (.ireturn, 1) := dk_172 (dk_at dksX0_isScored_0 21 rfl rfl)
abbrev cX0_has : ByteArray := prog_1_method_2_code
def yX0_has : MethodName := ⟨RX0, "has", "(II)Z"⟩
def dkwX0_has_0 : List UInt8 := [26, 27, 122, 4, 126, 4, 160, 0, 7, 4, 167, 0, 4, 3, 172]
abbrev dktX0_has_0 : List UInt8 := dkwX0_has_0 ++ []
theorem dksX0_has_0 : cX0_has.data.toList.drop 0 = dktX0_has_0 := by decide +kernel
theorem dX0_has_0 : decode cX0_has 0 = .ok (.iload_n 0, 1) := dk_26 (dk_at dksX0_has_0 0 rfl rfl)
theorem dX0_has_1 : decode cX0_has 1 = .ok (.iload_n 1, 1) := dk_27 (dk_at dksX0_has_0 1 rfl rfl)
theorem dX0_has_2 : decode cX0_has 2 = .ok (.ishr, 1) := dk_122 (dk_at dksX0_has_0 2 rfl rfl)
theorem dX0_has_3 : decode cX0_has 3 = .ok (.iconst 1, 1) := dk_4 (dk_at dksX0_has_0 3 rfl rfl)
theorem dX0_has_4 : decode cX0_has 4 = .ok (.iand, 1) := dk_126 (dk_at dksX0_has_0 4 rfl rfl)
theorem dX0_has_5 : decode cX0_has 5 = .ok (.iconst 1, 1) := dk_4 (dk_at dksX0_has_0 5 rfl rfl)
theorem dX0_has_6 : decode cX0_has 6 = .ok (.if_icmp .ne 7, 3) := dk_160 0 7 (dk_at dksX0_has_0 6 rfl rfl)
theorem dX0_has_9 : decode cX0_has 9 = .ok (.iconst 1, 1) := dk_4 (dk_at dksX0_has_0 9 rfl rfl)
theorem dX0_has_10 : decode cX0_has 10 = .ok (.goto 4, 3) := dk_167 0 4 (dk_at dksX0_has_0 10 rfl rfl)
theorem dX0_has_13 : decode cX0_has 13 = .ok (.iconst 0, 1) := dk_3 (dk_at dksX0_has_0 13 rfl rfl)
theorem dX0_has_14 : decode cX0_has 14 = .ok (.ireturn, 1) := dk_172 (dk_at dksX0_has_0 14 rfl rfl)
abbrev cX0_bit : ByteArray := prog_1_method_3_code
def yX0_bit : MethodName := ⟨RX0, "bit", "(Z)I"⟩
def dkwX0_bit_0 : List UInt8 := [26, 153, 0, 7, 4, 167, 0, 4, 3, 172]
abbrev dktX0_bit_0 : List UInt8 := dkwX0_bit_0 ++ []
theorem dksX0_bit_0 : cX0_bit.data.toList.drop 0 = dktX0_bit_0 := by decide +kernel
theorem dX0_bit_0 : decode cX0_bit 0 = .ok (.iload_n 0, 1) := dk_26 (dk_at dksX0_bit_0 0 rfl rfl)
theorem dX0_bit_1 : decode cX0_bit 1 = .ok (.ifCond .eq 7, 3) := dk_153 0 7 (dk_at dksX0_bit_0 1 rfl rfl)
theorem dX0_bit_4 : decode cX0_bit 4 = .ok (.iconst 1, 1) := dk_4 (dk_at dksX0_bit_0 4 rfl rfl)
theorem dX0_bit_5 : decode cX0_bit 5 = .ok (.goto 4, 3) := dk_167 0 4 (dk_at dksX0_bit_0 5 rfl rfl)
theorem dX0_bit_8 : decode cX0_bit 8 = .ok (.iconst 0, 1) := dk_3 (dk_at dksX0_bit_0 8 rfl rfl)
theorem dX0_bit_9 : decode cX0_bit 9 = .ok (.ireturn, 1) := dk_172 (dk_at dksX0_bit_0 9 rfl rfl)
abbrev cX0_come : ByteArray := prog_1_method_28_code
def yX0_come : MethodName := ⟨RX0, "come", "(II)I"⟩
def dkwX0_come_1 : List UInt8 := [182, 1, 30, 42, 180, 0, 19, 27, 28, 182, 0, 240, 42, 180, 0, 19, 180, 0, 168, 27, 46, 172]
abbrev dktX0_come_1 : List UInt8 := dkwX0_come_1 ++ []
def dkwX0_come_0 : List UInt8 := [42, 27, 182, 0, 164, 153, 0, 15, 28, 133, 10, 20, 1, 33, 184, 0, 125, 154, 0, 5, 2, 172, 42]
abbrev dktX0_come_0 : List UInt8 := dkwX0_come_0 ++ dktX0_come_1
theorem dksX0_come_0 : cX0_come.data.toList.drop 0 = dktX0_come_0 := by decide +kernel
theorem dksX0_come_1 : cX0_come.data.toList.drop 23 = dktX0_come_1 := dk_seg dksX0_come_0 23 rfl rfl
theorem dX0_come_0 : decode cX0_come 0 = .ok (.aload_n 0, 1) := dk_42 (dk_at dksX0_come_0 0 rfl rfl)
theorem dX0_come_1 : decode cX0_come 1 = .ok (.iload_n 1, 1) := dk_27 (dk_at dksX0_come_0 1 rfl rfl)
theorem dX0_come_2 : decode cX0_come 2 = .ok (.invokevirtual 164, 3) := dk_182 0 164 (dk_at dksX0_come_0 2 rfl rfl)
theorem dX0_come_5 : decode cX0_come 5 = .ok (.ifCond .eq 15, 3) := dk_153 0 15 (dk_at dksX0_come_0 5 rfl rfl)
theorem dX0_come_8 : decode cX0_come 8 = .ok (.iload_n 2, 1) := dk_28 (dk_at dksX0_come_0 8 rfl rfl)
theorem dX0_come_9 : decode cX0_come 9 = .ok (.i2l, 1) := dk_133 (dk_at dksX0_come_0 9 rfl rfl)
theorem dX0_come_10 : decode cX0_come 10 = .ok (.lconst 1, 1) := dk_10 (dk_at dksX0_come_0 10 rfl rfl)
theorem dX0_come_11 : decode cX0_come 11 = .ok (.ldc2_w 289, 3) := dk_20 1 33 (dk_at dksX0_come_0 11 rfl rfl)
theorem dX0_come_14 : decode cX0_come 14 = .ok (.invokestatic 125, 3) := dk_184 0 125 (dk_at dksX0_come_0 14 rfl rfl)
theorem dX0_come_17 : decode cX0_come 17 = .ok (.ifCond .ne 5, 3) := dk_154 0 5 (dk_at dksX0_come_0 17 rfl rfl)
theorem dX0_come_20 : decode cX0_come 20 = .ok (.iconst (-1), 1) := dk_2 (dk_at dksX0_come_0 20 rfl rfl)
theorem dX0_come_21 : decode cX0_come 21 = .ok (.ireturn, 1) := dk_172 (dk_at dksX0_come_0 21 rfl rfl)
theorem dX0_come_22 : decode cX0_come 22 = .ok (.aload_n 0, 1) := dk_42 (dk_at dksX0_come_0 22 rfl rfl)
theorem dX0_come_23 : decode cX0_come 23 = .ok (.invokevirtual 286, 3) := dk_182 1 30 (dk_at dksX0_come_1 0 rfl rfl)
theorem dX0_come_26 : decode cX0_come 26 = .ok (.aload_n 0, 1) := dk_42 (dk_at dksX0_come_1 3 rfl rfl)
theorem dX0_come_27 : decode cX0_come 27 = .ok (.getfield 19, 3) := dk_180 0 19 (dk_at dksX0_come_1 4 rfl rfl)
theorem dX0_come_30 : decode cX0_come 30 = .ok (.iload_n 1, 1) := dk_27 (dk_at dksX0_come_1 7 rfl rfl)
theorem dX0_come_31 : decode cX0_come 31 = .ok (.iload_n 2, 1) := dk_28 (dk_at dksX0_come_1 8 rfl rfl)
theorem dX0_come_32 : decode cX0_come 32 = .ok (.invokevirtual 240, 3) := dk_182 0 240 (dk_at dksX0_come_1 9 rfl rfl)
theorem dX0_come_35 : decode cX0_come 35 = .ok (.aload_n 0, 1) := dk_42 (dk_at dksX0_come_1 12 rfl rfl)
theorem dX0_come_36 : decode cX0_come 36 = .ok (.getfield 19, 3) := dk_180 0 19 (dk_at dksX0_come_1 13 rfl rfl)
theorem dX0_come_39 : decode cX0_come 39 = .ok (.getfield 168, 3) := dk_180 0 168 (dk_at dksX0_come_1 16 rfl rfl)
theorem dX0_come_42 : decode cX0_come 42 = .ok (.iload_n 1, 1) := dk_27 (dk_at dksX0_come_1 19 rfl rfl)
theorem dX0_come_43 : decode cX0_come 43 = .ok (.iaload, 1) := dk_46 (dk_at dksX0_come_1 20 rfl rfl)
theorem dX0_come_44 : decode cX0_come 44 = .ok (.ireturn, 1) := dk_172 (dk_at dksX0_come_1 21 rfl rfl)
abbrev cX0_wave : ByteArray := prog_1_method_29_code
def yX0_wave : MethodName := ⟨RX0, "wave", "(I)I"⟩
def dkwX0_wave_1 : List UInt8 := [182, 1, 30, 42, 180, 0, 19, 27, 42, 180, 0, 10, 180, 0, 248, 182, 0, 251, 172]
abbrev dktX0_wave_1 : List UInt8 := dkwX0_wave_1 ++ []
def dkwX0_wave_0 : List UInt8 := [42, 27, 182, 0, 164, 153, 0, 15, 42, 180, 0, 19, 180, 0, 168, 27, 46, 154, 0, 5, 2, 172, 42]
abbrev dktX0_wave_0 : List UInt8 := dkwX0_wave_0 ++ dktX0_wave_1
theorem dksX0_wave_0 : cX0_wave.data.toList.drop 0 = dktX0_wave_0 := by decide +kernel
theorem dksX0_wave_1 : cX0_wave.data.toList.drop 23 = dktX0_wave_1 := dk_seg dksX0_wave_0 23 rfl rfl
theorem dX0_wave_0 : decode cX0_wave 0 = .ok (.aload_n 0, 1) := dk_42 (dk_at dksX0_wave_0 0 rfl rfl)
theorem dX0_wave_1 : decode cX0_wave 1 = .ok (.iload_n 1, 1) := dk_27 (dk_at dksX0_wave_0 1 rfl rfl)
theorem dX0_wave_2 : decode cX0_wave 2 = .ok (.invokevirtual 164, 3) := dk_182 0 164 (dk_at dksX0_wave_0 2 rfl rfl)
theorem dX0_wave_5 : decode cX0_wave 5 = .ok (.ifCond .eq 15, 3) := dk_153 0 15 (dk_at dksX0_wave_0 5 rfl rfl)
theorem dX0_wave_8 : decode cX0_wave 8 = .ok (.aload_n 0, 1) := dk_42 (dk_at dksX0_wave_0 8 rfl rfl)
theorem dX0_wave_9 : decode cX0_wave 9 = .ok (.getfield 19, 3) := dk_180 0 19 (dk_at dksX0_wave_0 9 rfl rfl)
theorem dX0_wave_12 : decode cX0_wave 12 = .ok (.getfield 168, 3) := dk_180 0 168 (dk_at dksX0_wave_0 12 rfl rfl)
theorem dX0_wave_15 : decode cX0_wave 15 = .ok (.iload_n 1, 1) := dk_27 (dk_at dksX0_wave_0 15 rfl rfl)
theorem dX0_wave_16 : decode cX0_wave 16 = .ok (.iaload, 1) := dk_46 (dk_at dksX0_wave_0 16 rfl rfl)
theorem dX0_wave_17 : decode cX0_wave 17 = .ok (.ifCond .ne 5, 3) := dk_154 0 5 (dk_at dksX0_wave_0 17 rfl rfl)
theorem dX0_wave_20 : decode cX0_wave 20 = .ok (.iconst (-1), 1) := dk_2 (dk_at dksX0_wave_0 20 rfl rfl)
theorem dX0_wave_21 : decode cX0_wave 21 = .ok (.ireturn, 1) := dk_172 (dk_at dksX0_wave_0 21 rfl rfl)
theorem dX0_wave_22 : decode cX0_wave 22 = .ok (.aload_n 0, 1) := dk_42 (dk_at dksX0_wave_0 22 rfl rfl)
theorem dX0_wave_23 : decode cX0_wave 23 = .ok (.invokevirtual 286, 3) := dk_182 1 30 (dk_at dksX0_wave_1 0 rfl rfl)
theorem dX0_wave_26 : decode cX0_wave 26 = .ok (.aload_n 0, 1) := dk_42 (dk_at dksX0_wave_1 3 rfl rfl)
theorem dX0_wave_27 : decode cX0_wave 27 = .ok (.getfield 19, 3) := dk_180 0 19 (dk_at dksX0_wave_1 4 rfl rfl)
theorem dX0_wave_30 : decode cX0_wave 30 = .ok (.iload_n 1, 1) := dk_27 (dk_at dksX0_wave_1 7 rfl rfl)
theorem dX0_wave_31 : decode cX0_wave 31 = .ok (.aload_n 0, 1) := dk_42 (dk_at dksX0_wave_1 8 rfl rfl)
theorem dX0_wave_32 : decode cX0_wave 32 = .ok (.getfield 10, 3) := dk_180 0 10 (dk_at dksX0_wave_1 9 rfl rfl)
theorem dX0_wave_35 : decode cX0_wave 35 = .ok (.getfield 248, 3) := dk_180 0 248 (dk_at dksX0_wave_1 12 rfl rfl)
theorem dX0_wave_38 : decode cX0_wave 38 = .ok (.invokevirtual 251, 3) := dk_182 0 251 (dk_at dksX0_wave_1 15 rfl rfl)
theorem dX0_wave_41 : decode cX0_wave 41 = .ok (.ireturn, 1) := dk_172 (dk_at dksX0_wave_1 18 rfl rfl)
abbrev cX0_score : ByteArray := prog_1_method_30_code
def yX0_score : MethodName := ⟨RX0, "score", "(II)I"⟩
def dkwX0_score_2 : List UInt8 := [184, 0, 202, 184, 0, 210, 172]
abbrev dktX0_score_2 : List UInt8 := dkwX0_score_2 ++ []
def dkwX0_score_1 : List UInt8 := [180, 0, 19, 180, 0, 193, 27, 92, 46, 4, 28, 120, 130, 79, 42, 180, 0, 19, 180, 0, 193, 27, 46, 28]
abbrev dktX0_score_1 : List UInt8 := dkwX0_score_1 ++ dktX0_score_2
def dkwX0_score_0 : List UInt8 := [42, 27, 182, 0, 190, 153, 0, 11, 42, 28, 182, 0, 164, 154, 0, 5, 2, 172, 42, 182, 1, 30, 42]
abbrev dktX0_score_0 : List UInt8 := dkwX0_score_0 ++ dktX0_score_1
theorem dksX0_score_0 : cX0_score.data.toList.drop 0 = dktX0_score_0 := by decide +kernel
theorem dksX0_score_1 : cX0_score.data.toList.drop 23 = dktX0_score_1 := dk_seg dksX0_score_0 23 rfl rfl
theorem dksX0_score_2 : cX0_score.data.toList.drop 47 = dktX0_score_2 := dk_seg dksX0_score_1 24 rfl rfl
theorem dX0_score_0 : decode cX0_score 0 = .ok (.aload_n 0, 1) := dk_42 (dk_at dksX0_score_0 0 rfl rfl)
theorem dX0_score_1 : decode cX0_score 1 = .ok (.iload_n 1, 1) := dk_27 (dk_at dksX0_score_0 1 rfl rfl)
theorem dX0_score_2 : decode cX0_score 2 = .ok (.invokevirtual 190, 3) := dk_182 0 190 (dk_at dksX0_score_0 2 rfl rfl)
theorem dX0_score_5 : decode cX0_score 5 = .ok (.ifCond .eq 11, 3) := dk_153 0 11 (dk_at dksX0_score_0 5 rfl rfl)
theorem dX0_score_8 : decode cX0_score 8 = .ok (.aload_n 0, 1) := dk_42 (dk_at dksX0_score_0 8 rfl rfl)
theorem dX0_score_9 : decode cX0_score 9 = .ok (.iload_n 2, 1) := dk_28 (dk_at dksX0_score_0 9 rfl rfl)
theorem dX0_score_10 : decode cX0_score 10 = .ok (.invokevirtual 164, 3) := dk_182 0 164 (dk_at dksX0_score_0 10 rfl rfl)
theorem dX0_score_13 : decode cX0_score 13 = .ok (.ifCond .ne 5, 3) := dk_154 0 5 (dk_at dksX0_score_0 13 rfl rfl)
theorem dX0_score_16 : decode cX0_score 16 = .ok (.iconst (-1), 1) := dk_2 (dk_at dksX0_score_0 16 rfl rfl)
theorem dX0_score_17 : decode cX0_score 17 = .ok (.ireturn, 1) := dk_172 (dk_at dksX0_score_0 17 rfl rfl)
theorem dX0_score_18 : decode cX0_score 18 = .ok (.aload_n 0, 1) := dk_42 (dk_at dksX0_score_0 18 rfl rfl)
theorem dX0_score_19 : decode cX0_score 19 = .ok (.invokevirtual 286, 3) := dk_182 1 30 (dk_at dksX0_score_0 19 rfl rfl)
theorem dX0_score_22 : decode cX0_score 22 = .ok (.aload_n 0, 1) := dk_42 (dk_at dksX0_score_0 22 rfl rfl)
theorem dX0_score_23 : decode cX0_score 23 = .ok (.getfield 19, 3) := dk_180 0 19 (dk_at dksX0_score_1 0 rfl rfl)
theorem dX0_score_26 : decode cX0_score 26 = .ok (.getfield 193, 3) := dk_180 0 193 (dk_at dksX0_score_1 3 rfl rfl)
theorem dX0_score_29 : decode cX0_score 29 = .ok (.iload_n 1, 1) := dk_27 (dk_at dksX0_score_1 6 rfl rfl)
theorem dX0_score_30 : decode cX0_score 30 = .ok (.dup2, 1) := dk_92 (dk_at dksX0_score_1 7 rfl rfl)
theorem dX0_score_31 : decode cX0_score 31 = .ok (.iaload, 1) := dk_46 (dk_at dksX0_score_1 8 rfl rfl)
theorem dX0_score_32 : decode cX0_score 32 = .ok (.iconst 1, 1) := dk_4 (dk_at dksX0_score_1 9 rfl rfl)
theorem dX0_score_33 : decode cX0_score 33 = .ok (.iload_n 2, 1) := dk_28 (dk_at dksX0_score_1 10 rfl rfl)
theorem dX0_score_34 : decode cX0_score 34 = .ok (.ishl, 1) := dk_120 (dk_at dksX0_score_1 11 rfl rfl)
theorem dX0_score_35 : decode cX0_score 35 = .ok (.ixor, 1) := dk_130 (dk_at dksX0_score_1 12 rfl rfl)
theorem dX0_score_36 : decode cX0_score 36 = .ok (.iastore, 1) := dk_79 (dk_at dksX0_score_1 13 rfl rfl)
theorem dX0_score_37 : decode cX0_score 37 = .ok (.aload_n 0, 1) := dk_42 (dk_at dksX0_score_1 14 rfl rfl)
theorem dX0_score_38 : decode cX0_score 38 = .ok (.getfield 19, 3) := dk_180 0 19 (dk_at dksX0_score_1 15 rfl rfl)
theorem dX0_score_41 : decode cX0_score 41 = .ok (.getfield 193, 3) := dk_180 0 193 (dk_at dksX0_score_1 18 rfl rfl)
theorem dX0_score_44 : decode cX0_score 44 = .ok (.iload_n 1, 1) := dk_27 (dk_at dksX0_score_1 21 rfl rfl)
theorem dX0_score_45 : decode cX0_score 45 = .ok (.iaload, 1) := dk_46 (dk_at dksX0_score_1 22 rfl rfl)
theorem dX0_score_46 : decode cX0_score 46 = .ok (.iload_n 2, 1) := dk_28 (dk_at dksX0_score_1 23 rfl rfl)
theorem dX0_score_47 : decode cX0_score 47 = .ok (.invokestatic 202, 3) := dk_184 0 202 (dk_at dksX0_score_2 0 rfl rfl)
theorem dX0_score_50 : decode cX0_score 50 = .ok (.invokestatic 210, 3) := dk_184 0 210 (dk_at dksX0_score_2 3 rfl rfl)
theorem dX0_score_53 : decode cX0_score 53 = .ok (.ireturn, 1) := dk_172 (dk_at dksX0_score_2 6 rfl rfl)
abbrev cX0_tune : ByteArray := prog_1_method_31_code
def yX0_tune : MethodName := ⟨RX0, "tune", "(II)I"⟩
def dkwX0_tune_2 : List UInt8 := [62, 42, 180, 0, 19, 180, 0, 174, 27, 28, 79, 29, 172]
abbrev dktX0_tune_2 : List UInt8 := dkwX0_tune_2 ++ []
def dkwX0_tune_1 : List UInt8 := [180, 0, 174, 27, 46, 28, 160, 0, 5, 2, 172, 42, 182, 1, 30, 42, 180, 0, 19, 180, 0, 174, 27, 46]
abbrev dktX0_tune_1 : List UInt8 := dkwX0_tune_1 ++ dktX0_tune_2
def dkwX0_tune_0 : List UInt8 := [42, 27, 182, 0, 164, 153, 0, 28, 28, 133, 9, 20, 1, 35, 184, 0, 125, 153, 0, 16, 42, 180, 0, 19]
abbrev dktX0_tune_0 : List UInt8 := dkwX0_tune_0 ++ dktX0_tune_1
theorem dksX0_tune_0 : cX0_tune.data.toList.drop 0 = dktX0_tune_0 := by decide +kernel
theorem dksX0_tune_1 : cX0_tune.data.toList.drop 24 = dktX0_tune_1 := dk_seg dksX0_tune_0 24 rfl rfl
theorem dksX0_tune_2 : cX0_tune.data.toList.drop 48 = dktX0_tune_2 := dk_seg dksX0_tune_1 24 rfl rfl
theorem dX0_tune_0 : decode cX0_tune 0 = .ok (.aload_n 0, 1) := dk_42 (dk_at dksX0_tune_0 0 rfl rfl)
theorem dX0_tune_1 : decode cX0_tune 1 = .ok (.iload_n 1, 1) := dk_27 (dk_at dksX0_tune_0 1 rfl rfl)
theorem dX0_tune_2 : decode cX0_tune 2 = .ok (.invokevirtual 164, 3) := dk_182 0 164 (dk_at dksX0_tune_0 2 rfl rfl)
theorem dX0_tune_5 : decode cX0_tune 5 = .ok (.ifCond .eq 28, 3) := dk_153 0 28 (dk_at dksX0_tune_0 5 rfl rfl)
theorem dX0_tune_8 : decode cX0_tune 8 = .ok (.iload_n 2, 1) := dk_28 (dk_at dksX0_tune_0 8 rfl rfl)
theorem dX0_tune_9 : decode cX0_tune 9 = .ok (.i2l, 1) := dk_133 (dk_at dksX0_tune_0 9 rfl rfl)
theorem dX0_tune_10 : decode cX0_tune 10 = .ok (.lconst 0, 1) := dk_9 (dk_at dksX0_tune_0 10 rfl rfl)
theorem dX0_tune_11 : decode cX0_tune 11 = .ok (.ldc2_w 291, 3) := dk_20 1 35 (dk_at dksX0_tune_0 11 rfl rfl)
theorem dX0_tune_14 : decode cX0_tune 14 = .ok (.invokestatic 125, 3) := dk_184 0 125 (dk_at dksX0_tune_0 14 rfl rfl)
theorem dX0_tune_17 : decode cX0_tune 17 = .ok (.ifCond .eq 16, 3) := dk_153 0 16 (dk_at dksX0_tune_0 17 rfl rfl)
theorem dX0_tune_20 : decode cX0_tune 20 = .ok (.aload_n 0, 1) := dk_42 (dk_at dksX0_tune_0 20 rfl rfl)
theorem dX0_tune_21 : decode cX0_tune 21 = .ok (.getfield 19, 3) := dk_180 0 19 (dk_at dksX0_tune_0 21 rfl rfl)
theorem dX0_tune_24 : decode cX0_tune 24 = .ok (.getfield 174, 3) := dk_180 0 174 (dk_at dksX0_tune_1 0 rfl rfl)
theorem dX0_tune_27 : decode cX0_tune 27 = .ok (.iload_n 1, 1) := dk_27 (dk_at dksX0_tune_1 3 rfl rfl)
theorem dX0_tune_28 : decode cX0_tune 28 = .ok (.iaload, 1) := dk_46 (dk_at dksX0_tune_1 4 rfl rfl)
theorem dX0_tune_29 : decode cX0_tune 29 = .ok (.iload_n 2, 1) := dk_28 (dk_at dksX0_tune_1 5 rfl rfl)
theorem dX0_tune_30 : decode cX0_tune 30 = .ok (.if_icmp .ne 5, 3) := dk_160 0 5 (dk_at dksX0_tune_1 6 rfl rfl)
theorem dX0_tune_33 : decode cX0_tune 33 = .ok (.iconst (-1), 1) := dk_2 (dk_at dksX0_tune_1 9 rfl rfl)
theorem dX0_tune_34 : decode cX0_tune 34 = .ok (.ireturn, 1) := dk_172 (dk_at dksX0_tune_1 10 rfl rfl)
theorem dX0_tune_35 : decode cX0_tune 35 = .ok (.aload_n 0, 1) := dk_42 (dk_at dksX0_tune_1 11 rfl rfl)
theorem dX0_tune_36 : decode cX0_tune 36 = .ok (.invokevirtual 286, 3) := dk_182 1 30 (dk_at dksX0_tune_1 12 rfl rfl)
theorem dX0_tune_39 : decode cX0_tune 39 = .ok (.aload_n 0, 1) := dk_42 (dk_at dksX0_tune_1 15 rfl rfl)
theorem dX0_tune_40 : decode cX0_tune 40 = .ok (.getfield 19, 3) := dk_180 0 19 (dk_at dksX0_tune_1 16 rfl rfl)
theorem dX0_tune_43 : decode cX0_tune 43 = .ok (.getfield 174, 3) := dk_180 0 174 (dk_at dksX0_tune_1 19 rfl rfl)
theorem dX0_tune_46 : decode cX0_tune 46 = .ok (.iload_n 1, 1) := dk_27 (dk_at dksX0_tune_1 22 rfl rfl)
theorem dX0_tune_47 : decode cX0_tune 47 = .ok (.iaload, 1) := dk_46 (dk_at dksX0_tune_1 23 rfl rfl)
theorem dX0_tune_48 : decode cX0_tune 48 = .ok (.istore_n 3, 1) := dk_62 (dk_at dksX0_tune_2 0 rfl rfl)
theorem dX0_tune_49 : decode cX0_tune 49 = .ok (.aload_n 0, 1) := dk_42 (dk_at dksX0_tune_2 1 rfl rfl)
theorem dX0_tune_50 : decode cX0_tune 50 = .ok (.getfield 19, 3) := dk_180 0 19 (dk_at dksX0_tune_2 2 rfl rfl)
theorem dX0_tune_53 : decode cX0_tune 53 = .ok (.getfield 174, 3) := dk_180 0 174 (dk_at dksX0_tune_2 5 rfl rfl)
theorem dX0_tune_56 : decode cX0_tune 56 = .ok (.iload_n 1, 1) := dk_27 (dk_at dksX0_tune_2 8 rfl rfl)
theorem dX0_tune_57 : decode cX0_tune 57 = .ok (.iload_n 2, 1) := dk_28 (dk_at dksX0_tune_2 9 rfl rfl)
theorem dX0_tune_58 : decode cX0_tune 58 = .ok (.iastore, 1) := dk_79 (dk_at dksX0_tune_2 10 rfl rfl)
theorem dX0_tune_59 : decode cX0_tune 59 = .ok (.iload_n 3, 1) := dk_29 (dk_at dksX0_tune_2 11 rfl rfl)
theorem dX0_tune_60 : decode cX0_tune 60 = .ok (.ireturn, 1) := dk_172 (dk_at dksX0_tune_2 12 rfl rfl)
abbrev cX0_ahead : ByteArray := prog_1_method_32_code
def yX0_ahead : MethodName := ⟨RX0, "ahead", "(III)I"⟩
def dkwX0_ahead_4 : List UInt8 := [167, 0, 10, 42, 180, 0, 23, 180, 0, 196, 172]
abbrev dktX0_ahead_4 : List UInt8 := dkwX0_ahead_4 ++ []
def dkwX0_ahead_3 : List UInt8 := [180, 0, 168, 27, 46, 167, 0, 27, 29, 4, 160, 0, 15, 42, 180, 0, 23, 180, 0, 180, 27, 46]
abbrev dktX0_ahead_3 : List UInt8 := dkwX0_ahead_3 ++ dktX0_ahead_4
def dkwX0_ahead_2 : List UInt8 := [42, 180, 0, 23, 42, 180, 0, 19, 182, 1, 22, 42, 28, 182, 1, 16, 29, 154, 0, 15, 42, 180, 0, 23]
abbrev dktX0_ahead_2 : List UInt8 := dkwX0_ahead_2 ++ dktX0_ahead_3
def dkwX0_ahead_1 : List UInt8 := [42, 27, 182, 0, 164, 153, 0, 15, 28, 133, 9, 20, 1, 39, 184, 0, 125, 154, 0, 7, 17, 216, 240, 172]
abbrev dktX0_ahead_1 : List UInt8 := dkwX0_ahead_1 ++ dktX0_ahead_2
def dkwX0_ahead_0 : List UInt8 := [42, 182, 1, 26, 153, 0, 40, 29, 133, 9, 20, 1, 37, 184, 0, 125, 153, 0, 28, 29, 5, 162, 0, 11]
abbrev dktX0_ahead_0 : List UInt8 := dkwX0_ahead_0 ++ dktX0_ahead_1
theorem dksX0_ahead_0 : cX0_ahead.data.toList.drop 0 = dktX0_ahead_0 := by decide +kernel
theorem dksX0_ahead_1 : cX0_ahead.data.toList.drop 24 = dktX0_ahead_1 := dk_seg dksX0_ahead_0 24 rfl rfl
theorem dksX0_ahead_2 : cX0_ahead.data.toList.drop 48 = dktX0_ahead_2 := dk_seg dksX0_ahead_1 24 rfl rfl
theorem dksX0_ahead_3 : cX0_ahead.data.toList.drop 72 = dktX0_ahead_3 := dk_seg dksX0_ahead_2 24 rfl rfl
theorem dksX0_ahead_4 : cX0_ahead.data.toList.drop 94 = dktX0_ahead_4 := dk_seg dksX0_ahead_3 22 rfl rfl
theorem dX0_ahead_0 : decode cX0_ahead 0 = .ok (.aload_n 0, 1) := dk_42 (dk_at dksX0_ahead_0 0 rfl rfl)
theorem dX0_ahead_1 : decode cX0_ahead 1 = .ok (.invokevirtual 282, 3) := dk_182 1 26 (dk_at dksX0_ahead_0 1 rfl rfl)
theorem dX0_ahead_4 : decode cX0_ahead 4 = .ok (.ifCond .eq 40, 3) := dk_153 0 40 (dk_at dksX0_ahead_0 4 rfl rfl)
theorem dX0_ahead_7 : decode cX0_ahead 7 = .ok (.iload_n 3, 1) := dk_29 (dk_at dksX0_ahead_0 7 rfl rfl)
theorem dX0_ahead_8 : decode cX0_ahead 8 = .ok (.i2l, 1) := dk_133 (dk_at dksX0_ahead_0 8 rfl rfl)
theorem dX0_ahead_9 : decode cX0_ahead 9 = .ok (.lconst 0, 1) := dk_9 (dk_at dksX0_ahead_0 9 rfl rfl)
theorem dX0_ahead_10 : decode cX0_ahead 10 = .ok (.ldc2_w 293, 3) := dk_20 1 37 (dk_at dksX0_ahead_0 10 rfl rfl)
theorem dX0_ahead_13 : decode cX0_ahead 13 = .ok (.invokestatic 125, 3) := dk_184 0 125 (dk_at dksX0_ahead_0 13 rfl rfl)
theorem dX0_ahead_16 : decode cX0_ahead 16 = .ok (.ifCond .eq 28, 3) := dk_153 0 28 (dk_at dksX0_ahead_0 16 rfl rfl)
theorem dX0_ahead_19 : decode cX0_ahead 19 = .ok (.iload_n 3, 1) := dk_29 (dk_at dksX0_ahead_0 19 rfl rfl)
theorem dX0_ahead_20 : decode cX0_ahead 20 = .ok (.iconst 2, 1) := dk_5 (dk_at dksX0_ahead_0 20 rfl rfl)
theorem dX0_ahead_21 : decode cX0_ahead 21 = .ok (.if_icmp .ge 11, 3) := dk_162 0 11 (dk_at dksX0_ahead_0 21 rfl rfl)
theorem dX0_ahead_24 : decode cX0_ahead 24 = .ok (.aload_n 0, 1) := dk_42 (dk_at dksX0_ahead_1 0 rfl rfl)
theorem dX0_ahead_25 : decode cX0_ahead 25 = .ok (.iload_n 1, 1) := dk_27 (dk_at dksX0_ahead_1 1 rfl rfl)
theorem dX0_ahead_26 : decode cX0_ahead 26 = .ok (.invokevirtual 164, 3) := dk_182 0 164 (dk_at dksX0_ahead_1 2 rfl rfl)
theorem dX0_ahead_29 : decode cX0_ahead 29 = .ok (.ifCond .eq 15, 3) := dk_153 0 15 (dk_at dksX0_ahead_1 5 rfl rfl)
theorem dX0_ahead_32 : decode cX0_ahead 32 = .ok (.iload_n 2, 1) := dk_28 (dk_at dksX0_ahead_1 8 rfl rfl)
theorem dX0_ahead_33 : decode cX0_ahead 33 = .ok (.i2l, 1) := dk_133 (dk_at dksX0_ahead_1 9 rfl rfl)
theorem dX0_ahead_34 : decode cX0_ahead 34 = .ok (.lconst 0, 1) := dk_9 (dk_at dksX0_ahead_1 10 rfl rfl)
theorem dX0_ahead_35 : decode cX0_ahead 35 = .ok (.ldc2_w 295, 3) := dk_20 1 39 (dk_at dksX0_ahead_1 11 rfl rfl)
theorem dX0_ahead_38 : decode cX0_ahead 38 = .ok (.invokestatic 125, 3) := dk_184 0 125 (dk_at dksX0_ahead_1 14 rfl rfl)
theorem dX0_ahead_41 : decode cX0_ahead 41 = .ok (.ifCond .ne 7, 3) := dk_154 0 7 (dk_at dksX0_ahead_1 17 rfl rfl)
theorem dX0_ahead_44 : decode cX0_ahead 44 = .ok (.sipush (-10000), 3) := dk_17 216 240 (dk_at dksX0_ahead_1 20 rfl rfl)
theorem dX0_ahead_47 : decode cX0_ahead 47 = .ok (.ireturn, 1) := dk_172 (dk_at dksX0_ahead_1 23 rfl rfl)
theorem dX0_ahead_48 : decode cX0_ahead 48 = .ok (.aload_n 0, 1) := dk_42 (dk_at dksX0_ahead_2 0 rfl rfl)
theorem dX0_ahead_49 : decode cX0_ahead 49 = .ok (.getfield 23, 3) := dk_180 0 23 (dk_at dksX0_ahead_2 1 rfl rfl)
theorem dX0_ahead_52 : decode cX0_ahead 52 = .ok (.aload_n 0, 1) := dk_42 (dk_at dksX0_ahead_2 4 rfl rfl)
theorem dX0_ahead_53 : decode cX0_ahead 53 = .ok (.getfield 19, 3) := dk_180 0 19 (dk_at dksX0_ahead_2 5 rfl rfl)
theorem dX0_ahead_56 : decode cX0_ahead 56 = .ok (.invokevirtual 278, 3) := dk_182 1 22 (dk_at dksX0_ahead_2 8 rfl rfl)
theorem dX0_ahead_59 : decode cX0_ahead 59 = .ok (.aload_n 0, 1) := dk_42 (dk_at dksX0_ahead_2 11 rfl rfl)
theorem dX0_ahead_60 : decode cX0_ahead 60 = .ok (.iload_n 2, 1) := dk_28 (dk_at dksX0_ahead_2 12 rfl rfl)
theorem dX0_ahead_61 : decode cX0_ahead 61 = .ok (.invokevirtual 272, 3) := dk_182 1 16 (dk_at dksX0_ahead_2 13 rfl rfl)
theorem dX0_ahead_64 : decode cX0_ahead 64 = .ok (.iload_n 3, 1) := dk_29 (dk_at dksX0_ahead_2 16 rfl rfl)
theorem dX0_ahead_65 : decode cX0_ahead 65 = .ok (.ifCond .ne 15, 3) := dk_154 0 15 (dk_at dksX0_ahead_2 17 rfl rfl)
theorem dX0_ahead_68 : decode cX0_ahead 68 = .ok (.aload_n 0, 1) := dk_42 (dk_at dksX0_ahead_2 20 rfl rfl)
theorem dX0_ahead_69 : decode cX0_ahead 69 = .ok (.getfield 23, 3) := dk_180 0 23 (dk_at dksX0_ahead_2 21 rfl rfl)
theorem dX0_ahead_72 : decode cX0_ahead 72 = .ok (.getfield 168, 3) := dk_180 0 168 (dk_at dksX0_ahead_3 0 rfl rfl)
theorem dX0_ahead_75 : decode cX0_ahead 75 = .ok (.iload_n 1, 1) := dk_27 (dk_at dksX0_ahead_3 3 rfl rfl)
theorem dX0_ahead_76 : decode cX0_ahead 76 = .ok (.iaload, 1) := dk_46 (dk_at dksX0_ahead_3 4 rfl rfl)
theorem dX0_ahead_77 : decode cX0_ahead 77 = .ok (.goto 27, 3) := dk_167 0 27 (dk_at dksX0_ahead_3 5 rfl rfl)
theorem dX0_ahead_80 : decode cX0_ahead 80 = .ok (.iload_n 3, 1) := dk_29 (dk_at dksX0_ahead_3 8 rfl rfl)
theorem dX0_ahead_81 : decode cX0_ahead 81 = .ok (.iconst 1, 1) := dk_4 (dk_at dksX0_ahead_3 9 rfl rfl)
theorem dX0_ahead_82 : decode cX0_ahead 82 = .ok (.if_icmp .ne 15, 3) := dk_160 0 15 (dk_at dksX0_ahead_3 10 rfl rfl)
theorem dX0_ahead_85 : decode cX0_ahead 85 = .ok (.aload_n 0, 1) := dk_42 (dk_at dksX0_ahead_3 13 rfl rfl)
theorem dX0_ahead_86 : decode cX0_ahead 86 = .ok (.getfield 23, 3) := dk_180 0 23 (dk_at dksX0_ahead_3 14 rfl rfl)
theorem dX0_ahead_89 : decode cX0_ahead 89 = .ok (.getfield 180, 3) := dk_180 0 180 (dk_at dksX0_ahead_3 17 rfl rfl)
theorem dX0_ahead_92 : decode cX0_ahead 92 = .ok (.iload_n 1, 1) := dk_27 (dk_at dksX0_ahead_3 20 rfl rfl)
theorem dX0_ahead_93 : decode cX0_ahead 93 = .ok (.iaload, 1) := dk_46 (dk_at dksX0_ahead_3 21 rfl rfl)
theorem dX0_ahead_94 : decode cX0_ahead 94 = .ok (.goto 10, 3) := dk_167 0 10 (dk_at dksX0_ahead_4 0 rfl rfl)
theorem dX0_ahead_97 : decode cX0_ahead 97 = .ok (.aload_n 0, 1) := dk_42 (dk_at dksX0_ahead_4 3 rfl rfl)
theorem dX0_ahead_98 : decode cX0_ahead 98 = .ok (.getfield 23, 3) := dk_180 0 23 (dk_at dksX0_ahead_4 4 rfl rfl)
theorem dX0_ahead_101 : decode cX0_ahead 101 = .ok (.getfield 196, 3) := dk_180 0 196 (dk_at dksX0_ahead_4 7 rfl rfl)
theorem dX0_ahead_104 : decode cX0_ahead 104 = .ok (.ireturn, 1) := dk_172 (dk_at dksX0_ahead_4 10 rfl rfl)
abbrev cX0_goesTill : ByteArray := prog_1_method_22_code
def yX0_goesTill : MethodName := ⟨RX0, "goesTill", "(I)V"⟩
def dkwX0_goesTill_0 : List UInt8 := [3, 61, 28, 27, 162, 0, 18, 42, 42, 180, 0, 23, 182, 1, 13, 87, 132, 2, 1, 167, 255, 239, 177]
abbrev dktX0_goesTill_0 : List UInt8 := dkwX0_goesTill_0 ++ []
theorem dksX0_goesTill_0 : cX0_goesTill.data.toList.drop 0 = dktX0_goesTill_0 := by decide +kernel
theorem dX0_goesTill_0 : decode cX0_goesTill 0 = .ok (.iconst 0, 1) := dk_3 (dk_at dksX0_goesTill_0 0 rfl rfl)
theorem dX0_goesTill_1 : decode cX0_goesTill 1 = .ok (.istore_n 2, 1) := dk_61 (dk_at dksX0_goesTill_0 1 rfl rfl)
theorem dX0_goesTill_2 : decode cX0_goesTill 2 = .ok (.iload_n 2, 1) := dk_28 (dk_at dksX0_goesTill_0 2 rfl rfl)
theorem dX0_goesTill_3 : decode cX0_goesTill 3 = .ok (.iload_n 1, 1) := dk_27 (dk_at dksX0_goesTill_0 3 rfl rfl)
theorem dX0_goesTill_4 : decode cX0_goesTill 4 = .ok (.if_icmp .ge 18, 3) := dk_162 0 18 (dk_at dksX0_goesTill_0 4 rfl rfl)
theorem dX0_goesTill_7 : decode cX0_goesTill 7 = .ok (.aload_n 0, 1) := dk_42 (dk_at dksX0_goesTill_0 7 rfl rfl)
theorem dX0_goesTill_8 : decode cX0_goesTill 8 = .ok (.aload_n 0, 1) := dk_42 (dk_at dksX0_goesTill_0 8 rfl rfl)
theorem dX0_goesTill_9 : decode cX0_goesTill 9 = .ok (.getfield 23, 3) := dk_180 0 23 (dk_at dksX0_goesTill_0 9 rfl rfl)
theorem dX0_goesTill_12 : decode cX0_goesTill 12 = .ok (.invokevirtual 269, 3) := dk_182 1 13 (dk_at dksX0_goesTill_0 12 rfl rfl)
theorem dX0_goesTill_15 : decode cX0_goesTill 15 = .ok (.pop, 1) := dk_87 (dk_at dksX0_goesTill_0 15 rfl rfl)
theorem dX0_goesTill_16 : decode cX0_goesTill 16 = .ok (.iinc 2 1, 3) := dk_132 2 1 (dk_at dksX0_goesTill_0 16 rfl rfl)
theorem dX0_goesTill_19 : decode cX0_goesTill 19 = .ok (.goto (-17), 3) := dk_167 255 239 (dk_at dksX0_goesTill_0 19 rfl rfl)
theorem dX0_goesTill_22 : decode cX0_goesTill 22 = .ok (.return_, 1) := dk_177 (dk_at dksX0_goesTill_0 22 rfl rfl)
abbrev cX0_clear : ByteArray := prog_1_method_33_code
def yX0_clear : MethodName := ⟨RX0, "clear", "(I)I"⟩
def dkwX0_clear_2 : List UInt8 := [154, 0, 13, 42, 180, 0, 23, 180, 0, 199, 4, 100, 172, 132, 2, 1, 167, 255, 215, 16, 254, 172]
abbrev dktX0_clear_2 : List UInt8 := dkwX0_clear_2 ++ []
def dkwX0_clear_1 : List UInt8 := [17, 0, 200, 162, 0, 40, 42, 42, 180, 0, 23, 182, 1, 13, 87, 42, 180, 0, 23, 180, 0, 168, 27, 46]
abbrev dktX0_clear_1 : List UInt8 := dkwX0_clear_1 ++ dktX0_clear_2
def dkwX0_clear_0 : List UInt8 := [42, 27, 182, 0, 164, 154, 0, 5, 2, 172, 42, 180, 0, 23, 42, 180, 0, 19, 182, 1, 22, 3, 61, 28]
abbrev dktX0_clear_0 : List UInt8 := dkwX0_clear_0 ++ dktX0_clear_1
theorem dksX0_clear_0 : cX0_clear.data.toList.drop 0 = dktX0_clear_0 := by decide +kernel
theorem dksX0_clear_1 : cX0_clear.data.toList.drop 24 = dktX0_clear_1 := dk_seg dksX0_clear_0 24 rfl rfl
theorem dksX0_clear_2 : cX0_clear.data.toList.drop 48 = dktX0_clear_2 := dk_seg dksX0_clear_1 24 rfl rfl
theorem dX0_clear_0 : decode cX0_clear 0 = .ok (.aload_n 0, 1) := dk_42 (dk_at dksX0_clear_0 0 rfl rfl)
theorem dX0_clear_1 : decode cX0_clear 1 = .ok (.iload_n 1, 1) := dk_27 (dk_at dksX0_clear_0 1 rfl rfl)
theorem dX0_clear_2 : decode cX0_clear 2 = .ok (.invokevirtual 164, 3) := dk_182 0 164 (dk_at dksX0_clear_0 2 rfl rfl)
theorem dX0_clear_5 : decode cX0_clear 5 = .ok (.ifCond .ne 5, 3) := dk_154 0 5 (dk_at dksX0_clear_0 5 rfl rfl)
theorem dX0_clear_8 : decode cX0_clear 8 = .ok (.iconst (-1), 1) := dk_2 (dk_at dksX0_clear_0 8 rfl rfl)
theorem dX0_clear_9 : decode cX0_clear 9 = .ok (.ireturn, 1) := dk_172 (dk_at dksX0_clear_0 9 rfl rfl)
theorem dX0_clear_10 : decode cX0_clear 10 = .ok (.aload_n 0, 1) := dk_42 (dk_at dksX0_clear_0 10 rfl rfl)
theorem dX0_clear_11 : decode cX0_clear 11 = .ok (.getfield 23, 3) := dk_180 0 23 (dk_at dksX0_clear_0 11 rfl rfl)
theorem dX0_clear_14 : decode cX0_clear 14 = .ok (.aload_n 0, 1) := dk_42 (dk_at dksX0_clear_0 14 rfl rfl)
theorem dX0_clear_15 : decode cX0_clear 15 = .ok (.getfield 19, 3) := dk_180 0 19 (dk_at dksX0_clear_0 15 rfl rfl)
theorem dX0_clear_18 : decode cX0_clear 18 = .ok (.invokevirtual 278, 3) := dk_182 1 22 (dk_at dksX0_clear_0 18 rfl rfl)
theorem dX0_clear_21 : decode cX0_clear 21 = .ok (.iconst 0, 1) := dk_3 (dk_at dksX0_clear_0 21 rfl rfl)
theorem dX0_clear_22 : decode cX0_clear 22 = .ok (.istore_n 2, 1) := dk_61 (dk_at dksX0_clear_0 22 rfl rfl)
theorem dX0_clear_23 : decode cX0_clear 23 = .ok (.iload_n 2, 1) := dk_28 (dk_at dksX0_clear_0 23 rfl rfl)
theorem dX0_clear_24 : decode cX0_clear 24 = .ok (.sipush 200, 3) := dk_17 0 200 (dk_at dksX0_clear_1 0 rfl rfl)
theorem dX0_clear_27 : decode cX0_clear 27 = .ok (.if_icmp .ge 40, 3) := dk_162 0 40 (dk_at dksX0_clear_1 3 rfl rfl)
theorem dX0_clear_30 : decode cX0_clear 30 = .ok (.aload_n 0, 1) := dk_42 (dk_at dksX0_clear_1 6 rfl rfl)
theorem dX0_clear_31 : decode cX0_clear 31 = .ok (.aload_n 0, 1) := dk_42 (dk_at dksX0_clear_1 7 rfl rfl)
theorem dX0_clear_32 : decode cX0_clear 32 = .ok (.getfield 23, 3) := dk_180 0 23 (dk_at dksX0_clear_1 8 rfl rfl)
theorem dX0_clear_35 : decode cX0_clear 35 = .ok (.invokevirtual 269, 3) := dk_182 1 13 (dk_at dksX0_clear_1 11 rfl rfl)
theorem dX0_clear_38 : decode cX0_clear 38 = .ok (.pop, 1) := dk_87 (dk_at dksX0_clear_1 14 rfl rfl)
theorem dX0_clear_39 : decode cX0_clear 39 = .ok (.aload_n 0, 1) := dk_42 (dk_at dksX0_clear_1 15 rfl rfl)
theorem dX0_clear_40 : decode cX0_clear 40 = .ok (.getfield 23, 3) := dk_180 0 23 (dk_at dksX0_clear_1 16 rfl rfl)
theorem dX0_clear_43 : decode cX0_clear 43 = .ok (.getfield 168, 3) := dk_180 0 168 (dk_at dksX0_clear_1 19 rfl rfl)
theorem dX0_clear_46 : decode cX0_clear 46 = .ok (.iload_n 1, 1) := dk_27 (dk_at dksX0_clear_1 22 rfl rfl)
theorem dX0_clear_47 : decode cX0_clear 47 = .ok (.iaload, 1) := dk_46 (dk_at dksX0_clear_1 23 rfl rfl)
theorem dX0_clear_48 : decode cX0_clear 48 = .ok (.ifCond .ne 13, 3) := dk_154 0 13 (dk_at dksX0_clear_2 0 rfl rfl)
theorem dX0_clear_51 : decode cX0_clear 51 = .ok (.aload_n 0, 1) := dk_42 (dk_at dksX0_clear_2 3 rfl rfl)
theorem dX0_clear_52 : decode cX0_clear 52 = .ok (.getfield 23, 3) := dk_180 0 23 (dk_at dksX0_clear_2 4 rfl rfl)
theorem dX0_clear_55 : decode cX0_clear 55 = .ok (.getfield 199, 3) := dk_180 0 199 (dk_at dksX0_clear_2 7 rfl rfl)
theorem dX0_clear_58 : decode cX0_clear 58 = .ok (.iconst 1, 1) := dk_4 (dk_at dksX0_clear_2 10 rfl rfl)
theorem dX0_clear_59 : decode cX0_clear 59 = .ok (.isub, 1) := dk_100 (dk_at dksX0_clear_2 11 rfl rfl)
theorem dX0_clear_60 : decode cX0_clear 60 = .ok (.ireturn, 1) := dk_172 (dk_at dksX0_clear_2 12 rfl rfl)
theorem dX0_clear_61 : decode cX0_clear 61 = .ok (.iinc 2 1, 3) := dk_132 2 1 (dk_at dksX0_clear_2 13 rfl rfl)
theorem dX0_clear_64 : decode cX0_clear 64 = .ok (.goto (-41), 3) := dk_167 255 215 (dk_at dksX0_clear_2 16 rfl rfl)
theorem dX0_clear_67 : decode cX0_clear 67 = .ok (.bipush (-2), 2) := dk_16 254 (dk_at dksX0_clear_2 19 rfl rfl)
theorem dX0_clear_69 : decode cX0_clear 69 = .ok (.ireturn, 1) := dk_172 (dk_at dksX0_clear_2 21 rfl rfl)
abbrev cX0_cadenza : ByteArray := prog_1_method_34_code
def yX0_cadenza : MethodName := ⟨RX0, "cadenza", "(I)I"⟩
def dkwX0_cadenza_3 : List UInt8 := [100, 172, 132, 2, 1, 167, 255, 202, 16, 254, 172]
abbrev dktX0_cadenza_3 : List UInt8 := dkwX0_cadenza_3 ++ []
def dkwX0_cadenza_2 : List UInt8 := [42, 180, 0, 77, 184, 0, 222, 42, 180, 0, 77, 27, 46, 160, 0, 13, 42, 180, 0, 23, 180, 0, 199, 4]
abbrev dktX0_cadenza_2 : List UInt8 := dkwX0_cadenza_2 ++ dktX0_cadenza_3
def dkwX0_cadenza_1 : List UInt8 := [17, 0, 200, 162, 0, 53, 42, 42, 180, 0, 23, 182, 1, 13, 87, 42, 180, 0, 77, 27, 46, 158, 0, 29]
abbrev dktX0_cadenza_1 : List UInt8 := dkwX0_cadenza_1 ++ dktX0_cadenza_2
def dkwX0_cadenza_0 : List UInt8 := [42, 27, 182, 0, 164, 154, 0, 5, 2, 172, 42, 180, 0, 23, 42, 180, 0, 19, 182, 1, 22, 3, 61, 28]
abbrev dktX0_cadenza_0 : List UInt8 := dkwX0_cadenza_0 ++ dktX0_cadenza_1
theorem dksX0_cadenza_0 : cX0_cadenza.data.toList.drop 0 = dktX0_cadenza_0 := by decide +kernel
theorem dksX0_cadenza_1 : cX0_cadenza.data.toList.drop 24 = dktX0_cadenza_1 := dk_seg dksX0_cadenza_0 24 rfl rfl
theorem dksX0_cadenza_2 : cX0_cadenza.data.toList.drop 48 = dktX0_cadenza_2 := dk_seg dksX0_cadenza_1 24 rfl rfl
theorem dksX0_cadenza_3 : cX0_cadenza.data.toList.drop 72 = dktX0_cadenza_3 := dk_seg dksX0_cadenza_2 24 rfl rfl
theorem dX0_cadenza_0 : decode cX0_cadenza 0 = .ok (.aload_n 0, 1) := dk_42 (dk_at dksX0_cadenza_0 0 rfl rfl)
theorem dX0_cadenza_1 : decode cX0_cadenza 1 = .ok (.iload_n 1, 1) := dk_27 (dk_at dksX0_cadenza_0 1 rfl rfl)
theorem dX0_cadenza_2 : decode cX0_cadenza 2 = .ok (.invokevirtual 164, 3) := dk_182 0 164 (dk_at dksX0_cadenza_0 2 rfl rfl)
theorem dX0_cadenza_5 : decode cX0_cadenza 5 = .ok (.ifCond .ne 5, 3) := dk_154 0 5 (dk_at dksX0_cadenza_0 5 rfl rfl)
theorem dX0_cadenza_8 : decode cX0_cadenza 8 = .ok (.iconst (-1), 1) := dk_2 (dk_at dksX0_cadenza_0 8 rfl rfl)
theorem dX0_cadenza_9 : decode cX0_cadenza 9 = .ok (.ireturn, 1) := dk_172 (dk_at dksX0_cadenza_0 9 rfl rfl)
theorem dX0_cadenza_10 : decode cX0_cadenza 10 = .ok (.aload_n 0, 1) := dk_42 (dk_at dksX0_cadenza_0 10 rfl rfl)
theorem dX0_cadenza_11 : decode cX0_cadenza 11 = .ok (.getfield 23, 3) := dk_180 0 23 (dk_at dksX0_cadenza_0 11 rfl rfl)
theorem dX0_cadenza_14 : decode cX0_cadenza 14 = .ok (.aload_n 0, 1) := dk_42 (dk_at dksX0_cadenza_0 14 rfl rfl)
theorem dX0_cadenza_15 : decode cX0_cadenza 15 = .ok (.getfield 19, 3) := dk_180 0 19 (dk_at dksX0_cadenza_0 15 rfl rfl)
theorem dX0_cadenza_18 : decode cX0_cadenza 18 = .ok (.invokevirtual 278, 3) := dk_182 1 22 (dk_at dksX0_cadenza_0 18 rfl rfl)
theorem dX0_cadenza_21 : decode cX0_cadenza 21 = .ok (.iconst 0, 1) := dk_3 (dk_at dksX0_cadenza_0 21 rfl rfl)
theorem dX0_cadenza_22 : decode cX0_cadenza 22 = .ok (.istore_n 2, 1) := dk_61 (dk_at dksX0_cadenza_0 22 rfl rfl)
theorem dX0_cadenza_23 : decode cX0_cadenza 23 = .ok (.iload_n 2, 1) := dk_28 (dk_at dksX0_cadenza_0 23 rfl rfl)
theorem dX0_cadenza_24 : decode cX0_cadenza 24 = .ok (.sipush 200, 3) := dk_17 0 200 (dk_at dksX0_cadenza_1 0 rfl rfl)
theorem dX0_cadenza_27 : decode cX0_cadenza 27 = .ok (.if_icmp .ge 53, 3) := dk_162 0 53 (dk_at dksX0_cadenza_1 3 rfl rfl)
theorem dX0_cadenza_30 : decode cX0_cadenza 30 = .ok (.aload_n 0, 1) := dk_42 (dk_at dksX0_cadenza_1 6 rfl rfl)
theorem dX0_cadenza_31 : decode cX0_cadenza 31 = .ok (.aload_n 0, 1) := dk_42 (dk_at dksX0_cadenza_1 7 rfl rfl)
theorem dX0_cadenza_32 : decode cX0_cadenza 32 = .ok (.getfield 23, 3) := dk_180 0 23 (dk_at dksX0_cadenza_1 8 rfl rfl)
theorem dX0_cadenza_35 : decode cX0_cadenza 35 = .ok (.invokevirtual 269, 3) := dk_182 1 13 (dk_at dksX0_cadenza_1 11 rfl rfl)
theorem dX0_cadenza_38 : decode cX0_cadenza 38 = .ok (.pop, 1) := dk_87 (dk_at dksX0_cadenza_1 14 rfl rfl)
theorem dX0_cadenza_39 : decode cX0_cadenza 39 = .ok (.aload_n 0, 1) := dk_42 (dk_at dksX0_cadenza_1 15 rfl rfl)
theorem dX0_cadenza_40 : decode cX0_cadenza 40 = .ok (.getfield 77, 3) := dk_180 0 77 (dk_at dksX0_cadenza_1 16 rfl rfl)
theorem dX0_cadenza_43 : decode cX0_cadenza 43 = .ok (.iload_n 1, 1) := dk_27 (dk_at dksX0_cadenza_1 19 rfl rfl)
theorem dX0_cadenza_44 : decode cX0_cadenza 44 = .ok (.iaload, 1) := dk_46 (dk_at dksX0_cadenza_1 20 rfl rfl)
theorem dX0_cadenza_45 : decode cX0_cadenza 45 = .ok (.ifCond .le 29, 3) := dk_158 0 29 (dk_at dksX0_cadenza_1 21 rfl rfl)
theorem dX0_cadenza_48 : decode cX0_cadenza 48 = .ok (.aload_n 0, 1) := dk_42 (dk_at dksX0_cadenza_2 0 rfl rfl)
theorem dX0_cadenza_49 : decode cX0_cadenza 49 = .ok (.getfield 77, 3) := dk_180 0 77 (dk_at dksX0_cadenza_2 1 rfl rfl)
theorem dX0_cadenza_52 : decode cX0_cadenza 52 = .ok (.invokestatic 222, 3) := dk_184 0 222 (dk_at dksX0_cadenza_2 4 rfl rfl)
theorem dX0_cadenza_55 : decode cX0_cadenza 55 = .ok (.aload_n 0, 1) := dk_42 (dk_at dksX0_cadenza_2 7 rfl rfl)
theorem dX0_cadenza_56 : decode cX0_cadenza 56 = .ok (.getfield 77, 3) := dk_180 0 77 (dk_at dksX0_cadenza_2 8 rfl rfl)
theorem dX0_cadenza_59 : decode cX0_cadenza 59 = .ok (.iload_n 1, 1) := dk_27 (dk_at dksX0_cadenza_2 11 rfl rfl)
theorem dX0_cadenza_60 : decode cX0_cadenza 60 = .ok (.iaload, 1) := dk_46 (dk_at dksX0_cadenza_2 12 rfl rfl)
theorem dX0_cadenza_61 : decode cX0_cadenza 61 = .ok (.if_icmp .ne 13, 3) := dk_160 0 13 (dk_at dksX0_cadenza_2 13 rfl rfl)
theorem dX0_cadenza_64 : decode cX0_cadenza 64 = .ok (.aload_n 0, 1) := dk_42 (dk_at dksX0_cadenza_2 16 rfl rfl)
theorem dX0_cadenza_65 : decode cX0_cadenza 65 = .ok (.getfield 23, 3) := dk_180 0 23 (dk_at dksX0_cadenza_2 17 rfl rfl)
theorem dX0_cadenza_68 : decode cX0_cadenza 68 = .ok (.getfield 199, 3) := dk_180 0 199 (dk_at dksX0_cadenza_2 20 rfl rfl)
theorem dX0_cadenza_71 : decode cX0_cadenza 71 = .ok (.iconst 1, 1) := dk_4 (dk_at dksX0_cadenza_2 23 rfl rfl)
theorem dX0_cadenza_72 : decode cX0_cadenza 72 = .ok (.isub, 1) := dk_100 (dk_at dksX0_cadenza_3 0 rfl rfl)
theorem dX0_cadenza_73 : decode cX0_cadenza 73 = .ok (.ireturn, 1) := dk_172 (dk_at dksX0_cadenza_3 1 rfl rfl)
theorem dX0_cadenza_74 : decode cX0_cadenza 74 = .ok (.iinc 2 1, 3) := dk_132 2 1 (dk_at dksX0_cadenza_3 2 rfl rfl)
theorem dX0_cadenza_77 : decode cX0_cadenza 77 = .ok (.goto (-54), 3) := dk_167 255 202 (dk_at dksX0_cadenza_3 5 rfl rfl)
theorem dX0_cadenza_80 : decode cX0_cadenza 80 = .ok (.bipush (-2), 2) := dk_16 254 (dk_at dksX0_cadenza_3 8 rfl rfl)
theorem dX0_cadenza_82 : decode cX0_cadenza 82 = .ok (.ireturn, 1) := dk_172 (dk_at dksX0_cadenza_3 10 rfl rfl)
abbrev cX0_longest : ByteArray := prog_1_method_35_code
def yX0_longest : MethodName := ⟨RX0, "longest", "(II)I"⟩
def dkwX0_longest_7 : List UInt8 := [167, 0, 5, 21, 5, 172]
abbrev dktX0_longest_7 : List UInt8 := dkwX0_longest_7 ++ []
def dkwX0_longest_6 : List UInt8 := [167, 255, 174, 28, 154, 0, 11, 3, 29, 184, 1, 7, 167, 0, 15, 28, 4, 160, 0, 8, 21, 4]
abbrev dktX0_longest_6 : List UInt8 := dkwX0_longest_6 ++ dktX0_longest_7
def dkwX0_longest_5 : List UInt8 := [42, 180, 0, 23, 180, 0, 199, 4, 100, 54, 4, 21, 7, 54, 5, 132, 7, 1, 167, 255, 198, 132, 6, 1]
abbrev dktX0_longest_5 : List UInt8 := dkwX0_longest_5 ++ dktX0_longest_6
def dkwX0_longest_4 : List UInt8 := [180, 0, 168, 21, 7, 46, 29, 163, 0, 6, 167, 0, 29, 42, 180, 0, 23, 180, 0, 168, 21, 7, 46, 62]
abbrev dktX0_longest_4 : List UInt8 := dkwX0_longest_4 ++ dktX0_longest_5
def dkwX0_longest_3 : List UInt8 := [182, 1, 13, 87, 3, 54, 7, 21, 7, 42, 180, 0, 10, 182, 0, 121, 162, 0, 52, 42, 180, 0, 23]
abbrev dktX0_longest_3 : List UInt8 := dkwX0_longest_3 ++ dktX0_longest_4
def dkwX0_longest_2 : List UInt8 := [180, 0, 23, 42, 180, 0, 19, 182, 1, 22, 3, 54, 6, 21, 6, 27, 162, 0, 82, 42, 42, 180, 0, 23]
abbrev dktX0_longest_2 : List UInt8 := dkwX0_longest_2 ++ dktX0_longest_3
def dkwX0_longest_1 : List UInt8 := [20, 1, 37, 184, 0, 125, 154, 0, 5, 2, 172, 2, 62, 16, 254, 54, 4, 16, 254, 54, 5, 42]
abbrev dktX0_longest_1 : List UInt8 := dkwX0_longest_1 ++ dktX0_longest_2
def dkwX0_longest_0 : List UInt8 := [42, 182, 1, 26, 153, 0, 27, 27, 133, 10, 20, 1, 39, 184, 0, 125, 153, 0, 15, 28, 133, 9]
abbrev dktX0_longest_0 : List UInt8 := dkwX0_longest_0 ++ dktX0_longest_1
theorem dksX0_longest_0 : cX0_longest.data.toList.drop 0 = dktX0_longest_0 := by decide +kernel
theorem dksX0_longest_1 : cX0_longest.data.toList.drop 22 = dktX0_longest_1 := dk_seg dksX0_longest_0 22 rfl rfl
theorem dksX0_longest_2 : cX0_longest.data.toList.drop 44 = dktX0_longest_2 := dk_seg dksX0_longest_1 22 rfl rfl
theorem dksX0_longest_3 : cX0_longest.data.toList.drop 68 = dktX0_longest_3 := dk_seg dksX0_longest_2 24 rfl rfl
theorem dksX0_longest_4 : cX0_longest.data.toList.drop 91 = dktX0_longest_4 := dk_seg dksX0_longest_3 23 rfl rfl
theorem dksX0_longest_5 : cX0_longest.data.toList.drop 115 = dktX0_longest_5 := dk_seg dksX0_longest_4 24 rfl rfl
theorem dksX0_longest_6 : cX0_longest.data.toList.drop 139 = dktX0_longest_6 := dk_seg dksX0_longest_5 24 rfl rfl
theorem dksX0_longest_7 : cX0_longest.data.toList.drop 161 = dktX0_longest_7 := dk_seg dksX0_longest_6 22 rfl rfl
theorem dX0_longest_0 : decode cX0_longest 0 = .ok (.aload_n 0, 1) := dk_42 (dk_at dksX0_longest_0 0 rfl rfl)
theorem dX0_longest_1 : decode cX0_longest 1 = .ok (.invokevirtual 282, 3) := dk_182 1 26 (dk_at dksX0_longest_0 1 rfl rfl)
theorem dX0_longest_4 : decode cX0_longest 4 = .ok (.ifCond .eq 27, 3) := dk_153 0 27 (dk_at dksX0_longest_0 4 rfl rfl)
theorem dX0_longest_7 : decode cX0_longest 7 = .ok (.iload_n 1, 1) := dk_27 (dk_at dksX0_longest_0 7 rfl rfl)
theorem dX0_longest_8 : decode cX0_longest 8 = .ok (.i2l, 1) := dk_133 (dk_at dksX0_longest_0 8 rfl rfl)
theorem dX0_longest_9 : decode cX0_longest 9 = .ok (.lconst 1, 1) := dk_10 (dk_at dksX0_longest_0 9 rfl rfl)
theorem dX0_longest_10 : decode cX0_longest 10 = .ok (.ldc2_w 295, 3) := dk_20 1 39 (dk_at dksX0_longest_0 10 rfl rfl)
theorem dX0_longest_13 : decode cX0_longest 13 = .ok (.invokestatic 125, 3) := dk_184 0 125 (dk_at dksX0_longest_0 13 rfl rfl)
theorem dX0_longest_16 : decode cX0_longest 16 = .ok (.ifCond .eq 15, 3) := dk_153 0 15 (dk_at dksX0_longest_0 16 rfl rfl)
theorem dX0_longest_19 : decode cX0_longest 19 = .ok (.iload_n 2, 1) := dk_28 (dk_at dksX0_longest_0 19 rfl rfl)
theorem dX0_longest_20 : decode cX0_longest 20 = .ok (.i2l, 1) := dk_133 (dk_at dksX0_longest_0 20 rfl rfl)
theorem dX0_longest_21 : decode cX0_longest 21 = .ok (.lconst 0, 1) := dk_9 (dk_at dksX0_longest_0 21 rfl rfl)
theorem dX0_longest_22 : decode cX0_longest 22 = .ok (.ldc2_w 293, 3) := dk_20 1 37 (dk_at dksX0_longest_1 0 rfl rfl)
theorem dX0_longest_25 : decode cX0_longest 25 = .ok (.invokestatic 125, 3) := dk_184 0 125 (dk_at dksX0_longest_1 3 rfl rfl)
theorem dX0_longest_28 : decode cX0_longest 28 = .ok (.ifCond .ne 5, 3) := dk_154 0 5 (dk_at dksX0_longest_1 6 rfl rfl)
theorem dX0_longest_31 : decode cX0_longest 31 = .ok (.iconst (-1), 1) := dk_2 (dk_at dksX0_longest_1 9 rfl rfl)
theorem dX0_longest_32 : decode cX0_longest 32 = .ok (.ireturn, 1) := dk_172 (dk_at dksX0_longest_1 10 rfl rfl)
theorem dX0_longest_33 : decode cX0_longest 33 = .ok (.iconst (-1), 1) := dk_2 (dk_at dksX0_longest_1 11 rfl rfl)
theorem dX0_longest_34 : decode cX0_longest 34 = .ok (.istore_n 3, 1) := dk_62 (dk_at dksX0_longest_1 12 rfl rfl)
theorem dX0_longest_35 : decode cX0_longest 35 = .ok (.bipush (-2), 2) := dk_16 254 (dk_at dksX0_longest_1 13 rfl rfl)
theorem dX0_longest_37 : decode cX0_longest 37 = .ok (.istore 4, 2) := dk_54 4 (dk_at dksX0_longest_1 15 rfl rfl)
theorem dX0_longest_39 : decode cX0_longest 39 = .ok (.bipush (-2), 2) := dk_16 254 (dk_at dksX0_longest_1 17 rfl rfl)
theorem dX0_longest_41 : decode cX0_longest 41 = .ok (.istore 5, 2) := dk_54 5 (dk_at dksX0_longest_1 19 rfl rfl)
theorem dX0_longest_43 : decode cX0_longest 43 = .ok (.aload_n 0, 1) := dk_42 (dk_at dksX0_longest_1 21 rfl rfl)
theorem dX0_longest_44 : decode cX0_longest 44 = .ok (.getfield 23, 3) := dk_180 0 23 (dk_at dksX0_longest_2 0 rfl rfl)
theorem dX0_longest_47 : decode cX0_longest 47 = .ok (.aload_n 0, 1) := dk_42 (dk_at dksX0_longest_2 3 rfl rfl)
theorem dX0_longest_48 : decode cX0_longest 48 = .ok (.getfield 19, 3) := dk_180 0 19 (dk_at dksX0_longest_2 4 rfl rfl)
theorem dX0_longest_51 : decode cX0_longest 51 = .ok (.invokevirtual 278, 3) := dk_182 1 22 (dk_at dksX0_longest_2 7 rfl rfl)
theorem dX0_longest_54 : decode cX0_longest 54 = .ok (.iconst 0, 1) := dk_3 (dk_at dksX0_longest_2 10 rfl rfl)
theorem dX0_longest_55 : decode cX0_longest 55 = .ok (.istore 6, 2) := dk_54 6 (dk_at dksX0_longest_2 11 rfl rfl)
theorem dX0_longest_57 : decode cX0_longest 57 = .ok (.iload 6, 2) := dk_21 6 (dk_at dksX0_longest_2 13 rfl rfl)
theorem dX0_longest_59 : decode cX0_longest 59 = .ok (.iload_n 1, 1) := dk_27 (dk_at dksX0_longest_2 15 rfl rfl)
theorem dX0_longest_60 : decode cX0_longest 60 = .ok (.if_icmp .ge 82, 3) := dk_162 0 82 (dk_at dksX0_longest_2 16 rfl rfl)
theorem dX0_longest_63 : decode cX0_longest 63 = .ok (.aload_n 0, 1) := dk_42 (dk_at dksX0_longest_2 19 rfl rfl)
theorem dX0_longest_64 : decode cX0_longest 64 = .ok (.aload_n 0, 1) := dk_42 (dk_at dksX0_longest_2 20 rfl rfl)
theorem dX0_longest_65 : decode cX0_longest 65 = .ok (.getfield 23, 3) := dk_180 0 23 (dk_at dksX0_longest_2 21 rfl rfl)
theorem dX0_longest_68 : decode cX0_longest 68 = .ok (.invokevirtual 269, 3) := dk_182 1 13 (dk_at dksX0_longest_3 0 rfl rfl)
theorem dX0_longest_71 : decode cX0_longest 71 = .ok (.pop, 1) := dk_87 (dk_at dksX0_longest_3 3 rfl rfl)
theorem dX0_longest_72 : decode cX0_longest 72 = .ok (.iconst 0, 1) := dk_3 (dk_at dksX0_longest_3 4 rfl rfl)
theorem dX0_longest_73 : decode cX0_longest 73 = .ok (.istore 7, 2) := dk_54 7 (dk_at dksX0_longest_3 5 rfl rfl)
theorem dX0_longest_75 : decode cX0_longest 75 = .ok (.iload 7, 2) := dk_21 7 (dk_at dksX0_longest_3 7 rfl rfl)
theorem dX0_longest_77 : decode cX0_longest 77 = .ok (.aload_n 0, 1) := dk_42 (dk_at dksX0_longest_3 9 rfl rfl)
theorem dX0_longest_78 : decode cX0_longest 78 = .ok (.getfield 10, 3) := dk_180 0 10 (dk_at dksX0_longest_3 10 rfl rfl)
theorem dX0_longest_81 : decode cX0_longest 81 = .ok (.invokevirtual 121, 3) := dk_182 0 121 (dk_at dksX0_longest_3 13 rfl rfl)
theorem dX0_longest_84 : decode cX0_longest 84 = .ok (.if_icmp .ge 52, 3) := dk_162 0 52 (dk_at dksX0_longest_3 16 rfl rfl)
theorem dX0_longest_87 : decode cX0_longest 87 = .ok (.aload_n 0, 1) := dk_42 (dk_at dksX0_longest_3 19 rfl rfl)
theorem dX0_longest_88 : decode cX0_longest 88 = .ok (.getfield 23, 3) := dk_180 0 23 (dk_at dksX0_longest_3 20 rfl rfl)
theorem dX0_longest_91 : decode cX0_longest 91 = .ok (.getfield 168, 3) := dk_180 0 168 (dk_at dksX0_longest_4 0 rfl rfl)
theorem dX0_longest_94 : decode cX0_longest 94 = .ok (.iload 7, 2) := dk_21 7 (dk_at dksX0_longest_4 3 rfl rfl)
theorem dX0_longest_96 : decode cX0_longest 96 = .ok (.iaload, 1) := dk_46 (dk_at dksX0_longest_4 5 rfl rfl)
theorem dX0_longest_97 : decode cX0_longest 97 = .ok (.iload_n 3, 1) := dk_29 (dk_at dksX0_longest_4 6 rfl rfl)
theorem dX0_longest_98 : decode cX0_longest 98 = .ok (.if_icmp .gt 6, 3) := dk_163 0 6 (dk_at dksX0_longest_4 7 rfl rfl)
theorem dX0_longest_101 : decode cX0_longest 101 = .ok (.goto 29, 3) := dk_167 0 29 (dk_at dksX0_longest_4 10 rfl rfl)
theorem dX0_longest_104 : decode cX0_longest 104 = .ok (.aload_n 0, 1) := dk_42 (dk_at dksX0_longest_4 13 rfl rfl)
theorem dX0_longest_105 : decode cX0_longest 105 = .ok (.getfield 23, 3) := dk_180 0 23 (dk_at dksX0_longest_4 14 rfl rfl)
theorem dX0_longest_108 : decode cX0_longest 108 = .ok (.getfield 168, 3) := dk_180 0 168 (dk_at dksX0_longest_4 17 rfl rfl)
theorem dX0_longest_111 : decode cX0_longest 111 = .ok (.iload 7, 2) := dk_21 7 (dk_at dksX0_longest_4 20 rfl rfl)
theorem dX0_longest_113 : decode cX0_longest 113 = .ok (.iaload, 1) := dk_46 (dk_at dksX0_longest_4 22 rfl rfl)
theorem dX0_longest_114 : decode cX0_longest 114 = .ok (.istore_n 3, 1) := dk_62 (dk_at dksX0_longest_4 23 rfl rfl)
theorem dX0_longest_115 : decode cX0_longest 115 = .ok (.aload_n 0, 1) := dk_42 (dk_at dksX0_longest_5 0 rfl rfl)
theorem dX0_longest_116 : decode cX0_longest 116 = .ok (.getfield 23, 3) := dk_180 0 23 (dk_at dksX0_longest_5 1 rfl rfl)
theorem dX0_longest_119 : decode cX0_longest 119 = .ok (.getfield 199, 3) := dk_180 0 199 (dk_at dksX0_longest_5 4 rfl rfl)
theorem dX0_longest_122 : decode cX0_longest 122 = .ok (.iconst 1, 1) := dk_4 (dk_at dksX0_longest_5 7 rfl rfl)
theorem dX0_longest_123 : decode cX0_longest 123 = .ok (.isub, 1) := dk_100 (dk_at dksX0_longest_5 8 rfl rfl)
theorem dX0_longest_124 : decode cX0_longest 124 = .ok (.istore 4, 2) := dk_54 4 (dk_at dksX0_longest_5 9 rfl rfl)
theorem dX0_longest_126 : decode cX0_longest 126 = .ok (.iload 7, 2) := dk_21 7 (dk_at dksX0_longest_5 11 rfl rfl)
theorem dX0_longest_128 : decode cX0_longest 128 = .ok (.istore 5, 2) := dk_54 5 (dk_at dksX0_longest_5 13 rfl rfl)
theorem dX0_longest_130 : decode cX0_longest 130 = .ok (.iinc 7 1, 3) := dk_132 7 1 (dk_at dksX0_longest_5 15 rfl rfl)
theorem dX0_longest_133 : decode cX0_longest 133 = .ok (.goto (-58), 3) := dk_167 255 198 (dk_at dksX0_longest_5 18 rfl rfl)
theorem dX0_longest_136 : decode cX0_longest 136 = .ok (.iinc 6 1, 3) := dk_132 6 1 (dk_at dksX0_longest_5 21 rfl rfl)
theorem dX0_longest_139 : decode cX0_longest 139 = .ok (.goto (-82), 3) := dk_167 255 174 (dk_at dksX0_longest_6 0 rfl rfl)
theorem dX0_longest_142 : decode cX0_longest 142 = .ok (.iload_n 2, 1) := dk_28 (dk_at dksX0_longest_6 3 rfl rfl)
theorem dX0_longest_143 : decode cX0_longest 143 = .ok (.ifCond .ne 11, 3) := dk_154 0 11 (dk_at dksX0_longest_6 4 rfl rfl)
theorem dX0_longest_146 : decode cX0_longest 146 = .ok (.iconst 0, 1) := dk_3 (dk_at dksX0_longest_6 7 rfl rfl)
theorem dX0_longest_147 : decode cX0_longest 147 = .ok (.iload_n 3, 1) := dk_29 (dk_at dksX0_longest_6 8 rfl rfl)
theorem dX0_longest_148 : decode cX0_longest 148 = .ok (.invokestatic 263, 3) := dk_184 1 7 (dk_at dksX0_longest_6 9 rfl rfl)
theorem dX0_longest_151 : decode cX0_longest 151 = .ok (.goto 15, 3) := dk_167 0 15 (dk_at dksX0_longest_6 12 rfl rfl)
theorem dX0_longest_154 : decode cX0_longest 154 = .ok (.iload_n 2, 1) := dk_28 (dk_at dksX0_longest_6 15 rfl rfl)
theorem dX0_longest_155 : decode cX0_longest 155 = .ok (.iconst 1, 1) := dk_4 (dk_at dksX0_longest_6 16 rfl rfl)
theorem dX0_longest_156 : decode cX0_longest 156 = .ok (.if_icmp .ne 8, 3) := dk_160 0 8 (dk_at dksX0_longest_6 17 rfl rfl)
theorem dX0_longest_159 : decode cX0_longest 159 = .ok (.iload 4, 2) := dk_21 4 (dk_at dksX0_longest_6 20 rfl rfl)
theorem dX0_longest_161 : decode cX0_longest 161 = .ok (.goto 5, 3) := dk_167 0 5 (dk_at dksX0_longest_7 0 rfl rfl)
theorem dX0_longest_164 : decode cX0_longest 164 = .ok (.iload 5, 2) := dk_21 5 (dk_at dksX0_longest_7 3 rfl rfl)
theorem dX0_longest_166 : decode cX0_longest 166 = .ok (.ireturn, 1) := dk_172 (dk_at dksX0_longest_7 5 rfl rfl)
abbrev cX0_chord : ByteArray := prog_1_method_36_code
def yX0_chord : MethodName := ⟨RX0, "chord", "(I)I"⟩
def dkwX0_chord_4 : List UInt8 := [167, 255, 184, 27, 154, 0, 14, 42, 180, 0, 19, 28, 182, 0, 219, 167, 0, 4, 28, 172]
abbrev dktX0_chord_4 : List UInt8 := dkwX0_chord_4 ++ []
def dkwX0_chord_3 : List UInt8 := [21, 4, 154, 0, 17, 29, 184, 0, 214, 28, 184, 0, 214, 161, 0, 6, 167, 0, 5, 29, 61, 132, 3, 1]
abbrev dktX0_chord_3 : List UInt8 := dkwX0_chord_3 ++ dktX0_chord_4
def dkwX0_chord_2 : List UInt8 := [28, 182, 0, 219, 100, 54, 4, 42, 180, 0, 10, 29, 182, 1, 41, 153, 0, 29, 21, 4, 155, 0, 24]
abbrev dktX0_chord_2 : List UInt8 := dkwX0_chord_2 ++ dktX0_chord_3
def dkwX0_chord_1 : List UInt8 := [4, 42, 180, 0, 10, 182, 0, 121, 120, 162, 0, 65, 42, 180, 0, 19, 29, 182, 0, 219, 42, 180, 0, 19]
abbrev dktX0_chord_1 : List UInt8 := dkwX0_chord_1 ++ dktX0_chord_2
def dkwX0_chord_0 : List UInt8 := [42, 182, 1, 26, 153, 0, 13, 27, 133, 9, 10, 184, 0, 125, 154, 0, 5, 2, 172, 3, 61, 4, 62, 29]
abbrev dktX0_chord_0 : List UInt8 := dkwX0_chord_0 ++ dktX0_chord_1
theorem dksX0_chord_0 : cX0_chord.data.toList.drop 0 = dktX0_chord_0 := by decide +kernel
theorem dksX0_chord_1 : cX0_chord.data.toList.drop 24 = dktX0_chord_1 := dk_seg dksX0_chord_0 24 rfl rfl
theorem dksX0_chord_2 : cX0_chord.data.toList.drop 48 = dktX0_chord_2 := dk_seg dksX0_chord_1 24 rfl rfl
theorem dksX0_chord_3 : cX0_chord.data.toList.drop 71 = dktX0_chord_3 := dk_seg dksX0_chord_2 23 rfl rfl
theorem dksX0_chord_4 : cX0_chord.data.toList.drop 95 = dktX0_chord_4 := dk_seg dksX0_chord_3 24 rfl rfl
theorem dX0_chord_0 : decode cX0_chord 0 = .ok (.aload_n 0, 1) := dk_42 (dk_at dksX0_chord_0 0 rfl rfl)
theorem dX0_chord_1 : decode cX0_chord 1 = .ok (.invokevirtual 282, 3) := dk_182 1 26 (dk_at dksX0_chord_0 1 rfl rfl)
theorem dX0_chord_4 : decode cX0_chord 4 = .ok (.ifCond .eq 13, 3) := dk_153 0 13 (dk_at dksX0_chord_0 4 rfl rfl)
theorem dX0_chord_7 : decode cX0_chord 7 = .ok (.iload_n 1, 1) := dk_27 (dk_at dksX0_chord_0 7 rfl rfl)
theorem dX0_chord_8 : decode cX0_chord 8 = .ok (.i2l, 1) := dk_133 (dk_at dksX0_chord_0 8 rfl rfl)
theorem dX0_chord_9 : decode cX0_chord 9 = .ok (.lconst 0, 1) := dk_9 (dk_at dksX0_chord_0 9 rfl rfl)
theorem dX0_chord_10 : decode cX0_chord 10 = .ok (.lconst 1, 1) := dk_10 (dk_at dksX0_chord_0 10 rfl rfl)
theorem dX0_chord_11 : decode cX0_chord 11 = .ok (.invokestatic 125, 3) := dk_184 0 125 (dk_at dksX0_chord_0 11 rfl rfl)
theorem dX0_chord_14 : decode cX0_chord 14 = .ok (.ifCond .ne 5, 3) := dk_154 0 5 (dk_at dksX0_chord_0 14 rfl rfl)
theorem dX0_chord_17 : decode cX0_chord 17 = .ok (.iconst (-1), 1) := dk_2 (dk_at dksX0_chord_0 17 rfl rfl)
theorem dX0_chord_18 : decode cX0_chord 18 = .ok (.ireturn, 1) := dk_172 (dk_at dksX0_chord_0 18 rfl rfl)
theorem dX0_chord_19 : decode cX0_chord 19 = .ok (.iconst 0, 1) := dk_3 (dk_at dksX0_chord_0 19 rfl rfl)
theorem dX0_chord_20 : decode cX0_chord 20 = .ok (.istore_n 2, 1) := dk_61 (dk_at dksX0_chord_0 20 rfl rfl)
theorem dX0_chord_21 : decode cX0_chord 21 = .ok (.iconst 1, 1) := dk_4 (dk_at dksX0_chord_0 21 rfl rfl)
theorem dX0_chord_22 : decode cX0_chord 22 = .ok (.istore_n 3, 1) := dk_62 (dk_at dksX0_chord_0 22 rfl rfl)
theorem dX0_chord_23 : decode cX0_chord 23 = .ok (.iload_n 3, 1) := dk_29 (dk_at dksX0_chord_0 23 rfl rfl)
theorem dX0_chord_24 : decode cX0_chord 24 = .ok (.iconst 1, 1) := dk_4 (dk_at dksX0_chord_1 0 rfl rfl)
theorem dX0_chord_25 : decode cX0_chord 25 = .ok (.aload_n 0, 1) := dk_42 (dk_at dksX0_chord_1 1 rfl rfl)
theorem dX0_chord_26 : decode cX0_chord 26 = .ok (.getfield 10, 3) := dk_180 0 10 (dk_at dksX0_chord_1 2 rfl rfl)
theorem dX0_chord_29 : decode cX0_chord 29 = .ok (.invokevirtual 121, 3) := dk_182 0 121 (dk_at dksX0_chord_1 5 rfl rfl)
theorem dX0_chord_32 : decode cX0_chord 32 = .ok (.ishl, 1) := dk_120 (dk_at dksX0_chord_1 8 rfl rfl)
theorem dX0_chord_33 : decode cX0_chord 33 = .ok (.if_icmp .ge 65, 3) := dk_162 0 65 (dk_at dksX0_chord_1 9 rfl rfl)
theorem dX0_chord_36 : decode cX0_chord 36 = .ok (.aload_n 0, 1) := dk_42 (dk_at dksX0_chord_1 12 rfl rfl)
theorem dX0_chord_37 : decode cX0_chord 37 = .ok (.getfield 19, 3) := dk_180 0 19 (dk_at dksX0_chord_1 13 rfl rfl)
theorem dX0_chord_40 : decode cX0_chord 40 = .ok (.iload_n 3, 1) := dk_29 (dk_at dksX0_chord_1 16 rfl rfl)
theorem dX0_chord_41 : decode cX0_chord 41 = .ok (.invokevirtual 219, 3) := dk_182 0 219 (dk_at dksX0_chord_1 17 rfl rfl)
theorem dX0_chord_44 : decode cX0_chord 44 = .ok (.aload_n 0, 1) := dk_42 (dk_at dksX0_chord_1 20 rfl rfl)
theorem dX0_chord_45 : decode cX0_chord 45 = .ok (.getfield 19, 3) := dk_180 0 19 (dk_at dksX0_chord_1 21 rfl rfl)
theorem dX0_chord_48 : decode cX0_chord 48 = .ok (.iload_n 2, 1) := dk_28 (dk_at dksX0_chord_2 0 rfl rfl)
theorem dX0_chord_49 : decode cX0_chord 49 = .ok (.invokevirtual 219, 3) := dk_182 0 219 (dk_at dksX0_chord_2 1 rfl rfl)
theorem dX0_chord_52 : decode cX0_chord 52 = .ok (.isub, 1) := dk_100 (dk_at dksX0_chord_2 4 rfl rfl)
theorem dX0_chord_53 : decode cX0_chord 53 = .ok (.istore 4, 2) := dk_54 4 (dk_at dksX0_chord_2 5 rfl rfl)
theorem dX0_chord_55 : decode cX0_chord 55 = .ok (.aload_n 0, 1) := dk_42 (dk_at dksX0_chord_2 7 rfl rfl)
theorem dX0_chord_56 : decode cX0_chord 56 = .ok (.getfield 10, 3) := dk_180 0 10 (dk_at dksX0_chord_2 8 rfl rfl)
theorem dX0_chord_59 : decode cX0_chord 59 = .ok (.iload_n 3, 1) := dk_29 (dk_at dksX0_chord_2 11 rfl rfl)
theorem dX0_chord_60 : decode cX0_chord 60 = .ok (.invokevirtual 297, 3) := dk_182 1 41 (dk_at dksX0_chord_2 12 rfl rfl)
theorem dX0_chord_63 : decode cX0_chord 63 = .ok (.ifCond .eq 29, 3) := dk_153 0 29 (dk_at dksX0_chord_2 15 rfl rfl)
theorem dX0_chord_66 : decode cX0_chord 66 = .ok (.iload 4, 2) := dk_21 4 (dk_at dksX0_chord_2 18 rfl rfl)
theorem dX0_chord_68 : decode cX0_chord 68 = .ok (.ifCond .lt 24, 3) := dk_155 0 24 (dk_at dksX0_chord_2 20 rfl rfl)
theorem dX0_chord_71 : decode cX0_chord 71 = .ok (.iload 4, 2) := dk_21 4 (dk_at dksX0_chord_3 0 rfl rfl)
theorem dX0_chord_73 : decode cX0_chord 73 = .ok (.ifCond .ne 17, 3) := dk_154 0 17 (dk_at dksX0_chord_3 2 rfl rfl)
theorem dX0_chord_76 : decode cX0_chord 76 = .ok (.iload_n 3, 1) := dk_29 (dk_at dksX0_chord_3 5 rfl rfl)
theorem dX0_chord_77 : decode cX0_chord 77 = .ok (.invokestatic 214, 3) := dk_184 0 214 (dk_at dksX0_chord_3 6 rfl rfl)
theorem dX0_chord_80 : decode cX0_chord 80 = .ok (.iload_n 2, 1) := dk_28 (dk_at dksX0_chord_3 9 rfl rfl)
theorem dX0_chord_81 : decode cX0_chord 81 = .ok (.invokestatic 214, 3) := dk_184 0 214 (dk_at dksX0_chord_3 10 rfl rfl)
theorem dX0_chord_84 : decode cX0_chord 84 = .ok (.if_icmp .lt 6, 3) := dk_161 0 6 (dk_at dksX0_chord_3 13 rfl rfl)
theorem dX0_chord_87 : decode cX0_chord 87 = .ok (.goto 5, 3) := dk_167 0 5 (dk_at dksX0_chord_3 16 rfl rfl)
theorem dX0_chord_90 : decode cX0_chord 90 = .ok (.iload_n 3, 1) := dk_29 (dk_at dksX0_chord_3 19 rfl rfl)
theorem dX0_chord_91 : decode cX0_chord 91 = .ok (.istore_n 2, 1) := dk_61 (dk_at dksX0_chord_3 20 rfl rfl)
theorem dX0_chord_92 : decode cX0_chord 92 = .ok (.iinc 3 1, 3) := dk_132 3 1 (dk_at dksX0_chord_3 21 rfl rfl)
theorem dX0_chord_95 : decode cX0_chord 95 = .ok (.goto (-72), 3) := dk_167 255 184 (dk_at dksX0_chord_4 0 rfl rfl)
theorem dX0_chord_98 : decode cX0_chord 98 = .ok (.iload_n 1, 1) := dk_27 (dk_at dksX0_chord_4 3 rfl rfl)
theorem dX0_chord_99 : decode cX0_chord 99 = .ok (.ifCond .ne 14, 3) := dk_154 0 14 (dk_at dksX0_chord_4 4 rfl rfl)
theorem dX0_chord_102 : decode cX0_chord 102 = .ok (.aload_n 0, 1) := dk_42 (dk_at dksX0_chord_4 7 rfl rfl)
theorem dX0_chord_103 : decode cX0_chord 103 = .ok (.getfield 19, 3) := dk_180 0 19 (dk_at dksX0_chord_4 8 rfl rfl)
theorem dX0_chord_106 : decode cX0_chord 106 = .ok (.iload_n 2, 1) := dk_28 (dk_at dksX0_chord_4 11 rfl rfl)
theorem dX0_chord_107 : decode cX0_chord 107 = .ok (.invokevirtual 219, 3) := dk_182 0 219 (dk_at dksX0_chord_4 12 rfl rfl)
theorem dX0_chord_110 : decode cX0_chord 110 = .ok (.goto 4, 3) := dk_167 0 4 (dk_at dksX0_chord_4 15 rfl rfl)
theorem dX0_chord_113 : decode cX0_chord 113 = .ok (.iload_n 2, 1) := dk_28 (dk_at dksX0_chord_4 18 rfl rfl)
theorem dX0_chord_114 : decode cX0_chord 114 = .ok (.ireturn, 1) := dk_172 (dk_at dksX0_chord_4 19 rfl rfl)
abbrev cX0_beats : ByteArray := prog_1_method_38_code
def yX0_beats : MethodName := ⟨RX0, "beats", "(I)I"⟩
def dkwX0_beats_2 : List UInt8 := [167, 0, 22, 42, 27, 182, 0, 164, 153, 0, 12, 42, 180, 0, 88, 27, 46, 167, 0, 5, 16, 254, 172]
abbrev dktX0_beats_2 : List UInt8 := dkwX0_beats_2 ++ []
def dkwX0_beats_1 : List UInt8 := [3, 61, 42, 3, 28, 184, 1, 44, 154, 0, 9, 132, 2, 1, 167, 255, 244, 27, 2, 160, 0, 7, 28]
abbrev dktX0_beats_1 : List UInt8 := dkwX0_beats_1 ++ dktX0_beats_2
def dkwX0_beats_0 : List UInt8 := [42, 182, 1, 26, 153, 0, 17, 27, 133, 20, 0, 162, 20, 1, 48, 184, 0, 125, 154, 0, 6, 16, 253, 172]
abbrev dktX0_beats_0 : List UInt8 := dkwX0_beats_0 ++ dktX0_beats_1
theorem dksX0_beats_0 : cX0_beats.data.toList.drop 0 = dktX0_beats_0 := by decide +kernel
theorem dksX0_beats_1 : cX0_beats.data.toList.drop 24 = dktX0_beats_1 := dk_seg dksX0_beats_0 24 rfl rfl
theorem dksX0_beats_2 : cX0_beats.data.toList.drop 47 = dktX0_beats_2 := dk_seg dksX0_beats_1 23 rfl rfl
theorem dX0_beats_0 : decode cX0_beats 0 = .ok (.aload_n 0, 1) := dk_42 (dk_at dksX0_beats_0 0 rfl rfl)
theorem dX0_beats_1 : decode cX0_beats 1 = .ok (.invokevirtual 282, 3) := dk_182 1 26 (dk_at dksX0_beats_0 1 rfl rfl)
theorem dX0_beats_4 : decode cX0_beats 4 = .ok (.ifCond .eq 17, 3) := dk_153 0 17 (dk_at dksX0_beats_0 4 rfl rfl)
theorem dX0_beats_7 : decode cX0_beats 7 = .ok (.iload_n 1, 1) := dk_27 (dk_at dksX0_beats_0 7 rfl rfl)
theorem dX0_beats_8 : decode cX0_beats 8 = .ok (.i2l, 1) := dk_133 (dk_at dksX0_beats_0 8 rfl rfl)
theorem dX0_beats_9 : decode cX0_beats 9 = .ok (.ldc2_w 162, 3) := dk_20 0 162 (dk_at dksX0_beats_0 9 rfl rfl)
theorem dX0_beats_12 : decode cX0_beats 12 = .ok (.ldc2_w 304, 3) := dk_20 1 48 (dk_at dksX0_beats_0 12 rfl rfl)
theorem dX0_beats_15 : decode cX0_beats 15 = .ok (.invokestatic 125, 3) := dk_184 0 125 (dk_at dksX0_beats_0 15 rfl rfl)
theorem dX0_beats_18 : decode cX0_beats 18 = .ok (.ifCond .ne 6, 3) := dk_154 0 6 (dk_at dksX0_beats_0 18 rfl rfl)
theorem dX0_beats_21 : decode cX0_beats 21 = .ok (.bipush (-3), 2) := dk_16 253 (dk_at dksX0_beats_0 21 rfl rfl)
theorem dX0_beats_23 : decode cX0_beats 23 = .ok (.ireturn, 1) := dk_172 (dk_at dksX0_beats_0 23 rfl rfl)
theorem dX0_beats_24 : decode cX0_beats 24 = .ok (.iconst 0, 1) := dk_3 (dk_at dksX0_beats_1 0 rfl rfl)
theorem dX0_beats_25 : decode cX0_beats 25 = .ok (.istore_n 2, 1) := dk_61 (dk_at dksX0_beats_1 1 rfl rfl)
theorem dX0_beats_26 : decode cX0_beats 26 = .ok (.aload_n 0, 1) := dk_42 (dk_at dksX0_beats_1 2 rfl rfl)
theorem dX0_beats_27 : decode cX0_beats 27 = .ok (.iconst 0, 1) := dk_3 (dk_at dksX0_beats_1 3 rfl rfl)
theorem dX0_beats_28 : decode cX0_beats 28 = .ok (.iload_n 2, 1) := dk_28 (dk_at dksX0_beats_1 4 rfl rfl)
theorem dX0_beats_29 : decode cX0_beats 29 = .ok (.invokestatic 300, 3) := dk_184 1 44 (dk_at dksX0_beats_1 5 rfl rfl)
theorem dX0_beats_32 : decode cX0_beats 32 = .ok (.ifCond .ne 9, 3) := dk_154 0 9 (dk_at dksX0_beats_1 8 rfl rfl)
theorem dX0_beats_35 : decode cX0_beats 35 = .ok (.iinc 2 1, 3) := dk_132 2 1 (dk_at dksX0_beats_1 11 rfl rfl)
theorem dX0_beats_38 : decode cX0_beats 38 = .ok (.goto (-12), 3) := dk_167 255 244 (dk_at dksX0_beats_1 14 rfl rfl)
theorem dX0_beats_41 : decode cX0_beats 41 = .ok (.iload_n 1, 1) := dk_27 (dk_at dksX0_beats_1 17 rfl rfl)
theorem dX0_beats_42 : decode cX0_beats 42 = .ok (.iconst (-1), 1) := dk_2 (dk_at dksX0_beats_1 18 rfl rfl)
theorem dX0_beats_43 : decode cX0_beats 43 = .ok (.if_icmp .ne 7, 3) := dk_160 0 7 (dk_at dksX0_beats_1 19 rfl rfl)
theorem dX0_beats_46 : decode cX0_beats 46 = .ok (.iload_n 2, 1) := dk_28 (dk_at dksX0_beats_1 22 rfl rfl)
theorem dX0_beats_47 : decode cX0_beats 47 = .ok (.goto 22, 3) := dk_167 0 22 (dk_at dksX0_beats_2 0 rfl rfl)
theorem dX0_beats_50 : decode cX0_beats 50 = .ok (.aload_n 0, 1) := dk_42 (dk_at dksX0_beats_2 3 rfl rfl)
theorem dX0_beats_51 : decode cX0_beats 51 = .ok (.iload_n 1, 1) := dk_27 (dk_at dksX0_beats_2 4 rfl rfl)
theorem dX0_beats_52 : decode cX0_beats 52 = .ok (.invokevirtual 164, 3) := dk_182 0 164 (dk_at dksX0_beats_2 5 rfl rfl)
theorem dX0_beats_55 : decode cX0_beats 55 = .ok (.ifCond .eq 12, 3) := dk_153 0 12 (dk_at dksX0_beats_2 8 rfl rfl)
theorem dX0_beats_58 : decode cX0_beats 58 = .ok (.aload_n 0, 1) := dk_42 (dk_at dksX0_beats_2 11 rfl rfl)
theorem dX0_beats_59 : decode cX0_beats 59 = .ok (.getfield 88, 3) := dk_180 0 88 (dk_at dksX0_beats_2 12 rfl rfl)
theorem dX0_beats_62 : decode cX0_beats 62 = .ok (.iload_n 1, 1) := dk_27 (dk_at dksX0_beats_2 15 rfl rfl)
theorem dX0_beats_63 : decode cX0_beats 63 = .ok (.iaload, 1) := dk_46 (dk_at dksX0_beats_2 16 rfl rfl)
theorem dX0_beats_64 : decode cX0_beats 64 = .ok (.goto 5, 3) := dk_167 0 5 (dk_at dksX0_beats_2 17 rfl rfl)
theorem dX0_beats_67 : decode cX0_beats 67 = .ok (.bipush (-2), 2) := dk_16 254 (dk_at dksX0_beats_2 20 rfl rfl)
theorem dX0_beats_69 : decode cX0_beats 69 = .ok (.ireturn, 1) := dk_172 (dk_at dksX0_beats_2 22 rfl rfl)
abbrev cX0_canLay : ByteArray := prog_1_method_37_code
def yX0_canLay : MethodName := ⟨RX0, "canLay", "(LDutyBeats;II)Z"⟩
def dkwX0_canLay_4 : List UInt8 := [4, 172, 132, 3, 1, 167, 255, 171, 3, 172]
abbrev dktX0_canLay_4 : List UInt8 := dkwX0_canLay_4 ++ []
def dkwX0_canLay_3 : List UInt8 := [154, 0, 6, 167, 0, 23, 42, 180, 0, 88, 27, 29, 79, 42, 27, 4, 96, 28, 184, 1, 44, 153, 0, 5]
abbrev dktX0_canLay_3 : List UInt8 := dkwX0_canLay_3 ++ dktX0_canLay_4
def dkwX0_canLay_2 : List UInt8 := [180, 0, 177, 27, 46, 21, 5, 184, 0, 202, 153, 0, 6, 3, 54, 4, 132, 5, 1, 167, 255, 216, 21, 4]
abbrev dktX0_canLay_2 : List UInt8 := dkwX0_canLay_2 ++ dktX0_canLay_3
def dkwX0_canLay_1 : List UInt8 := [54, 5, 21, 5, 27, 162, 0, 40, 42, 180, 0, 88, 21, 5, 46, 29, 160, 0, 23, 42, 180, 0, 10]
abbrev dktX0_canLay_1 : List UInt8 := dkwX0_canLay_1 ++ dktX0_canLay_2
def dkwX0_canLay_0 : List UInt8 := [27, 42, 180, 0, 10, 182, 0, 121, 160, 0, 5, 4, 172, 3, 62, 29, 28, 162, 0, 86, 4, 54, 4, 3]
abbrev dktX0_canLay_0 : List UInt8 := dkwX0_canLay_0 ++ dktX0_canLay_1
theorem dksX0_canLay_0 : cX0_canLay.data.toList.drop 0 = dktX0_canLay_0 := by decide +kernel
theorem dksX0_canLay_1 : cX0_canLay.data.toList.drop 24 = dktX0_canLay_1 := dk_seg dksX0_canLay_0 24 rfl rfl
theorem dksX0_canLay_2 : cX0_canLay.data.toList.drop 47 = dktX0_canLay_2 := dk_seg dksX0_canLay_1 23 rfl rfl
theorem dksX0_canLay_3 : cX0_canLay.data.toList.drop 71 = dktX0_canLay_3 := dk_seg dksX0_canLay_2 24 rfl rfl
theorem dksX0_canLay_4 : cX0_canLay.data.toList.drop 95 = dktX0_canLay_4 := dk_seg dksX0_canLay_3 24 rfl rfl
theorem dX0_canLay_0 : decode cX0_canLay 0 = .ok (.iload_n 1, 1) := dk_27 (dk_at dksX0_canLay_0 0 rfl rfl)
theorem dX0_canLay_1 : decode cX0_canLay 1 = .ok (.aload_n 0, 1) := dk_42 (dk_at dksX0_canLay_0 1 rfl rfl)
theorem dX0_canLay_2 : decode cX0_canLay 2 = .ok (.getfield 10, 3) := dk_180 0 10 (dk_at dksX0_canLay_0 2 rfl rfl)
theorem dX0_canLay_5 : decode cX0_canLay 5 = .ok (.invokevirtual 121, 3) := dk_182 0 121 (dk_at dksX0_canLay_0 5 rfl rfl)
theorem dX0_canLay_8 : decode cX0_canLay 8 = .ok (.if_icmp .ne 5, 3) := dk_160 0 5 (dk_at dksX0_canLay_0 8 rfl rfl)
theorem dX0_canLay_11 : decode cX0_canLay 11 = .ok (.iconst 1, 1) := dk_4 (dk_at dksX0_canLay_0 11 rfl rfl)
theorem dX0_canLay_12 : decode cX0_canLay 12 = .ok (.ireturn, 1) := dk_172 (dk_at dksX0_canLay_0 12 rfl rfl)
theorem dX0_canLay_13 : decode cX0_canLay 13 = .ok (.iconst 0, 1) := dk_3 (dk_at dksX0_canLay_0 13 rfl rfl)
theorem dX0_canLay_14 : decode cX0_canLay 14 = .ok (.istore_n 3, 1) := dk_62 (dk_at dksX0_canLay_0 14 rfl rfl)
theorem dX0_canLay_15 : decode cX0_canLay 15 = .ok (.iload_n 3, 1) := dk_29 (dk_at dksX0_canLay_0 15 rfl rfl)
theorem dX0_canLay_16 : decode cX0_canLay 16 = .ok (.iload_n 2, 1) := dk_28 (dk_at dksX0_canLay_0 16 rfl rfl)
theorem dX0_canLay_17 : decode cX0_canLay 17 = .ok (.if_icmp .ge 86, 3) := dk_162 0 86 (dk_at dksX0_canLay_0 17 rfl rfl)
theorem dX0_canLay_20 : decode cX0_canLay 20 = .ok (.iconst 1, 1) := dk_4 (dk_at dksX0_canLay_0 20 rfl rfl)
theorem dX0_canLay_21 : decode cX0_canLay 21 = .ok (.istore 4, 2) := dk_54 4 (dk_at dksX0_canLay_0 21 rfl rfl)
theorem dX0_canLay_23 : decode cX0_canLay 23 = .ok (.iconst 0, 1) := dk_3 (dk_at dksX0_canLay_0 23 rfl rfl)
theorem dX0_canLay_24 : decode cX0_canLay 24 = .ok (.istore 5, 2) := dk_54 5 (dk_at dksX0_canLay_1 0 rfl rfl)
theorem dX0_canLay_26 : decode cX0_canLay 26 = .ok (.iload 5, 2) := dk_21 5 (dk_at dksX0_canLay_1 2 rfl rfl)
theorem dX0_canLay_28 : decode cX0_canLay 28 = .ok (.iload_n 1, 1) := dk_27 (dk_at dksX0_canLay_1 4 rfl rfl)
theorem dX0_canLay_29 : decode cX0_canLay 29 = .ok (.if_icmp .ge 40, 3) := dk_162 0 40 (dk_at dksX0_canLay_1 5 rfl rfl)
theorem dX0_canLay_32 : decode cX0_canLay 32 = .ok (.aload_n 0, 1) := dk_42 (dk_at dksX0_canLay_1 8 rfl rfl)
theorem dX0_canLay_33 : decode cX0_canLay 33 = .ok (.getfield 88, 3) := dk_180 0 88 (dk_at dksX0_canLay_1 9 rfl rfl)
theorem dX0_canLay_36 : decode cX0_canLay 36 = .ok (.iload 5, 2) := dk_21 5 (dk_at dksX0_canLay_1 12 rfl rfl)
theorem dX0_canLay_38 : decode cX0_canLay 38 = .ok (.iaload, 1) := dk_46 (dk_at dksX0_canLay_1 14 rfl rfl)
theorem dX0_canLay_39 : decode cX0_canLay 39 = .ok (.iload_n 3, 1) := dk_29 (dk_at dksX0_canLay_1 15 rfl rfl)
theorem dX0_canLay_40 : decode cX0_canLay 40 = .ok (.if_icmp .ne 23, 3) := dk_160 0 23 (dk_at dksX0_canLay_1 16 rfl rfl)
theorem dX0_canLay_43 : decode cX0_canLay 43 = .ok (.aload_n 0, 1) := dk_42 (dk_at dksX0_canLay_1 19 rfl rfl)
theorem dX0_canLay_44 : decode cX0_canLay 44 = .ok (.getfield 10, 3) := dk_180 0 10 (dk_at dksX0_canLay_1 20 rfl rfl)
theorem dX0_canLay_47 : decode cX0_canLay 47 = .ok (.getfield 177, 3) := dk_180 0 177 (dk_at dksX0_canLay_2 0 rfl rfl)
theorem dX0_canLay_50 : decode cX0_canLay 50 = .ok (.iload_n 1, 1) := dk_27 (dk_at dksX0_canLay_2 3 rfl rfl)
theorem dX0_canLay_51 : decode cX0_canLay 51 = .ok (.iaload, 1) := dk_46 (dk_at dksX0_canLay_2 4 rfl rfl)
theorem dX0_canLay_52 : decode cX0_canLay 52 = .ok (.iload 5, 2) := dk_21 5 (dk_at dksX0_canLay_2 5 rfl rfl)
theorem dX0_canLay_54 : decode cX0_canLay 54 = .ok (.invokestatic 202, 3) := dk_184 0 202 (dk_at dksX0_canLay_2 7 rfl rfl)
theorem dX0_canLay_57 : decode cX0_canLay 57 = .ok (.ifCond .eq 6, 3) := dk_153 0 6 (dk_at dksX0_canLay_2 10 rfl rfl)
theorem dX0_canLay_60 : decode cX0_canLay 60 = .ok (.iconst 0, 1) := dk_3 (dk_at dksX0_canLay_2 13 rfl rfl)
theorem dX0_canLay_61 : decode cX0_canLay 61 = .ok (.istore 4, 2) := dk_54 4 (dk_at dksX0_canLay_2 14 rfl rfl)
theorem dX0_canLay_63 : decode cX0_canLay 63 = .ok (.iinc 5 1, 3) := dk_132 5 1 (dk_at dksX0_canLay_2 16 rfl rfl)
theorem dX0_canLay_66 : decode cX0_canLay 66 = .ok (.goto (-40), 3) := dk_167 255 216 (dk_at dksX0_canLay_2 19 rfl rfl)
theorem dX0_canLay_69 : decode cX0_canLay 69 = .ok (.iload 4, 2) := dk_21 4 (dk_at dksX0_canLay_2 22 rfl rfl)
theorem dX0_canLay_71 : decode cX0_canLay 71 = .ok (.ifCond .ne 6, 3) := dk_154 0 6 (dk_at dksX0_canLay_3 0 rfl rfl)
theorem dX0_canLay_74 : decode cX0_canLay 74 = .ok (.goto 23, 3) := dk_167 0 23 (dk_at dksX0_canLay_3 3 rfl rfl)
theorem dX0_canLay_77 : decode cX0_canLay 77 = .ok (.aload_n 0, 1) := dk_42 (dk_at dksX0_canLay_3 6 rfl rfl)
theorem dX0_canLay_78 : decode cX0_canLay 78 = .ok (.getfield 88, 3) := dk_180 0 88 (dk_at dksX0_canLay_3 7 rfl rfl)
theorem dX0_canLay_81 : decode cX0_canLay 81 = .ok (.iload_n 1, 1) := dk_27 (dk_at dksX0_canLay_3 10 rfl rfl)
theorem dX0_canLay_82 : decode cX0_canLay 82 = .ok (.iload_n 3, 1) := dk_29 (dk_at dksX0_canLay_3 11 rfl rfl)
theorem dX0_canLay_83 : decode cX0_canLay 83 = .ok (.iastore, 1) := dk_79 (dk_at dksX0_canLay_3 12 rfl rfl)
theorem dX0_canLay_84 : decode cX0_canLay 84 = .ok (.aload_n 0, 1) := dk_42 (dk_at dksX0_canLay_3 13 rfl rfl)
theorem dX0_canLay_85 : decode cX0_canLay 85 = .ok (.iload_n 1, 1) := dk_27 (dk_at dksX0_canLay_3 14 rfl rfl)
theorem dX0_canLay_86 : decode cX0_canLay 86 = .ok (.iconst 1, 1) := dk_4 (dk_at dksX0_canLay_3 15 rfl rfl)
theorem dX0_canLay_87 : decode cX0_canLay 87 = .ok (.iadd, 1) := dk_96 (dk_at dksX0_canLay_3 16 rfl rfl)
theorem dX0_canLay_88 : decode cX0_canLay 88 = .ok (.iload_n 2, 1) := dk_28 (dk_at dksX0_canLay_3 17 rfl rfl)
theorem dX0_canLay_89 : decode cX0_canLay 89 = .ok (.invokestatic 300, 3) := dk_184 1 44 (dk_at dksX0_canLay_3 18 rfl rfl)
theorem dX0_canLay_92 : decode cX0_canLay 92 = .ok (.ifCond .eq 5, 3) := dk_153 0 5 (dk_at dksX0_canLay_3 21 rfl rfl)
theorem dX0_canLay_95 : decode cX0_canLay 95 = .ok (.iconst 1, 1) := dk_4 (dk_at dksX0_canLay_4 0 rfl rfl)
theorem dX0_canLay_96 : decode cX0_canLay 96 = .ok (.ireturn, 1) := dk_172 (dk_at dksX0_canLay_4 1 rfl rfl)
theorem dX0_canLay_97 : decode cX0_canLay 97 = .ok (.iinc 3 1, 3) := dk_132 3 1 (dk_at dksX0_canLay_4 2 rfl rfl)
theorem dX0_canLay_100 : decode cX0_canLay 100 = .ok (.goto (-85), 3) := dk_167 255 171 (dk_at dksX0_canLay_4 5 rfl rfl)
theorem dX0_canLay_103 : decode cX0_canLay 103 = .ok (.iconst 0, 1) := dk_3 (dk_at dksX0_canLay_4 8 rfl rfl)
theorem dX0_canLay_104 : decode cX0_canLay 104 = .ok (.ireturn, 1) := dk_172 (dk_at dksX0_canLay_4 9 rfl rfl)
abbrev cX0_bestScore : ByteArray := prog_1_method_39_code
def yX0_bestScore : MethodName := ⟨RX0, "bestScore", "(II)I"⟩
def dkwX0_bestScore_7 : List UInt8 := [160, 0, 8, 21, 4, 167, 0, 5, 21, 5, 172]
abbrev dktX0_bestScore_7 : List UInt8 := dkwX0_bestScore_7 ++ []
def dkwX0_bestScore_6 : List UInt8 := [54, 5, 132, 7, 1, 167, 255, 186, 132, 6, 1, 167, 255, 165, 28, 154, 0, 7, 29, 167, 0, 15, 28, 4]
abbrev dktX0_bestScore_6 : List UInt8 := dkwX0_bestScore_6 ++ dktX0_bestScore_7
def dkwX0_bestScore_5 : List UInt8 := [27, 182, 1, 52, 54, 8, 21, 8, 29, 161, 0, 6, 167, 0, 14, 21, 8, 62, 21, 6, 54, 4, 21, 7]
abbrev dktX0_bestScore_5 : List UInt8 := dkwX0_bestScore_5 ++ dktX0_bestScore_6
def dkwX0_bestScore_4 : List UInt8 := [180, 0, 19, 182, 1, 22, 42, 180, 0, 23, 180, 0, 193, 21, 6, 92, 46, 4, 21, 7, 120, 130, 79, 42]
abbrev dktX0_bestScore_4 : List UInt8 := dkwX0_bestScore_4 ++ dktX0_bestScore_5
def dkwX0_bestScore_3 : List UInt8 := [162, 0, 85, 3, 54, 7, 21, 7, 42, 180, 0, 10, 182, 0, 121, 162, 0, 64, 42, 180, 0, 23, 42]
abbrev dktX0_bestScore_3 : List UInt8 := dkwX0_bestScore_3 ++ dktX0_bestScore_4
def dkwX0_bestScore_2 : List UInt8 := [182, 1, 52, 62, 16, 254, 54, 4, 16, 254, 54, 5, 3, 54, 6, 21, 6, 42, 180, 0, 10, 180, 0, 118]
abbrev dktX0_bestScore_2 : List UInt8 := dkwX0_bestScore_2 ++ dktX0_bestScore_3
def dkwX0_bestScore_1 : List UInt8 := [20, 1, 37, 184, 0, 125, 154, 0, 5, 2, 172, 42, 180, 0, 23, 42, 180, 0, 19, 182, 1, 22, 42, 27]
abbrev dktX0_bestScore_1 : List UInt8 := dkwX0_bestScore_1 ++ dktX0_bestScore_2
def dkwX0_bestScore_0 : List UInt8 := [42, 182, 1, 26, 153, 0, 27, 27, 133, 10, 20, 1, 50, 184, 0, 125, 153, 0, 15, 28, 133, 9]
abbrev dktX0_bestScore_0 : List UInt8 := dkwX0_bestScore_0 ++ dktX0_bestScore_1
theorem dksX0_bestScore_0 : cX0_bestScore.data.toList.drop 0 = dktX0_bestScore_0 := by decide +kernel
theorem dksX0_bestScore_1 : cX0_bestScore.data.toList.drop 22 = dktX0_bestScore_1 := dk_seg dksX0_bestScore_0 22 rfl rfl
theorem dksX0_bestScore_2 : cX0_bestScore.data.toList.drop 46 = dktX0_bestScore_2 := dk_seg dksX0_bestScore_1 24 rfl rfl
theorem dksX0_bestScore_3 : cX0_bestScore.data.toList.drop 70 = dktX0_bestScore_3 := dk_seg dksX0_bestScore_2 24 rfl rfl
theorem dksX0_bestScore_4 : cX0_bestScore.data.toList.drop 93 = dktX0_bestScore_4 := dk_seg dksX0_bestScore_3 23 rfl rfl
theorem dksX0_bestScore_5 : cX0_bestScore.data.toList.drop 117 = dktX0_bestScore_5 := dk_seg dksX0_bestScore_4 24 rfl rfl
theorem dksX0_bestScore_6 : cX0_bestScore.data.toList.drop 141 = dktX0_bestScore_6 := dk_seg dksX0_bestScore_5 24 rfl rfl
theorem dksX0_bestScore_7 : cX0_bestScore.data.toList.drop 165 = dktX0_bestScore_7 := dk_seg dksX0_bestScore_6 24 rfl rfl
theorem dX0_bestScore_0 : decode cX0_bestScore 0 = .ok (.aload_n 0, 1) := dk_42 (dk_at dksX0_bestScore_0 0 rfl rfl)
theorem dX0_bestScore_1 : decode cX0_bestScore 1 = .ok (.invokevirtual 282, 3) := dk_182 1 26 (dk_at dksX0_bestScore_0 1 rfl rfl)
theorem dX0_bestScore_4 : decode cX0_bestScore 4 = .ok (.ifCond .eq 27, 3) := dk_153 0 27 (dk_at dksX0_bestScore_0 4 rfl rfl)
theorem dX0_bestScore_7 : decode cX0_bestScore 7 = .ok (.iload_n 1, 1) := dk_27 (dk_at dksX0_bestScore_0 7 rfl rfl)
theorem dX0_bestScore_8 : decode cX0_bestScore 8 = .ok (.i2l, 1) := dk_133 (dk_at dksX0_bestScore_0 8 rfl rfl)
theorem dX0_bestScore_9 : decode cX0_bestScore 9 = .ok (.lconst 1, 1) := dk_10 (dk_at dksX0_bestScore_0 9 rfl rfl)
theorem dX0_bestScore_10 : decode cX0_bestScore 10 = .ok (.ldc2_w 306, 3) := dk_20 1 50 (dk_at dksX0_bestScore_0 10 rfl rfl)
theorem dX0_bestScore_13 : decode cX0_bestScore 13 = .ok (.invokestatic 125, 3) := dk_184 0 125 (dk_at dksX0_bestScore_0 13 rfl rfl)
theorem dX0_bestScore_16 : decode cX0_bestScore 16 = .ok (.ifCond .eq 15, 3) := dk_153 0 15 (dk_at dksX0_bestScore_0 16 rfl rfl)
theorem dX0_bestScore_19 : decode cX0_bestScore 19 = .ok (.iload_n 2, 1) := dk_28 (dk_at dksX0_bestScore_0 19 rfl rfl)
theorem dX0_bestScore_20 : decode cX0_bestScore 20 = .ok (.i2l, 1) := dk_133 (dk_at dksX0_bestScore_0 20 rfl rfl)
theorem dX0_bestScore_21 : decode cX0_bestScore 21 = .ok (.lconst 0, 1) := dk_9 (dk_at dksX0_bestScore_0 21 rfl rfl)
theorem dX0_bestScore_22 : decode cX0_bestScore 22 = .ok (.ldc2_w 293, 3) := dk_20 1 37 (dk_at dksX0_bestScore_1 0 rfl rfl)
theorem dX0_bestScore_25 : decode cX0_bestScore 25 = .ok (.invokestatic 125, 3) := dk_184 0 125 (dk_at dksX0_bestScore_1 3 rfl rfl)
theorem dX0_bestScore_28 : decode cX0_bestScore 28 = .ok (.ifCond .ne 5, 3) := dk_154 0 5 (dk_at dksX0_bestScore_1 6 rfl rfl)
theorem dX0_bestScore_31 : decode cX0_bestScore 31 = .ok (.iconst (-1), 1) := dk_2 (dk_at dksX0_bestScore_1 9 rfl rfl)
theorem dX0_bestScore_32 : decode cX0_bestScore 32 = .ok (.ireturn, 1) := dk_172 (dk_at dksX0_bestScore_1 10 rfl rfl)
theorem dX0_bestScore_33 : decode cX0_bestScore 33 = .ok (.aload_n 0, 1) := dk_42 (dk_at dksX0_bestScore_1 11 rfl rfl)
theorem dX0_bestScore_34 : decode cX0_bestScore 34 = .ok (.getfield 23, 3) := dk_180 0 23 (dk_at dksX0_bestScore_1 12 rfl rfl)
theorem dX0_bestScore_37 : decode cX0_bestScore 37 = .ok (.aload_n 0, 1) := dk_42 (dk_at dksX0_bestScore_1 15 rfl rfl)
theorem dX0_bestScore_38 : decode cX0_bestScore 38 = .ok (.getfield 19, 3) := dk_180 0 19 (dk_at dksX0_bestScore_1 16 rfl rfl)
theorem dX0_bestScore_41 : decode cX0_bestScore 41 = .ok (.invokevirtual 278, 3) := dk_182 1 22 (dk_at dksX0_bestScore_1 19 rfl rfl)
theorem dX0_bestScore_44 : decode cX0_bestScore 44 = .ok (.aload_n 0, 1) := dk_42 (dk_at dksX0_bestScore_1 22 rfl rfl)
theorem dX0_bestScore_45 : decode cX0_bestScore 45 = .ok (.iload_n 1, 1) := dk_27 (dk_at dksX0_bestScore_1 23 rfl rfl)
theorem dX0_bestScore_46 : decode cX0_bestScore 46 = .ok (.invokevirtual 308, 3) := dk_182 1 52 (dk_at dksX0_bestScore_2 0 rfl rfl)
theorem dX0_bestScore_49 : decode cX0_bestScore 49 = .ok (.istore_n 3, 1) := dk_62 (dk_at dksX0_bestScore_2 3 rfl rfl)
theorem dX0_bestScore_50 : decode cX0_bestScore 50 = .ok (.bipush (-2), 2) := dk_16 254 (dk_at dksX0_bestScore_2 4 rfl rfl)
theorem dX0_bestScore_52 : decode cX0_bestScore 52 = .ok (.istore 4, 2) := dk_54 4 (dk_at dksX0_bestScore_2 6 rfl rfl)
theorem dX0_bestScore_54 : decode cX0_bestScore 54 = .ok (.bipush (-2), 2) := dk_16 254 (dk_at dksX0_bestScore_2 8 rfl rfl)
theorem dX0_bestScore_56 : decode cX0_bestScore 56 = .ok (.istore 5, 2) := dk_54 5 (dk_at dksX0_bestScore_2 10 rfl rfl)
theorem dX0_bestScore_58 : decode cX0_bestScore 58 = .ok (.iconst 0, 1) := dk_3 (dk_at dksX0_bestScore_2 12 rfl rfl)
theorem dX0_bestScore_59 : decode cX0_bestScore 59 = .ok (.istore 6, 2) := dk_54 6 (dk_at dksX0_bestScore_2 13 rfl rfl)
theorem dX0_bestScore_61 : decode cX0_bestScore 61 = .ok (.iload 6, 2) := dk_21 6 (dk_at dksX0_bestScore_2 15 rfl rfl)
theorem dX0_bestScore_63 : decode cX0_bestScore 63 = .ok (.aload_n 0, 1) := dk_42 (dk_at dksX0_bestScore_2 17 rfl rfl)
theorem dX0_bestScore_64 : decode cX0_bestScore 64 = .ok (.getfield 10, 3) := dk_180 0 10 (dk_at dksX0_bestScore_2 18 rfl rfl)
theorem dX0_bestScore_67 : decode cX0_bestScore 67 = .ok (.getfield 118, 3) := dk_180 0 118 (dk_at dksX0_bestScore_2 21 rfl rfl)
theorem dX0_bestScore_70 : decode cX0_bestScore 70 = .ok (.if_icmp .ge 85, 3) := dk_162 0 85 (dk_at dksX0_bestScore_3 0 rfl rfl)
theorem dX0_bestScore_73 : decode cX0_bestScore 73 = .ok (.iconst 0, 1) := dk_3 (dk_at dksX0_bestScore_3 3 rfl rfl)
theorem dX0_bestScore_74 : decode cX0_bestScore 74 = .ok (.istore 7, 2) := dk_54 7 (dk_at dksX0_bestScore_3 4 rfl rfl)
theorem dX0_bestScore_76 : decode cX0_bestScore 76 = .ok (.iload 7, 2) := dk_21 7 (dk_at dksX0_bestScore_3 6 rfl rfl)
theorem dX0_bestScore_78 : decode cX0_bestScore 78 = .ok (.aload_n 0, 1) := dk_42 (dk_at dksX0_bestScore_3 8 rfl rfl)
theorem dX0_bestScore_79 : decode cX0_bestScore 79 = .ok (.getfield 10, 3) := dk_180 0 10 (dk_at dksX0_bestScore_3 9 rfl rfl)
theorem dX0_bestScore_82 : decode cX0_bestScore 82 = .ok (.invokevirtual 121, 3) := dk_182 0 121 (dk_at dksX0_bestScore_3 12 rfl rfl)
theorem dX0_bestScore_85 : decode cX0_bestScore 85 = .ok (.if_icmp .ge 64, 3) := dk_162 0 64 (dk_at dksX0_bestScore_3 15 rfl rfl)
theorem dX0_bestScore_88 : decode cX0_bestScore 88 = .ok (.aload_n 0, 1) := dk_42 (dk_at dksX0_bestScore_3 18 rfl rfl)
theorem dX0_bestScore_89 : decode cX0_bestScore 89 = .ok (.getfield 23, 3) := dk_180 0 23 (dk_at dksX0_bestScore_3 19 rfl rfl)
theorem dX0_bestScore_92 : decode cX0_bestScore 92 = .ok (.aload_n 0, 1) := dk_42 (dk_at dksX0_bestScore_3 22 rfl rfl)
theorem dX0_bestScore_93 : decode cX0_bestScore 93 = .ok (.getfield 19, 3) := dk_180 0 19 (dk_at dksX0_bestScore_4 0 rfl rfl)
theorem dX0_bestScore_96 : decode cX0_bestScore 96 = .ok (.invokevirtual 278, 3) := dk_182 1 22 (dk_at dksX0_bestScore_4 3 rfl rfl)
theorem dX0_bestScore_99 : decode cX0_bestScore 99 = .ok (.aload_n 0, 1) := dk_42 (dk_at dksX0_bestScore_4 6 rfl rfl)
theorem dX0_bestScore_100 : decode cX0_bestScore 100 = .ok (.getfield 23, 3) := dk_180 0 23 (dk_at dksX0_bestScore_4 7 rfl rfl)
theorem dX0_bestScore_103 : decode cX0_bestScore 103 = .ok (.getfield 193, 3) := dk_180 0 193 (dk_at dksX0_bestScore_4 10 rfl rfl)
theorem dX0_bestScore_106 : decode cX0_bestScore 106 = .ok (.iload 6, 2) := dk_21 6 (dk_at dksX0_bestScore_4 13 rfl rfl)
theorem dX0_bestScore_108 : decode cX0_bestScore 108 = .ok (.dup2, 1) := dk_92 (dk_at dksX0_bestScore_4 15 rfl rfl)
theorem dX0_bestScore_109 : decode cX0_bestScore 109 = .ok (.iaload, 1) := dk_46 (dk_at dksX0_bestScore_4 16 rfl rfl)
theorem dX0_bestScore_110 : decode cX0_bestScore 110 = .ok (.iconst 1, 1) := dk_4 (dk_at dksX0_bestScore_4 17 rfl rfl)
theorem dX0_bestScore_111 : decode cX0_bestScore 111 = .ok (.iload 7, 2) := dk_21 7 (dk_at dksX0_bestScore_4 18 rfl rfl)
theorem dX0_bestScore_113 : decode cX0_bestScore 113 = .ok (.ishl, 1) := dk_120 (dk_at dksX0_bestScore_4 20 rfl rfl)
theorem dX0_bestScore_114 : decode cX0_bestScore 114 = .ok (.ixor, 1) := dk_130 (dk_at dksX0_bestScore_4 21 rfl rfl)
theorem dX0_bestScore_115 : decode cX0_bestScore 115 = .ok (.iastore, 1) := dk_79 (dk_at dksX0_bestScore_4 22 rfl rfl)
theorem dX0_bestScore_116 : decode cX0_bestScore 116 = .ok (.aload_n 0, 1) := dk_42 (dk_at dksX0_bestScore_4 23 rfl rfl)
theorem dX0_bestScore_117 : decode cX0_bestScore 117 = .ok (.iload_n 1, 1) := dk_27 (dk_at dksX0_bestScore_5 0 rfl rfl)
theorem dX0_bestScore_118 : decode cX0_bestScore 118 = .ok (.invokevirtual 308, 3) := dk_182 1 52 (dk_at dksX0_bestScore_5 1 rfl rfl)
theorem dX0_bestScore_121 : decode cX0_bestScore 121 = .ok (.istore 8, 2) := dk_54 8 (dk_at dksX0_bestScore_5 4 rfl rfl)
theorem dX0_bestScore_123 : decode cX0_bestScore 123 = .ok (.iload 8, 2) := dk_21 8 (dk_at dksX0_bestScore_5 6 rfl rfl)
theorem dX0_bestScore_125 : decode cX0_bestScore 125 = .ok (.iload_n 3, 1) := dk_29 (dk_at dksX0_bestScore_5 8 rfl rfl)
theorem dX0_bestScore_126 : decode cX0_bestScore 126 = .ok (.if_icmp .lt 6, 3) := dk_161 0 6 (dk_at dksX0_bestScore_5 9 rfl rfl)
theorem dX0_bestScore_129 : decode cX0_bestScore 129 = .ok (.goto 14, 3) := dk_167 0 14 (dk_at dksX0_bestScore_5 12 rfl rfl)
theorem dX0_bestScore_132 : decode cX0_bestScore 132 = .ok (.iload 8, 2) := dk_21 8 (dk_at dksX0_bestScore_5 15 rfl rfl)
theorem dX0_bestScore_134 : decode cX0_bestScore 134 = .ok (.istore_n 3, 1) := dk_62 (dk_at dksX0_bestScore_5 17 rfl rfl)
theorem dX0_bestScore_135 : decode cX0_bestScore 135 = .ok (.iload 6, 2) := dk_21 6 (dk_at dksX0_bestScore_5 18 rfl rfl)
theorem dX0_bestScore_137 : decode cX0_bestScore 137 = .ok (.istore 4, 2) := dk_54 4 (dk_at dksX0_bestScore_5 20 rfl rfl)
theorem dX0_bestScore_139 : decode cX0_bestScore 139 = .ok (.iload 7, 2) := dk_21 7 (dk_at dksX0_bestScore_5 22 rfl rfl)
theorem dX0_bestScore_141 : decode cX0_bestScore 141 = .ok (.istore 5, 2) := dk_54 5 (dk_at dksX0_bestScore_6 0 rfl rfl)
theorem dX0_bestScore_143 : decode cX0_bestScore 143 = .ok (.iinc 7 1, 3) := dk_132 7 1 (dk_at dksX0_bestScore_6 2 rfl rfl)
theorem dX0_bestScore_146 : decode cX0_bestScore 146 = .ok (.goto (-70), 3) := dk_167 255 186 (dk_at dksX0_bestScore_6 5 rfl rfl)
theorem dX0_bestScore_149 : decode cX0_bestScore 149 = .ok (.iinc 6 1, 3) := dk_132 6 1 (dk_at dksX0_bestScore_6 8 rfl rfl)
theorem dX0_bestScore_152 : decode cX0_bestScore 152 = .ok (.goto (-91), 3) := dk_167 255 165 (dk_at dksX0_bestScore_6 11 rfl rfl)
theorem dX0_bestScore_155 : decode cX0_bestScore 155 = .ok (.iload_n 2, 1) := dk_28 (dk_at dksX0_bestScore_6 14 rfl rfl)
theorem dX0_bestScore_156 : decode cX0_bestScore 156 = .ok (.ifCond .ne 7, 3) := dk_154 0 7 (dk_at dksX0_bestScore_6 15 rfl rfl)
theorem dX0_bestScore_159 : decode cX0_bestScore 159 = .ok (.iload_n 3, 1) := dk_29 (dk_at dksX0_bestScore_6 18 rfl rfl)
theorem dX0_bestScore_160 : decode cX0_bestScore 160 = .ok (.goto 15, 3) := dk_167 0 15 (dk_at dksX0_bestScore_6 19 rfl rfl)
theorem dX0_bestScore_163 : decode cX0_bestScore 163 = .ok (.iload_n 2, 1) := dk_28 (dk_at dksX0_bestScore_6 22 rfl rfl)
theorem dX0_bestScore_164 : decode cX0_bestScore 164 = .ok (.iconst 1, 1) := dk_4 (dk_at dksX0_bestScore_6 23 rfl rfl)
theorem dX0_bestScore_165 : decode cX0_bestScore 165 = .ok (.if_icmp .ne 8, 3) := dk_160 0 8 (dk_at dksX0_bestScore_7 0 rfl rfl)
theorem dX0_bestScore_168 : decode cX0_bestScore 168 = .ok (.iload 4, 2) := dk_21 4 (dk_at dksX0_bestScore_7 3 rfl rfl)
theorem dX0_bestScore_170 : decode cX0_bestScore 170 = .ok (.goto 5, 3) := dk_167 0 5 (dk_at dksX0_bestScore_7 5 rfl rfl)
theorem dX0_bestScore_173 : decode cX0_bestScore 173 = .ok (.iload 5, 2) := dk_21 5 (dk_at dksX0_bestScore_7 8 rfl rfl)
theorem dX0_bestScore_175 : decode cX0_bestScore 175 = .ok (.ireturn, 1) := dk_172 (dk_at dksX0_bestScore_7 10 rfl rfl)
abbrev cX0_waitedIn : ByteArray := prog_1_method_23_code
def yX0_waitedIn : MethodName := ⟨RX0, "waitedIn", "(I)I"⟩
def dkwX0_waitedIn_0 : List UInt8 := [42, 27, 182, 1, 16, 42, 180, 0, 23, 180, 0, 183, 184, 0, 222, 172]
abbrev dktX0_waitedIn_0 : List UInt8 := dkwX0_waitedIn_0 ++ []
theorem dksX0_waitedIn_0 : cX0_waitedIn.data.toList.drop 0 = dktX0_waitedIn_0 := by decide +kernel
theorem dX0_waitedIn_0 : decode cX0_waitedIn 0 = .ok (.aload_n 0, 1) := dk_42 (dk_at dksX0_waitedIn_0 0 rfl rfl)
theorem dX0_waitedIn_1 : decode cX0_waitedIn 1 = .ok (.iload_n 1, 1) := dk_27 (dk_at dksX0_waitedIn_0 1 rfl rfl)
theorem dX0_waitedIn_2 : decode cX0_waitedIn 2 = .ok (.invokevirtual 272, 3) := dk_182 1 16 (dk_at dksX0_waitedIn_0 2 rfl rfl)
theorem dX0_waitedIn_5 : decode cX0_waitedIn 5 = .ok (.aload_n 0, 1) := dk_42 (dk_at dksX0_waitedIn_0 5 rfl rfl)
theorem dX0_waitedIn_6 : decode cX0_waitedIn 6 = .ok (.getfield 23, 3) := dk_180 0 23 (dk_at dksX0_waitedIn_0 6 rfl rfl)
theorem dX0_waitedIn_9 : decode cX0_waitedIn 9 = .ok (.getfield 183, 3) := dk_180 0 183 (dk_at dksX0_waitedIn_0 9 rfl rfl)
theorem dX0_waitedIn_12 : decode cX0_waitedIn 12 = .ok (.invokestatic 222, 3) := dk_184 0 222 (dk_at dksX0_waitedIn_0 12 rfl rfl)
theorem dX0_waitedIn_15 : decode cX0_waitedIn 15 = .ok (.ireturn, 1) := dk_172 (dk_at dksX0_waitedIn_0 15 rfl rfl)
abbrev cX0_row : ByteArray := prog_1_method_42_code
def yX0_row : MethodName := ⟨RX0, "row", "(II)I"⟩
def dkwX0_row_4 : List UInt8 := [180, 0, 94, 28, 5, 100, 46, 167, 0, 5, 16, 254, 172]
abbrev dktX0_row_4 : List UInt8 := dkwX0_row_4 ++ []
def dkwX0_row_3 : List UInt8 := [154, 0, 10, 42, 180, 1, 63, 167, 0, 7, 42, 180, 1, 66, 172, 28, 5, 100, 27, 162, 0, 14, 42]
abbrev dktX0_row_3 : List UInt8 := dkwX0_row_3 ++ dktX0_row_4
def dkwX0_row_2 : List UInt8 := [42, 180, 0, 19, 182, 1, 22, 42, 3, 27, 184, 1, 59, 42, 2, 181, 0, 66, 28, 5, 162, 0, 19, 28]
abbrev dktX0_row_2 : List UInt8 := dkwX0_row_2 ++ dktX0_row_3
def dkwX0_row_1 : List UInt8 := [20, 1, 71, 184, 0, 125, 154, 0, 7, 17, 216, 240, 172, 42, 2, 181, 1, 63, 42, 180, 0, 97, 3, 50]
abbrev dktX0_row_1 : List UInt8 := dkwX0_row_1 ++ dktX0_row_2
def dkwX0_row_0 : List UInt8 := [42, 182, 1, 26, 153, 0, 27, 27, 133, 10, 20, 1, 69, 184, 0, 125, 153, 0, 15, 28, 133, 9]
abbrev dktX0_row_0 : List UInt8 := dkwX0_row_0 ++ dktX0_row_1
theorem dksX0_row_0 : cX0_row.data.toList.drop 0 = dktX0_row_0 := by decide +kernel
theorem dksX0_row_1 : cX0_row.data.toList.drop 22 = dktX0_row_1 := dk_seg dksX0_row_0 22 rfl rfl
theorem dksX0_row_2 : cX0_row.data.toList.drop 46 = dktX0_row_2 := dk_seg dksX0_row_1 24 rfl rfl
theorem dksX0_row_3 : cX0_row.data.toList.drop 70 = dktX0_row_3 := dk_seg dksX0_row_2 24 rfl rfl
theorem dksX0_row_4 : cX0_row.data.toList.drop 93 = dktX0_row_4 := dk_seg dksX0_row_3 23 rfl rfl
theorem dX0_row_0 : decode cX0_row 0 = .ok (.aload_n 0, 1) := dk_42 (dk_at dksX0_row_0 0 rfl rfl)
theorem dX0_row_1 : decode cX0_row 1 = .ok (.invokevirtual 282, 3) := dk_182 1 26 (dk_at dksX0_row_0 1 rfl rfl)
theorem dX0_row_4 : decode cX0_row 4 = .ok (.ifCond .eq 27, 3) := dk_153 0 27 (dk_at dksX0_row_0 4 rfl rfl)
theorem dX0_row_7 : decode cX0_row 7 = .ok (.iload_n 1, 1) := dk_27 (dk_at dksX0_row_0 7 rfl rfl)
theorem dX0_row_8 : decode cX0_row 8 = .ok (.i2l, 1) := dk_133 (dk_at dksX0_row_0 8 rfl rfl)
theorem dX0_row_9 : decode cX0_row 9 = .ok (.lconst 1, 1) := dk_10 (dk_at dksX0_row_0 9 rfl rfl)
theorem dX0_row_10 : decode cX0_row 10 = .ok (.ldc2_w 325, 3) := dk_20 1 69 (dk_at dksX0_row_0 10 rfl rfl)
theorem dX0_row_13 : decode cX0_row 13 = .ok (.invokestatic 125, 3) := dk_184 0 125 (dk_at dksX0_row_0 13 rfl rfl)
theorem dX0_row_16 : decode cX0_row 16 = .ok (.ifCond .eq 15, 3) := dk_153 0 15 (dk_at dksX0_row_0 16 rfl rfl)
theorem dX0_row_19 : decode cX0_row 19 = .ok (.iload_n 2, 1) := dk_28 (dk_at dksX0_row_0 19 rfl rfl)
theorem dX0_row_20 : decode cX0_row 20 = .ok (.i2l, 1) := dk_133 (dk_at dksX0_row_0 20 rfl rfl)
theorem dX0_row_21 : decode cX0_row 21 = .ok (.lconst 0, 1) := dk_9 (dk_at dksX0_row_0 21 rfl rfl)
theorem dX0_row_22 : decode cX0_row 22 = .ok (.ldc2_w 327, 3) := dk_20 1 71 (dk_at dksX0_row_1 0 rfl rfl)
theorem dX0_row_25 : decode cX0_row 25 = .ok (.invokestatic 125, 3) := dk_184 0 125 (dk_at dksX0_row_1 3 rfl rfl)
theorem dX0_row_28 : decode cX0_row 28 = .ok (.ifCond .ne 7, 3) := dk_154 0 7 (dk_at dksX0_row_1 6 rfl rfl)
theorem dX0_row_31 : decode cX0_row 31 = .ok (.sipush (-10000), 3) := dk_17 216 240 (dk_at dksX0_row_1 9 rfl rfl)
theorem dX0_row_34 : decode cX0_row 34 = .ok (.ireturn, 1) := dk_172 (dk_at dksX0_row_1 12 rfl rfl)
theorem dX0_row_35 : decode cX0_row 35 = .ok (.aload_n 0, 1) := dk_42 (dk_at dksX0_row_1 13 rfl rfl)
theorem dX0_row_36 : decode cX0_row 36 = .ok (.iconst (-1), 1) := dk_2 (dk_at dksX0_row_1 14 rfl rfl)
theorem dX0_row_37 : decode cX0_row 37 = .ok (.putfield 319, 3) := dk_181 1 63 (dk_at dksX0_row_1 15 rfl rfl)
theorem dX0_row_40 : decode cX0_row 40 = .ok (.aload_n 0, 1) := dk_42 (dk_at dksX0_row_1 18 rfl rfl)
theorem dX0_row_41 : decode cX0_row 41 = .ok (.getfield 97, 3) := dk_180 0 97 (dk_at dksX0_row_1 19 rfl rfl)
theorem dX0_row_44 : decode cX0_row 44 = .ok (.iconst 0, 1) := dk_3 (dk_at dksX0_row_1 22 rfl rfl)
theorem dX0_row_45 : decode cX0_row 45 = .ok (.aaload, 1) := dk_50 (dk_at dksX0_row_1 23 rfl rfl)
theorem dX0_row_46 : decode cX0_row 46 = .ok (.aload_n 0, 1) := dk_42 (dk_at dksX0_row_2 0 rfl rfl)
theorem dX0_row_47 : decode cX0_row 47 = .ok (.getfield 19, 3) := dk_180 0 19 (dk_at dksX0_row_2 1 rfl rfl)
theorem dX0_row_50 : decode cX0_row 50 = .ok (.invokevirtual 278, 3) := dk_182 1 22 (dk_at dksX0_row_2 4 rfl rfl)
theorem dX0_row_53 : decode cX0_row 53 = .ok (.aload_n 0, 1) := dk_42 (dk_at dksX0_row_2 7 rfl rfl)
theorem dX0_row_54 : decode cX0_row 54 = .ok (.iconst 0, 1) := dk_3 (dk_at dksX0_row_2 8 rfl rfl)
theorem dX0_row_55 : decode cX0_row 55 = .ok (.iload_n 1, 1) := dk_27 (dk_at dksX0_row_2 9 rfl rfl)
theorem dX0_row_56 : decode cX0_row 56 = .ok (.invokestatic 315, 3) := dk_184 1 59 (dk_at dksX0_row_2 10 rfl rfl)
theorem dX0_row_59 : decode cX0_row 59 = .ok (.aload_n 0, 1) := dk_42 (dk_at dksX0_row_2 13 rfl rfl)
theorem dX0_row_60 : decode cX0_row 60 = .ok (.iconst (-1), 1) := dk_2 (dk_at dksX0_row_2 14 rfl rfl)
theorem dX0_row_61 : decode cX0_row 61 = .ok (.putfield 66, 3) := dk_181 0 66 (dk_at dksX0_row_2 15 rfl rfl)
theorem dX0_row_64 : decode cX0_row 64 = .ok (.iload_n 2, 1) := dk_28 (dk_at dksX0_row_2 18 rfl rfl)
theorem dX0_row_65 : decode cX0_row 65 = .ok (.iconst 2, 1) := dk_5 (dk_at dksX0_row_2 19 rfl rfl)
theorem dX0_row_66 : decode cX0_row 66 = .ok (.if_icmp .ge 19, 3) := dk_162 0 19 (dk_at dksX0_row_2 20 rfl rfl)
theorem dX0_row_69 : decode cX0_row 69 = .ok (.iload_n 2, 1) := dk_28 (dk_at dksX0_row_2 23 rfl rfl)
theorem dX0_row_70 : decode cX0_row 70 = .ok (.ifCond .ne 10, 3) := dk_154 0 10 (dk_at dksX0_row_3 0 rfl rfl)
theorem dX0_row_73 : decode cX0_row 73 = .ok (.aload_n 0, 1) := dk_42 (dk_at dksX0_row_3 3 rfl rfl)
theorem dX0_row_74 : decode cX0_row 74 = .ok (.getfield 319, 3) := dk_180 1 63 (dk_at dksX0_row_3 4 rfl rfl)
theorem dX0_row_77 : decode cX0_row 77 = .ok (.goto 7, 3) := dk_167 0 7 (dk_at dksX0_row_3 7 rfl rfl)
theorem dX0_row_80 : decode cX0_row 80 = .ok (.aload_n 0, 1) := dk_42 (dk_at dksX0_row_3 10 rfl rfl)
theorem dX0_row_81 : decode cX0_row 81 = .ok (.getfield 322, 3) := dk_180 1 66 (dk_at dksX0_row_3 11 rfl rfl)
theorem dX0_row_84 : decode cX0_row 84 = .ok (.ireturn, 1) := dk_172 (dk_at dksX0_row_3 14 rfl rfl)
theorem dX0_row_85 : decode cX0_row 85 = .ok (.iload_n 2, 1) := dk_28 (dk_at dksX0_row_3 15 rfl rfl)
theorem dX0_row_86 : decode cX0_row 86 = .ok (.iconst 2, 1) := dk_5 (dk_at dksX0_row_3 16 rfl rfl)
theorem dX0_row_87 : decode cX0_row 87 = .ok (.isub, 1) := dk_100 (dk_at dksX0_row_3 17 rfl rfl)
theorem dX0_row_88 : decode cX0_row 88 = .ok (.iload_n 1, 1) := dk_27 (dk_at dksX0_row_3 18 rfl rfl)
theorem dX0_row_89 : decode cX0_row 89 = .ok (.if_icmp .ge 14, 3) := dk_162 0 14 (dk_at dksX0_row_3 19 rfl rfl)
theorem dX0_row_92 : decode cX0_row 92 = .ok (.aload_n 0, 1) := dk_42 (dk_at dksX0_row_3 22 rfl rfl)
theorem dX0_row_93 : decode cX0_row 93 = .ok (.getfield 94, 3) := dk_180 0 94 (dk_at dksX0_row_4 0 rfl rfl)
theorem dX0_row_96 : decode cX0_row 96 = .ok (.iload_n 2, 1) := dk_28 (dk_at dksX0_row_4 3 rfl rfl)
theorem dX0_row_97 : decode cX0_row 97 = .ok (.iconst 2, 1) := dk_5 (dk_at dksX0_row_4 4 rfl rfl)
theorem dX0_row_98 : decode cX0_row 98 = .ok (.isub, 1) := dk_100 (dk_at dksX0_row_4 5 rfl rfl)
theorem dX0_row_99 : decode cX0_row 99 = .ok (.iaload, 1) := dk_46 (dk_at dksX0_row_4 6 rfl rfl)
theorem dX0_row_100 : decode cX0_row 100 = .ok (.goto 5, 3) := dk_167 0 5 (dk_at dksX0_row_4 7 rfl rfl)
theorem dX0_row_103 : decode cX0_row 103 = .ok (.bipush (-2), 2) := dk_16 254 (dk_at dksX0_row_4 10 rfl rfl)
theorem dX0_row_105 : decode cX0_row 105 = .ok (.ireturn, 1) := dk_172 (dk_at dksX0_row_4 12 rfl rfl)
abbrev cX0_rowsFrom : ByteArray := prog_1_method_40_code
def yX0_rowsFrom : MethodName := ⟨RX0, "rowsFrom", "(LDutyBeats;II)V"⟩
def dkwX0_rowsFrom_4 : List UInt8 := [184, 1, 59, 132, 3, 1, 167, 255, 176, 177]
abbrev dktX0_rowsFrom_4 : List UInt8 := dkwX0_rowsFrom_4 ++ []
def dkwX0_rowsFrom_3 : List UInt8 := [42, 29, 181, 0, 66, 42, 42, 180, 0, 97, 27, 4, 96, 50, 182, 1, 13, 87, 42, 27, 4, 96, 28]
abbrev dktX0_rowsFrom_3 : List UInt8 := dkwX0_rowsFrom_3 ++ dktX0_rowsFrom_4
def dkwX0_rowsFrom_2 : List UInt8 := [42, 180, 0, 97, 27, 4, 96, 50, 42, 180, 0, 97, 27, 50, 182, 1, 22, 42, 180, 0, 91, 27, 29, 79]
abbrev dktX0_rowsFrom_2 : List UInt8 := dkwX0_rowsFrom_2 ++ dktX0_rowsFrom_3
def dkwX0_rowsFrom_1 : List UInt8 := [180, 0, 10, 182, 0, 121, 120, 162, 0, 73, 42, 180, 0, 10, 29, 182, 1, 41, 154, 0, 6, 167, 0, 53]
abbrev dktX0_rowsFrom_1 : List UInt8 := dkwX0_rowsFrom_1 ++ dktX0_rowsFrom_2
def dkwX0_rowsFrom_0 : List UInt8 := [27, 28, 160, 0, 15, 42, 42, 180, 0, 97, 27, 50, 28, 182, 1, 55, 177, 3, 62, 29, 4, 42]
abbrev dktX0_rowsFrom_0 : List UInt8 := dkwX0_rowsFrom_0 ++ dktX0_rowsFrom_1
theorem dksX0_rowsFrom_0 : cX0_rowsFrom.data.toList.drop 0 = dktX0_rowsFrom_0 := by decide +kernel
theorem dksX0_rowsFrom_1 : cX0_rowsFrom.data.toList.drop 22 = dktX0_rowsFrom_1 := dk_seg dksX0_rowsFrom_0 22 rfl rfl
theorem dksX0_rowsFrom_2 : cX0_rowsFrom.data.toList.drop 46 = dktX0_rowsFrom_2 := dk_seg dksX0_rowsFrom_1 24 rfl rfl
theorem dksX0_rowsFrom_3 : cX0_rowsFrom.data.toList.drop 70 = dktX0_rowsFrom_3 := dk_seg dksX0_rowsFrom_2 24 rfl rfl
theorem dksX0_rowsFrom_4 : cX0_rowsFrom.data.toList.drop 93 = dktX0_rowsFrom_4 := dk_seg dksX0_rowsFrom_3 23 rfl rfl
theorem dX0_rowsFrom_0 : decode cX0_rowsFrom 0 = .ok (.iload_n 1, 1) := dk_27 (dk_at dksX0_rowsFrom_0 0 rfl rfl)
theorem dX0_rowsFrom_1 : decode cX0_rowsFrom 1 = .ok (.iload_n 2, 1) := dk_28 (dk_at dksX0_rowsFrom_0 1 rfl rfl)
theorem dX0_rowsFrom_2 : decode cX0_rowsFrom 2 = .ok (.if_icmp .ne 15, 3) := dk_160 0 15 (dk_at dksX0_rowsFrom_0 2 rfl rfl)
theorem dX0_rowsFrom_5 : decode cX0_rowsFrom 5 = .ok (.aload_n 0, 1) := dk_42 (dk_at dksX0_rowsFrom_0 5 rfl rfl)
theorem dX0_rowsFrom_6 : decode cX0_rowsFrom 6 = .ok (.aload_n 0, 1) := dk_42 (dk_at dksX0_rowsFrom_0 6 rfl rfl)
theorem dX0_rowsFrom_7 : decode cX0_rowsFrom 7 = .ok (.getfield 97, 3) := dk_180 0 97 (dk_at dksX0_rowsFrom_0 7 rfl rfl)
theorem dX0_rowsFrom_10 : decode cX0_rowsFrom 10 = .ok (.iload_n 1, 1) := dk_27 (dk_at dksX0_rowsFrom_0 10 rfl rfl)
theorem dX0_rowsFrom_11 : decode cX0_rowsFrom 11 = .ok (.aaload, 1) := dk_50 (dk_at dksX0_rowsFrom_0 11 rfl rfl)
theorem dX0_rowsFrom_12 : decode cX0_rowsFrom 12 = .ok (.iload_n 2, 1) := dk_28 (dk_at dksX0_rowsFrom_0 12 rfl rfl)
theorem dX0_rowsFrom_13 : decode cX0_rowsFrom 13 = .ok (.invokevirtual 311, 3) := dk_182 1 55 (dk_at dksX0_rowsFrom_0 13 rfl rfl)
theorem dX0_rowsFrom_16 : decode cX0_rowsFrom 16 = .ok (.return_, 1) := dk_177 (dk_at dksX0_rowsFrom_0 16 rfl rfl)
theorem dX0_rowsFrom_17 : decode cX0_rowsFrom 17 = .ok (.iconst 0, 1) := dk_3 (dk_at dksX0_rowsFrom_0 17 rfl rfl)
theorem dX0_rowsFrom_18 : decode cX0_rowsFrom 18 = .ok (.istore_n 3, 1) := dk_62 (dk_at dksX0_rowsFrom_0 18 rfl rfl)
theorem dX0_rowsFrom_19 : decode cX0_rowsFrom 19 = .ok (.iload_n 3, 1) := dk_29 (dk_at dksX0_rowsFrom_0 19 rfl rfl)
theorem dX0_rowsFrom_20 : decode cX0_rowsFrom 20 = .ok (.iconst 1, 1) := dk_4 (dk_at dksX0_rowsFrom_0 20 rfl rfl)
theorem dX0_rowsFrom_21 : decode cX0_rowsFrom 21 = .ok (.aload_n 0, 1) := dk_42 (dk_at dksX0_rowsFrom_0 21 rfl rfl)
theorem dX0_rowsFrom_22 : decode cX0_rowsFrom 22 = .ok (.getfield 10, 3) := dk_180 0 10 (dk_at dksX0_rowsFrom_1 0 rfl rfl)
theorem dX0_rowsFrom_25 : decode cX0_rowsFrom 25 = .ok (.invokevirtual 121, 3) := dk_182 0 121 (dk_at dksX0_rowsFrom_1 3 rfl rfl)
theorem dX0_rowsFrom_28 : decode cX0_rowsFrom 28 = .ok (.ishl, 1) := dk_120 (dk_at dksX0_rowsFrom_1 6 rfl rfl)
theorem dX0_rowsFrom_29 : decode cX0_rowsFrom 29 = .ok (.if_icmp .ge 73, 3) := dk_162 0 73 (dk_at dksX0_rowsFrom_1 7 rfl rfl)
theorem dX0_rowsFrom_32 : decode cX0_rowsFrom 32 = .ok (.aload_n 0, 1) := dk_42 (dk_at dksX0_rowsFrom_1 10 rfl rfl)
theorem dX0_rowsFrom_33 : decode cX0_rowsFrom 33 = .ok (.getfield 10, 3) := dk_180 0 10 (dk_at dksX0_rowsFrom_1 11 rfl rfl)
theorem dX0_rowsFrom_36 : decode cX0_rowsFrom 36 = .ok (.iload_n 3, 1) := dk_29 (dk_at dksX0_rowsFrom_1 14 rfl rfl)
theorem dX0_rowsFrom_37 : decode cX0_rowsFrom 37 = .ok (.invokevirtual 297, 3) := dk_182 1 41 (dk_at dksX0_rowsFrom_1 15 rfl rfl)
theorem dX0_rowsFrom_40 : decode cX0_rowsFrom 40 = .ok (.ifCond .ne 6, 3) := dk_154 0 6 (dk_at dksX0_rowsFrom_1 18 rfl rfl)
theorem dX0_rowsFrom_43 : decode cX0_rowsFrom 43 = .ok (.goto 53, 3) := dk_167 0 53 (dk_at dksX0_rowsFrom_1 21 rfl rfl)
theorem dX0_rowsFrom_46 : decode cX0_rowsFrom 46 = .ok (.aload_n 0, 1) := dk_42 (dk_at dksX0_rowsFrom_2 0 rfl rfl)
theorem dX0_rowsFrom_47 : decode cX0_rowsFrom 47 = .ok (.getfield 97, 3) := dk_180 0 97 (dk_at dksX0_rowsFrom_2 1 rfl rfl)
theorem dX0_rowsFrom_50 : decode cX0_rowsFrom 50 = .ok (.iload_n 1, 1) := dk_27 (dk_at dksX0_rowsFrom_2 4 rfl rfl)
theorem dX0_rowsFrom_51 : decode cX0_rowsFrom 51 = .ok (.iconst 1, 1) := dk_4 (dk_at dksX0_rowsFrom_2 5 rfl rfl)
theorem dX0_rowsFrom_52 : decode cX0_rowsFrom 52 = .ok (.iadd, 1) := dk_96 (dk_at dksX0_rowsFrom_2 6 rfl rfl)
theorem dX0_rowsFrom_53 : decode cX0_rowsFrom 53 = .ok (.aaload, 1) := dk_50 (dk_at dksX0_rowsFrom_2 7 rfl rfl)
theorem dX0_rowsFrom_54 : decode cX0_rowsFrom 54 = .ok (.aload_n 0, 1) := dk_42 (dk_at dksX0_rowsFrom_2 8 rfl rfl)
theorem dX0_rowsFrom_55 : decode cX0_rowsFrom 55 = .ok (.getfield 97, 3) := dk_180 0 97 (dk_at dksX0_rowsFrom_2 9 rfl rfl)
theorem dX0_rowsFrom_58 : decode cX0_rowsFrom 58 = .ok (.iload_n 1, 1) := dk_27 (dk_at dksX0_rowsFrom_2 12 rfl rfl)
theorem dX0_rowsFrom_59 : decode cX0_rowsFrom 59 = .ok (.aaload, 1) := dk_50 (dk_at dksX0_rowsFrom_2 13 rfl rfl)
theorem dX0_rowsFrom_60 : decode cX0_rowsFrom 60 = .ok (.invokevirtual 278, 3) := dk_182 1 22 (dk_at dksX0_rowsFrom_2 14 rfl rfl)
theorem dX0_rowsFrom_63 : decode cX0_rowsFrom 63 = .ok (.aload_n 0, 1) := dk_42 (dk_at dksX0_rowsFrom_2 17 rfl rfl)
theorem dX0_rowsFrom_64 : decode cX0_rowsFrom 64 = .ok (.getfield 91, 3) := dk_180 0 91 (dk_at dksX0_rowsFrom_2 18 rfl rfl)
theorem dX0_rowsFrom_67 : decode cX0_rowsFrom 67 = .ok (.iload_n 1, 1) := dk_27 (dk_at dksX0_rowsFrom_2 21 rfl rfl)
theorem dX0_rowsFrom_68 : decode cX0_rowsFrom 68 = .ok (.iload_n 3, 1) := dk_29 (dk_at dksX0_rowsFrom_2 22 rfl rfl)
theorem dX0_rowsFrom_69 : decode cX0_rowsFrom 69 = .ok (.iastore, 1) := dk_79 (dk_at dksX0_rowsFrom_2 23 rfl rfl)
theorem dX0_rowsFrom_70 : decode cX0_rowsFrom 70 = .ok (.aload_n 0, 1) := dk_42 (dk_at dksX0_rowsFrom_3 0 rfl rfl)
theorem dX0_rowsFrom_71 : decode cX0_rowsFrom 71 = .ok (.iload_n 3, 1) := dk_29 (dk_at dksX0_rowsFrom_3 1 rfl rfl)
theorem dX0_rowsFrom_72 : decode cX0_rowsFrom 72 = .ok (.putfield 66, 3) := dk_181 0 66 (dk_at dksX0_rowsFrom_3 2 rfl rfl)
theorem dX0_rowsFrom_75 : decode cX0_rowsFrom 75 = .ok (.aload_n 0, 1) := dk_42 (dk_at dksX0_rowsFrom_3 5 rfl rfl)
theorem dX0_rowsFrom_76 : decode cX0_rowsFrom 76 = .ok (.aload_n 0, 1) := dk_42 (dk_at dksX0_rowsFrom_3 6 rfl rfl)
theorem dX0_rowsFrom_77 : decode cX0_rowsFrom 77 = .ok (.getfield 97, 3) := dk_180 0 97 (dk_at dksX0_rowsFrom_3 7 rfl rfl)
theorem dX0_rowsFrom_80 : decode cX0_rowsFrom 80 = .ok (.iload_n 1, 1) := dk_27 (dk_at dksX0_rowsFrom_3 10 rfl rfl)
theorem dX0_rowsFrom_81 : decode cX0_rowsFrom 81 = .ok (.iconst 1, 1) := dk_4 (dk_at dksX0_rowsFrom_3 11 rfl rfl)
theorem dX0_rowsFrom_82 : decode cX0_rowsFrom 82 = .ok (.iadd, 1) := dk_96 (dk_at dksX0_rowsFrom_3 12 rfl rfl)
theorem dX0_rowsFrom_83 : decode cX0_rowsFrom 83 = .ok (.aaload, 1) := dk_50 (dk_at dksX0_rowsFrom_3 13 rfl rfl)
theorem dX0_rowsFrom_84 : decode cX0_rowsFrom 84 = .ok (.invokevirtual 269, 3) := dk_182 1 13 (dk_at dksX0_rowsFrom_3 14 rfl rfl)
theorem dX0_rowsFrom_87 : decode cX0_rowsFrom 87 = .ok (.pop, 1) := dk_87 (dk_at dksX0_rowsFrom_3 17 rfl rfl)
theorem dX0_rowsFrom_88 : decode cX0_rowsFrom 88 = .ok (.aload_n 0, 1) := dk_42 (dk_at dksX0_rowsFrom_3 18 rfl rfl)
theorem dX0_rowsFrom_89 : decode cX0_rowsFrom 89 = .ok (.iload_n 1, 1) := dk_27 (dk_at dksX0_rowsFrom_3 19 rfl rfl)
theorem dX0_rowsFrom_90 : decode cX0_rowsFrom 90 = .ok (.iconst 1, 1) := dk_4 (dk_at dksX0_rowsFrom_3 20 rfl rfl)
theorem dX0_rowsFrom_91 : decode cX0_rowsFrom 91 = .ok (.iadd, 1) := dk_96 (dk_at dksX0_rowsFrom_3 21 rfl rfl)
theorem dX0_rowsFrom_92 : decode cX0_rowsFrom 92 = .ok (.iload_n 2, 1) := dk_28 (dk_at dksX0_rowsFrom_3 22 rfl rfl)
theorem dX0_rowsFrom_93 : decode cX0_rowsFrom 93 = .ok (.invokestatic 315, 3) := dk_184 1 59 (dk_at dksX0_rowsFrom_4 0 rfl rfl)
theorem dX0_rowsFrom_96 : decode cX0_rowsFrom 96 = .ok (.iinc 3 1, 3) := dk_132 3 1 (dk_at dksX0_rowsFrom_4 3 rfl rfl)
theorem dX0_rowsFrom_99 : decode cX0_rowsFrom 99 = .ok (.goto (-80), 3) := dk_167 255 176 (dk_at dksX0_rowsFrom_4 6 rfl rfl)
theorem dX0_rowsFrom_102 : decode cX0_rowsFrom 102 = .ok (.return_, 1) := dk_177 (dk_at dksX0_rowsFrom_4 9 rfl rfl)
abbrev cX0_triesRow : ByteArray := prog_1_method_41_code
def yX0_triesRow : MethodName := ⟨RX0, "triesRow", "(LDutyBeats$State;I)V"⟩
def dkwX0_triesRow_3 : List UInt8 := [21, 4, 42, 180, 0, 91, 21, 4, 46, 79, 132, 4, 1, 167, 255, 233, 177]
abbrev dktX0_triesRow_3 : List UInt8 := dkwX0_triesRow_3 ++ []
def dkwX0_triesRow_2 : List UInt8 := [181, 1, 63, 42, 43, 180, 0, 196, 181, 1, 66, 3, 54, 4, 21, 4, 28, 162, 0, 23, 42, 180, 0, 94]
abbrev dktX0_triesRow_2 : List UInt8 := dkwX0_triesRow_2 ++ dktX0_triesRow_3
def dkwX0_triesRow_1 : List UInt8 := [29, 42, 180, 1, 63, 160, 0, 15, 43, 180, 0, 196, 42, 180, 1, 66, 163, 0, 4, 177, 42, 29]
abbrev dktX0_triesRow_1 : List UInt8 := dkwX0_triesRow_1 ++ dktX0_triesRow_2
def dkwX0_triesRow_0 : List UInt8 := [43, 180, 0, 183, 184, 0, 222, 62, 42, 180, 1, 63, 2, 159, 0, 31, 29, 42, 180, 1, 63, 163, 0, 22]
abbrev dktX0_triesRow_0 : List UInt8 := dkwX0_triesRow_0 ++ dktX0_triesRow_1
theorem dksX0_triesRow_0 : cX0_triesRow.data.toList.drop 0 = dktX0_triesRow_0 := by decide +kernel
theorem dksX0_triesRow_1 : cX0_triesRow.data.toList.drop 24 = dktX0_triesRow_1 := dk_seg dksX0_triesRow_0 24 rfl rfl
theorem dksX0_triesRow_2 : cX0_triesRow.data.toList.drop 46 = dktX0_triesRow_2 := dk_seg dksX0_triesRow_1 22 rfl rfl
theorem dksX0_triesRow_3 : cX0_triesRow.data.toList.drop 70 = dktX0_triesRow_3 := dk_seg dksX0_triesRow_2 24 rfl rfl
theorem dX0_triesRow_0 : decode cX0_triesRow 0 = .ok (.aload_n 1, 1) := dk_43 (dk_at dksX0_triesRow_0 0 rfl rfl)
theorem dX0_triesRow_1 : decode cX0_triesRow 1 = .ok (.getfield 183, 3) := dk_180 0 183 (dk_at dksX0_triesRow_0 1 rfl rfl)
theorem dX0_triesRow_4 : decode cX0_triesRow 4 = .ok (.invokestatic 222, 3) := dk_184 0 222 (dk_at dksX0_triesRow_0 4 rfl rfl)
theorem dX0_triesRow_7 : decode cX0_triesRow 7 = .ok (.istore_n 3, 1) := dk_62 (dk_at dksX0_triesRow_0 7 rfl rfl)
theorem dX0_triesRow_8 : decode cX0_triesRow 8 = .ok (.aload_n 0, 1) := dk_42 (dk_at dksX0_triesRow_0 8 rfl rfl)
theorem dX0_triesRow_9 : decode cX0_triesRow 9 = .ok (.getfield 319, 3) := dk_180 1 63 (dk_at dksX0_triesRow_0 9 rfl rfl)
theorem dX0_triesRow_12 : decode cX0_triesRow 12 = .ok (.iconst (-1), 1) := dk_2 (dk_at dksX0_triesRow_0 12 rfl rfl)
theorem dX0_triesRow_13 : decode cX0_triesRow 13 = .ok (.if_icmp .eq 31, 3) := dk_159 0 31 (dk_at dksX0_triesRow_0 13 rfl rfl)
theorem dX0_triesRow_16 : decode cX0_triesRow 16 = .ok (.iload_n 3, 1) := dk_29 (dk_at dksX0_triesRow_0 16 rfl rfl)
theorem dX0_triesRow_17 : decode cX0_triesRow 17 = .ok (.aload_n 0, 1) := dk_42 (dk_at dksX0_triesRow_0 17 rfl rfl)
theorem dX0_triesRow_18 : decode cX0_triesRow 18 = .ok (.getfield 319, 3) := dk_180 1 63 (dk_at dksX0_triesRow_0 18 rfl rfl)
theorem dX0_triesRow_21 : decode cX0_triesRow 21 = .ok (.if_icmp .gt 22, 3) := dk_163 0 22 (dk_at dksX0_triesRow_0 21 rfl rfl)
theorem dX0_triesRow_24 : decode cX0_triesRow 24 = .ok (.iload_n 3, 1) := dk_29 (dk_at dksX0_triesRow_1 0 rfl rfl)
theorem dX0_triesRow_25 : decode cX0_triesRow 25 = .ok (.aload_n 0, 1) := dk_42 (dk_at dksX0_triesRow_1 1 rfl rfl)
theorem dX0_triesRow_26 : decode cX0_triesRow 26 = .ok (.getfield 319, 3) := dk_180 1 63 (dk_at dksX0_triesRow_1 2 rfl rfl)
theorem dX0_triesRow_29 : decode cX0_triesRow 29 = .ok (.if_icmp .ne 15, 3) := dk_160 0 15 (dk_at dksX0_triesRow_1 5 rfl rfl)
theorem dX0_triesRow_32 : decode cX0_triesRow 32 = .ok (.aload_n 1, 1) := dk_43 (dk_at dksX0_triesRow_1 8 rfl rfl)
theorem dX0_triesRow_33 : decode cX0_triesRow 33 = .ok (.getfield 196, 3) := dk_180 0 196 (dk_at dksX0_triesRow_1 9 rfl rfl)
theorem dX0_triesRow_36 : decode cX0_triesRow 36 = .ok (.aload_n 0, 1) := dk_42 (dk_at dksX0_triesRow_1 12 rfl rfl)
theorem dX0_triesRow_37 : decode cX0_triesRow 37 = .ok (.getfield 322, 3) := dk_180 1 66 (dk_at dksX0_triesRow_1 13 rfl rfl)
theorem dX0_triesRow_40 : decode cX0_triesRow 40 = .ok (.if_icmp .gt 4, 3) := dk_163 0 4 (dk_at dksX0_triesRow_1 16 rfl rfl)
theorem dX0_triesRow_43 : decode cX0_triesRow 43 = .ok (.return_, 1) := dk_177 (dk_at dksX0_triesRow_1 19 rfl rfl)
theorem dX0_triesRow_44 : decode cX0_triesRow 44 = .ok (.aload_n 0, 1) := dk_42 (dk_at dksX0_triesRow_1 20 rfl rfl)
theorem dX0_triesRow_45 : decode cX0_triesRow 45 = .ok (.iload_n 3, 1) := dk_29 (dk_at dksX0_triesRow_1 21 rfl rfl)
theorem dX0_triesRow_46 : decode cX0_triesRow 46 = .ok (.putfield 319, 3) := dk_181 1 63 (dk_at dksX0_triesRow_2 0 rfl rfl)
theorem dX0_triesRow_49 : decode cX0_triesRow 49 = .ok (.aload_n 0, 1) := dk_42 (dk_at dksX0_triesRow_2 3 rfl rfl)
theorem dX0_triesRow_50 : decode cX0_triesRow 50 = .ok (.aload_n 1, 1) := dk_43 (dk_at dksX0_triesRow_2 4 rfl rfl)
theorem dX0_triesRow_51 : decode cX0_triesRow 51 = .ok (.getfield 196, 3) := dk_180 0 196 (dk_at dksX0_triesRow_2 5 rfl rfl)
theorem dX0_triesRow_54 : decode cX0_triesRow 54 = .ok (.putfield 322, 3) := dk_181 1 66 (dk_at dksX0_triesRow_2 8 rfl rfl)
theorem dX0_triesRow_57 : decode cX0_triesRow 57 = .ok (.iconst 0, 1) := dk_3 (dk_at dksX0_triesRow_2 11 rfl rfl)
theorem dX0_triesRow_58 : decode cX0_triesRow 58 = .ok (.istore 4, 2) := dk_54 4 (dk_at dksX0_triesRow_2 12 rfl rfl)
theorem dX0_triesRow_60 : decode cX0_triesRow 60 = .ok (.iload 4, 2) := dk_21 4 (dk_at dksX0_triesRow_2 14 rfl rfl)
theorem dX0_triesRow_62 : decode cX0_triesRow 62 = .ok (.iload_n 2, 1) := dk_28 (dk_at dksX0_triesRow_2 16 rfl rfl)
theorem dX0_triesRow_63 : decode cX0_triesRow 63 = .ok (.if_icmp .ge 23, 3) := dk_162 0 23 (dk_at dksX0_triesRow_2 17 rfl rfl)
theorem dX0_triesRow_66 : decode cX0_triesRow 66 = .ok (.aload_n 0, 1) := dk_42 (dk_at dksX0_triesRow_2 20 rfl rfl)
theorem dX0_triesRow_67 : decode cX0_triesRow 67 = .ok (.getfield 94, 3) := dk_180 0 94 (dk_at dksX0_triesRow_2 21 rfl rfl)
theorem dX0_triesRow_70 : decode cX0_triesRow 70 = .ok (.iload 4, 2) := dk_21 4 (dk_at dksX0_triesRow_3 0 rfl rfl)
theorem dX0_triesRow_72 : decode cX0_triesRow 72 = .ok (.aload_n 0, 1) := dk_42 (dk_at dksX0_triesRow_3 2 rfl rfl)
theorem dX0_triesRow_73 : decode cX0_triesRow 73 = .ok (.getfield 91, 3) := dk_180 0 91 (dk_at dksX0_triesRow_3 3 rfl rfl)
theorem dX0_triesRow_76 : decode cX0_triesRow 76 = .ok (.iload 4, 2) := dk_21 4 (dk_at dksX0_triesRow_3 6 rfl rfl)
theorem dX0_triesRow_78 : decode cX0_triesRow 78 = .ok (.iaload, 1) := dk_46 (dk_at dksX0_triesRow_3 8 rfl rfl)
theorem dX0_triesRow_79 : decode cX0_triesRow 79 = .ok (.iastore, 1) := dk_79 (dk_at dksX0_triesRow_3 9 rfl rfl)
theorem dX0_triesRow_80 : decode cX0_triesRow 80 = .ok (.iinc 4 1, 3) := dk_132 4 1 (dk_at dksX0_triesRow_3 10 rfl rfl)
theorem dX0_triesRow_83 : decode cX0_triesRow 83 = .ok (.goto (-23), 3) := dk_167 255 233 (dk_at dksX0_triesRow_3 13 rfl rfl)
theorem dX0_triesRow_86 : decode cX0_triesRow 86 = .ok (.return_, 1) := dk_177 (dk_at dksX0_triesRow_3 16 rfl rfl)
abbrev cX0_leastRoom : ByteArray := prog_1_method_44_code
def yX0_leastRoom : MethodName := ⟨RX0, "leastRoom", "(I)I"⟩
def dkwX0_leastRoom_3 : List UInt8 := [167, 255, 210, 42, 2, 181, 0, 60, 28, 172]
abbrev dktX0_leastRoom_3 : List UInt8 := dkwX0_leastRoom_3 ++ []
def dkwX0_leastRoom_2 : List UInt8 := [180, 0, 19, 182, 1, 22, 42, 27, 182, 1, 75, 153, 0, 7, 29, 167, 0, 5, 16, 254, 61, 132, 3, 1]
abbrev dktX0_leastRoom_2 : List UInt8 := dkwX0_leastRoom_2 ++ dktX0_leastRoom_3
def dkwX0_leastRoom_1 : List UInt8 := [4, 62, 29, 16, 9, 163, 0, 46, 28, 16, 254, 160, 0, 40, 42, 29, 181, 0, 60, 42, 180, 0, 23, 42]
abbrev dktX0_leastRoom_1 : List UInt8 := dkwX0_leastRoom_1 ++ dktX0_leastRoom_2
def dkwX0_leastRoom_0 : List UInt8 := [42, 182, 1, 26, 153, 0, 15, 27, 133, 10, 20, 1, 73, 184, 0, 125, 154, 0, 5, 2, 172, 16, 254, 61]
abbrev dktX0_leastRoom_0 : List UInt8 := dkwX0_leastRoom_0 ++ dktX0_leastRoom_1
theorem dksX0_leastRoom_0 : cX0_leastRoom.data.toList.drop 0 = dktX0_leastRoom_0 := by decide +kernel
theorem dksX0_leastRoom_1 : cX0_leastRoom.data.toList.drop 24 = dktX0_leastRoom_1 := dk_seg dksX0_leastRoom_0 24 rfl rfl
theorem dksX0_leastRoom_2 : cX0_leastRoom.data.toList.drop 48 = dktX0_leastRoom_2 := dk_seg dksX0_leastRoom_1 24 rfl rfl
theorem dksX0_leastRoom_3 : cX0_leastRoom.data.toList.drop 72 = dktX0_leastRoom_3 := dk_seg dksX0_leastRoom_2 24 rfl rfl
theorem dX0_leastRoom_0 : decode cX0_leastRoom 0 = .ok (.aload_n 0, 1) := dk_42 (dk_at dksX0_leastRoom_0 0 rfl rfl)
theorem dX0_leastRoom_1 : decode cX0_leastRoom 1 = .ok (.invokevirtual 282, 3) := dk_182 1 26 (dk_at dksX0_leastRoom_0 1 rfl rfl)
theorem dX0_leastRoom_4 : decode cX0_leastRoom 4 = .ok (.ifCond .eq 15, 3) := dk_153 0 15 (dk_at dksX0_leastRoom_0 4 rfl rfl)
theorem dX0_leastRoom_7 : decode cX0_leastRoom 7 = .ok (.iload_n 1, 1) := dk_27 (dk_at dksX0_leastRoom_0 7 rfl rfl)
theorem dX0_leastRoom_8 : decode cX0_leastRoom 8 = .ok (.i2l, 1) := dk_133 (dk_at dksX0_leastRoom_0 8 rfl rfl)
theorem dX0_leastRoom_9 : decode cX0_leastRoom 9 = .ok (.lconst 1, 1) := dk_10 (dk_at dksX0_leastRoom_0 9 rfl rfl)
theorem dX0_leastRoom_10 : decode cX0_leastRoom 10 = .ok (.ldc2_w 329, 3) := dk_20 1 73 (dk_at dksX0_leastRoom_0 10 rfl rfl)
theorem dX0_leastRoom_13 : decode cX0_leastRoom 13 = .ok (.invokestatic 125, 3) := dk_184 0 125 (dk_at dksX0_leastRoom_0 13 rfl rfl)
theorem dX0_leastRoom_16 : decode cX0_leastRoom 16 = .ok (.ifCond .ne 5, 3) := dk_154 0 5 (dk_at dksX0_leastRoom_0 16 rfl rfl)
theorem dX0_leastRoom_19 : decode cX0_leastRoom 19 = .ok (.iconst (-1), 1) := dk_2 (dk_at dksX0_leastRoom_0 19 rfl rfl)
theorem dX0_leastRoom_20 : decode cX0_leastRoom 20 = .ok (.ireturn, 1) := dk_172 (dk_at dksX0_leastRoom_0 20 rfl rfl)
theorem dX0_leastRoom_21 : decode cX0_leastRoom 21 = .ok (.bipush (-2), 2) := dk_16 254 (dk_at dksX0_leastRoom_0 21 rfl rfl)
theorem dX0_leastRoom_23 : decode cX0_leastRoom 23 = .ok (.istore_n 2, 1) := dk_61 (dk_at dksX0_leastRoom_0 23 rfl rfl)
theorem dX0_leastRoom_24 : decode cX0_leastRoom 24 = .ok (.iconst 1, 1) := dk_4 (dk_at dksX0_leastRoom_1 0 rfl rfl)
theorem dX0_leastRoom_25 : decode cX0_leastRoom 25 = .ok (.istore_n 3, 1) := dk_62 (dk_at dksX0_leastRoom_1 1 rfl rfl)
theorem dX0_leastRoom_26 : decode cX0_leastRoom 26 = .ok (.iload_n 3, 1) := dk_29 (dk_at dksX0_leastRoom_1 2 rfl rfl)
theorem dX0_leastRoom_27 : decode cX0_leastRoom 27 = .ok (.bipush 9, 2) := dk_16 9 (dk_at dksX0_leastRoom_1 3 rfl rfl)
theorem dX0_leastRoom_29 : decode cX0_leastRoom 29 = .ok (.if_icmp .gt 46, 3) := dk_163 0 46 (dk_at dksX0_leastRoom_1 5 rfl rfl)
theorem dX0_leastRoom_32 : decode cX0_leastRoom 32 = .ok (.iload_n 2, 1) := dk_28 (dk_at dksX0_leastRoom_1 8 rfl rfl)
theorem dX0_leastRoom_33 : decode cX0_leastRoom 33 = .ok (.bipush (-2), 2) := dk_16 254 (dk_at dksX0_leastRoom_1 9 rfl rfl)
theorem dX0_leastRoom_35 : decode cX0_leastRoom 35 = .ok (.if_icmp .ne 40, 3) := dk_160 0 40 (dk_at dksX0_leastRoom_1 11 rfl rfl)
theorem dX0_leastRoom_38 : decode cX0_leastRoom 38 = .ok (.aload_n 0, 1) := dk_42 (dk_at dksX0_leastRoom_1 14 rfl rfl)
theorem dX0_leastRoom_39 : decode cX0_leastRoom 39 = .ok (.iload_n 3, 1) := dk_29 (dk_at dksX0_leastRoom_1 15 rfl rfl)
theorem dX0_leastRoom_40 : decode cX0_leastRoom 40 = .ok (.putfield 60, 3) := dk_181 0 60 (dk_at dksX0_leastRoom_1 16 rfl rfl)
theorem dX0_leastRoom_43 : decode cX0_leastRoom 43 = .ok (.aload_n 0, 1) := dk_42 (dk_at dksX0_leastRoom_1 19 rfl rfl)
theorem dX0_leastRoom_44 : decode cX0_leastRoom 44 = .ok (.getfield 23, 3) := dk_180 0 23 (dk_at dksX0_leastRoom_1 20 rfl rfl)
theorem dX0_leastRoom_47 : decode cX0_leastRoom 47 = .ok (.aload_n 0, 1) := dk_42 (dk_at dksX0_leastRoom_1 23 rfl rfl)
theorem dX0_leastRoom_48 : decode cX0_leastRoom 48 = .ok (.getfield 19, 3) := dk_180 0 19 (dk_at dksX0_leastRoom_2 0 rfl rfl)
theorem dX0_leastRoom_51 : decode cX0_leastRoom 51 = .ok (.invokevirtual 278, 3) := dk_182 1 22 (dk_at dksX0_leastRoom_2 3 rfl rfl)
theorem dX0_leastRoom_54 : decode cX0_leastRoom 54 = .ok (.aload_n 0, 1) := dk_42 (dk_at dksX0_leastRoom_2 6 rfl rfl)
theorem dX0_leastRoom_55 : decode cX0_leastRoom 55 = .ok (.iload_n 1, 1) := dk_27 (dk_at dksX0_leastRoom_2 7 rfl rfl)
theorem dX0_leastRoom_56 : decode cX0_leastRoom 56 = .ok (.invokevirtual 331, 3) := dk_182 1 75 (dk_at dksX0_leastRoom_2 8 rfl rfl)
theorem dX0_leastRoom_59 : decode cX0_leastRoom 59 = .ok (.ifCond .eq 7, 3) := dk_153 0 7 (dk_at dksX0_leastRoom_2 11 rfl rfl)
theorem dX0_leastRoom_62 : decode cX0_leastRoom 62 = .ok (.iload_n 3, 1) := dk_29 (dk_at dksX0_leastRoom_2 14 rfl rfl)
theorem dX0_leastRoom_63 : decode cX0_leastRoom 63 = .ok (.goto 5, 3) := dk_167 0 5 (dk_at dksX0_leastRoom_2 15 rfl rfl)
theorem dX0_leastRoom_66 : decode cX0_leastRoom 66 = .ok (.bipush (-2), 2) := dk_16 254 (dk_at dksX0_leastRoom_2 18 rfl rfl)
theorem dX0_leastRoom_68 : decode cX0_leastRoom 68 = .ok (.istore_n 2, 1) := dk_61 (dk_at dksX0_leastRoom_2 20 rfl rfl)
theorem dX0_leastRoom_69 : decode cX0_leastRoom 69 = .ok (.iinc 3 1, 3) := dk_132 3 1 (dk_at dksX0_leastRoom_2 21 rfl rfl)
theorem dX0_leastRoom_72 : decode cX0_leastRoom 72 = .ok (.goto (-46), 3) := dk_167 255 210 (dk_at dksX0_leastRoom_3 0 rfl rfl)
theorem dX0_leastRoom_75 : decode cX0_leastRoom 75 = .ok (.aload_n 0, 1) := dk_42 (dk_at dksX0_leastRoom_3 3 rfl rfl)
theorem dX0_leastRoom_76 : decode cX0_leastRoom 76 = .ok (.iconst (-1), 1) := dk_2 (dk_at dksX0_leastRoom_3 4 rfl rfl)
theorem dX0_leastRoom_77 : decode cX0_leastRoom 77 = .ok (.putfield 60, 3) := dk_181 0 60 (dk_at dksX0_leastRoom_3 5 rfl rfl)
theorem dX0_leastRoom_80 : decode cX0_leastRoom 80 = .ok (.iload_n 2, 1) := dk_28 (dk_at dksX0_leastRoom_3 8 rfl rfl)
theorem dX0_leastRoom_81 : decode cX0_leastRoom 81 = .ok (.ireturn, 1) := dk_172 (dk_at dksX0_leastRoom_3 9 rfl rfl)
abbrev cX0_areFewIn : ByteArray := prog_1_method_43_code
def yX0_areFewIn : MethodName := ⟨RX0, "areFewIn", "(I)Z"⟩
def dkwX0_areFewIn_2 : List UInt8 := [132, 3, 1, 167, 255, 226, 132, 2, 1, 167, 255, 204, 4, 172]
abbrev dktX0_areFewIn_2 : List UInt8 := dkwX0_areFewIn_2 ++ []
def dkwX0_areFewIn_1 : List UInt8 := [182, 0, 121, 162, 0, 25, 42, 180, 0, 23, 180, 0, 168, 29, 46, 16, 20, 164, 0, 5, 3, 172]
abbrev dktX0_areFewIn_1 : List UInt8 := dkwX0_areFewIn_1 ++ dktX0_areFewIn_2
def dkwX0_areFewIn_0 : List UInt8 := [3, 61, 28, 27, 162, 0, 53, 42, 42, 180, 0, 23, 182, 1, 13, 87, 3, 62, 29, 42, 180, 0, 10]
abbrev dktX0_areFewIn_0 : List UInt8 := dkwX0_areFewIn_0 ++ dktX0_areFewIn_1
theorem dksX0_areFewIn_0 : cX0_areFewIn.data.toList.drop 0 = dktX0_areFewIn_0 := by decide +kernel
theorem dksX0_areFewIn_1 : cX0_areFewIn.data.toList.drop 23 = dktX0_areFewIn_1 := dk_seg dksX0_areFewIn_0 23 rfl rfl
theorem dksX0_areFewIn_2 : cX0_areFewIn.data.toList.drop 45 = dktX0_areFewIn_2 := dk_seg dksX0_areFewIn_1 22 rfl rfl
theorem dX0_areFewIn_0 : decode cX0_areFewIn 0 = .ok (.iconst 0, 1) := dk_3 (dk_at dksX0_areFewIn_0 0 rfl rfl)
theorem dX0_areFewIn_1 : decode cX0_areFewIn 1 = .ok (.istore_n 2, 1) := dk_61 (dk_at dksX0_areFewIn_0 1 rfl rfl)
theorem dX0_areFewIn_2 : decode cX0_areFewIn 2 = .ok (.iload_n 2, 1) := dk_28 (dk_at dksX0_areFewIn_0 2 rfl rfl)
theorem dX0_areFewIn_3 : decode cX0_areFewIn 3 = .ok (.iload_n 1, 1) := dk_27 (dk_at dksX0_areFewIn_0 3 rfl rfl)
theorem dX0_areFewIn_4 : decode cX0_areFewIn 4 = .ok (.if_icmp .ge 53, 3) := dk_162 0 53 (dk_at dksX0_areFewIn_0 4 rfl rfl)
theorem dX0_areFewIn_7 : decode cX0_areFewIn 7 = .ok (.aload_n 0, 1) := dk_42 (dk_at dksX0_areFewIn_0 7 rfl rfl)
theorem dX0_areFewIn_8 : decode cX0_areFewIn 8 = .ok (.aload_n 0, 1) := dk_42 (dk_at dksX0_areFewIn_0 8 rfl rfl)
theorem dX0_areFewIn_9 : decode cX0_areFewIn 9 = .ok (.getfield 23, 3) := dk_180 0 23 (dk_at dksX0_areFewIn_0 9 rfl rfl)
theorem dX0_areFewIn_12 : decode cX0_areFewIn 12 = .ok (.invokevirtual 269, 3) := dk_182 1 13 (dk_at dksX0_areFewIn_0 12 rfl rfl)
theorem dX0_areFewIn_15 : decode cX0_areFewIn 15 = .ok (.pop, 1) := dk_87 (dk_at dksX0_areFewIn_0 15 rfl rfl)
theorem dX0_areFewIn_16 : decode cX0_areFewIn 16 = .ok (.iconst 0, 1) := dk_3 (dk_at dksX0_areFewIn_0 16 rfl rfl)
theorem dX0_areFewIn_17 : decode cX0_areFewIn 17 = .ok (.istore_n 3, 1) := dk_62 (dk_at dksX0_areFewIn_0 17 rfl rfl)
theorem dX0_areFewIn_18 : decode cX0_areFewIn 18 = .ok (.iload_n 3, 1) := dk_29 (dk_at dksX0_areFewIn_0 18 rfl rfl)
theorem dX0_areFewIn_19 : decode cX0_areFewIn 19 = .ok (.aload_n 0, 1) := dk_42 (dk_at dksX0_areFewIn_0 19 rfl rfl)
theorem dX0_areFewIn_20 : decode cX0_areFewIn 20 = .ok (.getfield 10, 3) := dk_180 0 10 (dk_at dksX0_areFewIn_0 20 rfl rfl)
theorem dX0_areFewIn_23 : decode cX0_areFewIn 23 = .ok (.invokevirtual 121, 3) := dk_182 0 121 (dk_at dksX0_areFewIn_1 0 rfl rfl)
theorem dX0_areFewIn_26 : decode cX0_areFewIn 26 = .ok (.if_icmp .ge 25, 3) := dk_162 0 25 (dk_at dksX0_areFewIn_1 3 rfl rfl)
theorem dX0_areFewIn_29 : decode cX0_areFewIn 29 = .ok (.aload_n 0, 1) := dk_42 (dk_at dksX0_areFewIn_1 6 rfl rfl)
theorem dX0_areFewIn_30 : decode cX0_areFewIn 30 = .ok (.getfield 23, 3) := dk_180 0 23 (dk_at dksX0_areFewIn_1 7 rfl rfl)
theorem dX0_areFewIn_33 : decode cX0_areFewIn 33 = .ok (.getfield 168, 3) := dk_180 0 168 (dk_at dksX0_areFewIn_1 10 rfl rfl)
theorem dX0_areFewIn_36 : decode cX0_areFewIn 36 = .ok (.iload_n 3, 1) := dk_29 (dk_at dksX0_areFewIn_1 13 rfl rfl)
theorem dX0_areFewIn_37 : decode cX0_areFewIn 37 = .ok (.iaload, 1) := dk_46 (dk_at dksX0_areFewIn_1 14 rfl rfl)
theorem dX0_areFewIn_38 : decode cX0_areFewIn 38 = .ok (.bipush 20, 2) := dk_16 20 (dk_at dksX0_areFewIn_1 15 rfl rfl)
theorem dX0_areFewIn_40 : decode cX0_areFewIn 40 = .ok (.if_icmp .le 5, 3) := dk_164 0 5 (dk_at dksX0_areFewIn_1 17 rfl rfl)
theorem dX0_areFewIn_43 : decode cX0_areFewIn 43 = .ok (.iconst 0, 1) := dk_3 (dk_at dksX0_areFewIn_1 20 rfl rfl)
theorem dX0_areFewIn_44 : decode cX0_areFewIn 44 = .ok (.ireturn, 1) := dk_172 (dk_at dksX0_areFewIn_1 21 rfl rfl)
theorem dX0_areFewIn_45 : decode cX0_areFewIn 45 = .ok (.iinc 3 1, 3) := dk_132 3 1 (dk_at dksX0_areFewIn_2 0 rfl rfl)
theorem dX0_areFewIn_48 : decode cX0_areFewIn 48 = .ok (.goto (-30), 3) := dk_167 255 226 (dk_at dksX0_areFewIn_2 3 rfl rfl)
theorem dX0_areFewIn_51 : decode cX0_areFewIn 51 = .ok (.iinc 2 1, 3) := dk_132 2 1 (dk_at dksX0_areFewIn_2 6 rfl rfl)
theorem dX0_areFewIn_54 : decode cX0_areFewIn 54 = .ok (.goto (-52), 3) := dk_167 255 204 (dk_at dksX0_areFewIn_2 9 rfl rfl)
theorem dX0_areFewIn_57 : decode cX0_areFewIn 57 = .ok (.iconst 1, 1) := dk_4 (dk_at dksX0_areFewIn_2 12 rfl rfl)
theorem dX0_areFewIn_58 : decode cX0_areFewIn 58 = .ok (.ireturn, 1) := dk_172 (dk_at dksX0_areFewIn_2 13 rfl rfl)
abbrev cX0_shut : ByteArray := prog_1_method_45_code
def yX0_shut : MethodName := ⟨RX0, "shut", "(II)I"⟩
def dkwX0_shut_6 : List UInt8 := [167, 255, 156, 42, 2, 181, 0, 63, 28, 154, 0, 7, 29, 167, 0, 5, 21, 4, 172]
abbrev dktX0_shut_6 : List UInt8 := dkwX0_shut_6 ++ []
def dkwX0_shut_5 : List UInt8 := [159, 0, 13, 21, 6, 21, 4, 161, 0, 6, 167, 0, 10, 21, 5, 62, 21, 6, 54, 4, 132, 5, 1]
abbrev dktX0_shut_5 : List UInt8 := dkwX0_shut_5 ++ dktX0_shut_6
def dkwX0_shut_4 : List UInt8 := [2, 160, 0, 7, 3, 167, 0, 13, 42, 180, 0, 23, 180, 0, 183, 21, 5, 46, 100, 54, 6, 21, 4, 2]
abbrev dktX0_shut_4 : List UInt8 := dkwX0_shut_4 ++ dktX0_shut_5
def dkwX0_shut_3 : List UInt8 := [21, 5, 2, 159, 0, 14, 42, 180, 0, 23, 180, 0, 168, 21, 5, 3, 79, 42, 27, 182, 1, 52, 21, 5]
abbrev dktX0_shut_3 : List UInt8 := dkwX0_shut_3 ++ dktX0_shut_4
def dkwX0_shut_2 : List UInt8 := [182, 0, 121, 162, 0, 94, 42, 21, 5, 181, 0, 63, 42, 180, 0, 23, 42, 180, 0, 19, 182, 1, 22]
abbrev dktX0_shut_2 : List UInt8 := dkwX0_shut_2 ++ dktX0_shut_3
def dkwX0_shut_1 : List UInt8 := [184, 0, 125, 154, 0, 6, 16, 254, 172, 2, 62, 2, 54, 4, 2, 54, 5, 21, 5, 42, 180, 0, 10]
abbrev dktX0_shut_1 : List UInt8 := dkwX0_shut_1 ++ dktX0_shut_2
def dkwX0_shut_0 : List UInt8 := [42, 182, 1, 26, 153, 0, 25, 27, 133, 10, 20, 1, 73, 184, 0, 125, 153, 0, 13, 28, 133, 9, 10]
abbrev dktX0_shut_0 : List UInt8 := dkwX0_shut_0 ++ dktX0_shut_1
theorem dksX0_shut_0 : cX0_shut.data.toList.drop 0 = dktX0_shut_0 := by decide +kernel
theorem dksX0_shut_1 : cX0_shut.data.toList.drop 23 = dktX0_shut_1 := dk_seg dksX0_shut_0 23 rfl rfl
theorem dksX0_shut_2 : cX0_shut.data.toList.drop 46 = dktX0_shut_2 := dk_seg dksX0_shut_1 23 rfl rfl
theorem dksX0_shut_3 : cX0_shut.data.toList.drop 69 = dktX0_shut_3 := dk_seg dksX0_shut_2 23 rfl rfl
theorem dksX0_shut_4 : cX0_shut.data.toList.drop 93 = dktX0_shut_4 := dk_seg dksX0_shut_3 24 rfl rfl
theorem dksX0_shut_5 : cX0_shut.data.toList.drop 117 = dktX0_shut_5 := dk_seg dksX0_shut_4 24 rfl rfl
theorem dksX0_shut_6 : cX0_shut.data.toList.drop 140 = dktX0_shut_6 := dk_seg dksX0_shut_5 23 rfl rfl
theorem dX0_shut_0 : decode cX0_shut 0 = .ok (.aload_n 0, 1) := dk_42 (dk_at dksX0_shut_0 0 rfl rfl)
theorem dX0_shut_1 : decode cX0_shut 1 = .ok (.invokevirtual 282, 3) := dk_182 1 26 (dk_at dksX0_shut_0 1 rfl rfl)
theorem dX0_shut_4 : decode cX0_shut 4 = .ok (.ifCond .eq 25, 3) := dk_153 0 25 (dk_at dksX0_shut_0 4 rfl rfl)
theorem dX0_shut_7 : decode cX0_shut 7 = .ok (.iload_n 1, 1) := dk_27 (dk_at dksX0_shut_0 7 rfl rfl)
theorem dX0_shut_8 : decode cX0_shut 8 = .ok (.i2l, 1) := dk_133 (dk_at dksX0_shut_0 8 rfl rfl)
theorem dX0_shut_9 : decode cX0_shut 9 = .ok (.lconst 1, 1) := dk_10 (dk_at dksX0_shut_0 9 rfl rfl)
theorem dX0_shut_10 : decode cX0_shut 10 = .ok (.ldc2_w 329, 3) := dk_20 1 73 (dk_at dksX0_shut_0 10 rfl rfl)
theorem dX0_shut_13 : decode cX0_shut 13 = .ok (.invokestatic 125, 3) := dk_184 0 125 (dk_at dksX0_shut_0 13 rfl rfl)
theorem dX0_shut_16 : decode cX0_shut 16 = .ok (.ifCond .eq 13, 3) := dk_153 0 13 (dk_at dksX0_shut_0 16 rfl rfl)
theorem dX0_shut_19 : decode cX0_shut 19 = .ok (.iload_n 2, 1) := dk_28 (dk_at dksX0_shut_0 19 rfl rfl)
theorem dX0_shut_20 : decode cX0_shut 20 = .ok (.i2l, 1) := dk_133 (dk_at dksX0_shut_0 20 rfl rfl)
theorem dX0_shut_21 : decode cX0_shut 21 = .ok (.lconst 0, 1) := dk_9 (dk_at dksX0_shut_0 21 rfl rfl)
theorem dX0_shut_22 : decode cX0_shut 22 = .ok (.lconst 1, 1) := dk_10 (dk_at dksX0_shut_0 22 rfl rfl)
theorem dX0_shut_23 : decode cX0_shut 23 = .ok (.invokestatic 125, 3) := dk_184 0 125 (dk_at dksX0_shut_1 0 rfl rfl)
theorem dX0_shut_26 : decode cX0_shut 26 = .ok (.ifCond .ne 6, 3) := dk_154 0 6 (dk_at dksX0_shut_1 3 rfl rfl)
theorem dX0_shut_29 : decode cX0_shut 29 = .ok (.bipush (-2), 2) := dk_16 254 (dk_at dksX0_shut_1 6 rfl rfl)
theorem dX0_shut_31 : decode cX0_shut 31 = .ok (.ireturn, 1) := dk_172 (dk_at dksX0_shut_1 8 rfl rfl)
theorem dX0_shut_32 : decode cX0_shut 32 = .ok (.iconst (-1), 1) := dk_2 (dk_at dksX0_shut_1 9 rfl rfl)
theorem dX0_shut_33 : decode cX0_shut 33 = .ok (.istore_n 3, 1) := dk_62 (dk_at dksX0_shut_1 10 rfl rfl)
theorem dX0_shut_34 : decode cX0_shut 34 = .ok (.iconst (-1), 1) := dk_2 (dk_at dksX0_shut_1 11 rfl rfl)
theorem dX0_shut_35 : decode cX0_shut 35 = .ok (.istore 4, 2) := dk_54 4 (dk_at dksX0_shut_1 12 rfl rfl)
theorem dX0_shut_37 : decode cX0_shut 37 = .ok (.iconst (-1), 1) := dk_2 (dk_at dksX0_shut_1 14 rfl rfl)
theorem dX0_shut_38 : decode cX0_shut 38 = .ok (.istore 5, 2) := dk_54 5 (dk_at dksX0_shut_1 15 rfl rfl)
theorem dX0_shut_40 : decode cX0_shut 40 = .ok (.iload 5, 2) := dk_21 5 (dk_at dksX0_shut_1 17 rfl rfl)
theorem dX0_shut_42 : decode cX0_shut 42 = .ok (.aload_n 0, 1) := dk_42 (dk_at dksX0_shut_1 19 rfl rfl)
theorem dX0_shut_43 : decode cX0_shut 43 = .ok (.getfield 10, 3) := dk_180 0 10 (dk_at dksX0_shut_1 20 rfl rfl)
theorem dX0_shut_46 : decode cX0_shut 46 = .ok (.invokevirtual 121, 3) := dk_182 0 121 (dk_at dksX0_shut_2 0 rfl rfl)
theorem dX0_shut_49 : decode cX0_shut 49 = .ok (.if_icmp .ge 94, 3) := dk_162 0 94 (dk_at dksX0_shut_2 3 rfl rfl)
theorem dX0_shut_52 : decode cX0_shut 52 = .ok (.aload_n 0, 1) := dk_42 (dk_at dksX0_shut_2 6 rfl rfl)
theorem dX0_shut_53 : decode cX0_shut 53 = .ok (.iload 5, 2) := dk_21 5 (dk_at dksX0_shut_2 7 rfl rfl)
theorem dX0_shut_55 : decode cX0_shut 55 = .ok (.putfield 63, 3) := dk_181 0 63 (dk_at dksX0_shut_2 9 rfl rfl)
theorem dX0_shut_58 : decode cX0_shut 58 = .ok (.aload_n 0, 1) := dk_42 (dk_at dksX0_shut_2 12 rfl rfl)
theorem dX0_shut_59 : decode cX0_shut 59 = .ok (.getfield 23, 3) := dk_180 0 23 (dk_at dksX0_shut_2 13 rfl rfl)
theorem dX0_shut_62 : decode cX0_shut 62 = .ok (.aload_n 0, 1) := dk_42 (dk_at dksX0_shut_2 16 rfl rfl)
theorem dX0_shut_63 : decode cX0_shut 63 = .ok (.getfield 19, 3) := dk_180 0 19 (dk_at dksX0_shut_2 17 rfl rfl)
theorem dX0_shut_66 : decode cX0_shut 66 = .ok (.invokevirtual 278, 3) := dk_182 1 22 (dk_at dksX0_shut_2 20 rfl rfl)
theorem dX0_shut_69 : decode cX0_shut 69 = .ok (.iload 5, 2) := dk_21 5 (dk_at dksX0_shut_3 0 rfl rfl)
theorem dX0_shut_71 : decode cX0_shut 71 = .ok (.iconst (-1), 1) := dk_2 (dk_at dksX0_shut_3 2 rfl rfl)
theorem dX0_shut_72 : decode cX0_shut 72 = .ok (.if_icmp .eq 14, 3) := dk_159 0 14 (dk_at dksX0_shut_3 3 rfl rfl)
theorem dX0_shut_75 : decode cX0_shut 75 = .ok (.aload_n 0, 1) := dk_42 (dk_at dksX0_shut_3 6 rfl rfl)
theorem dX0_shut_76 : decode cX0_shut 76 = .ok (.getfield 23, 3) := dk_180 0 23 (dk_at dksX0_shut_3 7 rfl rfl)
theorem dX0_shut_79 : decode cX0_shut 79 = .ok (.getfield 168, 3) := dk_180 0 168 (dk_at dksX0_shut_3 10 rfl rfl)
theorem dX0_shut_82 : decode cX0_shut 82 = .ok (.iload 5, 2) := dk_21 5 (dk_at dksX0_shut_3 13 rfl rfl)
theorem dX0_shut_84 : decode cX0_shut 84 = .ok (.iconst 0, 1) := dk_3 (dk_at dksX0_shut_3 15 rfl rfl)
theorem dX0_shut_85 : decode cX0_shut 85 = .ok (.iastore, 1) := dk_79 (dk_at dksX0_shut_3 16 rfl rfl)
theorem dX0_shut_86 : decode cX0_shut 86 = .ok (.aload_n 0, 1) := dk_42 (dk_at dksX0_shut_3 17 rfl rfl)
theorem dX0_shut_87 : decode cX0_shut 87 = .ok (.iload_n 1, 1) := dk_27 (dk_at dksX0_shut_3 18 rfl rfl)
theorem dX0_shut_88 : decode cX0_shut 88 = .ok (.invokevirtual 308, 3) := dk_182 1 52 (dk_at dksX0_shut_3 19 rfl rfl)
theorem dX0_shut_91 : decode cX0_shut 91 = .ok (.iload 5, 2) := dk_21 5 (dk_at dksX0_shut_3 22 rfl rfl)
theorem dX0_shut_93 : decode cX0_shut 93 = .ok (.iconst (-1), 1) := dk_2 (dk_at dksX0_shut_4 0 rfl rfl)
theorem dX0_shut_94 : decode cX0_shut 94 = .ok (.if_icmp .ne 7, 3) := dk_160 0 7 (dk_at dksX0_shut_4 1 rfl rfl)
theorem dX0_shut_97 : decode cX0_shut 97 = .ok (.iconst 0, 1) := dk_3 (dk_at dksX0_shut_4 4 rfl rfl)
theorem dX0_shut_98 : decode cX0_shut 98 = .ok (.goto 13, 3) := dk_167 0 13 (dk_at dksX0_shut_4 5 rfl rfl)
theorem dX0_shut_101 : decode cX0_shut 101 = .ok (.aload_n 0, 1) := dk_42 (dk_at dksX0_shut_4 8 rfl rfl)
theorem dX0_shut_102 : decode cX0_shut 102 = .ok (.getfield 23, 3) := dk_180 0 23 (dk_at dksX0_shut_4 9 rfl rfl)
theorem dX0_shut_105 : decode cX0_shut 105 = .ok (.getfield 183, 3) := dk_180 0 183 (dk_at dksX0_shut_4 12 rfl rfl)
theorem dX0_shut_108 : decode cX0_shut 108 = .ok (.iload 5, 2) := dk_21 5 (dk_at dksX0_shut_4 15 rfl rfl)
theorem dX0_shut_110 : decode cX0_shut 110 = .ok (.iaload, 1) := dk_46 (dk_at dksX0_shut_4 17 rfl rfl)
theorem dX0_shut_111 : decode cX0_shut 111 = .ok (.isub, 1) := dk_100 (dk_at dksX0_shut_4 18 rfl rfl)
theorem dX0_shut_112 : decode cX0_shut 112 = .ok (.istore 6, 2) := dk_54 6 (dk_at dksX0_shut_4 19 rfl rfl)
theorem dX0_shut_114 : decode cX0_shut 114 = .ok (.iload 4, 2) := dk_21 4 (dk_at dksX0_shut_4 21 rfl rfl)
theorem dX0_shut_116 : decode cX0_shut 116 = .ok (.iconst (-1), 1) := dk_2 (dk_at dksX0_shut_4 23 rfl rfl)
theorem dX0_shut_117 : decode cX0_shut 117 = .ok (.if_icmp .eq 13, 3) := dk_159 0 13 (dk_at dksX0_shut_5 0 rfl rfl)
theorem dX0_shut_120 : decode cX0_shut 120 = .ok (.iload 6, 2) := dk_21 6 (dk_at dksX0_shut_5 3 rfl rfl)
theorem dX0_shut_122 : decode cX0_shut 122 = .ok (.iload 4, 2) := dk_21 4 (dk_at dksX0_shut_5 5 rfl rfl)
theorem dX0_shut_124 : decode cX0_shut 124 = .ok (.if_icmp .lt 6, 3) := dk_161 0 6 (dk_at dksX0_shut_5 7 rfl rfl)
theorem dX0_shut_127 : decode cX0_shut 127 = .ok (.goto 10, 3) := dk_167 0 10 (dk_at dksX0_shut_5 10 rfl rfl)
theorem dX0_shut_130 : decode cX0_shut 130 = .ok (.iload 5, 2) := dk_21 5 (dk_at dksX0_shut_5 13 rfl rfl)
theorem dX0_shut_132 : decode cX0_shut 132 = .ok (.istore_n 3, 1) := dk_62 (dk_at dksX0_shut_5 15 rfl rfl)
theorem dX0_shut_133 : decode cX0_shut 133 = .ok (.iload 6, 2) := dk_21 6 (dk_at dksX0_shut_5 16 rfl rfl)
theorem dX0_shut_135 : decode cX0_shut 135 = .ok (.istore 4, 2) := dk_54 4 (dk_at dksX0_shut_5 18 rfl rfl)
theorem dX0_shut_137 : decode cX0_shut 137 = .ok (.iinc 5 1, 3) := dk_132 5 1 (dk_at dksX0_shut_5 20 rfl rfl)
theorem dX0_shut_140 : decode cX0_shut 140 = .ok (.goto (-100), 3) := dk_167 255 156 (dk_at dksX0_shut_6 0 rfl rfl)
theorem dX0_shut_143 : decode cX0_shut 143 = .ok (.aload_n 0, 1) := dk_42 (dk_at dksX0_shut_6 3 rfl rfl)
theorem dX0_shut_144 : decode cX0_shut 144 = .ok (.iconst (-1), 1) := dk_2 (dk_at dksX0_shut_6 4 rfl rfl)
theorem dX0_shut_145 : decode cX0_shut 145 = .ok (.putfield 63, 3) := dk_181 0 63 (dk_at dksX0_shut_6 5 rfl rfl)
theorem dX0_shut_148 : decode cX0_shut 148 = .ok (.iload_n 2, 1) := dk_28 (dk_at dksX0_shut_6 8 rfl rfl)
theorem dX0_shut_149 : decode cX0_shut 149 = .ok (.ifCond .ne 7, 3) := dk_154 0 7 (dk_at dksX0_shut_6 9 rfl rfl)
theorem dX0_shut_152 : decode cX0_shut 152 = .ok (.iload_n 3, 1) := dk_29 (dk_at dksX0_shut_6 12 rfl rfl)
theorem dX0_shut_153 : decode cX0_shut 153 = .ok (.goto 5, 3) := dk_167 0 5 (dk_at dksX0_shut_6 13 rfl rfl)
theorem dX0_shut_156 : decode cX0_shut 156 = .ok (.iload 4, 2) := dk_21 4 (dk_at dksX0_shut_6 16 rfl rfl)
theorem dX0_shut_158 : decode cX0_shut 158 = .ok (.ireturn, 1) := dk_172 (dk_at dksX0_shut_6 18 rfl rfl)
abbrev cX0_rests : ByteArray := prog_1_method_48_code
def yX0_rests : MethodName := ⟨RX0, "rests", "(IIII)I"⟩
def dkwX0_rests_9 : List UInt8 := [21, 4, 4, 160, 0, 10, 21, 6, 8, 108, 167, 0, 7, 21, 6, 8, 112, 104, 96, 172]
abbrev dktX0_rests_9 : List UInt8 := dkwX0_rests_9 ++ []
def dkwX0_rests_8 : List UInt8 := [167, 255, 217, 21, 4, 154, 0, 6, 21, 5, 172, 21, 6, 2, 160, 0, 8, 16, 254, 167, 0, 24, 4, 5]
abbrev dktX0_rests_8 : List UInt8 := dkwX0_rests_8 ++ dktX0_rests_9
def dkwX0_rests_7 : List UInt8 := [167, 0, 20, 21, 5, 154, 0, 8, 21, 7, 167, 0, 5, 21, 6, 54, 6, 132, 5, 1, 132, 7, 1]
abbrev dktX0_rests_7 : List UInt8 := dkwX0_rests_7 ++ dktX0_rests_8
def dkwX0_rests_6 : List UInt8 := [54, 5, 2, 54, 6, 3, 54, 7, 21, 7, 16, 25, 162, 0, 38, 42, 21, 7, 182, 1, 81, 154, 0, 6]
abbrev dktX0_rests_6 : List UInt8 := dkwX0_rests_6 ++ dktX0_rests_7
def dkwX0_rests_5 : List UInt8 := [182, 1, 78, 79, 42, 180, 0, 103, 21, 5, 42, 28, 182, 1, 78, 79, 132, 5, 1, 167, 255, 172, 3]
abbrev dktX0_rests_5 : List UInt8 := dkwX0_rests_5 ++ dktX0_rests_6
def dkwX0_rests_4 : List UInt8 := [4, 5, 21, 5, 8, 112, 104, 96, 79, 42, 29, 182, 1, 16, 42, 180, 0, 100, 21, 5, 42, 27]
abbrev dktX0_rests_4 : List UInt8 := dkwX0_rests_4 ++ dktX0_rests_5
def dkwX0_rests_3 : List UInt8 := [180, 0, 23, 180, 0, 171, 27, 4, 5, 21, 5, 8, 108, 104, 96, 79, 42, 180, 0, 23, 180, 0, 171, 28]
abbrev dktX0_rests_3 : List UInt8 := dkwX0_rests_3 ++ dktX0_rests_4
def dkwX0_rests_2 : List UInt8 := [3, 54, 5, 21, 5, 16, 25, 162, 0, 83, 42, 180, 0, 23, 42, 180, 0, 19, 182, 1, 22, 42]
abbrev dktX0_rests_2 : List UInt8 := dkwX0_rests_2 ++ dktX0_rests_3
def dkwX0_rests_1 : List UInt8 := [20, 1, 33, 184, 0, 125, 153, 0, 16, 21, 4, 133, 9, 20, 1, 37, 184, 0, 125, 154, 0, 5, 2, 172]
abbrev dktX0_rests_1 : List UInt8 := dkwX0_rests_1 ++ dktX0_rests_2
def dkwX0_rests_0 : List UInt8 := [42, 27, 182, 0, 164, 153, 0, 41, 42, 28, 182, 0, 164, 153, 0, 33, 27, 28, 159, 0, 28, 29, 133, 10]
abbrev dktX0_rests_0 : List UInt8 := dkwX0_rests_0 ++ dktX0_rests_1
theorem dksX0_rests_0 : cX0_rests.data.toList.drop 0 = dktX0_rests_0 := by decide +kernel
theorem dksX0_rests_1 : cX0_rests.data.toList.drop 24 = dktX0_rests_1 := dk_seg dksX0_rests_0 24 rfl rfl
theorem dksX0_rests_2 : cX0_rests.data.toList.drop 48 = dktX0_rests_2 := dk_seg dksX0_rests_1 24 rfl rfl
theorem dksX0_rests_3 : cX0_rests.data.toList.drop 70 = dktX0_rests_3 := dk_seg dksX0_rests_2 22 rfl rfl
theorem dksX0_rests_4 : cX0_rests.data.toList.drop 94 = dktX0_rests_4 := dk_seg dksX0_rests_3 24 rfl rfl
theorem dksX0_rests_5 : cX0_rests.data.toList.drop 116 = dktX0_rests_5 := dk_seg dksX0_rests_4 22 rfl rfl
theorem dksX0_rests_6 : cX0_rests.data.toList.drop 139 = dktX0_rests_6 := dk_seg dksX0_rests_5 23 rfl rfl
theorem dksX0_rests_7 : cX0_rests.data.toList.drop 163 = dktX0_rests_7 := dk_seg dksX0_rests_6 24 rfl rfl
theorem dksX0_rests_8 : cX0_rests.data.toList.drop 186 = dktX0_rests_8 := dk_seg dksX0_rests_7 23 rfl rfl
theorem dksX0_rests_9 : cX0_rests.data.toList.drop 210 = dktX0_rests_9 := dk_seg dksX0_rests_8 24 rfl rfl
theorem dX0_rests_0 : decode cX0_rests 0 = .ok (.aload_n 0, 1) := dk_42 (dk_at dksX0_rests_0 0 rfl rfl)
theorem dX0_rests_1 : decode cX0_rests 1 = .ok (.iload_n 1, 1) := dk_27 (dk_at dksX0_rests_0 1 rfl rfl)
theorem dX0_rests_2 : decode cX0_rests 2 = .ok (.invokevirtual 164, 3) := dk_182 0 164 (dk_at dksX0_rests_0 2 rfl rfl)
theorem dX0_rests_5 : decode cX0_rests 5 = .ok (.ifCond .eq 41, 3) := dk_153 0 41 (dk_at dksX0_rests_0 5 rfl rfl)
theorem dX0_rests_8 : decode cX0_rests 8 = .ok (.aload_n 0, 1) := dk_42 (dk_at dksX0_rests_0 8 rfl rfl)
theorem dX0_rests_9 : decode cX0_rests 9 = .ok (.iload_n 2, 1) := dk_28 (dk_at dksX0_rests_0 9 rfl rfl)
theorem dX0_rests_10 : decode cX0_rests 10 = .ok (.invokevirtual 164, 3) := dk_182 0 164 (dk_at dksX0_rests_0 10 rfl rfl)
theorem dX0_rests_13 : decode cX0_rests 13 = .ok (.ifCond .eq 33, 3) := dk_153 0 33 (dk_at dksX0_rests_0 13 rfl rfl)
theorem dX0_rests_16 : decode cX0_rests 16 = .ok (.iload_n 1, 1) := dk_27 (dk_at dksX0_rests_0 16 rfl rfl)
theorem dX0_rests_17 : decode cX0_rests 17 = .ok (.iload_n 2, 1) := dk_28 (dk_at dksX0_rests_0 17 rfl rfl)
theorem dX0_rests_18 : decode cX0_rests 18 = .ok (.if_icmp .eq 28, 3) := dk_159 0 28 (dk_at dksX0_rests_0 18 rfl rfl)
theorem dX0_rests_21 : decode cX0_rests 21 = .ok (.iload_n 3, 1) := dk_29 (dk_at dksX0_rests_0 21 rfl rfl)
theorem dX0_rests_22 : decode cX0_rests 22 = .ok (.i2l, 1) := dk_133 (dk_at dksX0_rests_0 22 rfl rfl)
theorem dX0_rests_23 : decode cX0_rests 23 = .ok (.lconst 1, 1) := dk_10 (dk_at dksX0_rests_0 23 rfl rfl)
theorem dX0_rests_24 : decode cX0_rests 24 = .ok (.ldc2_w 289, 3) := dk_20 1 33 (dk_at dksX0_rests_1 0 rfl rfl)
theorem dX0_rests_27 : decode cX0_rests 27 = .ok (.invokestatic 125, 3) := dk_184 0 125 (dk_at dksX0_rests_1 3 rfl rfl)
theorem dX0_rests_30 : decode cX0_rests 30 = .ok (.ifCond .eq 16, 3) := dk_153 0 16 (dk_at dksX0_rests_1 6 rfl rfl)
theorem dX0_rests_33 : decode cX0_rests 33 = .ok (.iload 4, 2) := dk_21 4 (dk_at dksX0_rests_1 9 rfl rfl)
theorem dX0_rests_35 : decode cX0_rests 35 = .ok (.i2l, 1) := dk_133 (dk_at dksX0_rests_1 11 rfl rfl)
theorem dX0_rests_36 : decode cX0_rests 36 = .ok (.lconst 0, 1) := dk_9 (dk_at dksX0_rests_1 12 rfl rfl)
theorem dX0_rests_37 : decode cX0_rests 37 = .ok (.ldc2_w 293, 3) := dk_20 1 37 (dk_at dksX0_rests_1 13 rfl rfl)
theorem dX0_rests_40 : decode cX0_rests 40 = .ok (.invokestatic 125, 3) := dk_184 0 125 (dk_at dksX0_rests_1 16 rfl rfl)
theorem dX0_rests_43 : decode cX0_rests 43 = .ok (.ifCond .ne 5, 3) := dk_154 0 5 (dk_at dksX0_rests_1 19 rfl rfl)
theorem dX0_rests_46 : decode cX0_rests 46 = .ok (.iconst (-1), 1) := dk_2 (dk_at dksX0_rests_1 22 rfl rfl)
theorem dX0_rests_47 : decode cX0_rests 47 = .ok (.ireturn, 1) := dk_172 (dk_at dksX0_rests_1 23 rfl rfl)
theorem dX0_rests_48 : decode cX0_rests 48 = .ok (.iconst 0, 1) := dk_3 (dk_at dksX0_rests_2 0 rfl rfl)
theorem dX0_rests_49 : decode cX0_rests 49 = .ok (.istore 5, 2) := dk_54 5 (dk_at dksX0_rests_2 1 rfl rfl)
theorem dX0_rests_51 : decode cX0_rests 51 = .ok (.iload 5, 2) := dk_21 5 (dk_at dksX0_rests_2 3 rfl rfl)
theorem dX0_rests_53 : decode cX0_rests 53 = .ok (.bipush 25, 2) := dk_16 25 (dk_at dksX0_rests_2 5 rfl rfl)
theorem dX0_rests_55 : decode cX0_rests 55 = .ok (.if_icmp .ge 83, 3) := dk_162 0 83 (dk_at dksX0_rests_2 7 rfl rfl)
theorem dX0_rests_58 : decode cX0_rests 58 = .ok (.aload_n 0, 1) := dk_42 (dk_at dksX0_rests_2 10 rfl rfl)
theorem dX0_rests_59 : decode cX0_rests 59 = .ok (.getfield 23, 3) := dk_180 0 23 (dk_at dksX0_rests_2 11 rfl rfl)
theorem dX0_rests_62 : decode cX0_rests 62 = .ok (.aload_n 0, 1) := dk_42 (dk_at dksX0_rests_2 14 rfl rfl)
theorem dX0_rests_63 : decode cX0_rests 63 = .ok (.getfield 19, 3) := dk_180 0 19 (dk_at dksX0_rests_2 15 rfl rfl)
theorem dX0_rests_66 : decode cX0_rests 66 = .ok (.invokevirtual 278, 3) := dk_182 1 22 (dk_at dksX0_rests_2 18 rfl rfl)
theorem dX0_rests_69 : decode cX0_rests 69 = .ok (.aload_n 0, 1) := dk_42 (dk_at dksX0_rests_2 21 rfl rfl)
theorem dX0_rests_70 : decode cX0_rests 70 = .ok (.getfield 23, 3) := dk_180 0 23 (dk_at dksX0_rests_3 0 rfl rfl)
theorem dX0_rests_73 : decode cX0_rests 73 = .ok (.getfield 171, 3) := dk_180 0 171 (dk_at dksX0_rests_3 3 rfl rfl)
theorem dX0_rests_76 : decode cX0_rests 76 = .ok (.iload_n 1, 1) := dk_27 (dk_at dksX0_rests_3 6 rfl rfl)
theorem dX0_rests_77 : decode cX0_rests 77 = .ok (.iconst 1, 1) := dk_4 (dk_at dksX0_rests_3 7 rfl rfl)
theorem dX0_rests_78 : decode cX0_rests 78 = .ok (.iconst 2, 1) := dk_5 (dk_at dksX0_rests_3 8 rfl rfl)
theorem dX0_rests_79 : decode cX0_rests 79 = .ok (.iload 5, 2) := dk_21 5 (dk_at dksX0_rests_3 9 rfl rfl)
theorem dX0_rests_81 : decode cX0_rests 81 = .ok (.iconst 5, 1) := dk_8 (dk_at dksX0_rests_3 11 rfl rfl)
theorem dX0_rests_82 : decode cX0_rests 82 = .ok (.idiv, 1) := dk_108 (dk_at dksX0_rests_3 12 rfl rfl)
theorem dX0_rests_83 : decode cX0_rests 83 = .ok (.imul, 1) := dk_104 (dk_at dksX0_rests_3 13 rfl rfl)
theorem dX0_rests_84 : decode cX0_rests 84 = .ok (.iadd, 1) := dk_96 (dk_at dksX0_rests_3 14 rfl rfl)
theorem dX0_rests_85 : decode cX0_rests 85 = .ok (.iastore, 1) := dk_79 (dk_at dksX0_rests_3 15 rfl rfl)
theorem dX0_rests_86 : decode cX0_rests 86 = .ok (.aload_n 0, 1) := dk_42 (dk_at dksX0_rests_3 16 rfl rfl)
theorem dX0_rests_87 : decode cX0_rests 87 = .ok (.getfield 23, 3) := dk_180 0 23 (dk_at dksX0_rests_3 17 rfl rfl)
theorem dX0_rests_90 : decode cX0_rests 90 = .ok (.getfield 171, 3) := dk_180 0 171 (dk_at dksX0_rests_3 20 rfl rfl)
theorem dX0_rests_93 : decode cX0_rests 93 = .ok (.iload_n 2, 1) := dk_28 (dk_at dksX0_rests_3 23 rfl rfl)
theorem dX0_rests_94 : decode cX0_rests 94 = .ok (.iconst 1, 1) := dk_4 (dk_at dksX0_rests_4 0 rfl rfl)
theorem dX0_rests_95 : decode cX0_rests 95 = .ok (.iconst 2, 1) := dk_5 (dk_at dksX0_rests_4 1 rfl rfl)
theorem dX0_rests_96 : decode cX0_rests 96 = .ok (.iload 5, 2) := dk_21 5 (dk_at dksX0_rests_4 2 rfl rfl)
theorem dX0_rests_98 : decode cX0_rests 98 = .ok (.iconst 5, 1) := dk_8 (dk_at dksX0_rests_4 4 rfl rfl)
theorem dX0_rests_99 : decode cX0_rests 99 = .ok (.irem, 1) := dk_112 (dk_at dksX0_rests_4 5 rfl rfl)
theorem dX0_rests_100 : decode cX0_rests 100 = .ok (.imul, 1) := dk_104 (dk_at dksX0_rests_4 6 rfl rfl)
theorem dX0_rests_101 : decode cX0_rests 101 = .ok (.iadd, 1) := dk_96 (dk_at dksX0_rests_4 7 rfl rfl)
theorem dX0_rests_102 : decode cX0_rests 102 = .ok (.iastore, 1) := dk_79 (dk_at dksX0_rests_4 8 rfl rfl)
theorem dX0_rests_103 : decode cX0_rests 103 = .ok (.aload_n 0, 1) := dk_42 (dk_at dksX0_rests_4 9 rfl rfl)
theorem dX0_rests_104 : decode cX0_rests 104 = .ok (.iload_n 3, 1) := dk_29 (dk_at dksX0_rests_4 10 rfl rfl)
theorem dX0_rests_105 : decode cX0_rests 105 = .ok (.invokevirtual 272, 3) := dk_182 1 16 (dk_at dksX0_rests_4 11 rfl rfl)
theorem dX0_rests_108 : decode cX0_rests 108 = .ok (.aload_n 0, 1) := dk_42 (dk_at dksX0_rests_4 14 rfl rfl)
theorem dX0_rests_109 : decode cX0_rests 109 = .ok (.getfield 100, 3) := dk_180 0 100 (dk_at dksX0_rests_4 15 rfl rfl)
theorem dX0_rests_112 : decode cX0_rests 112 = .ok (.iload 5, 2) := dk_21 5 (dk_at dksX0_rests_4 18 rfl rfl)
theorem dX0_rests_114 : decode cX0_rests 114 = .ok (.aload_n 0, 1) := dk_42 (dk_at dksX0_rests_4 20 rfl rfl)
theorem dX0_rests_115 : decode cX0_rests 115 = .ok (.iload_n 1, 1) := dk_27 (dk_at dksX0_rests_4 21 rfl rfl)
theorem dX0_rests_116 : decode cX0_rests 116 = .ok (.invokevirtual 334, 3) := dk_182 1 78 (dk_at dksX0_rests_5 0 rfl rfl)
theorem dX0_rests_119 : decode cX0_rests 119 = .ok (.iastore, 1) := dk_79 (dk_at dksX0_rests_5 3 rfl rfl)
theorem dX0_rests_120 : decode cX0_rests 120 = .ok (.aload_n 0, 1) := dk_42 (dk_at dksX0_rests_5 4 rfl rfl)
theorem dX0_rests_121 : decode cX0_rests 121 = .ok (.getfield 103, 3) := dk_180 0 103 (dk_at dksX0_rests_5 5 rfl rfl)
theorem dX0_rests_124 : decode cX0_rests 124 = .ok (.iload 5, 2) := dk_21 5 (dk_at dksX0_rests_5 8 rfl rfl)
theorem dX0_rests_126 : decode cX0_rests 126 = .ok (.aload_n 0, 1) := dk_42 (dk_at dksX0_rests_5 10 rfl rfl)
theorem dX0_rests_127 : decode cX0_rests 127 = .ok (.iload_n 2, 1) := dk_28 (dk_at dksX0_rests_5 11 rfl rfl)
theorem dX0_rests_128 : decode cX0_rests 128 = .ok (.invokevirtual 334, 3) := dk_182 1 78 (dk_at dksX0_rests_5 12 rfl rfl)
theorem dX0_rests_131 : decode cX0_rests 131 = .ok (.iastore, 1) := dk_79 (dk_at dksX0_rests_5 15 rfl rfl)
theorem dX0_rests_132 : decode cX0_rests 132 = .ok (.iinc 5 1, 3) := dk_132 5 1 (dk_at dksX0_rests_5 16 rfl rfl)
theorem dX0_rests_135 : decode cX0_rests 135 = .ok (.goto (-84), 3) := dk_167 255 172 (dk_at dksX0_rests_5 19 rfl rfl)
theorem dX0_rests_138 : decode cX0_rests 138 = .ok (.iconst 0, 1) := dk_3 (dk_at dksX0_rests_5 22 rfl rfl)
theorem dX0_rests_139 : decode cX0_rests 139 = .ok (.istore 5, 2) := dk_54 5 (dk_at dksX0_rests_6 0 rfl rfl)
theorem dX0_rests_141 : decode cX0_rests 141 = .ok (.iconst (-1), 1) := dk_2 (dk_at dksX0_rests_6 2 rfl rfl)
theorem dX0_rests_142 : decode cX0_rests 142 = .ok (.istore 6, 2) := dk_54 6 (dk_at dksX0_rests_6 3 rfl rfl)
theorem dX0_rests_144 : decode cX0_rests 144 = .ok (.iconst 0, 1) := dk_3 (dk_at dksX0_rests_6 5 rfl rfl)
theorem dX0_rests_145 : decode cX0_rests 145 = .ok (.istore 7, 2) := dk_54 7 (dk_at dksX0_rests_6 6 rfl rfl)
theorem dX0_rests_147 : decode cX0_rests 147 = .ok (.iload 7, 2) := dk_21 7 (dk_at dksX0_rests_6 8 rfl rfl)
theorem dX0_rests_149 : decode cX0_rests 149 = .ok (.bipush 25, 2) := dk_16 25 (dk_at dksX0_rests_6 10 rfl rfl)
theorem dX0_rests_151 : decode cX0_rests 151 = .ok (.if_icmp .ge 38, 3) := dk_162 0 38 (dk_at dksX0_rests_6 12 rfl rfl)
theorem dX0_rests_154 : decode cX0_rests 154 = .ok (.aload_n 0, 1) := dk_42 (dk_at dksX0_rests_6 15 rfl rfl)
theorem dX0_rests_155 : decode cX0_rests 155 = .ok (.iload 7, 2) := dk_21 7 (dk_at dksX0_rests_6 16 rfl rfl)
theorem dX0_rests_157 : decode cX0_rests 157 = .ok (.invokevirtual 337, 3) := dk_182 1 81 (dk_at dksX0_rests_6 18 rfl rfl)
theorem dX0_rests_160 : decode cX0_rests 160 = .ok (.ifCond .ne 6, 3) := dk_154 0 6 (dk_at dksX0_rests_6 21 rfl rfl)
theorem dX0_rests_163 : decode cX0_rests 163 = .ok (.goto 20, 3) := dk_167 0 20 (dk_at dksX0_rests_7 0 rfl rfl)
theorem dX0_rests_166 : decode cX0_rests 166 = .ok (.iload 5, 2) := dk_21 5 (dk_at dksX0_rests_7 3 rfl rfl)
theorem dX0_rests_168 : decode cX0_rests 168 = .ok (.ifCond .ne 8, 3) := dk_154 0 8 (dk_at dksX0_rests_7 5 rfl rfl)
theorem dX0_rests_171 : decode cX0_rests 171 = .ok (.iload 7, 2) := dk_21 7 (dk_at dksX0_rests_7 8 rfl rfl)
theorem dX0_rests_173 : decode cX0_rests 173 = .ok (.goto 5, 3) := dk_167 0 5 (dk_at dksX0_rests_7 10 rfl rfl)
theorem dX0_rests_176 : decode cX0_rests 176 = .ok (.iload 6, 2) := dk_21 6 (dk_at dksX0_rests_7 13 rfl rfl)
theorem dX0_rests_178 : decode cX0_rests 178 = .ok (.istore 6, 2) := dk_54 6 (dk_at dksX0_rests_7 15 rfl rfl)
theorem dX0_rests_180 : decode cX0_rests 180 = .ok (.iinc 5 1, 3) := dk_132 5 1 (dk_at dksX0_rests_7 17 rfl rfl)
theorem dX0_rests_183 : decode cX0_rests 183 = .ok (.iinc 7 1, 3) := dk_132 7 1 (dk_at dksX0_rests_7 20 rfl rfl)
theorem dX0_rests_186 : decode cX0_rests 186 = .ok (.goto (-39), 3) := dk_167 255 217 (dk_at dksX0_rests_8 0 rfl rfl)
theorem dX0_rests_189 : decode cX0_rests 189 = .ok (.iload 4, 2) := dk_21 4 (dk_at dksX0_rests_8 3 rfl rfl)
theorem dX0_rests_191 : decode cX0_rests 191 = .ok (.ifCond .ne 6, 3) := dk_154 0 6 (dk_at dksX0_rests_8 5 rfl rfl)
theorem dX0_rests_194 : decode cX0_rests 194 = .ok (.iload 5, 2) := dk_21 5 (dk_at dksX0_rests_8 8 rfl rfl)
theorem dX0_rests_196 : decode cX0_rests 196 = .ok (.ireturn, 1) := dk_172 (dk_at dksX0_rests_8 10 rfl rfl)
theorem dX0_rests_197 : decode cX0_rests 197 = .ok (.iload 6, 2) := dk_21 6 (dk_at dksX0_rests_8 11 rfl rfl)
theorem dX0_rests_199 : decode cX0_rests 199 = .ok (.iconst (-1), 1) := dk_2 (dk_at dksX0_rests_8 13 rfl rfl)
theorem dX0_rests_200 : decode cX0_rests 200 = .ok (.if_icmp .ne 8, 3) := dk_160 0 8 (dk_at dksX0_rests_8 14 rfl rfl)
theorem dX0_rests_203 : decode cX0_rests 203 = .ok (.bipush (-2), 2) := dk_16 254 (dk_at dksX0_rests_8 17 rfl rfl)
theorem dX0_rests_205 : decode cX0_rests 205 = .ok (.goto 24, 3) := dk_167 0 24 (dk_at dksX0_rests_8 19 rfl rfl)
theorem dX0_rests_208 : decode cX0_rests 208 = .ok (.iconst 1, 1) := dk_4 (dk_at dksX0_rests_8 22 rfl rfl)
theorem dX0_rests_209 : decode cX0_rests 209 = .ok (.iconst 2, 1) := dk_5 (dk_at dksX0_rests_8 23 rfl rfl)
theorem dX0_rests_210 : decode cX0_rests 210 = .ok (.iload 4, 2) := dk_21 4 (dk_at dksX0_rests_9 0 rfl rfl)
theorem dX0_rests_212 : decode cX0_rests 212 = .ok (.iconst 1, 1) := dk_4 (dk_at dksX0_rests_9 2 rfl rfl)
theorem dX0_rests_213 : decode cX0_rests 213 = .ok (.if_icmp .ne 10, 3) := dk_160 0 10 (dk_at dksX0_rests_9 3 rfl rfl)
theorem dX0_rests_216 : decode cX0_rests 216 = .ok (.iload 6, 2) := dk_21 6 (dk_at dksX0_rests_9 6 rfl rfl)
theorem dX0_rests_218 : decode cX0_rests 218 = .ok (.iconst 5, 1) := dk_8 (dk_at dksX0_rests_9 8 rfl rfl)
theorem dX0_rests_219 : decode cX0_rests 219 = .ok (.idiv, 1) := dk_108 (dk_at dksX0_rests_9 9 rfl rfl)
theorem dX0_rests_220 : decode cX0_rests 220 = .ok (.goto 7, 3) := dk_167 0 7 (dk_at dksX0_rests_9 10 rfl rfl)
theorem dX0_rests_223 : decode cX0_rests 223 = .ok (.iload 6, 2) := dk_21 6 (dk_at dksX0_rests_9 13 rfl rfl)
theorem dX0_rests_225 : decode cX0_rests 225 = .ok (.iconst 5, 1) := dk_8 (dk_at dksX0_rests_9 15 rfl rfl)
theorem dX0_rests_226 : decode cX0_rests 226 = .ok (.irem, 1) := dk_112 (dk_at dksX0_rests_9 16 rfl rfl)
theorem dX0_rests_227 : decode cX0_rests 227 = .ok (.imul, 1) := dk_104 (dk_at dksX0_rests_9 17 rfl rfl)
theorem dX0_rests_228 : decode cX0_rests 228 = .ok (.iadd, 1) := dk_96 (dk_at dksX0_rests_9 18 rfl rfl)
theorem dX0_rests_229 : decode cX0_rests 229 = .ok (.ireturn, 1) := dk_172 (dk_at dksX0_rests_9 19 rfl rfl)
abbrev cX0_hasThen : ByteArray := prog_1_method_46_code
def yX0_hasThen : MethodName := ⟨RX0, "hasThen", "(I)I"⟩
def dkwX0_hasThen_1 : List UInt8 := [180, 0, 168, 27, 46, 6, 108, 100, 172]
abbrev dktX0_hasThen_1 : List UInt8 := dkwX0_hasThen_1 ++ []
def dkwX0_hasThen_0 : List UInt8 := [42, 180, 0, 23, 180, 0, 180, 27, 46, 42, 180, 0, 19, 180, 0, 180, 27, 46, 100, 42, 180, 0, 23]
abbrev dktX0_hasThen_0 : List UInt8 := dkwX0_hasThen_0 ++ dktX0_hasThen_1
theorem dksX0_hasThen_0 : cX0_hasThen.data.toList.drop 0 = dktX0_hasThen_0 := by decide +kernel
theorem dksX0_hasThen_1 : cX0_hasThen.data.toList.drop 23 = dktX0_hasThen_1 := dk_seg dksX0_hasThen_0 23 rfl rfl
theorem dX0_hasThen_0 : decode cX0_hasThen 0 = .ok (.aload_n 0, 1) := dk_42 (dk_at dksX0_hasThen_0 0 rfl rfl)
theorem dX0_hasThen_1 : decode cX0_hasThen 1 = .ok (.getfield 23, 3) := dk_180 0 23 (dk_at dksX0_hasThen_0 1 rfl rfl)
theorem dX0_hasThen_4 : decode cX0_hasThen 4 = .ok (.getfield 180, 3) := dk_180 0 180 (dk_at dksX0_hasThen_0 4 rfl rfl)
theorem dX0_hasThen_7 : decode cX0_hasThen 7 = .ok (.iload_n 1, 1) := dk_27 (dk_at dksX0_hasThen_0 7 rfl rfl)
theorem dX0_hasThen_8 : decode cX0_hasThen 8 = .ok (.iaload, 1) := dk_46 (dk_at dksX0_hasThen_0 8 rfl rfl)
theorem dX0_hasThen_9 : decode cX0_hasThen 9 = .ok (.aload_n 0, 1) := dk_42 (dk_at dksX0_hasThen_0 9 rfl rfl)
theorem dX0_hasThen_10 : decode cX0_hasThen 10 = .ok (.getfield 19, 3) := dk_180 0 19 (dk_at dksX0_hasThen_0 10 rfl rfl)
theorem dX0_hasThen_13 : decode cX0_hasThen 13 = .ok (.getfield 180, 3) := dk_180 0 180 (dk_at dksX0_hasThen_0 13 rfl rfl)
theorem dX0_hasThen_16 : decode cX0_hasThen 16 = .ok (.iload_n 1, 1) := dk_27 (dk_at dksX0_hasThen_0 16 rfl rfl)
theorem dX0_hasThen_17 : decode cX0_hasThen 17 = .ok (.iaload, 1) := dk_46 (dk_at dksX0_hasThen_0 17 rfl rfl)
theorem dX0_hasThen_18 : decode cX0_hasThen 18 = .ok (.isub, 1) := dk_100 (dk_at dksX0_hasThen_0 18 rfl rfl)
theorem dX0_hasThen_19 : decode cX0_hasThen 19 = .ok (.aload_n 0, 1) := dk_42 (dk_at dksX0_hasThen_0 19 rfl rfl)
theorem dX0_hasThen_20 : decode cX0_hasThen 20 = .ok (.getfield 23, 3) := dk_180 0 23 (dk_at dksX0_hasThen_0 20 rfl rfl)
theorem dX0_hasThen_23 : decode cX0_hasThen 23 = .ok (.getfield 168, 3) := dk_180 0 168 (dk_at dksX0_hasThen_1 0 rfl rfl)
theorem dX0_hasThen_26 : decode cX0_hasThen 26 = .ok (.iload_n 1, 1) := dk_27 (dk_at dksX0_hasThen_1 3 rfl rfl)
theorem dX0_hasThen_27 : decode cX0_hasThen 27 = .ok (.iaload, 1) := dk_46 (dk_at dksX0_hasThen_1 4 rfl rfl)
theorem dX0_hasThen_28 : decode cX0_hasThen 28 = .ok (.iconst 3, 1) := dk_6 (dk_at dksX0_hasThen_1 5 rfl rfl)
theorem dX0_hasThen_29 : decode cX0_hasThen 29 = .ok (.idiv, 1) := dk_108 (dk_at dksX0_hasThen_1 6 rfl rfl)
theorem dX0_hasThen_30 : decode cX0_hasThen 30 = .ok (.isub, 1) := dk_100 (dk_at dksX0_hasThen_1 7 rfl rfl)
theorem dX0_hasThen_31 : decode cX0_hasThen 31 = .ok (.ireturn, 1) := dk_172 (dk_at dksX0_hasThen_1 8 rfl rfl)
abbrev cX0_isRest : ByteArray := prog_1_method_47_code
def yX0_isRest : MethodName := ⟨RX0, "isRest", "(I)Z"⟩
def dkwX0_isRest_2 : List UInt8 := [164, 0, 5, 3, 172, 132, 2, 1, 167, 255, 204, 4, 172]
abbrev dktX0_isRest_2 : List UInt8 := dkwX0_isRest_2 ++ []
def dkwX0_isRest_1 : List UInt8 := [46, 163, 0, 24, 42, 180, 0, 103, 27, 27, 8, 112, 100, 28, 96, 46, 42, 180, 0, 103, 27, 46]
abbrev dktX0_isRest_1 : List UInt8 := dkwX0_isRest_1 ++ dktX0_isRest_2
def dkwX0_isRest_0 : List UInt8 := [3, 61, 28, 8, 162, 0, 53, 42, 180, 0, 100, 8, 28, 104, 27, 8, 112, 96, 46, 42, 180, 0, 100, 27]
abbrev dktX0_isRest_0 : List UInt8 := dkwX0_isRest_0 ++ dktX0_isRest_1
theorem dksX0_isRest_0 : cX0_isRest.data.toList.drop 0 = dktX0_isRest_0 := by decide +kernel
theorem dksX0_isRest_1 : cX0_isRest.data.toList.drop 24 = dktX0_isRest_1 := dk_seg dksX0_isRest_0 24 rfl rfl
theorem dksX0_isRest_2 : cX0_isRest.data.toList.drop 46 = dktX0_isRest_2 := dk_seg dksX0_isRest_1 22 rfl rfl
theorem dX0_isRest_0 : decode cX0_isRest 0 = .ok (.iconst 0, 1) := dk_3 (dk_at dksX0_isRest_0 0 rfl rfl)
theorem dX0_isRest_1 : decode cX0_isRest 1 = .ok (.istore_n 2, 1) := dk_61 (dk_at dksX0_isRest_0 1 rfl rfl)
theorem dX0_isRest_2 : decode cX0_isRest 2 = .ok (.iload_n 2, 1) := dk_28 (dk_at dksX0_isRest_0 2 rfl rfl)
theorem dX0_isRest_3 : decode cX0_isRest 3 = .ok (.iconst 5, 1) := dk_8 (dk_at dksX0_isRest_0 3 rfl rfl)
theorem dX0_isRest_4 : decode cX0_isRest 4 = .ok (.if_icmp .ge 53, 3) := dk_162 0 53 (dk_at dksX0_isRest_0 4 rfl rfl)
theorem dX0_isRest_7 : decode cX0_isRest 7 = .ok (.aload_n 0, 1) := dk_42 (dk_at dksX0_isRest_0 7 rfl rfl)
theorem dX0_isRest_8 : decode cX0_isRest 8 = .ok (.getfield 100, 3) := dk_180 0 100 (dk_at dksX0_isRest_0 8 rfl rfl)
theorem dX0_isRest_11 : decode cX0_isRest 11 = .ok (.iconst 5, 1) := dk_8 (dk_at dksX0_isRest_0 11 rfl rfl)
theorem dX0_isRest_12 : decode cX0_isRest 12 = .ok (.iload_n 2, 1) := dk_28 (dk_at dksX0_isRest_0 12 rfl rfl)
theorem dX0_isRest_13 : decode cX0_isRest 13 = .ok (.imul, 1) := dk_104 (dk_at dksX0_isRest_0 13 rfl rfl)
theorem dX0_isRest_14 : decode cX0_isRest 14 = .ok (.iload_n 1, 1) := dk_27 (dk_at dksX0_isRest_0 14 rfl rfl)
theorem dX0_isRest_15 : decode cX0_isRest 15 = .ok (.iconst 5, 1) := dk_8 (dk_at dksX0_isRest_0 15 rfl rfl)
theorem dX0_isRest_16 : decode cX0_isRest 16 = .ok (.irem, 1) := dk_112 (dk_at dksX0_isRest_0 16 rfl rfl)
theorem dX0_isRest_17 : decode cX0_isRest 17 = .ok (.iadd, 1) := dk_96 (dk_at dksX0_isRest_0 17 rfl rfl)
theorem dX0_isRest_18 : decode cX0_isRest 18 = .ok (.iaload, 1) := dk_46 (dk_at dksX0_isRest_0 18 rfl rfl)
theorem dX0_isRest_19 : decode cX0_isRest 19 = .ok (.aload_n 0, 1) := dk_42 (dk_at dksX0_isRest_0 19 rfl rfl)
theorem dX0_isRest_20 : decode cX0_isRest 20 = .ok (.getfield 100, 3) := dk_180 0 100 (dk_at dksX0_isRest_0 20 rfl rfl)
theorem dX0_isRest_23 : decode cX0_isRest 23 = .ok (.iload_n 1, 1) := dk_27 (dk_at dksX0_isRest_0 23 rfl rfl)
theorem dX0_isRest_24 : decode cX0_isRest 24 = .ok (.iaload, 1) := dk_46 (dk_at dksX0_isRest_1 0 rfl rfl)
theorem dX0_isRest_25 : decode cX0_isRest 25 = .ok (.if_icmp .gt 24, 3) := dk_163 0 24 (dk_at dksX0_isRest_1 1 rfl rfl)
theorem dX0_isRest_28 : decode cX0_isRest 28 = .ok (.aload_n 0, 1) := dk_42 (dk_at dksX0_isRest_1 4 rfl rfl)
theorem dX0_isRest_29 : decode cX0_isRest 29 = .ok (.getfield 103, 3) := dk_180 0 103 (dk_at dksX0_isRest_1 5 rfl rfl)
theorem dX0_isRest_32 : decode cX0_isRest 32 = .ok (.iload_n 1, 1) := dk_27 (dk_at dksX0_isRest_1 8 rfl rfl)
theorem dX0_isRest_33 : decode cX0_isRest 33 = .ok (.iload_n 1, 1) := dk_27 (dk_at dksX0_isRest_1 9 rfl rfl)
theorem dX0_isRest_34 : decode cX0_isRest 34 = .ok (.iconst 5, 1) := dk_8 (dk_at dksX0_isRest_1 10 rfl rfl)
theorem dX0_isRest_35 : decode cX0_isRest 35 = .ok (.irem, 1) := dk_112 (dk_at dksX0_isRest_1 11 rfl rfl)
theorem dX0_isRest_36 : decode cX0_isRest 36 = .ok (.isub, 1) := dk_100 (dk_at dksX0_isRest_1 12 rfl rfl)
theorem dX0_isRest_37 : decode cX0_isRest 37 = .ok (.iload_n 2, 1) := dk_28 (dk_at dksX0_isRest_1 13 rfl rfl)
theorem dX0_isRest_38 : decode cX0_isRest 38 = .ok (.iadd, 1) := dk_96 (dk_at dksX0_isRest_1 14 rfl rfl)
theorem dX0_isRest_39 : decode cX0_isRest 39 = .ok (.iaload, 1) := dk_46 (dk_at dksX0_isRest_1 15 rfl rfl)
theorem dX0_isRest_40 : decode cX0_isRest 40 = .ok (.aload_n 0, 1) := dk_42 (dk_at dksX0_isRest_1 16 rfl rfl)
theorem dX0_isRest_41 : decode cX0_isRest 41 = .ok (.getfield 103, 3) := dk_180 0 103 (dk_at dksX0_isRest_1 17 rfl rfl)
theorem dX0_isRest_44 : decode cX0_isRest 44 = .ok (.iload_n 1, 1) := dk_27 (dk_at dksX0_isRest_1 20 rfl rfl)
theorem dX0_isRest_45 : decode cX0_isRest 45 = .ok (.iaload, 1) := dk_46 (dk_at dksX0_isRest_1 21 rfl rfl)
theorem dX0_isRest_46 : decode cX0_isRest 46 = .ok (.if_icmp .le 5, 3) := dk_164 0 5 (dk_at dksX0_isRest_2 0 rfl rfl)
theorem dX0_isRest_49 : decode cX0_isRest 49 = .ok (.iconst 0, 1) := dk_3 (dk_at dksX0_isRest_2 3 rfl rfl)
theorem dX0_isRest_50 : decode cX0_isRest 50 = .ok (.ireturn, 1) := dk_172 (dk_at dksX0_isRest_2 4 rfl rfl)
theorem dX0_isRest_51 : decode cX0_isRest 51 = .ok (.iinc 2 1, 3) := dk_132 2 1 (dk_at dksX0_isRest_2 5 rfl rfl)
theorem dX0_isRest_54 : decode cX0_isRest 54 = .ok (.goto (-52), 3) := dk_167 255 204 (dk_at dksX0_isRest_2 8 rfl rfl)
theorem dX0_isRest_57 : decode cX0_isRest 57 = .ok (.iconst 1, 1) := dk_4 (dk_at dksX0_isRest_2 11 rfl rfl)
theorem dX0_isRest_58 : decode cX0_isRest 58 = .ok (.ireturn, 1) := dk_172 (dk_at dksX0_isRest_2 12 rfl rfl)
abbrev cX0_ring : ByteArray := prog_1_method_50_code
def yX0_ring : MethodName := ⟨RX0, "ring", "(I)I"⟩
def dkwX0_ring_6 : List UInt8 := [167, 255, 218, 132, 2, 1, 167, 255, 202, 16, 254, 172]
abbrev dktX0_ring_6 : List UInt8 := dkwX0_ring_6 ++ []
def dkwX0_ring_5 : List UInt8 := [154, 0, 15, 42, 180, 0, 19, 180, 0, 199, 28, 96, 167, 0, 6, 29, 28, 100, 172, 132, 3, 1]
abbrev dktX0_ring_5 : List UInt8 := dkwX0_ring_5 ++ dktX0_ring_6
def dkwX0_ring_4 : List UInt8 := [162, 0, 54, 28, 4, 96, 62, 29, 16, 60, 163, 0, 38, 42, 28, 29, 182, 1, 84, 153, 0, 23, 27]
abbrev dktX0_ring_4 : List UInt8 := dkwX0_ring_4 ++ dktX0_ring_5
def dkwX0_ring_3 : List UInt8 := [167, 255, 227, 42, 42, 180, 0, 23, 182, 1, 13, 87, 132, 2, 1, 167, 255, 204, 3, 61, 28, 16, 60]
abbrev dktX0_ring_3 : List UInt8 := dkwX0_ring_3 ++ dktX0_ring_4
def dkwX0_ring_2 : List UInt8 := [180, 0, 106, 16, 6, 28, 104, 29, 96, 42, 180, 0, 23, 180, 0, 168, 29, 46, 79, 132, 3, 1]
abbrev dktX0_ring_2 : List UInt8 := dkwX0_ring_2 ++ dktX0_ring_3
def dkwX0_ring_1 : List UInt8 := [180, 0, 19, 182, 1, 22, 3, 61, 28, 16, 60, 163, 0, 52, 3, 62, 29, 16, 6, 162, 0, 29, 42]
abbrev dktX0_ring_1 : List UInt8 := dkwX0_ring_1 ++ dktX0_ring_2
def dkwX0_ring_0 : List UInt8 := [42, 182, 1, 26, 153, 0, 13, 27, 133, 9, 10, 184, 0, 125, 154, 0, 5, 2, 172, 42, 180, 0, 23, 42]
abbrev dktX0_ring_0 : List UInt8 := dkwX0_ring_0 ++ dktX0_ring_1
theorem dksX0_ring_0 : cX0_ring.data.toList.drop 0 = dktX0_ring_0 := by decide +kernel
theorem dksX0_ring_1 : cX0_ring.data.toList.drop 24 = dktX0_ring_1 := dk_seg dksX0_ring_0 24 rfl rfl
theorem dksX0_ring_2 : cX0_ring.data.toList.drop 47 = dktX0_ring_2 := dk_seg dksX0_ring_1 23 rfl rfl
theorem dksX0_ring_3 : cX0_ring.data.toList.drop 69 = dktX0_ring_3 := dk_seg dksX0_ring_2 22 rfl rfl
theorem dksX0_ring_4 : cX0_ring.data.toList.drop 92 = dktX0_ring_4 := dk_seg dksX0_ring_3 23 rfl rfl
theorem dksX0_ring_5 : cX0_ring.data.toList.drop 115 = dktX0_ring_5 := dk_seg dksX0_ring_4 23 rfl rfl
theorem dksX0_ring_6 : cX0_ring.data.toList.drop 137 = dktX0_ring_6 := dk_seg dksX0_ring_5 22 rfl rfl
theorem dX0_ring_0 : decode cX0_ring 0 = .ok (.aload_n 0, 1) := dk_42 (dk_at dksX0_ring_0 0 rfl rfl)
theorem dX0_ring_1 : decode cX0_ring 1 = .ok (.invokevirtual 282, 3) := dk_182 1 26 (dk_at dksX0_ring_0 1 rfl rfl)
theorem dX0_ring_4 : decode cX0_ring 4 = .ok (.ifCond .eq 13, 3) := dk_153 0 13 (dk_at dksX0_ring_0 4 rfl rfl)
theorem dX0_ring_7 : decode cX0_ring 7 = .ok (.iload_n 1, 1) := dk_27 (dk_at dksX0_ring_0 7 rfl rfl)
theorem dX0_ring_8 : decode cX0_ring 8 = .ok (.i2l, 1) := dk_133 (dk_at dksX0_ring_0 8 rfl rfl)
theorem dX0_ring_9 : decode cX0_ring 9 = .ok (.lconst 0, 1) := dk_9 (dk_at dksX0_ring_0 9 rfl rfl)
theorem dX0_ring_10 : decode cX0_ring 10 = .ok (.lconst 1, 1) := dk_10 (dk_at dksX0_ring_0 10 rfl rfl)
theorem dX0_ring_11 : decode cX0_ring 11 = .ok (.invokestatic 125, 3) := dk_184 0 125 (dk_at dksX0_ring_0 11 rfl rfl)
theorem dX0_ring_14 : decode cX0_ring 14 = .ok (.ifCond .ne 5, 3) := dk_154 0 5 (dk_at dksX0_ring_0 14 rfl rfl)
theorem dX0_ring_17 : decode cX0_ring 17 = .ok (.iconst (-1), 1) := dk_2 (dk_at dksX0_ring_0 17 rfl rfl)
theorem dX0_ring_18 : decode cX0_ring 18 = .ok (.ireturn, 1) := dk_172 (dk_at dksX0_ring_0 18 rfl rfl)
theorem dX0_ring_19 : decode cX0_ring 19 = .ok (.aload_n 0, 1) := dk_42 (dk_at dksX0_ring_0 19 rfl rfl)
theorem dX0_ring_20 : decode cX0_ring 20 = .ok (.getfield 23, 3) := dk_180 0 23 (dk_at dksX0_ring_0 20 rfl rfl)
theorem dX0_ring_23 : decode cX0_ring 23 = .ok (.aload_n 0, 1) := dk_42 (dk_at dksX0_ring_0 23 rfl rfl)
theorem dX0_ring_24 : decode cX0_ring 24 = .ok (.getfield 19, 3) := dk_180 0 19 (dk_at dksX0_ring_1 0 rfl rfl)
theorem dX0_ring_27 : decode cX0_ring 27 = .ok (.invokevirtual 278, 3) := dk_182 1 22 (dk_at dksX0_ring_1 3 rfl rfl)
theorem dX0_ring_30 : decode cX0_ring 30 = .ok (.iconst 0, 1) := dk_3 (dk_at dksX0_ring_1 6 rfl rfl)
theorem dX0_ring_31 : decode cX0_ring 31 = .ok (.istore_n 2, 1) := dk_61 (dk_at dksX0_ring_1 7 rfl rfl)
theorem dX0_ring_32 : decode cX0_ring 32 = .ok (.iload_n 2, 1) := dk_28 (dk_at dksX0_ring_1 8 rfl rfl)
theorem dX0_ring_33 : decode cX0_ring 33 = .ok (.bipush 60, 2) := dk_16 60 (dk_at dksX0_ring_1 9 rfl rfl)
theorem dX0_ring_35 : decode cX0_ring 35 = .ok (.if_icmp .gt 52, 3) := dk_163 0 52 (dk_at dksX0_ring_1 11 rfl rfl)
theorem dX0_ring_38 : decode cX0_ring 38 = .ok (.iconst 0, 1) := dk_3 (dk_at dksX0_ring_1 14 rfl rfl)
theorem dX0_ring_39 : decode cX0_ring 39 = .ok (.istore_n 3, 1) := dk_62 (dk_at dksX0_ring_1 15 rfl rfl)
theorem dX0_ring_40 : decode cX0_ring 40 = .ok (.iload_n 3, 1) := dk_29 (dk_at dksX0_ring_1 16 rfl rfl)
theorem dX0_ring_41 : decode cX0_ring 41 = .ok (.bipush 6, 2) := dk_16 6 (dk_at dksX0_ring_1 17 rfl rfl)
theorem dX0_ring_43 : decode cX0_ring 43 = .ok (.if_icmp .ge 29, 3) := dk_162 0 29 (dk_at dksX0_ring_1 19 rfl rfl)
theorem dX0_ring_46 : decode cX0_ring 46 = .ok (.aload_n 0, 1) := dk_42 (dk_at dksX0_ring_1 22 rfl rfl)
theorem dX0_ring_47 : decode cX0_ring 47 = .ok (.getfield 106, 3) := dk_180 0 106 (dk_at dksX0_ring_2 0 rfl rfl)
theorem dX0_ring_50 : decode cX0_ring 50 = .ok (.bipush 6, 2) := dk_16 6 (dk_at dksX0_ring_2 3 rfl rfl)
theorem dX0_ring_52 : decode cX0_ring 52 = .ok (.iload_n 2, 1) := dk_28 (dk_at dksX0_ring_2 5 rfl rfl)
theorem dX0_ring_53 : decode cX0_ring 53 = .ok (.imul, 1) := dk_104 (dk_at dksX0_ring_2 6 rfl rfl)
theorem dX0_ring_54 : decode cX0_ring 54 = .ok (.iload_n 3, 1) := dk_29 (dk_at dksX0_ring_2 7 rfl rfl)
theorem dX0_ring_55 : decode cX0_ring 55 = .ok (.iadd, 1) := dk_96 (dk_at dksX0_ring_2 8 rfl rfl)
theorem dX0_ring_56 : decode cX0_ring 56 = .ok (.aload_n 0, 1) := dk_42 (dk_at dksX0_ring_2 9 rfl rfl)
theorem dX0_ring_57 : decode cX0_ring 57 = .ok (.getfield 23, 3) := dk_180 0 23 (dk_at dksX0_ring_2 10 rfl rfl)
theorem dX0_ring_60 : decode cX0_ring 60 = .ok (.getfield 168, 3) := dk_180 0 168 (dk_at dksX0_ring_2 13 rfl rfl)
theorem dX0_ring_63 : decode cX0_ring 63 = .ok (.iload_n 3, 1) := dk_29 (dk_at dksX0_ring_2 16 rfl rfl)
theorem dX0_ring_64 : decode cX0_ring 64 = .ok (.iaload, 1) := dk_46 (dk_at dksX0_ring_2 17 rfl rfl)
theorem dX0_ring_65 : decode cX0_ring 65 = .ok (.iastore, 1) := dk_79 (dk_at dksX0_ring_2 18 rfl rfl)
theorem dX0_ring_66 : decode cX0_ring 66 = .ok (.iinc 3 1, 3) := dk_132 3 1 (dk_at dksX0_ring_2 19 rfl rfl)
theorem dX0_ring_69 : decode cX0_ring 69 = .ok (.goto (-29), 3) := dk_167 255 227 (dk_at dksX0_ring_3 0 rfl rfl)
theorem dX0_ring_72 : decode cX0_ring 72 = .ok (.aload_n 0, 1) := dk_42 (dk_at dksX0_ring_3 3 rfl rfl)
theorem dX0_ring_73 : decode cX0_ring 73 = .ok (.aload_n 0, 1) := dk_42 (dk_at dksX0_ring_3 4 rfl rfl)
theorem dX0_ring_74 : decode cX0_ring 74 = .ok (.getfield 23, 3) := dk_180 0 23 (dk_at dksX0_ring_3 5 rfl rfl)
theorem dX0_ring_77 : decode cX0_ring 77 = .ok (.invokevirtual 269, 3) := dk_182 1 13 (dk_at dksX0_ring_3 8 rfl rfl)
theorem dX0_ring_80 : decode cX0_ring 80 = .ok (.pop, 1) := dk_87 (dk_at dksX0_ring_3 11 rfl rfl)
theorem dX0_ring_81 : decode cX0_ring 81 = .ok (.iinc 2 1, 3) := dk_132 2 1 (dk_at dksX0_ring_3 12 rfl rfl)
theorem dX0_ring_84 : decode cX0_ring 84 = .ok (.goto (-52), 3) := dk_167 255 204 (dk_at dksX0_ring_3 15 rfl rfl)
theorem dX0_ring_87 : decode cX0_ring 87 = .ok (.iconst 0, 1) := dk_3 (dk_at dksX0_ring_3 18 rfl rfl)
theorem dX0_ring_88 : decode cX0_ring 88 = .ok (.istore_n 2, 1) := dk_61 (dk_at dksX0_ring_3 19 rfl rfl)
theorem dX0_ring_89 : decode cX0_ring 89 = .ok (.iload_n 2, 1) := dk_28 (dk_at dksX0_ring_3 20 rfl rfl)
theorem dX0_ring_90 : decode cX0_ring 90 = .ok (.bipush 60, 2) := dk_16 60 (dk_at dksX0_ring_3 21 rfl rfl)
theorem dX0_ring_92 : decode cX0_ring 92 = .ok (.if_icmp .ge 54, 3) := dk_162 0 54 (dk_at dksX0_ring_4 0 rfl rfl)
theorem dX0_ring_95 : decode cX0_ring 95 = .ok (.iload_n 2, 1) := dk_28 (dk_at dksX0_ring_4 3 rfl rfl)
theorem dX0_ring_96 : decode cX0_ring 96 = .ok (.iconst 1, 1) := dk_4 (dk_at dksX0_ring_4 4 rfl rfl)
theorem dX0_ring_97 : decode cX0_ring 97 = .ok (.iadd, 1) := dk_96 (dk_at dksX0_ring_4 5 rfl rfl)
theorem dX0_ring_98 : decode cX0_ring 98 = .ok (.istore_n 3, 1) := dk_62 (dk_at dksX0_ring_4 6 rfl rfl)
theorem dX0_ring_99 : decode cX0_ring 99 = .ok (.iload_n 3, 1) := dk_29 (dk_at dksX0_ring_4 7 rfl rfl)
theorem dX0_ring_100 : decode cX0_ring 100 = .ok (.bipush 60, 2) := dk_16 60 (dk_at dksX0_ring_4 8 rfl rfl)
theorem dX0_ring_102 : decode cX0_ring 102 = .ok (.if_icmp .gt 38, 3) := dk_163 0 38 (dk_at dksX0_ring_4 10 rfl rfl)
theorem dX0_ring_105 : decode cX0_ring 105 = .ok (.aload_n 0, 1) := dk_42 (dk_at dksX0_ring_4 13 rfl rfl)
theorem dX0_ring_106 : decode cX0_ring 106 = .ok (.iload_n 2, 1) := dk_28 (dk_at dksX0_ring_4 14 rfl rfl)
theorem dX0_ring_107 : decode cX0_ring 107 = .ok (.iload_n 3, 1) := dk_29 (dk_at dksX0_ring_4 15 rfl rfl)
theorem dX0_ring_108 : decode cX0_ring 108 = .ok (.invokevirtual 340, 3) := dk_182 1 84 (dk_at dksX0_ring_4 16 rfl rfl)
theorem dX0_ring_111 : decode cX0_ring 111 = .ok (.ifCond .eq 23, 3) := dk_153 0 23 (dk_at dksX0_ring_4 19 rfl rfl)
theorem dX0_ring_114 : decode cX0_ring 114 = .ok (.iload_n 1, 1) := dk_27 (dk_at dksX0_ring_4 22 rfl rfl)
theorem dX0_ring_115 : decode cX0_ring 115 = .ok (.ifCond .ne 15, 3) := dk_154 0 15 (dk_at dksX0_ring_5 0 rfl rfl)
theorem dX0_ring_118 : decode cX0_ring 118 = .ok (.aload_n 0, 1) := dk_42 (dk_at dksX0_ring_5 3 rfl rfl)
theorem dX0_ring_119 : decode cX0_ring 119 = .ok (.getfield 19, 3) := dk_180 0 19 (dk_at dksX0_ring_5 4 rfl rfl)
theorem dX0_ring_122 : decode cX0_ring 122 = .ok (.getfield 199, 3) := dk_180 0 199 (dk_at dksX0_ring_5 7 rfl rfl)
theorem dX0_ring_125 : decode cX0_ring 125 = .ok (.iload_n 2, 1) := dk_28 (dk_at dksX0_ring_5 10 rfl rfl)
theorem dX0_ring_126 : decode cX0_ring 126 = .ok (.iadd, 1) := dk_96 (dk_at dksX0_ring_5 11 rfl rfl)
theorem dX0_ring_127 : decode cX0_ring 127 = .ok (.goto 6, 3) := dk_167 0 6 (dk_at dksX0_ring_5 12 rfl rfl)
theorem dX0_ring_130 : decode cX0_ring 130 = .ok (.iload_n 3, 1) := dk_29 (dk_at dksX0_ring_5 15 rfl rfl)
theorem dX0_ring_131 : decode cX0_ring 131 = .ok (.iload_n 2, 1) := dk_28 (dk_at dksX0_ring_5 16 rfl rfl)
theorem dX0_ring_132 : decode cX0_ring 132 = .ok (.isub, 1) := dk_100 (dk_at dksX0_ring_5 17 rfl rfl)
theorem dX0_ring_133 : decode cX0_ring 133 = .ok (.ireturn, 1) := dk_172 (dk_at dksX0_ring_5 18 rfl rfl)
theorem dX0_ring_134 : decode cX0_ring 134 = .ok (.iinc 3 1, 3) := dk_132 3 1 (dk_at dksX0_ring_5 19 rfl rfl)
theorem dX0_ring_137 : decode cX0_ring 137 = .ok (.goto (-38), 3) := dk_167 255 218 (dk_at dksX0_ring_6 0 rfl rfl)
theorem dX0_ring_140 : decode cX0_ring 140 = .ok (.iinc 2 1, 3) := dk_132 2 1 (dk_at dksX0_ring_6 3 rfl rfl)
theorem dX0_ring_143 : decode cX0_ring 143 = .ok (.goto (-54), 3) := dk_167 255 202 (dk_at dksX0_ring_6 6 rfl rfl)
theorem dX0_ring_146 : decode cX0_ring 146 = .ok (.bipush (-2), 2) := dk_16 254 (dk_at dksX0_ring_6 9 rfl rfl)
theorem dX0_ring_148 : decode cX0_ring 148 = .ok (.ireturn, 1) := dk_172 (dk_at dksX0_ring_6 11 rfl rfl)
abbrev cX0_areAlike : ByteArray := prog_1_method_49_code
def yX0_areAlike : MethodName := ⟨RX0, "areAlike", "(II)Z"⟩
def dkwX0_areAlike_2 : List UInt8 := [159, 0, 5, 3, 172, 132, 3, 1, 167, 255, 220, 4, 172]
abbrev dktX0_areAlike_2 : List UInt8 := dkwX0_areAlike_2 ++ []
def dkwX0_areAlike_1 : List UInt8 := [42, 180, 0, 106, 16, 6, 27, 104, 29, 96, 46, 42, 180, 0, 106, 16, 6, 28, 104, 29, 96, 46]
abbrev dktX0_areAlike_1 : List UInt8 := dkwX0_areAlike_1 ++ dktX0_areAlike_2
def dkwX0_areAlike_0 : List UInt8 := [28, 27, 100, 42, 180, 0, 10, 180, 0, 118, 112, 153, 0, 5, 3, 172, 3, 62, 29, 16, 6, 162, 0, 36]
abbrev dktX0_areAlike_0 : List UInt8 := dkwX0_areAlike_0 ++ dktX0_areAlike_1
theorem dksX0_areAlike_0 : cX0_areAlike.data.toList.drop 0 = dktX0_areAlike_0 := by decide +kernel
theorem dksX0_areAlike_1 : cX0_areAlike.data.toList.drop 24 = dktX0_areAlike_1 := dk_seg dksX0_areAlike_0 24 rfl rfl
theorem dksX0_areAlike_2 : cX0_areAlike.data.toList.drop 46 = dktX0_areAlike_2 := dk_seg dksX0_areAlike_1 22 rfl rfl
theorem dX0_areAlike_0 : decode cX0_areAlike 0 = .ok (.iload_n 2, 1) := dk_28 (dk_at dksX0_areAlike_0 0 rfl rfl)
theorem dX0_areAlike_1 : decode cX0_areAlike 1 = .ok (.iload_n 1, 1) := dk_27 (dk_at dksX0_areAlike_0 1 rfl rfl)
theorem dX0_areAlike_2 : decode cX0_areAlike 2 = .ok (.isub, 1) := dk_100 (dk_at dksX0_areAlike_0 2 rfl rfl)
theorem dX0_areAlike_3 : decode cX0_areAlike 3 = .ok (.aload_n 0, 1) := dk_42 (dk_at dksX0_areAlike_0 3 rfl rfl)
theorem dX0_areAlike_4 : decode cX0_areAlike 4 = .ok (.getfield 10, 3) := dk_180 0 10 (dk_at dksX0_areAlike_0 4 rfl rfl)
theorem dX0_areAlike_7 : decode cX0_areAlike 7 = .ok (.getfield 118, 3) := dk_180 0 118 (dk_at dksX0_areAlike_0 7 rfl rfl)
theorem dX0_areAlike_10 : decode cX0_areAlike 10 = .ok (.irem, 1) := dk_112 (dk_at dksX0_areAlike_0 10 rfl rfl)
theorem dX0_areAlike_11 : decode cX0_areAlike 11 = .ok (.ifCond .eq 5, 3) := dk_153 0 5 (dk_at dksX0_areAlike_0 11 rfl rfl)
theorem dX0_areAlike_14 : decode cX0_areAlike 14 = .ok (.iconst 0, 1) := dk_3 (dk_at dksX0_areAlike_0 14 rfl rfl)
theorem dX0_areAlike_15 : decode cX0_areAlike 15 = .ok (.ireturn, 1) := dk_172 (dk_at dksX0_areAlike_0 15 rfl rfl)
theorem dX0_areAlike_16 : decode cX0_areAlike 16 = .ok (.iconst 0, 1) := dk_3 (dk_at dksX0_areAlike_0 16 rfl rfl)
theorem dX0_areAlike_17 : decode cX0_areAlike 17 = .ok (.istore_n 3, 1) := dk_62 (dk_at dksX0_areAlike_0 17 rfl rfl)
theorem dX0_areAlike_18 : decode cX0_areAlike 18 = .ok (.iload_n 3, 1) := dk_29 (dk_at dksX0_areAlike_0 18 rfl rfl)
theorem dX0_areAlike_19 : decode cX0_areAlike 19 = .ok (.bipush 6, 2) := dk_16 6 (dk_at dksX0_areAlike_0 19 rfl rfl)
theorem dX0_areAlike_21 : decode cX0_areAlike 21 = .ok (.if_icmp .ge 36, 3) := dk_162 0 36 (dk_at dksX0_areAlike_0 21 rfl rfl)
theorem dX0_areAlike_24 : decode cX0_areAlike 24 = .ok (.aload_n 0, 1) := dk_42 (dk_at dksX0_areAlike_1 0 rfl rfl)
theorem dX0_areAlike_25 : decode cX0_areAlike 25 = .ok (.getfield 106, 3) := dk_180 0 106 (dk_at dksX0_areAlike_1 1 rfl rfl)
theorem dX0_areAlike_28 : decode cX0_areAlike 28 = .ok (.bipush 6, 2) := dk_16 6 (dk_at dksX0_areAlike_1 4 rfl rfl)
theorem dX0_areAlike_30 : decode cX0_areAlike 30 = .ok (.iload_n 1, 1) := dk_27 (dk_at dksX0_areAlike_1 6 rfl rfl)
theorem dX0_areAlike_31 : decode cX0_areAlike 31 = .ok (.imul, 1) := dk_104 (dk_at dksX0_areAlike_1 7 rfl rfl)
theorem dX0_areAlike_32 : decode cX0_areAlike 32 = .ok (.iload_n 3, 1) := dk_29 (dk_at dksX0_areAlike_1 8 rfl rfl)
theorem dX0_areAlike_33 : decode cX0_areAlike 33 = .ok (.iadd, 1) := dk_96 (dk_at dksX0_areAlike_1 9 rfl rfl)
theorem dX0_areAlike_34 : decode cX0_areAlike 34 = .ok (.iaload, 1) := dk_46 (dk_at dksX0_areAlike_1 10 rfl rfl)
theorem dX0_areAlike_35 : decode cX0_areAlike 35 = .ok (.aload_n 0, 1) := dk_42 (dk_at dksX0_areAlike_1 11 rfl rfl)
theorem dX0_areAlike_36 : decode cX0_areAlike 36 = .ok (.getfield 106, 3) := dk_180 0 106 (dk_at dksX0_areAlike_1 12 rfl rfl)
theorem dX0_areAlike_39 : decode cX0_areAlike 39 = .ok (.bipush 6, 2) := dk_16 6 (dk_at dksX0_areAlike_1 15 rfl rfl)
theorem dX0_areAlike_41 : decode cX0_areAlike 41 = .ok (.iload_n 2, 1) := dk_28 (dk_at dksX0_areAlike_1 17 rfl rfl)
theorem dX0_areAlike_42 : decode cX0_areAlike 42 = .ok (.imul, 1) := dk_104 (dk_at dksX0_areAlike_1 18 rfl rfl)
theorem dX0_areAlike_43 : decode cX0_areAlike 43 = .ok (.iload_n 3, 1) := dk_29 (dk_at dksX0_areAlike_1 19 rfl rfl)
theorem dX0_areAlike_44 : decode cX0_areAlike 44 = .ok (.iadd, 1) := dk_96 (dk_at dksX0_areAlike_1 20 rfl rfl)
theorem dX0_areAlike_45 : decode cX0_areAlike 45 = .ok (.iaload, 1) := dk_46 (dk_at dksX0_areAlike_1 21 rfl rfl)
theorem dX0_areAlike_46 : decode cX0_areAlike 46 = .ok (.if_icmp .eq 5, 3) := dk_159 0 5 (dk_at dksX0_areAlike_2 0 rfl rfl)
theorem dX0_areAlike_49 : decode cX0_areAlike 49 = .ok (.iconst 0, 1) := dk_3 (dk_at dksX0_areAlike_2 3 rfl rfl)
theorem dX0_areAlike_50 : decode cX0_areAlike 50 = .ok (.ireturn, 1) := dk_172 (dk_at dksX0_areAlike_2 4 rfl rfl)
theorem dX0_areAlike_51 : decode cX0_areAlike 51 = .ok (.iinc 3 1, 3) := dk_132 3 1 (dk_at dksX0_areAlike_2 5 rfl rfl)
theorem dX0_areAlike_54 : decode cX0_areAlike 54 = .ok (.goto (-36), 3) := dk_167 255 220 (dk_at dksX0_areAlike_2 8 rfl rfl)
theorem dX0_areAlike_57 : decode cX0_areAlike 57 = .ok (.iconst 1, 1) := dk_4 (dk_at dksX0_areAlike_2 11 rfl rfl)
theorem dX0_areAlike_58 : decode cX0_areAlike 58 = .ok (.ireturn, 1) := dk_172 (dk_at dksX0_areAlike_2 12 rfl rfl)
abbrev cX0_pence : ByteArray := prog_1_method_51_code
def yX0_pence : MethodName := ⟨RX0, "pence", "(II)I"⟩
def dkwX0_pence_7 : List UInt8 := [21, 4, 162, 0, 7, 4, 167, 0, 4, 3, 184, 0, 210, 96, 172]
abbrev dktX0_pence_7 : List UInt8 := dkwX0_pence_7 ++ []
def dkwX0_pence_6 : List UInt8 := [167, 0, 4, 3, 184, 0, 210, 96, 54, 5, 132, 8, 1, 167, 255, 167, 22, 6, 29, 133, 109, 136, 21, 5]
abbrev dktX0_pence_6 : List UInt8 := dkwX0_pence_6 ++ dktX0_pence_7
def dkwX0_pence_5 : List UInt8 := [157, 0, 23, 22, 9, 29, 133, 113, 22, 6, 29, 133, 113, 148, 154, 0, 13, 21, 8, 28, 162, 0, 7, 4]
abbrev dktX0_pence_5 : List UInt8 := dkwX0_pence_5 ++ dktX0_pence_6
def dkwX0_pence_4 : List UInt8 := [22, 9, 29, 133, 109, 136, 100, 54, 4, 21, 5, 22, 9, 29, 133, 113, 22, 6, 29, 133, 113, 148]
abbrev dktX0_pence_4 : List UInt8 := dkwX0_pence_4 ++ dktX0_pence_5
def dkwX0_pence_3 : List UInt8 := [182, 0, 121, 162, 0, 83, 27, 133, 42, 180, 0, 19, 180, 0, 183, 21, 8, 46, 133, 105, 55, 9, 21, 4]
abbrev dktX0_pence_3 : List UInt8 := dkwX0_pence_3 ++ dktX0_pence_4
def dkwX0_pence_2 : List UInt8 := [42, 180, 0, 19, 180, 0, 183, 28, 46, 133, 105, 55, 6, 3, 54, 8, 21, 8, 42, 180, 0, 10]
abbrev dktX0_pence_2 : List UInt8 := dkwX0_pence_2 ++ dktX0_pence_3
def dkwX0_pence_1 : List UInt8 := [180, 0, 19, 180, 0, 183, 184, 0, 222, 62, 29, 154, 0, 5, 3, 172, 27, 54, 4, 3, 54, 5, 27, 133]
abbrev dktX0_pence_1 : List UInt8 := dkwX0_pence_1 ++ dktX0_pence_2
def dkwX0_pence_0 : List UInt8 := [42, 28, 182, 0, 164, 153, 0, 15, 27, 133, 9, 20, 1, 87, 184, 0, 125, 154, 0, 5, 2, 172, 42]
abbrev dktX0_pence_0 : List UInt8 := dkwX0_pence_0 ++ dktX0_pence_1
theorem dksX0_pence_0 : cX0_pence.data.toList.drop 0 = dktX0_pence_0 := by decide +kernel
theorem dksX0_pence_1 : cX0_pence.data.toList.drop 23 = dktX0_pence_1 := dk_seg dksX0_pence_0 23 rfl rfl
theorem dksX0_pence_2 : cX0_pence.data.toList.drop 47 = dktX0_pence_2 := dk_seg dksX0_pence_1 24 rfl rfl
theorem dksX0_pence_3 : cX0_pence.data.toList.drop 69 = dktX0_pence_3 := dk_seg dksX0_pence_2 22 rfl rfl
theorem dksX0_pence_4 : cX0_pence.data.toList.drop 93 = dktX0_pence_4 := dk_seg dksX0_pence_3 24 rfl rfl
theorem dksX0_pence_5 : cX0_pence.data.toList.drop 115 = dktX0_pence_5 := dk_seg dksX0_pence_4 22 rfl rfl
theorem dksX0_pence_6 : cX0_pence.data.toList.drop 139 = dktX0_pence_6 := dk_seg dksX0_pence_5 24 rfl rfl
theorem dksX0_pence_7 : cX0_pence.data.toList.drop 163 = dktX0_pence_7 := dk_seg dksX0_pence_6 24 rfl rfl
theorem dX0_pence_0 : decode cX0_pence 0 = .ok (.aload_n 0, 1) := dk_42 (dk_at dksX0_pence_0 0 rfl rfl)
theorem dX0_pence_1 : decode cX0_pence 1 = .ok (.iload_n 2, 1) := dk_28 (dk_at dksX0_pence_0 1 rfl rfl)
theorem dX0_pence_2 : decode cX0_pence 2 = .ok (.invokevirtual 164, 3) := dk_182 0 164 (dk_at dksX0_pence_0 2 rfl rfl)
theorem dX0_pence_5 : decode cX0_pence 5 = .ok (.ifCond .eq 15, 3) := dk_153 0 15 (dk_at dksX0_pence_0 5 rfl rfl)
theorem dX0_pence_8 : decode cX0_pence 8 = .ok (.iload_n 1, 1) := dk_27 (dk_at dksX0_pence_0 8 rfl rfl)
theorem dX0_pence_9 : decode cX0_pence 9 = .ok (.i2l, 1) := dk_133 (dk_at dksX0_pence_0 9 rfl rfl)
theorem dX0_pence_10 : decode cX0_pence 10 = .ok (.lconst 0, 1) := dk_9 (dk_at dksX0_pence_0 10 rfl rfl)
theorem dX0_pence_11 : decode cX0_pence 11 = .ok (.ldc2_w 343, 3) := dk_20 1 87 (dk_at dksX0_pence_0 11 rfl rfl)
theorem dX0_pence_14 : decode cX0_pence 14 = .ok (.invokestatic 125, 3) := dk_184 0 125 (dk_at dksX0_pence_0 14 rfl rfl)
theorem dX0_pence_17 : decode cX0_pence 17 = .ok (.ifCond .ne 5, 3) := dk_154 0 5 (dk_at dksX0_pence_0 17 rfl rfl)
theorem dX0_pence_20 : decode cX0_pence 20 = .ok (.iconst (-1), 1) := dk_2 (dk_at dksX0_pence_0 20 rfl rfl)
theorem dX0_pence_21 : decode cX0_pence 21 = .ok (.ireturn, 1) := dk_172 (dk_at dksX0_pence_0 21 rfl rfl)
theorem dX0_pence_22 : decode cX0_pence 22 = .ok (.aload_n 0, 1) := dk_42 (dk_at dksX0_pence_0 22 rfl rfl)
theorem dX0_pence_23 : decode cX0_pence 23 = .ok (.getfield 19, 3) := dk_180 0 19 (dk_at dksX0_pence_1 0 rfl rfl)
theorem dX0_pence_26 : decode cX0_pence 26 = .ok (.getfield 183, 3) := dk_180 0 183 (dk_at dksX0_pence_1 3 rfl rfl)
theorem dX0_pence_29 : decode cX0_pence 29 = .ok (.invokestatic 222, 3) := dk_184 0 222 (dk_at dksX0_pence_1 6 rfl rfl)
theorem dX0_pence_32 : decode cX0_pence 32 = .ok (.istore_n 3, 1) := dk_62 (dk_at dksX0_pence_1 9 rfl rfl)
theorem dX0_pence_33 : decode cX0_pence 33 = .ok (.iload_n 3, 1) := dk_29 (dk_at dksX0_pence_1 10 rfl rfl)
theorem dX0_pence_34 : decode cX0_pence 34 = .ok (.ifCond .ne 5, 3) := dk_154 0 5 (dk_at dksX0_pence_1 11 rfl rfl)
theorem dX0_pence_37 : decode cX0_pence 37 = .ok (.iconst 0, 1) := dk_3 (dk_at dksX0_pence_1 14 rfl rfl)
theorem dX0_pence_38 : decode cX0_pence 38 = .ok (.ireturn, 1) := dk_172 (dk_at dksX0_pence_1 15 rfl rfl)
theorem dX0_pence_39 : decode cX0_pence 39 = .ok (.iload_n 1, 1) := dk_27 (dk_at dksX0_pence_1 16 rfl rfl)
theorem dX0_pence_40 : decode cX0_pence 40 = .ok (.istore 4, 2) := dk_54 4 (dk_at dksX0_pence_1 17 rfl rfl)
theorem dX0_pence_42 : decode cX0_pence 42 = .ok (.iconst 0, 1) := dk_3 (dk_at dksX0_pence_1 19 rfl rfl)
theorem dX0_pence_43 : decode cX0_pence 43 = .ok (.istore 5, 2) := dk_54 5 (dk_at dksX0_pence_1 20 rfl rfl)
theorem dX0_pence_45 : decode cX0_pence 45 = .ok (.iload_n 1, 1) := dk_27 (dk_at dksX0_pence_1 22 rfl rfl)
theorem dX0_pence_46 : decode cX0_pence 46 = .ok (.i2l, 1) := dk_133 (dk_at dksX0_pence_1 23 rfl rfl)
theorem dX0_pence_47 : decode cX0_pence 47 = .ok (.aload_n 0, 1) := dk_42 (dk_at dksX0_pence_2 0 rfl rfl)
theorem dX0_pence_48 : decode cX0_pence 48 = .ok (.getfield 19, 3) := dk_180 0 19 (dk_at dksX0_pence_2 1 rfl rfl)
theorem dX0_pence_51 : decode cX0_pence 51 = .ok (.getfield 183, 3) := dk_180 0 183 (dk_at dksX0_pence_2 4 rfl rfl)
theorem dX0_pence_54 : decode cX0_pence 54 = .ok (.iload_n 2, 1) := dk_28 (dk_at dksX0_pence_2 7 rfl rfl)
theorem dX0_pence_55 : decode cX0_pence 55 = .ok (.iaload, 1) := dk_46 (dk_at dksX0_pence_2 8 rfl rfl)
theorem dX0_pence_56 : decode cX0_pence 56 = .ok (.i2l, 1) := dk_133 (dk_at dksX0_pence_2 9 rfl rfl)
theorem dX0_pence_57 : decode cX0_pence 57 = .ok (.lmul, 1) := dk_105 (dk_at dksX0_pence_2 10 rfl rfl)
theorem dX0_pence_58 : decode cX0_pence 58 = .ok (.lstore 6, 2) := dk_55 6 (dk_at dksX0_pence_2 11 rfl rfl)
theorem dX0_pence_60 : decode cX0_pence 60 = .ok (.iconst 0, 1) := dk_3 (dk_at dksX0_pence_2 13 rfl rfl)
theorem dX0_pence_61 : decode cX0_pence 61 = .ok (.istore 8, 2) := dk_54 8 (dk_at dksX0_pence_2 14 rfl rfl)
theorem dX0_pence_63 : decode cX0_pence 63 = .ok (.iload 8, 2) := dk_21 8 (dk_at dksX0_pence_2 16 rfl rfl)
theorem dX0_pence_65 : decode cX0_pence 65 = .ok (.aload_n 0, 1) := dk_42 (dk_at dksX0_pence_2 18 rfl rfl)
theorem dX0_pence_66 : decode cX0_pence 66 = .ok (.getfield 10, 3) := dk_180 0 10 (dk_at dksX0_pence_2 19 rfl rfl)
theorem dX0_pence_69 : decode cX0_pence 69 = .ok (.invokevirtual 121, 3) := dk_182 0 121 (dk_at dksX0_pence_3 0 rfl rfl)
theorem dX0_pence_72 : decode cX0_pence 72 = .ok (.if_icmp .ge 83, 3) := dk_162 0 83 (dk_at dksX0_pence_3 3 rfl rfl)
theorem dX0_pence_75 : decode cX0_pence 75 = .ok (.iload_n 1, 1) := dk_27 (dk_at dksX0_pence_3 6 rfl rfl)
theorem dX0_pence_76 : decode cX0_pence 76 = .ok (.i2l, 1) := dk_133 (dk_at dksX0_pence_3 7 rfl rfl)
theorem dX0_pence_77 : decode cX0_pence 77 = .ok (.aload_n 0, 1) := dk_42 (dk_at dksX0_pence_3 8 rfl rfl)
theorem dX0_pence_78 : decode cX0_pence 78 = .ok (.getfield 19, 3) := dk_180 0 19 (dk_at dksX0_pence_3 9 rfl rfl)
theorem dX0_pence_81 : decode cX0_pence 81 = .ok (.getfield 183, 3) := dk_180 0 183 (dk_at dksX0_pence_3 12 rfl rfl)
theorem dX0_pence_84 : decode cX0_pence 84 = .ok (.iload 8, 2) := dk_21 8 (dk_at dksX0_pence_3 15 rfl rfl)
theorem dX0_pence_86 : decode cX0_pence 86 = .ok (.iaload, 1) := dk_46 (dk_at dksX0_pence_3 17 rfl rfl)
theorem dX0_pence_87 : decode cX0_pence 87 = .ok (.i2l, 1) := dk_133 (dk_at dksX0_pence_3 18 rfl rfl)
theorem dX0_pence_88 : decode cX0_pence 88 = .ok (.lmul, 1) := dk_105 (dk_at dksX0_pence_3 19 rfl rfl)
theorem dX0_pence_89 : decode cX0_pence 89 = .ok (.lstore 9, 2) := dk_55 9 (dk_at dksX0_pence_3 20 rfl rfl)
theorem dX0_pence_91 : decode cX0_pence 91 = .ok (.iload 4, 2) := dk_21 4 (dk_at dksX0_pence_3 22 rfl rfl)
theorem dX0_pence_93 : decode cX0_pence 93 = .ok (.lload 9, 2) := dk_22 9 (dk_at dksX0_pence_4 0 rfl rfl)
theorem dX0_pence_95 : decode cX0_pence 95 = .ok (.iload_n 3, 1) := dk_29 (dk_at dksX0_pence_4 2 rfl rfl)
theorem dX0_pence_96 : decode cX0_pence 96 = .ok (.i2l, 1) := dk_133 (dk_at dksX0_pence_4 3 rfl rfl)
theorem dX0_pence_97 : decode cX0_pence 97 = .ok (.ldiv, 1) := dk_109 (dk_at dksX0_pence_4 4 rfl rfl)
theorem dX0_pence_98 : decode cX0_pence 98 = .ok (.l2i, 1) := dk_136 (dk_at dksX0_pence_4 5 rfl rfl)
theorem dX0_pence_99 : decode cX0_pence 99 = .ok (.isub, 1) := dk_100 (dk_at dksX0_pence_4 6 rfl rfl)
theorem dX0_pence_100 : decode cX0_pence 100 = .ok (.istore 4, 2) := dk_54 4 (dk_at dksX0_pence_4 7 rfl rfl)
theorem dX0_pence_102 : decode cX0_pence 102 = .ok (.iload 5, 2) := dk_21 5 (dk_at dksX0_pence_4 9 rfl rfl)
theorem dX0_pence_104 : decode cX0_pence 104 = .ok (.lload 9, 2) := dk_22 9 (dk_at dksX0_pence_4 11 rfl rfl)
theorem dX0_pence_106 : decode cX0_pence 106 = .ok (.iload_n 3, 1) := dk_29 (dk_at dksX0_pence_4 13 rfl rfl)
theorem dX0_pence_107 : decode cX0_pence 107 = .ok (.i2l, 1) := dk_133 (dk_at dksX0_pence_4 14 rfl rfl)
theorem dX0_pence_108 : decode cX0_pence 108 = .ok (.lrem, 1) := dk_113 (dk_at dksX0_pence_4 15 rfl rfl)
theorem dX0_pence_109 : decode cX0_pence 109 = .ok (.lload 6, 2) := dk_22 6 (dk_at dksX0_pence_4 16 rfl rfl)
theorem dX0_pence_111 : decode cX0_pence 111 = .ok (.iload_n 3, 1) := dk_29 (dk_at dksX0_pence_4 18 rfl rfl)
theorem dX0_pence_112 : decode cX0_pence 112 = .ok (.i2l, 1) := dk_133 (dk_at dksX0_pence_4 19 rfl rfl)
theorem dX0_pence_113 : decode cX0_pence 113 = .ok (.lrem, 1) := dk_113 (dk_at dksX0_pence_4 20 rfl rfl)
theorem dX0_pence_114 : decode cX0_pence 114 = .ok (.lcmp, 1) := dk_148 (dk_at dksX0_pence_4 21 rfl rfl)
theorem dX0_pence_115 : decode cX0_pence 115 = .ok (.ifCond .gt 23, 3) := dk_157 0 23 (dk_at dksX0_pence_5 0 rfl rfl)
theorem dX0_pence_118 : decode cX0_pence 118 = .ok (.lload 9, 2) := dk_22 9 (dk_at dksX0_pence_5 3 rfl rfl)
theorem dX0_pence_120 : decode cX0_pence 120 = .ok (.iload_n 3, 1) := dk_29 (dk_at dksX0_pence_5 5 rfl rfl)
theorem dX0_pence_121 : decode cX0_pence 121 = .ok (.i2l, 1) := dk_133 (dk_at dksX0_pence_5 6 rfl rfl)
theorem dX0_pence_122 : decode cX0_pence 122 = .ok (.lrem, 1) := dk_113 (dk_at dksX0_pence_5 7 rfl rfl)
theorem dX0_pence_123 : decode cX0_pence 123 = .ok (.lload 6, 2) := dk_22 6 (dk_at dksX0_pence_5 8 rfl rfl)
theorem dX0_pence_125 : decode cX0_pence 125 = .ok (.iload_n 3, 1) := dk_29 (dk_at dksX0_pence_5 10 rfl rfl)
theorem dX0_pence_126 : decode cX0_pence 126 = .ok (.i2l, 1) := dk_133 (dk_at dksX0_pence_5 11 rfl rfl)
theorem dX0_pence_127 : decode cX0_pence 127 = .ok (.lrem, 1) := dk_113 (dk_at dksX0_pence_5 12 rfl rfl)
theorem dX0_pence_128 : decode cX0_pence 128 = .ok (.lcmp, 1) := dk_148 (dk_at dksX0_pence_5 13 rfl rfl)
theorem dX0_pence_129 : decode cX0_pence 129 = .ok (.ifCond .ne 13, 3) := dk_154 0 13 (dk_at dksX0_pence_5 14 rfl rfl)
theorem dX0_pence_132 : decode cX0_pence 132 = .ok (.iload 8, 2) := dk_21 8 (dk_at dksX0_pence_5 17 rfl rfl)
theorem dX0_pence_134 : decode cX0_pence 134 = .ok (.iload_n 2, 1) := dk_28 (dk_at dksX0_pence_5 19 rfl rfl)
theorem dX0_pence_135 : decode cX0_pence 135 = .ok (.if_icmp .ge 7, 3) := dk_162 0 7 (dk_at dksX0_pence_5 20 rfl rfl)
theorem dX0_pence_138 : decode cX0_pence 138 = .ok (.iconst 1, 1) := dk_4 (dk_at dksX0_pence_5 23 rfl rfl)
theorem dX0_pence_139 : decode cX0_pence 139 = .ok (.goto 4, 3) := dk_167 0 4 (dk_at dksX0_pence_6 0 rfl rfl)
theorem dX0_pence_142 : decode cX0_pence 142 = .ok (.iconst 0, 1) := dk_3 (dk_at dksX0_pence_6 3 rfl rfl)
theorem dX0_pence_143 : decode cX0_pence 143 = .ok (.invokestatic 210, 3) := dk_184 0 210 (dk_at dksX0_pence_6 4 rfl rfl)
theorem dX0_pence_146 : decode cX0_pence 146 = .ok (.iadd, 1) := dk_96 (dk_at dksX0_pence_6 7 rfl rfl)
theorem dX0_pence_147 : decode cX0_pence 147 = .ok (.istore 5, 2) := dk_54 5 (dk_at dksX0_pence_6 8 rfl rfl)
theorem dX0_pence_149 : decode cX0_pence 149 = .ok (.iinc 8 1, 3) := dk_132 8 1 (dk_at dksX0_pence_6 10 rfl rfl)
theorem dX0_pence_152 : decode cX0_pence 152 = .ok (.goto (-89), 3) := dk_167 255 167 (dk_at dksX0_pence_6 13 rfl rfl)
theorem dX0_pence_155 : decode cX0_pence 155 = .ok (.lload 6, 2) := dk_22 6 (dk_at dksX0_pence_6 16 rfl rfl)
theorem dX0_pence_157 : decode cX0_pence 157 = .ok (.iload_n 3, 1) := dk_29 (dk_at dksX0_pence_6 18 rfl rfl)
theorem dX0_pence_158 : decode cX0_pence 158 = .ok (.i2l, 1) := dk_133 (dk_at dksX0_pence_6 19 rfl rfl)
theorem dX0_pence_159 : decode cX0_pence 159 = .ok (.ldiv, 1) := dk_109 (dk_at dksX0_pence_6 20 rfl rfl)
theorem dX0_pence_160 : decode cX0_pence 160 = .ok (.l2i, 1) := dk_136 (dk_at dksX0_pence_6 21 rfl rfl)
theorem dX0_pence_161 : decode cX0_pence 161 = .ok (.iload 5, 2) := dk_21 5 (dk_at dksX0_pence_6 22 rfl rfl)
theorem dX0_pence_163 : decode cX0_pence 163 = .ok (.iload 4, 2) := dk_21 4 (dk_at dksX0_pence_7 0 rfl rfl)
theorem dX0_pence_165 : decode cX0_pence 165 = .ok (.if_icmp .ge 7, 3) := dk_162 0 7 (dk_at dksX0_pence_7 2 rfl rfl)
theorem dX0_pence_168 : decode cX0_pence 168 = .ok (.iconst 1, 1) := dk_4 (dk_at dksX0_pence_7 5 rfl rfl)
theorem dX0_pence_169 : decode cX0_pence 169 = .ok (.goto 4, 3) := dk_167 0 4 (dk_at dksX0_pence_7 6 rfl rfl)
theorem dX0_pence_172 : decode cX0_pence 172 = .ok (.iconst 0, 1) := dk_3 (dk_at dksX0_pence_7 9 rfl rfl)
theorem dX0_pence_173 : decode cX0_pence 173 = .ok (.invokestatic 210, 3) := dk_184 0 210 (dk_at dksX0_pence_7 10 rfl rfl)
theorem dX0_pence_176 : decode cX0_pence 176 = .ok (.iadd, 1) := dk_96 (dk_at dksX0_pence_7 13 rfl rfl)
theorem dX0_pence_177 : decode cX0_pence 177 = .ok (.ireturn, 1) := dk_172 (dk_at dksX0_pence_7 14 rfl rfl)
abbrev cX0_note : ByteArray := prog_1_method_52_code
def yX0_note : MethodName := ⟨RX0, "note", "(III)I"⟩
def dkwX0_note_4 : List UInt8 := [181, 0, 150, 42, 180, 0, 150, 172]
abbrev dktX0_note_4 : List UInt8 := dkwX0_note_4 ++ []
def dkwX0_note_3 : List UInt8 := [180, 0, 150, 28, 79, 42, 180, 0, 57, 42, 180, 0, 150, 29, 79, 42, 89, 180, 0, 150, 4, 96]
abbrev dktX0_note_3 : List UInt8 := dkwX0_note_3 ++ dktX0_note_4
def dkwX0_note_2 : List UInt8 := [16, 10, 160, 0, 6, 16, 254, 172, 42, 180, 0, 50, 42, 180, 0, 150, 27, 79, 42, 180, 0, 54, 42]
abbrev dktX0_note_2 : List UInt8 := dkwX0_note_2 ++ dktX0_note_3
def dkwX0_note_1 : List UInt8 := [42, 28, 182, 0, 164, 153, 0, 24, 29, 133, 9, 20, 1, 89, 184, 0, 125, 153, 0, 12, 42, 180, 0, 150]
abbrev dktX0_note_1 : List UInt8 := dkwX0_note_1 ++ dktX0_note_2
def dkwX0_note_0 : List UInt8 := [27, 2, 160, 0, 10, 42, 3, 181, 0, 150, 3, 172, 27, 133, 9, 20, 1, 73, 184, 0, 125, 153, 0, 32]
abbrev dktX0_note_0 : List UInt8 := dkwX0_note_0 ++ dktX0_note_1
theorem dksX0_note_0 : cX0_note.data.toList.drop 0 = dktX0_note_0 := by decide +kernel
theorem dksX0_note_1 : cX0_note.data.toList.drop 24 = dktX0_note_1 := dk_seg dksX0_note_0 24 rfl rfl
theorem dksX0_note_2 : cX0_note.data.toList.drop 48 = dktX0_note_2 := dk_seg dksX0_note_1 24 rfl rfl
theorem dksX0_note_3 : cX0_note.data.toList.drop 71 = dktX0_note_3 := dk_seg dksX0_note_2 23 rfl rfl
theorem dksX0_note_4 : cX0_note.data.toList.drop 93 = dktX0_note_4 := dk_seg dksX0_note_3 22 rfl rfl
theorem dX0_note_0 : decode cX0_note 0 = .ok (.iload_n 1, 1) := dk_27 (dk_at dksX0_note_0 0 rfl rfl)
theorem dX0_note_1 : decode cX0_note 1 = .ok (.iconst (-1), 1) := dk_2 (dk_at dksX0_note_0 1 rfl rfl)
theorem dX0_note_2 : decode cX0_note 2 = .ok (.if_icmp .ne 10, 3) := dk_160 0 10 (dk_at dksX0_note_0 2 rfl rfl)
theorem dX0_note_5 : decode cX0_note 5 = .ok (.aload_n 0, 1) := dk_42 (dk_at dksX0_note_0 5 rfl rfl)
theorem dX0_note_6 : decode cX0_note 6 = .ok (.iconst 0, 1) := dk_3 (dk_at dksX0_note_0 6 rfl rfl)
theorem dX0_note_7 : decode cX0_note 7 = .ok (.putfield 150, 3) := dk_181 0 150 (dk_at dksX0_note_0 7 rfl rfl)
theorem dX0_note_10 : decode cX0_note 10 = .ok (.iconst 0, 1) := dk_3 (dk_at dksX0_note_0 10 rfl rfl)
theorem dX0_note_11 : decode cX0_note 11 = .ok (.ireturn, 1) := dk_172 (dk_at dksX0_note_0 11 rfl rfl)
theorem dX0_note_12 : decode cX0_note 12 = .ok (.iload_n 1, 1) := dk_27 (dk_at dksX0_note_0 12 rfl rfl)
theorem dX0_note_13 : decode cX0_note 13 = .ok (.i2l, 1) := dk_133 (dk_at dksX0_note_0 13 rfl rfl)
theorem dX0_note_14 : decode cX0_note 14 = .ok (.lconst 0, 1) := dk_9 (dk_at dksX0_note_0 14 rfl rfl)
theorem dX0_note_15 : decode cX0_note 15 = .ok (.ldc2_w 329, 3) := dk_20 1 73 (dk_at dksX0_note_0 15 rfl rfl)
theorem dX0_note_18 : decode cX0_note 18 = .ok (.invokestatic 125, 3) := dk_184 0 125 (dk_at dksX0_note_0 18 rfl rfl)
theorem dX0_note_21 : decode cX0_note 21 = .ok (.ifCond .eq 32, 3) := dk_153 0 32 (dk_at dksX0_note_0 21 rfl rfl)
theorem dX0_note_24 : decode cX0_note 24 = .ok (.aload_n 0, 1) := dk_42 (dk_at dksX0_note_1 0 rfl rfl)
theorem dX0_note_25 : decode cX0_note 25 = .ok (.iload_n 2, 1) := dk_28 (dk_at dksX0_note_1 1 rfl rfl)
theorem dX0_note_26 : decode cX0_note 26 = .ok (.invokevirtual 164, 3) := dk_182 0 164 (dk_at dksX0_note_1 2 rfl rfl)
theorem dX0_note_29 : decode cX0_note 29 = .ok (.ifCond .eq 24, 3) := dk_153 0 24 (dk_at dksX0_note_1 5 rfl rfl)
theorem dX0_note_32 : decode cX0_note 32 = .ok (.iload_n 3, 1) := dk_29 (dk_at dksX0_note_1 8 rfl rfl)
theorem dX0_note_33 : decode cX0_note 33 = .ok (.i2l, 1) := dk_133 (dk_at dksX0_note_1 9 rfl rfl)
theorem dX0_note_34 : decode cX0_note 34 = .ok (.lconst 0, 1) := dk_9 (dk_at dksX0_note_1 10 rfl rfl)
theorem dX0_note_35 : decode cX0_note 35 = .ok (.ldc2_w 345, 3) := dk_20 1 89 (dk_at dksX0_note_1 11 rfl rfl)
theorem dX0_note_38 : decode cX0_note 38 = .ok (.invokestatic 125, 3) := dk_184 0 125 (dk_at dksX0_note_1 14 rfl rfl)
theorem dX0_note_41 : decode cX0_note 41 = .ok (.ifCond .eq 12, 3) := dk_153 0 12 (dk_at dksX0_note_1 17 rfl rfl)
theorem dX0_note_44 : decode cX0_note 44 = .ok (.aload_n 0, 1) := dk_42 (dk_at dksX0_note_1 20 rfl rfl)
theorem dX0_note_45 : decode cX0_note 45 = .ok (.getfield 150, 3) := dk_180 0 150 (dk_at dksX0_note_1 21 rfl rfl)
theorem dX0_note_48 : decode cX0_note 48 = .ok (.bipush 10, 2) := dk_16 10 (dk_at dksX0_note_2 0 rfl rfl)
theorem dX0_note_50 : decode cX0_note 50 = .ok (.if_icmp .ne 6, 3) := dk_160 0 6 (dk_at dksX0_note_2 2 rfl rfl)
theorem dX0_note_53 : decode cX0_note 53 = .ok (.bipush (-2), 2) := dk_16 254 (dk_at dksX0_note_2 5 rfl rfl)
theorem dX0_note_55 : decode cX0_note 55 = .ok (.ireturn, 1) := dk_172 (dk_at dksX0_note_2 7 rfl rfl)
theorem dX0_note_56 : decode cX0_note 56 = .ok (.aload_n 0, 1) := dk_42 (dk_at dksX0_note_2 8 rfl rfl)
theorem dX0_note_57 : decode cX0_note 57 = .ok (.getfield 50, 3) := dk_180 0 50 (dk_at dksX0_note_2 9 rfl rfl)
theorem dX0_note_60 : decode cX0_note 60 = .ok (.aload_n 0, 1) := dk_42 (dk_at dksX0_note_2 12 rfl rfl)
theorem dX0_note_61 : decode cX0_note 61 = .ok (.getfield 150, 3) := dk_180 0 150 (dk_at dksX0_note_2 13 rfl rfl)
theorem dX0_note_64 : decode cX0_note 64 = .ok (.iload_n 1, 1) := dk_27 (dk_at dksX0_note_2 16 rfl rfl)
theorem dX0_note_65 : decode cX0_note 65 = .ok (.iastore, 1) := dk_79 (dk_at dksX0_note_2 17 rfl rfl)
theorem dX0_note_66 : decode cX0_note 66 = .ok (.aload_n 0, 1) := dk_42 (dk_at dksX0_note_2 18 rfl rfl)
theorem dX0_note_67 : decode cX0_note 67 = .ok (.getfield 54, 3) := dk_180 0 54 (dk_at dksX0_note_2 19 rfl rfl)
theorem dX0_note_70 : decode cX0_note 70 = .ok (.aload_n 0, 1) := dk_42 (dk_at dksX0_note_2 22 rfl rfl)
theorem dX0_note_71 : decode cX0_note 71 = .ok (.getfield 150, 3) := dk_180 0 150 (dk_at dksX0_note_3 0 rfl rfl)
theorem dX0_note_74 : decode cX0_note 74 = .ok (.iload_n 2, 1) := dk_28 (dk_at dksX0_note_3 3 rfl rfl)
theorem dX0_note_75 : decode cX0_note 75 = .ok (.iastore, 1) := dk_79 (dk_at dksX0_note_3 4 rfl rfl)
theorem dX0_note_76 : decode cX0_note 76 = .ok (.aload_n 0, 1) := dk_42 (dk_at dksX0_note_3 5 rfl rfl)
theorem dX0_note_77 : decode cX0_note 77 = .ok (.getfield 57, 3) := dk_180 0 57 (dk_at dksX0_note_3 6 rfl rfl)
theorem dX0_note_80 : decode cX0_note 80 = .ok (.aload_n 0, 1) := dk_42 (dk_at dksX0_note_3 9 rfl rfl)
theorem dX0_note_81 : decode cX0_note 81 = .ok (.getfield 150, 3) := dk_180 0 150 (dk_at dksX0_note_3 10 rfl rfl)
theorem dX0_note_84 : decode cX0_note 84 = .ok (.iload_n 3, 1) := dk_29 (dk_at dksX0_note_3 13 rfl rfl)
theorem dX0_note_85 : decode cX0_note 85 = .ok (.iastore, 1) := dk_79 (dk_at dksX0_note_3 14 rfl rfl)
theorem dX0_note_86 : decode cX0_note 86 = .ok (.aload_n 0, 1) := dk_42 (dk_at dksX0_note_3 15 rfl rfl)
theorem dX0_note_87 : decode cX0_note 87 = .ok (.dup, 1) := dk_89 (dk_at dksX0_note_3 16 rfl rfl)
theorem dX0_note_88 : decode cX0_note 88 = .ok (.getfield 150, 3) := dk_180 0 150 (dk_at dksX0_note_3 17 rfl rfl)
theorem dX0_note_91 : decode cX0_note 91 = .ok (.iconst 1, 1) := dk_4 (dk_at dksX0_note_3 20 rfl rfl)
theorem dX0_note_92 : decode cX0_note 92 = .ok (.iadd, 1) := dk_96 (dk_at dksX0_note_3 21 rfl rfl)
theorem dX0_note_93 : decode cX0_note 93 = .ok (.putfield 150, 3) := dk_181 0 150 (dk_at dksX0_note_4 0 rfl rfl)
theorem dX0_note_96 : decode cX0_note 96 = .ok (.aload_n 0, 1) := dk_42 (dk_at dksX0_note_4 3 rfl rfl)
theorem dX0_note_97 : decode cX0_note 97 = .ok (.getfield 150, 3) := dk_180 0 150 (dk_at dksX0_note_4 4 rfl rfl)
theorem dX0_note_100 : decode cX0_note 100 = .ok (.ireturn, 1) := dk_172 (dk_at dksX0_note_4 7 rfl rfl)
abbrev cX0_ruled : ByteArray := prog_1_method_54_code
def yX0_ruled : MethodName := ⟨RX0, "ruled", "(I)I"⟩
def dkwX0_ruled_3 : List UInt8 := [167, 255, 215, 27, 154, 0, 7, 28, 167, 0, 4, 29, 172]
abbrev dktX0_ruled_3 : List UInt8 := dkwX0_ruled_3 ++ []
def dkwX0_ruled_2 : List UInt8 := [154, 0, 6, 167, 0, 17, 28, 154, 0, 8, 21, 4, 167, 0, 4, 29, 62, 132, 2, 1, 132, 4, 1]
abbrev dktX0_ruled_2 : List UInt8 := dkwX0_ruled_2 ++ dktX0_ruled_3
def dkwX0_ruled_1 : List UInt8 := [62, 2, 54, 4, 21, 4, 42, 180, 0, 31, 182, 0, 156, 162, 0, 35, 42, 21, 4, 182, 1, 91]
abbrev dktX0_ruled_1 : List UInt8 := dkwX0_ruled_1 ++ dktX0_ruled_2
def dkwX0_ruled_0 : List UInt8 := [42, 182, 1, 26, 153, 0, 13, 27, 133, 9, 10, 184, 0, 125, 154, 0, 6, 16, 253, 172, 3, 61, 16, 254]
abbrev dktX0_ruled_0 : List UInt8 := dkwX0_ruled_0 ++ dktX0_ruled_1
theorem dksX0_ruled_0 : cX0_ruled.data.toList.drop 0 = dktX0_ruled_0 := by decide +kernel
theorem dksX0_ruled_1 : cX0_ruled.data.toList.drop 24 = dktX0_ruled_1 := dk_seg dksX0_ruled_0 24 rfl rfl
theorem dksX0_ruled_2 : cX0_ruled.data.toList.drop 46 = dktX0_ruled_2 := dk_seg dksX0_ruled_1 22 rfl rfl
theorem dksX0_ruled_3 : cX0_ruled.data.toList.drop 69 = dktX0_ruled_3 := dk_seg dksX0_ruled_2 23 rfl rfl
theorem dX0_ruled_0 : decode cX0_ruled 0 = .ok (.aload_n 0, 1) := dk_42 (dk_at dksX0_ruled_0 0 rfl rfl)
theorem dX0_ruled_1 : decode cX0_ruled 1 = .ok (.invokevirtual 282, 3) := dk_182 1 26 (dk_at dksX0_ruled_0 1 rfl rfl)
theorem dX0_ruled_4 : decode cX0_ruled 4 = .ok (.ifCond .eq 13, 3) := dk_153 0 13 (dk_at dksX0_ruled_0 4 rfl rfl)
theorem dX0_ruled_7 : decode cX0_ruled 7 = .ok (.iload_n 1, 1) := dk_27 (dk_at dksX0_ruled_0 7 rfl rfl)
theorem dX0_ruled_8 : decode cX0_ruled 8 = .ok (.i2l, 1) := dk_133 (dk_at dksX0_ruled_0 8 rfl rfl)
theorem dX0_ruled_9 : decode cX0_ruled 9 = .ok (.lconst 0, 1) := dk_9 (dk_at dksX0_ruled_0 9 rfl rfl)
theorem dX0_ruled_10 : decode cX0_ruled 10 = .ok (.lconst 1, 1) := dk_10 (dk_at dksX0_ruled_0 10 rfl rfl)
theorem dX0_ruled_11 : decode cX0_ruled 11 = .ok (.invokestatic 125, 3) := dk_184 0 125 (dk_at dksX0_ruled_0 11 rfl rfl)
theorem dX0_ruled_14 : decode cX0_ruled 14 = .ok (.ifCond .ne 6, 3) := dk_154 0 6 (dk_at dksX0_ruled_0 14 rfl rfl)
theorem dX0_ruled_17 : decode cX0_ruled 17 = .ok (.bipush (-3), 2) := dk_16 253 (dk_at dksX0_ruled_0 17 rfl rfl)
theorem dX0_ruled_19 : decode cX0_ruled 19 = .ok (.ireturn, 1) := dk_172 (dk_at dksX0_ruled_0 19 rfl rfl)
theorem dX0_ruled_20 : decode cX0_ruled 20 = .ok (.iconst 0, 1) := dk_3 (dk_at dksX0_ruled_0 20 rfl rfl)
theorem dX0_ruled_21 : decode cX0_ruled 21 = .ok (.istore_n 2, 1) := dk_61 (dk_at dksX0_ruled_0 21 rfl rfl)
theorem dX0_ruled_22 : decode cX0_ruled 22 = .ok (.bipush (-2), 2) := dk_16 254 (dk_at dksX0_ruled_0 22 rfl rfl)
theorem dX0_ruled_24 : decode cX0_ruled 24 = .ok (.istore_n 3, 1) := dk_62 (dk_at dksX0_ruled_1 0 rfl rfl)
theorem dX0_ruled_25 : decode cX0_ruled 25 = .ok (.iconst (-1), 1) := dk_2 (dk_at dksX0_ruled_1 1 rfl rfl)
theorem dX0_ruled_26 : decode cX0_ruled 26 = .ok (.istore 4, 2) := dk_54 4 (dk_at dksX0_ruled_1 2 rfl rfl)
theorem dX0_ruled_28 : decode cX0_ruled 28 = .ok (.iload 4, 2) := dk_21 4 (dk_at dksX0_ruled_1 4 rfl rfl)
theorem dX0_ruled_30 : decode cX0_ruled 30 = .ok (.aload_n 0, 1) := dk_42 (dk_at dksX0_ruled_1 6 rfl rfl)
theorem dX0_ruled_31 : decode cX0_ruled 31 = .ok (.getfield 31, 3) := dk_180 0 31 (dk_at dksX0_ruled_1 7 rfl rfl)
theorem dX0_ruled_34 : decode cX0_ruled 34 = .ok (.invokevirtual 156, 3) := dk_182 0 156 (dk_at dksX0_ruled_1 10 rfl rfl)
theorem dX0_ruled_37 : decode cX0_ruled 37 = .ok (.if_icmp .ge 35, 3) := dk_162 0 35 (dk_at dksX0_ruled_1 13 rfl rfl)
theorem dX0_ruled_40 : decode cX0_ruled 40 = .ok (.aload_n 0, 1) := dk_42 (dk_at dksX0_ruled_1 16 rfl rfl)
theorem dX0_ruled_41 : decode cX0_ruled 41 = .ok (.iload 4, 2) := dk_21 4 (dk_at dksX0_ruled_1 17 rfl rfl)
theorem dX0_ruled_43 : decode cX0_ruled 43 = .ok (.invokevirtual 347, 3) := dk_182 1 91 (dk_at dksX0_ruled_1 19 rfl rfl)
theorem dX0_ruled_46 : decode cX0_ruled 46 = .ok (.ifCond .ne 6, 3) := dk_154 0 6 (dk_at dksX0_ruled_2 0 rfl rfl)
theorem dX0_ruled_49 : decode cX0_ruled 49 = .ok (.goto 17, 3) := dk_167 0 17 (dk_at dksX0_ruled_2 3 rfl rfl)
theorem dX0_ruled_52 : decode cX0_ruled 52 = .ok (.iload_n 2, 1) := dk_28 (dk_at dksX0_ruled_2 6 rfl rfl)
theorem dX0_ruled_53 : decode cX0_ruled 53 = .ok (.ifCond .ne 8, 3) := dk_154 0 8 (dk_at dksX0_ruled_2 7 rfl rfl)
theorem dX0_ruled_56 : decode cX0_ruled 56 = .ok (.iload 4, 2) := dk_21 4 (dk_at dksX0_ruled_2 10 rfl rfl)
theorem dX0_ruled_58 : decode cX0_ruled 58 = .ok (.goto 4, 3) := dk_167 0 4 (dk_at dksX0_ruled_2 12 rfl rfl)
theorem dX0_ruled_61 : decode cX0_ruled 61 = .ok (.iload_n 3, 1) := dk_29 (dk_at dksX0_ruled_2 15 rfl rfl)
theorem dX0_ruled_62 : decode cX0_ruled 62 = .ok (.istore_n 3, 1) := dk_62 (dk_at dksX0_ruled_2 16 rfl rfl)
theorem dX0_ruled_63 : decode cX0_ruled 63 = .ok (.iinc 2 1, 3) := dk_132 2 1 (dk_at dksX0_ruled_2 17 rfl rfl)
theorem dX0_ruled_66 : decode cX0_ruled 66 = .ok (.iinc 4 1, 3) := dk_132 4 1 (dk_at dksX0_ruled_2 20 rfl rfl)
theorem dX0_ruled_69 : decode cX0_ruled 69 = .ok (.goto (-41), 3) := dk_167 255 215 (dk_at dksX0_ruled_3 0 rfl rfl)
theorem dX0_ruled_72 : decode cX0_ruled 72 = .ok (.iload_n 1, 1) := dk_27 (dk_at dksX0_ruled_3 3 rfl rfl)
theorem dX0_ruled_73 : decode cX0_ruled 73 = .ok (.ifCond .ne 7, 3) := dk_154 0 7 (dk_at dksX0_ruled_3 4 rfl rfl)
theorem dX0_ruled_76 : decode cX0_ruled 76 = .ok (.iload_n 2, 1) := dk_28 (dk_at dksX0_ruled_3 7 rfl rfl)
theorem dX0_ruled_77 : decode cX0_ruled 77 = .ok (.goto 4, 3) := dk_167 0 4 (dk_at dksX0_ruled_3 8 rfl rfl)
theorem dX0_ruled_80 : decode cX0_ruled 80 = .ok (.iload_n 3, 1) := dk_29 (dk_at dksX0_ruled_3 11 rfl rfl)
theorem dX0_ruled_81 : decode cX0_ruled 81 = .ok (.ireturn, 1) := dk_172 (dk_at dksX0_ruled_3 12 rfl rfl)
abbrev cX0_couldRule : ByteArray := prog_1_method_53_code
def yX0_couldRule : MethodName := ⟨RX0, "couldRule", "(I)Z"⟩
def dkwX0_couldRule_5 : List UInt8 := [180, 0, 57, 29, 46, 159, 0, 5, 3, 172, 132, 3, 1, 167, 255, 213, 4, 172]
abbrev dktX0_couldRule_5 : List UInt8 := dkwX0_couldRule_5 ++ []
def dkwX0_couldRule_4 : List UInt8 := [42, 180, 0, 106, 16, 6, 42, 180, 0, 50, 29, 46, 104, 42, 180, 0, 54, 29, 46, 96, 46, 42]
abbrev dktX0_couldRule_4 : List UInt8 := dkwX0_couldRule_4 ++ dktX0_couldRule_5
def dkwX0_couldRule_3 : List UInt8 := [167, 255, 227, 132, 3, 1, 167, 255, 203, 42, 28, 181, 0, 35, 3, 62, 29, 42, 180, 0, 150, 162, 0, 41]
abbrev dktX0_couldRule_3 : List UInt8 := dkwX0_couldRule_3 ++ dktX0_couldRule_4
def dkwX0_couldRule_2 : List UInt8 := [42, 180, 0, 106, 16, 6, 29, 104, 21, 4, 96, 42, 180, 0, 77, 21, 4, 46, 79, 132, 4, 1]
abbrev dktX0_couldRule_2 : List UInt8 := dkwX0_couldRule_2 ++ dktX0_couldRule_3
def dkwX0_couldRule_1 : List UInt8 := [16, 60, 163, 0, 53, 42, 42, 180, 0, 23, 182, 1, 13, 87, 3, 54, 4, 21, 4, 16, 6, 162, 0, 28]
abbrev dktX0_couldRule_1 : List UInt8 := dkwX0_couldRule_1 ++ dktX0_couldRule_2
def dkwX0_couldRule_0 : List UInt8 := [42, 180, 0, 35, 61, 42, 27, 181, 0, 35, 42, 180, 0, 23, 42, 180, 0, 10, 182, 0, 146, 3, 62, 29]
abbrev dktX0_couldRule_0 : List UInt8 := dkwX0_couldRule_0 ++ dktX0_couldRule_1
theorem dksX0_couldRule_0 : cX0_couldRule.data.toList.drop 0 = dktX0_couldRule_0 := by decide +kernel
theorem dksX0_couldRule_1 : cX0_couldRule.data.toList.drop 24 = dktX0_couldRule_1 := dk_seg dksX0_couldRule_0 24 rfl rfl
theorem dksX0_couldRule_2 : cX0_couldRule.data.toList.drop 48 = dktX0_couldRule_2 := dk_seg dksX0_couldRule_1 24 rfl rfl
theorem dksX0_couldRule_3 : cX0_couldRule.data.toList.drop 70 = dktX0_couldRule_3 := dk_seg dksX0_couldRule_2 22 rfl rfl
theorem dksX0_couldRule_4 : cX0_couldRule.data.toList.drop 94 = dktX0_couldRule_4 := dk_seg dksX0_couldRule_3 24 rfl rfl
theorem dksX0_couldRule_5 : cX0_couldRule.data.toList.drop 116 = dktX0_couldRule_5 := dk_seg dksX0_couldRule_4 22 rfl rfl
theorem dX0_couldRule_0 : decode cX0_couldRule 0 = .ok (.aload_n 0, 1) := dk_42 (dk_at dksX0_couldRule_0 0 rfl rfl)
theorem dX0_couldRule_1 : decode cX0_couldRule 1 = .ok (.getfield 35, 3) := dk_180 0 35 (dk_at dksX0_couldRule_0 1 rfl rfl)
theorem dX0_couldRule_4 : decode cX0_couldRule 4 = .ok (.istore_n 2, 1) := dk_61 (dk_at dksX0_couldRule_0 4 rfl rfl)
theorem dX0_couldRule_5 : decode cX0_couldRule 5 = .ok (.aload_n 0, 1) := dk_42 (dk_at dksX0_couldRule_0 5 rfl rfl)
theorem dX0_couldRule_6 : decode cX0_couldRule 6 = .ok (.iload_n 1, 1) := dk_27 (dk_at dksX0_couldRule_0 6 rfl rfl)
theorem dX0_couldRule_7 : decode cX0_couldRule 7 = .ok (.putfield 35, 3) := dk_181 0 35 (dk_at dksX0_couldRule_0 7 rfl rfl)
theorem dX0_couldRule_10 : decode cX0_couldRule 10 = .ok (.aload_n 0, 1) := dk_42 (dk_at dksX0_couldRule_0 10 rfl rfl)
theorem dX0_couldRule_11 : decode cX0_couldRule 11 = .ok (.getfield 23, 3) := dk_180 0 23 (dk_at dksX0_couldRule_0 11 rfl rfl)
theorem dX0_couldRule_14 : decode cX0_couldRule 14 = .ok (.aload_n 0, 1) := dk_42 (dk_at dksX0_couldRule_0 14 rfl rfl)
theorem dX0_couldRule_15 : decode cX0_couldRule 15 = .ok (.getfield 10, 3) := dk_180 0 10 (dk_at dksX0_couldRule_0 15 rfl rfl)
theorem dX0_couldRule_18 : decode cX0_couldRule 18 = .ok (.invokevirtual 146, 3) := dk_182 0 146 (dk_at dksX0_couldRule_0 18 rfl rfl)
theorem dX0_couldRule_21 : decode cX0_couldRule 21 = .ok (.iconst 0, 1) := dk_3 (dk_at dksX0_couldRule_0 21 rfl rfl)
theorem dX0_couldRule_22 : decode cX0_couldRule 22 = .ok (.istore_n 3, 1) := dk_62 (dk_at dksX0_couldRule_0 22 rfl rfl)
theorem dX0_couldRule_23 : decode cX0_couldRule 23 = .ok (.iload_n 3, 1) := dk_29 (dk_at dksX0_couldRule_0 23 rfl rfl)
theorem dX0_couldRule_24 : decode cX0_couldRule 24 = .ok (.bipush 60, 2) := dk_16 60 (dk_at dksX0_couldRule_1 0 rfl rfl)
theorem dX0_couldRule_26 : decode cX0_couldRule 26 = .ok (.if_icmp .gt 53, 3) := dk_163 0 53 (dk_at dksX0_couldRule_1 2 rfl rfl)
theorem dX0_couldRule_29 : decode cX0_couldRule 29 = .ok (.aload_n 0, 1) := dk_42 (dk_at dksX0_couldRule_1 5 rfl rfl)
theorem dX0_couldRule_30 : decode cX0_couldRule 30 = .ok (.aload_n 0, 1) := dk_42 (dk_at dksX0_couldRule_1 6 rfl rfl)
theorem dX0_couldRule_31 : decode cX0_couldRule 31 = .ok (.getfield 23, 3) := dk_180 0 23 (dk_at dksX0_couldRule_1 7 rfl rfl)
theorem dX0_couldRule_34 : decode cX0_couldRule 34 = .ok (.invokevirtual 269, 3) := dk_182 1 13 (dk_at dksX0_couldRule_1 10 rfl rfl)
theorem dX0_couldRule_37 : decode cX0_couldRule 37 = .ok (.pop, 1) := dk_87 (dk_at dksX0_couldRule_1 13 rfl rfl)
theorem dX0_couldRule_38 : decode cX0_couldRule 38 = .ok (.iconst 0, 1) := dk_3 (dk_at dksX0_couldRule_1 14 rfl rfl)
theorem dX0_couldRule_39 : decode cX0_couldRule 39 = .ok (.istore 4, 2) := dk_54 4 (dk_at dksX0_couldRule_1 15 rfl rfl)
theorem dX0_couldRule_41 : decode cX0_couldRule 41 = .ok (.iload 4, 2) := dk_21 4 (dk_at dksX0_couldRule_1 17 rfl rfl)
theorem dX0_couldRule_43 : decode cX0_couldRule 43 = .ok (.bipush 6, 2) := dk_16 6 (dk_at dksX0_couldRule_1 19 rfl rfl)
theorem dX0_couldRule_45 : decode cX0_couldRule 45 = .ok (.if_icmp .ge 28, 3) := dk_162 0 28 (dk_at dksX0_couldRule_1 21 rfl rfl)
theorem dX0_couldRule_48 : decode cX0_couldRule 48 = .ok (.aload_n 0, 1) := dk_42 (dk_at dksX0_couldRule_2 0 rfl rfl)
theorem dX0_couldRule_49 : decode cX0_couldRule 49 = .ok (.getfield 106, 3) := dk_180 0 106 (dk_at dksX0_couldRule_2 1 rfl rfl)
theorem dX0_couldRule_52 : decode cX0_couldRule 52 = .ok (.bipush 6, 2) := dk_16 6 (dk_at dksX0_couldRule_2 4 rfl rfl)
theorem dX0_couldRule_54 : decode cX0_couldRule 54 = .ok (.iload_n 3, 1) := dk_29 (dk_at dksX0_couldRule_2 6 rfl rfl)
theorem dX0_couldRule_55 : decode cX0_couldRule 55 = .ok (.imul, 1) := dk_104 (dk_at dksX0_couldRule_2 7 rfl rfl)
theorem dX0_couldRule_56 : decode cX0_couldRule 56 = .ok (.iload 4, 2) := dk_21 4 (dk_at dksX0_couldRule_2 8 rfl rfl)
theorem dX0_couldRule_58 : decode cX0_couldRule 58 = .ok (.iadd, 1) := dk_96 (dk_at dksX0_couldRule_2 10 rfl rfl)
theorem dX0_couldRule_59 : decode cX0_couldRule 59 = .ok (.aload_n 0, 1) := dk_42 (dk_at dksX0_couldRule_2 11 rfl rfl)
theorem dX0_couldRule_60 : decode cX0_couldRule 60 = .ok (.getfield 77, 3) := dk_180 0 77 (dk_at dksX0_couldRule_2 12 rfl rfl)
theorem dX0_couldRule_63 : decode cX0_couldRule 63 = .ok (.iload 4, 2) := dk_21 4 (dk_at dksX0_couldRule_2 15 rfl rfl)
theorem dX0_couldRule_65 : decode cX0_couldRule 65 = .ok (.iaload, 1) := dk_46 (dk_at dksX0_couldRule_2 17 rfl rfl)
theorem dX0_couldRule_66 : decode cX0_couldRule 66 = .ok (.iastore, 1) := dk_79 (dk_at dksX0_couldRule_2 18 rfl rfl)
theorem dX0_couldRule_67 : decode cX0_couldRule 67 = .ok (.iinc 4 1, 3) := dk_132 4 1 (dk_at dksX0_couldRule_2 19 rfl rfl)
theorem dX0_couldRule_70 : decode cX0_couldRule 70 = .ok (.goto (-29), 3) := dk_167 255 227 (dk_at dksX0_couldRule_3 0 rfl rfl)
theorem dX0_couldRule_73 : decode cX0_couldRule 73 = .ok (.iinc 3 1, 3) := dk_132 3 1 (dk_at dksX0_couldRule_3 3 rfl rfl)
theorem dX0_couldRule_76 : decode cX0_couldRule 76 = .ok (.goto (-53), 3) := dk_167 255 203 (dk_at dksX0_couldRule_3 6 rfl rfl)
theorem dX0_couldRule_79 : decode cX0_couldRule 79 = .ok (.aload_n 0, 1) := dk_42 (dk_at dksX0_couldRule_3 9 rfl rfl)
theorem dX0_couldRule_80 : decode cX0_couldRule 80 = .ok (.iload_n 2, 1) := dk_28 (dk_at dksX0_couldRule_3 10 rfl rfl)
theorem dX0_couldRule_81 : decode cX0_couldRule 81 = .ok (.putfield 35, 3) := dk_181 0 35 (dk_at dksX0_couldRule_3 11 rfl rfl)
theorem dX0_couldRule_84 : decode cX0_couldRule 84 = .ok (.iconst 0, 1) := dk_3 (dk_at dksX0_couldRule_3 14 rfl rfl)
theorem dX0_couldRule_85 : decode cX0_couldRule 85 = .ok (.istore_n 3, 1) := dk_62 (dk_at dksX0_couldRule_3 15 rfl rfl)
theorem dX0_couldRule_86 : decode cX0_couldRule 86 = .ok (.iload_n 3, 1) := dk_29 (dk_at dksX0_couldRule_3 16 rfl rfl)
theorem dX0_couldRule_87 : decode cX0_couldRule 87 = .ok (.aload_n 0, 1) := dk_42 (dk_at dksX0_couldRule_3 17 rfl rfl)
theorem dX0_couldRule_88 : decode cX0_couldRule 88 = .ok (.getfield 150, 3) := dk_180 0 150 (dk_at dksX0_couldRule_3 18 rfl rfl)
theorem dX0_couldRule_91 : decode cX0_couldRule 91 = .ok (.if_icmp .ge 41, 3) := dk_162 0 41 (dk_at dksX0_couldRule_3 21 rfl rfl)
theorem dX0_couldRule_94 : decode cX0_couldRule 94 = .ok (.aload_n 0, 1) := dk_42 (dk_at dksX0_couldRule_4 0 rfl rfl)
theorem dX0_couldRule_95 : decode cX0_couldRule 95 = .ok (.getfield 106, 3) := dk_180 0 106 (dk_at dksX0_couldRule_4 1 rfl rfl)
theorem dX0_couldRule_98 : decode cX0_couldRule 98 = .ok (.bipush 6, 2) := dk_16 6 (dk_at dksX0_couldRule_4 4 rfl rfl)
theorem dX0_couldRule_100 : decode cX0_couldRule 100 = .ok (.aload_n 0, 1) := dk_42 (dk_at dksX0_couldRule_4 6 rfl rfl)
theorem dX0_couldRule_101 : decode cX0_couldRule 101 = .ok (.getfield 50, 3) := dk_180 0 50 (dk_at dksX0_couldRule_4 7 rfl rfl)
theorem dX0_couldRule_104 : decode cX0_couldRule 104 = .ok (.iload_n 3, 1) := dk_29 (dk_at dksX0_couldRule_4 10 rfl rfl)
theorem dX0_couldRule_105 : decode cX0_couldRule 105 = .ok (.iaload, 1) := dk_46 (dk_at dksX0_couldRule_4 11 rfl rfl)
theorem dX0_couldRule_106 : decode cX0_couldRule 106 = .ok (.imul, 1) := dk_104 (dk_at dksX0_couldRule_4 12 rfl rfl)
theorem dX0_couldRule_107 : decode cX0_couldRule 107 = .ok (.aload_n 0, 1) := dk_42 (dk_at dksX0_couldRule_4 13 rfl rfl)
theorem dX0_couldRule_108 : decode cX0_couldRule 108 = .ok (.getfield 54, 3) := dk_180 0 54 (dk_at dksX0_couldRule_4 14 rfl rfl)
theorem dX0_couldRule_111 : decode cX0_couldRule 111 = .ok (.iload_n 3, 1) := dk_29 (dk_at dksX0_couldRule_4 17 rfl rfl)
theorem dX0_couldRule_112 : decode cX0_couldRule 112 = .ok (.iaload, 1) := dk_46 (dk_at dksX0_couldRule_4 18 rfl rfl)
theorem dX0_couldRule_113 : decode cX0_couldRule 113 = .ok (.iadd, 1) := dk_96 (dk_at dksX0_couldRule_4 19 rfl rfl)
theorem dX0_couldRule_114 : decode cX0_couldRule 114 = .ok (.iaload, 1) := dk_46 (dk_at dksX0_couldRule_4 20 rfl rfl)
theorem dX0_couldRule_115 : decode cX0_couldRule 115 = .ok (.aload_n 0, 1) := dk_42 (dk_at dksX0_couldRule_4 21 rfl rfl)
theorem dX0_couldRule_116 : decode cX0_couldRule 116 = .ok (.getfield 57, 3) := dk_180 0 57 (dk_at dksX0_couldRule_5 0 rfl rfl)
theorem dX0_couldRule_119 : decode cX0_couldRule 119 = .ok (.iload_n 3, 1) := dk_29 (dk_at dksX0_couldRule_5 3 rfl rfl)
theorem dX0_couldRule_120 : decode cX0_couldRule 120 = .ok (.iaload, 1) := dk_46 (dk_at dksX0_couldRule_5 4 rfl rfl)
theorem dX0_couldRule_121 : decode cX0_couldRule 121 = .ok (.if_icmp .eq 5, 3) := dk_159 0 5 (dk_at dksX0_couldRule_5 5 rfl rfl)
theorem dX0_couldRule_124 : decode cX0_couldRule 124 = .ok (.iconst 0, 1) := dk_3 (dk_at dksX0_couldRule_5 8 rfl rfl)
theorem dX0_couldRule_125 : decode cX0_couldRule 125 = .ok (.ireturn, 1) := dk_172 (dk_at dksX0_couldRule_5 9 rfl rfl)
theorem dX0_couldRule_126 : decode cX0_couldRule 126 = .ok (.iinc 3 1, 3) := dk_132 3 1 (dk_at dksX0_couldRule_5 10 rfl rfl)
theorem dX0_couldRule_129 : decode cX0_couldRule 129 = .ok (.goto (-43), 3) := dk_167 255 213 (dk_at dksX0_couldRule_5 13 rfl rfl)
theorem dX0_couldRule_132 : decode cX0_couldRule 132 = .ok (.iconst 1, 1) := dk_4 (dk_at dksX0_couldRule_5 16 rfl rfl)
theorem dX0_couldRule_133 : decode cX0_couldRule 133 = .ok (.ireturn, 1) := dk_172 (dk_at dksX0_couldRule_5 17 rfl rfl)
abbrev cX0_look : ByteArray := prog_1_method_56_code
def yX0_look : MethodName := ⟨RX0, "look", "(II)I"⟩
def dkwX0_look_8 : List UInt8 := [182, 1, 94, 172]
abbrev dktX0_look_8 : List UInt8 := dkwX0_look_8 ++ []
def dkwX0_look_7 : List UInt8 := [21, 5, 54, 4, 132, 5, 1, 167, 255, 220, 28, 154, 0, 8, 21, 4, 167, 0, 10, 42, 21, 4, 29]
abbrev dktX0_look_7 : List UInt8 := dkwX0_look_7 ++ dktX0_look_8
def dkwX0_look_6 : List UInt8 := [182, 0, 121, 162, 0, 30, 42, 21, 5, 29, 182, 1, 94, 42, 21, 4, 29, 182, 1, 94, 162, 0, 7]
abbrev dktX0_look_6 : List UInt8 := dkwX0_look_6 ++ dktX0_look_7
def dkwX0_look_5 : List UInt8 := [180, 0, 10, 182, 0, 121, 154, 0, 6, 16, 254, 172, 3, 54, 4, 4, 54, 5, 21, 5, 42, 180, 0, 10]
abbrev dktX0_look_5 : List UInt8 := dkwX0_look_5 ++ dktX0_look_6
def dkwX0_look_4 : List UInt8 := [96, 46, 79, 132, 5, 1, 167, 255, 222, 132, 3, 1, 132, 4, 1, 167, 255, 186, 29, 153, 0, 13, 42]
abbrev dktX0_look_4 : List UInt8 := dkwX0_look_4 ++ dktX0_look_5
def dkwX0_look_3 : List UInt8 := [162, 0, 33, 42, 180, 0, 109, 16, 6, 29, 104, 21, 5, 96, 42, 180, 0, 106, 16, 6, 27, 104, 21, 5]
abbrev dktX0_look_3 : List UInt8 := dkwX0_look_3 ++ dktX0_look_4
def dkwX0_look_2 : List UInt8 := [162, 0, 64, 42, 21, 4, 182, 1, 91, 154, 0, 6, 167, 0, 46, 3, 54, 5, 21, 5, 16, 6]
abbrev dktX0_look_2 : List UInt8 := dkwX0_look_2 ++ dktX0_look_3
def dkwX0_look_1 : List UInt8 := [184, 0, 125, 154, 0, 5, 2, 172, 3, 62, 2, 54, 4, 21, 4, 42, 180, 0, 31, 182, 0, 156]
abbrev dktX0_look_1 : List UInt8 := dkwX0_look_1 ++ dktX0_look_2
def dkwX0_look_0 : List UInt8 := [42, 182, 1, 26, 153, 0, 25, 27, 133, 9, 20, 1, 73, 184, 0, 125, 153, 0, 13, 28, 133, 9, 10]
abbrev dktX0_look_0 : List UInt8 := dkwX0_look_0 ++ dktX0_look_1
theorem dksX0_look_0 : cX0_look.data.toList.drop 0 = dktX0_look_0 := by decide +kernel
theorem dksX0_look_1 : cX0_look.data.toList.drop 23 = dktX0_look_1 := dk_seg dksX0_look_0 23 rfl rfl
theorem dksX0_look_2 : cX0_look.data.toList.drop 45 = dktX0_look_2 := dk_seg dksX0_look_1 22 rfl rfl
theorem dksX0_look_3 : cX0_look.data.toList.drop 67 = dktX0_look_3 := dk_seg dksX0_look_2 22 rfl rfl
theorem dksX0_look_4 : cX0_look.data.toList.drop 91 = dktX0_look_4 := dk_seg dksX0_look_3 24 rfl rfl
theorem dksX0_look_5 : cX0_look.data.toList.drop 114 = dktX0_look_5 := dk_seg dksX0_look_4 23 rfl rfl
theorem dksX0_look_6 : cX0_look.data.toList.drop 138 = dktX0_look_6 := dk_seg dksX0_look_5 24 rfl rfl
theorem dksX0_look_7 : cX0_look.data.toList.drop 161 = dktX0_look_7 := dk_seg dksX0_look_6 23 rfl rfl
theorem dksX0_look_8 : cX0_look.data.toList.drop 184 = dktX0_look_8 := dk_seg dksX0_look_7 23 rfl rfl
theorem dX0_look_0 : decode cX0_look 0 = .ok (.aload_n 0, 1) := dk_42 (dk_at dksX0_look_0 0 rfl rfl)
theorem dX0_look_1 : decode cX0_look 1 = .ok (.invokevirtual 282, 3) := dk_182 1 26 (dk_at dksX0_look_0 1 rfl rfl)
theorem dX0_look_4 : decode cX0_look 4 = .ok (.ifCond .eq 25, 3) := dk_153 0 25 (dk_at dksX0_look_0 4 rfl rfl)
theorem dX0_look_7 : decode cX0_look 7 = .ok (.iload_n 1, 1) := dk_27 (dk_at dksX0_look_0 7 rfl rfl)
theorem dX0_look_8 : decode cX0_look 8 = .ok (.i2l, 1) := dk_133 (dk_at dksX0_look_0 8 rfl rfl)
theorem dX0_look_9 : decode cX0_look 9 = .ok (.lconst 0, 1) := dk_9 (dk_at dksX0_look_0 9 rfl rfl)
theorem dX0_look_10 : decode cX0_look 10 = .ok (.ldc2_w 329, 3) := dk_20 1 73 (dk_at dksX0_look_0 10 rfl rfl)
theorem dX0_look_13 : decode cX0_look 13 = .ok (.invokestatic 125, 3) := dk_184 0 125 (dk_at dksX0_look_0 13 rfl rfl)
theorem dX0_look_16 : decode cX0_look 16 = .ok (.ifCond .eq 13, 3) := dk_153 0 13 (dk_at dksX0_look_0 16 rfl rfl)
theorem dX0_look_19 : decode cX0_look 19 = .ok (.iload_n 2, 1) := dk_28 (dk_at dksX0_look_0 19 rfl rfl)
theorem dX0_look_20 : decode cX0_look 20 = .ok (.i2l, 1) := dk_133 (dk_at dksX0_look_0 20 rfl rfl)
theorem dX0_look_21 : decode cX0_look 21 = .ok (.lconst 0, 1) := dk_9 (dk_at dksX0_look_0 21 rfl rfl)
theorem dX0_look_22 : decode cX0_look 22 = .ok (.lconst 1, 1) := dk_10 (dk_at dksX0_look_0 22 rfl rfl)
theorem dX0_look_23 : decode cX0_look 23 = .ok (.invokestatic 125, 3) := dk_184 0 125 (dk_at dksX0_look_1 0 rfl rfl)
theorem dX0_look_26 : decode cX0_look 26 = .ok (.ifCond .ne 5, 3) := dk_154 0 5 (dk_at dksX0_look_1 3 rfl rfl)
theorem dX0_look_29 : decode cX0_look 29 = .ok (.iconst (-1), 1) := dk_2 (dk_at dksX0_look_1 6 rfl rfl)
theorem dX0_look_30 : decode cX0_look 30 = .ok (.ireturn, 1) := dk_172 (dk_at dksX0_look_1 7 rfl rfl)
theorem dX0_look_31 : decode cX0_look 31 = .ok (.iconst 0, 1) := dk_3 (dk_at dksX0_look_1 8 rfl rfl)
theorem dX0_look_32 : decode cX0_look 32 = .ok (.istore_n 3, 1) := dk_62 (dk_at dksX0_look_1 9 rfl rfl)
theorem dX0_look_33 : decode cX0_look 33 = .ok (.iconst (-1), 1) := dk_2 (dk_at dksX0_look_1 10 rfl rfl)
theorem dX0_look_34 : decode cX0_look 34 = .ok (.istore 4, 2) := dk_54 4 (dk_at dksX0_look_1 11 rfl rfl)
theorem dX0_look_36 : decode cX0_look 36 = .ok (.iload 4, 2) := dk_21 4 (dk_at dksX0_look_1 13 rfl rfl)
theorem dX0_look_38 : decode cX0_look 38 = .ok (.aload_n 0, 1) := dk_42 (dk_at dksX0_look_1 15 rfl rfl)
theorem dX0_look_39 : decode cX0_look 39 = .ok (.getfield 31, 3) := dk_180 0 31 (dk_at dksX0_look_1 16 rfl rfl)
theorem dX0_look_42 : decode cX0_look 42 = .ok (.invokevirtual 156, 3) := dk_182 0 156 (dk_at dksX0_look_1 19 rfl rfl)
theorem dX0_look_45 : decode cX0_look 45 = .ok (.if_icmp .ge 64, 3) := dk_162 0 64 (dk_at dksX0_look_2 0 rfl rfl)
theorem dX0_look_48 : decode cX0_look 48 = .ok (.aload_n 0, 1) := dk_42 (dk_at dksX0_look_2 3 rfl rfl)
theorem dX0_look_49 : decode cX0_look 49 = .ok (.iload 4, 2) := dk_21 4 (dk_at dksX0_look_2 4 rfl rfl)
theorem dX0_look_51 : decode cX0_look 51 = .ok (.invokevirtual 347, 3) := dk_182 1 91 (dk_at dksX0_look_2 6 rfl rfl)
theorem dX0_look_54 : decode cX0_look 54 = .ok (.ifCond .ne 6, 3) := dk_154 0 6 (dk_at dksX0_look_2 9 rfl rfl)
theorem dX0_look_57 : decode cX0_look 57 = .ok (.goto 46, 3) := dk_167 0 46 (dk_at dksX0_look_2 12 rfl rfl)
theorem dX0_look_60 : decode cX0_look 60 = .ok (.iconst 0, 1) := dk_3 (dk_at dksX0_look_2 15 rfl rfl)
theorem dX0_look_61 : decode cX0_look 61 = .ok (.istore 5, 2) := dk_54 5 (dk_at dksX0_look_2 16 rfl rfl)
theorem dX0_look_63 : decode cX0_look 63 = .ok (.iload 5, 2) := dk_21 5 (dk_at dksX0_look_2 18 rfl rfl)
theorem dX0_look_65 : decode cX0_look 65 = .ok (.bipush 6, 2) := dk_16 6 (dk_at dksX0_look_2 20 rfl rfl)
theorem dX0_look_67 : decode cX0_look 67 = .ok (.if_icmp .ge 33, 3) := dk_162 0 33 (dk_at dksX0_look_3 0 rfl rfl)
theorem dX0_look_70 : decode cX0_look 70 = .ok (.aload_n 0, 1) := dk_42 (dk_at dksX0_look_3 3 rfl rfl)
theorem dX0_look_71 : decode cX0_look 71 = .ok (.getfield 109, 3) := dk_180 0 109 (dk_at dksX0_look_3 4 rfl rfl)
theorem dX0_look_74 : decode cX0_look 74 = .ok (.bipush 6, 2) := dk_16 6 (dk_at dksX0_look_3 7 rfl rfl)
theorem dX0_look_76 : decode cX0_look 76 = .ok (.iload_n 3, 1) := dk_29 (dk_at dksX0_look_3 9 rfl rfl)
theorem dX0_look_77 : decode cX0_look 77 = .ok (.imul, 1) := dk_104 (dk_at dksX0_look_3 10 rfl rfl)
theorem dX0_look_78 : decode cX0_look 78 = .ok (.iload 5, 2) := dk_21 5 (dk_at dksX0_look_3 11 rfl rfl)
theorem dX0_look_80 : decode cX0_look 80 = .ok (.iadd, 1) := dk_96 (dk_at dksX0_look_3 13 rfl rfl)
theorem dX0_look_81 : decode cX0_look 81 = .ok (.aload_n 0, 1) := dk_42 (dk_at dksX0_look_3 14 rfl rfl)
theorem dX0_look_82 : decode cX0_look 82 = .ok (.getfield 106, 3) := dk_180 0 106 (dk_at dksX0_look_3 15 rfl rfl)
theorem dX0_look_85 : decode cX0_look 85 = .ok (.bipush 6, 2) := dk_16 6 (dk_at dksX0_look_3 18 rfl rfl)
theorem dX0_look_87 : decode cX0_look 87 = .ok (.iload_n 1, 1) := dk_27 (dk_at dksX0_look_3 20 rfl rfl)
theorem dX0_look_88 : decode cX0_look 88 = .ok (.imul, 1) := dk_104 (dk_at dksX0_look_3 21 rfl rfl)
theorem dX0_look_89 : decode cX0_look 89 = .ok (.iload 5, 2) := dk_21 5 (dk_at dksX0_look_3 22 rfl rfl)
theorem dX0_look_91 : decode cX0_look 91 = .ok (.iadd, 1) := dk_96 (dk_at dksX0_look_4 0 rfl rfl)
theorem dX0_look_92 : decode cX0_look 92 = .ok (.iaload, 1) := dk_46 (dk_at dksX0_look_4 1 rfl rfl)
theorem dX0_look_93 : decode cX0_look 93 = .ok (.iastore, 1) := dk_79 (dk_at dksX0_look_4 2 rfl rfl)
theorem dX0_look_94 : decode cX0_look 94 = .ok (.iinc 5 1, 3) := dk_132 5 1 (dk_at dksX0_look_4 3 rfl rfl)
theorem dX0_look_97 : decode cX0_look 97 = .ok (.goto (-34), 3) := dk_167 255 222 (dk_at dksX0_look_4 6 rfl rfl)
theorem dX0_look_100 : decode cX0_look 100 = .ok (.iinc 3 1, 3) := dk_132 3 1 (dk_at dksX0_look_4 9 rfl rfl)
theorem dX0_look_103 : decode cX0_look 103 = .ok (.iinc 4 1, 3) := dk_132 4 1 (dk_at dksX0_look_4 12 rfl rfl)
theorem dX0_look_106 : decode cX0_look 106 = .ok (.goto (-70), 3) := dk_167 255 186 (dk_at dksX0_look_4 15 rfl rfl)
theorem dX0_look_109 : decode cX0_look 109 = .ok (.iload_n 3, 1) := dk_29 (dk_at dksX0_look_4 18 rfl rfl)
theorem dX0_look_110 : decode cX0_look 110 = .ok (.ifCond .eq 13, 3) := dk_153 0 13 (dk_at dksX0_look_4 19 rfl rfl)
theorem dX0_look_113 : decode cX0_look 113 = .ok (.aload_n 0, 1) := dk_42 (dk_at dksX0_look_4 22 rfl rfl)
theorem dX0_look_114 : decode cX0_look 114 = .ok (.getfield 10, 3) := dk_180 0 10 (dk_at dksX0_look_5 0 rfl rfl)
theorem dX0_look_117 : decode cX0_look 117 = .ok (.invokevirtual 121, 3) := dk_182 0 121 (dk_at dksX0_look_5 3 rfl rfl)
theorem dX0_look_120 : decode cX0_look 120 = .ok (.ifCond .ne 6, 3) := dk_154 0 6 (dk_at dksX0_look_5 6 rfl rfl)
theorem dX0_look_123 : decode cX0_look 123 = .ok (.bipush (-2), 2) := dk_16 254 (dk_at dksX0_look_5 9 rfl rfl)
theorem dX0_look_125 : decode cX0_look 125 = .ok (.ireturn, 1) := dk_172 (dk_at dksX0_look_5 11 rfl rfl)
theorem dX0_look_126 : decode cX0_look 126 = .ok (.iconst 0, 1) := dk_3 (dk_at dksX0_look_5 12 rfl rfl)
theorem dX0_look_127 : decode cX0_look 127 = .ok (.istore 4, 2) := dk_54 4 (dk_at dksX0_look_5 13 rfl rfl)
theorem dX0_look_129 : decode cX0_look 129 = .ok (.iconst 1, 1) := dk_4 (dk_at dksX0_look_5 15 rfl rfl)
theorem dX0_look_130 : decode cX0_look 130 = .ok (.istore 5, 2) := dk_54 5 (dk_at dksX0_look_5 16 rfl rfl)
theorem dX0_look_132 : decode cX0_look 132 = .ok (.iload 5, 2) := dk_21 5 (dk_at dksX0_look_5 18 rfl rfl)
theorem dX0_look_134 : decode cX0_look 134 = .ok (.aload_n 0, 1) := dk_42 (dk_at dksX0_look_5 20 rfl rfl)
theorem dX0_look_135 : decode cX0_look 135 = .ok (.getfield 10, 3) := dk_180 0 10 (dk_at dksX0_look_5 21 rfl rfl)
theorem dX0_look_138 : decode cX0_look 138 = .ok (.invokevirtual 121, 3) := dk_182 0 121 (dk_at dksX0_look_6 0 rfl rfl)
theorem dX0_look_141 : decode cX0_look 141 = .ok (.if_icmp .ge 30, 3) := dk_162 0 30 (dk_at dksX0_look_6 3 rfl rfl)
theorem dX0_look_144 : decode cX0_look 144 = .ok (.aload_n 0, 1) := dk_42 (dk_at dksX0_look_6 6 rfl rfl)
theorem dX0_look_145 : decode cX0_look 145 = .ok (.iload 5, 2) := dk_21 5 (dk_at dksX0_look_6 7 rfl rfl)
theorem dX0_look_147 : decode cX0_look 147 = .ok (.iload_n 3, 1) := dk_29 (dk_at dksX0_look_6 9 rfl rfl)
theorem dX0_look_148 : decode cX0_look 148 = .ok (.invokevirtual 350, 3) := dk_182 1 94 (dk_at dksX0_look_6 10 rfl rfl)
theorem dX0_look_151 : decode cX0_look 151 = .ok (.aload_n 0, 1) := dk_42 (dk_at dksX0_look_6 13 rfl rfl)
theorem dX0_look_152 : decode cX0_look 152 = .ok (.iload 4, 2) := dk_21 4 (dk_at dksX0_look_6 14 rfl rfl)
theorem dX0_look_154 : decode cX0_look 154 = .ok (.iload_n 3, 1) := dk_29 (dk_at dksX0_look_6 16 rfl rfl)
theorem dX0_look_155 : decode cX0_look 155 = .ok (.invokevirtual 350, 3) := dk_182 1 94 (dk_at dksX0_look_6 17 rfl rfl)
theorem dX0_look_158 : decode cX0_look 158 = .ok (.if_icmp .ge 7, 3) := dk_162 0 7 (dk_at dksX0_look_6 20 rfl rfl)
theorem dX0_look_161 : decode cX0_look 161 = .ok (.iload 5, 2) := dk_21 5 (dk_at dksX0_look_7 0 rfl rfl)
theorem dX0_look_163 : decode cX0_look 163 = .ok (.istore 4, 2) := dk_54 4 (dk_at dksX0_look_7 2 rfl rfl)
theorem dX0_look_165 : decode cX0_look 165 = .ok (.iinc 5 1, 3) := dk_132 5 1 (dk_at dksX0_look_7 4 rfl rfl)
theorem dX0_look_168 : decode cX0_look 168 = .ok (.goto (-36), 3) := dk_167 255 220 (dk_at dksX0_look_7 7 rfl rfl)
theorem dX0_look_171 : decode cX0_look 171 = .ok (.iload_n 2, 1) := dk_28 (dk_at dksX0_look_7 10 rfl rfl)
theorem dX0_look_172 : decode cX0_look 172 = .ok (.ifCond .ne 8, 3) := dk_154 0 8 (dk_at dksX0_look_7 11 rfl rfl)
theorem dX0_look_175 : decode cX0_look 175 = .ok (.iload 4, 2) := dk_21 4 (dk_at dksX0_look_7 14 rfl rfl)
theorem dX0_look_177 : decode cX0_look 177 = .ok (.goto 10, 3) := dk_167 0 10 (dk_at dksX0_look_7 16 rfl rfl)
theorem dX0_look_180 : decode cX0_look 180 = .ok (.aload_n 0, 1) := dk_42 (dk_at dksX0_look_7 19 rfl rfl)
theorem dX0_look_181 : decode cX0_look 181 = .ok (.iload 4, 2) := dk_21 4 (dk_at dksX0_look_7 20 rfl rfl)
theorem dX0_look_183 : decode cX0_look 183 = .ok (.iload_n 3, 1) := dk_29 (dk_at dksX0_look_7 22 rfl rfl)
theorem dX0_look_184 : decode cX0_look 184 = .ok (.invokevirtual 350, 3) := dk_182 1 94 (dk_at dksX0_look_8 0 rfl rfl)
theorem dX0_look_187 : decode cX0_look 187 = .ok (.ireturn, 1) := dk_172 (dk_at dksX0_look_8 3 rfl rfl)
abbrev cX0_mostAlike : ByteArray := prog_1_method_55_code
def yX0_mostAlike : MethodName := ⟨RX0, "mostAlike", "(II)I"⟩
def dkwX0_mostAlike_3 : List UInt8 := [21, 5, 184, 1, 7, 62, 132, 4, 1, 167, 255, 182, 29, 172]
abbrev dktX0_mostAlike_3 : List UInt8 := dkwX0_mostAlike_3 ++ []
def dkwX0_mostAlike_2 : List UInt8 := [96, 46, 160, 0, 7, 4, 167, 0, 4, 3, 184, 0, 210, 96, 54, 5, 132, 6, 1, 167, 255, 207, 29]
abbrev dktX0_mostAlike_2 : List UInt8 := dkwX0_mostAlike_2 ++ dktX0_mostAlike_3
def dkwX0_mostAlike_1 : List UInt8 := [21, 5, 42, 180, 0, 109, 16, 6, 21, 6, 104, 27, 96, 46, 42, 180, 0, 109, 16, 6, 21, 4, 104, 27]
abbrev dktX0_mostAlike_1 : List UInt8 := dkwX0_mostAlike_1 ++ dktX0_mostAlike_2
def dkwX0_mostAlike_0 : List UInt8 := [3, 62, 3, 54, 4, 21, 4, 28, 162, 0, 74, 3, 54, 5, 3, 54, 6, 21, 6, 28, 162, 0, 49]
abbrev dktX0_mostAlike_0 : List UInt8 := dkwX0_mostAlike_0 ++ dktX0_mostAlike_1
theorem dksX0_mostAlike_0 : cX0_mostAlike.data.toList.drop 0 = dktX0_mostAlike_0 := by decide +kernel
theorem dksX0_mostAlike_1 : cX0_mostAlike.data.toList.drop 23 = dktX0_mostAlike_1 := dk_seg dksX0_mostAlike_0 23 rfl rfl
theorem dksX0_mostAlike_2 : cX0_mostAlike.data.toList.drop 47 = dktX0_mostAlike_2 := dk_seg dksX0_mostAlike_1 24 rfl rfl
theorem dksX0_mostAlike_3 : cX0_mostAlike.data.toList.drop 70 = dktX0_mostAlike_3 := dk_seg dksX0_mostAlike_2 23 rfl rfl
theorem dX0_mostAlike_0 : decode cX0_mostAlike 0 = .ok (.iconst 0, 1) := dk_3 (dk_at dksX0_mostAlike_0 0 rfl rfl)
theorem dX0_mostAlike_1 : decode cX0_mostAlike 1 = .ok (.istore_n 3, 1) := dk_62 (dk_at dksX0_mostAlike_0 1 rfl rfl)
theorem dX0_mostAlike_2 : decode cX0_mostAlike 2 = .ok (.iconst 0, 1) := dk_3 (dk_at dksX0_mostAlike_0 2 rfl rfl)
theorem dX0_mostAlike_3 : decode cX0_mostAlike 3 = .ok (.istore 4, 2) := dk_54 4 (dk_at dksX0_mostAlike_0 3 rfl rfl)
theorem dX0_mostAlike_5 : decode cX0_mostAlike 5 = .ok (.iload 4, 2) := dk_21 4 (dk_at dksX0_mostAlike_0 5 rfl rfl)
theorem dX0_mostAlike_7 : decode cX0_mostAlike 7 = .ok (.iload_n 2, 1) := dk_28 (dk_at dksX0_mostAlike_0 7 rfl rfl)
theorem dX0_mostAlike_8 : decode cX0_mostAlike 8 = .ok (.if_icmp .ge 74, 3) := dk_162 0 74 (dk_at dksX0_mostAlike_0 8 rfl rfl)
theorem dX0_mostAlike_11 : decode cX0_mostAlike 11 = .ok (.iconst 0, 1) := dk_3 (dk_at dksX0_mostAlike_0 11 rfl rfl)
theorem dX0_mostAlike_12 : decode cX0_mostAlike 12 = .ok (.istore 5, 2) := dk_54 5 (dk_at dksX0_mostAlike_0 12 rfl rfl)
theorem dX0_mostAlike_14 : decode cX0_mostAlike 14 = .ok (.iconst 0, 1) := dk_3 (dk_at dksX0_mostAlike_0 14 rfl rfl)
theorem dX0_mostAlike_15 : decode cX0_mostAlike 15 = .ok (.istore 6, 2) := dk_54 6 (dk_at dksX0_mostAlike_0 15 rfl rfl)
theorem dX0_mostAlike_17 : decode cX0_mostAlike 17 = .ok (.iload 6, 2) := dk_21 6 (dk_at dksX0_mostAlike_0 17 rfl rfl)
theorem dX0_mostAlike_19 : decode cX0_mostAlike 19 = .ok (.iload_n 2, 1) := dk_28 (dk_at dksX0_mostAlike_0 19 rfl rfl)
theorem dX0_mostAlike_20 : decode cX0_mostAlike 20 = .ok (.if_icmp .ge 49, 3) := dk_162 0 49 (dk_at dksX0_mostAlike_0 20 rfl rfl)
theorem dX0_mostAlike_23 : decode cX0_mostAlike 23 = .ok (.iload 5, 2) := dk_21 5 (dk_at dksX0_mostAlike_1 0 rfl rfl)
theorem dX0_mostAlike_25 : decode cX0_mostAlike 25 = .ok (.aload_n 0, 1) := dk_42 (dk_at dksX0_mostAlike_1 2 rfl rfl)
theorem dX0_mostAlike_26 : decode cX0_mostAlike 26 = .ok (.getfield 109, 3) := dk_180 0 109 (dk_at dksX0_mostAlike_1 3 rfl rfl)
theorem dX0_mostAlike_29 : decode cX0_mostAlike 29 = .ok (.bipush 6, 2) := dk_16 6 (dk_at dksX0_mostAlike_1 6 rfl rfl)
theorem dX0_mostAlike_31 : decode cX0_mostAlike 31 = .ok (.iload 6, 2) := dk_21 6 (dk_at dksX0_mostAlike_1 8 rfl rfl)
theorem dX0_mostAlike_33 : decode cX0_mostAlike 33 = .ok (.imul, 1) := dk_104 (dk_at dksX0_mostAlike_1 10 rfl rfl)
theorem dX0_mostAlike_34 : decode cX0_mostAlike 34 = .ok (.iload_n 1, 1) := dk_27 (dk_at dksX0_mostAlike_1 11 rfl rfl)
theorem dX0_mostAlike_35 : decode cX0_mostAlike 35 = .ok (.iadd, 1) := dk_96 (dk_at dksX0_mostAlike_1 12 rfl rfl)
theorem dX0_mostAlike_36 : decode cX0_mostAlike 36 = .ok (.iaload, 1) := dk_46 (dk_at dksX0_mostAlike_1 13 rfl rfl)
theorem dX0_mostAlike_37 : decode cX0_mostAlike 37 = .ok (.aload_n 0, 1) := dk_42 (dk_at dksX0_mostAlike_1 14 rfl rfl)
theorem dX0_mostAlike_38 : decode cX0_mostAlike 38 = .ok (.getfield 109, 3) := dk_180 0 109 (dk_at dksX0_mostAlike_1 15 rfl rfl)
theorem dX0_mostAlike_41 : decode cX0_mostAlike 41 = .ok (.bipush 6, 2) := dk_16 6 (dk_at dksX0_mostAlike_1 18 rfl rfl)
theorem dX0_mostAlike_43 : decode cX0_mostAlike 43 = .ok (.iload 4, 2) := dk_21 4 (dk_at dksX0_mostAlike_1 20 rfl rfl)
theorem dX0_mostAlike_45 : decode cX0_mostAlike 45 = .ok (.imul, 1) := dk_104 (dk_at dksX0_mostAlike_1 22 rfl rfl)
theorem dX0_mostAlike_46 : decode cX0_mostAlike 46 = .ok (.iload_n 1, 1) := dk_27 (dk_at dksX0_mostAlike_1 23 rfl rfl)
theorem dX0_mostAlike_47 : decode cX0_mostAlike 47 = .ok (.iadd, 1) := dk_96 (dk_at dksX0_mostAlike_2 0 rfl rfl)
theorem dX0_mostAlike_48 : decode cX0_mostAlike 48 = .ok (.iaload, 1) := dk_46 (dk_at dksX0_mostAlike_2 1 rfl rfl)
theorem dX0_mostAlike_49 : decode cX0_mostAlike 49 = .ok (.if_icmp .ne 7, 3) := dk_160 0 7 (dk_at dksX0_mostAlike_2 2 rfl rfl)
theorem dX0_mostAlike_52 : decode cX0_mostAlike 52 = .ok (.iconst 1, 1) := dk_4 (dk_at dksX0_mostAlike_2 5 rfl rfl)
theorem dX0_mostAlike_53 : decode cX0_mostAlike 53 = .ok (.goto 4, 3) := dk_167 0 4 (dk_at dksX0_mostAlike_2 6 rfl rfl)
theorem dX0_mostAlike_56 : decode cX0_mostAlike 56 = .ok (.iconst 0, 1) := dk_3 (dk_at dksX0_mostAlike_2 9 rfl rfl)
theorem dX0_mostAlike_57 : decode cX0_mostAlike 57 = .ok (.invokestatic 210, 3) := dk_184 0 210 (dk_at dksX0_mostAlike_2 10 rfl rfl)
theorem dX0_mostAlike_60 : decode cX0_mostAlike 60 = .ok (.iadd, 1) := dk_96 (dk_at dksX0_mostAlike_2 13 rfl rfl)
theorem dX0_mostAlike_61 : decode cX0_mostAlike 61 = .ok (.istore 5, 2) := dk_54 5 (dk_at dksX0_mostAlike_2 14 rfl rfl)
theorem dX0_mostAlike_63 : decode cX0_mostAlike 63 = .ok (.iinc 6 1, 3) := dk_132 6 1 (dk_at dksX0_mostAlike_2 16 rfl rfl)
theorem dX0_mostAlike_66 : decode cX0_mostAlike 66 = .ok (.goto (-49), 3) := dk_167 255 207 (dk_at dksX0_mostAlike_2 19 rfl rfl)
theorem dX0_mostAlike_69 : decode cX0_mostAlike 69 = .ok (.iload_n 3, 1) := dk_29 (dk_at dksX0_mostAlike_2 22 rfl rfl)
theorem dX0_mostAlike_70 : decode cX0_mostAlike 70 = .ok (.iload 5, 2) := dk_21 5 (dk_at dksX0_mostAlike_3 0 rfl rfl)
theorem dX0_mostAlike_72 : decode cX0_mostAlike 72 = .ok (.invokestatic 263, 3) := dk_184 1 7 (dk_at dksX0_mostAlike_3 2 rfl rfl)
theorem dX0_mostAlike_75 : decode cX0_mostAlike 75 = .ok (.istore_n 3, 1) := dk_62 (dk_at dksX0_mostAlike_3 5 rfl rfl)
theorem dX0_mostAlike_76 : decode cX0_mostAlike 76 = .ok (.iinc 4 1, 3) := dk_132 4 1 (dk_at dksX0_mostAlike_3 6 rfl rfl)
theorem dX0_mostAlike_79 : decode cX0_mostAlike 79 = .ok (.goto (-74), 3) := dk_167 255 182 (dk_at dksX0_mostAlike_3 9 rfl rfl)
theorem dX0_mostAlike_82 : decode cX0_mostAlike 82 = .ok (.iload_n 3, 1) := dk_29 (dk_at dksX0_mostAlike_3 12 rfl rfl)
theorem dX0_mostAlike_83 : decode cX0_mostAlike 83 = .ok (.ireturn, 1) := dk_172 (dk_at dksX0_mostAlike_3 13 rfl rfl)
abbrev cX0_seed : ByteArray := prog_1_method_57_code
def yX0_seed : MethodName := ⟨RX0, "seed", "(I)I"⟩
def dkwX0_seed_0 : List UInt8 := [27, 156, 0, 5, 2, 172, 42, 180, 1, 97, 61, 42, 27, 181, 1, 97, 28, 172]
abbrev dktX0_seed_0 : List UInt8 := dkwX0_seed_0 ++ []
theorem dksX0_seed_0 : cX0_seed.data.toList.drop 0 = dktX0_seed_0 := by decide +kernel
theorem dX0_seed_0 : decode cX0_seed 0 = .ok (.iload_n 1, 1) := dk_27 (dk_at dksX0_seed_0 0 rfl rfl)
theorem dX0_seed_1 : decode cX0_seed 1 = .ok (.ifCond .ge 5, 3) := dk_156 0 5 (dk_at dksX0_seed_0 1 rfl rfl)
theorem dX0_seed_4 : decode cX0_seed 4 = .ok (.iconst (-1), 1) := dk_2 (dk_at dksX0_seed_0 4 rfl rfl)
theorem dX0_seed_5 : decode cX0_seed 5 = .ok (.ireturn, 1) := dk_172 (dk_at dksX0_seed_0 5 rfl rfl)
theorem dX0_seed_6 : decode cX0_seed 6 = .ok (.aload_n 0, 1) := dk_42 (dk_at dksX0_seed_0 6 rfl rfl)
theorem dX0_seed_7 : decode cX0_seed 7 = .ok (.getfield 353, 3) := dk_180 1 97 (dk_at dksX0_seed_0 7 rfl rfl)
theorem dX0_seed_10 : decode cX0_seed 10 = .ok (.istore_n 2, 1) := dk_61 (dk_at dksX0_seed_0 10 rfl rfl)
theorem dX0_seed_11 : decode cX0_seed 11 = .ok (.aload_n 0, 1) := dk_42 (dk_at dksX0_seed_0 11 rfl rfl)
theorem dX0_seed_12 : decode cX0_seed 12 = .ok (.iload_n 1, 1) := dk_27 (dk_at dksX0_seed_0 12 rfl rfl)
theorem dX0_seed_13 : decode cX0_seed 13 = .ok (.putfield 353, 3) := dk_181 1 97 (dk_at dksX0_seed_0 13 rfl rfl)
theorem dX0_seed_16 : decode cX0_seed 16 = .ok (.iload_n 2, 1) := dk_28 (dk_at dksX0_seed_0 16 rfl rfl)
theorem dX0_seed_17 : decode cX0_seed 17 = .ok (.ireturn, 1) := dk_172 (dk_at dksX0_seed_0 17 rfl rfl)
abbrev cX0_mornings : ByteArray := prog_1_method_59_code
def yX0_mornings : MethodName := ⟨RX0, "mornings", "(IIII)I"⟩
def dkwX0_mornings_9 : List UInt8 := [181, 1, 97, 21, 4, 154, 0, 8, 21, 6, 167, 0, 5, 21, 7, 172]
abbrev dktX0_mornings_9 : List UInt8 := dkwX0_mornings_9 ++ []
def dkwX0_mornings_8 : List UInt8 := [180, 0, 196, 42, 180, 0, 19, 180, 0, 196, 100, 96, 54, 7, 132, 8, 1, 167, 255, 127, 42, 21, 5]
abbrev dktX0_mornings_8 : List UInt8 := dkwX0_mornings_8 ++ dktX0_mornings_9
def dkwX0_mornings_7 : List UInt8 := [184, 0, 222, 42, 180, 0, 19, 180, 0, 180, 184, 0, 222, 100, 96, 54, 6, 21, 7, 42, 180, 0, 23]
abbrev dktX0_mornings_7 : List UInt8 := dkwX0_mornings_7 ++ dktX0_mornings_8
def dkwX0_mornings_6 : List UInt8 := [180, 0, 23, 182, 1, 13, 87, 132, 9, 1, 167, 255, 199, 21, 6, 42, 180, 0, 23, 180, 0, 180]
abbrev dktX0_mornings_6 : List UInt8 := dkwX0_mornings_6 ++ dktX0_mornings_7
def dkwX0_mornings_5 : List UInt8 := [158, 0, 22, 42, 180, 0, 23, 42, 42, 180, 0, 10, 182, 0, 121, 182, 1, 110, 6, 182, 0, 240, 42, 42]
abbrev dktX0_mornings_5 : List UInt8 := dkwX0_mornings_5 ++ dktX0_mornings_6
def dkwX0_mornings_4 : List UInt8 := [21, 9, 28, 162, 0, 57, 42, 16, 100, 182, 1, 110, 29, 162, 0, 32, 42, 180, 0, 10, 182, 0, 121]
abbrev dktX0_mornings_4 : List UInt8 := dkwX0_mornings_4 ++ dktX0_mornings_5
def dkwX0_mornings_3 : List UInt8 := [3, 54, 8, 21, 8, 27, 162, 0, 129, 42, 180, 0, 23, 42, 180, 0, 19, 182, 1, 22, 3, 54, 9]
abbrev dktX0_mornings_3 : List UInt8 := dkwX0_mornings_3 ++ dktX0_mornings_4
def dkwX0_mornings_2 : List UInt8 := [9, 10, 184, 0, 125, 154, 0, 7, 19, 1, 109, 172, 42, 180, 1, 97, 54, 5, 3, 54, 6, 3, 54, 7]
abbrev dktX0_mornings_2 : List UInt8 := dkwX0_mornings_2 ++ dktX0_mornings_3
def dkwX0_mornings_1 : List UInt8 := [20, 1, 73, 184, 0, 125, 153, 0, 26, 29, 133, 9, 20, 1, 39, 184, 0, 125, 153, 0, 14, 21, 4, 133]
abbrev dktX0_mornings_1 : List UInt8 := dkwX0_mornings_1 ++ dktX0_mornings_2
def dkwX0_mornings_0 : List UInt8 := [42, 182, 1, 26, 153, 0, 50, 27, 133, 10, 20, 1, 107, 184, 0, 125, 153, 0, 38, 28, 133, 10]
abbrev dktX0_mornings_0 : List UInt8 := dkwX0_mornings_0 ++ dktX0_mornings_1
theorem dksX0_mornings_0 : cX0_mornings.data.toList.drop 0 = dktX0_mornings_0 := by decide +kernel
theorem dksX0_mornings_1 : cX0_mornings.data.toList.drop 22 = dktX0_mornings_1 := dk_seg dksX0_mornings_0 22 rfl rfl
theorem dksX0_mornings_2 : cX0_mornings.data.toList.drop 46 = dktX0_mornings_2 := dk_seg dksX0_mornings_1 24 rfl rfl
theorem dksX0_mornings_3 : cX0_mornings.data.toList.drop 70 = dktX0_mornings_3 := dk_seg dksX0_mornings_2 24 rfl rfl
theorem dksX0_mornings_4 : cX0_mornings.data.toList.drop 93 = dktX0_mornings_4 := dk_seg dksX0_mornings_3 23 rfl rfl
theorem dksX0_mornings_5 : cX0_mornings.data.toList.drop 116 = dktX0_mornings_5 := dk_seg dksX0_mornings_4 23 rfl rfl
theorem dksX0_mornings_6 : cX0_mornings.data.toList.drop 140 = dktX0_mornings_6 := dk_seg dksX0_mornings_5 24 rfl rfl
theorem dksX0_mornings_7 : cX0_mornings.data.toList.drop 162 = dktX0_mornings_7 := dk_seg dksX0_mornings_6 22 rfl rfl
theorem dksX0_mornings_8 : cX0_mornings.data.toList.drop 185 = dktX0_mornings_8 := dk_seg dksX0_mornings_7 23 rfl rfl
theorem dksX0_mornings_9 : cX0_mornings.data.toList.drop 208 = dktX0_mornings_9 := dk_seg dksX0_mornings_8 23 rfl rfl
theorem dX0_mornings_0 : decode cX0_mornings 0 = .ok (.aload_n 0, 1) := dk_42 (dk_at dksX0_mornings_0 0 rfl rfl)
theorem dX0_mornings_1 : decode cX0_mornings 1 = .ok (.invokevirtual 282, 3) := dk_182 1 26 (dk_at dksX0_mornings_0 1 rfl rfl)
theorem dX0_mornings_4 : decode cX0_mornings 4 = .ok (.ifCond .eq 50, 3) := dk_153 0 50 (dk_at dksX0_mornings_0 4 rfl rfl)
theorem dX0_mornings_7 : decode cX0_mornings 7 = .ok (.iload_n 1, 1) := dk_27 (dk_at dksX0_mornings_0 7 rfl rfl)
theorem dX0_mornings_8 : decode cX0_mornings 8 = .ok (.i2l, 1) := dk_133 (dk_at dksX0_mornings_0 8 rfl rfl)
theorem dX0_mornings_9 : decode cX0_mornings 9 = .ok (.lconst 1, 1) := dk_10 (dk_at dksX0_mornings_0 9 rfl rfl)
theorem dX0_mornings_10 : decode cX0_mornings 10 = .ok (.ldc2_w 363, 3) := dk_20 1 107 (dk_at dksX0_mornings_0 10 rfl rfl)
theorem dX0_mornings_13 : decode cX0_mornings 13 = .ok (.invokestatic 125, 3) := dk_184 0 125 (dk_at dksX0_mornings_0 13 rfl rfl)
theorem dX0_mornings_16 : decode cX0_mornings 16 = .ok (.ifCond .eq 38, 3) := dk_153 0 38 (dk_at dksX0_mornings_0 16 rfl rfl)
theorem dX0_mornings_19 : decode cX0_mornings 19 = .ok (.iload_n 2, 1) := dk_28 (dk_at dksX0_mornings_0 19 rfl rfl)
theorem dX0_mornings_20 : decode cX0_mornings 20 = .ok (.i2l, 1) := dk_133 (dk_at dksX0_mornings_0 20 rfl rfl)
theorem dX0_mornings_21 : decode cX0_mornings 21 = .ok (.lconst 1, 1) := dk_10 (dk_at dksX0_mornings_0 21 rfl rfl)
theorem dX0_mornings_22 : decode cX0_mornings 22 = .ok (.ldc2_w 329, 3) := dk_20 1 73 (dk_at dksX0_mornings_1 0 rfl rfl)
theorem dX0_mornings_25 : decode cX0_mornings 25 = .ok (.invokestatic 125, 3) := dk_184 0 125 (dk_at dksX0_mornings_1 3 rfl rfl)
theorem dX0_mornings_28 : decode cX0_mornings 28 = .ok (.ifCond .eq 26, 3) := dk_153 0 26 (dk_at dksX0_mornings_1 6 rfl rfl)
theorem dX0_mornings_31 : decode cX0_mornings 31 = .ok (.iload_n 3, 1) := dk_29 (dk_at dksX0_mornings_1 9 rfl rfl)
theorem dX0_mornings_32 : decode cX0_mornings 32 = .ok (.i2l, 1) := dk_133 (dk_at dksX0_mornings_1 10 rfl rfl)
theorem dX0_mornings_33 : decode cX0_mornings 33 = .ok (.lconst 0, 1) := dk_9 (dk_at dksX0_mornings_1 11 rfl rfl)
theorem dX0_mornings_34 : decode cX0_mornings 34 = .ok (.ldc2_w 295, 3) := dk_20 1 39 (dk_at dksX0_mornings_1 12 rfl rfl)
theorem dX0_mornings_37 : decode cX0_mornings 37 = .ok (.invokestatic 125, 3) := dk_184 0 125 (dk_at dksX0_mornings_1 15 rfl rfl)
theorem dX0_mornings_40 : decode cX0_mornings 40 = .ok (.ifCond .eq 14, 3) := dk_153 0 14 (dk_at dksX0_mornings_1 18 rfl rfl)
theorem dX0_mornings_43 : decode cX0_mornings 43 = .ok (.iload 4, 2) := dk_21 4 (dk_at dksX0_mornings_1 21 rfl rfl)
theorem dX0_mornings_45 : decode cX0_mornings 45 = .ok (.i2l, 1) := dk_133 (dk_at dksX0_mornings_1 23 rfl rfl)
theorem dX0_mornings_46 : decode cX0_mornings 46 = .ok (.lconst 0, 1) := dk_9 (dk_at dksX0_mornings_2 0 rfl rfl)
theorem dX0_mornings_47 : decode cX0_mornings 47 = .ok (.lconst 1, 1) := dk_10 (dk_at dksX0_mornings_2 1 rfl rfl)
theorem dX0_mornings_48 : decode cX0_mornings 48 = .ok (.invokestatic 125, 3) := dk_184 0 125 (dk_at dksX0_mornings_2 2 rfl rfl)
theorem dX0_mornings_51 : decode cX0_mornings 51 = .ok (.ifCond .ne 7, 3) := dk_154 0 7 (dk_at dksX0_mornings_2 5 rfl rfl)
theorem dX0_mornings_54 : decode cX0_mornings 54 = .ok (.ldc_w 365, 3) := dk_19 1 109 (dk_at dksX0_mornings_2 8 rfl rfl)
theorem dX0_mornings_57 : decode cX0_mornings 57 = .ok (.ireturn, 1) := dk_172 (dk_at dksX0_mornings_2 11 rfl rfl)
theorem dX0_mornings_58 : decode cX0_mornings 58 = .ok (.aload_n 0, 1) := dk_42 (dk_at dksX0_mornings_2 12 rfl rfl)
theorem dX0_mornings_59 : decode cX0_mornings 59 = .ok (.getfield 353, 3) := dk_180 1 97 (dk_at dksX0_mornings_2 13 rfl rfl)
theorem dX0_mornings_62 : decode cX0_mornings 62 = .ok (.istore 5, 2) := dk_54 5 (dk_at dksX0_mornings_2 16 rfl rfl)
theorem dX0_mornings_64 : decode cX0_mornings 64 = .ok (.iconst 0, 1) := dk_3 (dk_at dksX0_mornings_2 18 rfl rfl)
theorem dX0_mornings_65 : decode cX0_mornings 65 = .ok (.istore 6, 2) := dk_54 6 (dk_at dksX0_mornings_2 19 rfl rfl)
theorem dX0_mornings_67 : decode cX0_mornings 67 = .ok (.iconst 0, 1) := dk_3 (dk_at dksX0_mornings_2 21 rfl rfl)
theorem dX0_mornings_68 : decode cX0_mornings 68 = .ok (.istore 7, 2) := dk_54 7 (dk_at dksX0_mornings_2 22 rfl rfl)
theorem dX0_mornings_70 : decode cX0_mornings 70 = .ok (.iconst 0, 1) := dk_3 (dk_at dksX0_mornings_3 0 rfl rfl)
theorem dX0_mornings_71 : decode cX0_mornings 71 = .ok (.istore 8, 2) := dk_54 8 (dk_at dksX0_mornings_3 1 rfl rfl)
theorem dX0_mornings_73 : decode cX0_mornings 73 = .ok (.iload 8, 2) := dk_21 8 (dk_at dksX0_mornings_3 3 rfl rfl)
theorem dX0_mornings_75 : decode cX0_mornings 75 = .ok (.iload_n 1, 1) := dk_27 (dk_at dksX0_mornings_3 5 rfl rfl)
theorem dX0_mornings_76 : decode cX0_mornings 76 = .ok (.if_icmp .ge 129, 3) := dk_162 0 129 (dk_at dksX0_mornings_3 6 rfl rfl)
theorem dX0_mornings_79 : decode cX0_mornings 79 = .ok (.aload_n 0, 1) := dk_42 (dk_at dksX0_mornings_3 9 rfl rfl)
theorem dX0_mornings_80 : decode cX0_mornings 80 = .ok (.getfield 23, 3) := dk_180 0 23 (dk_at dksX0_mornings_3 10 rfl rfl)
theorem dX0_mornings_83 : decode cX0_mornings 83 = .ok (.aload_n 0, 1) := dk_42 (dk_at dksX0_mornings_3 13 rfl rfl)
theorem dX0_mornings_84 : decode cX0_mornings 84 = .ok (.getfield 19, 3) := dk_180 0 19 (dk_at dksX0_mornings_3 14 rfl rfl)
theorem dX0_mornings_87 : decode cX0_mornings 87 = .ok (.invokevirtual 278, 3) := dk_182 1 22 (dk_at dksX0_mornings_3 17 rfl rfl)
theorem dX0_mornings_90 : decode cX0_mornings 90 = .ok (.iconst 0, 1) := dk_3 (dk_at dksX0_mornings_3 20 rfl rfl)
theorem dX0_mornings_91 : decode cX0_mornings 91 = .ok (.istore 9, 2) := dk_54 9 (dk_at dksX0_mornings_3 21 rfl rfl)
theorem dX0_mornings_93 : decode cX0_mornings 93 = .ok (.iload 9, 2) := dk_21 9 (dk_at dksX0_mornings_4 0 rfl rfl)
theorem dX0_mornings_95 : decode cX0_mornings 95 = .ok (.iload_n 2, 1) := dk_28 (dk_at dksX0_mornings_4 2 rfl rfl)
theorem dX0_mornings_96 : decode cX0_mornings 96 = .ok (.if_icmp .ge 57, 3) := dk_162 0 57 (dk_at dksX0_mornings_4 3 rfl rfl)
theorem dX0_mornings_99 : decode cX0_mornings 99 = .ok (.aload_n 0, 1) := dk_42 (dk_at dksX0_mornings_4 6 rfl rfl)
theorem dX0_mornings_100 : decode cX0_mornings 100 = .ok (.bipush 100, 2) := dk_16 100 (dk_at dksX0_mornings_4 7 rfl rfl)
theorem dX0_mornings_102 : decode cX0_mornings 102 = .ok (.invokevirtual 366, 3) := dk_182 1 110 (dk_at dksX0_mornings_4 9 rfl rfl)
theorem dX0_mornings_105 : decode cX0_mornings 105 = .ok (.iload_n 3, 1) := dk_29 (dk_at dksX0_mornings_4 12 rfl rfl)
theorem dX0_mornings_106 : decode cX0_mornings 106 = .ok (.if_icmp .ge 32, 3) := dk_162 0 32 (dk_at dksX0_mornings_4 13 rfl rfl)
theorem dX0_mornings_109 : decode cX0_mornings 109 = .ok (.aload_n 0, 1) := dk_42 (dk_at dksX0_mornings_4 16 rfl rfl)
theorem dX0_mornings_110 : decode cX0_mornings 110 = .ok (.getfield 10, 3) := dk_180 0 10 (dk_at dksX0_mornings_4 17 rfl rfl)
theorem dX0_mornings_113 : decode cX0_mornings 113 = .ok (.invokevirtual 121, 3) := dk_182 0 121 (dk_at dksX0_mornings_4 20 rfl rfl)
theorem dX0_mornings_116 : decode cX0_mornings 116 = .ok (.ifCond .le 22, 3) := dk_158 0 22 (dk_at dksX0_mornings_5 0 rfl rfl)
theorem dX0_mornings_119 : decode cX0_mornings 119 = .ok (.aload_n 0, 1) := dk_42 (dk_at dksX0_mornings_5 3 rfl rfl)
theorem dX0_mornings_120 : decode cX0_mornings 120 = .ok (.getfield 23, 3) := dk_180 0 23 (dk_at dksX0_mornings_5 4 rfl rfl)
theorem dX0_mornings_123 : decode cX0_mornings 123 = .ok (.aload_n 0, 1) := dk_42 (dk_at dksX0_mornings_5 7 rfl rfl)
theorem dX0_mornings_124 : decode cX0_mornings 124 = .ok (.aload_n 0, 1) := dk_42 (dk_at dksX0_mornings_5 8 rfl rfl)
theorem dX0_mornings_125 : decode cX0_mornings 125 = .ok (.getfield 10, 3) := dk_180 0 10 (dk_at dksX0_mornings_5 9 rfl rfl)
theorem dX0_mornings_128 : decode cX0_mornings 128 = .ok (.invokevirtual 121, 3) := dk_182 0 121 (dk_at dksX0_mornings_5 12 rfl rfl)
theorem dX0_mornings_131 : decode cX0_mornings 131 = .ok (.invokevirtual 366, 3) := dk_182 1 110 (dk_at dksX0_mornings_5 15 rfl rfl)
theorem dX0_mornings_134 : decode cX0_mornings 134 = .ok (.iconst 3, 1) := dk_6 (dk_at dksX0_mornings_5 18 rfl rfl)
theorem dX0_mornings_135 : decode cX0_mornings 135 = .ok (.invokevirtual 240, 3) := dk_182 0 240 (dk_at dksX0_mornings_5 19 rfl rfl)
theorem dX0_mornings_138 : decode cX0_mornings 138 = .ok (.aload_n 0, 1) := dk_42 (dk_at dksX0_mornings_5 22 rfl rfl)
theorem dX0_mornings_139 : decode cX0_mornings 139 = .ok (.aload_n 0, 1) := dk_42 (dk_at dksX0_mornings_5 23 rfl rfl)
theorem dX0_mornings_140 : decode cX0_mornings 140 = .ok (.getfield 23, 3) := dk_180 0 23 (dk_at dksX0_mornings_6 0 rfl rfl)
theorem dX0_mornings_143 : decode cX0_mornings 143 = .ok (.invokevirtual 269, 3) := dk_182 1 13 (dk_at dksX0_mornings_6 3 rfl rfl)
theorem dX0_mornings_146 : decode cX0_mornings 146 = .ok (.pop, 1) := dk_87 (dk_at dksX0_mornings_6 6 rfl rfl)
theorem dX0_mornings_147 : decode cX0_mornings 147 = .ok (.iinc 9 1, 3) := dk_132 9 1 (dk_at dksX0_mornings_6 7 rfl rfl)
theorem dX0_mornings_150 : decode cX0_mornings 150 = .ok (.goto (-57), 3) := dk_167 255 199 (dk_at dksX0_mornings_6 10 rfl rfl)
theorem dX0_mornings_153 : decode cX0_mornings 153 = .ok (.iload 6, 2) := dk_21 6 (dk_at dksX0_mornings_6 13 rfl rfl)
theorem dX0_mornings_155 : decode cX0_mornings 155 = .ok (.aload_n 0, 1) := dk_42 (dk_at dksX0_mornings_6 15 rfl rfl)
theorem dX0_mornings_156 : decode cX0_mornings 156 = .ok (.getfield 23, 3) := dk_180 0 23 (dk_at dksX0_mornings_6 16 rfl rfl)
theorem dX0_mornings_159 : decode cX0_mornings 159 = .ok (.getfield 180, 3) := dk_180 0 180 (dk_at dksX0_mornings_6 19 rfl rfl)
theorem dX0_mornings_162 : decode cX0_mornings 162 = .ok (.invokestatic 222, 3) := dk_184 0 222 (dk_at dksX0_mornings_7 0 rfl rfl)
theorem dX0_mornings_165 : decode cX0_mornings 165 = .ok (.aload_n 0, 1) := dk_42 (dk_at dksX0_mornings_7 3 rfl rfl)
theorem dX0_mornings_166 : decode cX0_mornings 166 = .ok (.getfield 19, 3) := dk_180 0 19 (dk_at dksX0_mornings_7 4 rfl rfl)
theorem dX0_mornings_169 : decode cX0_mornings 169 = .ok (.getfield 180, 3) := dk_180 0 180 (dk_at dksX0_mornings_7 7 rfl rfl)
theorem dX0_mornings_172 : decode cX0_mornings 172 = .ok (.invokestatic 222, 3) := dk_184 0 222 (dk_at dksX0_mornings_7 10 rfl rfl)
theorem dX0_mornings_175 : decode cX0_mornings 175 = .ok (.isub, 1) := dk_100 (dk_at dksX0_mornings_7 13 rfl rfl)
theorem dX0_mornings_176 : decode cX0_mornings 176 = .ok (.iadd, 1) := dk_96 (dk_at dksX0_mornings_7 14 rfl rfl)
theorem dX0_mornings_177 : decode cX0_mornings 177 = .ok (.istore 6, 2) := dk_54 6 (dk_at dksX0_mornings_7 15 rfl rfl)
theorem dX0_mornings_179 : decode cX0_mornings 179 = .ok (.iload 7, 2) := dk_21 7 (dk_at dksX0_mornings_7 17 rfl rfl)
theorem dX0_mornings_181 : decode cX0_mornings 181 = .ok (.aload_n 0, 1) := dk_42 (dk_at dksX0_mornings_7 19 rfl rfl)
theorem dX0_mornings_182 : decode cX0_mornings 182 = .ok (.getfield 23, 3) := dk_180 0 23 (dk_at dksX0_mornings_7 20 rfl rfl)
theorem dX0_mornings_185 : decode cX0_mornings 185 = .ok (.getfield 196, 3) := dk_180 0 196 (dk_at dksX0_mornings_8 0 rfl rfl)
theorem dX0_mornings_188 : decode cX0_mornings 188 = .ok (.aload_n 0, 1) := dk_42 (dk_at dksX0_mornings_8 3 rfl rfl)
theorem dX0_mornings_189 : decode cX0_mornings 189 = .ok (.getfield 19, 3) := dk_180 0 19 (dk_at dksX0_mornings_8 4 rfl rfl)
theorem dX0_mornings_192 : decode cX0_mornings 192 = .ok (.getfield 196, 3) := dk_180 0 196 (dk_at dksX0_mornings_8 7 rfl rfl)
theorem dX0_mornings_195 : decode cX0_mornings 195 = .ok (.isub, 1) := dk_100 (dk_at dksX0_mornings_8 10 rfl rfl)
theorem dX0_mornings_196 : decode cX0_mornings 196 = .ok (.iadd, 1) := dk_96 (dk_at dksX0_mornings_8 11 rfl rfl)
theorem dX0_mornings_197 : decode cX0_mornings 197 = .ok (.istore 7, 2) := dk_54 7 (dk_at dksX0_mornings_8 12 rfl rfl)
theorem dX0_mornings_199 : decode cX0_mornings 199 = .ok (.iinc 8 1, 3) := dk_132 8 1 (dk_at dksX0_mornings_8 14 rfl rfl)
theorem dX0_mornings_202 : decode cX0_mornings 202 = .ok (.goto (-129), 3) := dk_167 255 127 (dk_at dksX0_mornings_8 17 rfl rfl)
theorem dX0_mornings_205 : decode cX0_mornings 205 = .ok (.aload_n 0, 1) := dk_42 (dk_at dksX0_mornings_8 20 rfl rfl)
theorem dX0_mornings_206 : decode cX0_mornings 206 = .ok (.iload 5, 2) := dk_21 5 (dk_at dksX0_mornings_8 21 rfl rfl)
theorem dX0_mornings_208 : decode cX0_mornings 208 = .ok (.putfield 353, 3) := dk_181 1 97 (dk_at dksX0_mornings_9 0 rfl rfl)
theorem dX0_mornings_211 : decode cX0_mornings 211 = .ok (.iload 4, 2) := dk_21 4 (dk_at dksX0_mornings_9 3 rfl rfl)
theorem dX0_mornings_213 : decode cX0_mornings 213 = .ok (.ifCond .ne 8, 3) := dk_154 0 8 (dk_at dksX0_mornings_9 5 rfl rfl)
theorem dX0_mornings_216 : decode cX0_mornings 216 = .ok (.iload 6, 2) := dk_21 6 (dk_at dksX0_mornings_9 8 rfl rfl)
theorem dX0_mornings_218 : decode cX0_mornings 218 = .ok (.goto 5, 3) := dk_167 0 5 (dk_at dksX0_mornings_9 10 rfl rfl)
theorem dX0_mornings_221 : decode cX0_mornings 221 = .ok (.iload 7, 2) := dk_21 7 (dk_at dksX0_mornings_9 13 rfl rfl)
theorem dX0_mornings_223 : decode cX0_mornings 223 = .ok (.ireturn, 1) := dk_172 (dk_at dksX0_mornings_9 15 rfl rfl)
abbrev cX0_draws : ByteArray := prog_1_method_58_code
def yX0_draws : MethodName := ⟨RX0, "draws", "(I)I"⟩
def dkwX0_draws_1 : List UInt8 := [180, 1, 97, 19, 1, 106, 108, 27, 112, 172]
abbrev dktX0_draws_1 : List UInt8 := dkwX0_draws_1 ++ []
def dkwX0_draws_0 : List UInt8 := [42, 42, 180, 1, 97, 133, 20, 1, 100, 105, 20, 1, 102, 97, 20, 1, 104, 113, 136, 181, 1, 97, 42]
abbrev dktX0_draws_0 : List UInt8 := dkwX0_draws_0 ++ dktX0_draws_1
theorem dksX0_draws_0 : cX0_draws.data.toList.drop 0 = dktX0_draws_0 := by decide +kernel
theorem dksX0_draws_1 : cX0_draws.data.toList.drop 23 = dktX0_draws_1 := dk_seg dksX0_draws_0 23 rfl rfl
theorem dX0_draws_0 : decode cX0_draws 0 = .ok (.aload_n 0, 1) := dk_42 (dk_at dksX0_draws_0 0 rfl rfl)
theorem dX0_draws_1 : decode cX0_draws 1 = .ok (.aload_n 0, 1) := dk_42 (dk_at dksX0_draws_0 1 rfl rfl)
theorem dX0_draws_2 : decode cX0_draws 2 = .ok (.getfield 353, 3) := dk_180 1 97 (dk_at dksX0_draws_0 2 rfl rfl)
theorem dX0_draws_5 : decode cX0_draws 5 = .ok (.i2l, 1) := dk_133 (dk_at dksX0_draws_0 5 rfl rfl)
theorem dX0_draws_6 : decode cX0_draws 6 = .ok (.ldc2_w 356, 3) := dk_20 1 100 (dk_at dksX0_draws_0 6 rfl rfl)
theorem dX0_draws_9 : decode cX0_draws 9 = .ok (.lmul, 1) := dk_105 (dk_at dksX0_draws_0 9 rfl rfl)
theorem dX0_draws_10 : decode cX0_draws 10 = .ok (.ldc2_w 358, 3) := dk_20 1 102 (dk_at dksX0_draws_0 10 rfl rfl)
theorem dX0_draws_13 : decode cX0_draws 13 = .ok (.ladd, 1) := dk_97 (dk_at dksX0_draws_0 13 rfl rfl)
theorem dX0_draws_14 : decode cX0_draws 14 = .ok (.ldc2_w 360, 3) := dk_20 1 104 (dk_at dksX0_draws_0 14 rfl rfl)
theorem dX0_draws_17 : decode cX0_draws 17 = .ok (.lrem, 1) := dk_113 (dk_at dksX0_draws_0 17 rfl rfl)
theorem dX0_draws_18 : decode cX0_draws 18 = .ok (.l2i, 1) := dk_136 (dk_at dksX0_draws_0 18 rfl rfl)
theorem dX0_draws_19 : decode cX0_draws 19 = .ok (.putfield 353, 3) := dk_181 1 97 (dk_at dksX0_draws_0 19 rfl rfl)
theorem dX0_draws_22 : decode cX0_draws 22 = .ok (.aload_n 0, 1) := dk_42 (dk_at dksX0_draws_0 22 rfl rfl)
theorem dX0_draws_23 : decode cX0_draws 23 = .ok (.getfield 353, 3) := dk_180 1 97 (dk_at dksX0_draws_1 0 rfl rfl)
theorem dX0_draws_26 : decode cX0_draws 26 = .ok (.ldc_w 362, 3) := dk_19 1 106 (dk_at dksX0_draws_1 3 rfl rfl)
theorem dX0_draws_29 : decode cX0_draws 29 = .ok (.idiv, 1) := dk_108 (dk_at dksX0_draws_1 6 rfl rfl)
theorem dX0_draws_30 : decode cX0_draws 30 = .ok (.iload_n 1, 1) := dk_27 (dk_at dksX0_draws_1 7 rfl rfl)
theorem dX0_draws_31 : decode cX0_draws 31 = .ok (.irem, 1) := dk_112 (dk_at dksX0_draws_1 8 rfl rfl)
theorem dX0_draws_32 : decode cX0_draws 32 = .ok (.ireturn, 1) := dk_172 (dk_at dksX0_draws_1 9 rfl rfl)
abbrev cX0_count : ByteArray := prog_1_method_60_code
def yX0_count : MethodName := ⟨RX0, "count", "(I)I"⟩
def dkwX0_count_7 : List UInt8 := [180, 1, 97, 172, 42, 180, 0, 132, 172, 2, 172]
abbrev dktX0_count_7 : List UInt8 := dkwX0_count_7 ++ []
def dkwX0_count_6 : List UInt8 := [42, 180, 0, 19, 180, 0, 183, 184, 0, 222, 172, 42, 180, 0, 150, 172, 42, 180, 0, 153, 172, 42]
abbrev dktX0_count_6 : List UInt8 := dkwX0_count_6 ++ dktX0_count_7
def dkwX0_count_5 : List UInt8 := [3, 172, 42, 180, 0, 19, 180, 0, 168, 184, 0, 222, 172, 42, 180, 0, 19, 180, 0, 180, 184, 0, 222, 172]
abbrev dktX0_count_5 : List UInt8 := dkwX0_count_5 ++ dktX0_count_6
def dkwX0_count_4 : List UInt8 := [182, 1, 26, 153, 0, 21, 42, 180, 0, 19, 180, 0, 199, 42, 180, 0, 10, 180, 0, 118, 112, 167, 0, 4]
abbrev dktX0_count_4 : List UInt8 := dkwX0_count_4 ++ dktX0_count_5
def dkwX0_count_3 : List UInt8 := [42, 180, 0, 31, 182, 0, 156, 172, 42, 180, 0, 35, 172, 42, 180, 0, 19, 180, 0, 199, 172, 42]
abbrev dktX0_count_3 : List UInt8 := dkwX0_count_3 ++ dktX0_count_4
def dkwX0_count_2 : List UInt8 := [42, 180, 0, 10, 180, 0, 118, 172, 42, 180, 0, 10, 180, 0, 248, 172, 42, 180, 0, 10, 182, 0, 121, 172]
abbrev dktX0_count_2 : List UInt8 := dkwX0_count_2 ++ dktX0_count_3
def dkwX0_count_1 : List UInt8 := [170, 0, 0, 0, 0, 0, 196, 0, 0, 0, 0, 0, 0, 0, 13, 0, 0, 0, 71, 0, 0, 0, 79, 0, 0, 0, 87, 0, 0, 0, 95, 0, 0, 0, 103, 0, 0, 0, 108, 0, 0, 0, 116, 0, 0, 0, 143, 0, 0, 0, 154, 0, 0, 0, 165, 0, 0, 0, 176, 0, 0, 0, 181, 0, 0, 0, 186, 0, 0, 0, 191]
abbrev dktX0_count_1 : List UInt8 := dkwX0_count_1 ++ dktX0_count_2
def dkwX0_count_0 : List UInt8 := [27]
abbrev dktX0_count_0 : List UInt8 := dkwX0_count_0 ++ dktX0_count_1
theorem dksX0_count_0 : cX0_count.data.toList.drop 0 = dktX0_count_0 := by decide +kernel
theorem dksX0_count_1 : cX0_count.data.toList.drop 1 = dktX0_count_1 := dk_seg dksX0_count_0 1 rfl rfl
theorem dksX0_count_2 : cX0_count.data.toList.drop 72 = dktX0_count_2 := dk_seg dksX0_count_1 71 rfl rfl
theorem dksX0_count_3 : cX0_count.data.toList.drop 96 = dktX0_count_3 := dk_seg dksX0_count_2 24 rfl rfl
theorem dksX0_count_4 : cX0_count.data.toList.drop 118 = dktX0_count_4 := dk_seg dksX0_count_3 22 rfl rfl
theorem dksX0_count_5 : cX0_count.data.toList.drop 142 = dktX0_count_5 := dk_seg dksX0_count_4 24 rfl rfl
theorem dksX0_count_6 : cX0_count.data.toList.drop 166 = dktX0_count_6 := dk_seg dksX0_count_5 24 rfl rfl
theorem dksX0_count_7 : cX0_count.data.toList.drop 188 = dktX0_count_7 := dk_seg dksX0_count_6 22 rfl rfl
theorem dX0_count_0 : decode cX0_count 0 = .ok (.iload_n 1, 1) := dk_27 (dk_at dksX0_count_0 0 rfl rfl)
theorem dX0_count_1 : decode cX0_count 1 = .ok (.tableswitch 196 0 13 #[71, 79, 87, 95, 103, 108, 116, 143, 154, 165, 176, 181, 186, 191], 71) := by decide +kernel
theorem dX0_count_72 : decode cX0_count 72 = .ok (.aload_n 0, 1) := dk_42 (dk_at dksX0_count_2 0 rfl rfl)
theorem dX0_count_73 : decode cX0_count 73 = .ok (.getfield 10, 3) := dk_180 0 10 (dk_at dksX0_count_2 1 rfl rfl)
theorem dX0_count_76 : decode cX0_count 76 = .ok (.getfield 118, 3) := dk_180 0 118 (dk_at dksX0_count_2 4 rfl rfl)
theorem dX0_count_79 : decode cX0_count 79 = .ok (.ireturn, 1) := dk_172 (dk_at dksX0_count_2 7 rfl rfl)
theorem dX0_count_80 : decode cX0_count 80 = .ok (.aload_n 0, 1) := dk_42 (dk_at dksX0_count_2 8 rfl rfl)
theorem dX0_count_81 : decode cX0_count 81 = .ok (.getfield 10, 3) := dk_180 0 10 (dk_at dksX0_count_2 9 rfl rfl)
theorem dX0_count_84 : decode cX0_count 84 = .ok (.getfield 248, 3) := dk_180 0 248 (dk_at dksX0_count_2 12 rfl rfl)
theorem dX0_count_87 : decode cX0_count 87 = .ok (.ireturn, 1) := dk_172 (dk_at dksX0_count_2 15 rfl rfl)
theorem dX0_count_88 : decode cX0_count 88 = .ok (.aload_n 0, 1) := dk_42 (dk_at dksX0_count_2 16 rfl rfl)
theorem dX0_count_89 : decode cX0_count 89 = .ok (.getfield 10, 3) := dk_180 0 10 (dk_at dksX0_count_2 17 rfl rfl)
theorem dX0_count_92 : decode cX0_count 92 = .ok (.invokevirtual 121, 3) := dk_182 0 121 (dk_at dksX0_count_2 20 rfl rfl)
theorem dX0_count_95 : decode cX0_count 95 = .ok (.ireturn, 1) := dk_172 (dk_at dksX0_count_2 23 rfl rfl)
theorem dX0_count_96 : decode cX0_count 96 = .ok (.aload_n 0, 1) := dk_42 (dk_at dksX0_count_3 0 rfl rfl)
theorem dX0_count_97 : decode cX0_count 97 = .ok (.getfield 31, 3) := dk_180 0 31 (dk_at dksX0_count_3 1 rfl rfl)
theorem dX0_count_100 : decode cX0_count 100 = .ok (.invokevirtual 156, 3) := dk_182 0 156 (dk_at dksX0_count_3 4 rfl rfl)
theorem dX0_count_103 : decode cX0_count 103 = .ok (.ireturn, 1) := dk_172 (dk_at dksX0_count_3 7 rfl rfl)
theorem dX0_count_104 : decode cX0_count 104 = .ok (.aload_n 0, 1) := dk_42 (dk_at dksX0_count_3 8 rfl rfl)
theorem dX0_count_105 : decode cX0_count 105 = .ok (.getfield 35, 3) := dk_180 0 35 (dk_at dksX0_count_3 9 rfl rfl)
theorem dX0_count_108 : decode cX0_count 108 = .ok (.ireturn, 1) := dk_172 (dk_at dksX0_count_3 12 rfl rfl)
theorem dX0_count_109 : decode cX0_count 109 = .ok (.aload_n 0, 1) := dk_42 (dk_at dksX0_count_3 13 rfl rfl)
theorem dX0_count_110 : decode cX0_count 110 = .ok (.getfield 19, 3) := dk_180 0 19 (dk_at dksX0_count_3 14 rfl rfl)
theorem dX0_count_113 : decode cX0_count 113 = .ok (.getfield 199, 3) := dk_180 0 199 (dk_at dksX0_count_3 17 rfl rfl)
theorem dX0_count_116 : decode cX0_count 116 = .ok (.ireturn, 1) := dk_172 (dk_at dksX0_count_3 20 rfl rfl)
theorem dX0_count_117 : decode cX0_count 117 = .ok (.aload_n 0, 1) := dk_42 (dk_at dksX0_count_3 21 rfl rfl)
theorem dX0_count_118 : decode cX0_count 118 = .ok (.invokevirtual 282, 3) := dk_182 1 26 (dk_at dksX0_count_4 0 rfl rfl)
theorem dX0_count_121 : decode cX0_count 121 = .ok (.ifCond .eq 21, 3) := dk_153 0 21 (dk_at dksX0_count_4 3 rfl rfl)
theorem dX0_count_124 : decode cX0_count 124 = .ok (.aload_n 0, 1) := dk_42 (dk_at dksX0_count_4 6 rfl rfl)
theorem dX0_count_125 : decode cX0_count 125 = .ok (.getfield 19, 3) := dk_180 0 19 (dk_at dksX0_count_4 7 rfl rfl)
theorem dX0_count_128 : decode cX0_count 128 = .ok (.getfield 199, 3) := dk_180 0 199 (dk_at dksX0_count_4 10 rfl rfl)
theorem dX0_count_131 : decode cX0_count 131 = .ok (.aload_n 0, 1) := dk_42 (dk_at dksX0_count_4 13 rfl rfl)
theorem dX0_count_132 : decode cX0_count 132 = .ok (.getfield 10, 3) := dk_180 0 10 (dk_at dksX0_count_4 14 rfl rfl)
theorem dX0_count_135 : decode cX0_count 135 = .ok (.getfield 118, 3) := dk_180 0 118 (dk_at dksX0_count_4 17 rfl rfl)
theorem dX0_count_138 : decode cX0_count 138 = .ok (.irem, 1) := dk_112 (dk_at dksX0_count_4 20 rfl rfl)
theorem dX0_count_139 : decode cX0_count 139 = .ok (.goto 4, 3) := dk_167 0 4 (dk_at dksX0_count_4 21 rfl rfl)
theorem dX0_count_142 : decode cX0_count 142 = .ok (.iconst 0, 1) := dk_3 (dk_at dksX0_count_5 0 rfl rfl)
theorem dX0_count_143 : decode cX0_count 143 = .ok (.ireturn, 1) := dk_172 (dk_at dksX0_count_5 1 rfl rfl)
theorem dX0_count_144 : decode cX0_count 144 = .ok (.aload_n 0, 1) := dk_42 (dk_at dksX0_count_5 2 rfl rfl)
theorem dX0_count_145 : decode cX0_count 145 = .ok (.getfield 19, 3) := dk_180 0 19 (dk_at dksX0_count_5 3 rfl rfl)
theorem dX0_count_148 : decode cX0_count 148 = .ok (.getfield 168, 3) := dk_180 0 168 (dk_at dksX0_count_5 6 rfl rfl)
theorem dX0_count_151 : decode cX0_count 151 = .ok (.invokestatic 222, 3) := dk_184 0 222 (dk_at dksX0_count_5 9 rfl rfl)
theorem dX0_count_154 : decode cX0_count 154 = .ok (.ireturn, 1) := dk_172 (dk_at dksX0_count_5 12 rfl rfl)
theorem dX0_count_155 : decode cX0_count 155 = .ok (.aload_n 0, 1) := dk_42 (dk_at dksX0_count_5 13 rfl rfl)
theorem dX0_count_156 : decode cX0_count 156 = .ok (.getfield 19, 3) := dk_180 0 19 (dk_at dksX0_count_5 14 rfl rfl)
theorem dX0_count_159 : decode cX0_count 159 = .ok (.getfield 180, 3) := dk_180 0 180 (dk_at dksX0_count_5 17 rfl rfl)
theorem dX0_count_162 : decode cX0_count 162 = .ok (.invokestatic 222, 3) := dk_184 0 222 (dk_at dksX0_count_5 20 rfl rfl)
theorem dX0_count_165 : decode cX0_count 165 = .ok (.ireturn, 1) := dk_172 (dk_at dksX0_count_5 23 rfl rfl)
theorem dX0_count_166 : decode cX0_count 166 = .ok (.aload_n 0, 1) := dk_42 (dk_at dksX0_count_6 0 rfl rfl)
theorem dX0_count_167 : decode cX0_count 167 = .ok (.getfield 19, 3) := dk_180 0 19 (dk_at dksX0_count_6 1 rfl rfl)
theorem dX0_count_170 : decode cX0_count 170 = .ok (.getfield 183, 3) := dk_180 0 183 (dk_at dksX0_count_6 4 rfl rfl)
theorem dX0_count_173 : decode cX0_count 173 = .ok (.invokestatic 222, 3) := dk_184 0 222 (dk_at dksX0_count_6 7 rfl rfl)
theorem dX0_count_176 : decode cX0_count 176 = .ok (.ireturn, 1) := dk_172 (dk_at dksX0_count_6 10 rfl rfl)
theorem dX0_count_177 : decode cX0_count 177 = .ok (.aload_n 0, 1) := dk_42 (dk_at dksX0_count_6 11 rfl rfl)
theorem dX0_count_178 : decode cX0_count 178 = .ok (.getfield 150, 3) := dk_180 0 150 (dk_at dksX0_count_6 12 rfl rfl)
theorem dX0_count_181 : decode cX0_count 181 = .ok (.ireturn, 1) := dk_172 (dk_at dksX0_count_6 15 rfl rfl)
theorem dX0_count_182 : decode cX0_count 182 = .ok (.aload_n 0, 1) := dk_42 (dk_at dksX0_count_6 16 rfl rfl)
theorem dX0_count_183 : decode cX0_count 183 = .ok (.getfield 153, 3) := dk_180 0 153 (dk_at dksX0_count_6 17 rfl rfl)
theorem dX0_count_186 : decode cX0_count 186 = .ok (.ireturn, 1) := dk_172 (dk_at dksX0_count_6 20 rfl rfl)
theorem dX0_count_187 : decode cX0_count 187 = .ok (.aload_n 0, 1) := dk_42 (dk_at dksX0_count_6 21 rfl rfl)
theorem dX0_count_188 : decode cX0_count 188 = .ok (.getfield 353, 3) := dk_180 1 97 (dk_at dksX0_count_7 0 rfl rfl)
theorem dX0_count_191 : decode cX0_count 191 = .ok (.ireturn, 1) := dk_172 (dk_at dksX0_count_7 3 rfl rfl)
theorem dX0_count_192 : decode cX0_count 192 = .ok (.aload_n 0, 1) := dk_42 (dk_at dksX0_count_7 4 rfl rfl)
theorem dX0_count_193 : decode cX0_count 193 = .ok (.getfield 132, 3) := dk_180 0 132 (dk_at dksX0_count_7 5 rfl rfl)
theorem dX0_count_196 : decode cX0_count 196 = .ok (.ireturn, 1) := dk_172 (dk_at dksX0_count_7 8 rfl rfl)
theorem dX0_count_197 : decode cX0_count 197 = .ok (.iconst (-1), 1) := dk_2 (dk_at dksX0_count_7 9 rfl rfl)
theorem dX0_count_198 : decode cX0_count 198 = .ok (.ireturn, 1) := dk_172 (dk_at dksX0_count_7 10 rfl rfl)
abbrev cX0_image : ByteArray := prog_1_method_61_code
def yX0_image : MethodName := ⟨RX0, "image", "(I)I"⟩
def dkwX0_image_2 : List UInt8 := [180, 0, 19, 180, 0, 199, 172]
abbrev dktX0_image_2 : List UInt8 := dkwX0_image_2 ++ []
def dkwX0_image_1 : List UInt8 := [180, 0, 114, 27, 187, 0, 112, 89, 42, 183, 1, 113, 83, 42, 180, 0, 114, 27, 50, 182, 1, 116, 42]
abbrev dktX0_image_1 : List UInt8 := dkwX0_image_1 ++ dktX0_image_2
def dkwX0_image_0 : List UInt8 := [27, 133, 9, 20, 1, 69, 184, 0, 125, 154, 0, 5, 2, 172, 42, 180, 0, 114, 27, 50, 199, 0, 17, 42]
abbrev dktX0_image_0 : List UInt8 := dkwX0_image_0 ++ dktX0_image_1
theorem dksX0_image_0 : cX0_image.data.toList.drop 0 = dktX0_image_0 := by decide +kernel
theorem dksX0_image_1 : cX0_image.data.toList.drop 24 = dktX0_image_1 := dk_seg dksX0_image_0 24 rfl rfl
theorem dksX0_image_2 : cX0_image.data.toList.drop 47 = dktX0_image_2 := dk_seg dksX0_image_1 23 rfl rfl
theorem dX0_image_0 : decode cX0_image 0 = .ok (.iload_n 1, 1) := dk_27 (dk_at dksX0_image_0 0 rfl rfl)
theorem dX0_image_1 : decode cX0_image 1 = .ok (.i2l, 1) := dk_133 (dk_at dksX0_image_0 1 rfl rfl)
theorem dX0_image_2 : decode cX0_image 2 = .ok (.lconst 0, 1) := dk_9 (dk_at dksX0_image_0 2 rfl rfl)
theorem dX0_image_3 : decode cX0_image 3 = .ok (.ldc2_w 325, 3) := dk_20 1 69 (dk_at dksX0_image_0 3 rfl rfl)
theorem dX0_image_6 : decode cX0_image 6 = .ok (.invokestatic 125, 3) := dk_184 0 125 (dk_at dksX0_image_0 6 rfl rfl)
theorem dX0_image_9 : decode cX0_image 9 = .ok (.ifCond .ne 5, 3) := dk_154 0 5 (dk_at dksX0_image_0 9 rfl rfl)
theorem dX0_image_12 : decode cX0_image 12 = .ok (.iconst (-1), 1) := dk_2 (dk_at dksX0_image_0 12 rfl rfl)
theorem dX0_image_13 : decode cX0_image 13 = .ok (.ireturn, 1) := dk_172 (dk_at dksX0_image_0 13 rfl rfl)
theorem dX0_image_14 : decode cX0_image 14 = .ok (.aload_n 0, 1) := dk_42 (dk_at dksX0_image_0 14 rfl rfl)
theorem dX0_image_15 : decode cX0_image 15 = .ok (.getfield 114, 3) := dk_180 0 114 (dk_at dksX0_image_0 15 rfl rfl)
theorem dX0_image_18 : decode cX0_image 18 = .ok (.iload_n 1, 1) := dk_27 (dk_at dksX0_image_0 18 rfl rfl)
theorem dX0_image_19 : decode cX0_image 19 = .ok (.aaload, 1) := dk_50 (dk_at dksX0_image_0 19 rfl rfl)
theorem dX0_image_20 : decode cX0_image 20 = .ok (.ifnonnull 17, 3) := dk_199 0 17 (dk_at dksX0_image_0 20 rfl rfl)
theorem dX0_image_23 : decode cX0_image 23 = .ok (.aload_n 0, 1) := dk_42 (dk_at dksX0_image_0 23 rfl rfl)
theorem dX0_image_24 : decode cX0_image 24 = .ok (.getfield 114, 3) := dk_180 0 114 (dk_at dksX0_image_1 0 rfl rfl)
theorem dX0_image_27 : decode cX0_image 27 = .ok (.iload_n 1, 1) := dk_27 (dk_at dksX0_image_1 3 rfl rfl)
theorem dX0_image_28 : decode cX0_image 28 = .ok (.new 112, 3) := dk_187 0 112 (dk_at dksX0_image_1 4 rfl rfl)
theorem dX0_image_31 : decode cX0_image 31 = .ok (.dup, 1) := dk_89 (dk_at dksX0_image_1 7 rfl rfl)
theorem dX0_image_32 : decode cX0_image 32 = .ok (.aload_n 0, 1) := dk_42 (dk_at dksX0_image_1 8 rfl rfl)
theorem dX0_image_33 : decode cX0_image 33 = .ok (.invokespecial 369, 3) := dk_183 1 113 (dk_at dksX0_image_1 9 rfl rfl)
theorem dX0_image_36 : decode cX0_image 36 = .ok (.aastore, 1) := dk_83 (dk_at dksX0_image_1 12 rfl rfl)
theorem dX0_image_37 : decode cX0_image 37 = .ok (.aload_n 0, 1) := dk_42 (dk_at dksX0_image_1 13 rfl rfl)
theorem dX0_image_38 : decode cX0_image 38 = .ok (.getfield 114, 3) := dk_180 0 114 (dk_at dksX0_image_1 14 rfl rfl)
theorem dX0_image_41 : decode cX0_image 41 = .ok (.iload_n 1, 1) := dk_27 (dk_at dksX0_image_1 17 rfl rfl)
theorem dX0_image_42 : decode cX0_image 42 = .ok (.aaload, 1) := dk_50 (dk_at dksX0_image_1 18 rfl rfl)
theorem dX0_image_43 : decode cX0_image 43 = .ok (.invokevirtual 372, 3) := dk_182 1 116 (dk_at dksX0_image_1 19 rfl rfl)
theorem dX0_image_46 : decode cX0_image 46 = .ok (.aload_n 0, 1) := dk_42 (dk_at dksX0_image_1 22 rfl rfl)
theorem dX0_image_47 : decode cX0_image 47 = .ok (.getfield 19, 3) := dk_180 0 19 (dk_at dksX0_image_2 0 rfl rfl)
theorem dX0_image_50 : decode cX0_image 50 = .ok (.getfield 199, 3) := dk_180 0 199 (dk_at dksX0_image_2 3 rfl rfl)
theorem dX0_image_53 : decode cX0_image 53 = .ok (.ireturn, 1) := dk_172 (dk_at dksX0_image_2 6 rfl rfl)
abbrev cX0_back : ByteArray := prog_1_method_62_code
def yX0_back : MethodName := ⟨RX0, "back", "(I)I"⟩
def dkwX0_back_1 : List UInt8 := [180, 0, 114, 27, 50, 182, 1, 119, 42, 180, 0, 19, 180, 0, 199, 172]
abbrev dktX0_back_1 : List UInt8 := dkwX0_back_1 ++ []
def dkwX0_back_0 : List UInt8 := [27, 133, 9, 20, 1, 69, 184, 0, 125, 153, 0, 12, 42, 180, 0, 114, 27, 50, 199, 0, 5, 2, 172, 42]
abbrev dktX0_back_0 : List UInt8 := dkwX0_back_0 ++ dktX0_back_1
theorem dksX0_back_0 : cX0_back.data.toList.drop 0 = dktX0_back_0 := by decide +kernel
theorem dksX0_back_1 : cX0_back.data.toList.drop 24 = dktX0_back_1 := dk_seg dksX0_back_0 24 rfl rfl
theorem dX0_back_0 : decode cX0_back 0 = .ok (.iload_n 1, 1) := dk_27 (dk_at dksX0_back_0 0 rfl rfl)
theorem dX0_back_1 : decode cX0_back 1 = .ok (.i2l, 1) := dk_133 (dk_at dksX0_back_0 1 rfl rfl)
theorem dX0_back_2 : decode cX0_back 2 = .ok (.lconst 0, 1) := dk_9 (dk_at dksX0_back_0 2 rfl rfl)
theorem dX0_back_3 : decode cX0_back 3 = .ok (.ldc2_w 325, 3) := dk_20 1 69 (dk_at dksX0_back_0 3 rfl rfl)
theorem dX0_back_6 : decode cX0_back 6 = .ok (.invokestatic 125, 3) := dk_184 0 125 (dk_at dksX0_back_0 6 rfl rfl)
theorem dX0_back_9 : decode cX0_back 9 = .ok (.ifCond .eq 12, 3) := dk_153 0 12 (dk_at dksX0_back_0 9 rfl rfl)
theorem dX0_back_12 : decode cX0_back 12 = .ok (.aload_n 0, 1) := dk_42 (dk_at dksX0_back_0 12 rfl rfl)
theorem dX0_back_13 : decode cX0_back 13 = .ok (.getfield 114, 3) := dk_180 0 114 (dk_at dksX0_back_0 13 rfl rfl)
theorem dX0_back_16 : decode cX0_back 16 = .ok (.iload_n 1, 1) := dk_27 (dk_at dksX0_back_0 16 rfl rfl)
theorem dX0_back_17 : decode cX0_back 17 = .ok (.aaload, 1) := dk_50 (dk_at dksX0_back_0 17 rfl rfl)
theorem dX0_back_18 : decode cX0_back 18 = .ok (.ifnonnull 5, 3) := dk_199 0 5 (dk_at dksX0_back_0 18 rfl rfl)
theorem dX0_back_21 : decode cX0_back 21 = .ok (.iconst (-1), 1) := dk_2 (dk_at dksX0_back_0 21 rfl rfl)
theorem dX0_back_22 : decode cX0_back 22 = .ok (.ireturn, 1) := dk_172 (dk_at dksX0_back_0 22 rfl rfl)
theorem dX0_back_23 : decode cX0_back 23 = .ok (.aload_n 0, 1) := dk_42 (dk_at dksX0_back_0 23 rfl rfl)
theorem dX0_back_24 : decode cX0_back 24 = .ok (.getfield 114, 3) := dk_180 0 114 (dk_at dksX0_back_1 0 rfl rfl)
theorem dX0_back_27 : decode cX0_back 27 = .ok (.iload_n 1, 1) := dk_27 (dk_at dksX0_back_1 3 rfl rfl)
theorem dX0_back_28 : decode cX0_back 28 = .ok (.aaload, 1) := dk_50 (dk_at dksX0_back_1 4 rfl rfl)
theorem dX0_back_29 : decode cX0_back 29 = .ok (.invokevirtual 375, 3) := dk_182 1 119 (dk_at dksX0_back_1 5 rfl rfl)
theorem dX0_back_32 : decode cX0_back 32 = .ok (.aload_n 0, 1) := dk_42 (dk_at dksX0_back_1 8 rfl rfl)
theorem dX0_back_33 : decode cX0_back 33 = .ok (.getfield 19, 3) := dk_180 0 19 (dk_at dksX0_back_1 9 rfl rfl)
theorem dX0_back_36 : decode cX0_back 36 = .ok (.getfield 199, 3) := dk_180 0 199 (dk_at dksX0_back_1 12 rfl rfl)
theorem dX0_back_39 : decode cX0_back 39 = .ok (.ireturn, 1) := dk_172 (dk_at dksX0_back_1 15 rfl rfl)
