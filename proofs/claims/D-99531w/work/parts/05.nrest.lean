set_option maxRecDepth 100000
abbrev cX1_init : ByteArray := prog_8_method_1_code
def yX1_init : MethodName := ⟨RX1, "<init>", "()V"⟩
def dkwX1_init_1 : List UInt8 := [42, 16, 12, 188, 10, 181, 0, 24, 177]
abbrev dktX1_init_1 : List UInt8 := dkwX1_init_1 ++ []
def dkwX1_init_0 : List UInt8 := [42, 183, 0, 3, 42, 187, 0, 9, 89, 5, 183, 0, 11, 181, 0, 14, 42, 16, 6, 188, 10, 181, 0, 20]
abbrev dktX1_init_0 : List UInt8 := dkwX1_init_0 ++ dktX1_init_1
theorem dksX1_init_0 : cX1_init.data.toList.drop 0 = dktX1_init_0 := by decide +kernel
theorem dksX1_init_1 : cX1_init.data.toList.drop 24 = dktX1_init_1 := dk_seg dksX1_init_0 24 rfl rfl
theorem dX1_init_0 : decode cX1_init 0 = .ok (.aload_n 0, 1) := dk_42 (dk_at dksX1_init_0 0 rfl rfl)
theorem dX1_init_1 : decode cX1_init 1 = .ok (.invokespecial 3, 3) := dk_183 0 3 (dk_at dksX1_init_0 1 rfl rfl)
theorem dX1_init_4 : decode cX1_init 4 = .ok (.aload_n 0, 1) := dk_42 (dk_at dksX1_init_0 4 rfl rfl)
theorem dX1_init_5 : decode cX1_init 5 = .ok (.new 9, 3) := dk_187 0 9 (dk_at dksX1_init_0 5 rfl rfl)
theorem dX1_init_8 : decode cX1_init 8 = .ok (.dup, 1) := dk_89 (dk_at dksX1_init_0 8 rfl rfl)
theorem dX1_init_9 : decode cX1_init 9 = .ok (.iconst 2, 1) := dk_5 (dk_at dksX1_init_0 9 rfl rfl)
theorem dX1_init_10 : decode cX1_init 10 = .ok (.invokespecial 11, 3) := dk_183 0 11 (dk_at dksX1_init_0 10 rfl rfl)
theorem dX1_init_13 : decode cX1_init 13 = .ok (.putfield 14, 3) := dk_181 0 14 (dk_at dksX1_init_0 13 rfl rfl)
theorem dX1_init_16 : decode cX1_init 16 = .ok (.aload_n 0, 1) := dk_42 (dk_at dksX1_init_0 16 rfl rfl)
theorem dX1_init_17 : decode cX1_init 17 = .ok (.bipush 6, 2) := dk_16 6 (dk_at dksX1_init_0 17 rfl rfl)
theorem dX1_init_19 : decode cX1_init 19 = .ok (.newarray .int, 2) := dk_188_10 (dk_at dksX1_init_0 19 rfl rfl)
theorem dX1_init_21 : decode cX1_init 21 = .ok (.putfield 20, 3) := dk_181 0 20 (dk_at dksX1_init_0 21 rfl rfl)
theorem dX1_init_24 : decode cX1_init 24 = .ok (.aload_n 0, 1) := dk_42 (dk_at dksX1_init_1 0 rfl rfl)
theorem dX1_init_25 : decode cX1_init 25 = .ok (.bipush 12, 2) := dk_16 12 (dk_at dksX1_init_1 1 rfl rfl)
theorem dX1_init_27 : decode cX1_init 27 = .ok (.newarray .int, 2) := dk_188_10 (dk_at dksX1_init_1 3 rfl rfl)
theorem dX1_init_29 : decode cX1_init 29 = .ok (.putfield 24, 3) := dk_181 0 24 (dk_at dksX1_init_1 5 rfl rfl)
theorem dX1_init_32 : decode cX1_init 32 = .ok (.return_, 1) := dk_177 (dk_at dksX1_init_1 8 rfl rfl)
abbrev cX1_roads : ByteArray := prog_8_method_2_code
def yX1_roads : MethodName := ⟨RX1, "roads", "()I"⟩
def dkwX1_roads_0 : List UInt8 := [42, 180, 0, 14, 182, 0, 27, 172]
abbrev dktX1_roads_0 : List UInt8 := dkwX1_roads_0 ++ []
theorem dksX1_roads_0 : cX1_roads.data.toList.drop 0 = dktX1_roads_0 := by decide +kernel
theorem dX1_roads_0 : decode cX1_roads 0 = .ok (.aload_n 0, 1) := dk_42 (dk_at dksX1_roads_0 0 rfl rfl)
theorem dX1_roads_1 : decode cX1_roads 1 = .ok (.getfield 14, 3) := dk_180 0 14 (dk_at dksX1_roads_0 1 rfl rfl)
theorem dX1_roads_4 : decode cX1_roads 4 = .ok (.invokevirtual 27, 3) := dk_182 0 27 (dk_at dksX1_roads_0 4 rfl rfl)
theorem dX1_roads_7 : decode cX1_roads 7 = .ok (.ireturn, 1) := dk_172 (dk_at dksX1_roads_0 7 rfl rfl)
abbrev cX1_areFree : ByteArray := prog_8_method_3_code
def yX1_areFree : MethodName := ⟨RX1, "areFree", "(I)Z"⟩
def dkwX1_areFree_1 : List UInt8 := [27, 126, 153, 0, 5, 3, 172, 132, 2, 1, 167, 255, 224, 4, 172]
abbrev dktX1_areFree_1 : List UInt8 := dkwX1_areFree_1 ++ []
def dkwX1_areFree_0 : List UInt8 := [3, 61, 28, 42, 182, 0, 31, 162, 0, 30, 27, 28, 184, 0, 33, 153, 0, 16, 42, 180, 0, 20, 28, 46]
abbrev dktX1_areFree_0 : List UInt8 := dkwX1_areFree_0 ++ dktX1_areFree_1
theorem dksX1_areFree_0 : cX1_areFree.data.toList.drop 0 = dktX1_areFree_0 := by decide +kernel
theorem dksX1_areFree_1 : cX1_areFree.data.toList.drop 24 = dktX1_areFree_1 := dk_seg dksX1_areFree_0 24 rfl rfl
theorem dX1_areFree_0 : decode cX1_areFree 0 = .ok (.iconst 0, 1) := dk_3 (dk_at dksX1_areFree_0 0 rfl rfl)
theorem dX1_areFree_1 : decode cX1_areFree 1 = .ok (.istore_n 2, 1) := dk_61 (dk_at dksX1_areFree_0 1 rfl rfl)
theorem dX1_areFree_2 : decode cX1_areFree 2 = .ok (.iload_n 2, 1) := dk_28 (dk_at dksX1_areFree_0 2 rfl rfl)
theorem dX1_areFree_3 : decode cX1_areFree 3 = .ok (.aload_n 0, 1) := dk_42 (dk_at dksX1_areFree_0 3 rfl rfl)
theorem dX1_areFree_4 : decode cX1_areFree 4 = .ok (.invokevirtual 31, 3) := dk_182 0 31 (dk_at dksX1_areFree_0 4 rfl rfl)
theorem dX1_areFree_7 : decode cX1_areFree 7 = .ok (.if_icmp .ge 30, 3) := dk_162 0 30 (dk_at dksX1_areFree_0 7 rfl rfl)
theorem dX1_areFree_10 : decode cX1_areFree 10 = .ok (.iload_n 1, 1) := dk_27 (dk_at dksX1_areFree_0 10 rfl rfl)
theorem dX1_areFree_11 : decode cX1_areFree 11 = .ok (.iload_n 2, 1) := dk_28 (dk_at dksX1_areFree_0 11 rfl rfl)
theorem dX1_areFree_12 : decode cX1_areFree 12 = .ok (.invokestatic 33, 3) := dk_184 0 33 (dk_at dksX1_areFree_0 12 rfl rfl)
theorem dX1_areFree_15 : decode cX1_areFree 15 = .ok (.ifCond .eq 16, 3) := dk_153 0 16 (dk_at dksX1_areFree_0 15 rfl rfl)
theorem dX1_areFree_18 : decode cX1_areFree 18 = .ok (.aload_n 0, 1) := dk_42 (dk_at dksX1_areFree_0 18 rfl rfl)
theorem dX1_areFree_19 : decode cX1_areFree 19 = .ok (.getfield 20, 3) := dk_180 0 20 (dk_at dksX1_areFree_0 19 rfl rfl)
theorem dX1_areFree_22 : decode cX1_areFree 22 = .ok (.iload_n 2, 1) := dk_28 (dk_at dksX1_areFree_0 22 rfl rfl)
theorem dX1_areFree_23 : decode cX1_areFree 23 = .ok (.iaload, 1) := dk_46 (dk_at dksX1_areFree_0 23 rfl rfl)
theorem dX1_areFree_24 : decode cX1_areFree 24 = .ok (.iload_n 1, 1) := dk_27 (dk_at dksX1_areFree_1 0 rfl rfl)
theorem dX1_areFree_25 : decode cX1_areFree 25 = .ok (.iand, 1) := dk_126 (dk_at dksX1_areFree_1 1 rfl rfl)
theorem dX1_areFree_26 : decode cX1_areFree 26 = .ok (.ifCond .eq 5, 3) := dk_153 0 5 (dk_at dksX1_areFree_1 2 rfl rfl)
theorem dX1_areFree_29 : decode cX1_areFree 29 = .ok (.iconst 0, 1) := dk_3 (dk_at dksX1_areFree_1 5 rfl rfl)
theorem dX1_areFree_30 : decode cX1_areFree 30 = .ok (.ireturn, 1) := dk_172 (dk_at dksX1_areFree_1 6 rfl rfl)
theorem dX1_areFree_31 : decode cX1_areFree 31 = .ok (.iinc 2 1, 3) := dk_132 2 1 (dk_at dksX1_areFree_1 7 rfl rfl)
theorem dX1_areFree_34 : decode cX1_areFree 34 = .ok (.goto (-32), 3) := dk_167 255 224 (dk_at dksX1_areFree_1 10 rfl rfl)
theorem dX1_areFree_37 : decode cX1_areFree 37 = .ok (.iconst 1, 1) := dk_4 (dk_at dksX1_areFree_1 13 rfl rfl)
theorem dX1_areFree_38 : decode cX1_areFree 38 = .ok (.ireturn, 1) := dk_172 (dk_at dksX1_areFree_1 14 rfl rfl)
abbrev cJ0_init : ByteArray := prog_36_method_1_code
def yJ0_init : MethodName := ⟨RJ0, "<init>", "()V"⟩
theorem dJ0_init_0 : decode cJ0_init 0 = .ok (.aload_n 0, 1) := by decide +kernel
theorem dJ0_init_1 : decode cJ0_init 1 = .ok (.invokespecial 1, 3) := by decide +kernel
theorem dJ0_init_4 : decode cJ0_init 4 = .ok (.return_, 1) := by decide +kernel
abbrev cJ1_init : ByteArray := prog_37_method_1_code
def yJ1_init : MethodName := ⟨RJ1, "<init>", "()V"⟩
def dkwJ1_init_0 : List UInt8 := [42, 183, 0, 1, 42, 3, 181, 0, 7, 177]
abbrev dktJ1_init_0 : List UInt8 := dkwJ1_init_0 ++ []
theorem dksJ1_init_0 : cJ1_init.data.toList.drop 0 = dktJ1_init_0 := by decide +kernel
theorem dJ1_init_0 : decode cJ1_init 0 = .ok (.aload_n 0, 1) := dk_42 (dk_at dksJ1_init_0 0 rfl rfl)
theorem dJ1_init_1 : decode cJ1_init 1 = .ok (.invokespecial 1, 3) := dk_183 0 1 (dk_at dksJ1_init_0 1 rfl rfl)
theorem dJ1_init_4 : decode cJ1_init 4 = .ok (.aload_n 0, 1) := dk_42 (dk_at dksJ1_init_0 4 rfl rfl)
theorem dJ1_init_5 : decode cJ1_init 5 = .ok (.iconst 0, 1) := dk_3 (dk_at dksJ1_init_0 5 rfl rfl)
theorem dJ1_init_6 : decode cJ1_init 6 = .ok (.putfield 7, 3) := dk_181 0 7 (dk_at dksJ1_init_0 6 rfl rfl)
theorem dJ1_init_9 : decode cJ1_init 9 = .ok (.return_, 1) := dk_177 (dk_at dksJ1_init_0 9 rfl rfl)
abbrev cJ2_init : ByteArray := prog_38_method_1_code
def yJ2_init : MethodName := ⟨RJ2, "<init>", "(I)V"⟩
def dkwJ2_init_2 : List UInt8 := [182, 0, 25, 27, 182, 0, 29, 182, 0, 32, 183, 0, 36, 191, 177]
abbrev dktJ2_init_2 : List UInt8 := dkwJ2_init_2 ++ []
def dkwJ2_init_1 : List UInt8 := [178, 0, 15, 181, 0, 9, 167, 0, 30, 187, 0, 18, 89, 187, 0, 20, 89, 183, 0, 22, 18, 23]
abbrev dktJ2_init_1 : List UInt8 := dkwJ2_init_1 ++ dktJ2_init_2
def dkwJ2_init_0 : List UInt8 := [42, 183, 0, 1, 27, 158, 0, 14, 42, 27, 189, 0, 7, 181, 0, 9, 167, 0, 44, 27, 154, 0, 13, 42]
abbrev dktJ2_init_0 : List UInt8 := dkwJ2_init_0 ++ dktJ2_init_1
theorem dksJ2_init_0 : cJ2_init.data.toList.drop 0 = dktJ2_init_0 := by decide +kernel
theorem dksJ2_init_1 : cJ2_init.data.toList.drop 24 = dktJ2_init_1 := dk_seg dksJ2_init_0 24 rfl rfl
theorem dksJ2_init_2 : cJ2_init.data.toList.drop 46 = dktJ2_init_2 := dk_seg dksJ2_init_1 22 rfl rfl
theorem dJ2_init_0 : decode cJ2_init 0 = .ok (.aload_n 0, 1) := dk_42 (dk_at dksJ2_init_0 0 rfl rfl)
theorem dJ2_init_1 : decode cJ2_init 1 = .ok (.invokespecial 1, 3) := dk_183 0 1 (dk_at dksJ2_init_0 1 rfl rfl)
theorem dJ2_init_4 : decode cJ2_init 4 = .ok (.iload_n 1, 1) := dk_27 (dk_at dksJ2_init_0 4 rfl rfl)
theorem dJ2_init_5 : decode cJ2_init 5 = .ok (.ifCond .le 14, 3) := dk_158 0 14 (dk_at dksJ2_init_0 5 rfl rfl)
theorem dJ2_init_8 : decode cJ2_init 8 = .ok (.aload_n 0, 1) := dk_42 (dk_at dksJ2_init_0 8 rfl rfl)
theorem dJ2_init_9 : decode cJ2_init 9 = .ok (.iload_n 1, 1) := dk_27 (dk_at dksJ2_init_0 9 rfl rfl)
theorem dJ2_init_10 : decode cJ2_init 10 = .ok (.anewarray 7, 3) := dk_189 0 7 (dk_at dksJ2_init_0 10 rfl rfl)
theorem dJ2_init_13 : decode cJ2_init 13 = .ok (.putfield 9, 3) := dk_181 0 9 (dk_at dksJ2_init_0 13 rfl rfl)
theorem dJ2_init_16 : decode cJ2_init 16 = .ok (.goto 44, 3) := dk_167 0 44 (dk_at dksJ2_init_0 16 rfl rfl)
theorem dJ2_init_19 : decode cJ2_init 19 = .ok (.iload_n 1, 1) := dk_27 (dk_at dksJ2_init_0 19 rfl rfl)
theorem dJ2_init_20 : decode cJ2_init 20 = .ok (.ifCond .ne 13, 3) := dk_154 0 13 (dk_at dksJ2_init_0 20 rfl rfl)
theorem dJ2_init_23 : decode cJ2_init 23 = .ok (.aload_n 0, 1) := dk_42 (dk_at dksJ2_init_0 23 rfl rfl)
theorem dJ2_init_24 : decode cJ2_init 24 = .ok (.getstatic 15, 3) := dk_178 0 15 (dk_at dksJ2_init_1 0 rfl rfl)
theorem dJ2_init_27 : decode cJ2_init 27 = .ok (.putfield 9, 3) := dk_181 0 9 (dk_at dksJ2_init_1 3 rfl rfl)
theorem dJ2_init_30 : decode cJ2_init 30 = .ok (.goto 30, 3) := dk_167 0 30 (dk_at dksJ2_init_1 6 rfl rfl)
theorem dJ2_init_33 : decode cJ2_init 33 = .ok (.new 18, 3) := dk_187 0 18 (dk_at dksJ2_init_1 9 rfl rfl)
theorem dJ2_init_36 : decode cJ2_init 36 = .ok (.dup, 1) := dk_89 (dk_at dksJ2_init_1 12 rfl rfl)
theorem dJ2_init_37 : decode cJ2_init 37 = .ok (.new 20, 3) := dk_187 0 20 (dk_at dksJ2_init_1 13 rfl rfl)
theorem dJ2_init_40 : decode cJ2_init 40 = .ok (.dup, 1) := dk_89 (dk_at dksJ2_init_1 16 rfl rfl)
theorem dJ2_init_41 : decode cJ2_init 41 = .ok (.invokespecial 22, 3) := dk_183 0 22 (dk_at dksJ2_init_1 17 rfl rfl)
theorem dJ2_init_44 : decode cJ2_init 44 = .ok (.ldc 23, 2) := dk_18 23 (dk_at dksJ2_init_1 20 rfl rfl)
theorem dJ2_init_46 : decode cJ2_init 46 = .ok (.invokevirtual 25, 3) := dk_182 0 25 (dk_at dksJ2_init_2 0 rfl rfl)
theorem dJ2_init_49 : decode cJ2_init 49 = .ok (.iload_n 1, 1) := dk_27 (dk_at dksJ2_init_2 3 rfl rfl)
theorem dJ2_init_50 : decode cJ2_init 50 = .ok (.invokevirtual 29, 3) := dk_182 0 29 (dk_at dksJ2_init_2 4 rfl rfl)
theorem dJ2_init_53 : decode cJ2_init 53 = .ok (.invokevirtual 32, 3) := dk_182 0 32 (dk_at dksJ2_init_2 7 rfl rfl)
theorem dJ2_init_56 : decode cJ2_init 56 = .ok (.invokespecial 36, 3) := dk_183 0 36 (dk_at dksJ2_init_2 10 rfl rfl)
theorem dJ2_init_59 : decode cJ2_init 59 = .ok (.athrow, 1) := dk_191 (dk_at dksJ2_init_2 13 rfl rfl)
theorem dJ2_init_60 : decode cJ2_init 60 = .ok (.return_, 1) := dk_177 (dk_at dksJ2_init_2 14 rfl rfl)
abbrev cJ2_size : ByteArray := prog_38_method_8_code
def yJ2_size : MethodName := ⟨RJ2, "size", "()I"⟩
theorem dJ2_size_0 : decode cJ2_size 0 = .ok (.aload_n 0, 1) := by decide +kernel
theorem dJ2_size_1 : decode cJ2_size 1 = .ok (.getfield 48, 3) := by decide +kernel
theorem dJ2_size_4 : decode cJ2_size 4 = .ok (.ireturn, 1) := by decide +kernel
abbrev cJ2_add : ByteArray := prog_38_method_25_code
def yJ2_add : MethodName := ⟨RJ2, "add", "(Ljava/lang/Object;)Z"⟩
def dkwJ2_add_1 : List UInt8 := [172]
abbrev dktJ2_add_1 : List UInt8 := dkwJ2_add_1 ++ []
def dkwJ2_add_0 : List UInt8 := [42, 89, 180, 0, 63, 4, 96, 181, 0, 63, 42, 43, 42, 180, 0, 9, 42, 180, 0, 48, 182, 0, 131, 4]
abbrev dktJ2_add_0 : List UInt8 := dkwJ2_add_0 ++ dktJ2_add_1
theorem dksJ2_add_0 : cJ2_add.data.toList.drop 0 = dktJ2_add_0 := by decide +kernel
theorem dksJ2_add_1 : cJ2_add.data.toList.drop 24 = dktJ2_add_1 := dk_seg dksJ2_add_0 24 rfl rfl
theorem dJ2_add_0 : decode cJ2_add 0 = .ok (.aload_n 0, 1) := dk_42 (dk_at dksJ2_add_0 0 rfl rfl)
theorem dJ2_add_1 : decode cJ2_add 1 = .ok (.dup, 1) := dk_89 (dk_at dksJ2_add_0 1 rfl rfl)
theorem dJ2_add_2 : decode cJ2_add 2 = .ok (.getfield 63, 3) := dk_180 0 63 (dk_at dksJ2_add_0 2 rfl rfl)
theorem dJ2_add_5 : decode cJ2_add 5 = .ok (.iconst 1, 1) := dk_4 (dk_at dksJ2_add_0 5 rfl rfl)
theorem dJ2_add_6 : decode cJ2_add 6 = .ok (.iadd, 1) := dk_96 (dk_at dksJ2_add_0 6 rfl rfl)
theorem dJ2_add_7 : decode cJ2_add 7 = .ok (.putfield 63, 3) := dk_181 0 63 (dk_at dksJ2_add_0 7 rfl rfl)
theorem dJ2_add_10 : decode cJ2_add 10 = .ok (.aload_n 0, 1) := dk_42 (dk_at dksJ2_add_0 10 rfl rfl)
theorem dJ2_add_11 : decode cJ2_add 11 = .ok (.aload_n 1, 1) := dk_43 (dk_at dksJ2_add_0 11 rfl rfl)
theorem dJ2_add_12 : decode cJ2_add 12 = .ok (.aload_n 0, 1) := dk_42 (dk_at dksJ2_add_0 12 rfl rfl)
theorem dJ2_add_13 : decode cJ2_add 13 = .ok (.getfield 9, 3) := dk_180 0 9 (dk_at dksJ2_add_0 13 rfl rfl)
theorem dJ2_add_16 : decode cJ2_add 16 = .ok (.aload_n 0, 1) := dk_42 (dk_at dksJ2_add_0 16 rfl rfl)
theorem dJ2_add_17 : decode cJ2_add 17 = .ok (.getfield 48, 3) := dk_180 0 48 (dk_at dksJ2_add_0 17 rfl rfl)
theorem dJ2_add_20 : decode cJ2_add 20 = .ok (.invokevirtual 131, 3) := dk_182 0 131 (dk_at dksJ2_add_0 20 rfl rfl)
theorem dJ2_add_23 : decode cJ2_add 23 = .ok (.iconst 1, 1) := dk_4 (dk_at dksJ2_add_0 23 rfl rfl)
theorem dJ2_add_24 : decode cJ2_add 24 = .ok (.ireturn, 1) := dk_172 (dk_at dksJ2_add_1 0 rfl rfl)
abbrev cJ2_add_2 : ByteArray := prog_38_method_24_code
def yJ2_add_2 : MethodName := ⟨RJ2, "add", "(Ljava/lang/Object;[Ljava/lang/Object;I)V"⟩
def dkwJ2_add_2_0 : List UInt8 := [29, 44, 190, 160, 0, 8, 42, 182, 0, 129, 77, 44, 29, 43, 83, 42, 29, 4, 96, 181, 0, 48, 177]
abbrev dktJ2_add_2_0 : List UInt8 := dkwJ2_add_2_0 ++ []
theorem dksJ2_add_2_0 : cJ2_add_2.data.toList.drop 0 = dktJ2_add_2_0 := by decide +kernel
theorem dJ2_add_2_0 : decode cJ2_add_2 0 = .ok (.iload_n 3, 1) := dk_29 (dk_at dksJ2_add_2_0 0 rfl rfl)
theorem dJ2_add_2_1 : decode cJ2_add_2 1 = .ok (.aload_n 2, 1) := dk_44 (dk_at dksJ2_add_2_0 1 rfl rfl)
theorem dJ2_add_2_2 : decode cJ2_add_2 2 = .ok (.arraylength, 1) := dk_190 (dk_at dksJ2_add_2_0 2 rfl rfl)
theorem dJ2_add_2_3 : decode cJ2_add_2 3 = .ok (.if_icmp .ne 8, 3) := dk_160 0 8 (dk_at dksJ2_add_2_0 3 rfl rfl)
theorem dJ2_add_2_6 : decode cJ2_add_2 6 = .ok (.aload_n 0, 1) := dk_42 (dk_at dksJ2_add_2_0 6 rfl rfl)
theorem dJ2_add_2_7 : decode cJ2_add_2 7 = .ok (.invokevirtual 129, 3) := dk_182 0 129 (dk_at dksJ2_add_2_0 7 rfl rfl)
theorem dJ2_add_2_10 : decode cJ2_add_2 10 = .ok (.astore_n 2, 1) := dk_77 (dk_at dksJ2_add_2_0 10 rfl rfl)
theorem dJ2_add_2_11 : decode cJ2_add_2 11 = .ok (.aload_n 2, 1) := dk_44 (dk_at dksJ2_add_2_0 11 rfl rfl)
theorem dJ2_add_2_12 : decode cJ2_add_2 12 = .ok (.iload_n 3, 1) := dk_29 (dk_at dksJ2_add_2_0 12 rfl rfl)
theorem dJ2_add_2_13 : decode cJ2_add_2 13 = .ok (.aload_n 1, 1) := dk_43 (dk_at dksJ2_add_2_0 13 rfl rfl)
theorem dJ2_add_2_14 : decode cJ2_add_2 14 = .ok (.aastore, 1) := dk_83 (dk_at dksJ2_add_2_0 14 rfl rfl)
theorem dJ2_add_2_15 : decode cJ2_add_2 15 = .ok (.aload_n 0, 1) := dk_42 (dk_at dksJ2_add_2_0 15 rfl rfl)
theorem dJ2_add_2_16 : decode cJ2_add_2 16 = .ok (.iload_n 3, 1) := dk_29 (dk_at dksJ2_add_2_0 16 rfl rfl)
theorem dJ2_add_2_17 : decode cJ2_add_2 17 = .ok (.iconst 1, 1) := dk_4 (dk_at dksJ2_add_2_0 17 rfl rfl)
theorem dJ2_add_2_18 : decode cJ2_add_2 18 = .ok (.iadd, 1) := dk_96 (dk_at dksJ2_add_2_0 18 rfl rfl)
theorem dJ2_add_2_19 : decode cJ2_add_2 19 = .ok (.putfield 48, 3) := dk_181 0 48 (dk_at dksJ2_add_2_0 19 rfl rfl)
theorem dJ2_add_2_22 : decode cJ2_add_2 22 = .ok (.return_, 1) := dk_177 (dk_at dksJ2_add_2_0 22 rfl rfl)
abbrev cJ2_grow : ByteArray := prog_38_method_7_code
def yJ2_grow : MethodName := ⟨RJ2, "grow", "()[Ljava/lang/Object;"⟩
def dkwJ2_grow_0 : List UInt8 := [42, 42, 180, 0, 48, 4, 96, 182, 0, 69, 176]
abbrev dktJ2_grow_0 : List UInt8 := dkwJ2_grow_0 ++ []
theorem dksJ2_grow_0 : cJ2_grow.data.toList.drop 0 = dktJ2_grow_0 := by decide +kernel
theorem dJ2_grow_0 : decode cJ2_grow 0 = .ok (.aload_n 0, 1) := dk_42 (dk_at dksJ2_grow_0 0 rfl rfl)
theorem dJ2_grow_1 : decode cJ2_grow 1 = .ok (.aload_n 0, 1) := dk_42 (dk_at dksJ2_grow_0 1 rfl rfl)
theorem dJ2_grow_2 : decode cJ2_grow 2 = .ok (.getfield 48, 3) := dk_180 0 48 (dk_at dksJ2_grow_0 2 rfl rfl)
theorem dJ2_grow_5 : decode cJ2_grow 5 = .ok (.iconst 1, 1) := dk_4 (dk_at dksJ2_grow_0 5 rfl rfl)
theorem dJ2_grow_6 : decode cJ2_grow 6 = .ok (.iadd, 1) := dk_96 (dk_at dksJ2_grow_0 6 rfl rfl)
theorem dJ2_grow_7 : decode cJ2_grow 7 = .ok (.invokevirtual 69, 3) := dk_182 0 69 (dk_at dksJ2_grow_0 7 rfl rfl)
theorem dJ2_grow_10 : decode cJ2_grow 10 = .ok (.areturn, 1) := dk_176 (dk_at dksJ2_grow_0 10 rfl rfl)
abbrev cJ2_grow_2 : ByteArray := prog_38_method_6_code
def yJ2_grow_2 : MethodName := ⟨RJ2, "grow", "(I)[Ljava/lang/Object;"⟩
def dkwJ2_grow_2_2 : List UInt8 := [27, 184, 0, 79, 189, 0, 7, 90, 181, 0, 9, 176]
abbrev dktJ2_grow_2_2 : List UInt8 := dkwJ2_grow_2_2 ++ []
def dkwJ2_grow_2_1 : List UInt8 := [28, 4, 122, 184, 0, 73, 62, 42, 42, 180, 0, 9, 29, 184, 0, 66, 90, 181, 0, 9, 176, 42, 16, 10]
abbrev dktJ2_grow_2_1 : List UInt8 := dkwJ2_grow_2_1 ++ dktJ2_grow_2_2
def dkwJ2_grow_2_0 : List UInt8 := [42, 180, 0, 9, 190, 61, 28, 157, 0, 13, 42, 180, 0, 9, 178, 0, 39, 165, 0, 28, 28, 27, 28, 100]
abbrev dktJ2_grow_2_0 : List UInt8 := dkwJ2_grow_2_0 ++ dktJ2_grow_2_1
theorem dksJ2_grow_2_0 : cJ2_grow_2.data.toList.drop 0 = dktJ2_grow_2_0 := by decide +kernel
theorem dksJ2_grow_2_1 : cJ2_grow_2.data.toList.drop 24 = dktJ2_grow_2_1 := dk_seg dksJ2_grow_2_0 24 rfl rfl
theorem dksJ2_grow_2_2 : cJ2_grow_2.data.toList.drop 48 = dktJ2_grow_2_2 := dk_seg dksJ2_grow_2_1 24 rfl rfl
theorem dJ2_grow_2_0 : decode cJ2_grow_2 0 = .ok (.aload_n 0, 1) := dk_42 (dk_at dksJ2_grow_2_0 0 rfl rfl)
theorem dJ2_grow_2_1 : decode cJ2_grow_2 1 = .ok (.getfield 9, 3) := dk_180 0 9 (dk_at dksJ2_grow_2_0 1 rfl rfl)
theorem dJ2_grow_2_4 : decode cJ2_grow_2 4 = .ok (.arraylength, 1) := dk_190 (dk_at dksJ2_grow_2_0 4 rfl rfl)
theorem dJ2_grow_2_5 : decode cJ2_grow_2 5 = .ok (.istore_n 2, 1) := dk_61 (dk_at dksJ2_grow_2_0 5 rfl rfl)
theorem dJ2_grow_2_6 : decode cJ2_grow_2 6 = .ok (.iload_n 2, 1) := dk_28 (dk_at dksJ2_grow_2_0 6 rfl rfl)
theorem dJ2_grow_2_7 : decode cJ2_grow_2 7 = .ok (.ifCond .gt 13, 3) := dk_157 0 13 (dk_at dksJ2_grow_2_0 7 rfl rfl)
theorem dJ2_grow_2_10 : decode cJ2_grow_2 10 = .ok (.aload_n 0, 1) := dk_42 (dk_at dksJ2_grow_2_0 10 rfl rfl)
theorem dJ2_grow_2_11 : decode cJ2_grow_2 11 = .ok (.getfield 9, 3) := dk_180 0 9 (dk_at dksJ2_grow_2_0 11 rfl rfl)
theorem dJ2_grow_2_14 : decode cJ2_grow_2 14 = .ok (.getstatic 39, 3) := dk_178 0 39 (dk_at dksJ2_grow_2_0 14 rfl rfl)
theorem dJ2_grow_2_17 : decode cJ2_grow_2 17 = .ok (.if_acmp .eq 28, 3) := dk_165 0 28 (dk_at dksJ2_grow_2_0 17 rfl rfl)
theorem dJ2_grow_2_20 : decode cJ2_grow_2 20 = .ok (.iload_n 2, 1) := dk_28 (dk_at dksJ2_grow_2_0 20 rfl rfl)
theorem dJ2_grow_2_21 : decode cJ2_grow_2 21 = .ok (.iload_n 1, 1) := dk_27 (dk_at dksJ2_grow_2_0 21 rfl rfl)
theorem dJ2_grow_2_22 : decode cJ2_grow_2 22 = .ok (.iload_n 2, 1) := dk_28 (dk_at dksJ2_grow_2_0 22 rfl rfl)
theorem dJ2_grow_2_23 : decode cJ2_grow_2 23 = .ok (.isub, 1) := dk_100 (dk_at dksJ2_grow_2_0 23 rfl rfl)
theorem dJ2_grow_2_24 : decode cJ2_grow_2 24 = .ok (.iload_n 2, 1) := dk_28 (dk_at dksJ2_grow_2_1 0 rfl rfl)
theorem dJ2_grow_2_25 : decode cJ2_grow_2 25 = .ok (.iconst 1, 1) := dk_4 (dk_at dksJ2_grow_2_1 1 rfl rfl)
theorem dJ2_grow_2_26 : decode cJ2_grow_2 26 = .ok (.ishr, 1) := dk_122 (dk_at dksJ2_grow_2_1 2 rfl rfl)
theorem dJ2_grow_2_27 : decode cJ2_grow_2 27 = .ok (.invokestatic 73, 3) := dk_184 0 73 (dk_at dksJ2_grow_2_1 3 rfl rfl)
theorem dJ2_grow_2_30 : decode cJ2_grow_2 30 = .ok (.istore_n 3, 1) := dk_62 (dk_at dksJ2_grow_2_1 6 rfl rfl)
theorem dJ2_grow_2_31 : decode cJ2_grow_2 31 = .ok (.aload_n 0, 1) := dk_42 (dk_at dksJ2_grow_2_1 7 rfl rfl)
theorem dJ2_grow_2_32 : decode cJ2_grow_2 32 = .ok (.aload_n 0, 1) := dk_42 (dk_at dksJ2_grow_2_1 8 rfl rfl)
theorem dJ2_grow_2_33 : decode cJ2_grow_2 33 = .ok (.getfield 9, 3) := dk_180 0 9 (dk_at dksJ2_grow_2_1 9 rfl rfl)
theorem dJ2_grow_2_36 : decode cJ2_grow_2 36 = .ok (.iload_n 3, 1) := dk_29 (dk_at dksJ2_grow_2_1 12 rfl rfl)
theorem dJ2_grow_2_37 : decode cJ2_grow_2 37 = .ok (.invokestatic 66, 3) := dk_184 0 66 (dk_at dksJ2_grow_2_1 13 rfl rfl)
theorem dJ2_grow_2_40 : decode cJ2_grow_2 40 = .ok (.dup_x1, 1) := dk_90 (dk_at dksJ2_grow_2_1 16 rfl rfl)
theorem dJ2_grow_2_41 : decode cJ2_grow_2 41 = .ok (.putfield 9, 3) := dk_181 0 9 (dk_at dksJ2_grow_2_1 17 rfl rfl)
theorem dJ2_grow_2_44 : decode cJ2_grow_2 44 = .ok (.areturn, 1) := dk_176 (dk_at dksJ2_grow_2_1 20 rfl rfl)
theorem dJ2_grow_2_45 : decode cJ2_grow_2 45 = .ok (.aload_n 0, 1) := dk_42 (dk_at dksJ2_grow_2_1 21 rfl rfl)
theorem dJ2_grow_2_46 : decode cJ2_grow_2 46 = .ok (.bipush 10, 2) := dk_16 10 (dk_at dksJ2_grow_2_1 22 rfl rfl)
theorem dJ2_grow_2_48 : decode cJ2_grow_2 48 = .ok (.iload_n 1, 1) := dk_27 (dk_at dksJ2_grow_2_2 0 rfl rfl)
theorem dJ2_grow_2_49 : decode cJ2_grow_2 49 = .ok (.invokestatic 79, 3) := dk_184 0 79 (dk_at dksJ2_grow_2_2 1 rfl rfl)
theorem dJ2_grow_2_52 : decode cJ2_grow_2 52 = .ok (.anewarray 7, 3) := dk_189 0 7 (dk_at dksJ2_grow_2_2 4 rfl rfl)
theorem dJ2_grow_2_55 : decode cJ2_grow_2 55 = .ok (.dup_x1, 1) := dk_90 (dk_at dksJ2_grow_2_2 7 rfl rfl)
theorem dJ2_grow_2_56 : decode cJ2_grow_2 56 = .ok (.putfield 9, 3) := dk_181 0 9 (dk_at dksJ2_grow_2_2 8 rfl rfl)
theorem dJ2_grow_2_59 : decode cJ2_grow_2 59 = .ok (.areturn, 1) := dk_176 (dk_at dksJ2_grow_2_2 11 rfl rfl)
abbrev cJ2_get : ByteArray := prog_38_method_20_code
def yJ2_get : MethodName := ⟨RJ2, "get", "(I)Ljava/lang/Object;"⟩
def dkwJ2_get_0 : List UInt8 := [27, 42, 180, 0, 48, 184, 0, 118, 87, 42, 27, 182, 0, 123, 176]
abbrev dktJ2_get_0 : List UInt8 := dkwJ2_get_0 ++ []
theorem dksJ2_get_0 : cJ2_get.data.toList.drop 0 = dktJ2_get_0 := by decide +kernel
theorem dJ2_get_0 : decode cJ2_get 0 = .ok (.iload_n 1, 1) := dk_27 (dk_at dksJ2_get_0 0 rfl rfl)
theorem dJ2_get_1 : decode cJ2_get 1 = .ok (.aload_n 0, 1) := dk_42 (dk_at dksJ2_get_0 1 rfl rfl)
theorem dJ2_get_2 : decode cJ2_get 2 = .ok (.getfield 48, 3) := dk_180 0 48 (dk_at dksJ2_get_0 2 rfl rfl)
theorem dJ2_get_5 : decode cJ2_get 5 = .ok (.invokestatic 118, 3) := dk_184 0 118 (dk_at dksJ2_get_0 5 rfl rfl)
theorem dJ2_get_8 : decode cJ2_get 8 = .ok (.pop, 1) := dk_87 (dk_at dksJ2_get_0 8 rfl rfl)
theorem dJ2_get_9 : decode cJ2_get 9 = .ok (.aload_n 0, 1) := dk_42 (dk_at dksJ2_get_0 9 rfl rfl)
theorem dJ2_get_10 : decode cJ2_get 10 = .ok (.iload_n 1, 1) := dk_27 (dk_at dksJ2_get_0 10 rfl rfl)
theorem dJ2_get_11 : decode cJ2_get 11 = .ok (.invokevirtual 123, 3) := dk_182 0 123 (dk_at dksJ2_get_0 11 rfl rfl)
theorem dJ2_get_14 : decode cJ2_get 14 = .ok (.areturn, 1) := dk_176 (dk_at dksJ2_get_0 14 rfl rfl)
abbrev cJ2_elementData : ByteArray := prog_38_method_18_code
def yJ2_elementData : MethodName := ⟨RJ2, "elementData", "(I)Ljava/lang/Object;"⟩
def dkwJ2_elementData_0 : List UInt8 := [42, 180, 0, 9, 27, 50, 176]
abbrev dktJ2_elementData_0 : List UInt8 := dkwJ2_elementData_0 ++ []
theorem dksJ2_elementData_0 : cJ2_elementData.data.toList.drop 0 = dktJ2_elementData_0 := by decide +kernel
theorem dJ2_elementData_0 : decode cJ2_elementData 0 = .ok (.aload_n 0, 1) := dk_42 (dk_at dksJ2_elementData_0 0 rfl rfl)
theorem dJ2_elementData_1 : decode cJ2_elementData 1 = .ok (.getfield 9, 3) := dk_180 0 9 (dk_at dksJ2_elementData_0 1 rfl rfl)
theorem dJ2_elementData_4 : decode cJ2_elementData 4 = .ok (.iload_n 1, 1) := dk_27 (dk_at dksJ2_elementData_0 4 rfl rfl)
theorem dJ2_elementData_5 : decode cJ2_elementData 5 = .ok (.aaload, 1) := dk_50 (dk_at dksJ2_elementData_0 5 rfl rfl)
theorem dJ2_elementData_6 : decode cJ2_elementData 6 = .ok (.areturn, 1) := dk_176 (dk_at dksJ2_elementData_0 6 rfl rfl)
abbrev cX2_init : ByteArray := prog_14_method_1_code
def yX2_init : MethodName := ⟨RX2, "<init>", "()V"⟩
def dkwX2_init_2 : List UInt8 := [188, 10, 181, 0, 27, 42, 16, 12, 188, 10, 181, 0, 30, 177]
abbrev dktX2_init_2 : List UInt8 := dkwX2_init_2 ++ []
def dkwX2_init_1 : List UInt8 := [188, 10, 181, 0, 18, 42, 16, 6, 188, 10, 181, 0, 21, 42, 16, 6, 188, 10, 181, 0, 24, 42, 16, 6]
abbrev dktX2_init_1 : List UInt8 := dkwX2_init_1 ++ dktX2_init_2
def dkwX2_init_0 : List UInt8 := [42, 183, 0, 3, 42, 16, 6, 188, 10, 181, 0, 9, 42, 16, 6, 188, 10, 181, 0, 15, 42, 16, 6]
abbrev dktX2_init_0 : List UInt8 := dkwX2_init_0 ++ dktX2_init_1
theorem dksX2_init_0 : cX2_init.data.toList.drop 0 = dktX2_init_0 := by decide +kernel
theorem dksX2_init_1 : cX2_init.data.toList.drop 23 = dktX2_init_1 := dk_seg dksX2_init_0 23 rfl rfl
theorem dksX2_init_2 : cX2_init.data.toList.drop 47 = dktX2_init_2 := dk_seg dksX2_init_1 24 rfl rfl
theorem dX2_init_0 : decode cX2_init 0 = .ok (.aload_n 0, 1) := dk_42 (dk_at dksX2_init_0 0 rfl rfl)
theorem dX2_init_1 : decode cX2_init 1 = .ok (.invokespecial 3, 3) := dk_183 0 3 (dk_at dksX2_init_0 1 rfl rfl)
theorem dX2_init_4 : decode cX2_init 4 = .ok (.aload_n 0, 1) := dk_42 (dk_at dksX2_init_0 4 rfl rfl)
theorem dX2_init_5 : decode cX2_init 5 = .ok (.bipush 6, 2) := dk_16 6 (dk_at dksX2_init_0 5 rfl rfl)
theorem dX2_init_7 : decode cX2_init 7 = .ok (.newarray .int, 2) := dk_188_10 (dk_at dksX2_init_0 7 rfl rfl)
theorem dX2_init_9 : decode cX2_init 9 = .ok (.putfield 9, 3) := dk_181 0 9 (dk_at dksX2_init_0 9 rfl rfl)
theorem dX2_init_12 : decode cX2_init 12 = .ok (.aload_n 0, 1) := dk_42 (dk_at dksX2_init_0 12 rfl rfl)
theorem dX2_init_13 : decode cX2_init 13 = .ok (.bipush 6, 2) := dk_16 6 (dk_at dksX2_init_0 13 rfl rfl)
theorem dX2_init_15 : decode cX2_init 15 = .ok (.newarray .int, 2) := dk_188_10 (dk_at dksX2_init_0 15 rfl rfl)
theorem dX2_init_17 : decode cX2_init 17 = .ok (.putfield 15, 3) := dk_181 0 15 (dk_at dksX2_init_0 17 rfl rfl)
theorem dX2_init_20 : decode cX2_init 20 = .ok (.aload_n 0, 1) := dk_42 (dk_at dksX2_init_0 20 rfl rfl)
theorem dX2_init_21 : decode cX2_init 21 = .ok (.bipush 6, 2) := dk_16 6 (dk_at dksX2_init_0 21 rfl rfl)
theorem dX2_init_23 : decode cX2_init 23 = .ok (.newarray .int, 2) := dk_188_10 (dk_at dksX2_init_1 0 rfl rfl)
theorem dX2_init_25 : decode cX2_init 25 = .ok (.putfield 18, 3) := dk_181 0 18 (dk_at dksX2_init_1 2 rfl rfl)
theorem dX2_init_28 : decode cX2_init 28 = .ok (.aload_n 0, 1) := dk_42 (dk_at dksX2_init_1 5 rfl rfl)
theorem dX2_init_29 : decode cX2_init 29 = .ok (.bipush 6, 2) := dk_16 6 (dk_at dksX2_init_1 6 rfl rfl)
theorem dX2_init_31 : decode cX2_init 31 = .ok (.newarray .int, 2) := dk_188_10 (dk_at dksX2_init_1 8 rfl rfl)
theorem dX2_init_33 : decode cX2_init 33 = .ok (.putfield 21, 3) := dk_181 0 21 (dk_at dksX2_init_1 10 rfl rfl)
theorem dX2_init_36 : decode cX2_init 36 = .ok (.aload_n 0, 1) := dk_42 (dk_at dksX2_init_1 13 rfl rfl)
theorem dX2_init_37 : decode cX2_init 37 = .ok (.bipush 6, 2) := dk_16 6 (dk_at dksX2_init_1 14 rfl rfl)
theorem dX2_init_39 : decode cX2_init 39 = .ok (.newarray .int, 2) := dk_188_10 (dk_at dksX2_init_1 16 rfl rfl)
theorem dX2_init_41 : decode cX2_init 41 = .ok (.putfield 24, 3) := dk_181 0 24 (dk_at dksX2_init_1 18 rfl rfl)
theorem dX2_init_44 : decode cX2_init 44 = .ok (.aload_n 0, 1) := dk_42 (dk_at dksX2_init_1 21 rfl rfl)
theorem dX2_init_45 : decode cX2_init 45 = .ok (.bipush 6, 2) := dk_16 6 (dk_at dksX2_init_1 22 rfl rfl)
theorem dX2_init_47 : decode cX2_init 47 = .ok (.newarray .int, 2) := dk_188_10 (dk_at dksX2_init_2 0 rfl rfl)
theorem dX2_init_49 : decode cX2_init 49 = .ok (.putfield 27, 3) := dk_181 0 27 (dk_at dksX2_init_2 2 rfl rfl)
theorem dX2_init_52 : decode cX2_init 52 = .ok (.aload_n 0, 1) := dk_42 (dk_at dksX2_init_2 5 rfl rfl)
theorem dX2_init_53 : decode cX2_init 53 = .ok (.bipush 12, 2) := dk_16 12 (dk_at dksX2_init_2 6 rfl rfl)
theorem dX2_init_55 : decode cX2_init 55 = .ok (.newarray .int, 2) := dk_188_10 (dk_at dksX2_init_2 8 rfl rfl)
theorem dX2_init_57 : decode cX2_init 57 = .ok (.putfield 30, 3) := dk_181 0 30 (dk_at dksX2_init_2 10 rfl rfl)
theorem dX2_init_60 : decode cX2_init 60 = .ok (.return_, 1) := dk_177 (dk_at dksX2_init_2 13 rfl rfl)
abbrev cX2_begin : ByteArray := prog_14_method_3_code
def yX2_begin : MethodName := ⟨RX2, "begin", "(LDutyBeats$Junction;)V"⟩
def dkwX2_begin_7 : List UInt8 := [3, 181, 0, 33, 42, 3, 181, 0, 37, 177]
abbrev dktX2_begin_7 : List UInt8 := dkwX2_begin_7 ++ []
def dkwX2_begin_6 : List UInt8 := [16, 12, 162, 0, 21, 42, 180, 0, 30, 28, 43, 180, 0, 64, 28, 46, 79, 132, 2, 1, 167, 255, 235, 42]
abbrev dktX2_begin_6 : List UInt8 := dkwX2_begin_6 ++ dktX2_begin_7
def dkwX2_begin_5 : List UInt8 := [180, 0, 24, 28, 3, 79, 42, 180, 0, 27, 28, 17, 252, 24, 79, 132, 2, 1, 167, 255, 126, 3, 61, 28]
abbrev dktX2_begin_5 : List UInt8 := dkwX2_begin_5 ++ dktX2_begin_6
def dkwX2_begin_4 : List UInt8 := [28, 182, 0, 49, 192, 0, 55, 180, 0, 62, 167, 0, 4, 3, 79, 42, 180, 0, 21, 28, 3, 79, 42]
abbrev dktX2_begin_4 : List UInt8 := dkwX2_begin_4 ++ dktX2_begin_5
def dkwX2_begin_3 : List UInt8 := [192, 0, 55, 180, 0, 60, 167, 0, 4, 3, 79, 42, 180, 0, 18, 28, 29, 153, 0, 20, 43, 180, 0, 46]
abbrev dktX2_begin_3 : List UInt8 := dkwX2_begin_3 ++ dktX2_begin_4
def dkwX2_begin_2 : List UInt8 := [167, 0, 4, 3, 79, 42, 180, 0, 15, 28, 29, 153, 0, 20, 43, 180, 0, 46, 28, 182, 0, 49]
abbrev dktX2_begin_2 : List UInt8 := dkwX2_begin_2 ++ dktX2_begin_3
def dkwX2_begin_1 : List UInt8 := [180, 0, 9, 28, 29, 153, 0, 20, 43, 180, 0, 46, 28, 182, 0, 49, 192, 0, 55, 180, 0, 57]
abbrev dktX2_begin_1 : List UInt8 := dkwX2_begin_1 ++ dktX2_begin_2
def dkwX2_begin_0 : List UInt8 := [3, 61, 28, 16, 6, 162, 0, 130, 28, 43, 182, 0, 40, 162, 0, 7, 4, 167, 0, 4, 3, 62, 42]
abbrev dktX2_begin_0 : List UInt8 := dkwX2_begin_0 ++ dktX2_begin_1
theorem dksX2_begin_0 : cX2_begin.data.toList.drop 0 = dktX2_begin_0 := by decide +kernel
theorem dksX2_begin_1 : cX2_begin.data.toList.drop 23 = dktX2_begin_1 := dk_seg dksX2_begin_0 23 rfl rfl
theorem dksX2_begin_2 : cX2_begin.data.toList.drop 45 = dktX2_begin_2 := dk_seg dksX2_begin_1 22 rfl rfl
theorem dksX2_begin_3 : cX2_begin.data.toList.drop 67 = dktX2_begin_3 := dk_seg dksX2_begin_2 22 rfl rfl
theorem dksX2_begin_4 : cX2_begin.data.toList.drop 91 = dktX2_begin_4 := dk_seg dksX2_begin_3 24 rfl rfl
theorem dksX2_begin_5 : cX2_begin.data.toList.drop 114 = dktX2_begin_5 := dk_seg dksX2_begin_4 23 rfl rfl
theorem dksX2_begin_6 : cX2_begin.data.toList.drop 138 = dktX2_begin_6 := dk_seg dksX2_begin_5 24 rfl rfl
theorem dksX2_begin_7 : cX2_begin.data.toList.drop 162 = dktX2_begin_7 := dk_seg dksX2_begin_6 24 rfl rfl
theorem dX2_begin_0 : decode cX2_begin 0 = .ok (.iconst 0, 1) := dk_3 (dk_at dksX2_begin_0 0 rfl rfl)
theorem dX2_begin_1 : decode cX2_begin 1 = .ok (.istore_n 2, 1) := dk_61 (dk_at dksX2_begin_0 1 rfl rfl)
theorem dX2_begin_2 : decode cX2_begin 2 = .ok (.iload_n 2, 1) := dk_28 (dk_at dksX2_begin_0 2 rfl rfl)
theorem dX2_begin_3 : decode cX2_begin 3 = .ok (.bipush 6, 2) := dk_16 6 (dk_at dksX2_begin_0 3 rfl rfl)
theorem dX2_begin_5 : decode cX2_begin 5 = .ok (.if_icmp .ge 130, 3) := dk_162 0 130 (dk_at dksX2_begin_0 5 rfl rfl)
theorem dX2_begin_8 : decode cX2_begin 8 = .ok (.iload_n 2, 1) := dk_28 (dk_at dksX2_begin_0 8 rfl rfl)
theorem dX2_begin_9 : decode cX2_begin 9 = .ok (.aload_n 1, 1) := dk_43 (dk_at dksX2_begin_0 9 rfl rfl)
theorem dX2_begin_10 : decode cX2_begin 10 = .ok (.invokevirtual 40, 3) := dk_182 0 40 (dk_at dksX2_begin_0 10 rfl rfl)
theorem dX2_begin_13 : decode cX2_begin 13 = .ok (.if_icmp .ge 7, 3) := dk_162 0 7 (dk_at dksX2_begin_0 13 rfl rfl)
theorem dX2_begin_16 : decode cX2_begin 16 = .ok (.iconst 1, 1) := dk_4 (dk_at dksX2_begin_0 16 rfl rfl)
theorem dX2_begin_17 : decode cX2_begin 17 = .ok (.goto 4, 3) := dk_167 0 4 (dk_at dksX2_begin_0 17 rfl rfl)
theorem dX2_begin_20 : decode cX2_begin 20 = .ok (.iconst 0, 1) := dk_3 (dk_at dksX2_begin_0 20 rfl rfl)
theorem dX2_begin_21 : decode cX2_begin 21 = .ok (.istore_n 3, 1) := dk_62 (dk_at dksX2_begin_0 21 rfl rfl)
theorem dX2_begin_22 : decode cX2_begin 22 = .ok (.aload_n 0, 1) := dk_42 (dk_at dksX2_begin_0 22 rfl rfl)
theorem dX2_begin_23 : decode cX2_begin 23 = .ok (.getfield 9, 3) := dk_180 0 9 (dk_at dksX2_begin_1 0 rfl rfl)
theorem dX2_begin_26 : decode cX2_begin 26 = .ok (.iload_n 2, 1) := dk_28 (dk_at dksX2_begin_1 3 rfl rfl)
theorem dX2_begin_27 : decode cX2_begin 27 = .ok (.iload_n 3, 1) := dk_29 (dk_at dksX2_begin_1 4 rfl rfl)
theorem dX2_begin_28 : decode cX2_begin 28 = .ok (.ifCond .eq 20, 3) := dk_153 0 20 (dk_at dksX2_begin_1 5 rfl rfl)
theorem dX2_begin_31 : decode cX2_begin 31 = .ok (.aload_n 1, 1) := dk_43 (dk_at dksX2_begin_1 8 rfl rfl)
theorem dX2_begin_32 : decode cX2_begin 32 = .ok (.getfield 46, 3) := dk_180 0 46 (dk_at dksX2_begin_1 9 rfl rfl)
theorem dX2_begin_35 : decode cX2_begin 35 = .ok (.iload_n 2, 1) := dk_28 (dk_at dksX2_begin_1 12 rfl rfl)
theorem dX2_begin_36 : decode cX2_begin 36 = .ok (.invokevirtual 49, 3) := dk_182 0 49 (dk_at dksX2_begin_1 13 rfl rfl)
theorem dX2_begin_39 : decode cX2_begin 39 = .ok (.checkcast 55, 3) := dk_192 0 55 (dk_at dksX2_begin_1 16 rfl rfl)
theorem dX2_begin_42 : decode cX2_begin 42 = .ok (.getfield 57, 3) := dk_180 0 57 (dk_at dksX2_begin_1 19 rfl rfl)
theorem dX2_begin_45 : decode cX2_begin 45 = .ok (.goto 4, 3) := dk_167 0 4 (dk_at dksX2_begin_2 0 rfl rfl)
theorem dX2_begin_48 : decode cX2_begin 48 = .ok (.iconst 0, 1) := dk_3 (dk_at dksX2_begin_2 3 rfl rfl)
theorem dX2_begin_49 : decode cX2_begin 49 = .ok (.iastore, 1) := dk_79 (dk_at dksX2_begin_2 4 rfl rfl)
theorem dX2_begin_50 : decode cX2_begin 50 = .ok (.aload_n 0, 1) := dk_42 (dk_at dksX2_begin_2 5 rfl rfl)
theorem dX2_begin_51 : decode cX2_begin 51 = .ok (.getfield 15, 3) := dk_180 0 15 (dk_at dksX2_begin_2 6 rfl rfl)
theorem dX2_begin_54 : decode cX2_begin 54 = .ok (.iload_n 2, 1) := dk_28 (dk_at dksX2_begin_2 9 rfl rfl)
theorem dX2_begin_55 : decode cX2_begin 55 = .ok (.iload_n 3, 1) := dk_29 (dk_at dksX2_begin_2 10 rfl rfl)
theorem dX2_begin_56 : decode cX2_begin 56 = .ok (.ifCond .eq 20, 3) := dk_153 0 20 (dk_at dksX2_begin_2 11 rfl rfl)
theorem dX2_begin_59 : decode cX2_begin 59 = .ok (.aload_n 1, 1) := dk_43 (dk_at dksX2_begin_2 14 rfl rfl)
theorem dX2_begin_60 : decode cX2_begin 60 = .ok (.getfield 46, 3) := dk_180 0 46 (dk_at dksX2_begin_2 15 rfl rfl)
theorem dX2_begin_63 : decode cX2_begin 63 = .ok (.iload_n 2, 1) := dk_28 (dk_at dksX2_begin_2 18 rfl rfl)
theorem dX2_begin_64 : decode cX2_begin 64 = .ok (.invokevirtual 49, 3) := dk_182 0 49 (dk_at dksX2_begin_2 19 rfl rfl)
theorem dX2_begin_67 : decode cX2_begin 67 = .ok (.checkcast 55, 3) := dk_192 0 55 (dk_at dksX2_begin_3 0 rfl rfl)
theorem dX2_begin_70 : decode cX2_begin 70 = .ok (.getfield 60, 3) := dk_180 0 60 (dk_at dksX2_begin_3 3 rfl rfl)
theorem dX2_begin_73 : decode cX2_begin 73 = .ok (.goto 4, 3) := dk_167 0 4 (dk_at dksX2_begin_3 6 rfl rfl)
theorem dX2_begin_76 : decode cX2_begin 76 = .ok (.iconst 0, 1) := dk_3 (dk_at dksX2_begin_3 9 rfl rfl)
theorem dX2_begin_77 : decode cX2_begin 77 = .ok (.iastore, 1) := dk_79 (dk_at dksX2_begin_3 10 rfl rfl)
theorem dX2_begin_78 : decode cX2_begin 78 = .ok (.aload_n 0, 1) := dk_42 (dk_at dksX2_begin_3 11 rfl rfl)
theorem dX2_begin_79 : decode cX2_begin 79 = .ok (.getfield 18, 3) := dk_180 0 18 (dk_at dksX2_begin_3 12 rfl rfl)
theorem dX2_begin_82 : decode cX2_begin 82 = .ok (.iload_n 2, 1) := dk_28 (dk_at dksX2_begin_3 15 rfl rfl)
theorem dX2_begin_83 : decode cX2_begin 83 = .ok (.iload_n 3, 1) := dk_29 (dk_at dksX2_begin_3 16 rfl rfl)
theorem dX2_begin_84 : decode cX2_begin 84 = .ok (.ifCond .eq 20, 3) := dk_153 0 20 (dk_at dksX2_begin_3 17 rfl rfl)
theorem dX2_begin_87 : decode cX2_begin 87 = .ok (.aload_n 1, 1) := dk_43 (dk_at dksX2_begin_3 20 rfl rfl)
theorem dX2_begin_88 : decode cX2_begin 88 = .ok (.getfield 46, 3) := dk_180 0 46 (dk_at dksX2_begin_3 21 rfl rfl)
theorem dX2_begin_91 : decode cX2_begin 91 = .ok (.iload_n 2, 1) := dk_28 (dk_at dksX2_begin_4 0 rfl rfl)
theorem dX2_begin_92 : decode cX2_begin 92 = .ok (.invokevirtual 49, 3) := dk_182 0 49 (dk_at dksX2_begin_4 1 rfl rfl)
theorem dX2_begin_95 : decode cX2_begin 95 = .ok (.checkcast 55, 3) := dk_192 0 55 (dk_at dksX2_begin_4 4 rfl rfl)
theorem dX2_begin_98 : decode cX2_begin 98 = .ok (.getfield 62, 3) := dk_180 0 62 (dk_at dksX2_begin_4 7 rfl rfl)
theorem dX2_begin_101 : decode cX2_begin 101 = .ok (.goto 4, 3) := dk_167 0 4 (dk_at dksX2_begin_4 10 rfl rfl)
theorem dX2_begin_104 : decode cX2_begin 104 = .ok (.iconst 0, 1) := dk_3 (dk_at dksX2_begin_4 13 rfl rfl)
theorem dX2_begin_105 : decode cX2_begin 105 = .ok (.iastore, 1) := dk_79 (dk_at dksX2_begin_4 14 rfl rfl)
theorem dX2_begin_106 : decode cX2_begin 106 = .ok (.aload_n 0, 1) := dk_42 (dk_at dksX2_begin_4 15 rfl rfl)
theorem dX2_begin_107 : decode cX2_begin 107 = .ok (.getfield 21, 3) := dk_180 0 21 (dk_at dksX2_begin_4 16 rfl rfl)
theorem dX2_begin_110 : decode cX2_begin 110 = .ok (.iload_n 2, 1) := dk_28 (dk_at dksX2_begin_4 19 rfl rfl)
theorem dX2_begin_111 : decode cX2_begin 111 = .ok (.iconst 0, 1) := dk_3 (dk_at dksX2_begin_4 20 rfl rfl)
theorem dX2_begin_112 : decode cX2_begin 112 = .ok (.iastore, 1) := dk_79 (dk_at dksX2_begin_4 21 rfl rfl)
theorem dX2_begin_113 : decode cX2_begin 113 = .ok (.aload_n 0, 1) := dk_42 (dk_at dksX2_begin_4 22 rfl rfl)
theorem dX2_begin_114 : decode cX2_begin 114 = .ok (.getfield 24, 3) := dk_180 0 24 (dk_at dksX2_begin_5 0 rfl rfl)
theorem dX2_begin_117 : decode cX2_begin 117 = .ok (.iload_n 2, 1) := dk_28 (dk_at dksX2_begin_5 3 rfl rfl)
theorem dX2_begin_118 : decode cX2_begin 118 = .ok (.iconst 0, 1) := dk_3 (dk_at dksX2_begin_5 4 rfl rfl)
theorem dX2_begin_119 : decode cX2_begin 119 = .ok (.iastore, 1) := dk_79 (dk_at dksX2_begin_5 5 rfl rfl)
theorem dX2_begin_120 : decode cX2_begin 120 = .ok (.aload_n 0, 1) := dk_42 (dk_at dksX2_begin_5 6 rfl rfl)
theorem dX2_begin_121 : decode cX2_begin 121 = .ok (.getfield 27, 3) := dk_180 0 27 (dk_at dksX2_begin_5 7 rfl rfl)
theorem dX2_begin_124 : decode cX2_begin 124 = .ok (.iload_n 2, 1) := dk_28 (dk_at dksX2_begin_5 10 rfl rfl)
theorem dX2_begin_125 : decode cX2_begin 125 = .ok (.sipush (-1000), 3) := dk_17 252 24 (dk_at dksX2_begin_5 11 rfl rfl)
theorem dX2_begin_128 : decode cX2_begin 128 = .ok (.iastore, 1) := dk_79 (dk_at dksX2_begin_5 14 rfl rfl)
theorem dX2_begin_129 : decode cX2_begin 129 = .ok (.iinc 2 1, 3) := dk_132 2 1 (dk_at dksX2_begin_5 15 rfl rfl)
theorem dX2_begin_132 : decode cX2_begin 132 = .ok (.goto (-130), 3) := dk_167 255 126 (dk_at dksX2_begin_5 18 rfl rfl)
theorem dX2_begin_135 : decode cX2_begin 135 = .ok (.iconst 0, 1) := dk_3 (dk_at dksX2_begin_5 21 rfl rfl)
theorem dX2_begin_136 : decode cX2_begin 136 = .ok (.istore_n 2, 1) := dk_61 (dk_at dksX2_begin_5 22 rfl rfl)
theorem dX2_begin_137 : decode cX2_begin 137 = .ok (.iload_n 2, 1) := dk_28 (dk_at dksX2_begin_5 23 rfl rfl)
theorem dX2_begin_138 : decode cX2_begin 138 = .ok (.bipush 12, 2) := dk_16 12 (dk_at dksX2_begin_6 0 rfl rfl)
theorem dX2_begin_140 : decode cX2_begin 140 = .ok (.if_icmp .ge 21, 3) := dk_162 0 21 (dk_at dksX2_begin_6 2 rfl rfl)
theorem dX2_begin_143 : decode cX2_begin 143 = .ok (.aload_n 0, 1) := dk_42 (dk_at dksX2_begin_6 5 rfl rfl)
theorem dX2_begin_144 : decode cX2_begin 144 = .ok (.getfield 30, 3) := dk_180 0 30 (dk_at dksX2_begin_6 6 rfl rfl)
theorem dX2_begin_147 : decode cX2_begin 147 = .ok (.iload_n 2, 1) := dk_28 (dk_at dksX2_begin_6 9 rfl rfl)
theorem dX2_begin_148 : decode cX2_begin 148 = .ok (.aload_n 1, 1) := dk_43 (dk_at dksX2_begin_6 10 rfl rfl)
theorem dX2_begin_149 : decode cX2_begin 149 = .ok (.getfield 64, 3) := dk_180 0 64 (dk_at dksX2_begin_6 11 rfl rfl)
theorem dX2_begin_152 : decode cX2_begin 152 = .ok (.iload_n 2, 1) := dk_28 (dk_at dksX2_begin_6 14 rfl rfl)
theorem dX2_begin_153 : decode cX2_begin 153 = .ok (.iaload, 1) := dk_46 (dk_at dksX2_begin_6 15 rfl rfl)
theorem dX2_begin_154 : decode cX2_begin 154 = .ok (.iastore, 1) := dk_79 (dk_at dksX2_begin_6 16 rfl rfl)
theorem dX2_begin_155 : decode cX2_begin 155 = .ok (.iinc 2 1, 3) := dk_132 2 1 (dk_at dksX2_begin_6 17 rfl rfl)
theorem dX2_begin_158 : decode cX2_begin 158 = .ok (.goto (-21), 3) := dk_167 255 235 (dk_at dksX2_begin_6 20 rfl rfl)
theorem dX2_begin_161 : decode cX2_begin 161 = .ok (.aload_n 0, 1) := dk_42 (dk_at dksX2_begin_6 23 rfl rfl)
theorem dX2_begin_162 : decode cX2_begin 162 = .ok (.iconst 0, 1) := dk_3 (dk_at dksX2_begin_7 0 rfl rfl)
theorem dX2_begin_163 : decode cX2_begin 163 = .ok (.putfield 33, 3) := dk_181 0 33 (dk_at dksX2_begin_7 1 rfl rfl)
theorem dX2_begin_166 : decode cX2_begin 166 = .ok (.aload_n 0, 1) := dk_42 (dk_at dksX2_begin_7 4 rfl rfl)
theorem dX2_begin_167 : decode cX2_begin 167 = .ok (.iconst 0, 1) := dk_3 (dk_at dksX2_begin_7 5 rfl rfl)
theorem dX2_begin_168 : decode cX2_begin 168 = .ok (.putfield 37, 3) := dk_181 0 37 (dk_at dksX2_begin_7 6 rfl rfl)
theorem dX2_begin_171 : decode cX2_begin 171 = .ok (.return_, 1) := dk_177 (dk_at dksX2_begin_7 9 rfl rfl)
abbrev cX2_since : ByteArray := prog_14_method_5_code
def yX2_since : MethodName := ⟨RX2, "since", "(I)I"⟩
def dkwX2_since_0 : List UInt8 := [16, 99, 42, 180, 0, 37, 42, 180, 0, 27, 27, 46, 100, 184, 0, 78, 172]
abbrev dktX2_since_0 : List UInt8 := dkwX2_since_0 ++ []
theorem dksX2_since_0 : cX2_since.data.toList.drop 0 = dktX2_since_0 := by decide +kernel
theorem dX2_since_0 : decode cX2_since 0 = .ok (.bipush 99, 2) := dk_16 99 (dk_at dksX2_since_0 0 rfl rfl)
theorem dX2_since_2 : decode cX2_since 2 = .ok (.aload_n 0, 1) := dk_42 (dk_at dksX2_since_0 2 rfl rfl)
theorem dX2_since_3 : decode cX2_since 3 = .ok (.getfield 37, 3) := dk_180 0 37 (dk_at dksX2_since_0 3 rfl rfl)
theorem dX2_since_6 : decode cX2_since 6 = .ok (.aload_n 0, 1) := dk_42 (dk_at dksX2_since_0 6 rfl rfl)
theorem dX2_since_7 : decode cX2_since 7 = .ok (.getfield 27, 3) := dk_180 0 27 (dk_at dksX2_since_0 7 rfl rfl)
theorem dX2_since_10 : decode cX2_since 10 = .ok (.iload_n 1, 1) := dk_27 (dk_at dksX2_since_0 10 rfl rfl)
theorem dX2_since_11 : decode cX2_since 11 = .ok (.iaload, 1) := dk_46 (dk_at dksX2_since_0 11 rfl rfl)
theorem dX2_since_12 : decode cX2_since 12 = .ok (.isub, 1) := dk_100 (dk_at dksX2_since_0 12 rfl rfl)
theorem dX2_since_13 : decode cX2_since 13 = .ok (.invokestatic 78, 3) := dk_184 0 78 (dk_at dksX2_since_0 13 rfl rfl)
theorem dX2_since_16 : decode cX2_since 16 = .ok (.ireturn, 1) := dk_172 (dk_at dksX2_since_0 16 rfl rfl)
abbrev cX2_copyFrom : ByteArray := prog_14_method_2_code
def yX2_copyFrom : MethodName := ⟨RX2, "copyFrom", "(LDutyBeats$State;)V"⟩
def dkwX2_copyFrom_5 : List UInt8 := [181, 0, 33, 42, 43, 180, 0, 37, 181, 0, 37, 177]
abbrev dktX2_copyFrom_5 : List UInt8 := dkwX2_copyFrom_5 ++ []
def dkwX2_copyFrom_4 : List UInt8 := [180, 0, 30, 28, 43, 180, 0, 30, 28, 46, 79, 132, 2, 1, 167, 255, 235, 42, 43, 180, 0, 33]
abbrev dktX2_copyFrom_4 : List UInt8 := dkwX2_copyFrom_4 ++ dktX2_copyFrom_5
def dkwX2_copyFrom_3 : List UInt8 := [28, 43, 180, 0, 27, 28, 46, 79, 132, 2, 1, 167, 255, 175, 3, 61, 28, 16, 12, 162, 0, 21, 42]
abbrev dktX2_copyFrom_3 : List UInt8 := dkwX2_copyFrom_3 ++ dktX2_copyFrom_4
def dkwX2_copyFrom_2 : List UInt8 := [28, 43, 180, 0, 21, 28, 46, 79, 42, 180, 0, 24, 28, 43, 180, 0, 24, 28, 46, 79, 42, 180, 0, 27]
abbrev dktX2_copyFrom_2 : List UInt8 := dkwX2_copyFrom_2 ++ dktX2_copyFrom_3
def dkwX2_copyFrom_1 : List UInt8 := [28, 43, 180, 0, 15, 28, 46, 79, 42, 180, 0, 18, 28, 43, 180, 0, 18, 28, 46, 79, 42, 180, 0, 21]
abbrev dktX2_copyFrom_1 : List UInt8 := dkwX2_copyFrom_1 ++ dktX2_copyFrom_2
def dkwX2_copyFrom_0 : List UInt8 := [3, 61, 28, 16, 6, 162, 0, 81, 42, 180, 0, 9, 28, 43, 180, 0, 9, 28, 46, 79, 42, 180, 0, 15]
abbrev dktX2_copyFrom_0 : List UInt8 := dkwX2_copyFrom_0 ++ dktX2_copyFrom_1
theorem dksX2_copyFrom_0 : cX2_copyFrom.data.toList.drop 0 = dktX2_copyFrom_0 := by decide +kernel
theorem dksX2_copyFrom_1 : cX2_copyFrom.data.toList.drop 24 = dktX2_copyFrom_1 := dk_seg dksX2_copyFrom_0 24 rfl rfl
theorem dksX2_copyFrom_2 : cX2_copyFrom.data.toList.drop 48 = dktX2_copyFrom_2 := dk_seg dksX2_copyFrom_1 24 rfl rfl
theorem dksX2_copyFrom_3 : cX2_copyFrom.data.toList.drop 72 = dktX2_copyFrom_3 := dk_seg dksX2_copyFrom_2 24 rfl rfl
theorem dksX2_copyFrom_4 : cX2_copyFrom.data.toList.drop 95 = dktX2_copyFrom_4 := dk_seg dksX2_copyFrom_3 23 rfl rfl
theorem dksX2_copyFrom_5 : cX2_copyFrom.data.toList.drop 117 = dktX2_copyFrom_5 := dk_seg dksX2_copyFrom_4 22 rfl rfl
theorem dX2_copyFrom_0 : decode cX2_copyFrom 0 = .ok (.iconst 0, 1) := dk_3 (dk_at dksX2_copyFrom_0 0 rfl rfl)
theorem dX2_copyFrom_1 : decode cX2_copyFrom 1 = .ok (.istore_n 2, 1) := dk_61 (dk_at dksX2_copyFrom_0 1 rfl rfl)
theorem dX2_copyFrom_2 : decode cX2_copyFrom 2 = .ok (.iload_n 2, 1) := dk_28 (dk_at dksX2_copyFrom_0 2 rfl rfl)
theorem dX2_copyFrom_3 : decode cX2_copyFrom 3 = .ok (.bipush 6, 2) := dk_16 6 (dk_at dksX2_copyFrom_0 3 rfl rfl)
theorem dX2_copyFrom_5 : decode cX2_copyFrom 5 = .ok (.if_icmp .ge 81, 3) := dk_162 0 81 (dk_at dksX2_copyFrom_0 5 rfl rfl)
theorem dX2_copyFrom_8 : decode cX2_copyFrom 8 = .ok (.aload_n 0, 1) := dk_42 (dk_at dksX2_copyFrom_0 8 rfl rfl)
theorem dX2_copyFrom_9 : decode cX2_copyFrom 9 = .ok (.getfield 9, 3) := dk_180 0 9 (dk_at dksX2_copyFrom_0 9 rfl rfl)
theorem dX2_copyFrom_12 : decode cX2_copyFrom 12 = .ok (.iload_n 2, 1) := dk_28 (dk_at dksX2_copyFrom_0 12 rfl rfl)
theorem dX2_copyFrom_13 : decode cX2_copyFrom 13 = .ok (.aload_n 1, 1) := dk_43 (dk_at dksX2_copyFrom_0 13 rfl rfl)
theorem dX2_copyFrom_14 : decode cX2_copyFrom 14 = .ok (.getfield 9, 3) := dk_180 0 9 (dk_at dksX2_copyFrom_0 14 rfl rfl)
theorem dX2_copyFrom_17 : decode cX2_copyFrom 17 = .ok (.iload_n 2, 1) := dk_28 (dk_at dksX2_copyFrom_0 17 rfl rfl)
theorem dX2_copyFrom_18 : decode cX2_copyFrom 18 = .ok (.iaload, 1) := dk_46 (dk_at dksX2_copyFrom_0 18 rfl rfl)
theorem dX2_copyFrom_19 : decode cX2_copyFrom 19 = .ok (.iastore, 1) := dk_79 (dk_at dksX2_copyFrom_0 19 rfl rfl)
theorem dX2_copyFrom_20 : decode cX2_copyFrom 20 = .ok (.aload_n 0, 1) := dk_42 (dk_at dksX2_copyFrom_0 20 rfl rfl)
theorem dX2_copyFrom_21 : decode cX2_copyFrom 21 = .ok (.getfield 15, 3) := dk_180 0 15 (dk_at dksX2_copyFrom_0 21 rfl rfl)
theorem dX2_copyFrom_24 : decode cX2_copyFrom 24 = .ok (.iload_n 2, 1) := dk_28 (dk_at dksX2_copyFrom_1 0 rfl rfl)
theorem dX2_copyFrom_25 : decode cX2_copyFrom 25 = .ok (.aload_n 1, 1) := dk_43 (dk_at dksX2_copyFrom_1 1 rfl rfl)
theorem dX2_copyFrom_26 : decode cX2_copyFrom 26 = .ok (.getfield 15, 3) := dk_180 0 15 (dk_at dksX2_copyFrom_1 2 rfl rfl)
theorem dX2_copyFrom_29 : decode cX2_copyFrom 29 = .ok (.iload_n 2, 1) := dk_28 (dk_at dksX2_copyFrom_1 5 rfl rfl)
theorem dX2_copyFrom_30 : decode cX2_copyFrom 30 = .ok (.iaload, 1) := dk_46 (dk_at dksX2_copyFrom_1 6 rfl rfl)
theorem dX2_copyFrom_31 : decode cX2_copyFrom 31 = .ok (.iastore, 1) := dk_79 (dk_at dksX2_copyFrom_1 7 rfl rfl)
theorem dX2_copyFrom_32 : decode cX2_copyFrom 32 = .ok (.aload_n 0, 1) := dk_42 (dk_at dksX2_copyFrom_1 8 rfl rfl)
theorem dX2_copyFrom_33 : decode cX2_copyFrom 33 = .ok (.getfield 18, 3) := dk_180 0 18 (dk_at dksX2_copyFrom_1 9 rfl rfl)
theorem dX2_copyFrom_36 : decode cX2_copyFrom 36 = .ok (.iload_n 2, 1) := dk_28 (dk_at dksX2_copyFrom_1 12 rfl rfl)
theorem dX2_copyFrom_37 : decode cX2_copyFrom 37 = .ok (.aload_n 1, 1) := dk_43 (dk_at dksX2_copyFrom_1 13 rfl rfl)
theorem dX2_copyFrom_38 : decode cX2_copyFrom 38 = .ok (.getfield 18, 3) := dk_180 0 18 (dk_at dksX2_copyFrom_1 14 rfl rfl)
theorem dX2_copyFrom_41 : decode cX2_copyFrom 41 = .ok (.iload_n 2, 1) := dk_28 (dk_at dksX2_copyFrom_1 17 rfl rfl)
theorem dX2_copyFrom_42 : decode cX2_copyFrom 42 = .ok (.iaload, 1) := dk_46 (dk_at dksX2_copyFrom_1 18 rfl rfl)
theorem dX2_copyFrom_43 : decode cX2_copyFrom 43 = .ok (.iastore, 1) := dk_79 (dk_at dksX2_copyFrom_1 19 rfl rfl)
theorem dX2_copyFrom_44 : decode cX2_copyFrom 44 = .ok (.aload_n 0, 1) := dk_42 (dk_at dksX2_copyFrom_1 20 rfl rfl)
theorem dX2_copyFrom_45 : decode cX2_copyFrom 45 = .ok (.getfield 21, 3) := dk_180 0 21 (dk_at dksX2_copyFrom_1 21 rfl rfl)
theorem dX2_copyFrom_48 : decode cX2_copyFrom 48 = .ok (.iload_n 2, 1) := dk_28 (dk_at dksX2_copyFrom_2 0 rfl rfl)
theorem dX2_copyFrom_49 : decode cX2_copyFrom 49 = .ok (.aload_n 1, 1) := dk_43 (dk_at dksX2_copyFrom_2 1 rfl rfl)
theorem dX2_copyFrom_50 : decode cX2_copyFrom 50 = .ok (.getfield 21, 3) := dk_180 0 21 (dk_at dksX2_copyFrom_2 2 rfl rfl)
theorem dX2_copyFrom_53 : decode cX2_copyFrom 53 = .ok (.iload_n 2, 1) := dk_28 (dk_at dksX2_copyFrom_2 5 rfl rfl)
theorem dX2_copyFrom_54 : decode cX2_copyFrom 54 = .ok (.iaload, 1) := dk_46 (dk_at dksX2_copyFrom_2 6 rfl rfl)
theorem dX2_copyFrom_55 : decode cX2_copyFrom 55 = .ok (.iastore, 1) := dk_79 (dk_at dksX2_copyFrom_2 7 rfl rfl)
theorem dX2_copyFrom_56 : decode cX2_copyFrom 56 = .ok (.aload_n 0, 1) := dk_42 (dk_at dksX2_copyFrom_2 8 rfl rfl)
theorem dX2_copyFrom_57 : decode cX2_copyFrom 57 = .ok (.getfield 24, 3) := dk_180 0 24 (dk_at dksX2_copyFrom_2 9 rfl rfl)
theorem dX2_copyFrom_60 : decode cX2_copyFrom 60 = .ok (.iload_n 2, 1) := dk_28 (dk_at dksX2_copyFrom_2 12 rfl rfl)
theorem dX2_copyFrom_61 : decode cX2_copyFrom 61 = .ok (.aload_n 1, 1) := dk_43 (dk_at dksX2_copyFrom_2 13 rfl rfl)
theorem dX2_copyFrom_62 : decode cX2_copyFrom 62 = .ok (.getfield 24, 3) := dk_180 0 24 (dk_at dksX2_copyFrom_2 14 rfl rfl)
theorem dX2_copyFrom_65 : decode cX2_copyFrom 65 = .ok (.iload_n 2, 1) := dk_28 (dk_at dksX2_copyFrom_2 17 rfl rfl)
theorem dX2_copyFrom_66 : decode cX2_copyFrom 66 = .ok (.iaload, 1) := dk_46 (dk_at dksX2_copyFrom_2 18 rfl rfl)
theorem dX2_copyFrom_67 : decode cX2_copyFrom 67 = .ok (.iastore, 1) := dk_79 (dk_at dksX2_copyFrom_2 19 rfl rfl)
theorem dX2_copyFrom_68 : decode cX2_copyFrom 68 = .ok (.aload_n 0, 1) := dk_42 (dk_at dksX2_copyFrom_2 20 rfl rfl)
theorem dX2_copyFrom_69 : decode cX2_copyFrom 69 = .ok (.getfield 27, 3) := dk_180 0 27 (dk_at dksX2_copyFrom_2 21 rfl rfl)
theorem dX2_copyFrom_72 : decode cX2_copyFrom 72 = .ok (.iload_n 2, 1) := dk_28 (dk_at dksX2_copyFrom_3 0 rfl rfl)
theorem dX2_copyFrom_73 : decode cX2_copyFrom 73 = .ok (.aload_n 1, 1) := dk_43 (dk_at dksX2_copyFrom_3 1 rfl rfl)
theorem dX2_copyFrom_74 : decode cX2_copyFrom 74 = .ok (.getfield 27, 3) := dk_180 0 27 (dk_at dksX2_copyFrom_3 2 rfl rfl)
theorem dX2_copyFrom_77 : decode cX2_copyFrom 77 = .ok (.iload_n 2, 1) := dk_28 (dk_at dksX2_copyFrom_3 5 rfl rfl)
theorem dX2_copyFrom_78 : decode cX2_copyFrom 78 = .ok (.iaload, 1) := dk_46 (dk_at dksX2_copyFrom_3 6 rfl rfl)
theorem dX2_copyFrom_79 : decode cX2_copyFrom 79 = .ok (.iastore, 1) := dk_79 (dk_at dksX2_copyFrom_3 7 rfl rfl)
theorem dX2_copyFrom_80 : decode cX2_copyFrom 80 = .ok (.iinc 2 1, 3) := dk_132 2 1 (dk_at dksX2_copyFrom_3 8 rfl rfl)
theorem dX2_copyFrom_83 : decode cX2_copyFrom 83 = .ok (.goto (-81), 3) := dk_167 255 175 (dk_at dksX2_copyFrom_3 11 rfl rfl)
theorem dX2_copyFrom_86 : decode cX2_copyFrom 86 = .ok (.iconst 0, 1) := dk_3 (dk_at dksX2_copyFrom_3 14 rfl rfl)
theorem dX2_copyFrom_87 : decode cX2_copyFrom 87 = .ok (.istore_n 2, 1) := dk_61 (dk_at dksX2_copyFrom_3 15 rfl rfl)
theorem dX2_copyFrom_88 : decode cX2_copyFrom 88 = .ok (.iload_n 2, 1) := dk_28 (dk_at dksX2_copyFrom_3 16 rfl rfl)
theorem dX2_copyFrom_89 : decode cX2_copyFrom 89 = .ok (.bipush 12, 2) := dk_16 12 (dk_at dksX2_copyFrom_3 17 rfl rfl)
theorem dX2_copyFrom_91 : decode cX2_copyFrom 91 = .ok (.if_icmp .ge 21, 3) := dk_162 0 21 (dk_at dksX2_copyFrom_3 19 rfl rfl)
theorem dX2_copyFrom_94 : decode cX2_copyFrom 94 = .ok (.aload_n 0, 1) := dk_42 (dk_at dksX2_copyFrom_3 22 rfl rfl)
theorem dX2_copyFrom_95 : decode cX2_copyFrom 95 = .ok (.getfield 30, 3) := dk_180 0 30 (dk_at dksX2_copyFrom_4 0 rfl rfl)
theorem dX2_copyFrom_98 : decode cX2_copyFrom 98 = .ok (.iload_n 2, 1) := dk_28 (dk_at dksX2_copyFrom_4 3 rfl rfl)
theorem dX2_copyFrom_99 : decode cX2_copyFrom 99 = .ok (.aload_n 1, 1) := dk_43 (dk_at dksX2_copyFrom_4 4 rfl rfl)
theorem dX2_copyFrom_100 : decode cX2_copyFrom 100 = .ok (.getfield 30, 3) := dk_180 0 30 (dk_at dksX2_copyFrom_4 5 rfl rfl)
theorem dX2_copyFrom_103 : decode cX2_copyFrom 103 = .ok (.iload_n 2, 1) := dk_28 (dk_at dksX2_copyFrom_4 8 rfl rfl)
theorem dX2_copyFrom_104 : decode cX2_copyFrom 104 = .ok (.iaload, 1) := dk_46 (dk_at dksX2_copyFrom_4 9 rfl rfl)
theorem dX2_copyFrom_105 : decode cX2_copyFrom 105 = .ok (.iastore, 1) := dk_79 (dk_at dksX2_copyFrom_4 10 rfl rfl)
theorem dX2_copyFrom_106 : decode cX2_copyFrom 106 = .ok (.iinc 2 1, 3) := dk_132 2 1 (dk_at dksX2_copyFrom_4 11 rfl rfl)
theorem dX2_copyFrom_109 : decode cX2_copyFrom 109 = .ok (.goto (-21), 3) := dk_167 255 235 (dk_at dksX2_copyFrom_4 14 rfl rfl)
theorem dX2_copyFrom_112 : decode cX2_copyFrom 112 = .ok (.aload_n 0, 1) := dk_42 (dk_at dksX2_copyFrom_4 17 rfl rfl)
theorem dX2_copyFrom_113 : decode cX2_copyFrom 113 = .ok (.aload_n 1, 1) := dk_43 (dk_at dksX2_copyFrom_4 18 rfl rfl)
theorem dX2_copyFrom_114 : decode cX2_copyFrom 114 = .ok (.getfield 33, 3) := dk_180 0 33 (dk_at dksX2_copyFrom_4 19 rfl rfl)
theorem dX2_copyFrom_117 : decode cX2_copyFrom 117 = .ok (.putfield 33, 3) := dk_181 0 33 (dk_at dksX2_copyFrom_5 0 rfl rfl)
theorem dX2_copyFrom_120 : decode cX2_copyFrom 120 = .ok (.aload_n 0, 1) := dk_42 (dk_at dksX2_copyFrom_5 3 rfl rfl)
theorem dX2_copyFrom_121 : decode cX2_copyFrom 121 = .ok (.aload_n 1, 1) := dk_43 (dk_at dksX2_copyFrom_5 4 rfl rfl)
theorem dX2_copyFrom_122 : decode cX2_copyFrom 122 = .ok (.getfield 37, 3) := dk_180 0 37 (dk_at dksX2_copyFrom_5 5 rfl rfl)
theorem dX2_copyFrom_125 : decode cX2_copyFrom 125 = .ok (.putfield 37, 3) := dk_181 0 37 (dk_at dksX2_copyFrom_5 8 rfl rfl)
theorem dX2_copyFrom_128 : decode cX2_copyFrom 128 = .ok (.return_, 1) := dk_177 (dk_at dksX2_copyFrom_5 11 rfl rfl)
abbrev cX2_comes : ByteArray := prog_14_method_6_code
def yX2_comes : MethodName := ⟨RX2, "comes", "(II)V"⟩
def dkwX2_comes_0 : List UInt8 := [42, 180, 0, 9, 27, 17, 3, 231, 42, 180, 0, 9, 27, 46, 28, 96, 184, 0, 78, 79, 177]
abbrev dktX2_comes_0 : List UInt8 := dkwX2_comes_0 ++ []
theorem dksX2_comes_0 : cX2_comes.data.toList.drop 0 = dktX2_comes_0 := by decide +kernel
theorem dX2_comes_0 : decode cX2_comes 0 = .ok (.aload_n 0, 1) := dk_42 (dk_at dksX2_comes_0 0 rfl rfl)
theorem dX2_comes_1 : decode cX2_comes 1 = .ok (.getfield 9, 3) := dk_180 0 9 (dk_at dksX2_comes_0 1 rfl rfl)
theorem dX2_comes_4 : decode cX2_comes 4 = .ok (.iload_n 1, 1) := dk_27 (dk_at dksX2_comes_0 4 rfl rfl)
theorem dX2_comes_5 : decode cX2_comes 5 = .ok (.sipush 999, 3) := dk_17 3 231 (dk_at dksX2_comes_0 5 rfl rfl)
theorem dX2_comes_8 : decode cX2_comes 8 = .ok (.aload_n 0, 1) := dk_42 (dk_at dksX2_comes_0 8 rfl rfl)
theorem dX2_comes_9 : decode cX2_comes 9 = .ok (.getfield 9, 3) := dk_180 0 9 (dk_at dksX2_comes_0 9 rfl rfl)
theorem dX2_comes_12 : decode cX2_comes 12 = .ok (.iload_n 1, 1) := dk_27 (dk_at dksX2_comes_0 12 rfl rfl)
theorem dX2_comes_13 : decode cX2_comes 13 = .ok (.iaload, 1) := dk_46 (dk_at dksX2_comes_0 13 rfl rfl)
theorem dX2_comes_14 : decode cX2_comes 14 = .ok (.iload_n 2, 1) := dk_28 (dk_at dksX2_comes_0 14 rfl rfl)
theorem dX2_comes_15 : decode cX2_comes 15 = .ok (.iadd, 1) := dk_96 (dk_at dksX2_comes_0 15 rfl rfl)
theorem dX2_comes_16 : decode cX2_comes 16 = .ok (.invokestatic 78, 3) := dk_184 0 78 (dk_at dksX2_comes_0 16 rfl rfl)
theorem dX2_comes_19 : decode cX2_comes 19 = .ok (.iastore, 1) := dk_79 (dk_at dksX2_comes_0 19 rfl rfl)
theorem dX2_comes_20 : decode cX2_comes 20 = .ok (.return_, 1) := dk_177 (dk_at dksX2_comes_0 20 rfl rfl)
abbrev cX2_sound : ByteArray := prog_14_method_4_code
def yX2_sound : MethodName := ⟨RX2, "sound", "(I)I"⟩
def dkwX2_sound_3 : List UInt8 := [167, 255, 188, 28, 172]
abbrev dktX2_sound_3 : List UInt8 := dkwX2_sound_3 ++ []
def dkwX2_sound_2 : List UInt8 := [46, 42, 180, 0, 18, 21, 4, 46, 100, 184, 0, 72, 46, 96, 61, 132, 4, 1, 167, 255, 205, 132, 3, 1]
abbrev dktX2_sound_2 : List UInt8 := dkwX2_sound_2 ++ dktX2_sound_3
def dkwX2_sound_1 : List UInt8 := [184, 0, 65, 153, 0, 36, 27, 21, 4, 184, 0, 65, 153, 0, 27, 28, 178, 0, 69, 42, 180, 0, 18, 29]
abbrev dktX2_sound_1 : List UInt8 := dkwX2_sound_1 ++ dktX2_sound_2
def dkwX2_sound_0 : List UInt8 := [3, 61, 3, 62, 29, 16, 6, 162, 0, 68, 29, 4, 96, 54, 4, 21, 4, 16, 6, 162, 0, 50, 27, 29]
abbrev dktX2_sound_0 : List UInt8 := dkwX2_sound_0 ++ dktX2_sound_1
theorem dksX2_sound_0 : cX2_sound.data.toList.drop 0 = dktX2_sound_0 := by decide +kernel
theorem dksX2_sound_1 : cX2_sound.data.toList.drop 24 = dktX2_sound_1 := dk_seg dksX2_sound_0 24 rfl rfl
theorem dksX2_sound_2 : cX2_sound.data.toList.drop 48 = dktX2_sound_2 := dk_seg dksX2_sound_1 24 rfl rfl
theorem dksX2_sound_3 : cX2_sound.data.toList.drop 72 = dktX2_sound_3 := dk_seg dksX2_sound_2 24 rfl rfl
theorem dX2_sound_0 : decode cX2_sound 0 = .ok (.iconst 0, 1) := dk_3 (dk_at dksX2_sound_0 0 rfl rfl)
theorem dX2_sound_1 : decode cX2_sound 1 = .ok (.istore_n 2, 1) := dk_61 (dk_at dksX2_sound_0 1 rfl rfl)
theorem dX2_sound_2 : decode cX2_sound 2 = .ok (.iconst 0, 1) := dk_3 (dk_at dksX2_sound_0 2 rfl rfl)
theorem dX2_sound_3 : decode cX2_sound 3 = .ok (.istore_n 3, 1) := dk_62 (dk_at dksX2_sound_0 3 rfl rfl)
theorem dX2_sound_4 : decode cX2_sound 4 = .ok (.iload_n 3, 1) := dk_29 (dk_at dksX2_sound_0 4 rfl rfl)
theorem dX2_sound_5 : decode cX2_sound 5 = .ok (.bipush 6, 2) := dk_16 6 (dk_at dksX2_sound_0 5 rfl rfl)
theorem dX2_sound_7 : decode cX2_sound 7 = .ok (.if_icmp .ge 68, 3) := dk_162 0 68 (dk_at dksX2_sound_0 7 rfl rfl)
theorem dX2_sound_10 : decode cX2_sound 10 = .ok (.iload_n 3, 1) := dk_29 (dk_at dksX2_sound_0 10 rfl rfl)
theorem dX2_sound_11 : decode cX2_sound 11 = .ok (.iconst 1, 1) := dk_4 (dk_at dksX2_sound_0 11 rfl rfl)
theorem dX2_sound_12 : decode cX2_sound 12 = .ok (.iadd, 1) := dk_96 (dk_at dksX2_sound_0 12 rfl rfl)
theorem dX2_sound_13 : decode cX2_sound 13 = .ok (.istore 4, 2) := dk_54 4 (dk_at dksX2_sound_0 13 rfl rfl)
theorem dX2_sound_15 : decode cX2_sound 15 = .ok (.iload 4, 2) := dk_21 4 (dk_at dksX2_sound_0 15 rfl rfl)
theorem dX2_sound_17 : decode cX2_sound 17 = .ok (.bipush 6, 2) := dk_16 6 (dk_at dksX2_sound_0 17 rfl rfl)
theorem dX2_sound_19 : decode cX2_sound 19 = .ok (.if_icmp .ge 50, 3) := dk_162 0 50 (dk_at dksX2_sound_0 19 rfl rfl)
theorem dX2_sound_22 : decode cX2_sound 22 = .ok (.iload_n 1, 1) := dk_27 (dk_at dksX2_sound_0 22 rfl rfl)
theorem dX2_sound_23 : decode cX2_sound 23 = .ok (.iload_n 3, 1) := dk_29 (dk_at dksX2_sound_0 23 rfl rfl)
theorem dX2_sound_24 : decode cX2_sound 24 = .ok (.invokestatic 65, 3) := dk_184 0 65 (dk_at dksX2_sound_1 0 rfl rfl)
theorem dX2_sound_27 : decode cX2_sound 27 = .ok (.ifCond .eq 36, 3) := dk_153 0 36 (dk_at dksX2_sound_1 3 rfl rfl)
theorem dX2_sound_30 : decode cX2_sound 30 = .ok (.iload_n 1, 1) := dk_27 (dk_at dksX2_sound_1 6 rfl rfl)
theorem dX2_sound_31 : decode cX2_sound 31 = .ok (.iload 4, 2) := dk_21 4 (dk_at dksX2_sound_1 7 rfl rfl)
theorem dX2_sound_33 : decode cX2_sound 33 = .ok (.invokestatic 65, 3) := dk_184 0 65 (dk_at dksX2_sound_1 9 rfl rfl)
theorem dX2_sound_36 : decode cX2_sound 36 = .ok (.ifCond .eq 27, 3) := dk_153 0 27 (dk_at dksX2_sound_1 12 rfl rfl)
theorem dX2_sound_39 : decode cX2_sound 39 = .ok (.iload_n 2, 1) := dk_28 (dk_at dksX2_sound_1 15 rfl rfl)
theorem dX2_sound_40 : decode cX2_sound 40 = .ok (.getstatic 69, 3) := dk_178 0 69 (dk_at dksX2_sound_1 16 rfl rfl)
theorem dX2_sound_43 : decode cX2_sound 43 = .ok (.aload_n 0, 1) := dk_42 (dk_at dksX2_sound_1 19 rfl rfl)
theorem dX2_sound_44 : decode cX2_sound 44 = .ok (.getfield 18, 3) := dk_180 0 18 (dk_at dksX2_sound_1 20 rfl rfl)
theorem dX2_sound_47 : decode cX2_sound 47 = .ok (.iload_n 3, 1) := dk_29 (dk_at dksX2_sound_1 23 rfl rfl)
theorem dX2_sound_48 : decode cX2_sound 48 = .ok (.iaload, 1) := dk_46 (dk_at dksX2_sound_2 0 rfl rfl)
theorem dX2_sound_49 : decode cX2_sound 49 = .ok (.aload_n 0, 1) := dk_42 (dk_at dksX2_sound_2 1 rfl rfl)
theorem dX2_sound_50 : decode cX2_sound 50 = .ok (.getfield 18, 3) := dk_180 0 18 (dk_at dksX2_sound_2 2 rfl rfl)
theorem dX2_sound_53 : decode cX2_sound 53 = .ok (.iload 4, 2) := dk_21 4 (dk_at dksX2_sound_2 5 rfl rfl)
theorem dX2_sound_55 : decode cX2_sound 55 = .ok (.iaload, 1) := dk_46 (dk_at dksX2_sound_2 7 rfl rfl)
theorem dX2_sound_56 : decode cX2_sound 56 = .ok (.isub, 1) := dk_100 (dk_at dksX2_sound_2 8 rfl rfl)
theorem dX2_sound_57 : decode cX2_sound 57 = .ok (.invokestatic 72, 3) := dk_184 0 72 (dk_at dksX2_sound_2 9 rfl rfl)
theorem dX2_sound_60 : decode cX2_sound 60 = .ok (.iaload, 1) := dk_46 (dk_at dksX2_sound_2 12 rfl rfl)
theorem dX2_sound_61 : decode cX2_sound 61 = .ok (.iadd, 1) := dk_96 (dk_at dksX2_sound_2 13 rfl rfl)
theorem dX2_sound_62 : decode cX2_sound 62 = .ok (.istore_n 2, 1) := dk_61 (dk_at dksX2_sound_2 14 rfl rfl)
theorem dX2_sound_63 : decode cX2_sound 63 = .ok (.iinc 4 1, 3) := dk_132 4 1 (dk_at dksX2_sound_2 15 rfl rfl)
theorem dX2_sound_66 : decode cX2_sound 66 = .ok (.goto (-51), 3) := dk_167 255 205 (dk_at dksX2_sound_2 18 rfl rfl)
theorem dX2_sound_69 : decode cX2_sound 69 = .ok (.iinc 3 1, 3) := dk_132 3 1 (dk_at dksX2_sound_2 21 rfl rfl)
theorem dX2_sound_72 : decode cX2_sound 72 = .ok (.goto (-68), 3) := dk_167 255 188 (dk_at dksX2_sound_3 0 rfl rfl)
theorem dX2_sound_75 : decode cX2_sound 75 = .ok (.iload_n 2, 1) := dk_28 (dk_at dksX2_sound_3 3 rfl rfl)
theorem dX2_sound_76 : decode cX2_sound 76 = .ok (.ireturn, 1) := dk_172 (dk_at dksX2_sound_3 4 rfl rfl)
abbrev cX2_sumOf : ByteArray := prog_14_method_9_code
def yX2_sumOf : MethodName := ⟨RX2, "sumOf", "([I)I"⟩
def dkwX2_sumOf_0 : List UInt8 := [3, 60, 3, 61, 28, 42, 190, 162, 0, 15, 27, 42, 28, 46, 96, 60, 132, 2, 1, 167, 255, 241, 27, 172]
abbrev dktX2_sumOf_0 : List UInt8 := dkwX2_sumOf_0 ++ []
theorem dksX2_sumOf_0 : cX2_sumOf.data.toList.drop 0 = dktX2_sumOf_0 := by decide +kernel
theorem dX2_sumOf_0 : decode cX2_sumOf 0 = .ok (.iconst 0, 1) := dk_3 (dk_at dksX2_sumOf_0 0 rfl rfl)
theorem dX2_sumOf_1 : decode cX2_sumOf 1 = .ok (.istore_n 1, 1) := dk_60 (dk_at dksX2_sumOf_0 1 rfl rfl)
theorem dX2_sumOf_2 : decode cX2_sumOf 2 = .ok (.iconst 0, 1) := dk_3 (dk_at dksX2_sumOf_0 2 rfl rfl)
theorem dX2_sumOf_3 : decode cX2_sumOf 3 = .ok (.istore_n 2, 1) := dk_61 (dk_at dksX2_sumOf_0 3 rfl rfl)
theorem dX2_sumOf_4 : decode cX2_sumOf 4 = .ok (.iload_n 2, 1) := dk_28 (dk_at dksX2_sumOf_0 4 rfl rfl)
theorem dX2_sumOf_5 : decode cX2_sumOf 5 = .ok (.aload_n 0, 1) := dk_42 (dk_at dksX2_sumOf_0 5 rfl rfl)
theorem dX2_sumOf_6 : decode cX2_sumOf 6 = .ok (.arraylength, 1) := dk_190 (dk_at dksX2_sumOf_0 6 rfl rfl)
theorem dX2_sumOf_7 : decode cX2_sumOf 7 = .ok (.if_icmp .ge 15, 3) := dk_162 0 15 (dk_at dksX2_sumOf_0 7 rfl rfl)
theorem dX2_sumOf_10 : decode cX2_sumOf 10 = .ok (.iload_n 1, 1) := dk_27 (dk_at dksX2_sumOf_0 10 rfl rfl)
theorem dX2_sumOf_11 : decode cX2_sumOf 11 = .ok (.aload_n 0, 1) := dk_42 (dk_at dksX2_sumOf_0 11 rfl rfl)
theorem dX2_sumOf_12 : decode cX2_sumOf 12 = .ok (.iload_n 2, 1) := dk_28 (dk_at dksX2_sumOf_0 12 rfl rfl)
theorem dX2_sumOf_13 : decode cX2_sumOf 13 = .ok (.iaload, 1) := dk_46 (dk_at dksX2_sumOf_0 13 rfl rfl)
theorem dX2_sumOf_14 : decode cX2_sumOf 14 = .ok (.iadd, 1) := dk_96 (dk_at dksX2_sumOf_0 14 rfl rfl)
theorem dX2_sumOf_15 : decode cX2_sumOf 15 = .ok (.istore_n 1, 1) := dk_60 (dk_at dksX2_sumOf_0 15 rfl rfl)
theorem dX2_sumOf_16 : decode cX2_sumOf 16 = .ok (.iinc 2 1, 3) := dk_132 2 1 (dk_at dksX2_sumOf_0 16 rfl rfl)
theorem dX2_sumOf_19 : decode cX2_sumOf 19 = .ok (.goto (-15), 3) := dk_167 255 241 (dk_at dksX2_sumOf_0 19 rfl rfl)
theorem dX2_sumOf_22 : decode cX2_sumOf 22 = .ok (.iload_n 1, 1) := dk_27 (dk_at dksX2_sumOf_0 22 rfl rfl)
theorem dX2_sumOf_23 : decode cX2_sumOf 23 = .ok (.ireturn, 1) := dk_172 (dk_at dksX2_sumOf_0 23 rfl rfl)
abbrev cX2_goes : ByteArray := prog_14_method_7_code
def yX2_goes : MethodName := ⟨RX2, "goes", "(II)I"⟩
def dkwX2_goes_1 : List UInt8 := [180, 0, 21, 27, 92, 46, 29, 96, 79, 29, 172]
abbrev dktX2_goes_1 : List UInt8 := dkwX2_goes_1 ++ []
def dkwX2_goes_0 : List UInt8 := [28, 42, 180, 0, 9, 27, 46, 184, 0, 78, 62, 42, 180, 0, 9, 27, 92, 46, 29, 100, 79, 42]
abbrev dktX2_goes_0 : List UInt8 := dkwX2_goes_0 ++ dktX2_goes_1
theorem dksX2_goes_0 : cX2_goes.data.toList.drop 0 = dktX2_goes_0 := by decide +kernel
theorem dksX2_goes_1 : cX2_goes.data.toList.drop 22 = dktX2_goes_1 := dk_seg dksX2_goes_0 22 rfl rfl
theorem dX2_goes_0 : decode cX2_goes 0 = .ok (.iload_n 2, 1) := dk_28 (dk_at dksX2_goes_0 0 rfl rfl)
theorem dX2_goes_1 : decode cX2_goes 1 = .ok (.aload_n 0, 1) := dk_42 (dk_at dksX2_goes_0 1 rfl rfl)
theorem dX2_goes_2 : decode cX2_goes 2 = .ok (.getfield 9, 3) := dk_180 0 9 (dk_at dksX2_goes_0 2 rfl rfl)
theorem dX2_goes_5 : decode cX2_goes 5 = .ok (.iload_n 1, 1) := dk_27 (dk_at dksX2_goes_0 5 rfl rfl)
theorem dX2_goes_6 : decode cX2_goes 6 = .ok (.iaload, 1) := dk_46 (dk_at dksX2_goes_0 6 rfl rfl)
theorem dX2_goes_7 : decode cX2_goes 7 = .ok (.invokestatic 78, 3) := dk_184 0 78 (dk_at dksX2_goes_0 7 rfl rfl)
theorem dX2_goes_10 : decode cX2_goes 10 = .ok (.istore_n 3, 1) := dk_62 (dk_at dksX2_goes_0 10 rfl rfl)
theorem dX2_goes_11 : decode cX2_goes 11 = .ok (.aload_n 0, 1) := dk_42 (dk_at dksX2_goes_0 11 rfl rfl)
theorem dX2_goes_12 : decode cX2_goes 12 = .ok (.getfield 9, 3) := dk_180 0 9 (dk_at dksX2_goes_0 12 rfl rfl)
theorem dX2_goes_15 : decode cX2_goes 15 = .ok (.iload_n 1, 1) := dk_27 (dk_at dksX2_goes_0 15 rfl rfl)
theorem dX2_goes_16 : decode cX2_goes 16 = .ok (.dup2, 1) := dk_92 (dk_at dksX2_goes_0 16 rfl rfl)
theorem dX2_goes_17 : decode cX2_goes 17 = .ok (.iaload, 1) := dk_46 (dk_at dksX2_goes_0 17 rfl rfl)
theorem dX2_goes_18 : decode cX2_goes 18 = .ok (.iload_n 3, 1) := dk_29 (dk_at dksX2_goes_0 18 rfl rfl)
theorem dX2_goes_19 : decode cX2_goes 19 = .ok (.isub, 1) := dk_100 (dk_at dksX2_goes_0 19 rfl rfl)
theorem dX2_goes_20 : decode cX2_goes 20 = .ok (.iastore, 1) := dk_79 (dk_at dksX2_goes_0 20 rfl rfl)
theorem dX2_goes_21 : decode cX2_goes 21 = .ok (.aload_n 0, 1) := dk_42 (dk_at dksX2_goes_0 21 rfl rfl)
theorem dX2_goes_22 : decode cX2_goes 22 = .ok (.getfield 21, 3) := dk_180 0 21 (dk_at dksX2_goes_1 0 rfl rfl)
theorem dX2_goes_25 : decode cX2_goes 25 = .ok (.iload_n 1, 1) := dk_27 (dk_at dksX2_goes_1 3 rfl rfl)
theorem dX2_goes_26 : decode cX2_goes 26 = .ok (.dup2, 1) := dk_92 (dk_at dksX2_goes_1 4 rfl rfl)
theorem dX2_goes_27 : decode cX2_goes 27 = .ok (.iaload, 1) := dk_46 (dk_at dksX2_goes_1 5 rfl rfl)
theorem dX2_goes_28 : decode cX2_goes 28 = .ok (.iload_n 3, 1) := dk_29 (dk_at dksX2_goes_1 6 rfl rfl)
theorem dX2_goes_29 : decode cX2_goes 29 = .ok (.iadd, 1) := dk_96 (dk_at dksX2_goes_1 7 rfl rfl)
theorem dX2_goes_30 : decode cX2_goes 30 = .ok (.iastore, 1) := dk_79 (dk_at dksX2_goes_1 8 rfl rfl)
theorem dX2_goes_31 : decode cX2_goes 31 = .ok (.iload_n 3, 1) := dk_29 (dk_at dksX2_goes_1 9 rfl rfl)
theorem dX2_goes_32 : decode cX2_goes 32 = .ok (.ireturn, 1) := dk_172 (dk_at dksX2_goes_1 10 rfl rfl)
abbrev cX2_waits : ByteArray := prog_14_method_8_code
def yX2_waits : MethodName := ⟨RX2, "waits", "(LDutyBeats$Junction;)V"⟩
def dkwX2_waits_2 : List UInt8 := [181, 0, 37, 177]
abbrev dktX2_waits_2 : List UInt8 := dkwX2_waits_2 ++ []
def dkwX2_waits_1 : List UInt8 := [180, 0, 9, 28, 46, 96, 184, 0, 78, 79, 132, 2, 1, 167, 255, 221, 42, 89, 180, 0, 37, 4, 96]
abbrev dktX2_waits_1 : List UInt8 := dkwX2_waits_1 ++ dktX2_waits_2
def dkwX2_waits_0 : List UInt8 := [3, 61, 28, 43, 182, 0, 40, 162, 0, 33, 42, 180, 0, 24, 28, 18, 82, 42, 180, 0, 24, 28, 46, 42]
abbrev dktX2_waits_0 : List UInt8 := dkwX2_waits_0 ++ dktX2_waits_1
theorem dksX2_waits_0 : cX2_waits.data.toList.drop 0 = dktX2_waits_0 := by decide +kernel
theorem dksX2_waits_1 : cX2_waits.data.toList.drop 24 = dktX2_waits_1 := dk_seg dksX2_waits_0 24 rfl rfl
theorem dksX2_waits_2 : cX2_waits.data.toList.drop 47 = dktX2_waits_2 := dk_seg dksX2_waits_1 23 rfl rfl
theorem dX2_waits_0 : decode cX2_waits 0 = .ok (.iconst 0, 1) := dk_3 (dk_at dksX2_waits_0 0 rfl rfl)
theorem dX2_waits_1 : decode cX2_waits 1 = .ok (.istore_n 2, 1) := dk_61 (dk_at dksX2_waits_0 1 rfl rfl)
theorem dX2_waits_2 : decode cX2_waits 2 = .ok (.iload_n 2, 1) := dk_28 (dk_at dksX2_waits_0 2 rfl rfl)
theorem dX2_waits_3 : decode cX2_waits 3 = .ok (.aload_n 1, 1) := dk_43 (dk_at dksX2_waits_0 3 rfl rfl)
theorem dX2_waits_4 : decode cX2_waits 4 = .ok (.invokevirtual 40, 3) := dk_182 0 40 (dk_at dksX2_waits_0 4 rfl rfl)
theorem dX2_waits_7 : decode cX2_waits 7 = .ok (.if_icmp .ge 33, 3) := dk_162 0 33 (dk_at dksX2_waits_0 7 rfl rfl)
theorem dX2_waits_10 : decode cX2_waits 10 = .ok (.aload_n 0, 1) := dk_42 (dk_at dksX2_waits_0 10 rfl rfl)
theorem dX2_waits_11 : decode cX2_waits 11 = .ok (.getfield 24, 3) := dk_180 0 24 (dk_at dksX2_waits_0 11 rfl rfl)
theorem dX2_waits_14 : decode cX2_waits 14 = .ok (.iload_n 2, 1) := dk_28 (dk_at dksX2_waits_0 14 rfl rfl)
theorem dX2_waits_15 : decode cX2_waits 15 = .ok (.ldc 82, 2) := dk_18 82 (dk_at dksX2_waits_0 15 rfl rfl)
theorem dX2_waits_17 : decode cX2_waits 17 = .ok (.aload_n 0, 1) := dk_42 (dk_at dksX2_waits_0 17 rfl rfl)
theorem dX2_waits_18 : decode cX2_waits 18 = .ok (.getfield 24, 3) := dk_180 0 24 (dk_at dksX2_waits_0 18 rfl rfl)
theorem dX2_waits_21 : decode cX2_waits 21 = .ok (.iload_n 2, 1) := dk_28 (dk_at dksX2_waits_0 21 rfl rfl)
theorem dX2_waits_22 : decode cX2_waits 22 = .ok (.iaload, 1) := dk_46 (dk_at dksX2_waits_0 22 rfl rfl)
theorem dX2_waits_23 : decode cX2_waits 23 = .ok (.aload_n 0, 1) := dk_42 (dk_at dksX2_waits_0 23 rfl rfl)
theorem dX2_waits_24 : decode cX2_waits 24 = .ok (.getfield 9, 3) := dk_180 0 9 (dk_at dksX2_waits_1 0 rfl rfl)
theorem dX2_waits_27 : decode cX2_waits 27 = .ok (.iload_n 2, 1) := dk_28 (dk_at dksX2_waits_1 3 rfl rfl)
theorem dX2_waits_28 : decode cX2_waits 28 = .ok (.iaload, 1) := dk_46 (dk_at dksX2_waits_1 4 rfl rfl)
theorem dX2_waits_29 : decode cX2_waits 29 = .ok (.iadd, 1) := dk_96 (dk_at dksX2_waits_1 5 rfl rfl)
theorem dX2_waits_30 : decode cX2_waits 30 = .ok (.invokestatic 78, 3) := dk_184 0 78 (dk_at dksX2_waits_1 6 rfl rfl)
theorem dX2_waits_33 : decode cX2_waits 33 = .ok (.iastore, 1) := dk_79 (dk_at dksX2_waits_1 9 rfl rfl)
theorem dX2_waits_34 : decode cX2_waits 34 = .ok (.iinc 2 1, 3) := dk_132 2 1 (dk_at dksX2_waits_1 10 rfl rfl)
theorem dX2_waits_37 : decode cX2_waits 37 = .ok (.goto (-35), 3) := dk_167 255 221 (dk_at dksX2_waits_1 13 rfl rfl)
theorem dX2_waits_40 : decode cX2_waits 40 = .ok (.aload_n 0, 1) := dk_42 (dk_at dksX2_waits_1 16 rfl rfl)
theorem dX2_waits_41 : decode cX2_waits 41 = .ok (.dup, 1) := dk_89 (dk_at dksX2_waits_1 17 rfl rfl)
theorem dX2_waits_42 : decode cX2_waits 42 = .ok (.getfield 37, 3) := dk_180 0 37 (dk_at dksX2_waits_1 18 rfl rfl)
theorem dX2_waits_45 : decode cX2_waits 45 = .ok (.iconst 1, 1) := dk_4 (dk_at dksX2_waits_1 21 rfl rfl)
theorem dX2_waits_46 : decode cX2_waits 46 = .ok (.iadd, 1) := dk_96 (dk_at dksX2_waits_1 22 rfl rfl)
theorem dX2_waits_47 : decode cX2_waits 47 = .ok (.putfield 37, 3) := dk_181 0 37 (dk_at dksX2_waits_2 0 rfl rfl)
theorem dX2_waits_50 : decode cX2_waits 50 = .ok (.return_, 1) := dk_177 (dk_at dksX2_waits_2 3 rfl rfl)
abbrev cJ3_init : ByteArray := prog_33_method_1_code
def yJ3_init : MethodName := ⟨RJ3, "<init>", "()V"⟩
def dkwJ3_init_1 : List UInt8 := [182, 0, 27, 87, 177]
abbrev dktJ3_init_1 : List UInt8 := dkwJ3_init_1 ++ []
def dkwJ3_init_0 : List UInt8 := [42, 183, 0, 1, 42, 42, 181, 0, 7, 42, 178, 0, 13, 181, 0, 17, 42, 178, 0, 20, 181, 0, 24, 42]
abbrev dktJ3_init_0 : List UInt8 := dkwJ3_init_0 ++ dktJ3_init_1
theorem dksJ3_init_0 : cJ3_init.data.toList.drop 0 = dktJ3_init_0 := by decide +kernel
theorem dksJ3_init_1 : cJ3_init.data.toList.drop 24 = dktJ3_init_1 := dk_seg dksJ3_init_0 24 rfl rfl
theorem dJ3_init_0 : decode cJ3_init 0 = .ok (.aload_n 0, 1) := dk_42 (dk_at dksJ3_init_0 0 rfl rfl)
theorem dJ3_init_1 : decode cJ3_init 1 = .ok (.invokespecial 1, 3) := dk_183 0 1 (dk_at dksJ3_init_0 1 rfl rfl)
theorem dJ3_init_4 : decode cJ3_init 4 = .ok (.aload_n 0, 1) := dk_42 (dk_at dksJ3_init_0 4 rfl rfl)
theorem dJ3_init_5 : decode cJ3_init 5 = .ok (.aload_n 0, 1) := dk_42 (dk_at dksJ3_init_0 5 rfl rfl)
theorem dJ3_init_6 : decode cJ3_init 6 = .ok (.putfield 7, 3) := dk_181 0 7 (dk_at dksJ3_init_0 6 rfl rfl)
theorem dJ3_init_9 : decode cJ3_init 9 = .ok (.aload_n 0, 1) := dk_42 (dk_at dksJ3_init_0 9 rfl rfl)
theorem dJ3_init_10 : decode cJ3_init 10 = .ok (.getstatic 13, 3) := dk_178 0 13 (dk_at dksJ3_init_0 10 rfl rfl)
theorem dJ3_init_13 : decode cJ3_init 13 = .ok (.putfield 17, 3) := dk_181 0 17 (dk_at dksJ3_init_0 13 rfl rfl)
theorem dJ3_init_16 : decode cJ3_init 16 = .ok (.aload_n 0, 1) := dk_42 (dk_at dksJ3_init_0 16 rfl rfl)
theorem dJ3_init_17 : decode cJ3_init 17 = .ok (.getstatic 20, 3) := dk_178 0 20 (dk_at dksJ3_init_0 17 rfl rfl)
theorem dJ3_init_20 : decode cJ3_init 20 = .ok (.putfield 24, 3) := dk_181 0 24 (dk_at dksJ3_init_0 20 rfl rfl)
theorem dJ3_init_23 : decode cJ3_init 23 = .ok (.aload_n 0, 1) := dk_42 (dk_at dksJ3_init_0 23 rfl rfl)
theorem dJ3_init_24 : decode cJ3_init 24 = .ok (.invokevirtual 27, 3) := dk_182 0 27 (dk_at dksJ3_init_1 0 rfl rfl)
theorem dJ3_init_27 : decode cJ3_init 27 = .ok (.pop, 1) := dk_87 (dk_at dksJ3_init_1 3 rfl rfl)
theorem dJ3_init_28 : decode cJ3_init 28 = .ok (.return_, 1) := dk_177 (dk_at dksJ3_init_1 4 rfl rfl)
abbrev cJ4_init : ByteArray := prog_24_method_1_code
def yJ4_init : MethodName := ⟨RJ4, "<init>", "()V"⟩
theorem dJ4_init_0 : decode cJ4_init 0 = .ok (.aload_n 0, 1) := by decide +kernel
theorem dJ4_init_1 : decode cJ4_init 1 = .ok (.invokespecial 1, 3) := by decide +kernel
theorem dJ4_init_4 : decode cJ4_init 4 = .ok (.return_, 1) := by decide +kernel
abbrev cX3_init : ByteArray := prog_17_method_1_code
def yX3_init : MethodName := ⟨RX3, "<init>", "()V"⟩
theorem dX3_init_0 : decode cX3_init 0 = .ok (.aload_n 0, 1) := by decide +kernel
theorem dX3_init_1 : decode cX3_init 1 = .ok (.invokespecial 1, 3) := by decide +kernel
theorem dX3_init_4 : decode cX3_init 4 = .ok (.return_, 1) := by decide +kernel
abbrev cX5_init : ByteArray := prog_10_method_1_code
def yX5_init : MethodName := ⟨RX5, "<init>", "(LDutyBeats;[Ljava/lang/String;I)V"⟩
def dkwX5_init_0 : List UInt8 := [42, 43, 181, 0, 3, 42, 183, 0, 9, 42, 44, 181, 0, 15, 42, 29, 181, 0, 19, 177]
abbrev dktX5_init_0 : List UInt8 := dkwX5_init_0 ++ []
theorem dksX5_init_0 : cX5_init.data.toList.drop 0 = dktX5_init_0 := by decide +kernel
theorem dX5_init_0 : decode cX5_init 0 = .ok (.aload_n 0, 1) := dk_42 (dk_at dksX5_init_0 0 rfl rfl)
theorem dX5_init_1 : decode cX5_init 1 = .ok (.aload_n 1, 1) := dk_43 (dk_at dksX5_init_0 1 rfl rfl)
theorem dX5_init_2 : decode cX5_init 2 = .ok (.putfield 3, 3) := dk_181 0 3 (dk_at dksX5_init_0 2 rfl rfl)
theorem dX5_init_5 : decode cX5_init 5 = .ok (.aload_n 0, 1) := dk_42 (dk_at dksX5_init_0 5 rfl rfl)
theorem dX5_init_6 : decode cX5_init 6 = .ok (.invokespecial 9, 3) := dk_183 0 9 (dk_at dksX5_init_0 6 rfl rfl)
theorem dX5_init_9 : decode cX5_init 9 = .ok (.aload_n 0, 1) := dk_42 (dk_at dksX5_init_0 9 rfl rfl)
theorem dX5_init_10 : decode cX5_init 10 = .ok (.aload_n 2, 1) := dk_44 (dk_at dksX5_init_0 10 rfl rfl)
theorem dX5_init_11 : decode cX5_init 11 = .ok (.putfield 15, 3) := dk_181 0 15 (dk_at dksX5_init_0 11 rfl rfl)
theorem dX5_init_14 : decode cX5_init 14 = .ok (.aload_n 0, 1) := dk_42 (dk_at dksX5_init_0 14 rfl rfl)
theorem dX5_init_15 : decode cX5_init 15 = .ok (.iload_n 3, 1) := dk_29 (dk_at dksX5_init_0 15 rfl rfl)
theorem dX5_init_16 : decode cX5_init 16 = .ok (.putfield 19, 3) := dk_181 0 19 (dk_at dksX5_init_0 16 rfl rfl)
theorem dX5_init_19 : decode cX5_init 19 = .ok (.return_, 1) := dk_177 (dk_at dksX5_init_0 19 rfl rfl)
abbrev cX5_junction : ByteArray := prog_10_method_22_code
def yX5_junction : MethodName := ⟨RX5, "junction", "()LDutyBeats$Junction;"⟩
def dkwX5_junction_1 : List UInt8 := [182, 0, 213, 167, 255, 244, 43, 176]
abbrev dktX5_junction_1 : List UInt8 := dkwX5_junction_1 ++ []
def dkwX5_junction_0 : List UInt8 := [187, 0, 151, 89, 183, 0, 212, 76, 42, 43, 182, 0, 213, 42, 182, 0, 216, 153, 0, 11, 42, 43]
abbrev dktX5_junction_0 : List UInt8 := dkwX5_junction_0 ++ dktX5_junction_1
theorem dksX5_junction_0 : cX5_junction.data.toList.drop 0 = dktX5_junction_0 := by decide +kernel
theorem dksX5_junction_1 : cX5_junction.data.toList.drop 22 = dktX5_junction_1 := dk_seg dksX5_junction_0 22 rfl rfl
theorem dX5_junction_0 : decode cX5_junction 0 = .ok (.new 151, 3) := dk_187 0 151 (dk_at dksX5_junction_0 0 rfl rfl)
theorem dX5_junction_3 : decode cX5_junction 3 = .ok (.dup, 1) := dk_89 (dk_at dksX5_junction_0 3 rfl rfl)
theorem dX5_junction_4 : decode cX5_junction 4 = .ok (.invokespecial 212, 3) := dk_183 0 212 (dk_at dksX5_junction_0 4 rfl rfl)
theorem dX5_junction_7 : decode cX5_junction 7 = .ok (.astore_n 1, 1) := dk_76 (dk_at dksX5_junction_0 7 rfl rfl)
theorem dX5_junction_8 : decode cX5_junction 8 = .ok (.aload_n 0, 1) := dk_42 (dk_at dksX5_junction_0 8 rfl rfl)
theorem dX5_junction_9 : decode cX5_junction 9 = .ok (.aload_n 1, 1) := dk_43 (dk_at dksX5_junction_0 9 rfl rfl)
theorem dX5_junction_10 : decode cX5_junction 10 = .ok (.invokevirtual 213, 3) := dk_182 0 213 (dk_at dksX5_junction_0 10 rfl rfl)
theorem dX5_junction_13 : decode cX5_junction 13 = .ok (.aload_n 0, 1) := dk_42 (dk_at dksX5_junction_0 13 rfl rfl)
theorem dX5_junction_14 : decode cX5_junction 14 = .ok (.invokevirtual 216, 3) := dk_182 0 216 (dk_at dksX5_junction_0 14 rfl rfl)
theorem dX5_junction_17 : decode cX5_junction 17 = .ok (.ifCond .eq 11, 3) := dk_153 0 11 (dk_at dksX5_junction_0 17 rfl rfl)
theorem dX5_junction_20 : decode cX5_junction 20 = .ok (.aload_n 0, 1) := dk_42 (dk_at dksX5_junction_0 20 rfl rfl)
theorem dX5_junction_21 : decode cX5_junction 21 = .ok (.aload_n 1, 1) := dk_43 (dk_at dksX5_junction_0 21 rfl rfl)
theorem dX5_junction_22 : decode cX5_junction 22 = .ok (.invokevirtual 213, 3) := dk_182 0 213 (dk_at dksX5_junction_1 0 rfl rfl)
theorem dX5_junction_25 : decode cX5_junction 25 = .ok (.goto (-12), 3) := dk_167 255 244 (dk_at dksX5_junction_1 3 rfl rfl)
theorem dX5_junction_28 : decode cX5_junction 28 = .ok (.aload_n 1, 1) := dk_43 (dk_at dksX5_junction_1 6 rfl rfl)
theorem dX5_junction_29 : decode cX5_junction 29 = .ok (.areturn, 1) := dk_176 (dk_at dksX5_junction_1 7 rfl rfl)
abbrev cX5_clause : ByteArray := prog_10_method_19_code
def yX5_clause : MethodName := ⟨RX5, "clause", "(LDutyBeats$Junction;)V"⟩
def dkwX5_clause_7 : List UInt8 := [180, 0, 23, 182, 0, 69, 191, 177]
abbrev dktX5_clause_7 : List UInt8 := dkwX5_clause_7 ++ []
def dkwX5_clause_6 : List UInt8 := [3, 43, 182, 0, 167, 4, 100, 182, 0, 82, 120, 128, 79, 167, 0, 16, 42, 180, 0, 3, 3, 42]
abbrev dktX5_clause_6 : List UInt8 := dkwX5_clause_6 ++ dktX5_clause_7
def dkwX5_clause_5 : List UInt8 := [153, 0, 40, 42, 3, 43, 180, 0, 173, 4, 100, 182, 0, 82, 62, 43, 180, 0, 196, 29, 92, 46, 4, 42]
abbrev dktX5_clause_5 : List UInt8 := dkwX5_clause_5 ++ dktX5_clause_6
def dkwX5_clause_4 : List UInt8 := [18, 190, 28, 182, 0, 178, 153, 0, 11, 42, 43, 182, 0, 192, 167, 0, 63, 42, 18, 194, 28, 182, 0, 178]
abbrev dktX5_clause_4 : List UInt8 := dkwX5_clause_4 ++ dktX5_clause_5
def dkwX5_clause_3 : List UInt8 := [162, 0, 7, 4, 167, 0, 4, 3, 182, 0, 178, 153, 0, 11, 42, 43, 182, 0, 187, 167, 0, 81, 42]
abbrev dktX5_clause_3 : List UInt8 := dkwX5_clause_3 ++ dktX5_clause_4
def dkwX5_clause_2 : List UInt8 := [181, 0, 182, 43, 29, 181, 0, 173, 167, 0, 116, 42, 18, 185, 28, 153, 0, 16, 43, 182, 0, 167, 16, 6]
abbrev dktX5_clause_2 : List UInt8 := dkwX5_clause_2 ++ dktX5_clause_3
def dkwX5_clause_1 : List UInt8 := [3, 182, 0, 178, 153, 0, 30, 42, 4, 16, 12, 182, 0, 82, 62, 43, 42, 4, 16, 9, 182, 0, 82]
abbrev dktX5_clause_1 : List UInt8 := dkwX5_clause_1 ++ dktX5_clause_2
def dkwX5_clause_0 : List UInt8 := [43, 180, 0, 173, 158, 0, 7, 4, 167, 0, 4, 3, 61, 42, 18, 176, 28, 154, 0, 7, 4, 167, 0, 4]
abbrev dktX5_clause_0 : List UInt8 := dkwX5_clause_0 ++ dktX5_clause_1
theorem dksX5_clause_0 : cX5_clause.data.toList.drop 0 = dktX5_clause_0 := by decide +kernel
theorem dksX5_clause_1 : cX5_clause.data.toList.drop 24 = dktX5_clause_1 := dk_seg dksX5_clause_0 24 rfl rfl
theorem dksX5_clause_2 : cX5_clause.data.toList.drop 47 = dktX5_clause_2 := dk_seg dksX5_clause_1 23 rfl rfl
theorem dksX5_clause_3 : cX5_clause.data.toList.drop 71 = dktX5_clause_3 := dk_seg dksX5_clause_2 24 rfl rfl
theorem dksX5_clause_4 : cX5_clause.data.toList.drop 94 = dktX5_clause_4 := dk_seg dksX5_clause_3 23 rfl rfl
theorem dksX5_clause_5 : cX5_clause.data.toList.drop 118 = dktX5_clause_5 := dk_seg dksX5_clause_4 24 rfl rfl
theorem dksX5_clause_6 : cX5_clause.data.toList.drop 142 = dktX5_clause_6 := dk_seg dksX5_clause_5 24 rfl rfl
theorem dksX5_clause_7 : cX5_clause.data.toList.drop 164 = dktX5_clause_7 := dk_seg dksX5_clause_6 22 rfl rfl
theorem dX5_clause_0 : decode cX5_clause 0 = .ok (.aload_n 1, 1) := dk_43 (dk_at dksX5_clause_0 0 rfl rfl)
theorem dX5_clause_1 : decode cX5_clause 1 = .ok (.getfield 173, 3) := dk_180 0 173 (dk_at dksX5_clause_0 1 rfl rfl)
theorem dX5_clause_4 : decode cX5_clause 4 = .ok (.ifCond .le 7, 3) := dk_158 0 7 (dk_at dksX5_clause_0 4 rfl rfl)
theorem dX5_clause_7 : decode cX5_clause 7 = .ok (.iconst 1, 1) := dk_4 (dk_at dksX5_clause_0 7 rfl rfl)
theorem dX5_clause_8 : decode cX5_clause 8 = .ok (.goto 4, 3) := dk_167 0 4 (dk_at dksX5_clause_0 8 rfl rfl)
theorem dX5_clause_11 : decode cX5_clause 11 = .ok (.iconst 0, 1) := dk_3 (dk_at dksX5_clause_0 11 rfl rfl)
theorem dX5_clause_12 : decode cX5_clause 12 = .ok (.istore_n 2, 1) := dk_61 (dk_at dksX5_clause_0 12 rfl rfl)
theorem dX5_clause_13 : decode cX5_clause 13 = .ok (.aload_n 0, 1) := dk_42 (dk_at dksX5_clause_0 13 rfl rfl)
theorem dX5_clause_14 : decode cX5_clause 14 = .ok (.ldc 176, 2) := dk_18 176 (dk_at dksX5_clause_0 14 rfl rfl)
theorem dX5_clause_16 : decode cX5_clause 16 = .ok (.iload_n 2, 1) := dk_28 (dk_at dksX5_clause_0 16 rfl rfl)
theorem dX5_clause_17 : decode cX5_clause 17 = .ok (.ifCond .ne 7, 3) := dk_154 0 7 (dk_at dksX5_clause_0 17 rfl rfl)
theorem dX5_clause_20 : decode cX5_clause 20 = .ok (.iconst 1, 1) := dk_4 (dk_at dksX5_clause_0 20 rfl rfl)
theorem dX5_clause_21 : decode cX5_clause 21 = .ok (.goto 4, 3) := dk_167 0 4 (dk_at dksX5_clause_0 21 rfl rfl)
theorem dX5_clause_24 : decode cX5_clause 24 = .ok (.iconst 0, 1) := dk_3 (dk_at dksX5_clause_1 0 rfl rfl)
theorem dX5_clause_25 : decode cX5_clause 25 = .ok (.invokevirtual 178, 3) := dk_182 0 178 (dk_at dksX5_clause_1 1 rfl rfl)
theorem dX5_clause_28 : decode cX5_clause 28 = .ok (.ifCond .eq 30, 3) := dk_153 0 30 (dk_at dksX5_clause_1 4 rfl rfl)
theorem dX5_clause_31 : decode cX5_clause 31 = .ok (.aload_n 0, 1) := dk_42 (dk_at dksX5_clause_1 7 rfl rfl)
theorem dX5_clause_32 : decode cX5_clause 32 = .ok (.iconst 1, 1) := dk_4 (dk_at dksX5_clause_1 8 rfl rfl)
theorem dX5_clause_33 : decode cX5_clause 33 = .ok (.bipush 12, 2) := dk_16 12 (dk_at dksX5_clause_1 9 rfl rfl)
theorem dX5_clause_35 : decode cX5_clause 35 = .ok (.invokevirtual 82, 3) := dk_182 0 82 (dk_at dksX5_clause_1 11 rfl rfl)
theorem dX5_clause_38 : decode cX5_clause 38 = .ok (.istore_n 3, 1) := dk_62 (dk_at dksX5_clause_1 14 rfl rfl)
theorem dX5_clause_39 : decode cX5_clause 39 = .ok (.aload_n 1, 1) := dk_43 (dk_at dksX5_clause_1 15 rfl rfl)
theorem dX5_clause_40 : decode cX5_clause 40 = .ok (.aload_n 0, 1) := dk_42 (dk_at dksX5_clause_1 16 rfl rfl)
theorem dX5_clause_41 : decode cX5_clause 41 = .ok (.iconst 1, 1) := dk_4 (dk_at dksX5_clause_1 17 rfl rfl)
theorem dX5_clause_42 : decode cX5_clause 42 = .ok (.bipush 9, 2) := dk_16 9 (dk_at dksX5_clause_1 18 rfl rfl)
theorem dX5_clause_44 : decode cX5_clause 44 = .ok (.invokevirtual 82, 3) := dk_182 0 82 (dk_at dksX5_clause_1 20 rfl rfl)
theorem dX5_clause_47 : decode cX5_clause 47 = .ok (.putfield 182, 3) := dk_181 0 182 (dk_at dksX5_clause_2 0 rfl rfl)
theorem dX5_clause_50 : decode cX5_clause 50 = .ok (.aload_n 1, 1) := dk_43 (dk_at dksX5_clause_2 3 rfl rfl)
theorem dX5_clause_51 : decode cX5_clause 51 = .ok (.iload_n 3, 1) := dk_29 (dk_at dksX5_clause_2 4 rfl rfl)
theorem dX5_clause_52 : decode cX5_clause 52 = .ok (.putfield 173, 3) := dk_181 0 173 (dk_at dksX5_clause_2 5 rfl rfl)
theorem dX5_clause_55 : decode cX5_clause 55 = .ok (.goto 116, 3) := dk_167 0 116 (dk_at dksX5_clause_2 8 rfl rfl)
theorem dX5_clause_58 : decode cX5_clause 58 = .ok (.aload_n 0, 1) := dk_42 (dk_at dksX5_clause_2 11 rfl rfl)
theorem dX5_clause_59 : decode cX5_clause 59 = .ok (.ldc 185, 2) := dk_18 185 (dk_at dksX5_clause_2 12 rfl rfl)
theorem dX5_clause_61 : decode cX5_clause 61 = .ok (.iload_n 2, 1) := dk_28 (dk_at dksX5_clause_2 14 rfl rfl)
theorem dX5_clause_62 : decode cX5_clause 62 = .ok (.ifCond .eq 16, 3) := dk_153 0 16 (dk_at dksX5_clause_2 15 rfl rfl)
theorem dX5_clause_65 : decode cX5_clause 65 = .ok (.aload_n 1, 1) := dk_43 (dk_at dksX5_clause_2 18 rfl rfl)
theorem dX5_clause_66 : decode cX5_clause 66 = .ok (.invokevirtual 167, 3) := dk_182 0 167 (dk_at dksX5_clause_2 19 rfl rfl)
theorem dX5_clause_69 : decode cX5_clause 69 = .ok (.bipush 6, 2) := dk_16 6 (dk_at dksX5_clause_2 22 rfl rfl)
theorem dX5_clause_71 : decode cX5_clause 71 = .ok (.if_icmp .ge 7, 3) := dk_162 0 7 (dk_at dksX5_clause_3 0 rfl rfl)
theorem dX5_clause_74 : decode cX5_clause 74 = .ok (.iconst 1, 1) := dk_4 (dk_at dksX5_clause_3 3 rfl rfl)
theorem dX5_clause_75 : decode cX5_clause 75 = .ok (.goto 4, 3) := dk_167 0 4 (dk_at dksX5_clause_3 4 rfl rfl)
theorem dX5_clause_78 : decode cX5_clause 78 = .ok (.iconst 0, 1) := dk_3 (dk_at dksX5_clause_3 7 rfl rfl)
theorem dX5_clause_79 : decode cX5_clause 79 = .ok (.invokevirtual 178, 3) := dk_182 0 178 (dk_at dksX5_clause_3 8 rfl rfl)
theorem dX5_clause_82 : decode cX5_clause 82 = .ok (.ifCond .eq 11, 3) := dk_153 0 11 (dk_at dksX5_clause_3 11 rfl rfl)
theorem dX5_clause_85 : decode cX5_clause 85 = .ok (.aload_n 0, 1) := dk_42 (dk_at dksX5_clause_3 14 rfl rfl)
theorem dX5_clause_86 : decode cX5_clause 86 = .ok (.aload_n 1, 1) := dk_43 (dk_at dksX5_clause_3 15 rfl rfl)
theorem dX5_clause_87 : decode cX5_clause 87 = .ok (.invokevirtual 187, 3) := dk_182 0 187 (dk_at dksX5_clause_3 16 rfl rfl)
theorem dX5_clause_90 : decode cX5_clause 90 = .ok (.goto 81, 3) := dk_167 0 81 (dk_at dksX5_clause_3 19 rfl rfl)
theorem dX5_clause_93 : decode cX5_clause 93 = .ok (.aload_n 0, 1) := dk_42 (dk_at dksX5_clause_3 22 rfl rfl)
theorem dX5_clause_94 : decode cX5_clause 94 = .ok (.ldc 190, 2) := dk_18 190 (dk_at dksX5_clause_4 0 rfl rfl)
theorem dX5_clause_96 : decode cX5_clause 96 = .ok (.iload_n 2, 1) := dk_28 (dk_at dksX5_clause_4 2 rfl rfl)
theorem dX5_clause_97 : decode cX5_clause 97 = .ok (.invokevirtual 178, 3) := dk_182 0 178 (dk_at dksX5_clause_4 3 rfl rfl)
theorem dX5_clause_100 : decode cX5_clause 100 = .ok (.ifCond .eq 11, 3) := dk_153 0 11 (dk_at dksX5_clause_4 6 rfl rfl)
theorem dX5_clause_103 : decode cX5_clause 103 = .ok (.aload_n 0, 1) := dk_42 (dk_at dksX5_clause_4 9 rfl rfl)
theorem dX5_clause_104 : decode cX5_clause 104 = .ok (.aload_n 1, 1) := dk_43 (dk_at dksX5_clause_4 10 rfl rfl)
theorem dX5_clause_105 : decode cX5_clause 105 = .ok (.invokevirtual 192, 3) := dk_182 0 192 (dk_at dksX5_clause_4 11 rfl rfl)
theorem dX5_clause_108 : decode cX5_clause 108 = .ok (.goto 63, 3) := dk_167 0 63 (dk_at dksX5_clause_4 14 rfl rfl)
theorem dX5_clause_111 : decode cX5_clause 111 = .ok (.aload_n 0, 1) := dk_42 (dk_at dksX5_clause_4 17 rfl rfl)
theorem dX5_clause_112 : decode cX5_clause 112 = .ok (.ldc 194, 2) := dk_18 194 (dk_at dksX5_clause_4 18 rfl rfl)
theorem dX5_clause_114 : decode cX5_clause 114 = .ok (.iload_n 2, 1) := dk_28 (dk_at dksX5_clause_4 20 rfl rfl)
theorem dX5_clause_115 : decode cX5_clause 115 = .ok (.invokevirtual 178, 3) := dk_182 0 178 (dk_at dksX5_clause_4 21 rfl rfl)
theorem dX5_clause_118 : decode cX5_clause 118 = .ok (.ifCond .eq 40, 3) := dk_153 0 40 (dk_at dksX5_clause_5 0 rfl rfl)
theorem dX5_clause_121 : decode cX5_clause 121 = .ok (.aload_n 0, 1) := dk_42 (dk_at dksX5_clause_5 3 rfl rfl)
theorem dX5_clause_122 : decode cX5_clause 122 = .ok (.iconst 0, 1) := dk_3 (dk_at dksX5_clause_5 4 rfl rfl)
theorem dX5_clause_123 : decode cX5_clause 123 = .ok (.aload_n 1, 1) := dk_43 (dk_at dksX5_clause_5 5 rfl rfl)
theorem dX5_clause_124 : decode cX5_clause 124 = .ok (.getfield 173, 3) := dk_180 0 173 (dk_at dksX5_clause_5 6 rfl rfl)
theorem dX5_clause_127 : decode cX5_clause 127 = .ok (.iconst 1, 1) := dk_4 (dk_at dksX5_clause_5 9 rfl rfl)
theorem dX5_clause_128 : decode cX5_clause 128 = .ok (.isub, 1) := dk_100 (dk_at dksX5_clause_5 10 rfl rfl)
theorem dX5_clause_129 : decode cX5_clause 129 = .ok (.invokevirtual 82, 3) := dk_182 0 82 (dk_at dksX5_clause_5 11 rfl rfl)
theorem dX5_clause_132 : decode cX5_clause 132 = .ok (.istore_n 3, 1) := dk_62 (dk_at dksX5_clause_5 14 rfl rfl)
theorem dX5_clause_133 : decode cX5_clause 133 = .ok (.aload_n 1, 1) := dk_43 (dk_at dksX5_clause_5 15 rfl rfl)
theorem dX5_clause_134 : decode cX5_clause 134 = .ok (.getfield 196, 3) := dk_180 0 196 (dk_at dksX5_clause_5 16 rfl rfl)
theorem dX5_clause_137 : decode cX5_clause 137 = .ok (.iload_n 3, 1) := dk_29 (dk_at dksX5_clause_5 19 rfl rfl)
theorem dX5_clause_138 : decode cX5_clause 138 = .ok (.dup2, 1) := dk_92 (dk_at dksX5_clause_5 20 rfl rfl)
theorem dX5_clause_139 : decode cX5_clause 139 = .ok (.iaload, 1) := dk_46 (dk_at dksX5_clause_5 21 rfl rfl)
theorem dX5_clause_140 : decode cX5_clause 140 = .ok (.iconst 1, 1) := dk_4 (dk_at dksX5_clause_5 22 rfl rfl)
theorem dX5_clause_141 : decode cX5_clause 141 = .ok (.aload_n 0, 1) := dk_42 (dk_at dksX5_clause_5 23 rfl rfl)
theorem dX5_clause_142 : decode cX5_clause 142 = .ok (.iconst 0, 1) := dk_3 (dk_at dksX5_clause_6 0 rfl rfl)
theorem dX5_clause_143 : decode cX5_clause 143 = .ok (.aload_n 1, 1) := dk_43 (dk_at dksX5_clause_6 1 rfl rfl)
theorem dX5_clause_144 : decode cX5_clause 144 = .ok (.invokevirtual 167, 3) := dk_182 0 167 (dk_at dksX5_clause_6 2 rfl rfl)
theorem dX5_clause_147 : decode cX5_clause 147 = .ok (.iconst 1, 1) := dk_4 (dk_at dksX5_clause_6 5 rfl rfl)
theorem dX5_clause_148 : decode cX5_clause 148 = .ok (.isub, 1) := dk_100 (dk_at dksX5_clause_6 6 rfl rfl)
theorem dX5_clause_149 : decode cX5_clause 149 = .ok (.invokevirtual 82, 3) := dk_182 0 82 (dk_at dksX5_clause_6 7 rfl rfl)
theorem dX5_clause_152 : decode cX5_clause 152 = .ok (.ishl, 1) := dk_120 (dk_at dksX5_clause_6 10 rfl rfl)
theorem dX5_clause_153 : decode cX5_clause 153 = .ok (.ior, 1) := dk_128 (dk_at dksX5_clause_6 11 rfl rfl)
theorem dX5_clause_154 : decode cX5_clause 154 = .ok (.iastore, 1) := dk_79 (dk_at dksX5_clause_6 12 rfl rfl)
theorem dX5_clause_155 : decode cX5_clause 155 = .ok (.goto 16, 3) := dk_167 0 16 (dk_at dksX5_clause_6 13 rfl rfl)
theorem dX5_clause_158 : decode cX5_clause 158 = .ok (.aload_n 0, 1) := dk_42 (dk_at dksX5_clause_6 16 rfl rfl)
theorem dX5_clause_159 : decode cX5_clause 159 = .ok (.getfield 3, 3) := dk_180 0 3 (dk_at dksX5_clause_6 17 rfl rfl)
theorem dX5_clause_162 : decode cX5_clause 162 = .ok (.iconst 0, 1) := dk_3 (dk_at dksX5_clause_6 20 rfl rfl)
theorem dX5_clause_163 : decode cX5_clause 163 = .ok (.aload_n 0, 1) := dk_42 (dk_at dksX5_clause_6 21 rfl rfl)
theorem dX5_clause_164 : decode cX5_clause 164 = .ok (.getfield 23, 3) := dk_180 0 23 (dk_at dksX5_clause_7 0 rfl rfl)
theorem dX5_clause_167 : decode cX5_clause 167 = .ok (.invokevirtual 69, 3) := dk_182 0 69 (dk_at dksX5_clause_7 3 rfl rfl)
theorem dX5_clause_170 : decode cX5_clause 170 = .ok (.athrow, 1) := dk_191 (dk_at dksX5_clause_7 6 rfl rfl)
theorem dX5_clause_171 : decode cX5_clause 171 = .ok (.return_, 1) := dk_177 (dk_at dksX5_clause_7 7 rfl rfl)
abbrev cX5_begins : ByteArray := prog_10_method_16_code
def yX5_begins : MethodName := ⟨RX5, "begins", "(Ljava/lang/String;Z)Z"⟩
def dkwX5_begins_2 : List UInt8 := [181, 0, 147, 42, 89, 180, 0, 23, 43, 182, 0, 52, 96, 181, 0, 23, 4, 172]
abbrev dktX5_begins_2 : List UInt8 := dkwX5_begins_2 ++ []
def dkwX5_begins_1 : List UInt8 := [154, 0, 16, 42, 180, 0, 3, 7, 42, 180, 0, 23, 182, 0, 69, 191, 42, 89, 180, 0, 147, 4, 96]
abbrev dktX5_begins_1 : List UInt8 := dkwX5_begins_1 ++ dktX5_begins_2
def dkwX5_begins_0 : List UInt8 := [42, 43, 182, 0, 61, 154, 0, 5, 3, 172, 42, 180, 0, 147, 42, 180, 0, 19, 159, 0, 7, 28]
abbrev dktX5_begins_0 : List UInt8 := dkwX5_begins_0 ++ dktX5_begins_1
theorem dksX5_begins_0 : cX5_begins.data.toList.drop 0 = dktX5_begins_0 := by decide +kernel
theorem dksX5_begins_1 : cX5_begins.data.toList.drop 22 = dktX5_begins_1 := dk_seg dksX5_begins_0 22 rfl rfl
theorem dksX5_begins_2 : cX5_begins.data.toList.drop 45 = dktX5_begins_2 := dk_seg dksX5_begins_1 23 rfl rfl
theorem dX5_begins_0 : decode cX5_begins 0 = .ok (.aload_n 0, 1) := dk_42 (dk_at dksX5_begins_0 0 rfl rfl)
theorem dX5_begins_1 : decode cX5_begins 1 = .ok (.aload_n 1, 1) := dk_43 (dk_at dksX5_begins_0 1 rfl rfl)
theorem dX5_begins_2 : decode cX5_begins 2 = .ok (.invokevirtual 61, 3) := dk_182 0 61 (dk_at dksX5_begins_0 2 rfl rfl)
theorem dX5_begins_5 : decode cX5_begins 5 = .ok (.ifCond .ne 5, 3) := dk_154 0 5 (dk_at dksX5_begins_0 5 rfl rfl)
theorem dX5_begins_8 : decode cX5_begins 8 = .ok (.iconst 0, 1) := dk_3 (dk_at dksX5_begins_0 8 rfl rfl)
theorem dX5_begins_9 : decode cX5_begins 9 = .ok (.ireturn, 1) := dk_172 (dk_at dksX5_begins_0 9 rfl rfl)
theorem dX5_begins_10 : decode cX5_begins 10 = .ok (.aload_n 0, 1) := dk_42 (dk_at dksX5_begins_0 10 rfl rfl)
theorem dX5_begins_11 : decode cX5_begins 11 = .ok (.getfield 147, 3) := dk_180 0 147 (dk_at dksX5_begins_0 11 rfl rfl)
theorem dX5_begins_14 : decode cX5_begins 14 = .ok (.aload_n 0, 1) := dk_42 (dk_at dksX5_begins_0 14 rfl rfl)
theorem dX5_begins_15 : decode cX5_begins 15 = .ok (.getfield 19, 3) := dk_180 0 19 (dk_at dksX5_begins_0 15 rfl rfl)
theorem dX5_begins_18 : decode cX5_begins 18 = .ok (.if_icmp .eq 7, 3) := dk_159 0 7 (dk_at dksX5_begins_0 18 rfl rfl)
theorem dX5_begins_21 : decode cX5_begins 21 = .ok (.iload_n 2, 1) := dk_28 (dk_at dksX5_begins_0 21 rfl rfl)
theorem dX5_begins_22 : decode cX5_begins 22 = .ok (.ifCond .ne 16, 3) := dk_154 0 16 (dk_at dksX5_begins_1 0 rfl rfl)
theorem dX5_begins_25 : decode cX5_begins 25 = .ok (.aload_n 0, 1) := dk_42 (dk_at dksX5_begins_1 3 rfl rfl)
theorem dX5_begins_26 : decode cX5_begins 26 = .ok (.getfield 3, 3) := dk_180 0 3 (dk_at dksX5_begins_1 4 rfl rfl)
theorem dX5_begins_29 : decode cX5_begins 29 = .ok (.iconst 4, 1) := dk_7 (dk_at dksX5_begins_1 7 rfl rfl)
theorem dX5_begins_30 : decode cX5_begins 30 = .ok (.aload_n 0, 1) := dk_42 (dk_at dksX5_begins_1 8 rfl rfl)
theorem dX5_begins_31 : decode cX5_begins 31 = .ok (.getfield 23, 3) := dk_180 0 23 (dk_at dksX5_begins_1 9 rfl rfl)
theorem dX5_begins_34 : decode cX5_begins 34 = .ok (.invokevirtual 69, 3) := dk_182 0 69 (dk_at dksX5_begins_1 12 rfl rfl)
theorem dX5_begins_37 : decode cX5_begins 37 = .ok (.athrow, 1) := dk_191 (dk_at dksX5_begins_1 15 rfl rfl)
theorem dX5_begins_38 : decode cX5_begins 38 = .ok (.aload_n 0, 1) := dk_42 (dk_at dksX5_begins_1 16 rfl rfl)
theorem dX5_begins_39 : decode cX5_begins 39 = .ok (.dup, 1) := dk_89 (dk_at dksX5_begins_1 17 rfl rfl)
theorem dX5_begins_40 : decode cX5_begins 40 = .ok (.getfield 147, 3) := dk_180 0 147 (dk_at dksX5_begins_1 18 rfl rfl)
theorem dX5_begins_43 : decode cX5_begins 43 = .ok (.iconst 1, 1) := dk_4 (dk_at dksX5_begins_1 21 rfl rfl)
theorem dX5_begins_44 : decode cX5_begins 44 = .ok (.iadd, 1) := dk_96 (dk_at dksX5_begins_1 22 rfl rfl)
theorem dX5_begins_45 : decode cX5_begins 45 = .ok (.putfield 147, 3) := dk_181 0 147 (dk_at dksX5_begins_2 0 rfl rfl)
theorem dX5_begins_48 : decode cX5_begins 48 = .ok (.aload_n 0, 1) := dk_42 (dk_at dksX5_begins_2 3 rfl rfl)
theorem dX5_begins_49 : decode cX5_begins 49 = .ok (.dup, 1) := dk_89 (dk_at dksX5_begins_2 4 rfl rfl)
theorem dX5_begins_50 : decode cX5_begins 50 = .ok (.getfield 23, 3) := dk_180 0 23 (dk_at dksX5_begins_2 5 rfl rfl)
theorem dX5_begins_53 : decode cX5_begins 53 = .ok (.aload_n 1, 1) := dk_43 (dk_at dksX5_begins_2 8 rfl rfl)
theorem dX5_begins_54 : decode cX5_begins 54 = .ok (.invokevirtual 52, 3) := dk_182 0 52 (dk_at dksX5_begins_2 9 rfl rfl)
theorem dX5_begins_57 : decode cX5_begins 57 = .ok (.iadd, 1) := dk_96 (dk_at dksX5_begins_2 12 rfl rfl)
theorem dX5_begins_58 : decode cX5_begins 58 = .ok (.putfield 23, 3) := dk_181 0 23 (dk_at dksX5_begins_2 13 rfl rfl)
theorem dX5_begins_61 : decode cX5_begins 61 = .ok (.iconst 1, 1) := dk_4 (dk_at dksX5_begins_2 16 rfl rfl)
theorem dX5_begins_62 : decode cX5_begins 62 = .ok (.ireturn, 1) := dk_172 (dk_at dksX5_begins_2 17 rfl rfl)
abbrev cX5_isWord : ByteArray := prog_10_method_5_code
def yX5_isWord : MethodName := ⟨RX5, "isWord", "(Ljava/lang/String;)Z"⟩
def dkwX5_isWord_5 : List UInt8 := [132, 4, 1, 167, 255, 210, 29, 172]
abbrev dktX5_isWord_5 : List UInt8 := dkwX5_isWord_5 ++ []
def dkwX5_isWord_4 : List UInt8 := [180, 0, 23, 21, 4, 96, 51, 43, 21, 4, 182, 0, 57, 160, 0, 7, 4, 167, 0, 4, 3, 62]
abbrev dktX5_isWord_4 : List UInt8 := dkwX5_isWord_4 ++ dktX5_isWord_5
def dkwX5_isWord_3 : List UInt8 := [54, 4, 21, 4, 43, 182, 0, 52, 162, 0, 43, 29, 153, 0, 39, 42, 180, 0, 3, 180, 0, 29, 42]
abbrev dktX5_isWord_3 : List UInt8 := dkwX5_isWord_3 ++ dktX5_isWord_4
def dkwX5_isWord_2 : List UInt8 := [167, 255, 220, 28, 42, 180, 0, 23, 100, 43, 182, 0, 52, 160, 0, 7, 4, 167, 0, 4, 3, 62, 3]
abbrev dktX5_isWord_2 : List UInt8 := dkwX5_isWord_2 ++ dktX5_isWord_3
def dkwX5_isWord_1 : List UInt8 := [180, 0, 3, 180, 0, 29, 28, 51, 133, 20, 0, 48, 20, 0, 50, 184, 0, 41, 153, 0, 9, 132, 2, 1]
abbrev dktX5_isWord_1 : List UInt8 := dkwX5_isWord_1 ++ dktX5_isWord_2
def dkwX5_isWord_0 : List UInt8 := [42, 182, 0, 45, 87, 42, 180, 0, 23, 61, 28, 42, 180, 0, 3, 180, 0, 26, 162, 0, 31, 42]
abbrev dktX5_isWord_0 : List UInt8 := dkwX5_isWord_0 ++ dktX5_isWord_1
theorem dksX5_isWord_0 : cX5_isWord.data.toList.drop 0 = dktX5_isWord_0 := by decide +kernel
theorem dksX5_isWord_1 : cX5_isWord.data.toList.drop 22 = dktX5_isWord_1 := dk_seg dksX5_isWord_0 22 rfl rfl
theorem dksX5_isWord_2 : cX5_isWord.data.toList.drop 46 = dktX5_isWord_2 := dk_seg dksX5_isWord_1 24 rfl rfl
theorem dksX5_isWord_3 : cX5_isWord.data.toList.drop 69 = dktX5_isWord_3 := dk_seg dksX5_isWord_2 23 rfl rfl
theorem dksX5_isWord_4 : cX5_isWord.data.toList.drop 92 = dktX5_isWord_4 := dk_seg dksX5_isWord_3 23 rfl rfl
theorem dksX5_isWord_5 : cX5_isWord.data.toList.drop 114 = dktX5_isWord_5 := dk_seg dksX5_isWord_4 22 rfl rfl
theorem dX5_isWord_0 : decode cX5_isWord 0 = .ok (.aload_n 0, 1) := dk_42 (dk_at dksX5_isWord_0 0 rfl rfl)
theorem dX5_isWord_1 : decode cX5_isWord 1 = .ok (.invokevirtual 45, 3) := dk_182 0 45 (dk_at dksX5_isWord_0 1 rfl rfl)
theorem dX5_isWord_4 : decode cX5_isWord 4 = .ok (.pop, 1) := dk_87 (dk_at dksX5_isWord_0 4 rfl rfl)
theorem dX5_isWord_5 : decode cX5_isWord 5 = .ok (.aload_n 0, 1) := dk_42 (dk_at dksX5_isWord_0 5 rfl rfl)
theorem dX5_isWord_6 : decode cX5_isWord 6 = .ok (.getfield 23, 3) := dk_180 0 23 (dk_at dksX5_isWord_0 6 rfl rfl)
theorem dX5_isWord_9 : decode cX5_isWord 9 = .ok (.istore_n 2, 1) := dk_61 (dk_at dksX5_isWord_0 9 rfl rfl)
theorem dX5_isWord_10 : decode cX5_isWord 10 = .ok (.iload_n 2, 1) := dk_28 (dk_at dksX5_isWord_0 10 rfl rfl)
theorem dX5_isWord_11 : decode cX5_isWord 11 = .ok (.aload_n 0, 1) := dk_42 (dk_at dksX5_isWord_0 11 rfl rfl)
theorem dX5_isWord_12 : decode cX5_isWord 12 = .ok (.getfield 3, 3) := dk_180 0 3 (dk_at dksX5_isWord_0 12 rfl rfl)
theorem dX5_isWord_15 : decode cX5_isWord 15 = .ok (.getfield 26, 3) := dk_180 0 26 (dk_at dksX5_isWord_0 15 rfl rfl)
theorem dX5_isWord_18 : decode cX5_isWord 18 = .ok (.if_icmp .ge 31, 3) := dk_162 0 31 (dk_at dksX5_isWord_0 18 rfl rfl)
theorem dX5_isWord_21 : decode cX5_isWord 21 = .ok (.aload_n 0, 1) := dk_42 (dk_at dksX5_isWord_0 21 rfl rfl)
theorem dX5_isWord_22 : decode cX5_isWord 22 = .ok (.getfield 3, 3) := dk_180 0 3 (dk_at dksX5_isWord_1 0 rfl rfl)
theorem dX5_isWord_25 : decode cX5_isWord 25 = .ok (.getfield 29, 3) := dk_180 0 29 (dk_at dksX5_isWord_1 3 rfl rfl)
theorem dX5_isWord_28 : decode cX5_isWord 28 = .ok (.iload_n 2, 1) := dk_28 (dk_at dksX5_isWord_1 6 rfl rfl)
theorem dX5_isWord_29 : decode cX5_isWord 29 = .ok (.baload, 1) := dk_51 (dk_at dksX5_isWord_1 7 rfl rfl)
theorem dX5_isWord_30 : decode cX5_isWord 30 = .ok (.i2l, 1) := dk_133 (dk_at dksX5_isWord_1 8 rfl rfl)
theorem dX5_isWord_31 : decode cX5_isWord 31 = .ok (.ldc2_w 48, 3) := dk_20 0 48 (dk_at dksX5_isWord_1 9 rfl rfl)
theorem dX5_isWord_34 : decode cX5_isWord 34 = .ok (.ldc2_w 50, 3) := dk_20 0 50 (dk_at dksX5_isWord_1 12 rfl rfl)
theorem dX5_isWord_37 : decode cX5_isWord 37 = .ok (.invokestatic 41, 3) := dk_184 0 41 (dk_at dksX5_isWord_1 15 rfl rfl)
theorem dX5_isWord_40 : decode cX5_isWord 40 = .ok (.ifCond .eq 9, 3) := dk_153 0 9 (dk_at dksX5_isWord_1 18 rfl rfl)
theorem dX5_isWord_43 : decode cX5_isWord 43 = .ok (.iinc 2 1, 3) := dk_132 2 1 (dk_at dksX5_isWord_1 21 rfl rfl)
theorem dX5_isWord_46 : decode cX5_isWord 46 = .ok (.goto (-36), 3) := dk_167 255 220 (dk_at dksX5_isWord_2 0 rfl rfl)
theorem dX5_isWord_49 : decode cX5_isWord 49 = .ok (.iload_n 2, 1) := dk_28 (dk_at dksX5_isWord_2 3 rfl rfl)
theorem dX5_isWord_50 : decode cX5_isWord 50 = .ok (.aload_n 0, 1) := dk_42 (dk_at dksX5_isWord_2 4 rfl rfl)
theorem dX5_isWord_51 : decode cX5_isWord 51 = .ok (.getfield 23, 3) := dk_180 0 23 (dk_at dksX5_isWord_2 5 rfl rfl)
theorem dX5_isWord_54 : decode cX5_isWord 54 = .ok (.isub, 1) := dk_100 (dk_at dksX5_isWord_2 8 rfl rfl)
theorem dX5_isWord_55 : decode cX5_isWord 55 = .ok (.aload_n 1, 1) := dk_43 (dk_at dksX5_isWord_2 9 rfl rfl)
theorem dX5_isWord_56 : decode cX5_isWord 56 = .ok (.invokevirtual 52, 3) := dk_182 0 52 (dk_at dksX5_isWord_2 10 rfl rfl)
theorem dX5_isWord_59 : decode cX5_isWord 59 = .ok (.if_icmp .ne 7, 3) := dk_160 0 7 (dk_at dksX5_isWord_2 13 rfl rfl)
theorem dX5_isWord_62 : decode cX5_isWord 62 = .ok (.iconst 1, 1) := dk_4 (dk_at dksX5_isWord_2 16 rfl rfl)
theorem dX5_isWord_63 : decode cX5_isWord 63 = .ok (.goto 4, 3) := dk_167 0 4 (dk_at dksX5_isWord_2 17 rfl rfl)
theorem dX5_isWord_66 : decode cX5_isWord 66 = .ok (.iconst 0, 1) := dk_3 (dk_at dksX5_isWord_2 20 rfl rfl)
theorem dX5_isWord_67 : decode cX5_isWord 67 = .ok (.istore_n 3, 1) := dk_62 (dk_at dksX5_isWord_2 21 rfl rfl)
theorem dX5_isWord_68 : decode cX5_isWord 68 = .ok (.iconst 0, 1) := dk_3 (dk_at dksX5_isWord_2 22 rfl rfl)
theorem dX5_isWord_69 : decode cX5_isWord 69 = .ok (.istore 4, 2) := dk_54 4 (dk_at dksX5_isWord_3 0 rfl rfl)
theorem dX5_isWord_71 : decode cX5_isWord 71 = .ok (.iload 4, 2) := dk_21 4 (dk_at dksX5_isWord_3 2 rfl rfl)
theorem dX5_isWord_73 : decode cX5_isWord 73 = .ok (.aload_n 1, 1) := dk_43 (dk_at dksX5_isWord_3 4 rfl rfl)
theorem dX5_isWord_74 : decode cX5_isWord 74 = .ok (.invokevirtual 52, 3) := dk_182 0 52 (dk_at dksX5_isWord_3 5 rfl rfl)
theorem dX5_isWord_77 : decode cX5_isWord 77 = .ok (.if_icmp .ge 43, 3) := dk_162 0 43 (dk_at dksX5_isWord_3 8 rfl rfl)
theorem dX5_isWord_80 : decode cX5_isWord 80 = .ok (.iload_n 3, 1) := dk_29 (dk_at dksX5_isWord_3 11 rfl rfl)
theorem dX5_isWord_81 : decode cX5_isWord 81 = .ok (.ifCond .eq 39, 3) := dk_153 0 39 (dk_at dksX5_isWord_3 12 rfl rfl)
theorem dX5_isWord_84 : decode cX5_isWord 84 = .ok (.aload_n 0, 1) := dk_42 (dk_at dksX5_isWord_3 15 rfl rfl)
theorem dX5_isWord_85 : decode cX5_isWord 85 = .ok (.getfield 3, 3) := dk_180 0 3 (dk_at dksX5_isWord_3 16 rfl rfl)
theorem dX5_isWord_88 : decode cX5_isWord 88 = .ok (.getfield 29, 3) := dk_180 0 29 (dk_at dksX5_isWord_3 19 rfl rfl)
theorem dX5_isWord_91 : decode cX5_isWord 91 = .ok (.aload_n 0, 1) := dk_42 (dk_at dksX5_isWord_3 22 rfl rfl)
theorem dX5_isWord_92 : decode cX5_isWord 92 = .ok (.getfield 23, 3) := dk_180 0 23 (dk_at dksX5_isWord_4 0 rfl rfl)
theorem dX5_isWord_95 : decode cX5_isWord 95 = .ok (.iload 4, 2) := dk_21 4 (dk_at dksX5_isWord_4 3 rfl rfl)
theorem dX5_isWord_97 : decode cX5_isWord 97 = .ok (.iadd, 1) := dk_96 (dk_at dksX5_isWord_4 5 rfl rfl)
theorem dX5_isWord_98 : decode cX5_isWord 98 = .ok (.baload, 1) := dk_51 (dk_at dksX5_isWord_4 6 rfl rfl)
theorem dX5_isWord_99 : decode cX5_isWord 99 = .ok (.aload_n 1, 1) := dk_43 (dk_at dksX5_isWord_4 7 rfl rfl)
theorem dX5_isWord_100 : decode cX5_isWord 100 = .ok (.iload 4, 2) := dk_21 4 (dk_at dksX5_isWord_4 8 rfl rfl)
theorem dX5_isWord_102 : decode cX5_isWord 102 = .ok (.invokevirtual 57, 3) := dk_182 0 57 (dk_at dksX5_isWord_4 10 rfl rfl)
theorem dX5_isWord_105 : decode cX5_isWord 105 = .ok (.if_icmp .ne 7, 3) := dk_160 0 7 (dk_at dksX5_isWord_4 13 rfl rfl)
theorem dX5_isWord_108 : decode cX5_isWord 108 = .ok (.iconst 1, 1) := dk_4 (dk_at dksX5_isWord_4 16 rfl rfl)
theorem dX5_isWord_109 : decode cX5_isWord 109 = .ok (.goto 4, 3) := dk_167 0 4 (dk_at dksX5_isWord_4 17 rfl rfl)
theorem dX5_isWord_112 : decode cX5_isWord 112 = .ok (.iconst 0, 1) := dk_3 (dk_at dksX5_isWord_4 20 rfl rfl)
theorem dX5_isWord_113 : decode cX5_isWord 113 = .ok (.istore_n 3, 1) := dk_62 (dk_at dksX5_isWord_4 21 rfl rfl)
theorem dX5_isWord_114 : decode cX5_isWord 114 = .ok (.iinc 4 1, 3) := dk_132 4 1 (dk_at dksX5_isWord_5 0 rfl rfl)
theorem dX5_isWord_117 : decode cX5_isWord 117 = .ok (.goto (-46), 3) := dk_167 255 210 (dk_at dksX5_isWord_5 3 rfl rfl)
theorem dX5_isWord_120 : decode cX5_isWord 120 = .ok (.iload_n 3, 1) := dk_29 (dk_at dksX5_isWord_5 6 rfl rfl)
theorem dX5_isWord_121 : decode cX5_isWord 121 = .ok (.ireturn, 1) := dk_172 (dk_at dksX5_isWord_5 7 rfl rfl)
abbrev cX5_next : ByteArray := prog_10_method_3_code
def yX5_next : MethodName := ⟨RX5, "next", "()I"⟩
def dkwX5_next_1 : List UInt8 := [182, 0, 33, 172]
abbrev dktX5_next_1 : List UInt8 := dkwX5_next_1 ++ []
def dkwX5_next_0 : List UInt8 := [42, 182, 0, 33, 16, 32, 160, 0, 16, 42, 89, 180, 0, 23, 4, 96, 181, 0, 23, 167, 255, 237, 42]
abbrev dktX5_next_0 : List UInt8 := dkwX5_next_0 ++ dktX5_next_1
theorem dksX5_next_0 : cX5_next.data.toList.drop 0 = dktX5_next_0 := by decide +kernel
theorem dksX5_next_1 : cX5_next.data.toList.drop 23 = dktX5_next_1 := dk_seg dksX5_next_0 23 rfl rfl
theorem dX5_next_0 : decode cX5_next 0 = .ok (.aload_n 0, 1) := dk_42 (dk_at dksX5_next_0 0 rfl rfl)
theorem dX5_next_1 : decode cX5_next 1 = .ok (.invokevirtual 33, 3) := dk_182 0 33 (dk_at dksX5_next_0 1 rfl rfl)
theorem dX5_next_4 : decode cX5_next 4 = .ok (.bipush 32, 2) := dk_16 32 (dk_at dksX5_next_0 4 rfl rfl)
theorem dX5_next_6 : decode cX5_next 6 = .ok (.if_icmp .ne 16, 3) := dk_160 0 16 (dk_at dksX5_next_0 6 rfl rfl)
theorem dX5_next_9 : decode cX5_next 9 = .ok (.aload_n 0, 1) := dk_42 (dk_at dksX5_next_0 9 rfl rfl)
theorem dX5_next_10 : decode cX5_next 10 = .ok (.dup, 1) := dk_89 (dk_at dksX5_next_0 10 rfl rfl)
theorem dX5_next_11 : decode cX5_next 11 = .ok (.getfield 23, 3) := dk_180 0 23 (dk_at dksX5_next_0 11 rfl rfl)
theorem dX5_next_14 : decode cX5_next 14 = .ok (.iconst 1, 1) := dk_4 (dk_at dksX5_next_0 14 rfl rfl)
theorem dX5_next_15 : decode cX5_next 15 = .ok (.iadd, 1) := dk_96 (dk_at dksX5_next_0 15 rfl rfl)
theorem dX5_next_16 : decode cX5_next 16 = .ok (.putfield 23, 3) := dk_181 0 23 (dk_at dksX5_next_0 16 rfl rfl)
theorem dX5_next_19 : decode cX5_next 19 = .ok (.goto (-19), 3) := dk_167 255 237 (dk_at dksX5_next_0 19 rfl rfl)
theorem dX5_next_22 : decode cX5_next 22 = .ok (.aload_n 0, 1) := dk_42 (dk_at dksX5_next_0 22 rfl rfl)
theorem dX5_next_23 : decode cX5_next 23 = .ok (.invokevirtual 33, 3) := dk_182 0 33 (dk_at dksX5_next_1 0 rfl rfl)
theorem dX5_next_26 : decode cX5_next 26 = .ok (.ireturn, 1) := dk_172 (dk_at dksX5_next_1 3 rfl rfl)
abbrev cX5_sign : ByteArray := prog_10_method_2_code
def yX5_sign : MethodName := ⟨RX5, "sign", "()I"⟩
def dkwX5_sign_1 : List UInt8 := [180, 0, 23, 51, 17, 0, 255, 126, 167, 0, 4, 2, 172]
abbrev dktX5_sign_1 : List UInt8 := dkwX5_sign_1 ++ []
def dkwX5_sign_0 : List UInt8 := [42, 180, 0, 23, 42, 180, 0, 3, 180, 0, 26, 162, 0, 22, 42, 180, 0, 3, 180, 0, 29, 42]
abbrev dktX5_sign_0 : List UInt8 := dkwX5_sign_0 ++ dktX5_sign_1
theorem dksX5_sign_0 : cX5_sign.data.toList.drop 0 = dktX5_sign_0 := by decide +kernel
theorem dksX5_sign_1 : cX5_sign.data.toList.drop 22 = dktX5_sign_1 := dk_seg dksX5_sign_0 22 rfl rfl
theorem dX5_sign_0 : decode cX5_sign 0 = .ok (.aload_n 0, 1) := dk_42 (dk_at dksX5_sign_0 0 rfl rfl)
theorem dX5_sign_1 : decode cX5_sign 1 = .ok (.getfield 23, 3) := dk_180 0 23 (dk_at dksX5_sign_0 1 rfl rfl)
theorem dX5_sign_4 : decode cX5_sign 4 = .ok (.aload_n 0, 1) := dk_42 (dk_at dksX5_sign_0 4 rfl rfl)
theorem dX5_sign_5 : decode cX5_sign 5 = .ok (.getfield 3, 3) := dk_180 0 3 (dk_at dksX5_sign_0 5 rfl rfl)
theorem dX5_sign_8 : decode cX5_sign 8 = .ok (.getfield 26, 3) := dk_180 0 26 (dk_at dksX5_sign_0 8 rfl rfl)
theorem dX5_sign_11 : decode cX5_sign 11 = .ok (.if_icmp .ge 22, 3) := dk_162 0 22 (dk_at dksX5_sign_0 11 rfl rfl)
theorem dX5_sign_14 : decode cX5_sign 14 = .ok (.aload_n 0, 1) := dk_42 (dk_at dksX5_sign_0 14 rfl rfl)
theorem dX5_sign_15 : decode cX5_sign 15 = .ok (.getfield 3, 3) := dk_180 0 3 (dk_at dksX5_sign_0 15 rfl rfl)
theorem dX5_sign_18 : decode cX5_sign 18 = .ok (.getfield 29, 3) := dk_180 0 29 (dk_at dksX5_sign_0 18 rfl rfl)
theorem dX5_sign_21 : decode cX5_sign 21 = .ok (.aload_n 0, 1) := dk_42 (dk_at dksX5_sign_0 21 rfl rfl)
theorem dX5_sign_22 : decode cX5_sign 22 = .ok (.getfield 23, 3) := dk_180 0 23 (dk_at dksX5_sign_1 0 rfl rfl)
theorem dX5_sign_25 : decode cX5_sign 25 = .ok (.baload, 1) := dk_51 (dk_at dksX5_sign_1 3 rfl rfl)
theorem dX5_sign_26 : decode cX5_sign 26 = .ok (.sipush 255, 3) := dk_17 0 255 (dk_at dksX5_sign_1 4 rfl rfl)
theorem dX5_sign_29 : decode cX5_sign 29 = .ok (.iand, 1) := dk_126 (dk_at dksX5_sign_1 7 rfl rfl)
theorem dX5_sign_30 : decode cX5_sign 30 = .ok (.goto 4, 3) := dk_167 0 4 (dk_at dksX5_sign_1 8 rfl rfl)
theorem dX5_sign_33 : decode cX5_sign 33 = .ok (.iconst (-1), 1) := dk_2 (dk_at dksX5_sign_1 11 rfl rfl)
theorem dX5_sign_34 : decode cX5_sign 34 = .ok (.ireturn, 1) := dk_172 (dk_at dksX5_sign_1 12 rfl rfl)
abbrev cX5_number : ByteArray := prog_10_method_7_code
def yX5_number : MethodName := ⟨RX5, "number", "(II)I"⟩
def dkwX5_number_4 : List UInt8 := [133, 27, 133, 28, 133, 184, 0, 41, 154, 0, 13, 42, 180, 0, 3, 4, 29, 182, 0, 69, 191, 21, 4, 172]
abbrev dktX5_number_4 : List UInt8 := dkwX5_number_4 ++ []
def dkwX5_number_3 : List UInt8 := [89, 180, 0, 23, 4, 96, 181, 0, 23, 167, 255, 209, 42, 180, 0, 23, 29, 100, 8, 163, 0, 16, 21, 4]
abbrev dktX5_number_3 : List UInt8 := dkwX5_number_3 ++ dktX5_number_4
def dkwX5_number_2 : List UInt8 := [162, 0, 19, 16, 10, 21, 4, 104, 42, 182, 0, 33, 96, 16, 48, 100, 167, 0, 5, 21, 4, 54, 4, 42]
abbrev dktX5_number_2 : List UInt8 := dkwX5_number_2 ++ dktX5_number_3
def dkwX5_number_1 : List UInt8 := [191, 42, 180, 0, 23, 62, 3, 54, 4, 42, 182, 0, 65, 153, 0, 46, 42, 180, 0, 23, 29, 100, 8]
abbrev dktX5_number_1 : List UInt8 := dkwX5_number_1 ++ dktX5_number_2
def dkwX5_number_0 : List UInt8 := [42, 182, 0, 45, 87, 42, 182, 0, 65, 154, 0, 16, 42, 180, 0, 3, 3, 42, 180, 0, 23, 182, 0, 69]
abbrev dktX5_number_0 : List UInt8 := dkwX5_number_0 ++ dktX5_number_1
theorem dksX5_number_0 : cX5_number.data.toList.drop 0 = dktX5_number_0 := by decide +kernel
theorem dksX5_number_1 : cX5_number.data.toList.drop 24 = dktX5_number_1 := dk_seg dksX5_number_0 24 rfl rfl
theorem dksX5_number_2 : cX5_number.data.toList.drop 47 = dktX5_number_2 := dk_seg dksX5_number_1 23 rfl rfl
theorem dksX5_number_3 : cX5_number.data.toList.drop 71 = dktX5_number_3 := dk_seg dksX5_number_2 24 rfl rfl
theorem dksX5_number_4 : cX5_number.data.toList.drop 95 = dktX5_number_4 := dk_seg dksX5_number_3 24 rfl rfl
theorem dX5_number_0 : decode cX5_number 0 = .ok (.aload_n 0, 1) := dk_42 (dk_at dksX5_number_0 0 rfl rfl)
theorem dX5_number_1 : decode cX5_number 1 = .ok (.invokevirtual 45, 3) := dk_182 0 45 (dk_at dksX5_number_0 1 rfl rfl)
theorem dX5_number_4 : decode cX5_number 4 = .ok (.pop, 1) := dk_87 (dk_at dksX5_number_0 4 rfl rfl)
theorem dX5_number_5 : decode cX5_number 5 = .ok (.aload_n 0, 1) := dk_42 (dk_at dksX5_number_0 5 rfl rfl)
theorem dX5_number_6 : decode cX5_number 6 = .ok (.invokevirtual 65, 3) := dk_182 0 65 (dk_at dksX5_number_0 6 rfl rfl)
theorem dX5_number_9 : decode cX5_number 9 = .ok (.ifCond .ne 16, 3) := dk_154 0 16 (dk_at dksX5_number_0 9 rfl rfl)
theorem dX5_number_12 : decode cX5_number 12 = .ok (.aload_n 0, 1) := dk_42 (dk_at dksX5_number_0 12 rfl rfl)
theorem dX5_number_13 : decode cX5_number 13 = .ok (.getfield 3, 3) := dk_180 0 3 (dk_at dksX5_number_0 13 rfl rfl)
theorem dX5_number_16 : decode cX5_number 16 = .ok (.iconst 0, 1) := dk_3 (dk_at dksX5_number_0 16 rfl rfl)
theorem dX5_number_17 : decode cX5_number 17 = .ok (.aload_n 0, 1) := dk_42 (dk_at dksX5_number_0 17 rfl rfl)
theorem dX5_number_18 : decode cX5_number 18 = .ok (.getfield 23, 3) := dk_180 0 23 (dk_at dksX5_number_0 18 rfl rfl)
theorem dX5_number_21 : decode cX5_number 21 = .ok (.invokevirtual 69, 3) := dk_182 0 69 (dk_at dksX5_number_0 21 rfl rfl)
theorem dX5_number_24 : decode cX5_number 24 = .ok (.athrow, 1) := dk_191 (dk_at dksX5_number_1 0 rfl rfl)
theorem dX5_number_25 : decode cX5_number 25 = .ok (.aload_n 0, 1) := dk_42 (dk_at dksX5_number_1 1 rfl rfl)
theorem dX5_number_26 : decode cX5_number 26 = .ok (.getfield 23, 3) := dk_180 0 23 (dk_at dksX5_number_1 2 rfl rfl)
theorem dX5_number_29 : decode cX5_number 29 = .ok (.istore_n 3, 1) := dk_62 (dk_at dksX5_number_1 5 rfl rfl)
theorem dX5_number_30 : decode cX5_number 30 = .ok (.iconst 0, 1) := dk_3 (dk_at dksX5_number_1 6 rfl rfl)
theorem dX5_number_31 : decode cX5_number 31 = .ok (.istore 4, 2) := dk_54 4 (dk_at dksX5_number_1 7 rfl rfl)
theorem dX5_number_33 : decode cX5_number 33 = .ok (.aload_n 0, 1) := dk_42 (dk_at dksX5_number_1 9 rfl rfl)
theorem dX5_number_34 : decode cX5_number 34 = .ok (.invokevirtual 65, 3) := dk_182 0 65 (dk_at dksX5_number_1 10 rfl rfl)
theorem dX5_number_37 : decode cX5_number 37 = .ok (.ifCond .eq 46, 3) := dk_153 0 46 (dk_at dksX5_number_1 13 rfl rfl)
theorem dX5_number_40 : decode cX5_number 40 = .ok (.aload_n 0, 1) := dk_42 (dk_at dksX5_number_1 16 rfl rfl)
theorem dX5_number_41 : decode cX5_number 41 = .ok (.getfield 23, 3) := dk_180 0 23 (dk_at dksX5_number_1 17 rfl rfl)
theorem dX5_number_44 : decode cX5_number 44 = .ok (.iload_n 3, 1) := dk_29 (dk_at dksX5_number_1 20 rfl rfl)
theorem dX5_number_45 : decode cX5_number 45 = .ok (.isub, 1) := dk_100 (dk_at dksX5_number_1 21 rfl rfl)
theorem dX5_number_46 : decode cX5_number 46 = .ok (.iconst 5, 1) := dk_8 (dk_at dksX5_number_1 22 rfl rfl)
theorem dX5_number_47 : decode cX5_number 47 = .ok (.if_icmp .ge 19, 3) := dk_162 0 19 (dk_at dksX5_number_2 0 rfl rfl)
theorem dX5_number_50 : decode cX5_number 50 = .ok (.bipush 10, 2) := dk_16 10 (dk_at dksX5_number_2 3 rfl rfl)
theorem dX5_number_52 : decode cX5_number 52 = .ok (.iload 4, 2) := dk_21 4 (dk_at dksX5_number_2 5 rfl rfl)
theorem dX5_number_54 : decode cX5_number 54 = .ok (.imul, 1) := dk_104 (dk_at dksX5_number_2 7 rfl rfl)
theorem dX5_number_55 : decode cX5_number 55 = .ok (.aload_n 0, 1) := dk_42 (dk_at dksX5_number_2 8 rfl rfl)
theorem dX5_number_56 : decode cX5_number 56 = .ok (.invokevirtual 33, 3) := dk_182 0 33 (dk_at dksX5_number_2 9 rfl rfl)
theorem dX5_number_59 : decode cX5_number 59 = .ok (.iadd, 1) := dk_96 (dk_at dksX5_number_2 12 rfl rfl)
theorem dX5_number_60 : decode cX5_number 60 = .ok (.bipush 48, 2) := dk_16 48 (dk_at dksX5_number_2 13 rfl rfl)
theorem dX5_number_62 : decode cX5_number 62 = .ok (.isub, 1) := dk_100 (dk_at dksX5_number_2 15 rfl rfl)
theorem dX5_number_63 : decode cX5_number 63 = .ok (.goto 5, 3) := dk_167 0 5 (dk_at dksX5_number_2 16 rfl rfl)
theorem dX5_number_66 : decode cX5_number 66 = .ok (.iload 4, 2) := dk_21 4 (dk_at dksX5_number_2 19 rfl rfl)
theorem dX5_number_68 : decode cX5_number 68 = .ok (.istore 4, 2) := dk_54 4 (dk_at dksX5_number_2 21 rfl rfl)
theorem dX5_number_70 : decode cX5_number 70 = .ok (.aload_n 0, 1) := dk_42 (dk_at dksX5_number_2 23 rfl rfl)
theorem dX5_number_71 : decode cX5_number 71 = .ok (.dup, 1) := dk_89 (dk_at dksX5_number_3 0 rfl rfl)
theorem dX5_number_72 : decode cX5_number 72 = .ok (.getfield 23, 3) := dk_180 0 23 (dk_at dksX5_number_3 1 rfl rfl)
theorem dX5_number_75 : decode cX5_number 75 = .ok (.iconst 1, 1) := dk_4 (dk_at dksX5_number_3 4 rfl rfl)
theorem dX5_number_76 : decode cX5_number 76 = .ok (.iadd, 1) := dk_96 (dk_at dksX5_number_3 5 rfl rfl)
theorem dX5_number_77 : decode cX5_number 77 = .ok (.putfield 23, 3) := dk_181 0 23 (dk_at dksX5_number_3 6 rfl rfl)
theorem dX5_number_80 : decode cX5_number 80 = .ok (.goto (-47), 3) := dk_167 255 209 (dk_at dksX5_number_3 9 rfl rfl)
theorem dX5_number_83 : decode cX5_number 83 = .ok (.aload_n 0, 1) := dk_42 (dk_at dksX5_number_3 12 rfl rfl)
theorem dX5_number_84 : decode cX5_number 84 = .ok (.getfield 23, 3) := dk_180 0 23 (dk_at dksX5_number_3 13 rfl rfl)
theorem dX5_number_87 : decode cX5_number 87 = .ok (.iload_n 3, 1) := dk_29 (dk_at dksX5_number_3 16 rfl rfl)
theorem dX5_number_88 : decode cX5_number 88 = .ok (.isub, 1) := dk_100 (dk_at dksX5_number_3 17 rfl rfl)
theorem dX5_number_89 : decode cX5_number 89 = .ok (.iconst 5, 1) := dk_8 (dk_at dksX5_number_3 18 rfl rfl)
theorem dX5_number_90 : decode cX5_number 90 = .ok (.if_icmp .gt 16, 3) := dk_163 0 16 (dk_at dksX5_number_3 19 rfl rfl)
theorem dX5_number_93 : decode cX5_number 93 = .ok (.iload 4, 2) := dk_21 4 (dk_at dksX5_number_3 22 rfl rfl)
theorem dX5_number_95 : decode cX5_number 95 = .ok (.i2l, 1) := dk_133 (dk_at dksX5_number_4 0 rfl rfl)
theorem dX5_number_96 : decode cX5_number 96 = .ok (.iload_n 1, 1) := dk_27 (dk_at dksX5_number_4 1 rfl rfl)
theorem dX5_number_97 : decode cX5_number 97 = .ok (.i2l, 1) := dk_133 (dk_at dksX5_number_4 2 rfl rfl)
theorem dX5_number_98 : decode cX5_number 98 = .ok (.iload_n 2, 1) := dk_28 (dk_at dksX5_number_4 3 rfl rfl)
theorem dX5_number_99 : decode cX5_number 99 = .ok (.i2l, 1) := dk_133 (dk_at dksX5_number_4 4 rfl rfl)
theorem dX5_number_100 : decode cX5_number 100 = .ok (.invokestatic 41, 3) := dk_184 0 41 (dk_at dksX5_number_4 5 rfl rfl)
theorem dX5_number_103 : decode cX5_number 103 = .ok (.ifCond .ne 13, 3) := dk_154 0 13 (dk_at dksX5_number_4 8 rfl rfl)
theorem dX5_number_106 : decode cX5_number 106 = .ok (.aload_n 0, 1) := dk_42 (dk_at dksX5_number_4 11 rfl rfl)
theorem dX5_number_107 : decode cX5_number 107 = .ok (.getfield 3, 3) := dk_180 0 3 (dk_at dksX5_number_4 12 rfl rfl)
theorem dX5_number_110 : decode cX5_number 110 = .ok (.iconst 1, 1) := dk_4 (dk_at dksX5_number_4 15 rfl rfl)
theorem dX5_number_111 : decode cX5_number 111 = .ok (.iload_n 3, 1) := dk_29 (dk_at dksX5_number_4 16 rfl rfl)
theorem dX5_number_112 : decode cX5_number 112 = .ok (.invokevirtual 69, 3) := dk_182 0 69 (dk_at dksX5_number_4 17 rfl rfl)
theorem dX5_number_115 : decode cX5_number 115 = .ok (.athrow, 1) := dk_191 (dk_at dksX5_number_4 20 rfl rfl)
theorem dX5_number_116 : decode cX5_number 116 = .ok (.iload 4, 2) := dk_21 4 (dk_at dksX5_number_4 21 rfl rfl)
theorem dX5_number_118 : decode cX5_number 118 = .ok (.ireturn, 1) := dk_172 (dk_at dksX5_number_4 23 rfl rfl)
abbrev cX5_isDigit : ByteArray := prog_10_method_4_code
def yX5_isDigit : MethodName := ⟨RX5, "isDigit", "()Z"⟩
def dkwX5_isDigit_0 : List UInt8 := [42, 182, 0, 33, 133, 20, 0, 37, 20, 0, 39, 184, 0, 41, 172]
abbrev dktX5_isDigit_0 : List UInt8 := dkwX5_isDigit_0 ++ []
theorem dksX5_isDigit_0 : cX5_isDigit.data.toList.drop 0 = dktX5_isDigit_0 := by decide +kernel
theorem dX5_isDigit_0 : decode cX5_isDigit 0 = .ok (.aload_n 0, 1) := dk_42 (dk_at dksX5_isDigit_0 0 rfl rfl)
theorem dX5_isDigit_1 : decode cX5_isDigit 1 = .ok (.invokevirtual 33, 3) := dk_182 0 33 (dk_at dksX5_isDigit_0 1 rfl rfl)
theorem dX5_isDigit_4 : decode cX5_isDigit 4 = .ok (.i2l, 1) := dk_133 (dk_at dksX5_isDigit_0 4 rfl rfl)
theorem dX5_isDigit_5 : decode cX5_isDigit 5 = .ok (.ldc2_w 37, 3) := dk_20 0 37 (dk_at dksX5_isDigit_0 5 rfl rfl)
theorem dX5_isDigit_8 : decode cX5_isDigit 8 = .ok (.ldc2_w 39, 3) := dk_20 0 39 (dk_at dksX5_isDigit_0 8 rfl rfl)
theorem dX5_isDigit_11 : decode cX5_isDigit 11 = .ok (.invokestatic 41, 3) := dk_184 0 41 (dk_at dksX5_isDigit_0 11 rfl rfl)
theorem dX5_isDigit_14 : decode cX5_isDigit 14 = .ok (.ireturn, 1) := dk_172 (dk_at dksX5_isDigit_0 14 rfl rfl)
abbrev cX5_road : ByteArray := prog_10_method_17_code
def yX5_road : MethodName := ⟨RX5, "road", "(LDutyBeats$Junction;)V"⟩
def dkwX5_road_1 : List UInt8 := [28, 29, 42, 3, 16, 11, 182, 0, 82, 183, 0, 158, 182, 0, 161, 87, 177]
abbrev dktX5_road_1 : List UInt8 := dkwX5_road_1 ++ []
def dkwX5_road_0 : List UInt8 := [42, 3, 16, 30, 182, 0, 82, 61, 42, 4, 16, 12, 182, 0, 82, 62, 43, 180, 0, 150, 187, 0, 156, 89]
abbrev dktX5_road_0 : List UInt8 := dkwX5_road_0 ++ dktX5_road_1
theorem dksX5_road_0 : cX5_road.data.toList.drop 0 = dktX5_road_0 := by decide +kernel
theorem dksX5_road_1 : cX5_road.data.toList.drop 24 = dktX5_road_1 := dk_seg dksX5_road_0 24 rfl rfl
theorem dX5_road_0 : decode cX5_road 0 = .ok (.aload_n 0, 1) := dk_42 (dk_at dksX5_road_0 0 rfl rfl)
theorem dX5_road_1 : decode cX5_road 1 = .ok (.iconst 0, 1) := dk_3 (dk_at dksX5_road_0 1 rfl rfl)
theorem dX5_road_2 : decode cX5_road 2 = .ok (.bipush 30, 2) := dk_16 30 (dk_at dksX5_road_0 2 rfl rfl)
theorem dX5_road_4 : decode cX5_road 4 = .ok (.invokevirtual 82, 3) := dk_182 0 82 (dk_at dksX5_road_0 4 rfl rfl)
theorem dX5_road_7 : decode cX5_road 7 = .ok (.istore_n 2, 1) := dk_61 (dk_at dksX5_road_0 7 rfl rfl)
theorem dX5_road_8 : decode cX5_road 8 = .ok (.aload_n 0, 1) := dk_42 (dk_at dksX5_road_0 8 rfl rfl)
theorem dX5_road_9 : decode cX5_road 9 = .ok (.iconst 1, 1) := dk_4 (dk_at dksX5_road_0 9 rfl rfl)
theorem dX5_road_10 : decode cX5_road 10 = .ok (.bipush 12, 2) := dk_16 12 (dk_at dksX5_road_0 10 rfl rfl)
theorem dX5_road_12 : decode cX5_road 12 = .ok (.invokevirtual 82, 3) := dk_182 0 82 (dk_at dksX5_road_0 12 rfl rfl)
theorem dX5_road_15 : decode cX5_road 15 = .ok (.istore_n 3, 1) := dk_62 (dk_at dksX5_road_0 15 rfl rfl)
theorem dX5_road_16 : decode cX5_road 16 = .ok (.aload_n 1, 1) := dk_43 (dk_at dksX5_road_0 16 rfl rfl)
theorem dX5_road_17 : decode cX5_road 17 = .ok (.getfield 150, 3) := dk_180 0 150 (dk_at dksX5_road_0 17 rfl rfl)
theorem dX5_road_20 : decode cX5_road 20 = .ok (.new 156, 3) := dk_187 0 156 (dk_at dksX5_road_0 20 rfl rfl)
theorem dX5_road_23 : decode cX5_road 23 = .ok (.dup, 1) := dk_89 (dk_at dksX5_road_0 23 rfl rfl)
theorem dX5_road_24 : decode cX5_road 24 = .ok (.iload_n 2, 1) := dk_28 (dk_at dksX5_road_1 0 rfl rfl)
theorem dX5_road_25 : decode cX5_road 25 = .ok (.iload_n 3, 1) := dk_29 (dk_at dksX5_road_1 1 rfl rfl)
theorem dX5_road_26 : decode cX5_road 26 = .ok (.aload_n 0, 1) := dk_42 (dk_at dksX5_road_1 2 rfl rfl)
theorem dX5_road_27 : decode cX5_road 27 = .ok (.iconst 0, 1) := dk_3 (dk_at dksX5_road_1 3 rfl rfl)
theorem dX5_road_28 : decode cX5_road 28 = .ok (.bipush 11, 2) := dk_16 11 (dk_at dksX5_road_1 4 rfl rfl)
theorem dX5_road_30 : decode cX5_road 30 = .ok (.invokevirtual 82, 3) := dk_182 0 82 (dk_at dksX5_road_1 6 rfl rfl)
theorem dX5_road_33 : decode cX5_road 33 = .ok (.invokespecial 158, 3) := dk_183 0 158 (dk_at dksX5_road_1 9 rfl rfl)
theorem dX5_road_36 : decode cX5_road 36 = .ok (.invokevirtual 161, 3) := dk_182 0 161 (dk_at dksX5_road_1 12 rfl rfl)
theorem dX5_road_39 : decode cX5_road 39 = .ok (.pop, 1) := dk_87 (dk_at dksX5_road_1 15 rfl rfl)
theorem dX5_road_40 : decode cX5_road 40 = .ok (.return_, 1) := dk_177 (dk_at dksX5_road_1 16 rfl rfl)
abbrev cX5_clash : ByteArray := prog_10_method_18_code
def yX5_clash : MethodName := ⟨RX5, "clash", "(LDutyBeats$Junction;)V"⟩
def dkwX5_clash_3 : List UInt8 := [46, 4, 28, 120, 128, 79, 177]
abbrev dktX5_clash_3 : List UInt8 := dkwX5_clash_3 ++ []
def dkwX5_clash_2 : List UInt8 := [182, 0, 69, 191, 43, 180, 0, 169, 28, 92, 46, 4, 21, 4, 120, 128, 79, 43, 180, 0, 169, 21, 4, 92]
abbrev dktX5_clash_2 : List UInt8 := dkwX5_clash_2 ++ dktX5_clash_3
def dkwX5_clash_1 : List UInt8 := [43, 182, 0, 167, 4, 100, 182, 0, 82, 54, 4, 28, 21, 4, 160, 0, 13, 42, 180, 0, 3, 4, 29]
abbrev dktX5_clash_1 : List UInt8 := dkwX5_clash_1 ++ dktX5_clash_2
def dkwX5_clash_0 : List UInt8 := [42, 3, 43, 182, 0, 167, 4, 100, 182, 0, 82, 61, 42, 182, 0, 45, 87, 42, 180, 0, 23, 62, 42, 3]
abbrev dktX5_clash_0 : List UInt8 := dkwX5_clash_0 ++ dktX5_clash_1
theorem dksX5_clash_0 : cX5_clash.data.toList.drop 0 = dktX5_clash_0 := by decide +kernel
theorem dksX5_clash_1 : cX5_clash.data.toList.drop 24 = dktX5_clash_1 := dk_seg dksX5_clash_0 24 rfl rfl
theorem dksX5_clash_2 : cX5_clash.data.toList.drop 47 = dktX5_clash_2 := dk_seg dksX5_clash_1 23 rfl rfl
theorem dksX5_clash_3 : cX5_clash.data.toList.drop 71 = dktX5_clash_3 := dk_seg dksX5_clash_2 24 rfl rfl
theorem dX5_clash_0 : decode cX5_clash 0 = .ok (.aload_n 0, 1) := dk_42 (dk_at dksX5_clash_0 0 rfl rfl)
theorem dX5_clash_1 : decode cX5_clash 1 = .ok (.iconst 0, 1) := dk_3 (dk_at dksX5_clash_0 1 rfl rfl)
theorem dX5_clash_2 : decode cX5_clash 2 = .ok (.aload_n 1, 1) := dk_43 (dk_at dksX5_clash_0 2 rfl rfl)
theorem dX5_clash_3 : decode cX5_clash 3 = .ok (.invokevirtual 167, 3) := dk_182 0 167 (dk_at dksX5_clash_0 3 rfl rfl)
theorem dX5_clash_6 : decode cX5_clash 6 = .ok (.iconst 1, 1) := dk_4 (dk_at dksX5_clash_0 6 rfl rfl)
theorem dX5_clash_7 : decode cX5_clash 7 = .ok (.isub, 1) := dk_100 (dk_at dksX5_clash_0 7 rfl rfl)
theorem dX5_clash_8 : decode cX5_clash 8 = .ok (.invokevirtual 82, 3) := dk_182 0 82 (dk_at dksX5_clash_0 8 rfl rfl)
theorem dX5_clash_11 : decode cX5_clash 11 = .ok (.istore_n 2, 1) := dk_61 (dk_at dksX5_clash_0 11 rfl rfl)
theorem dX5_clash_12 : decode cX5_clash 12 = .ok (.aload_n 0, 1) := dk_42 (dk_at dksX5_clash_0 12 rfl rfl)
theorem dX5_clash_13 : decode cX5_clash 13 = .ok (.invokevirtual 45, 3) := dk_182 0 45 (dk_at dksX5_clash_0 13 rfl rfl)
theorem dX5_clash_16 : decode cX5_clash 16 = .ok (.pop, 1) := dk_87 (dk_at dksX5_clash_0 16 rfl rfl)
theorem dX5_clash_17 : decode cX5_clash 17 = .ok (.aload_n 0, 1) := dk_42 (dk_at dksX5_clash_0 17 rfl rfl)
theorem dX5_clash_18 : decode cX5_clash 18 = .ok (.getfield 23, 3) := dk_180 0 23 (dk_at dksX5_clash_0 18 rfl rfl)
theorem dX5_clash_21 : decode cX5_clash 21 = .ok (.istore_n 3, 1) := dk_62 (dk_at dksX5_clash_0 21 rfl rfl)
theorem dX5_clash_22 : decode cX5_clash 22 = .ok (.aload_n 0, 1) := dk_42 (dk_at dksX5_clash_0 22 rfl rfl)
theorem dX5_clash_23 : decode cX5_clash 23 = .ok (.iconst 0, 1) := dk_3 (dk_at dksX5_clash_0 23 rfl rfl)
theorem dX5_clash_24 : decode cX5_clash 24 = .ok (.aload_n 1, 1) := dk_43 (dk_at dksX5_clash_1 0 rfl rfl)
theorem dX5_clash_25 : decode cX5_clash 25 = .ok (.invokevirtual 167, 3) := dk_182 0 167 (dk_at dksX5_clash_1 1 rfl rfl)
theorem dX5_clash_28 : decode cX5_clash 28 = .ok (.iconst 1, 1) := dk_4 (dk_at dksX5_clash_1 4 rfl rfl)
theorem dX5_clash_29 : decode cX5_clash 29 = .ok (.isub, 1) := dk_100 (dk_at dksX5_clash_1 5 rfl rfl)
theorem dX5_clash_30 : decode cX5_clash 30 = .ok (.invokevirtual 82, 3) := dk_182 0 82 (dk_at dksX5_clash_1 6 rfl rfl)
theorem dX5_clash_33 : decode cX5_clash 33 = .ok (.istore 4, 2) := dk_54 4 (dk_at dksX5_clash_1 9 rfl rfl)
theorem dX5_clash_35 : decode cX5_clash 35 = .ok (.iload_n 2, 1) := dk_28 (dk_at dksX5_clash_1 11 rfl rfl)
theorem dX5_clash_36 : decode cX5_clash 36 = .ok (.iload 4, 2) := dk_21 4 (dk_at dksX5_clash_1 12 rfl rfl)
theorem dX5_clash_38 : decode cX5_clash 38 = .ok (.if_icmp .ne 13, 3) := dk_160 0 13 (dk_at dksX5_clash_1 14 rfl rfl)
theorem dX5_clash_41 : decode cX5_clash 41 = .ok (.aload_n 0, 1) := dk_42 (dk_at dksX5_clash_1 17 rfl rfl)
theorem dX5_clash_42 : decode cX5_clash 42 = .ok (.getfield 3, 3) := dk_180 0 3 (dk_at dksX5_clash_1 18 rfl rfl)
theorem dX5_clash_45 : decode cX5_clash 45 = .ok (.iconst 1, 1) := dk_4 (dk_at dksX5_clash_1 21 rfl rfl)
theorem dX5_clash_46 : decode cX5_clash 46 = .ok (.iload_n 3, 1) := dk_29 (dk_at dksX5_clash_1 22 rfl rfl)
theorem dX5_clash_47 : decode cX5_clash 47 = .ok (.invokevirtual 69, 3) := dk_182 0 69 (dk_at dksX5_clash_2 0 rfl rfl)
theorem dX5_clash_50 : decode cX5_clash 50 = .ok (.athrow, 1) := dk_191 (dk_at dksX5_clash_2 3 rfl rfl)
theorem dX5_clash_51 : decode cX5_clash 51 = .ok (.aload_n 1, 1) := dk_43 (dk_at dksX5_clash_2 4 rfl rfl)
theorem dX5_clash_52 : decode cX5_clash 52 = .ok (.getfield 169, 3) := dk_180 0 169 (dk_at dksX5_clash_2 5 rfl rfl)
theorem dX5_clash_55 : decode cX5_clash 55 = .ok (.iload_n 2, 1) := dk_28 (dk_at dksX5_clash_2 8 rfl rfl)
theorem dX5_clash_56 : decode cX5_clash 56 = .ok (.dup2, 1) := dk_92 (dk_at dksX5_clash_2 9 rfl rfl)
theorem dX5_clash_57 : decode cX5_clash 57 = .ok (.iaload, 1) := dk_46 (dk_at dksX5_clash_2 10 rfl rfl)
theorem dX5_clash_58 : decode cX5_clash 58 = .ok (.iconst 1, 1) := dk_4 (dk_at dksX5_clash_2 11 rfl rfl)
theorem dX5_clash_59 : decode cX5_clash 59 = .ok (.iload 4, 2) := dk_21 4 (dk_at dksX5_clash_2 12 rfl rfl)
theorem dX5_clash_61 : decode cX5_clash 61 = .ok (.ishl, 1) := dk_120 (dk_at dksX5_clash_2 14 rfl rfl)
theorem dX5_clash_62 : decode cX5_clash 62 = .ok (.ior, 1) := dk_128 (dk_at dksX5_clash_2 15 rfl rfl)
theorem dX5_clash_63 : decode cX5_clash 63 = .ok (.iastore, 1) := dk_79 (dk_at dksX5_clash_2 16 rfl rfl)
theorem dX5_clash_64 : decode cX5_clash 64 = .ok (.aload_n 1, 1) := dk_43 (dk_at dksX5_clash_2 17 rfl rfl)
theorem dX5_clash_65 : decode cX5_clash 65 = .ok (.getfield 169, 3) := dk_180 0 169 (dk_at dksX5_clash_2 18 rfl rfl)
theorem dX5_clash_68 : decode cX5_clash 68 = .ok (.iload 4, 2) := dk_21 4 (dk_at dksX5_clash_2 21 rfl rfl)
theorem dX5_clash_70 : decode cX5_clash 70 = .ok (.dup2, 1) := dk_92 (dk_at dksX5_clash_2 23 rfl rfl)
theorem dX5_clash_71 : decode cX5_clash 71 = .ok (.iaload, 1) := dk_46 (dk_at dksX5_clash_3 0 rfl rfl)
theorem dX5_clash_72 : decode cX5_clash 72 = .ok (.iconst 1, 1) := dk_4 (dk_at dksX5_clash_3 1 rfl rfl)
theorem dX5_clash_73 : decode cX5_clash 73 = .ok (.iload_n 2, 1) := dk_28 (dk_at dksX5_clash_3 2 rfl rfl)
theorem dX5_clash_74 : decode cX5_clash 74 = .ok (.ishl, 1) := dk_120 (dk_at dksX5_clash_3 3 rfl rfl)
theorem dX5_clash_75 : decode cX5_clash 75 = .ok (.ior, 1) := dk_128 (dk_at dksX5_clash_3 4 rfl rfl)
theorem dX5_clash_76 : decode cX5_clash 76 = .ok (.iastore, 1) := dk_79 (dk_at dksX5_clash_3 5 rfl rfl)
theorem dX5_clash_77 : decode cX5_clash 77 = .ok (.return_, 1) := dk_177 (dk_at dksX5_clash_3 6 rfl rfl)
abbrev cX5_goesOn : ByteArray := prog_10_method_21_code
def yX5_goesOn : MethodName := ⟨RX5, "goesOn", "()Z"⟩
def dkwX5_goesOn_1 : List UInt8 := [180, 0, 23, 182, 0, 69, 191, 42, 89, 180, 0, 23, 4, 96, 181, 0, 23, 4, 172]
abbrev dktX5_goesOn_1 : List UInt8 := dkwX5_goesOn_1 ++ []
def dkwX5_goesOn_0 : List UInt8 := [42, 182, 0, 45, 60, 27, 2, 160, 0, 5, 3, 172, 27, 16, 59, 159, 0, 16, 42, 180, 0, 3, 3, 42]
abbrev dktX5_goesOn_0 : List UInt8 := dkwX5_goesOn_0 ++ dktX5_goesOn_1
theorem dksX5_goesOn_0 : cX5_goesOn.data.toList.drop 0 = dktX5_goesOn_0 := by decide +kernel
theorem dksX5_goesOn_1 : cX5_goesOn.data.toList.drop 24 = dktX5_goesOn_1 := dk_seg dksX5_goesOn_0 24 rfl rfl
theorem dX5_goesOn_0 : decode cX5_goesOn 0 = .ok (.aload_n 0, 1) := dk_42 (dk_at dksX5_goesOn_0 0 rfl rfl)
theorem dX5_goesOn_1 : decode cX5_goesOn 1 = .ok (.invokevirtual 45, 3) := dk_182 0 45 (dk_at dksX5_goesOn_0 1 rfl rfl)
theorem dX5_goesOn_4 : decode cX5_goesOn 4 = .ok (.istore_n 1, 1) := dk_60 (dk_at dksX5_goesOn_0 4 rfl rfl)
theorem dX5_goesOn_5 : decode cX5_goesOn 5 = .ok (.iload_n 1, 1) := dk_27 (dk_at dksX5_goesOn_0 5 rfl rfl)
theorem dX5_goesOn_6 : decode cX5_goesOn 6 = .ok (.iconst (-1), 1) := dk_2 (dk_at dksX5_goesOn_0 6 rfl rfl)
theorem dX5_goesOn_7 : decode cX5_goesOn 7 = .ok (.if_icmp .ne 5, 3) := dk_160 0 5 (dk_at dksX5_goesOn_0 7 rfl rfl)
theorem dX5_goesOn_10 : decode cX5_goesOn 10 = .ok (.iconst 0, 1) := dk_3 (dk_at dksX5_goesOn_0 10 rfl rfl)
theorem dX5_goesOn_11 : decode cX5_goesOn 11 = .ok (.ireturn, 1) := dk_172 (dk_at dksX5_goesOn_0 11 rfl rfl)
theorem dX5_goesOn_12 : decode cX5_goesOn 12 = .ok (.iload_n 1, 1) := dk_27 (dk_at dksX5_goesOn_0 12 rfl rfl)
theorem dX5_goesOn_13 : decode cX5_goesOn 13 = .ok (.bipush 59, 2) := dk_16 59 (dk_at dksX5_goesOn_0 13 rfl rfl)
theorem dX5_goesOn_15 : decode cX5_goesOn 15 = .ok (.if_icmp .eq 16, 3) := dk_159 0 16 (dk_at dksX5_goesOn_0 15 rfl rfl)
theorem dX5_goesOn_18 : decode cX5_goesOn 18 = .ok (.aload_n 0, 1) := dk_42 (dk_at dksX5_goesOn_0 18 rfl rfl)
theorem dX5_goesOn_19 : decode cX5_goesOn 19 = .ok (.getfield 3, 3) := dk_180 0 3 (dk_at dksX5_goesOn_0 19 rfl rfl)
theorem dX5_goesOn_22 : decode cX5_goesOn 22 = .ok (.iconst 0, 1) := dk_3 (dk_at dksX5_goesOn_0 22 rfl rfl)
theorem dX5_goesOn_23 : decode cX5_goesOn 23 = .ok (.aload_n 0, 1) := dk_42 (dk_at dksX5_goesOn_0 23 rfl rfl)
theorem dX5_goesOn_24 : decode cX5_goesOn 24 = .ok (.getfield 23, 3) := dk_180 0 23 (dk_at dksX5_goesOn_1 0 rfl rfl)
theorem dX5_goesOn_27 : decode cX5_goesOn 27 = .ok (.invokevirtual 69, 3) := dk_182 0 69 (dk_at dksX5_goesOn_1 3 rfl rfl)
theorem dX5_goesOn_30 : decode cX5_goesOn 30 = .ok (.athrow, 1) := dk_191 (dk_at dksX5_goesOn_1 6 rfl rfl)
theorem dX5_goesOn_31 : decode cX5_goesOn 31 = .ok (.aload_n 0, 1) := dk_42 (dk_at dksX5_goesOn_1 7 rfl rfl)
theorem dX5_goesOn_32 : decode cX5_goesOn 32 = .ok (.dup, 1) := dk_89 (dk_at dksX5_goesOn_1 8 rfl rfl)
theorem dX5_goesOn_33 : decode cX5_goesOn 33 = .ok (.getfield 23, 3) := dk_180 0 23 (dk_at dksX5_goesOn_1 9 rfl rfl)
theorem dX5_goesOn_36 : decode cX5_goesOn 36 = .ok (.iconst 1, 1) := dk_4 (dk_at dksX5_goesOn_1 12 rfl rfl)
theorem dX5_goesOn_37 : decode cX5_goesOn 37 = .ok (.iadd, 1) := dk_96 (dk_at dksX5_goesOn_1 13 rfl rfl)
theorem dX5_goesOn_38 : decode cX5_goesOn 38 = .ok (.putfield 23, 3) := dk_181 0 23 (dk_at dksX5_goesOn_1 14 rfl rfl)
theorem dX5_goesOn_41 : decode cX5_goesOn 41 = .ok (.iconst 1, 1) := dk_4 (dk_at dksX5_goesOn_1 17 rfl rfl)
theorem dX5_goesOn_42 : decode cX5_goesOn 42 = .ok (.ireturn, 1) := dk_172 (dk_at dksX5_goesOn_1 18 rfl rfl)
abbrev cX5_rule : ByteArray := prog_10_method_23_code
def yX5_rule : MethodName := ⟨RX5, "rule", "()I"⟩
def dkwX5_rule_2 : List UInt8 := [180, 0, 223, 182, 0, 226, 4, 100, 172]
abbrev dktX5_rule_2 : List UInt8 := dkwX5_rule_2 ++ []
def dkwX5_rule_1 : List UInt8 := [182, 0, 220, 167, 255, 244, 42, 180, 0, 3, 180, 0, 223, 43, 182, 0, 161, 87, 42, 180, 0, 3]
abbrev dktX5_rule_1 : List UInt8 := dkwX5_rule_1 ++ dktX5_rule_2
def dkwX5_rule_0 : List UInt8 := [187, 0, 201, 89, 183, 0, 219, 76, 42, 43, 182, 0, 220, 42, 182, 0, 216, 153, 0, 11, 42, 43]
abbrev dktX5_rule_0 : List UInt8 := dkwX5_rule_0 ++ dktX5_rule_1
theorem dksX5_rule_0 : cX5_rule.data.toList.drop 0 = dktX5_rule_0 := by decide +kernel
theorem dksX5_rule_1 : cX5_rule.data.toList.drop 22 = dktX5_rule_1 := dk_seg dksX5_rule_0 22 rfl rfl
theorem dksX5_rule_2 : cX5_rule.data.toList.drop 44 = dktX5_rule_2 := dk_seg dksX5_rule_1 22 rfl rfl
theorem dX5_rule_0 : decode cX5_rule 0 = .ok (.new 201, 3) := dk_187 0 201 (dk_at dksX5_rule_0 0 rfl rfl)
theorem dX5_rule_3 : decode cX5_rule 3 = .ok (.dup, 1) := dk_89 (dk_at dksX5_rule_0 3 rfl rfl)
theorem dX5_rule_4 : decode cX5_rule 4 = .ok (.invokespecial 219, 3) := dk_183 0 219 (dk_at dksX5_rule_0 4 rfl rfl)
theorem dX5_rule_7 : decode cX5_rule 7 = .ok (.astore_n 1, 1) := dk_76 (dk_at dksX5_rule_0 7 rfl rfl)
theorem dX5_rule_8 : decode cX5_rule 8 = .ok (.aload_n 0, 1) := dk_42 (dk_at dksX5_rule_0 8 rfl rfl)
theorem dX5_rule_9 : decode cX5_rule 9 = .ok (.aload_n 1, 1) := dk_43 (dk_at dksX5_rule_0 9 rfl rfl)
theorem dX5_rule_10 : decode cX5_rule 10 = .ok (.invokevirtual 220, 3) := dk_182 0 220 (dk_at dksX5_rule_0 10 rfl rfl)
theorem dX5_rule_13 : decode cX5_rule 13 = .ok (.aload_n 0, 1) := dk_42 (dk_at dksX5_rule_0 13 rfl rfl)
theorem dX5_rule_14 : decode cX5_rule 14 = .ok (.invokevirtual 216, 3) := dk_182 0 216 (dk_at dksX5_rule_0 14 rfl rfl)
theorem dX5_rule_17 : decode cX5_rule 17 = .ok (.ifCond .eq 11, 3) := dk_153 0 11 (dk_at dksX5_rule_0 17 rfl rfl)
theorem dX5_rule_20 : decode cX5_rule 20 = .ok (.aload_n 0, 1) := dk_42 (dk_at dksX5_rule_0 20 rfl rfl)
theorem dX5_rule_21 : decode cX5_rule 21 = .ok (.aload_n 1, 1) := dk_43 (dk_at dksX5_rule_0 21 rfl rfl)
theorem dX5_rule_22 : decode cX5_rule 22 = .ok (.invokevirtual 220, 3) := dk_182 0 220 (dk_at dksX5_rule_1 0 rfl rfl)
theorem dX5_rule_25 : decode cX5_rule 25 = .ok (.goto (-12), 3) := dk_167 255 244 (dk_at dksX5_rule_1 3 rfl rfl)
theorem dX5_rule_28 : decode cX5_rule 28 = .ok (.aload_n 0, 1) := dk_42 (dk_at dksX5_rule_1 6 rfl rfl)
theorem dX5_rule_29 : decode cX5_rule 29 = .ok (.getfield 3, 3) := dk_180 0 3 (dk_at dksX5_rule_1 7 rfl rfl)
theorem dX5_rule_32 : decode cX5_rule 32 = .ok (.getfield 223, 3) := dk_180 0 223 (dk_at dksX5_rule_1 10 rfl rfl)
theorem dX5_rule_35 : decode cX5_rule 35 = .ok (.aload_n 1, 1) := dk_43 (dk_at dksX5_rule_1 13 rfl rfl)
theorem dX5_rule_36 : decode cX5_rule 36 = .ok (.invokevirtual 161, 3) := dk_182 0 161 (dk_at dksX5_rule_1 14 rfl rfl)
theorem dX5_rule_39 : decode cX5_rule 39 = .ok (.pop, 1) := dk_87 (dk_at dksX5_rule_1 17 rfl rfl)
theorem dX5_rule_40 : decode cX5_rule 40 = .ok (.aload_n 0, 1) := dk_42 (dk_at dksX5_rule_1 18 rfl rfl)
theorem dX5_rule_41 : decode cX5_rule 41 = .ok (.getfield 3, 3) := dk_180 0 3 (dk_at dksX5_rule_1 19 rfl rfl)
theorem dX5_rule_44 : decode cX5_rule 44 = .ok (.getfield 223, 3) := dk_180 0 223 (dk_at dksX5_rule_2 0 rfl rfl)
theorem dX5_rule_47 : decode cX5_rule 47 = .ok (.invokevirtual 226, 3) := dk_182 0 226 (dk_at dksX5_rule_2 3 rfl rfl)
theorem dX5_rule_50 : decode cX5_rule 50 = .ok (.iconst 1, 1) := dk_4 (dk_at dksX5_rule_2 6 rfl rfl)
theorem dX5_rule_51 : decode cX5_rule 51 = .ok (.isub, 1) := dk_100 (dk_at dksX5_rule_2 7 rfl rfl)
theorem dX5_rule_52 : decode cX5_rule 52 = .ok (.ireturn, 1) := dk_172 (dk_at dksX5_rule_2 8 rfl rfl)
abbrev cX5_clause_2 : ByteArray := prog_10_method_20_code
def yX5_clause_2 : MethodName := ⟨RX5, "clause", "(LDutyBeats$Rule;)V"⟩
def dkwX5_clause_2_2 : List UInt8 := [182, 0, 121, 167, 0, 4, 1, 183, 0, 209, 182, 0, 161, 87, 177]
abbrev dktX5_clause_2_2 : List UInt8 := dkwX5_clause_2_2 ++ []
def dkwX5_clause_2_1 : List UInt8 := [182, 0, 124, 77, 43, 180, 0, 200, 187, 0, 205, 89, 44, 42, 18, 207, 182, 0, 134, 153, 0, 10, 42]
abbrev dktX5_clause_2_1 : List UInt8 := dkwX5_clause_2_1 ++ dktX5_clause_2_2
def dkwX5_clause_2_0 : List UInt8 := [42, 18, 198, 4, 182, 0, 178, 154, 0, 16, 42, 180, 0, 3, 3, 42, 180, 0, 23, 182, 0, 69, 191, 42]
abbrev dktX5_clause_2_0 : List UInt8 := dkwX5_clause_2_0 ++ dktX5_clause_2_1
theorem dksX5_clause_2_0 : cX5_clause_2.data.toList.drop 0 = dktX5_clause_2_0 := by decide +kernel
theorem dksX5_clause_2_1 : cX5_clause_2.data.toList.drop 24 = dktX5_clause_2_1 := dk_seg dksX5_clause_2_0 24 rfl rfl
theorem dksX5_clause_2_2 : cX5_clause_2.data.toList.drop 47 = dktX5_clause_2_2 := dk_seg dksX5_clause_2_1 23 rfl rfl
theorem dX5_clause_2_0 : decode cX5_clause_2 0 = .ok (.aload_n 0, 1) := dk_42 (dk_at dksX5_clause_2_0 0 rfl rfl)
theorem dX5_clause_2_1 : decode cX5_clause_2 1 = .ok (.ldc 198, 2) := dk_18 198 (dk_at dksX5_clause_2_0 1 rfl rfl)
theorem dX5_clause_2_3 : decode cX5_clause_2 3 = .ok (.iconst 1, 1) := dk_4 (dk_at dksX5_clause_2_0 3 rfl rfl)
theorem dX5_clause_2_4 : decode cX5_clause_2 4 = .ok (.invokevirtual 178, 3) := dk_182 0 178 (dk_at dksX5_clause_2_0 4 rfl rfl)
theorem dX5_clause_2_7 : decode cX5_clause_2 7 = .ok (.ifCond .ne 16, 3) := dk_154 0 16 (dk_at dksX5_clause_2_0 7 rfl rfl)
theorem dX5_clause_2_10 : decode cX5_clause_2 10 = .ok (.aload_n 0, 1) := dk_42 (dk_at dksX5_clause_2_0 10 rfl rfl)
theorem dX5_clause_2_11 : decode cX5_clause_2 11 = .ok (.getfield 3, 3) := dk_180 0 3 (dk_at dksX5_clause_2_0 11 rfl rfl)
theorem dX5_clause_2_14 : decode cX5_clause_2 14 = .ok (.iconst 0, 1) := dk_3 (dk_at dksX5_clause_2_0 14 rfl rfl)
theorem dX5_clause_2_15 : decode cX5_clause_2 15 = .ok (.aload_n 0, 1) := dk_42 (dk_at dksX5_clause_2_0 15 rfl rfl)
theorem dX5_clause_2_16 : decode cX5_clause_2 16 = .ok (.getfield 23, 3) := dk_180 0 23 (dk_at dksX5_clause_2_0 16 rfl rfl)
theorem dX5_clause_2_19 : decode cX5_clause_2 19 = .ok (.invokevirtual 69, 3) := dk_182 0 69 (dk_at dksX5_clause_2_0 19 rfl rfl)
theorem dX5_clause_2_22 : decode cX5_clause_2 22 = .ok (.athrow, 1) := dk_191 (dk_at dksX5_clause_2_0 22 rfl rfl)
theorem dX5_clause_2_23 : decode cX5_clause_2 23 = .ok (.aload_n 0, 1) := dk_42 (dk_at dksX5_clause_2_0 23 rfl rfl)
theorem dX5_clause_2_24 : decode cX5_clause_2 24 = .ok (.invokevirtual 124, 3) := dk_182 0 124 (dk_at dksX5_clause_2_1 0 rfl rfl)
theorem dX5_clause_2_27 : decode cX5_clause_2 27 = .ok (.astore_n 2, 1) := dk_77 (dk_at dksX5_clause_2_1 3 rfl rfl)
theorem dX5_clause_2_28 : decode cX5_clause_2 28 = .ok (.aload_n 1, 1) := dk_43 (dk_at dksX5_clause_2_1 4 rfl rfl)
theorem dX5_clause_2_29 : decode cX5_clause_2 29 = .ok (.getfield 200, 3) := dk_180 0 200 (dk_at dksX5_clause_2_1 5 rfl rfl)
theorem dX5_clause_2_32 : decode cX5_clause_2 32 = .ok (.new 205, 3) := dk_187 0 205 (dk_at dksX5_clause_2_1 8 rfl rfl)
theorem dX5_clause_2_35 : decode cX5_clause_2 35 = .ok (.dup, 1) := dk_89 (dk_at dksX5_clause_2_1 11 rfl rfl)
theorem dX5_clause_2_36 : decode cX5_clause_2 36 = .ok (.aload_n 2, 1) := dk_44 (dk_at dksX5_clause_2_1 12 rfl rfl)
theorem dX5_clause_2_37 : decode cX5_clause_2 37 = .ok (.aload_n 0, 1) := dk_42 (dk_at dksX5_clause_2_1 13 rfl rfl)
theorem dX5_clause_2_38 : decode cX5_clause_2 38 = .ok (.ldc 207, 2) := dk_18 207 (dk_at dksX5_clause_2_1 14 rfl rfl)
theorem dX5_clause_2_40 : decode cX5_clause_2 40 = .ok (.invokevirtual 134, 3) := dk_182 0 134 (dk_at dksX5_clause_2_1 16 rfl rfl)
theorem dX5_clause_2_43 : decode cX5_clause_2 43 = .ok (.ifCond .eq 10, 3) := dk_153 0 10 (dk_at dksX5_clause_2_1 19 rfl rfl)
theorem dX5_clause_2_46 : decode cX5_clause_2 46 = .ok (.aload_n 0, 1) := dk_42 (dk_at dksX5_clause_2_1 22 rfl rfl)
theorem dX5_clause_2_47 : decode cX5_clause_2 47 = .ok (.invokevirtual 121, 3) := dk_182 0 121 (dk_at dksX5_clause_2_2 0 rfl rfl)
theorem dX5_clause_2_50 : decode cX5_clause_2 50 = .ok (.goto 4, 3) := dk_167 0 4 (dk_at dksX5_clause_2_2 3 rfl rfl)
theorem dX5_clause_2_53 : decode cX5_clause_2 53 = .ok (.aconst_null, 1) := dk_1 (dk_at dksX5_clause_2_2 6 rfl rfl)
theorem dX5_clause_2_54 : decode cX5_clause_2 54 = .ok (.invokespecial 209, 3) := dk_183 0 209 (dk_at dksX5_clause_2_2 7 rfl rfl)
theorem dX5_clause_2_57 : decode cX5_clause_2 57 = .ok (.invokevirtual 161, 3) := dk_182 0 161 (dk_at dksX5_clause_2_2 10 rfl rfl)
theorem dX5_clause_2_60 : decode cX5_clause_2 60 = .ok (.pop, 1) := dk_87 (dk_at dksX5_clause_2_2 13 rfl rfl)
theorem dX5_clause_2_61 : decode cX5_clause_2 61 = .ok (.return_, 1) := dk_177 (dk_at dksX5_clause_2_2 14 rfl rfl)
abbrev cX5_sum : ByteArray := prog_10_method_12_code
def yX5_sum : MethodName := ⟨RX5, "sum", "()LDutyBeats$Value;"⟩
def dkwX5_sum_2 : List UInt8 := [183, 0, 101, 76, 167, 255, 209, 43, 176]
abbrev dktX5_sum_2 : List UInt8 := dkwX5_sum_2 ++ []
def dkwX5_sum_1 : List UInt8 := [182, 0, 33, 61, 42, 89, 180, 0, 23, 4, 96, 181, 0, 23, 187, 0, 99, 89, 43, 42, 182, 0, 104, 28]
abbrev dktX5_sum_1 : List UInt8 := dkwX5_sum_1 ++ dktX5_sum_2
def dkwX5_sum_0 : List UInt8 := [42, 182, 0, 104, 76, 42, 182, 0, 45, 16, 43, 159, 0, 12, 42, 182, 0, 33, 16, 45, 160, 0, 35, 42]
abbrev dktX5_sum_0 : List UInt8 := dkwX5_sum_0 ++ dktX5_sum_1
theorem dksX5_sum_0 : cX5_sum.data.toList.drop 0 = dktX5_sum_0 := by decide +kernel
theorem dksX5_sum_1 : cX5_sum.data.toList.drop 24 = dktX5_sum_1 := dk_seg dksX5_sum_0 24 rfl rfl
theorem dksX5_sum_2 : cX5_sum.data.toList.drop 48 = dktX5_sum_2 := dk_seg dksX5_sum_1 24 rfl rfl
theorem dX5_sum_0 : decode cX5_sum 0 = .ok (.aload_n 0, 1) := dk_42 (dk_at dksX5_sum_0 0 rfl rfl)
theorem dX5_sum_1 : decode cX5_sum 1 = .ok (.invokevirtual 104, 3) := dk_182 0 104 (dk_at dksX5_sum_0 1 rfl rfl)
theorem dX5_sum_4 : decode cX5_sum 4 = .ok (.astore_n 1, 1) := dk_76 (dk_at dksX5_sum_0 4 rfl rfl)
theorem dX5_sum_5 : decode cX5_sum 5 = .ok (.aload_n 0, 1) := dk_42 (dk_at dksX5_sum_0 5 rfl rfl)
theorem dX5_sum_6 : decode cX5_sum 6 = .ok (.invokevirtual 45, 3) := dk_182 0 45 (dk_at dksX5_sum_0 6 rfl rfl)
theorem dX5_sum_9 : decode cX5_sum 9 = .ok (.bipush 43, 2) := dk_16 43 (dk_at dksX5_sum_0 9 rfl rfl)
theorem dX5_sum_11 : decode cX5_sum 11 = .ok (.if_icmp .eq 12, 3) := dk_159 0 12 (dk_at dksX5_sum_0 11 rfl rfl)
theorem dX5_sum_14 : decode cX5_sum 14 = .ok (.aload_n 0, 1) := dk_42 (dk_at dksX5_sum_0 14 rfl rfl)
theorem dX5_sum_15 : decode cX5_sum 15 = .ok (.invokevirtual 33, 3) := dk_182 0 33 (dk_at dksX5_sum_0 15 rfl rfl)
theorem dX5_sum_18 : decode cX5_sum 18 = .ok (.bipush 45, 2) := dk_16 45 (dk_at dksX5_sum_0 18 rfl rfl)
theorem dX5_sum_20 : decode cX5_sum 20 = .ok (.if_icmp .ne 35, 3) := dk_160 0 35 (dk_at dksX5_sum_0 20 rfl rfl)
theorem dX5_sum_23 : decode cX5_sum 23 = .ok (.aload_n 0, 1) := dk_42 (dk_at dksX5_sum_0 23 rfl rfl)
theorem dX5_sum_24 : decode cX5_sum 24 = .ok (.invokevirtual 33, 3) := dk_182 0 33 (dk_at dksX5_sum_1 0 rfl rfl)
theorem dX5_sum_27 : decode cX5_sum 27 = .ok (.istore_n 2, 1) := dk_61 (dk_at dksX5_sum_1 3 rfl rfl)
theorem dX5_sum_28 : decode cX5_sum 28 = .ok (.aload_n 0, 1) := dk_42 (dk_at dksX5_sum_1 4 rfl rfl)
theorem dX5_sum_29 : decode cX5_sum 29 = .ok (.dup, 1) := dk_89 (dk_at dksX5_sum_1 5 rfl rfl)
theorem dX5_sum_30 : decode cX5_sum 30 = .ok (.getfield 23, 3) := dk_180 0 23 (dk_at dksX5_sum_1 6 rfl rfl)
theorem dX5_sum_33 : decode cX5_sum 33 = .ok (.iconst 1, 1) := dk_4 (dk_at dksX5_sum_1 9 rfl rfl)
theorem dX5_sum_34 : decode cX5_sum 34 = .ok (.iadd, 1) := dk_96 (dk_at dksX5_sum_1 10 rfl rfl)
theorem dX5_sum_35 : decode cX5_sum 35 = .ok (.putfield 23, 3) := dk_181 0 23 (dk_at dksX5_sum_1 11 rfl rfl)
theorem dX5_sum_38 : decode cX5_sum 38 = .ok (.new 99, 3) := dk_187 0 99 (dk_at dksX5_sum_1 14 rfl rfl)
theorem dX5_sum_41 : decode cX5_sum 41 = .ok (.dup, 1) := dk_89 (dk_at dksX5_sum_1 17 rfl rfl)
theorem dX5_sum_42 : decode cX5_sum 42 = .ok (.aload_n 1, 1) := dk_43 (dk_at dksX5_sum_1 18 rfl rfl)
theorem dX5_sum_43 : decode cX5_sum 43 = .ok (.aload_n 0, 1) := dk_42 (dk_at dksX5_sum_1 19 rfl rfl)
theorem dX5_sum_44 : decode cX5_sum 44 = .ok (.invokevirtual 104, 3) := dk_182 0 104 (dk_at dksX5_sum_1 20 rfl rfl)
theorem dX5_sum_47 : decode cX5_sum 47 = .ok (.iload_n 2, 1) := dk_28 (dk_at dksX5_sum_1 23 rfl rfl)
theorem dX5_sum_48 : decode cX5_sum 48 = .ok (.invokespecial 101, 3) := dk_183 0 101 (dk_at dksX5_sum_2 0 rfl rfl)
theorem dX5_sum_51 : decode cX5_sum 51 = .ok (.astore_n 1, 1) := dk_76 (dk_at dksX5_sum_2 3 rfl rfl)
theorem dX5_sum_52 : decode cX5_sum 52 = .ok (.goto (-47), 3) := dk_167 255 209 (dk_at dksX5_sum_2 4 rfl rfl)
theorem dX5_sum_55 : decode cX5_sum 55 = .ok (.aload_n 1, 1) := dk_43 (dk_at dksX5_sum_2 7 rfl rfl)
theorem dX5_sum_56 : decode cX5_sum 56 = .ok (.areturn, 1) := dk_176 (dk_at dksX5_sum_2 8 rfl rfl)
abbrev cX5_term : ByteArray := prog_10_method_11_code
def yX5_term : MethodName := ⟨RX5, "term", "()LDutyBeats$Value;"⟩
def dkwX5_term_2 : List UInt8 := [187, 0, 99, 89, 43, 42, 182, 0, 95, 28, 183, 0, 101, 76, 167, 255, 200, 43, 176]
abbrev dktX5_term_2 : List UInt8 := dkwX5_term_2 ++ []
def dkwX5_term_1 : List UInt8 := [182, 0, 33, 16, 37, 160, 0, 35, 42, 182, 0, 33, 61, 42, 89, 180, 0, 23, 4, 96, 181, 0, 23]
abbrev dktX5_term_1 : List UInt8 := dkwX5_term_1 ++ dktX5_term_2
def dkwX5_term_0 : List UInt8 := [42, 182, 0, 95, 76, 42, 182, 0, 45, 16, 42, 159, 0, 21, 42, 182, 0, 33, 16, 47, 159, 0, 12, 42]
abbrev dktX5_term_0 : List UInt8 := dkwX5_term_0 ++ dktX5_term_1
theorem dksX5_term_0 : cX5_term.data.toList.drop 0 = dktX5_term_0 := by decide +kernel
theorem dksX5_term_1 : cX5_term.data.toList.drop 24 = dktX5_term_1 := dk_seg dksX5_term_0 24 rfl rfl
theorem dksX5_term_2 : cX5_term.data.toList.drop 47 = dktX5_term_2 := dk_seg dksX5_term_1 23 rfl rfl
theorem dX5_term_0 : decode cX5_term 0 = .ok (.aload_n 0, 1) := dk_42 (dk_at dksX5_term_0 0 rfl rfl)
theorem dX5_term_1 : decode cX5_term 1 = .ok (.invokevirtual 95, 3) := dk_182 0 95 (dk_at dksX5_term_0 1 rfl rfl)
theorem dX5_term_4 : decode cX5_term 4 = .ok (.astore_n 1, 1) := dk_76 (dk_at dksX5_term_0 4 rfl rfl)
theorem dX5_term_5 : decode cX5_term 5 = .ok (.aload_n 0, 1) := dk_42 (dk_at dksX5_term_0 5 rfl rfl)
theorem dX5_term_6 : decode cX5_term 6 = .ok (.invokevirtual 45, 3) := dk_182 0 45 (dk_at dksX5_term_0 6 rfl rfl)
theorem dX5_term_9 : decode cX5_term 9 = .ok (.bipush 42, 2) := dk_16 42 (dk_at dksX5_term_0 9 rfl rfl)
theorem dX5_term_11 : decode cX5_term 11 = .ok (.if_icmp .eq 21, 3) := dk_159 0 21 (dk_at dksX5_term_0 11 rfl rfl)
theorem dX5_term_14 : decode cX5_term 14 = .ok (.aload_n 0, 1) := dk_42 (dk_at dksX5_term_0 14 rfl rfl)
theorem dX5_term_15 : decode cX5_term 15 = .ok (.invokevirtual 33, 3) := dk_182 0 33 (dk_at dksX5_term_0 15 rfl rfl)
theorem dX5_term_18 : decode cX5_term 18 = .ok (.bipush 47, 2) := dk_16 47 (dk_at dksX5_term_0 18 rfl rfl)
theorem dX5_term_20 : decode cX5_term 20 = .ok (.if_icmp .eq 12, 3) := dk_159 0 12 (dk_at dksX5_term_0 20 rfl rfl)
theorem dX5_term_23 : decode cX5_term 23 = .ok (.aload_n 0, 1) := dk_42 (dk_at dksX5_term_0 23 rfl rfl)
theorem dX5_term_24 : decode cX5_term 24 = .ok (.invokevirtual 33, 3) := dk_182 0 33 (dk_at dksX5_term_1 0 rfl rfl)
theorem dX5_term_27 : decode cX5_term 27 = .ok (.bipush 37, 2) := dk_16 37 (dk_at dksX5_term_1 3 rfl rfl)
theorem dX5_term_29 : decode cX5_term 29 = .ok (.if_icmp .ne 35, 3) := dk_160 0 35 (dk_at dksX5_term_1 5 rfl rfl)
theorem dX5_term_32 : decode cX5_term 32 = .ok (.aload_n 0, 1) := dk_42 (dk_at dksX5_term_1 8 rfl rfl)
theorem dX5_term_33 : decode cX5_term 33 = .ok (.invokevirtual 33, 3) := dk_182 0 33 (dk_at dksX5_term_1 9 rfl rfl)
theorem dX5_term_36 : decode cX5_term 36 = .ok (.istore_n 2, 1) := dk_61 (dk_at dksX5_term_1 12 rfl rfl)
theorem dX5_term_37 : decode cX5_term 37 = .ok (.aload_n 0, 1) := dk_42 (dk_at dksX5_term_1 13 rfl rfl)
theorem dX5_term_38 : decode cX5_term 38 = .ok (.dup, 1) := dk_89 (dk_at dksX5_term_1 14 rfl rfl)
theorem dX5_term_39 : decode cX5_term 39 = .ok (.getfield 23, 3) := dk_180 0 23 (dk_at dksX5_term_1 15 rfl rfl)
theorem dX5_term_42 : decode cX5_term 42 = .ok (.iconst 1, 1) := dk_4 (dk_at dksX5_term_1 18 rfl rfl)
theorem dX5_term_43 : decode cX5_term 43 = .ok (.iadd, 1) := dk_96 (dk_at dksX5_term_1 19 rfl rfl)
theorem dX5_term_44 : decode cX5_term 44 = .ok (.putfield 23, 3) := dk_181 0 23 (dk_at dksX5_term_1 20 rfl rfl)
theorem dX5_term_47 : decode cX5_term 47 = .ok (.new 99, 3) := dk_187 0 99 (dk_at dksX5_term_2 0 rfl rfl)
theorem dX5_term_50 : decode cX5_term 50 = .ok (.dup, 1) := dk_89 (dk_at dksX5_term_2 3 rfl rfl)
theorem dX5_term_51 : decode cX5_term 51 = .ok (.aload_n 1, 1) := dk_43 (dk_at dksX5_term_2 4 rfl rfl)
theorem dX5_term_52 : decode cX5_term 52 = .ok (.aload_n 0, 1) := dk_42 (dk_at dksX5_term_2 5 rfl rfl)
theorem dX5_term_53 : decode cX5_term 53 = .ok (.invokevirtual 95, 3) := dk_182 0 95 (dk_at dksX5_term_2 6 rfl rfl)
theorem dX5_term_56 : decode cX5_term 56 = .ok (.iload_n 2, 1) := dk_28 (dk_at dksX5_term_2 9 rfl rfl)
theorem dX5_term_57 : decode cX5_term 57 = .ok (.invokespecial 101, 3) := dk_183 0 101 (dk_at dksX5_term_2 10 rfl rfl)
theorem dX5_term_60 : decode cX5_term 60 = .ok (.astore_n 1, 1) := dk_76 (dk_at dksX5_term_2 13 rfl rfl)
theorem dX5_term_61 : decode cX5_term 61 = .ok (.goto (-56), 3) := dk_167 255 200 (dk_at dksX5_term_2 14 rfl rfl)
theorem dX5_term_64 : decode cX5_term 64 = .ok (.aload_n 1, 1) := dk_43 (dk_at dksX5_term_2 17 rfl rfl)
theorem dX5_term_65 : decode cX5_term 65 = .ok (.areturn, 1) := dk_176 (dk_at dksX5_term_2 18 rfl rfl)
abbrev cX5_value : ByteArray := prog_10_method_10_code
def yX5_value : MethodName := ⟨RX5, "value", "()LDutyBeats$Value;"⟩
def dkwX5_value_4 : List UInt8 := [183, 0, 94, 176, 132, 2, 1, 167, 255, 196, 42, 180, 0, 3, 3, 27, 182, 0, 69, 191]
abbrev dktX5_value_4 : List UInt8 := dkwX5_value_4 ++ []
def dkwX5_value_3 : List UInt8 := [42, 89, 180, 0, 23, 42, 180, 0, 15, 28, 50, 182, 0, 52, 96, 181, 0, 23, 187, 0, 92, 89, 28]
abbrev dktX5_value_3 : List UInt8 := dkwX5_value_3 ++ dktX5_value_4
def dkwX5_value_2 : List UInt8 := [162, 0, 57, 42, 42, 180, 0, 15, 28, 50, 182, 0, 61, 154, 0, 6, 167, 0, 35, 42, 27, 182, 0, 89]
abbrev dktX5_value_2 : List UInt8 := dkwX5_value_2 ++ dktX5_value_3
def dkwX5_value_1 : List UInt8 := [18, 81, 182, 0, 82, 183, 0, 86, 77, 42, 27, 182, 0, 89, 44, 176, 3, 61, 28, 42, 180, 0, 15, 190]
abbrev dktX5_value_1 : List UInt8 := dkwX5_value_1 ++ dktX5_value_2
def dkwX5_value_0 : List UInt8 := [42, 182, 0, 45, 87, 42, 180, 0, 23, 60, 42, 182, 0, 65, 153, 0, 25, 187, 0, 79, 89, 42, 3]
abbrev dktX5_value_0 : List UInt8 := dkwX5_value_0 ++ dktX5_value_1
theorem dksX5_value_0 : cX5_value.data.toList.drop 0 = dktX5_value_0 := by decide +kernel
theorem dksX5_value_1 : cX5_value.data.toList.drop 23 = dktX5_value_1 := dk_seg dksX5_value_0 23 rfl rfl
theorem dksX5_value_2 : cX5_value.data.toList.drop 47 = dktX5_value_2 := dk_seg dksX5_value_1 24 rfl rfl
theorem dksX5_value_3 : cX5_value.data.toList.drop 71 = dktX5_value_3 := dk_seg dksX5_value_2 24 rfl rfl
theorem dksX5_value_4 : cX5_value.data.toList.drop 94 = dktX5_value_4 := dk_seg dksX5_value_3 23 rfl rfl
theorem dX5_value_0 : decode cX5_value 0 = .ok (.aload_n 0, 1) := dk_42 (dk_at dksX5_value_0 0 rfl rfl)
theorem dX5_value_1 : decode cX5_value 1 = .ok (.invokevirtual 45, 3) := dk_182 0 45 (dk_at dksX5_value_0 1 rfl rfl)
theorem dX5_value_4 : decode cX5_value 4 = .ok (.pop, 1) := dk_87 (dk_at dksX5_value_0 4 rfl rfl)
theorem dX5_value_5 : decode cX5_value 5 = .ok (.aload_n 0, 1) := dk_42 (dk_at dksX5_value_0 5 rfl rfl)
theorem dX5_value_6 : decode cX5_value 6 = .ok (.getfield 23, 3) := dk_180 0 23 (dk_at dksX5_value_0 6 rfl rfl)
theorem dX5_value_9 : decode cX5_value 9 = .ok (.istore_n 1, 1) := dk_60 (dk_at dksX5_value_0 9 rfl rfl)
theorem dX5_value_10 : decode cX5_value 10 = .ok (.aload_n 0, 1) := dk_42 (dk_at dksX5_value_0 10 rfl rfl)
theorem dX5_value_11 : decode cX5_value 11 = .ok (.invokevirtual 65, 3) := dk_182 0 65 (dk_at dksX5_value_0 11 rfl rfl)
theorem dX5_value_14 : decode cX5_value 14 = .ok (.ifCond .eq 25, 3) := dk_153 0 25 (dk_at dksX5_value_0 14 rfl rfl)
theorem dX5_value_17 : decode cX5_value 17 = .ok (.new 79, 3) := dk_187 0 79 (dk_at dksX5_value_0 17 rfl rfl)
theorem dX5_value_20 : decode cX5_value 20 = .ok (.dup, 1) := dk_89 (dk_at dksX5_value_0 20 rfl rfl)
theorem dX5_value_21 : decode cX5_value 21 = .ok (.aload_n 0, 1) := dk_42 (dk_at dksX5_value_0 21 rfl rfl)
theorem dX5_value_22 : decode cX5_value 22 = .ok (.iconst 0, 1) := dk_3 (dk_at dksX5_value_0 22 rfl rfl)
theorem dX5_value_23 : decode cX5_value 23 = .ok (.ldc 81, 2) := dk_18 81 (dk_at dksX5_value_1 0 rfl rfl)
theorem dX5_value_25 : decode cX5_value 25 = .ok (.invokevirtual 82, 3) := dk_182 0 82 (dk_at dksX5_value_1 2 rfl rfl)
theorem dX5_value_28 : decode cX5_value 28 = .ok (.invokespecial 86, 3) := dk_183 0 86 (dk_at dksX5_value_1 5 rfl rfl)
theorem dX5_value_31 : decode cX5_value 31 = .ok (.astore_n 2, 1) := dk_77 (dk_at dksX5_value_1 8 rfl rfl)
theorem dX5_value_32 : decode cX5_value 32 = .ok (.aload_n 0, 1) := dk_42 (dk_at dksX5_value_1 9 rfl rfl)
theorem dX5_value_33 : decode cX5_value 33 = .ok (.iload_n 1, 1) := dk_27 (dk_at dksX5_value_1 10 rfl rfl)
theorem dX5_value_34 : decode cX5_value 34 = .ok (.invokevirtual 89, 3) := dk_182 0 89 (dk_at dksX5_value_1 11 rfl rfl)
theorem dX5_value_37 : decode cX5_value 37 = .ok (.aload_n 2, 1) := dk_44 (dk_at dksX5_value_1 14 rfl rfl)
theorem dX5_value_38 : decode cX5_value 38 = .ok (.areturn, 1) := dk_176 (dk_at dksX5_value_1 15 rfl rfl)
theorem dX5_value_39 : decode cX5_value 39 = .ok (.iconst 0, 1) := dk_3 (dk_at dksX5_value_1 16 rfl rfl)
theorem dX5_value_40 : decode cX5_value 40 = .ok (.istore_n 2, 1) := dk_61 (dk_at dksX5_value_1 17 rfl rfl)
theorem dX5_value_41 : decode cX5_value 41 = .ok (.iload_n 2, 1) := dk_28 (dk_at dksX5_value_1 18 rfl rfl)
theorem dX5_value_42 : decode cX5_value 42 = .ok (.aload_n 0, 1) := dk_42 (dk_at dksX5_value_1 19 rfl rfl)
theorem dX5_value_43 : decode cX5_value 43 = .ok (.getfield 15, 3) := dk_180 0 15 (dk_at dksX5_value_1 20 rfl rfl)
theorem dX5_value_46 : decode cX5_value 46 = .ok (.arraylength, 1) := dk_190 (dk_at dksX5_value_1 23 rfl rfl)
theorem dX5_value_47 : decode cX5_value 47 = .ok (.if_icmp .ge 57, 3) := dk_162 0 57 (dk_at dksX5_value_2 0 rfl rfl)
theorem dX5_value_50 : decode cX5_value 50 = .ok (.aload_n 0, 1) := dk_42 (dk_at dksX5_value_2 3 rfl rfl)
theorem dX5_value_51 : decode cX5_value 51 = .ok (.aload_n 0, 1) := dk_42 (dk_at dksX5_value_2 4 rfl rfl)
theorem dX5_value_52 : decode cX5_value 52 = .ok (.getfield 15, 3) := dk_180 0 15 (dk_at dksX5_value_2 5 rfl rfl)
theorem dX5_value_55 : decode cX5_value 55 = .ok (.iload_n 2, 1) := dk_28 (dk_at dksX5_value_2 8 rfl rfl)
theorem dX5_value_56 : decode cX5_value 56 = .ok (.aaload, 1) := dk_50 (dk_at dksX5_value_2 9 rfl rfl)
theorem dX5_value_57 : decode cX5_value 57 = .ok (.invokevirtual 61, 3) := dk_182 0 61 (dk_at dksX5_value_2 10 rfl rfl)
theorem dX5_value_60 : decode cX5_value 60 = .ok (.ifCond .ne 6, 3) := dk_154 0 6 (dk_at dksX5_value_2 13 rfl rfl)
theorem dX5_value_63 : decode cX5_value 63 = .ok (.goto 35, 3) := dk_167 0 35 (dk_at dksX5_value_2 16 rfl rfl)
theorem dX5_value_66 : decode cX5_value 66 = .ok (.aload_n 0, 1) := dk_42 (dk_at dksX5_value_2 19 rfl rfl)
theorem dX5_value_67 : decode cX5_value 67 = .ok (.iload_n 1, 1) := dk_27 (dk_at dksX5_value_2 20 rfl rfl)
theorem dX5_value_68 : decode cX5_value 68 = .ok (.invokevirtual 89, 3) := dk_182 0 89 (dk_at dksX5_value_2 21 rfl rfl)
theorem dX5_value_71 : decode cX5_value 71 = .ok (.aload_n 0, 1) := dk_42 (dk_at dksX5_value_3 0 rfl rfl)
theorem dX5_value_72 : decode cX5_value 72 = .ok (.dup, 1) := dk_89 (dk_at dksX5_value_3 1 rfl rfl)
theorem dX5_value_73 : decode cX5_value 73 = .ok (.getfield 23, 3) := dk_180 0 23 (dk_at dksX5_value_3 2 rfl rfl)
theorem dX5_value_76 : decode cX5_value 76 = .ok (.aload_n 0, 1) := dk_42 (dk_at dksX5_value_3 5 rfl rfl)
theorem dX5_value_77 : decode cX5_value 77 = .ok (.getfield 15, 3) := dk_180 0 15 (dk_at dksX5_value_3 6 rfl rfl)
theorem dX5_value_80 : decode cX5_value 80 = .ok (.iload_n 2, 1) := dk_28 (dk_at dksX5_value_3 9 rfl rfl)
theorem dX5_value_81 : decode cX5_value 81 = .ok (.aaload, 1) := dk_50 (dk_at dksX5_value_3 10 rfl rfl)
theorem dX5_value_82 : decode cX5_value 82 = .ok (.invokevirtual 52, 3) := dk_182 0 52 (dk_at dksX5_value_3 11 rfl rfl)
theorem dX5_value_85 : decode cX5_value 85 = .ok (.iadd, 1) := dk_96 (dk_at dksX5_value_3 14 rfl rfl)
theorem dX5_value_86 : decode cX5_value 86 = .ok (.putfield 23, 3) := dk_181 0 23 (dk_at dksX5_value_3 15 rfl rfl)
theorem dX5_value_89 : decode cX5_value 89 = .ok (.new 92, 3) := dk_187 0 92 (dk_at dksX5_value_3 18 rfl rfl)
theorem dX5_value_92 : decode cX5_value 92 = .ok (.dup, 1) := dk_89 (dk_at dksX5_value_3 21 rfl rfl)
theorem dX5_value_93 : decode cX5_value 93 = .ok (.iload_n 2, 1) := dk_28 (dk_at dksX5_value_3 22 rfl rfl)
theorem dX5_value_94 : decode cX5_value 94 = .ok (.invokespecial 94, 3) := dk_183 0 94 (dk_at dksX5_value_4 0 rfl rfl)
theorem dX5_value_97 : decode cX5_value 97 = .ok (.areturn, 1) := dk_176 (dk_at dksX5_value_4 3 rfl rfl)
theorem dX5_value_98 : decode cX5_value 98 = .ok (.iinc 2 1, 3) := dk_132 2 1 (dk_at dksX5_value_4 4 rfl rfl)
theorem dX5_value_101 : decode cX5_value 101 = .ok (.goto (-60), 3) := dk_167 255 196 (dk_at dksX5_value_4 7 rfl rfl)
theorem dX5_value_104 : decode cX5_value 104 = .ok (.aload_n 0, 1) := dk_42 (dk_at dksX5_value_4 10 rfl rfl)
theorem dX5_value_105 : decode cX5_value 105 = .ok (.getfield 3, 3) := dk_180 0 3 (dk_at dksX5_value_4 11 rfl rfl)
theorem dX5_value_108 : decode cX5_value 108 = .ok (.iconst 0, 1) := dk_3 (dk_at dksX5_value_4 14 rfl rfl)
theorem dX5_value_109 : decode cX5_value 109 = .ok (.iload_n 1, 1) := dk_27 (dk_at dksX5_value_4 15 rfl rfl)
theorem dX5_value_110 : decode cX5_value 110 = .ok (.invokevirtual 69, 3) := dk_182 0 69 (dk_at dksX5_value_4 16 rfl rfl)
theorem dX5_value_113 : decode cX5_value 113 = .ok (.athrow, 1) := dk_191 (dk_at dksX5_value_4 19 rfl rfl)
abbrev cX5_counts : ByteArray := prog_10_method_8_code
def yX5_counts : MethodName := ⟨RX5, "counts", "(I)V"⟩
def dkwX5_counts_1 : List UInt8 := [4, 96, 181, 0, 73, 177]
abbrev dktX5_counts_1 : List UInt8 := dkwX5_counts_1 ++ []
def dkwX5_counts_0 : List UInt8 := [42, 180, 0, 73, 16, 60, 160, 0, 13, 42, 180, 0, 3, 6, 27, 182, 0, 69, 191, 42, 89, 180, 0, 73]
abbrev dktX5_counts_0 : List UInt8 := dkwX5_counts_0 ++ dktX5_counts_1
theorem dksX5_counts_0 : cX5_counts.data.toList.drop 0 = dktX5_counts_0 := by decide +kernel
theorem dksX5_counts_1 : cX5_counts.data.toList.drop 24 = dktX5_counts_1 := dk_seg dksX5_counts_0 24 rfl rfl
theorem dX5_counts_0 : decode cX5_counts 0 = .ok (.aload_n 0, 1) := dk_42 (dk_at dksX5_counts_0 0 rfl rfl)
theorem dX5_counts_1 : decode cX5_counts 1 = .ok (.getfield 73, 3) := dk_180 0 73 (dk_at dksX5_counts_0 1 rfl rfl)
theorem dX5_counts_4 : decode cX5_counts 4 = .ok (.bipush 60, 2) := dk_16 60 (dk_at dksX5_counts_0 4 rfl rfl)
theorem dX5_counts_6 : decode cX5_counts 6 = .ok (.if_icmp .ne 13, 3) := dk_160 0 13 (dk_at dksX5_counts_0 6 rfl rfl)
theorem dX5_counts_9 : decode cX5_counts 9 = .ok (.aload_n 0, 1) := dk_42 (dk_at dksX5_counts_0 9 rfl rfl)
theorem dX5_counts_10 : decode cX5_counts 10 = .ok (.getfield 3, 3) := dk_180 0 3 (dk_at dksX5_counts_0 10 rfl rfl)
theorem dX5_counts_13 : decode cX5_counts 13 = .ok (.iconst 3, 1) := dk_6 (dk_at dksX5_counts_0 13 rfl rfl)
theorem dX5_counts_14 : decode cX5_counts 14 = .ok (.iload_n 1, 1) := dk_27 (dk_at dksX5_counts_0 14 rfl rfl)
theorem dX5_counts_15 : decode cX5_counts 15 = .ok (.invokevirtual 69, 3) := dk_182 0 69 (dk_at dksX5_counts_0 15 rfl rfl)
theorem dX5_counts_18 : decode cX5_counts 18 = .ok (.athrow, 1) := dk_191 (dk_at dksX5_counts_0 18 rfl rfl)
theorem dX5_counts_19 : decode cX5_counts 19 = .ok (.aload_n 0, 1) := dk_42 (dk_at dksX5_counts_0 19 rfl rfl)
theorem dX5_counts_20 : decode cX5_counts 20 = .ok (.dup, 1) := dk_89 (dk_at dksX5_counts_0 20 rfl rfl)
theorem dX5_counts_21 : decode cX5_counts 21 = .ok (.getfield 73, 3) := dk_180 0 73 (dk_at dksX5_counts_0 21 rfl rfl)
theorem dX5_counts_24 : decode cX5_counts 24 = .ok (.iconst 1, 1) := dk_4 (dk_at dksX5_counts_1 0 rfl rfl)
theorem dX5_counts_25 : decode cX5_counts 25 = .ok (.iadd, 1) := dk_96 (dk_at dksX5_counts_1 1 rfl rfl)
theorem dX5_counts_26 : decode cX5_counts 26 = .ok (.putfield 73, 3) := dk_181 0 73 (dk_at dksX5_counts_1 2 rfl rfl)
theorem dX5_counts_29 : decode cX5_counts 29 = .ok (.return_, 1) := dk_177 (dk_at dksX5_counts_1 5 rfl rfl)
abbrev cX5_takes : ByteArray := prog_10_method_6_code
def yX5_takes : MethodName := ⟨RX5, "takes", "(Ljava/lang/String;)Z"⟩
def dkwX5_takes_1 : List UInt8 := [181, 0, 23, 28, 172]
abbrev dktX5_takes_1 : List UInt8 := dkwX5_takes_1 ++ []
def dkwX5_takes_0 : List UInt8 := [42, 43, 182, 0, 61, 61, 42, 89, 180, 0, 23, 28, 153, 0, 10, 43, 182, 0, 52, 167, 0, 4, 3, 96]
abbrev dktX5_takes_0 : List UInt8 := dkwX5_takes_0 ++ dktX5_takes_1
theorem dksX5_takes_0 : cX5_takes.data.toList.drop 0 = dktX5_takes_0 := by decide +kernel
theorem dksX5_takes_1 : cX5_takes.data.toList.drop 24 = dktX5_takes_1 := dk_seg dksX5_takes_0 24 rfl rfl
theorem dX5_takes_0 : decode cX5_takes 0 = .ok (.aload_n 0, 1) := dk_42 (dk_at dksX5_takes_0 0 rfl rfl)
theorem dX5_takes_1 : decode cX5_takes 1 = .ok (.aload_n 1, 1) := dk_43 (dk_at dksX5_takes_0 1 rfl rfl)
theorem dX5_takes_2 : decode cX5_takes 2 = .ok (.invokevirtual 61, 3) := dk_182 0 61 (dk_at dksX5_takes_0 2 rfl rfl)
theorem dX5_takes_5 : decode cX5_takes 5 = .ok (.istore_n 2, 1) := dk_61 (dk_at dksX5_takes_0 5 rfl rfl)
theorem dX5_takes_6 : decode cX5_takes 6 = .ok (.aload_n 0, 1) := dk_42 (dk_at dksX5_takes_0 6 rfl rfl)
theorem dX5_takes_7 : decode cX5_takes 7 = .ok (.dup, 1) := dk_89 (dk_at dksX5_takes_0 7 rfl rfl)
theorem dX5_takes_8 : decode cX5_takes 8 = .ok (.getfield 23, 3) := dk_180 0 23 (dk_at dksX5_takes_0 8 rfl rfl)
theorem dX5_takes_11 : decode cX5_takes 11 = .ok (.iload_n 2, 1) := dk_28 (dk_at dksX5_takes_0 11 rfl rfl)
theorem dX5_takes_12 : decode cX5_takes 12 = .ok (.ifCond .eq 10, 3) := dk_153 0 10 (dk_at dksX5_takes_0 12 rfl rfl)
theorem dX5_takes_15 : decode cX5_takes 15 = .ok (.aload_n 1, 1) := dk_43 (dk_at dksX5_takes_0 15 rfl rfl)
theorem dX5_takes_16 : decode cX5_takes 16 = .ok (.invokevirtual 52, 3) := dk_182 0 52 (dk_at dksX5_takes_0 16 rfl rfl)
theorem dX5_takes_19 : decode cX5_takes 19 = .ok (.goto 4, 3) := dk_167 0 4 (dk_at dksX5_takes_0 19 rfl rfl)
theorem dX5_takes_22 : decode cX5_takes 22 = .ok (.iconst 0, 1) := dk_3 (dk_at dksX5_takes_0 22 rfl rfl)
theorem dX5_takes_23 : decode cX5_takes 23 = .ok (.iadd, 1) := dk_96 (dk_at dksX5_takes_0 23 rfl rfl)
theorem dX5_takes_24 : decode cX5_takes 24 = .ok (.putfield 23, 3) := dk_181 0 23 (dk_at dksX5_takes_1 0 rfl rfl)
theorem dX5_takes_27 : decode cX5_takes 27 = .ok (.iload_n 2, 1) := dk_28 (dk_at dksX5_takes_1 3 rfl rfl)
theorem dX5_takes_28 : decode cX5_takes 28 = .ok (.ireturn, 1) := dk_172 (dk_at dksX5_takes_1 4 rfl rfl)
abbrev cX5_test : ByteArray := prog_10_method_15_code
def yX5_test : MethodName := ⟨RX5, "test", "()LDutyBeats$Condition;"⟩
def dkwX5_test_1 : List UInt8 := [183, 0, 139, 76, 167, 255, 233, 43, 176]
abbrev dktX5_test_1 : List UInt8 := dkwX5_test_1 ++ []
def dkwX5_test_0 : List UInt8 := [42, 182, 0, 142, 76, 42, 18, 145, 182, 0, 134, 153, 0, 20, 187, 0, 137, 89, 43, 42, 182, 0, 142, 4]
abbrev dktX5_test_0 : List UInt8 := dkwX5_test_0 ++ dktX5_test_1
theorem dksX5_test_0 : cX5_test.data.toList.drop 0 = dktX5_test_0 := by decide +kernel
theorem dksX5_test_1 : cX5_test.data.toList.drop 24 = dktX5_test_1 := dk_seg dksX5_test_0 24 rfl rfl
theorem dX5_test_0 : decode cX5_test 0 = .ok (.aload_n 0, 1) := dk_42 (dk_at dksX5_test_0 0 rfl rfl)
theorem dX5_test_1 : decode cX5_test 1 = .ok (.invokevirtual 142, 3) := dk_182 0 142 (dk_at dksX5_test_0 1 rfl rfl)
theorem dX5_test_4 : decode cX5_test 4 = .ok (.astore_n 1, 1) := dk_76 (dk_at dksX5_test_0 4 rfl rfl)
theorem dX5_test_5 : decode cX5_test 5 = .ok (.aload_n 0, 1) := dk_42 (dk_at dksX5_test_0 5 rfl rfl)
theorem dX5_test_6 : decode cX5_test 6 = .ok (.ldc 145, 2) := dk_18 145 (dk_at dksX5_test_0 6 rfl rfl)
theorem dX5_test_8 : decode cX5_test 8 = .ok (.invokevirtual 134, 3) := dk_182 0 134 (dk_at dksX5_test_0 8 rfl rfl)
theorem dX5_test_11 : decode cX5_test 11 = .ok (.ifCond .eq 20, 3) := dk_153 0 20 (dk_at dksX5_test_0 11 rfl rfl)
theorem dX5_test_14 : decode cX5_test 14 = .ok (.new 137, 3) := dk_187 0 137 (dk_at dksX5_test_0 14 rfl rfl)
theorem dX5_test_17 : decode cX5_test 17 = .ok (.dup, 1) := dk_89 (dk_at dksX5_test_0 17 rfl rfl)
theorem dX5_test_18 : decode cX5_test 18 = .ok (.aload_n 1, 1) := dk_43 (dk_at dksX5_test_0 18 rfl rfl)
theorem dX5_test_19 : decode cX5_test 19 = .ok (.aload_n 0, 1) := dk_42 (dk_at dksX5_test_0 19 rfl rfl)
theorem dX5_test_20 : decode cX5_test 20 = .ok (.invokevirtual 142, 3) := dk_182 0 142 (dk_at dksX5_test_0 20 rfl rfl)
theorem dX5_test_23 : decode cX5_test 23 = .ok (.iconst 1, 1) := dk_4 (dk_at dksX5_test_0 23 rfl rfl)
theorem dX5_test_24 : decode cX5_test 24 = .ok (.invokespecial 139, 3) := dk_183 0 139 (dk_at dksX5_test_1 0 rfl rfl)
theorem dX5_test_27 : decode cX5_test 27 = .ok (.astore_n 1, 1) := dk_76 (dk_at dksX5_test_1 3 rfl rfl)
theorem dX5_test_28 : decode cX5_test 28 = .ok (.goto (-23), 3) := dk_167 255 233 (dk_at dksX5_test_1 4 rfl rfl)
theorem dX5_test_31 : decode cX5_test 31 = .ok (.aload_n 1, 1) := dk_43 (dk_at dksX5_test_1 7 rfl rfl)
theorem dX5_test_32 : decode cX5_test 32 = .ok (.areturn, 1) := dk_176 (dk_at dksX5_test_1 8 rfl rfl)
abbrev cX5_part : ByteArray := prog_10_method_14_code
def yX5_part : MethodName := ⟨RX5, "part", "()LDutyBeats$Condition;"⟩
def dkwX5_part_1 : List UInt8 := [183, 0, 139, 76, 167, 255, 233, 43, 176]
abbrev dktX5_part_1 : List UInt8 := dkwX5_part_1 ++ []
def dkwX5_part_0 : List UInt8 := [42, 182, 0, 114, 76, 42, 18, 132, 182, 0, 134, 153, 0, 20, 187, 0, 137, 89, 43, 42, 182, 0, 114, 3]
abbrev dktX5_part_0 : List UInt8 := dkwX5_part_0 ++ dktX5_part_1
theorem dksX5_part_0 : cX5_part.data.toList.drop 0 = dktX5_part_0 := by decide +kernel
theorem dksX5_part_1 : cX5_part.data.toList.drop 24 = dktX5_part_1 := dk_seg dksX5_part_0 24 rfl rfl
theorem dX5_part_0 : decode cX5_part 0 = .ok (.aload_n 0, 1) := dk_42 (dk_at dksX5_part_0 0 rfl rfl)
theorem dX5_part_1 : decode cX5_part 1 = .ok (.invokevirtual 114, 3) := dk_182 0 114 (dk_at dksX5_part_0 1 rfl rfl)
theorem dX5_part_4 : decode cX5_part 4 = .ok (.astore_n 1, 1) := dk_76 (dk_at dksX5_part_0 4 rfl rfl)
theorem dX5_part_5 : decode cX5_part 5 = .ok (.aload_n 0, 1) := dk_42 (dk_at dksX5_part_0 5 rfl rfl)
theorem dX5_part_6 : decode cX5_part 6 = .ok (.ldc 132, 2) := dk_18 132 (dk_at dksX5_part_0 6 rfl rfl)
theorem dX5_part_8 : decode cX5_part 8 = .ok (.invokevirtual 134, 3) := dk_182 0 134 (dk_at dksX5_part_0 8 rfl rfl)
theorem dX5_part_11 : decode cX5_part 11 = .ok (.ifCond .eq 20, 3) := dk_153 0 20 (dk_at dksX5_part_0 11 rfl rfl)
theorem dX5_part_14 : decode cX5_part 14 = .ok (.new 137, 3) := dk_187 0 137 (dk_at dksX5_part_0 14 rfl rfl)
theorem dX5_part_17 : decode cX5_part 17 = .ok (.dup, 1) := dk_89 (dk_at dksX5_part_0 17 rfl rfl)
theorem dX5_part_18 : decode cX5_part 18 = .ok (.aload_n 1, 1) := dk_43 (dk_at dksX5_part_0 18 rfl rfl)
theorem dX5_part_19 : decode cX5_part 19 = .ok (.aload_n 0, 1) := dk_42 (dk_at dksX5_part_0 19 rfl rfl)
theorem dX5_part_20 : decode cX5_part 20 = .ok (.invokevirtual 114, 3) := dk_182 0 114 (dk_at dksX5_part_0 20 rfl rfl)
theorem dX5_part_23 : decode cX5_part 23 = .ok (.iconst 0, 1) := dk_3 (dk_at dksX5_part_0 23 rfl rfl)
theorem dX5_part_24 : decode cX5_part 24 = .ok (.invokespecial 139, 3) := dk_183 0 139 (dk_at dksX5_part_1 0 rfl rfl)
theorem dX5_part_27 : decode cX5_part 27 = .ok (.astore_n 1, 1) := dk_76 (dk_at dksX5_part_1 3 rfl rfl)
theorem dX5_part_28 : decode cX5_part 28 = .ok (.goto (-23), 3) := dk_167 255 233 (dk_at dksX5_part_1 4 rfl rfl)
theorem dX5_part_31 : decode cX5_part 31 = .ok (.aload_n 1, 1) := dk_43 (dk_at dksX5_part_1 7 rfl rfl)
theorem dX5_part_32 : decode cX5_part 32 = .ok (.areturn, 1) := dk_176 (dk_at dksX5_part_1 8 rfl rfl)
abbrev cX5_fact : ByteArray := prog_10_method_13_code
def yX5_fact : MethodName := ⟨RX5, "fact", "()LDutyBeats$Condition;"⟩
def dkwX5_fact_10 : List UInt8 := [182, 0, 124, 29, 21, 4, 183, 0, 129, 176]
abbrev dktX5_fact_10 : List UInt8 := dkwX5_fact_10 ++ []
def dkwX5_fact_9 : List UInt8 := [180, 0, 23, 21, 4, 153, 0, 7, 4, 167, 0, 4, 3, 96, 181, 0, 23, 187, 0, 127, 89, 44, 42]
abbrev dktX5_fact_9 : List UInt8 := dkwX5_fact_9 ++ dktX5_fact_10
def dkwX5_fact_8 : List UInt8 := [16, 61, 159, 0, 16, 42, 182, 0, 33, 16, 61, 160, 0, 7, 4, 167, 0, 4, 3, 54, 4, 42, 89]
abbrev dktX5_fact_8 : List UInt8 := dkwX5_fact_8 ++ dktX5_fact_9
def dkwX5_fact_7 : List UInt8 := [182, 0, 69, 191, 42, 42, 180, 0, 23, 182, 0, 89, 42, 89, 180, 0, 23, 4, 96, 181, 0, 23, 29]
abbrev dktX5_fact_7 : List UInt8 := dkwX5_fact_7 ++ dktX5_fact_8
def dkwX5_fact_6 : List UInt8 := [159, 0, 28, 29, 16, 61, 159, 0, 22, 29, 16, 62, 159, 0, 16, 42, 180, 0, 3, 3, 42, 180, 0, 23]
abbrev dktX5_fact_6 : List UInt8 := dkwX5_fact_6 ++ dktX5_fact_7
def dkwX5_fact_5 : List UInt8 := [89, 180, 0, 76, 4, 100, 181, 0, 76, 44, 176, 42, 182, 0, 124, 77, 42, 182, 0, 45, 62, 29, 16, 60]
abbrev dktX5_fact_5 : List UInt8 := dkwX5_fact_5 ++ dktX5_fact_6
def dkwX5_fact_4 : List UInt8 := [42, 180, 0, 3, 3, 42, 180, 0, 23, 182, 0, 69, 191, 42, 89, 180, 0, 23, 4, 96, 181, 0, 23, 42]
abbrev dktX5_fact_4 : List UInt8 := dkwX5_fact_4 ++ dktX5_fact_5
def dkwX5_fact_3 : List UInt8 := [42, 89, 180, 0, 23, 4, 96, 181, 0, 23, 42, 182, 0, 121, 77, 42, 182, 0, 45, 16, 93, 159, 0, 16]
abbrev dktX5_fact_3 : List UInt8 := dkwX5_fact_3 ++ dktX5_fact_4
def dkwX5_fact_2 : List UInt8 := [180, 0, 76, 4, 100, 181, 0, 76, 44, 176, 42, 182, 0, 33, 16, 91, 160, 0, 67, 42, 27, 182, 0, 109]
abbrev dktX5_fact_2 : List UInt8 := dkwX5_fact_2 ++ dktX5_fact_3
def dkwX5_fact_1 : List UInt8 := [42, 89, 180, 0, 23, 6, 96, 181, 0, 23, 187, 0, 112, 89, 42, 182, 0, 114, 183, 0, 118, 77, 42, 89]
abbrev dktX5_fact_1 : List UInt8 := dkwX5_fact_1 ++ dktX5_fact_2
def dkwX5_fact_0 : List UInt8 := [42, 182, 0, 45, 87, 42, 180, 0, 23, 60, 42, 18, 107, 182, 0, 61, 153, 0, 42, 42, 27, 182, 0, 109]
abbrev dktX5_fact_0 : List UInt8 := dkwX5_fact_0 ++ dktX5_fact_1
theorem dksX5_fact_0 : cX5_fact.data.toList.drop 0 = dktX5_fact_0 := by decide +kernel
theorem dksX5_fact_1 : cX5_fact.data.toList.drop 24 = dktX5_fact_1 := dk_seg dksX5_fact_0 24 rfl rfl
theorem dksX5_fact_2 : cX5_fact.data.toList.drop 48 = dktX5_fact_2 := dk_seg dksX5_fact_1 24 rfl rfl
theorem dksX5_fact_3 : cX5_fact.data.toList.drop 72 = dktX5_fact_3 := dk_seg dksX5_fact_2 24 rfl rfl
theorem dksX5_fact_4 : cX5_fact.data.toList.drop 96 = dktX5_fact_4 := dk_seg dksX5_fact_3 24 rfl rfl
theorem dksX5_fact_5 : cX5_fact.data.toList.drop 120 = dktX5_fact_5 := dk_seg dksX5_fact_4 24 rfl rfl
theorem dksX5_fact_6 : cX5_fact.data.toList.drop 144 = dktX5_fact_6 := dk_seg dksX5_fact_5 24 rfl rfl
theorem dksX5_fact_7 : cX5_fact.data.toList.drop 168 = dktX5_fact_7 := dk_seg dksX5_fact_6 24 rfl rfl
theorem dksX5_fact_8 : cX5_fact.data.toList.drop 191 = dktX5_fact_8 := dk_seg dksX5_fact_7 23 rfl rfl
theorem dksX5_fact_9 : cX5_fact.data.toList.drop 214 = dktX5_fact_9 := dk_seg dksX5_fact_8 23 rfl rfl
theorem dksX5_fact_10 : cX5_fact.data.toList.drop 237 = dktX5_fact_10 := dk_seg dksX5_fact_9 23 rfl rfl
theorem dX5_fact_0 : decode cX5_fact 0 = .ok (.aload_n 0, 1) := dk_42 (dk_at dksX5_fact_0 0 rfl rfl)
theorem dX5_fact_1 : decode cX5_fact 1 = .ok (.invokevirtual 45, 3) := dk_182 0 45 (dk_at dksX5_fact_0 1 rfl rfl)
theorem dX5_fact_4 : decode cX5_fact 4 = .ok (.pop, 1) := dk_87 (dk_at dksX5_fact_0 4 rfl rfl)
theorem dX5_fact_5 : decode cX5_fact 5 = .ok (.aload_n 0, 1) := dk_42 (dk_at dksX5_fact_0 5 rfl rfl)
theorem dX5_fact_6 : decode cX5_fact 6 = .ok (.getfield 23, 3) := dk_180 0 23 (dk_at dksX5_fact_0 6 rfl rfl)
theorem dX5_fact_9 : decode cX5_fact 9 = .ok (.istore_n 1, 1) := dk_60 (dk_at dksX5_fact_0 9 rfl rfl)
theorem dX5_fact_10 : decode cX5_fact 10 = .ok (.aload_n 0, 1) := dk_42 (dk_at dksX5_fact_0 10 rfl rfl)
theorem dX5_fact_11 : decode cX5_fact 11 = .ok (.ldc 107, 2) := dk_18 107 (dk_at dksX5_fact_0 11 rfl rfl)
theorem dX5_fact_13 : decode cX5_fact 13 = .ok (.invokevirtual 61, 3) := dk_182 0 61 (dk_at dksX5_fact_0 13 rfl rfl)
theorem dX5_fact_16 : decode cX5_fact 16 = .ok (.ifCond .eq 42, 3) := dk_153 0 42 (dk_at dksX5_fact_0 16 rfl rfl)
theorem dX5_fact_19 : decode cX5_fact 19 = .ok (.aload_n 0, 1) := dk_42 (dk_at dksX5_fact_0 19 rfl rfl)
theorem dX5_fact_20 : decode cX5_fact 20 = .ok (.iload_n 1, 1) := dk_27 (dk_at dksX5_fact_0 20 rfl rfl)
theorem dX5_fact_21 : decode cX5_fact 21 = .ok (.invokevirtual 109, 3) := dk_182 0 109 (dk_at dksX5_fact_0 21 rfl rfl)
theorem dX5_fact_24 : decode cX5_fact 24 = .ok (.aload_n 0, 1) := dk_42 (dk_at dksX5_fact_1 0 rfl rfl)
theorem dX5_fact_25 : decode cX5_fact 25 = .ok (.dup, 1) := dk_89 (dk_at dksX5_fact_1 1 rfl rfl)
theorem dX5_fact_26 : decode cX5_fact 26 = .ok (.getfield 23, 3) := dk_180 0 23 (dk_at dksX5_fact_1 2 rfl rfl)
theorem dX5_fact_29 : decode cX5_fact 29 = .ok (.iconst 3, 1) := dk_6 (dk_at dksX5_fact_1 5 rfl rfl)
theorem dX5_fact_30 : decode cX5_fact 30 = .ok (.iadd, 1) := dk_96 (dk_at dksX5_fact_1 6 rfl rfl)
theorem dX5_fact_31 : decode cX5_fact 31 = .ok (.putfield 23, 3) := dk_181 0 23 (dk_at dksX5_fact_1 7 rfl rfl)
theorem dX5_fact_34 : decode cX5_fact 34 = .ok (.new 112, 3) := dk_187 0 112 (dk_at dksX5_fact_1 10 rfl rfl)
theorem dX5_fact_37 : decode cX5_fact 37 = .ok (.dup, 1) := dk_89 (dk_at dksX5_fact_1 13 rfl rfl)
theorem dX5_fact_38 : decode cX5_fact 38 = .ok (.aload_n 0, 1) := dk_42 (dk_at dksX5_fact_1 14 rfl rfl)
theorem dX5_fact_39 : decode cX5_fact 39 = .ok (.invokevirtual 114, 3) := dk_182 0 114 (dk_at dksX5_fact_1 15 rfl rfl)
theorem dX5_fact_42 : decode cX5_fact 42 = .ok (.invokespecial 118, 3) := dk_183 0 118 (dk_at dksX5_fact_1 18 rfl rfl)
theorem dX5_fact_45 : decode cX5_fact 45 = .ok (.astore_n 2, 1) := dk_77 (dk_at dksX5_fact_1 21 rfl rfl)
theorem dX5_fact_46 : decode cX5_fact 46 = .ok (.aload_n 0, 1) := dk_42 (dk_at dksX5_fact_1 22 rfl rfl)
theorem dX5_fact_47 : decode cX5_fact 47 = .ok (.dup, 1) := dk_89 (dk_at dksX5_fact_1 23 rfl rfl)
theorem dX5_fact_48 : decode cX5_fact 48 = .ok (.getfield 76, 3) := dk_180 0 76 (dk_at dksX5_fact_2 0 rfl rfl)
theorem dX5_fact_51 : decode cX5_fact 51 = .ok (.iconst 1, 1) := dk_4 (dk_at dksX5_fact_2 3 rfl rfl)
theorem dX5_fact_52 : decode cX5_fact 52 = .ok (.isub, 1) := dk_100 (dk_at dksX5_fact_2 4 rfl rfl)
theorem dX5_fact_53 : decode cX5_fact 53 = .ok (.putfield 76, 3) := dk_181 0 76 (dk_at dksX5_fact_2 5 rfl rfl)
theorem dX5_fact_56 : decode cX5_fact 56 = .ok (.aload_n 2, 1) := dk_44 (dk_at dksX5_fact_2 8 rfl rfl)
theorem dX5_fact_57 : decode cX5_fact 57 = .ok (.areturn, 1) := dk_176 (dk_at dksX5_fact_2 9 rfl rfl)
theorem dX5_fact_58 : decode cX5_fact 58 = .ok (.aload_n 0, 1) := dk_42 (dk_at dksX5_fact_2 10 rfl rfl)
theorem dX5_fact_59 : decode cX5_fact 59 = .ok (.invokevirtual 33, 3) := dk_182 0 33 (dk_at dksX5_fact_2 11 rfl rfl)
theorem dX5_fact_62 : decode cX5_fact 62 = .ok (.bipush 91, 2) := dk_16 91 (dk_at dksX5_fact_2 14 rfl rfl)
theorem dX5_fact_64 : decode cX5_fact 64 = .ok (.if_icmp .ne 67, 3) := dk_160 0 67 (dk_at dksX5_fact_2 16 rfl rfl)
theorem dX5_fact_67 : decode cX5_fact 67 = .ok (.aload_n 0, 1) := dk_42 (dk_at dksX5_fact_2 19 rfl rfl)
theorem dX5_fact_68 : decode cX5_fact 68 = .ok (.iload_n 1, 1) := dk_27 (dk_at dksX5_fact_2 20 rfl rfl)
theorem dX5_fact_69 : decode cX5_fact 69 = .ok (.invokevirtual 109, 3) := dk_182 0 109 (dk_at dksX5_fact_2 21 rfl rfl)
theorem dX5_fact_72 : decode cX5_fact 72 = .ok (.aload_n 0, 1) := dk_42 (dk_at dksX5_fact_3 0 rfl rfl)
theorem dX5_fact_73 : decode cX5_fact 73 = .ok (.dup, 1) := dk_89 (dk_at dksX5_fact_3 1 rfl rfl)
theorem dX5_fact_74 : decode cX5_fact 74 = .ok (.getfield 23, 3) := dk_180 0 23 (dk_at dksX5_fact_3 2 rfl rfl)
theorem dX5_fact_77 : decode cX5_fact 77 = .ok (.iconst 1, 1) := dk_4 (dk_at dksX5_fact_3 5 rfl rfl)
theorem dX5_fact_78 : decode cX5_fact 78 = .ok (.iadd, 1) := dk_96 (dk_at dksX5_fact_3 6 rfl rfl)
theorem dX5_fact_79 : decode cX5_fact 79 = .ok (.putfield 23, 3) := dk_181 0 23 (dk_at dksX5_fact_3 7 rfl rfl)
theorem dX5_fact_82 : decode cX5_fact 82 = .ok (.aload_n 0, 1) := dk_42 (dk_at dksX5_fact_3 10 rfl rfl)
theorem dX5_fact_83 : decode cX5_fact 83 = .ok (.invokevirtual 121, 3) := dk_182 0 121 (dk_at dksX5_fact_3 11 rfl rfl)
theorem dX5_fact_86 : decode cX5_fact 86 = .ok (.astore_n 2, 1) := dk_77 (dk_at dksX5_fact_3 14 rfl rfl)
theorem dX5_fact_87 : decode cX5_fact 87 = .ok (.aload_n 0, 1) := dk_42 (dk_at dksX5_fact_3 15 rfl rfl)
theorem dX5_fact_88 : decode cX5_fact 88 = .ok (.invokevirtual 45, 3) := dk_182 0 45 (dk_at dksX5_fact_3 16 rfl rfl)
theorem dX5_fact_91 : decode cX5_fact 91 = .ok (.bipush 93, 2) := dk_16 93 (dk_at dksX5_fact_3 19 rfl rfl)
theorem dX5_fact_93 : decode cX5_fact 93 = .ok (.if_icmp .eq 16, 3) := dk_159 0 16 (dk_at dksX5_fact_3 21 rfl rfl)
theorem dX5_fact_96 : decode cX5_fact 96 = .ok (.aload_n 0, 1) := dk_42 (dk_at dksX5_fact_4 0 rfl rfl)
theorem dX5_fact_97 : decode cX5_fact 97 = .ok (.getfield 3, 3) := dk_180 0 3 (dk_at dksX5_fact_4 1 rfl rfl)
theorem dX5_fact_100 : decode cX5_fact 100 = .ok (.iconst 0, 1) := dk_3 (dk_at dksX5_fact_4 4 rfl rfl)
theorem dX5_fact_101 : decode cX5_fact 101 = .ok (.aload_n 0, 1) := dk_42 (dk_at dksX5_fact_4 5 rfl rfl)
theorem dX5_fact_102 : decode cX5_fact 102 = .ok (.getfield 23, 3) := dk_180 0 23 (dk_at dksX5_fact_4 6 rfl rfl)
theorem dX5_fact_105 : decode cX5_fact 105 = .ok (.invokevirtual 69, 3) := dk_182 0 69 (dk_at dksX5_fact_4 9 rfl rfl)
theorem dX5_fact_108 : decode cX5_fact 108 = .ok (.athrow, 1) := dk_191 (dk_at dksX5_fact_4 12 rfl rfl)
theorem dX5_fact_109 : decode cX5_fact 109 = .ok (.aload_n 0, 1) := dk_42 (dk_at dksX5_fact_4 13 rfl rfl)
theorem dX5_fact_110 : decode cX5_fact 110 = .ok (.dup, 1) := dk_89 (dk_at dksX5_fact_4 14 rfl rfl)
theorem dX5_fact_111 : decode cX5_fact 111 = .ok (.getfield 23, 3) := dk_180 0 23 (dk_at dksX5_fact_4 15 rfl rfl)
theorem dX5_fact_114 : decode cX5_fact 114 = .ok (.iconst 1, 1) := dk_4 (dk_at dksX5_fact_4 18 rfl rfl)
theorem dX5_fact_115 : decode cX5_fact 115 = .ok (.iadd, 1) := dk_96 (dk_at dksX5_fact_4 19 rfl rfl)
theorem dX5_fact_116 : decode cX5_fact 116 = .ok (.putfield 23, 3) := dk_181 0 23 (dk_at dksX5_fact_4 20 rfl rfl)
theorem dX5_fact_119 : decode cX5_fact 119 = .ok (.aload_n 0, 1) := dk_42 (dk_at dksX5_fact_4 23 rfl rfl)
theorem dX5_fact_120 : decode cX5_fact 120 = .ok (.dup, 1) := dk_89 (dk_at dksX5_fact_5 0 rfl rfl)
theorem dX5_fact_121 : decode cX5_fact 121 = .ok (.getfield 76, 3) := dk_180 0 76 (dk_at dksX5_fact_5 1 rfl rfl)
theorem dX5_fact_124 : decode cX5_fact 124 = .ok (.iconst 1, 1) := dk_4 (dk_at dksX5_fact_5 4 rfl rfl)
theorem dX5_fact_125 : decode cX5_fact 125 = .ok (.isub, 1) := dk_100 (dk_at dksX5_fact_5 5 rfl rfl)
theorem dX5_fact_126 : decode cX5_fact 126 = .ok (.putfield 76, 3) := dk_181 0 76 (dk_at dksX5_fact_5 6 rfl rfl)
theorem dX5_fact_129 : decode cX5_fact 129 = .ok (.aload_n 2, 1) := dk_44 (dk_at dksX5_fact_5 9 rfl rfl)
theorem dX5_fact_130 : decode cX5_fact 130 = .ok (.areturn, 1) := dk_176 (dk_at dksX5_fact_5 10 rfl rfl)
theorem dX5_fact_131 : decode cX5_fact 131 = .ok (.aload_n 0, 1) := dk_42 (dk_at dksX5_fact_5 11 rfl rfl)
theorem dX5_fact_132 : decode cX5_fact 132 = .ok (.invokevirtual 124, 3) := dk_182 0 124 (dk_at dksX5_fact_5 12 rfl rfl)
theorem dX5_fact_135 : decode cX5_fact 135 = .ok (.astore_n 2, 1) := dk_77 (dk_at dksX5_fact_5 15 rfl rfl)
theorem dX5_fact_136 : decode cX5_fact 136 = .ok (.aload_n 0, 1) := dk_42 (dk_at dksX5_fact_5 16 rfl rfl)
theorem dX5_fact_137 : decode cX5_fact 137 = .ok (.invokevirtual 45, 3) := dk_182 0 45 (dk_at dksX5_fact_5 17 rfl rfl)
theorem dX5_fact_140 : decode cX5_fact 140 = .ok (.istore_n 3, 1) := dk_62 (dk_at dksX5_fact_5 20 rfl rfl)
theorem dX5_fact_141 : decode cX5_fact 141 = .ok (.iload_n 3, 1) := dk_29 (dk_at dksX5_fact_5 21 rfl rfl)
theorem dX5_fact_142 : decode cX5_fact 142 = .ok (.bipush 60, 2) := dk_16 60 (dk_at dksX5_fact_5 22 rfl rfl)
theorem dX5_fact_144 : decode cX5_fact 144 = .ok (.if_icmp .eq 28, 3) := dk_159 0 28 (dk_at dksX5_fact_6 0 rfl rfl)
theorem dX5_fact_147 : decode cX5_fact 147 = .ok (.iload_n 3, 1) := dk_29 (dk_at dksX5_fact_6 3 rfl rfl)
theorem dX5_fact_148 : decode cX5_fact 148 = .ok (.bipush 61, 2) := dk_16 61 (dk_at dksX5_fact_6 4 rfl rfl)
theorem dX5_fact_150 : decode cX5_fact 150 = .ok (.if_icmp .eq 22, 3) := dk_159 0 22 (dk_at dksX5_fact_6 6 rfl rfl)
theorem dX5_fact_153 : decode cX5_fact 153 = .ok (.iload_n 3, 1) := dk_29 (dk_at dksX5_fact_6 9 rfl rfl)
theorem dX5_fact_154 : decode cX5_fact 154 = .ok (.bipush 62, 2) := dk_16 62 (dk_at dksX5_fact_6 10 rfl rfl)
theorem dX5_fact_156 : decode cX5_fact 156 = .ok (.if_icmp .eq 16, 3) := dk_159 0 16 (dk_at dksX5_fact_6 12 rfl rfl)
theorem dX5_fact_159 : decode cX5_fact 159 = .ok (.aload_n 0, 1) := dk_42 (dk_at dksX5_fact_6 15 rfl rfl)
theorem dX5_fact_160 : decode cX5_fact 160 = .ok (.getfield 3, 3) := dk_180 0 3 (dk_at dksX5_fact_6 16 rfl rfl)
theorem dX5_fact_163 : decode cX5_fact 163 = .ok (.iconst 0, 1) := dk_3 (dk_at dksX5_fact_6 19 rfl rfl)
theorem dX5_fact_164 : decode cX5_fact 164 = .ok (.aload_n 0, 1) := dk_42 (dk_at dksX5_fact_6 20 rfl rfl)
theorem dX5_fact_165 : decode cX5_fact 165 = .ok (.getfield 23, 3) := dk_180 0 23 (dk_at dksX5_fact_6 21 rfl rfl)
theorem dX5_fact_168 : decode cX5_fact 168 = .ok (.invokevirtual 69, 3) := dk_182 0 69 (dk_at dksX5_fact_7 0 rfl rfl)
theorem dX5_fact_171 : decode cX5_fact 171 = .ok (.athrow, 1) := dk_191 (dk_at dksX5_fact_7 3 rfl rfl)
theorem dX5_fact_172 : decode cX5_fact 172 = .ok (.aload_n 0, 1) := dk_42 (dk_at dksX5_fact_7 4 rfl rfl)
theorem dX5_fact_173 : decode cX5_fact 173 = .ok (.aload_n 0, 1) := dk_42 (dk_at dksX5_fact_7 5 rfl rfl)
theorem dX5_fact_174 : decode cX5_fact 174 = .ok (.getfield 23, 3) := dk_180 0 23 (dk_at dksX5_fact_7 6 rfl rfl)
theorem dX5_fact_177 : decode cX5_fact 177 = .ok (.invokevirtual 89, 3) := dk_182 0 89 (dk_at dksX5_fact_7 9 rfl rfl)
theorem dX5_fact_180 : decode cX5_fact 180 = .ok (.aload_n 0, 1) := dk_42 (dk_at dksX5_fact_7 12 rfl rfl)
theorem dX5_fact_181 : decode cX5_fact 181 = .ok (.dup, 1) := dk_89 (dk_at dksX5_fact_7 13 rfl rfl)
theorem dX5_fact_182 : decode cX5_fact 182 = .ok (.getfield 23, 3) := dk_180 0 23 (dk_at dksX5_fact_7 14 rfl rfl)
theorem dX5_fact_185 : decode cX5_fact 185 = .ok (.iconst 1, 1) := dk_4 (dk_at dksX5_fact_7 17 rfl rfl)
theorem dX5_fact_186 : decode cX5_fact 186 = .ok (.iadd, 1) := dk_96 (dk_at dksX5_fact_7 18 rfl rfl)
theorem dX5_fact_187 : decode cX5_fact 187 = .ok (.putfield 23, 3) := dk_181 0 23 (dk_at dksX5_fact_7 19 rfl rfl)
theorem dX5_fact_190 : decode cX5_fact 190 = .ok (.iload_n 3, 1) := dk_29 (dk_at dksX5_fact_7 22 rfl rfl)
theorem dX5_fact_191 : decode cX5_fact 191 = .ok (.bipush 61, 2) := dk_16 61 (dk_at dksX5_fact_8 0 rfl rfl)
theorem dX5_fact_193 : decode cX5_fact 193 = .ok (.if_icmp .eq 16, 3) := dk_159 0 16 (dk_at dksX5_fact_8 2 rfl rfl)
theorem dX5_fact_196 : decode cX5_fact 196 = .ok (.aload_n 0, 1) := dk_42 (dk_at dksX5_fact_8 5 rfl rfl)
theorem dX5_fact_197 : decode cX5_fact 197 = .ok (.invokevirtual 33, 3) := dk_182 0 33 (dk_at dksX5_fact_8 6 rfl rfl)
theorem dX5_fact_200 : decode cX5_fact 200 = .ok (.bipush 61, 2) := dk_16 61 (dk_at dksX5_fact_8 9 rfl rfl)
theorem dX5_fact_202 : decode cX5_fact 202 = .ok (.if_icmp .ne 7, 3) := dk_160 0 7 (dk_at dksX5_fact_8 11 rfl rfl)
theorem dX5_fact_205 : decode cX5_fact 205 = .ok (.iconst 1, 1) := dk_4 (dk_at dksX5_fact_8 14 rfl rfl)
theorem dX5_fact_206 : decode cX5_fact 206 = .ok (.goto 4, 3) := dk_167 0 4 (dk_at dksX5_fact_8 15 rfl rfl)
theorem dX5_fact_209 : decode cX5_fact 209 = .ok (.iconst 0, 1) := dk_3 (dk_at dksX5_fact_8 18 rfl rfl)
theorem dX5_fact_210 : decode cX5_fact 210 = .ok (.istore 4, 2) := dk_54 4 (dk_at dksX5_fact_8 19 rfl rfl)
theorem dX5_fact_212 : decode cX5_fact 212 = .ok (.aload_n 0, 1) := dk_42 (dk_at dksX5_fact_8 21 rfl rfl)
theorem dX5_fact_213 : decode cX5_fact 213 = .ok (.dup, 1) := dk_89 (dk_at dksX5_fact_8 22 rfl rfl)
theorem dX5_fact_214 : decode cX5_fact 214 = .ok (.getfield 23, 3) := dk_180 0 23 (dk_at dksX5_fact_9 0 rfl rfl)
theorem dX5_fact_217 : decode cX5_fact 217 = .ok (.iload 4, 2) := dk_21 4 (dk_at dksX5_fact_9 3 rfl rfl)
theorem dX5_fact_219 : decode cX5_fact 219 = .ok (.ifCond .eq 7, 3) := dk_153 0 7 (dk_at dksX5_fact_9 5 rfl rfl)
theorem dX5_fact_222 : decode cX5_fact 222 = .ok (.iconst 1, 1) := dk_4 (dk_at dksX5_fact_9 8 rfl rfl)
theorem dX5_fact_223 : decode cX5_fact 223 = .ok (.goto 4, 3) := dk_167 0 4 (dk_at dksX5_fact_9 9 rfl rfl)
theorem dX5_fact_226 : decode cX5_fact 226 = .ok (.iconst 0, 1) := dk_3 (dk_at dksX5_fact_9 12 rfl rfl)
theorem dX5_fact_227 : decode cX5_fact 227 = .ok (.iadd, 1) := dk_96 (dk_at dksX5_fact_9 13 rfl rfl)
theorem dX5_fact_228 : decode cX5_fact 228 = .ok (.putfield 23, 3) := dk_181 0 23 (dk_at dksX5_fact_9 14 rfl rfl)
theorem dX5_fact_231 : decode cX5_fact 231 = .ok (.new 127, 3) := dk_187 0 127 (dk_at dksX5_fact_9 17 rfl rfl)
theorem dX5_fact_234 : decode cX5_fact 234 = .ok (.dup, 1) := dk_89 (dk_at dksX5_fact_9 20 rfl rfl)
theorem dX5_fact_235 : decode cX5_fact 235 = .ok (.aload_n 2, 1) := dk_44 (dk_at dksX5_fact_9 21 rfl rfl)
theorem dX5_fact_236 : decode cX5_fact 236 = .ok (.aload_n 0, 1) := dk_42 (dk_at dksX5_fact_9 22 rfl rfl)
theorem dX5_fact_237 : decode cX5_fact 237 = .ok (.invokevirtual 124, 3) := dk_182 0 124 (dk_at dksX5_fact_10 0 rfl rfl)
theorem dX5_fact_240 : decode cX5_fact 240 = .ok (.iload_n 3, 1) := dk_29 (dk_at dksX5_fact_10 3 rfl rfl)
theorem dX5_fact_241 : decode cX5_fact 241 = .ok (.iload 4, 2) := dk_21 4 (dk_at dksX5_fact_10 4 rfl rfl)
theorem dX5_fact_243 : decode cX5_fact 243 = .ok (.invokespecial 129, 3) := dk_183 0 129 (dk_at dksX5_fact_10 6 rfl rfl)
theorem dX5_fact_246 : decode cX5_fact 246 = .ok (.areturn, 1) := dk_176 (dk_at dksX5_fact_10 9 rfl rfl)
abbrev cX5_goesDeeper : ByteArray := prog_10_method_9_code
def yX5_goesDeeper : MethodName := ⟨RX5, "goesDeeper", "(I)V"⟩
def dkwX5_goesDeeper_1 : List UInt8 := [4, 96, 181, 0, 76, 177]
abbrev dktX5_goesDeeper_1 : List UInt8 := dkwX5_goesDeeper_1 ++ []
def dkwX5_goesDeeper_0 : List UInt8 := [42, 180, 0, 76, 16, 10, 160, 0, 13, 42, 180, 0, 3, 5, 27, 182, 0, 69, 191, 42, 89, 180, 0, 76]
abbrev dktX5_goesDeeper_0 : List UInt8 := dkwX5_goesDeeper_0 ++ dktX5_goesDeeper_1
theorem dksX5_goesDeeper_0 : cX5_goesDeeper.data.toList.drop 0 = dktX5_goesDeeper_0 := by decide +kernel
theorem dksX5_goesDeeper_1 : cX5_goesDeeper.data.toList.drop 24 = dktX5_goesDeeper_1 := dk_seg dksX5_goesDeeper_0 24 rfl rfl
theorem dX5_goesDeeper_0 : decode cX5_goesDeeper 0 = .ok (.aload_n 0, 1) := dk_42 (dk_at dksX5_goesDeeper_0 0 rfl rfl)
theorem dX5_goesDeeper_1 : decode cX5_goesDeeper 1 = .ok (.getfield 76, 3) := dk_180 0 76 (dk_at dksX5_goesDeeper_0 1 rfl rfl)
theorem dX5_goesDeeper_4 : decode cX5_goesDeeper 4 = .ok (.bipush 10, 2) := dk_16 10 (dk_at dksX5_goesDeeper_0 4 rfl rfl)
theorem dX5_goesDeeper_6 : decode cX5_goesDeeper 6 = .ok (.if_icmp .ne 13, 3) := dk_160 0 13 (dk_at dksX5_goesDeeper_0 6 rfl rfl)
theorem dX5_goesDeeper_9 : decode cX5_goesDeeper 9 = .ok (.aload_n 0, 1) := dk_42 (dk_at dksX5_goesDeeper_0 9 rfl rfl)
theorem dX5_goesDeeper_10 : decode cX5_goesDeeper 10 = .ok (.getfield 3, 3) := dk_180 0 3 (dk_at dksX5_goesDeeper_0 10 rfl rfl)
theorem dX5_goesDeeper_13 : decode cX5_goesDeeper 13 = .ok (.iconst 2, 1) := dk_5 (dk_at dksX5_goesDeeper_0 13 rfl rfl)
theorem dX5_goesDeeper_14 : decode cX5_goesDeeper 14 = .ok (.iload_n 1, 1) := dk_27 (dk_at dksX5_goesDeeper_0 14 rfl rfl)
theorem dX5_goesDeeper_15 : decode cX5_goesDeeper 15 = .ok (.invokevirtual 69, 3) := dk_182 0 69 (dk_at dksX5_goesDeeper_0 15 rfl rfl)
theorem dX5_goesDeeper_18 : decode cX5_goesDeeper 18 = .ok (.athrow, 1) := dk_191 (dk_at dksX5_goesDeeper_0 18 rfl rfl)
theorem dX5_goesDeeper_19 : decode cX5_goesDeeper 19 = .ok (.aload_n 0, 1) := dk_42 (dk_at dksX5_goesDeeper_0 19 rfl rfl)
theorem dX5_goesDeeper_20 : decode cX5_goesDeeper 20 = .ok (.dup, 1) := dk_89 (dk_at dksX5_goesDeeper_0 20 rfl rfl)
theorem dX5_goesDeeper_21 : decode cX5_goesDeeper 21 = .ok (.getfield 76, 3) := dk_180 0 76 (dk_at dksX5_goesDeeper_0 21 rfl rfl)
theorem dX5_goesDeeper_24 : decode cX5_goesDeeper 24 = .ok (.iconst 1, 1) := dk_4 (dk_at dksX5_goesDeeper_1 0 rfl rfl)
theorem dX5_goesDeeper_25 : decode cX5_goesDeeper 25 = .ok (.iadd, 1) := dk_96 (dk_at dksX5_goesDeeper_1 1 rfl rfl)
theorem dX5_goesDeeper_26 : decode cX5_goesDeeper 26 = .ok (.putfield 76, 3) := dk_181 0 76 (dk_at dksX5_goesDeeper_1 2 rfl rfl)
theorem dX5_goesDeeper_29 : decode cX5_goesDeeper 29 = .ok (.return_, 1) := dk_177 (dk_at dksX5_goesDeeper_1 5 rfl rfl)
abbrev cJ5_length : ByteArray := prog_29_method_54_code
def yJ5_length : MethodName := ⟨RJ5, "length", "()I"⟩
def dkwJ5_length_0 : List UInt8 := [42, 180, 0, 9, 190, 42, 182, 1, 79, 122, 172]
abbrev dktJ5_length_0 : List UInt8 := dkwJ5_length_0 ++ []
theorem dksJ5_length_0 : cJ5_length.data.toList.drop 0 = dktJ5_length_0 := by decide +kernel
theorem dJ5_length_0 : decode cJ5_length 0 = .ok (.aload_n 0, 1) := dk_42 (dk_at dksJ5_length_0 0 rfl rfl)
theorem dJ5_length_1 : decode cJ5_length 1 = .ok (.getfield 9, 3) := dk_180 0 9 (dk_at dksJ5_length_0 1 rfl rfl)
theorem dJ5_length_4 : decode cJ5_length 4 = .ok (.arraylength, 1) := dk_190 (dk_at dksJ5_length_0 4 rfl rfl)
theorem dJ5_length_5 : decode cJ5_length 5 = .ok (.aload_n 0, 1) := dk_42 (dk_at dksJ5_length_0 5 rfl rfl)
theorem dJ5_length_6 : decode cJ5_length 6 = .ok (.invokevirtual 335, 3) := dk_182 1 79 (dk_at dksJ5_length_0 6 rfl rfl)
theorem dJ5_length_9 : decode cJ5_length 9 = .ok (.ishr, 1) := dk_122 (dk_at dksJ5_length_0 9 rfl rfl)
theorem dJ5_length_10 : decode cJ5_length 10 = .ok (.ireturn, 1) := dk_172 (dk_at dksJ5_length_0 10 rfl rfl)
abbrev cJ5_coder : ByteArray := prog_29_method_152_code
def yJ5_coder : MethodName := ⟨RJ5, "coder", "()B"⟩
def dkwJ5_coder_0 : List UInt8 := [178, 0, 38, 153, 0, 10, 42, 180, 0, 15, 167, 0, 4, 4, 172]
abbrev dktJ5_coder_0 : List UInt8 := dkwJ5_coder_0 ++ []
theorem dksJ5_coder_0 : cJ5_coder.data.toList.drop 0 = dktJ5_coder_0 := by decide +kernel
theorem dJ5_coder_0 : decode cJ5_coder 0 = .ok (.getstatic 38, 3) := dk_178 0 38 (dk_at dksJ5_coder_0 0 rfl rfl)
theorem dJ5_coder_3 : decode cJ5_coder 3 = .ok (.ifCond .eq 10, 3) := dk_153 0 10 (dk_at dksJ5_coder_0 3 rfl rfl)
theorem dJ5_coder_6 : decode cJ5_coder 6 = .ok (.aload_n 0, 1) := dk_42 (dk_at dksJ5_coder_0 6 rfl rfl)
theorem dJ5_coder_7 : decode cJ5_coder 7 = .ok (.getfield 15, 3) := dk_180 0 15 (dk_at dksJ5_coder_0 7 rfl rfl)
theorem dJ5_coder_10 : decode cJ5_coder 10 = .ok (.goto 4, 3) := dk_167 0 4 (dk_at dksJ5_coder_0 10 rfl rfl)
theorem dJ5_coder_13 : decode cJ5_coder 13 = .ok (.iconst 1, 1) := dk_4 (dk_at dksJ5_coder_0 13 rfl rfl)
theorem dJ5_coder_14 : decode cJ5_coder 14 = .ok (.ireturn, 1) := dk_172 (dk_at dksJ5_coder_0 14 rfl rfl)
abbrev cJ5_charAt : ByteArray := prog_29_method_56_code
def yJ5_charAt : MethodName := ⟨RJ5, "charAt", "(I)C"⟩
def dkwJ5_charAt_1 : List UInt8 := [172]
abbrev dktJ5_charAt_1 : List UInt8 := dkwJ5_charAt_1 ++ []
def dkwJ5_charAt_0 : List UInt8 := [42, 182, 1, 236, 153, 0, 12, 42, 180, 0, 9, 27, 184, 1, 239, 172, 42, 180, 0, 9, 27, 184, 1, 242]
abbrev dktJ5_charAt_0 : List UInt8 := dkwJ5_charAt_0 ++ dktJ5_charAt_1
theorem dksJ5_charAt_0 : cJ5_charAt.data.toList.drop 0 = dktJ5_charAt_0 := by decide +kernel
theorem dksJ5_charAt_1 : cJ5_charAt.data.toList.drop 24 = dktJ5_charAt_1 := dk_seg dksJ5_charAt_0 24 rfl rfl
theorem dJ5_charAt_0 : decode cJ5_charAt 0 = .ok (.aload_n 0, 1) := dk_42 (dk_at dksJ5_charAt_0 0 rfl rfl)
theorem dJ5_charAt_1 : decode cJ5_charAt 1 = .ok (.invokevirtual 492, 3) := dk_182 1 236 (dk_at dksJ5_charAt_0 1 rfl rfl)
theorem dJ5_charAt_4 : decode cJ5_charAt 4 = .ok (.ifCond .eq 12, 3) := dk_153 0 12 (dk_at dksJ5_charAt_0 4 rfl rfl)
theorem dJ5_charAt_7 : decode cJ5_charAt 7 = .ok (.aload_n 0, 1) := dk_42 (dk_at dksJ5_charAt_0 7 rfl rfl)
theorem dJ5_charAt_8 : decode cJ5_charAt 8 = .ok (.getfield 9, 3) := dk_180 0 9 (dk_at dksJ5_charAt_0 8 rfl rfl)
theorem dJ5_charAt_11 : decode cJ5_charAt 11 = .ok (.iload_n 1, 1) := dk_27 (dk_at dksJ5_charAt_0 11 rfl rfl)
theorem dJ5_charAt_12 : decode cJ5_charAt 12 = .ok (.invokestatic 495, 3) := dk_184 1 239 (dk_at dksJ5_charAt_0 12 rfl rfl)
theorem dJ5_charAt_15 : decode cJ5_charAt 15 = .ok (.ireturn, 1) := dk_172 (dk_at dksJ5_charAt_0 15 rfl rfl)
theorem dJ5_charAt_16 : decode cJ5_charAt 16 = .ok (.aload_n 0, 1) := dk_42 (dk_at dksJ5_charAt_0 16 rfl rfl)
theorem dJ5_charAt_17 : decode cJ5_charAt 17 = .ok (.getfield 9, 3) := dk_180 0 9 (dk_at dksJ5_charAt_0 17 rfl rfl)
theorem dJ5_charAt_20 : decode cJ5_charAt 20 = .ok (.iload_n 1, 1) := dk_27 (dk_at dksJ5_charAt_0 20 rfl rfl)
theorem dJ5_charAt_21 : decode cJ5_charAt 21 = .ok (.invokestatic 498, 3) := dk_184 1 242 (dk_at dksJ5_charAt_0 21 rfl rfl)
theorem dJ5_charAt_24 : decode cJ5_charAt 24 = .ok (.ireturn, 1) := dk_172 (dk_at dksJ5_charAt_1 0 rfl rfl)
abbrev cJ5_isLatin1 : ByteArray := prog_29_method_154_code
def yJ5_isLatin1 : MethodName := ⟨RJ5, "isLatin1", "()Z"⟩
def dkwJ5_isLatin1_0 : List UInt8 := [178, 0, 38, 153, 0, 14, 42, 180, 0, 15, 154, 0, 7, 4, 167, 0, 4, 3, 172]
abbrev dktJ5_isLatin1_0 : List UInt8 := dkwJ5_isLatin1_0 ++ []
theorem dksJ5_isLatin1_0 : cJ5_isLatin1.data.toList.drop 0 = dktJ5_isLatin1_0 := by decide +kernel
theorem dJ5_isLatin1_0 : decode cJ5_isLatin1 0 = .ok (.getstatic 38, 3) := dk_178 0 38 (dk_at dksJ5_isLatin1_0 0 rfl rfl)
theorem dJ5_isLatin1_3 : decode cJ5_isLatin1 3 = .ok (.ifCond .eq 14, 3) := dk_153 0 14 (dk_at dksJ5_isLatin1_0 3 rfl rfl)
theorem dJ5_isLatin1_6 : decode cJ5_isLatin1 6 = .ok (.aload_n 0, 1) := dk_42 (dk_at dksJ5_isLatin1_0 6 rfl rfl)
theorem dJ5_isLatin1_7 : decode cJ5_isLatin1 7 = .ok (.getfield 15, 3) := dk_180 0 15 (dk_at dksJ5_isLatin1_0 7 rfl rfl)
theorem dJ5_isLatin1_10 : decode cJ5_isLatin1 10 = .ok (.ifCond .ne 7, 3) := dk_154 0 7 (dk_at dksJ5_isLatin1_0 10 rfl rfl)
theorem dJ5_isLatin1_13 : decode cJ5_isLatin1 13 = .ok (.iconst 1, 1) := dk_4 (dk_at dksJ5_isLatin1_0 13 rfl rfl)
theorem dJ5_isLatin1_14 : decode cJ5_isLatin1 14 = .ok (.goto 4, 3) := dk_167 0 4 (dk_at dksJ5_isLatin1_0 14 rfl rfl)
theorem dJ5_isLatin1_17 : decode cJ5_isLatin1 17 = .ok (.iconst 0, 1) := dk_3 (dk_at dksJ5_isLatin1_0 17 rfl rfl)
theorem dJ5_isLatin1_18 : decode cJ5_isLatin1 18 = .ok (.ireturn, 1) := dk_172 (dk_at dksJ5_isLatin1_0 18 rfl rfl)
abbrev cJ5_checkIndex : ByteArray := prog_29_method_155_code
def yJ5_checkIndex : MethodName := ⟨RJ5, "checkIndex", "(II)V"⟩
def dkwJ5_checkIndex_0 : List UInt8 := [26, 27, 178, 4, 29, 184, 4, 35, 87, 177]
abbrev dktJ5_checkIndex_0 : List UInt8 := dkwJ5_checkIndex_0 ++ []
theorem dksJ5_checkIndex_0 : cJ5_checkIndex.data.toList.drop 0 = dktJ5_checkIndex_0 := by decide +kernel
theorem dJ5_checkIndex_0 : decode cJ5_checkIndex 0 = .ok (.iload_n 0, 1) := dk_26 (dk_at dksJ5_checkIndex_0 0 rfl rfl)
theorem dJ5_checkIndex_1 : decode cJ5_checkIndex 1 = .ok (.iload_n 1, 1) := dk_27 (dk_at dksJ5_checkIndex_0 1 rfl rfl)
theorem dJ5_checkIndex_2 : decode cJ5_checkIndex 2 = .ok (.getstatic 1053, 3) := dk_178 4 29 (dk_at dksJ5_checkIndex_0 2 rfl rfl)
theorem dJ5_checkIndex_5 : decode cJ5_checkIndex 5 = .ok (.invokestatic 1059, 3) := dk_184 4 35 (dk_at dksJ5_checkIndex_0 5 rfl rfl)
theorem dJ5_checkIndex_8 : decode cJ5_checkIndex 8 = .ok (.pop, 1) := dk_87 (dk_at dksJ5_checkIndex_0 8 rfl rfl)
theorem dJ5_checkIndex_9 : decode cJ5_checkIndex 9 = .ok (.return_, 1) := dk_177 (dk_at dksJ5_checkIndex_0 9 rfl rfl)
abbrev cJ6_charAt : ByteArray := prog_30_method_2_code
def yJ6_charAt : MethodName := ⟨RJ6, "charAt", "([BI)C"⟩
def dkwJ6_charAt_0 : List UInt8 := [27, 42, 190, 184, 0, 9, 42, 27, 51, 17, 0, 255, 126, 146, 172]
abbrev dktJ6_charAt_0 : List UInt8 := dkwJ6_charAt_0 ++ []
theorem dksJ6_charAt_0 : cJ6_charAt.data.toList.drop 0 = dktJ6_charAt_0 := by decide +kernel
theorem dJ6_charAt_0 : decode cJ6_charAt 0 = .ok (.iload_n 1, 1) := dk_27 (dk_at dksJ6_charAt_0 0 rfl rfl)
theorem dJ6_charAt_1 : decode cJ6_charAt 1 = .ok (.aload_n 0, 1) := dk_42 (dk_at dksJ6_charAt_0 1 rfl rfl)
theorem dJ6_charAt_2 : decode cJ6_charAt 2 = .ok (.arraylength, 1) := dk_190 (dk_at dksJ6_charAt_0 2 rfl rfl)
theorem dJ6_charAt_3 : decode cJ6_charAt 3 = .ok (.invokestatic 9, 3) := dk_184 0 9 (dk_at dksJ6_charAt_0 3 rfl rfl)
theorem dJ6_charAt_6 : decode cJ6_charAt 6 = .ok (.aload_n 0, 1) := dk_42 (dk_at dksJ6_charAt_0 6 rfl rfl)
theorem dJ6_charAt_7 : decode cJ6_charAt 7 = .ok (.iload_n 1, 1) := dk_27 (dk_at dksJ6_charAt_0 7 rfl rfl)
theorem dJ6_charAt_8 : decode cJ6_charAt 8 = .ok (.baload, 1) := dk_51 (dk_at dksJ6_charAt_0 8 rfl rfl)
theorem dJ6_charAt_9 : decode cJ6_charAt 9 = .ok (.sipush 255, 3) := dk_17 0 255 (dk_at dksJ6_charAt_0 9 rfl rfl)
theorem dJ6_charAt_12 : decode cJ6_charAt 12 = .ok (.iand, 1) := dk_126 (dk_at dksJ6_charAt_0 12 rfl rfl)
theorem dJ6_charAt_13 : decode cJ6_charAt 13 = .ok (.i2c, 1) := dk_146 (dk_at dksJ6_charAt_0 13 rfl rfl)
theorem dJ6_charAt_14 : decode cJ6_charAt 14 = .ok (.ireturn, 1) := dk_172 (dk_at dksJ6_charAt_0 14 rfl rfl)
abbrev cJ7_checkIndex : ByteArray := prog_46_method_11_code
def yJ7_checkIndex : MethodName := ⟨RJ7, "checkIndex", "(IILjava/util/function/BiFunction;)I"⟩
def dkwJ7_checkIndex_0 : List UInt8 := [26, 155, 0, 8, 26, 27, 161, 0, 10, 44, 26, 27, 184, 0, 95, 191, 26, 172]
abbrev dktJ7_checkIndex_0 : List UInt8 := dkwJ7_checkIndex_0 ++ []
theorem dksJ7_checkIndex_0 : cJ7_checkIndex.data.toList.drop 0 = dktJ7_checkIndex_0 := by decide +kernel
theorem dJ7_checkIndex_0 : decode cJ7_checkIndex 0 = .ok (.iload_n 0, 1) := dk_26 (dk_at dksJ7_checkIndex_0 0 rfl rfl)
theorem dJ7_checkIndex_1 : decode cJ7_checkIndex 1 = .ok (.ifCond .lt 8, 3) := dk_155 0 8 (dk_at dksJ7_checkIndex_0 1 rfl rfl)
theorem dJ7_checkIndex_4 : decode cJ7_checkIndex 4 = .ok (.iload_n 0, 1) := dk_26 (dk_at dksJ7_checkIndex_0 4 rfl rfl)
theorem dJ7_checkIndex_5 : decode cJ7_checkIndex 5 = .ok (.iload_n 1, 1) := dk_27 (dk_at dksJ7_checkIndex_0 5 rfl rfl)
theorem dJ7_checkIndex_6 : decode cJ7_checkIndex 6 = .ok (.if_icmp .lt 10, 3) := dk_161 0 10 (dk_at dksJ7_checkIndex_0 6 rfl rfl)
theorem dJ7_checkIndex_9 : decode cJ7_checkIndex 9 = .ok (.aload_n 2, 1) := dk_44 (dk_at dksJ7_checkIndex_0 9 rfl rfl)
theorem dJ7_checkIndex_10 : decode cJ7_checkIndex 10 = .ok (.iload_n 0, 1) := dk_26 (dk_at dksJ7_checkIndex_0 10 rfl rfl)
theorem dJ7_checkIndex_11 : decode cJ7_checkIndex 11 = .ok (.iload_n 1, 1) := dk_27 (dk_at dksJ7_checkIndex_0 11 rfl rfl)
theorem dJ7_checkIndex_12 : decode cJ7_checkIndex 12 = .ok (.invokestatic 95, 3) := dk_184 0 95 (dk_at dksJ7_checkIndex_0 12 rfl rfl)
theorem dJ7_checkIndex_15 : decode cJ7_checkIndex 15 = .ok (.athrow, 1) := dk_191 (dk_at dksJ7_checkIndex_0 15 rfl rfl)
theorem dJ7_checkIndex_16 : decode cJ7_checkIndex 16 = .ok (.iload_n 0, 1) := dk_26 (dk_at dksJ7_checkIndex_0 16 rfl rfl)
theorem dJ7_checkIndex_17 : decode cJ7_checkIndex 17 = .ok (.ireturn, 1) := dk_172 (dk_at dksJ7_checkIndex_0 17 rfl rfl)
abbrev cJ8_charAt : ByteArray := prog_31_method_83_code
def yJ8_charAt : MethodName := ⟨RJ8, "charAt", "([BI)C"⟩
def dkwJ8_charAt_0 : List UInt8 := [27, 42, 184, 0, 67, 42, 27, 184, 0, 71, 172]
abbrev dktJ8_charAt_0 : List UInt8 := dkwJ8_charAt_0 ++ []
theorem dksJ8_charAt_0 : cJ8_charAt.data.toList.drop 0 = dktJ8_charAt_0 := by decide +kernel
theorem dJ8_charAt_0 : decode cJ8_charAt 0 = .ok (.iload_n 1, 1) := dk_27 (dk_at dksJ8_charAt_0 0 rfl rfl)
theorem dJ8_charAt_1 : decode cJ8_charAt 1 = .ok (.aload_n 0, 1) := dk_42 (dk_at dksJ8_charAt_0 1 rfl rfl)
theorem dJ8_charAt_2 : decode cJ8_charAt 2 = .ok (.invokestatic 67, 3) := dk_184 0 67 (dk_at dksJ8_charAt_0 2 rfl rfl)
theorem dJ8_charAt_5 : decode cJ8_charAt 5 = .ok (.aload_n 0, 1) := dk_42 (dk_at dksJ8_charAt_0 5 rfl rfl)
theorem dJ8_charAt_6 : decode cJ8_charAt 6 = .ok (.iload_n 1, 1) := dk_27 (dk_at dksJ8_charAt_0 6 rfl rfl)
theorem dJ8_charAt_7 : decode cJ8_charAt 7 = .ok (.invokestatic 71, 3) := dk_184 0 71 (dk_at dksJ8_charAt_0 7 rfl rfl)
theorem dJ8_charAt_10 : decode cJ8_charAt 10 = .ok (.ireturn, 1) := dk_172 (dk_at dksJ8_charAt_0 10 rfl rfl)
abbrev cJ8_checkIndex : ByteArray := prog_31_method_91_code
def yJ8_checkIndex : MethodName := ⟨RJ8, "checkIndex", "(I[B)V"⟩
def dkwJ8_checkIndex_0 : List UInt8 := [26, 43, 184, 0, 48, 184, 1, 158, 177]
abbrev dktJ8_checkIndex_0 : List UInt8 := dkwJ8_checkIndex_0 ++ []
theorem dksJ8_checkIndex_0 : cJ8_checkIndex.data.toList.drop 0 = dktJ8_checkIndex_0 := by decide +kernel
theorem dJ8_checkIndex_0 : decode cJ8_checkIndex 0 = .ok (.iload_n 0, 1) := dk_26 (dk_at dksJ8_checkIndex_0 0 rfl rfl)
theorem dJ8_checkIndex_1 : decode cJ8_checkIndex 1 = .ok (.aload_n 1, 1) := dk_43 (dk_at dksJ8_checkIndex_0 1 rfl rfl)
theorem dJ8_checkIndex_2 : decode cJ8_checkIndex 2 = .ok (.invokestatic 48, 3) := dk_184 0 48 (dk_at dksJ8_checkIndex_0 2 rfl rfl)
theorem dJ8_checkIndex_5 : decode cJ8_checkIndex 5 = .ok (.invokestatic 414, 3) := dk_184 1 158 (dk_at dksJ8_checkIndex_0 5 rfl rfl)
theorem dJ8_checkIndex_8 : decode cJ8_checkIndex 8 = .ok (.return_, 1) := dk_177 (dk_at dksJ8_checkIndex_0 8 rfl rfl)
abbrev cJ8_length : ByteArray := prog_31_method_6_code
def yJ8_length : MethodName := ⟨RJ8, "length", "([B)I"⟩
def dkwJ8_length_0 : List UInt8 := [42, 190, 4, 122, 172]
abbrev dktJ8_length_0 : List UInt8 := dkwJ8_length_0 ++ []
theorem dksJ8_length_0 : cJ8_length.data.toList.drop 0 = dktJ8_length_0 := by decide +kernel
theorem dJ8_length_0 : decode cJ8_length 0 = .ok (.aload_n 0, 1) := dk_42 (dk_at dksJ8_length_0 0 rfl rfl)
theorem dJ8_length_1 : decode cJ8_length 1 = .ok (.arraylength, 1) := dk_190 (dk_at dksJ8_length_0 1 rfl rfl)
theorem dJ8_length_2 : decode cJ8_length 2 = .ok (.iconst 1, 1) := dk_4 (dk_at dksJ8_length_0 2 rfl rfl)
theorem dJ8_length_3 : decode cJ8_length 3 = .ok (.ishr, 1) := dk_122 (dk_at dksJ8_length_0 3 rfl rfl)
theorem dJ8_length_4 : decode cJ8_length 4 = .ok (.ireturn, 1) := dk_172 (dk_at dksJ8_length_0 4 rfl rfl)
abbrev cJ8_getChar : ByteArray := prog_31_method_5_code
def yJ8_getChar : MethodName := ⟨RJ8, "getChar", "([BI)C"⟩
def dkwJ8_getChar_2 : List UInt8 := [51, 17, 0, 255, 126, 178, 0, 63, 120, 128, 146, 172]
abbrev dktJ8_getChar_2 : List UInt8 := dkwJ8_getChar_2 ++ []
def dkwJ8_getChar_1 : List UInt8 := [183, 0, 56, 191, 27, 4, 120, 60, 42, 27, 132, 1, 1, 51, 17, 0, 255, 126, 178, 0, 59, 120, 42, 27]
abbrev dktJ8_getChar_1 : List UInt8 := dkwJ8_getChar_1 ++ dktJ8_getChar_2
def dkwJ8_getChar_0 : List UInt8 := [178, 0, 44, 154, 0, 25, 27, 155, 0, 11, 27, 42, 184, 0, 48, 161, 0, 13, 187, 0, 52, 89, 18, 54]
abbrev dktJ8_getChar_0 : List UInt8 := dkwJ8_getChar_0 ++ dktJ8_getChar_1
theorem dksJ8_getChar_0 : cJ8_getChar.data.toList.drop 0 = dktJ8_getChar_0 := by decide +kernel
theorem dksJ8_getChar_1 : cJ8_getChar.data.toList.drop 24 = dktJ8_getChar_1 := dk_seg dksJ8_getChar_0 24 rfl rfl
theorem dksJ8_getChar_2 : cJ8_getChar.data.toList.drop 48 = dktJ8_getChar_2 := dk_seg dksJ8_getChar_1 24 rfl rfl
theorem dJ8_getChar_0 : decode cJ8_getChar 0 = .ok (.getstatic 44, 3) := dk_178 0 44 (dk_at dksJ8_getChar_0 0 rfl rfl)
theorem dJ8_getChar_3 : decode cJ8_getChar 3 = .ok (.ifCond .ne 25, 3) := dk_154 0 25 (dk_at dksJ8_getChar_0 3 rfl rfl)
theorem dJ8_getChar_6 : decode cJ8_getChar 6 = .ok (.iload_n 1, 1) := dk_27 (dk_at dksJ8_getChar_0 6 rfl rfl)
theorem dJ8_getChar_7 : decode cJ8_getChar 7 = .ok (.ifCond .lt 11, 3) := dk_155 0 11 (dk_at dksJ8_getChar_0 7 rfl rfl)
theorem dJ8_getChar_10 : decode cJ8_getChar 10 = .ok (.iload_n 1, 1) := dk_27 (dk_at dksJ8_getChar_0 10 rfl rfl)
theorem dJ8_getChar_11 : decode cJ8_getChar 11 = .ok (.aload_n 0, 1) := dk_42 (dk_at dksJ8_getChar_0 11 rfl rfl)
theorem dJ8_getChar_12 : decode cJ8_getChar 12 = .ok (.invokestatic 48, 3) := dk_184 0 48 (dk_at dksJ8_getChar_0 12 rfl rfl)
theorem dJ8_getChar_15 : decode cJ8_getChar 15 = .ok (.if_icmp .lt 13, 3) := dk_161 0 13 (dk_at dksJ8_getChar_0 15 rfl rfl)
theorem dJ8_getChar_18 : decode cJ8_getChar 18 = .ok (.new 52, 3) := dk_187 0 52 (dk_at dksJ8_getChar_0 18 rfl rfl)
theorem dJ8_getChar_21 : decode cJ8_getChar 21 = .ok (.dup, 1) := dk_89 (dk_at dksJ8_getChar_0 21 rfl rfl)
theorem dJ8_getChar_22 : decode cJ8_getChar 22 = .ok (.ldc 54, 2) := dk_18 54 (dk_at dksJ8_getChar_0 22 rfl rfl)
theorem dJ8_getChar_24 : decode cJ8_getChar 24 = .ok (.invokespecial 56, 3) := dk_183 0 56 (dk_at dksJ8_getChar_1 0 rfl rfl)
theorem dJ8_getChar_27 : decode cJ8_getChar 27 = .ok (.athrow, 1) := dk_191 (dk_at dksJ8_getChar_1 3 rfl rfl)
theorem dJ8_getChar_28 : decode cJ8_getChar 28 = .ok (.iload_n 1, 1) := dk_27 (dk_at dksJ8_getChar_1 4 rfl rfl)
theorem dJ8_getChar_29 : decode cJ8_getChar 29 = .ok (.iconst 1, 1) := dk_4 (dk_at dksJ8_getChar_1 5 rfl rfl)
theorem dJ8_getChar_30 : decode cJ8_getChar 30 = .ok (.ishl, 1) := dk_120 (dk_at dksJ8_getChar_1 6 rfl rfl)
theorem dJ8_getChar_31 : decode cJ8_getChar 31 = .ok (.istore_n 1, 1) := dk_60 (dk_at dksJ8_getChar_1 7 rfl rfl)
theorem dJ8_getChar_32 : decode cJ8_getChar 32 = .ok (.aload_n 0, 1) := dk_42 (dk_at dksJ8_getChar_1 8 rfl rfl)
theorem dJ8_getChar_33 : decode cJ8_getChar 33 = .ok (.iload_n 1, 1) := dk_27 (dk_at dksJ8_getChar_1 9 rfl rfl)
theorem dJ8_getChar_34 : decode cJ8_getChar 34 = .ok (.iinc 1 1, 3) := dk_132 1 1 (dk_at dksJ8_getChar_1 10 rfl rfl)
theorem dJ8_getChar_37 : decode cJ8_getChar 37 = .ok (.baload, 1) := dk_51 (dk_at dksJ8_getChar_1 13 rfl rfl)
theorem dJ8_getChar_38 : decode cJ8_getChar 38 = .ok (.sipush 255, 3) := dk_17 0 255 (dk_at dksJ8_getChar_1 14 rfl rfl)
theorem dJ8_getChar_41 : decode cJ8_getChar 41 = .ok (.iand, 1) := dk_126 (dk_at dksJ8_getChar_1 17 rfl rfl)
theorem dJ8_getChar_42 : decode cJ8_getChar 42 = .ok (.getstatic 59, 3) := dk_178 0 59 (dk_at dksJ8_getChar_1 18 rfl rfl)
theorem dJ8_getChar_45 : decode cJ8_getChar 45 = .ok (.ishl, 1) := dk_120 (dk_at dksJ8_getChar_1 21 rfl rfl)
theorem dJ8_getChar_46 : decode cJ8_getChar 46 = .ok (.aload_n 0, 1) := dk_42 (dk_at dksJ8_getChar_1 22 rfl rfl)
theorem dJ8_getChar_47 : decode cJ8_getChar 47 = .ok (.iload_n 1, 1) := dk_27 (dk_at dksJ8_getChar_1 23 rfl rfl)
theorem dJ8_getChar_48 : decode cJ8_getChar 48 = .ok (.baload, 1) := dk_51 (dk_at dksJ8_getChar_2 0 rfl rfl)
theorem dJ8_getChar_49 : decode cJ8_getChar 49 = .ok (.sipush 255, 3) := dk_17 0 255 (dk_at dksJ8_getChar_2 1 rfl rfl)
theorem dJ8_getChar_52 : decode cJ8_getChar 52 = .ok (.iand, 1) := dk_126 (dk_at dksJ8_getChar_2 4 rfl rfl)
theorem dJ8_getChar_53 : decode cJ8_getChar 53 = .ok (.getstatic 63, 3) := dk_178 0 63 (dk_at dksJ8_getChar_2 5 rfl rfl)
theorem dJ8_getChar_56 : decode cJ8_getChar 56 = .ok (.ishl, 1) := dk_120 (dk_at dksJ8_getChar_2 8 rfl rfl)
theorem dJ8_getChar_57 : decode cJ8_getChar 57 = .ok (.ior, 1) := dk_128 (dk_at dksJ8_getChar_2 9 rfl rfl)
theorem dJ8_getChar_58 : decode cJ8_getChar 58 = .ok (.i2c, 1) := dk_146 (dk_at dksJ8_getChar_2 10 rfl rfl)
theorem dJ8_getChar_59 : decode cJ8_getChar 59 = .ok (.ireturn, 1) := dk_172 (dk_at dksJ8_getChar_2 11 rfl rfl)
abbrev cJ9_init : ByteArray := prog_28_method_1_code
def yJ9_init : MethodName := ⟨RJ9, "<init>", "()V"⟩
theorem dJ9_init_0 : decode cJ9_init 0 = .ok (.aload_n 0, 1) := by decide +kernel
theorem dJ9_init_1 : decode cJ9_init 1 = .ok (.invokespecial 1, 3) := by decide +kernel
theorem dJ9_init_4 : decode cJ9_init 4 = .ok (.return_, 1) := by decide +kernel
abbrev cX6_init : ByteArray := prog_12_method_1_code
def yX6_init : MethodName := ⟨RX6, "<init>", "(III)V"⟩
def dkwX6_init_0 : List UInt8 := [42, 183, 0, 1, 42, 27, 181, 0, 7, 42, 28, 181, 0, 13, 42, 29, 181, 0, 16, 177]
abbrev dktX6_init_0 : List UInt8 := dkwX6_init_0 ++ []
theorem dksX6_init_0 : cX6_init.data.toList.drop 0 = dktX6_init_0 := by decide +kernel
theorem dX6_init_0 : decode cX6_init 0 = .ok (.aload_n 0, 1) := dk_42 (dk_at dksX6_init_0 0 rfl rfl)
theorem dX6_init_1 : decode cX6_init 1 = .ok (.invokespecial 1, 3) := dk_183 0 1 (dk_at dksX6_init_0 1 rfl rfl)
theorem dX6_init_4 : decode cX6_init 4 = .ok (.aload_n 0, 1) := dk_42 (dk_at dksX6_init_0 4 rfl rfl)
theorem dX6_init_5 : decode cX6_init 5 = .ok (.iload_n 1, 1) := dk_27 (dk_at dksX6_init_0 5 rfl rfl)
theorem dX6_init_6 : decode cX6_init 6 = .ok (.putfield 7, 3) := dk_181 0 7 (dk_at dksX6_init_0 6 rfl rfl)
theorem dX6_init_9 : decode cX6_init 9 = .ok (.aload_n 0, 1) := dk_42 (dk_at dksX6_init_0 9 rfl rfl)
theorem dX6_init_10 : decode cX6_init 10 = .ok (.iload_n 2, 1) := dk_28 (dk_at dksX6_init_0 10 rfl rfl)
theorem dX6_init_11 : decode cX6_init 11 = .ok (.putfield 13, 3) := dk_181 0 13 (dk_at dksX6_init_0 11 rfl rfl)
theorem dX6_init_14 : decode cX6_init 14 = .ok (.aload_n 0, 1) := dk_42 (dk_at dksX6_init_0 14 rfl rfl)
theorem dX6_init_15 : decode cX6_init 15 = .ok (.iload_n 3, 1) := dk_29 (dk_at dksX6_init_0 15 rfl rfl)
theorem dX6_init_16 : decode cX6_init 16 = .ok (.putfield 16, 3) := dk_181 0 16 (dk_at dksX6_init_0 16 rfl rfl)
theorem dX6_init_19 : decode cX6_init 19 = .ok (.return_, 1) := dk_177 (dk_at dksX6_init_0 19 rfl rfl)
abbrev cJ10_newLength : ByteArray := prog_45_method_27_code
def yJ10_newLength : MethodName := ⟨RJ10, "newLength", "(III)I"⟩
def dkwJ10_newLength_1 : List UInt8 := [184, 0, 201, 172]
abbrev dktJ10_newLength_1 : List UInt8 := dkwJ10_newLength_1 ++ []
def dkwJ10_newLength_0 : List UInt8 := [26, 27, 28, 184, 0, 194, 96, 62, 3, 29, 162, 0, 11, 29, 18, 200, 163, 0, 5, 29, 172, 26, 27]
abbrev dktJ10_newLength_0 : List UInt8 := dkwJ10_newLength_0 ++ dktJ10_newLength_1
theorem dksJ10_newLength_0 : cJ10_newLength.data.toList.drop 0 = dktJ10_newLength_0 := by decide +kernel
theorem dksJ10_newLength_1 : cJ10_newLength.data.toList.drop 23 = dktJ10_newLength_1 := dk_seg dksJ10_newLength_0 23 rfl rfl
theorem dJ10_newLength_0 : decode cJ10_newLength 0 = .ok (.iload_n 0, 1) := dk_26 (dk_at dksJ10_newLength_0 0 rfl rfl)
theorem dJ10_newLength_1 : decode cJ10_newLength 1 = .ok (.iload_n 1, 1) := dk_27 (dk_at dksJ10_newLength_0 1 rfl rfl)
theorem dJ10_newLength_2 : decode cJ10_newLength 2 = .ok (.iload_n 2, 1) := dk_28 (dk_at dksJ10_newLength_0 2 rfl rfl)
theorem dJ10_newLength_3 : decode cJ10_newLength 3 = .ok (.invokestatic 194, 3) := dk_184 0 194 (dk_at dksJ10_newLength_0 3 rfl rfl)
theorem dJ10_newLength_6 : decode cJ10_newLength 6 = .ok (.iadd, 1) := dk_96 (dk_at dksJ10_newLength_0 6 rfl rfl)
theorem dJ10_newLength_7 : decode cJ10_newLength 7 = .ok (.istore_n 3, 1) := dk_62 (dk_at dksJ10_newLength_0 7 rfl rfl)
theorem dJ10_newLength_8 : decode cJ10_newLength 8 = .ok (.iconst 0, 1) := dk_3 (dk_at dksJ10_newLength_0 8 rfl rfl)
theorem dJ10_newLength_9 : decode cJ10_newLength 9 = .ok (.iload_n 3, 1) := dk_29 (dk_at dksJ10_newLength_0 9 rfl rfl)
theorem dJ10_newLength_10 : decode cJ10_newLength 10 = .ok (.if_icmp .ge 11, 3) := dk_162 0 11 (dk_at dksJ10_newLength_0 10 rfl rfl)
theorem dJ10_newLength_13 : decode cJ10_newLength 13 = .ok (.iload_n 3, 1) := dk_29 (dk_at dksJ10_newLength_0 13 rfl rfl)
theorem dJ10_newLength_14 : decode cJ10_newLength 14 = .ok (.ldc 200, 2) := dk_18 200 (dk_at dksJ10_newLength_0 14 rfl rfl)
theorem dJ10_newLength_16 : decode cJ10_newLength 16 = .ok (.if_icmp .gt 5, 3) := dk_163 0 5 (dk_at dksJ10_newLength_0 16 rfl rfl)
theorem dJ10_newLength_19 : decode cJ10_newLength 19 = .ok (.iload_n 3, 1) := dk_29 (dk_at dksJ10_newLength_0 19 rfl rfl)
theorem dJ10_newLength_20 : decode cJ10_newLength 20 = .ok (.ireturn, 1) := dk_172 (dk_at dksJ10_newLength_0 20 rfl rfl)
theorem dJ10_newLength_21 : decode cJ10_newLength 21 = .ok (.iload_n 0, 1) := dk_26 (dk_at dksJ10_newLength_0 21 rfl rfl)
theorem dJ10_newLength_22 : decode cJ10_newLength 22 = .ok (.iload_n 1, 1) := dk_27 (dk_at dksJ10_newLength_0 22 rfl rfl)
theorem dJ10_newLength_23 : decode cJ10_newLength 23 = .ok (.invokestatic 201, 3) := dk_184 0 201 (dk_at dksJ10_newLength_1 0 rfl rfl)
theorem dJ10_newLength_26 : decode cJ10_newLength 26 = .ok (.ireturn, 1) := dk_172 (dk_at dksJ10_newLength_1 3 rfl rfl)
abbrev cJ10_hugeLength : ByteArray := prog_45_method_28_code
def yJ10_hugeLength : MethodName := ⟨RJ10, "hugeLength", "(II)I"⟩
def dkwJ10_hugeLength_2 : List UInt8 := [191, 28, 18, 200, 163, 0, 6, 18, 200, 172, 28, 172]
abbrev dktJ10_hugeLength_2 : List UInt8 := dkwJ10_hugeLength_2 ++ []
def dkwJ10_hugeLength_1 : List UInt8 := [26, 182, 0, 98, 18, 208, 182, 0, 94, 27, 182, 0, 98, 18, 210, 182, 0, 94, 182, 0, 101, 183, 0, 212]
abbrev dktJ10_hugeLength_1 : List UInt8 := dkwJ10_hugeLength_1 ++ dktJ10_hugeLength_2
def dkwJ10_hugeLength_0 : List UInt8 := [26, 27, 96, 61, 28, 156, 0, 44, 187, 0, 204, 89, 187, 0, 89, 89, 183, 0, 91, 18, 206, 182, 0, 94]
abbrev dktJ10_hugeLength_0 : List UInt8 := dkwJ10_hugeLength_0 ++ dktJ10_hugeLength_1
theorem dksJ10_hugeLength_0 : cJ10_hugeLength.data.toList.drop 0 = dktJ10_hugeLength_0 := by decide +kernel
theorem dksJ10_hugeLength_1 : cJ10_hugeLength.data.toList.drop 24 = dktJ10_hugeLength_1 := dk_seg dksJ10_hugeLength_0 24 rfl rfl
theorem dksJ10_hugeLength_2 : cJ10_hugeLength.data.toList.drop 48 = dktJ10_hugeLength_2 := dk_seg dksJ10_hugeLength_1 24 rfl rfl
theorem dJ10_hugeLength_0 : decode cJ10_hugeLength 0 = .ok (.iload_n 0, 1) := dk_26 (dk_at dksJ10_hugeLength_0 0 rfl rfl)
theorem dJ10_hugeLength_1 : decode cJ10_hugeLength 1 = .ok (.iload_n 1, 1) := dk_27 (dk_at dksJ10_hugeLength_0 1 rfl rfl)
theorem dJ10_hugeLength_2 : decode cJ10_hugeLength 2 = .ok (.iadd, 1) := dk_96 (dk_at dksJ10_hugeLength_0 2 rfl rfl)
theorem dJ10_hugeLength_3 : decode cJ10_hugeLength 3 = .ok (.istore_n 2, 1) := dk_61 (dk_at dksJ10_hugeLength_0 3 rfl rfl)
theorem dJ10_hugeLength_4 : decode cJ10_hugeLength 4 = .ok (.iload_n 2, 1) := dk_28 (dk_at dksJ10_hugeLength_0 4 rfl rfl)
theorem dJ10_hugeLength_5 : decode cJ10_hugeLength 5 = .ok (.ifCond .ge 44, 3) := dk_156 0 44 (dk_at dksJ10_hugeLength_0 5 rfl rfl)
theorem dJ10_hugeLength_8 : decode cJ10_hugeLength 8 = .ok (.new 204, 3) := dk_187 0 204 (dk_at dksJ10_hugeLength_0 8 rfl rfl)
theorem dJ10_hugeLength_11 : decode cJ10_hugeLength 11 = .ok (.dup, 1) := dk_89 (dk_at dksJ10_hugeLength_0 11 rfl rfl)
theorem dJ10_hugeLength_12 : decode cJ10_hugeLength 12 = .ok (.new 89, 3) := dk_187 0 89 (dk_at dksJ10_hugeLength_0 12 rfl rfl)
theorem dJ10_hugeLength_15 : decode cJ10_hugeLength 15 = .ok (.dup, 1) := dk_89 (dk_at dksJ10_hugeLength_0 15 rfl rfl)
theorem dJ10_hugeLength_16 : decode cJ10_hugeLength 16 = .ok (.invokespecial 91, 3) := dk_183 0 91 (dk_at dksJ10_hugeLength_0 16 rfl rfl)
theorem dJ10_hugeLength_19 : decode cJ10_hugeLength 19 = .ok (.ldc 206, 2) := dk_18 206 (dk_at dksJ10_hugeLength_0 19 rfl rfl)
theorem dJ10_hugeLength_21 : decode cJ10_hugeLength 21 = .ok (.invokevirtual 94, 3) := dk_182 0 94 (dk_at dksJ10_hugeLength_0 21 rfl rfl)
theorem dJ10_hugeLength_24 : decode cJ10_hugeLength 24 = .ok (.iload_n 0, 1) := dk_26 (dk_at dksJ10_hugeLength_1 0 rfl rfl)
theorem dJ10_hugeLength_25 : decode cJ10_hugeLength 25 = .ok (.invokevirtual 98, 3) := dk_182 0 98 (dk_at dksJ10_hugeLength_1 1 rfl rfl)
theorem dJ10_hugeLength_28 : decode cJ10_hugeLength 28 = .ok (.ldc 208, 2) := dk_18 208 (dk_at dksJ10_hugeLength_1 4 rfl rfl)
theorem dJ10_hugeLength_30 : decode cJ10_hugeLength 30 = .ok (.invokevirtual 94, 3) := dk_182 0 94 (dk_at dksJ10_hugeLength_1 6 rfl rfl)
theorem dJ10_hugeLength_33 : decode cJ10_hugeLength 33 = .ok (.iload_n 1, 1) := dk_27 (dk_at dksJ10_hugeLength_1 9 rfl rfl)
theorem dJ10_hugeLength_34 : decode cJ10_hugeLength 34 = .ok (.invokevirtual 98, 3) := dk_182 0 98 (dk_at dksJ10_hugeLength_1 10 rfl rfl)
theorem dJ10_hugeLength_37 : decode cJ10_hugeLength 37 = .ok (.ldc 210, 2) := dk_18 210 (dk_at dksJ10_hugeLength_1 13 rfl rfl)
theorem dJ10_hugeLength_39 : decode cJ10_hugeLength 39 = .ok (.invokevirtual 94, 3) := dk_182 0 94 (dk_at dksJ10_hugeLength_1 15 rfl rfl)
theorem dJ10_hugeLength_42 : decode cJ10_hugeLength 42 = .ok (.invokevirtual 101, 3) := dk_182 0 101 (dk_at dksJ10_hugeLength_1 18 rfl rfl)
theorem dJ10_hugeLength_45 : decode cJ10_hugeLength 45 = .ok (.invokespecial 212, 3) := dk_183 0 212 (dk_at dksJ10_hugeLength_1 21 rfl rfl)
theorem dJ10_hugeLength_48 : decode cJ10_hugeLength 48 = .ok (.athrow, 1) := dk_191 (dk_at dksJ10_hugeLength_2 0 rfl rfl)
theorem dJ10_hugeLength_49 : decode cJ10_hugeLength 49 = .ok (.iload_n 2, 1) := dk_28 (dk_at dksJ10_hugeLength_2 1 rfl rfl)
theorem dJ10_hugeLength_50 : decode cJ10_hugeLength 50 = .ok (.ldc 200, 2) := dk_18 200 (dk_at dksJ10_hugeLength_2 2 rfl rfl)
theorem dJ10_hugeLength_52 : decode cJ10_hugeLength 52 = .ok (.if_icmp .gt 6, 3) := dk_163 0 6 (dk_at dksJ10_hugeLength_2 4 rfl rfl)
theorem dJ10_hugeLength_55 : decode cJ10_hugeLength 55 = .ok (.ldc 200, 2) := dk_18 200 (dk_at dksJ10_hugeLength_2 7 rfl rfl)
theorem dJ10_hugeLength_57 : decode cJ10_hugeLength 57 = .ok (.ireturn, 1) := dk_172 (dk_at dksJ10_hugeLength_2 9 rfl rfl)
theorem dJ10_hugeLength_58 : decode cJ10_hugeLength 58 = .ok (.iload_n 2, 1) := dk_28 (dk_at dksJ10_hugeLength_2 10 rfl rfl)
theorem dJ10_hugeLength_59 : decode cJ10_hugeLength 59 = .ok (.ireturn, 1) := dk_172 (dk_at dksJ10_hugeLength_2 11 rfl rfl)
abbrev cJ11_max : ByteArray := prog_27_method_65_code
def yJ11_max : MethodName := ⟨RJ11, "max", "(II)I"⟩
def dkwJ11_max_0 : List UInt8 := [26, 27, 161, 0, 7, 26, 167, 0, 4, 27, 172]
abbrev dktJ11_max_0 : List UInt8 := dkwJ11_max_0 ++ []
theorem dksJ11_max_0 : cJ11_max.data.toList.drop 0 = dktJ11_max_0 := by decide +kernel
theorem dJ11_max_0 : decode cJ11_max 0 = .ok (.iload_n 0, 1) := dk_26 (dk_at dksJ11_max_0 0 rfl rfl)
theorem dJ11_max_1 : decode cJ11_max 1 = .ok (.iload_n 1, 1) := dk_27 (dk_at dksJ11_max_0 1 rfl rfl)
theorem dJ11_max_2 : decode cJ11_max 2 = .ok (.if_icmp .lt 7, 3) := dk_161 0 7 (dk_at dksJ11_max_0 2 rfl rfl)
theorem dJ11_max_5 : decode cJ11_max 5 = .ok (.iload_n 0, 1) := dk_26 (dk_at dksJ11_max_0 5 rfl rfl)
theorem dJ11_max_6 : decode cJ11_max 6 = .ok (.goto 4, 3) := dk_167 0 4 (dk_at dksJ11_max_0 6 rfl rfl)
theorem dJ11_max_9 : decode cJ11_max 9 = .ok (.iload_n 1, 1) := dk_27 (dk_at dksJ11_max_0 9 rfl rfl)
theorem dJ11_max_10 : decode cJ11_max 10 = .ok (.ireturn, 1) := dk_172 (dk_at dksJ11_max_0 10 rfl rfl)
abbrev cJ11_min : ByteArray := prog_27_method_69_code
def yJ11_min : MethodName := ⟨RJ11, "min", "(II)I"⟩
def dkwJ11_min_0 : List UInt8 := [26, 27, 163, 0, 7, 26, 167, 0, 4, 27, 172]
abbrev dktJ11_min_0 : List UInt8 := dkwJ11_min_0 ++ []
theorem dksJ11_min_0 : cJ11_min.data.toList.drop 0 = dktJ11_min_0 := by decide +kernel
theorem dJ11_min_0 : decode cJ11_min 0 = .ok (.iload_n 0, 1) := dk_26 (dk_at dksJ11_min_0 0 rfl rfl)
theorem dJ11_min_1 : decode cJ11_min 1 = .ok (.iload_n 1, 1) := dk_27 (dk_at dksJ11_min_0 1 rfl rfl)
theorem dJ11_min_2 : decode cJ11_min 2 = .ok (.if_icmp .gt 7, 3) := dk_163 0 7 (dk_at dksJ11_min_0 2 rfl rfl)
theorem dJ11_min_5 : decode cJ11_min 5 = .ok (.iload_n 0, 1) := dk_26 (dk_at dksJ11_min_0 5 rfl rfl)
theorem dJ11_min_6 : decode cJ11_min 6 = .ok (.goto 4, 3) := dk_167 0 4 (dk_at dksJ11_min_0 6 rfl rfl)
theorem dJ11_min_9 : decode cJ11_min 9 = .ok (.iload_n 1, 1) := dk_27 (dk_at dksJ11_min_0 9 rfl rfl)
theorem dJ11_min_10 : decode cJ11_min 10 = .ok (.ireturn, 1) := dk_172 (dk_at dksJ11_min_0 10 rfl rfl)
abbrev cJ11_abs : ByteArray := prog_27_method_59_code
def yJ11_abs : MethodName := ⟨RJ11, "abs", "(I)I"⟩
def dkwJ11_abs_0 : List UInt8 := [26, 156, 0, 8, 26, 116, 167, 0, 4, 26, 172]
abbrev dktJ11_abs_0 : List UInt8 := dkwJ11_abs_0 ++ []
theorem dksJ11_abs_0 : cJ11_abs.data.toList.drop 0 = dktJ11_abs_0 := by decide +kernel
theorem dJ11_abs_0 : decode cJ11_abs 0 = .ok (.iload_n 0, 1) := dk_26 (dk_at dksJ11_abs_0 0 rfl rfl)
theorem dJ11_abs_1 : decode cJ11_abs 1 = .ok (.ifCond .ge 8, 3) := dk_156 0 8 (dk_at dksJ11_abs_0 1 rfl rfl)
theorem dJ11_abs_4 : decode cJ11_abs 4 = .ok (.iload_n 0, 1) := dk_26 (dk_at dksJ11_abs_0 4 rfl rfl)
theorem dJ11_abs_5 : decode cJ11_abs 5 = .ok (.ineg, 1) := dk_116 (dk_at dksJ11_abs_0 5 rfl rfl)
theorem dJ11_abs_6 : decode cJ11_abs 6 = .ok (.goto 4, 3) := dk_167 0 4 (dk_at dksJ11_abs_0 6 rfl rfl)
theorem dJ11_abs_9 : decode cJ11_abs 9 = .ok (.iload_n 0, 1) := dk_26 (dk_at dksJ11_abs_0 9 rfl rfl)
theorem dJ11_abs_10 : decode cJ11_abs 10 = .ok (.ireturn, 1) := dk_172 (dk_at dksJ11_abs_0 10 rfl rfl)
abbrev cJ12_copyOf : ByteArray := prog_39_method_119_code
def yJ12_copyOf : MethodName := ⟨RJ12, "copyOf", "([Ljava/lang/Object;I)[Ljava/lang/Object;"⟩
def dkwJ12_copyOf_0 : List UInt8 := [42, 27, 42, 182, 0, 86, 184, 1, 44, 176]
abbrev dktJ12_copyOf_0 : List UInt8 := dkwJ12_copyOf_0 ++ []
theorem dksJ12_copyOf_0 : cJ12_copyOf.data.toList.drop 0 = dktJ12_copyOf_0 := by decide +kernel
theorem dJ12_copyOf_0 : decode cJ12_copyOf 0 = .ok (.aload_n 0, 1) := dk_42 (dk_at dksJ12_copyOf_0 0 rfl rfl)
theorem dJ12_copyOf_1 : decode cJ12_copyOf 1 = .ok (.iload_n 1, 1) := dk_27 (dk_at dksJ12_copyOf_0 1 rfl rfl)
theorem dJ12_copyOf_2 : decode cJ12_copyOf 2 = .ok (.aload_n 0, 1) := dk_42 (dk_at dksJ12_copyOf_0 2 rfl rfl)
theorem dJ12_copyOf_3 : decode cJ12_copyOf 3 = .ok (.invokevirtual 86, 3) := dk_182 0 86 (dk_at dksJ12_copyOf_0 3 rfl rfl)
theorem dJ12_copyOf_6 : decode cJ12_copyOf 6 = .ok (.invokestatic 300, 3) := dk_184 1 44 (dk_at dksJ12_copyOf_0 6 rfl rfl)
theorem dJ12_copyOf_9 : decode cJ12_copyOf 9 = .ok (.areturn, 1) := dk_176 (dk_at dksJ12_copyOf_0 9 rfl rfl)
abbrev cJ12_copyOf_2 : ByteArray := prog_39_method_120_code
def yJ12_copyOf_2 : MethodName := ⟨RJ12, "copyOf", "([Ljava/lang/Object;ILjava/lang/Class;)[Ljava/lang/Object;"⟩
def dkwJ12_copyOf_2_1 : List UInt8 := [78, 42, 3, 45, 3, 42, 190, 27, 184, 1, 48, 184, 0, 150, 45, 176]
abbrev dktJ12_copyOf_2_1 : List UInt8 := dkwJ12_copyOf_2_1 ++ []
def dkwJ12_copyOf_2_0 : List UInt8 := [44, 18, 110, 166, 0, 10, 27, 189, 0, 2, 167, 0, 14, 44, 182, 0, 90, 27, 184, 0, 95, 192, 0, 110]
abbrev dktJ12_copyOf_2_0 : List UInt8 := dkwJ12_copyOf_2_0 ++ dktJ12_copyOf_2_1
theorem dksJ12_copyOf_2_0 : cJ12_copyOf_2.data.toList.drop 0 = dktJ12_copyOf_2_0 := by decide +kernel
theorem dksJ12_copyOf_2_1 : cJ12_copyOf_2.data.toList.drop 24 = dktJ12_copyOf_2_1 := dk_seg dksJ12_copyOf_2_0 24 rfl rfl
theorem dJ12_copyOf_2_0 : decode cJ12_copyOf_2 0 = .ok (.aload_n 2, 1) := dk_44 (dk_at dksJ12_copyOf_2_0 0 rfl rfl)
theorem dJ12_copyOf_2_1 : decode cJ12_copyOf_2 1 = .ok (.ldc 110, 2) := dk_18 110 (dk_at dksJ12_copyOf_2_0 1 rfl rfl)
theorem dJ12_copyOf_2_3 : decode cJ12_copyOf_2 3 = .ok (.if_acmp .ne 10, 3) := dk_166 0 10 (dk_at dksJ12_copyOf_2_0 3 rfl rfl)
theorem dJ12_copyOf_2_6 : decode cJ12_copyOf_2 6 = .ok (.iload_n 1, 1) := dk_27 (dk_at dksJ12_copyOf_2_0 6 rfl rfl)
theorem dJ12_copyOf_2_7 : decode cJ12_copyOf_2 7 = .ok (.anewarray 2, 3) := dk_189 0 2 (dk_at dksJ12_copyOf_2_0 7 rfl rfl)
theorem dJ12_copyOf_2_10 : decode cJ12_copyOf_2 10 = .ok (.goto 14, 3) := dk_167 0 14 (dk_at dksJ12_copyOf_2_0 10 rfl rfl)
theorem dJ12_copyOf_2_13 : decode cJ12_copyOf_2 13 = .ok (.aload_n 2, 1) := dk_44 (dk_at dksJ12_copyOf_2_0 13 rfl rfl)
theorem dJ12_copyOf_2_14 : decode cJ12_copyOf_2 14 = .ok (.invokevirtual 90, 3) := dk_182 0 90 (dk_at dksJ12_copyOf_2_0 14 rfl rfl)
theorem dJ12_copyOf_2_17 : decode cJ12_copyOf_2 17 = .ok (.iload_n 1, 1) := dk_27 (dk_at dksJ12_copyOf_2_0 17 rfl rfl)
theorem dJ12_copyOf_2_18 : decode cJ12_copyOf_2 18 = .ok (.invokestatic 95, 3) := dk_184 0 95 (dk_at dksJ12_copyOf_2_0 18 rfl rfl)
theorem dJ12_copyOf_2_21 : decode cJ12_copyOf_2 21 = .ok (.checkcast 110, 3) := dk_192 0 110 (dk_at dksJ12_copyOf_2_0 21 rfl rfl)
theorem dJ12_copyOf_2_24 : decode cJ12_copyOf_2 24 = .ok (.astore_n 3, 1) := dk_78 (dk_at dksJ12_copyOf_2_1 0 rfl rfl)
theorem dJ12_copyOf_2_25 : decode cJ12_copyOf_2 25 = .ok (.aload_n 0, 1) := dk_42 (dk_at dksJ12_copyOf_2_1 1 rfl rfl)
theorem dJ12_copyOf_2_26 : decode cJ12_copyOf_2 26 = .ok (.iconst 0, 1) := dk_3 (dk_at dksJ12_copyOf_2_1 2 rfl rfl)
theorem dJ12_copyOf_2_27 : decode cJ12_copyOf_2 27 = .ok (.aload_n 3, 1) := dk_45 (dk_at dksJ12_copyOf_2_1 3 rfl rfl)
theorem dJ12_copyOf_2_28 : decode cJ12_copyOf_2 28 = .ok (.iconst 0, 1) := dk_3 (dk_at dksJ12_copyOf_2_1 4 rfl rfl)
theorem dJ12_copyOf_2_29 : decode cJ12_copyOf_2 29 = .ok (.aload_n 0, 1) := dk_42 (dk_at dksJ12_copyOf_2_1 5 rfl rfl)
theorem dJ12_copyOf_2_30 : decode cJ12_copyOf_2 30 = .ok (.arraylength, 1) := dk_190 (dk_at dksJ12_copyOf_2_1 6 rfl rfl)
theorem dJ12_copyOf_2_31 : decode cJ12_copyOf_2 31 = .ok (.iload_n 1, 1) := dk_27 (dk_at dksJ12_copyOf_2_1 7 rfl rfl)
theorem dJ12_copyOf_2_32 : decode cJ12_copyOf_2 32 = .ok (.invokestatic 304, 3) := dk_184 1 48 (dk_at dksJ12_copyOf_2_1 8 rfl rfl)
theorem dJ12_copyOf_2_35 : decode cJ12_copyOf_2 35 = .ok (.invokestatic 150, 3) := dk_184 0 150 (dk_at dksJ12_copyOf_2_1 11 rfl rfl)
theorem dJ12_copyOf_2_38 : decode cJ12_copyOf_2 38 = .ok (.aload_n 3, 1) := dk_45 (dk_at dksJ12_copyOf_2_1 14 rfl rfl)
theorem dJ12_copyOf_2_39 : decode cJ12_copyOf_2 39 = .ok (.areturn, 1) := dk_176 (dk_at dksJ12_copyOf_2_1 15 rfl rfl)
abbrev cJ13_checkIndex : ByteArray := prog_42_method_17_code
def yJ13_checkIndex : MethodName := ⟨RJ13, "checkIndex", "(II)I"⟩
def dkwJ13_checkIndex_0 : List UInt8 := [26, 27, 1, 184, 0, 105, 172]
abbrev dktJ13_checkIndex_0 : List UInt8 := dkwJ13_checkIndex_0 ++ []
theorem dksJ13_checkIndex_0 : cJ13_checkIndex.data.toList.drop 0 = dktJ13_checkIndex_0 := by decide +kernel
theorem dJ13_checkIndex_0 : decode cJ13_checkIndex 0 = .ok (.iload_n 0, 1) := dk_26 (dk_at dksJ13_checkIndex_0 0 rfl rfl)
theorem dJ13_checkIndex_1 : decode cJ13_checkIndex 1 = .ok (.iload_n 1, 1) := dk_27 (dk_at dksJ13_checkIndex_0 1 rfl rfl)
theorem dJ13_checkIndex_2 : decode cJ13_checkIndex 2 = .ok (.aconst_null, 1) := dk_1 (dk_at dksJ13_checkIndex_0 2 rfl rfl)
theorem dJ13_checkIndex_3 : decode cJ13_checkIndex 3 = .ok (.invokestatic 105, 3) := dk_184 0 105 (dk_at dksJ13_checkIndex_0 3 rfl rfl)
theorem dJ13_checkIndex_6 : decode cJ13_checkIndex 6 = .ok (.ireturn, 1) := dk_172 (dk_at dksJ13_checkIndex_0 6 rfl rfl)
abbrev cX7_init : ByteArray := prog_13_method_1_code
def yX7_init : MethodName := ⟨RX7, "<init>", "()V"⟩
def dkwX7_init_0 : List UInt8 := [42, 183, 0, 1, 42, 187, 0, 7, 89, 5, 183, 0, 9, 181, 0, 12, 177]
abbrev dktX7_init_0 : List UInt8 := dkwX7_init_0 ++ []
theorem dksX7_init_0 : cX7_init.data.toList.drop 0 = dktX7_init_0 := by decide +kernel
theorem dX7_init_0 : decode cX7_init 0 = .ok (.aload_n 0, 1) := dk_42 (dk_at dksX7_init_0 0 rfl rfl)
theorem dX7_init_1 : decode cX7_init 1 = .ok (.invokespecial 1, 3) := dk_183 0 1 (dk_at dksX7_init_0 1 rfl rfl)
theorem dX7_init_4 : decode cX7_init 4 = .ok (.aload_n 0, 1) := dk_42 (dk_at dksX7_init_0 4 rfl rfl)
theorem dX7_init_5 : decode cX7_init 5 = .ok (.new 7, 3) := dk_187 0 7 (dk_at dksX7_init_0 5 rfl rfl)
theorem dX7_init_8 : decode cX7_init 8 = .ok (.dup, 1) := dk_89 (dk_at dksX7_init_0 8 rfl rfl)
theorem dX7_init_9 : decode cX7_init 9 = .ok (.iconst 2, 1) := dk_5 (dk_at dksX7_init_0 9 rfl rfl)
theorem dX7_init_10 : decode cX7_init 10 = .ok (.invokespecial 9, 3) := dk_183 0 9 (dk_at dksX7_init_0 10 rfl rfl)
theorem dX7_init_13 : decode cX7_init 13 = .ok (.putfield 12, 3) := dk_181 0 12 (dk_at dksX7_init_0 13 rfl rfl)
theorem dX7_init_16 : decode cX7_init 16 = .ok (.return_, 1) := dk_177 (dk_at dksX7_init_0 16 rfl rfl)
abbrev cX7_lets : ByteArray := prog_13_method_2_code
def yX7_lets : MethodName := ⟨RX7, "lets", "([J)Z"⟩
def dkwX7_lets_2 : List UInt8 := [182, 0, 36, 9, 148, 158, 0, 7, 4, 167, 0, 4, 3, 172, 132, 2, 1, 167, 255, 195, 3, 172]
abbrev dktX7_lets_2 : List UInt8 := dkwX7_lets_2 ++ []
def dkwX7_lets_1 : List UInt8 := [43, 182, 0, 28, 153, 0, 32, 42, 180, 0, 12, 28, 182, 0, 22, 192, 0, 26, 180, 0, 32, 43]
abbrev dktX7_lets_1 : List UInt8 := dkwX7_lets_1 ++ dktX7_lets_2
def dkwX7_lets_0 : List UInt8 := [3, 61, 28, 42, 180, 0, 12, 182, 0, 18, 162, 0, 56, 42, 180, 0, 12, 28, 182, 0, 22, 192, 0, 26]
abbrev dktX7_lets_0 : List UInt8 := dkwX7_lets_0 ++ dktX7_lets_1
theorem dksX7_lets_0 : cX7_lets.data.toList.drop 0 = dktX7_lets_0 := by decide +kernel
theorem dksX7_lets_1 : cX7_lets.data.toList.drop 24 = dktX7_lets_1 := dk_seg dksX7_lets_0 24 rfl rfl
theorem dksX7_lets_2 : cX7_lets.data.toList.drop 46 = dktX7_lets_2 := dk_seg dksX7_lets_1 22 rfl rfl
theorem dX7_lets_0 : decode cX7_lets 0 = .ok (.iconst 0, 1) := dk_3 (dk_at dksX7_lets_0 0 rfl rfl)
theorem dX7_lets_1 : decode cX7_lets 1 = .ok (.istore_n 2, 1) := dk_61 (dk_at dksX7_lets_0 1 rfl rfl)
theorem dX7_lets_2 : decode cX7_lets 2 = .ok (.iload_n 2, 1) := dk_28 (dk_at dksX7_lets_0 2 rfl rfl)
theorem dX7_lets_3 : decode cX7_lets 3 = .ok (.aload_n 0, 1) := dk_42 (dk_at dksX7_lets_0 3 rfl rfl)
theorem dX7_lets_4 : decode cX7_lets 4 = .ok (.getfield 12, 3) := dk_180 0 12 (dk_at dksX7_lets_0 4 rfl rfl)
theorem dX7_lets_7 : decode cX7_lets 7 = .ok (.invokevirtual 18, 3) := dk_182 0 18 (dk_at dksX7_lets_0 7 rfl rfl)
theorem dX7_lets_10 : decode cX7_lets 10 = .ok (.if_icmp .ge 56, 3) := dk_162 0 56 (dk_at dksX7_lets_0 10 rfl rfl)
theorem dX7_lets_13 : decode cX7_lets 13 = .ok (.aload_n 0, 1) := dk_42 (dk_at dksX7_lets_0 13 rfl rfl)
theorem dX7_lets_14 : decode cX7_lets 14 = .ok (.getfield 12, 3) := dk_180 0 12 (dk_at dksX7_lets_0 14 rfl rfl)
theorem dX7_lets_17 : decode cX7_lets 17 = .ok (.iload_n 2, 1) := dk_28 (dk_at dksX7_lets_0 17 rfl rfl)
theorem dX7_lets_18 : decode cX7_lets 18 = .ok (.invokevirtual 22, 3) := dk_182 0 22 (dk_at dksX7_lets_0 18 rfl rfl)
theorem dX7_lets_21 : decode cX7_lets 21 = .ok (.checkcast 26, 3) := dk_192 0 26 (dk_at dksX7_lets_0 21 rfl rfl)
theorem dX7_lets_24 : decode cX7_lets 24 = .ok (.aload_n 1, 1) := dk_43 (dk_at dksX7_lets_1 0 rfl rfl)
theorem dX7_lets_25 : decode cX7_lets 25 = .ok (.invokevirtual 28, 3) := dk_182 0 28 (dk_at dksX7_lets_1 1 rfl rfl)
theorem dX7_lets_28 : decode cX7_lets 28 = .ok (.ifCond .eq 32, 3) := dk_153 0 32 (dk_at dksX7_lets_1 4 rfl rfl)
theorem dX7_lets_31 : decode cX7_lets 31 = .ok (.aload_n 0, 1) := dk_42 (dk_at dksX7_lets_1 7 rfl rfl)
theorem dX7_lets_32 : decode cX7_lets 32 = .ok (.getfield 12, 3) := dk_180 0 12 (dk_at dksX7_lets_1 8 rfl rfl)
theorem dX7_lets_35 : decode cX7_lets 35 = .ok (.iload_n 2, 1) := dk_28 (dk_at dksX7_lets_1 11 rfl rfl)
theorem dX7_lets_36 : decode cX7_lets 36 = .ok (.invokevirtual 22, 3) := dk_182 0 22 (dk_at dksX7_lets_1 12 rfl rfl)
theorem dX7_lets_39 : decode cX7_lets 39 = .ok (.checkcast 26, 3) := dk_192 0 26 (dk_at dksX7_lets_1 15 rfl rfl)
theorem dX7_lets_42 : decode cX7_lets 42 = .ok (.getfield 32, 3) := dk_180 0 32 (dk_at dksX7_lets_1 18 rfl rfl)
theorem dX7_lets_45 : decode cX7_lets 45 = .ok (.aload_n 1, 1) := dk_43 (dk_at dksX7_lets_1 21 rfl rfl)
theorem dX7_lets_46 : decode cX7_lets 46 = .ok (.invokevirtual 36, 3) := dk_182 0 36 (dk_at dksX7_lets_2 0 rfl rfl)
theorem dX7_lets_49 : decode cX7_lets 49 = .ok (.lconst 0, 1) := dk_9 (dk_at dksX7_lets_2 3 rfl rfl)
theorem dX7_lets_50 : decode cX7_lets 50 = .ok (.lcmp, 1) := dk_148 (dk_at dksX7_lets_2 4 rfl rfl)
theorem dX7_lets_51 : decode cX7_lets 51 = .ok (.ifCond .le 7, 3) := dk_158 0 7 (dk_at dksX7_lets_2 5 rfl rfl)
theorem dX7_lets_54 : decode cX7_lets 54 = .ok (.iconst 1, 1) := dk_4 (dk_at dksX7_lets_2 8 rfl rfl)
theorem dX7_lets_55 : decode cX7_lets 55 = .ok (.goto 4, 3) := dk_167 0 4 (dk_at dksX7_lets_2 9 rfl rfl)
theorem dX7_lets_58 : decode cX7_lets 58 = .ok (.iconst 0, 1) := dk_3 (dk_at dksX7_lets_2 12 rfl rfl)
theorem dX7_lets_59 : decode cX7_lets 59 = .ok (.ireturn, 1) := dk_172 (dk_at dksX7_lets_2 13 rfl rfl)
theorem dX7_lets_60 : decode cX7_lets 60 = .ok (.iinc 2 1, 3) := dk_132 2 1 (dk_at dksX7_lets_2 14 rfl rfl)
theorem dX7_lets_63 : decode cX7_lets 63 = .ok (.goto (-61), 3) := dk_167 255 195 (dk_at dksX7_lets_2 17 rfl rfl)
theorem dX7_lets_66 : decode cX7_lets 66 = .ok (.iconst 0, 1) := dk_3 (dk_at dksX7_lets_2 20 rfl rfl)
theorem dX7_lets_67 : decode cX7_lets 67 = .ok (.ireturn, 1) := dk_172 (dk_at dksX7_lets_2 21 rfl rfl)
abbrev cX8_init : ByteArray := prog_16_method_1_code
def yX8_init : MethodName := ⟨RX8, "<init>", "()V"⟩
theorem dX8_init_0 : decode cX8_init 0 = .ok (.aload_n 0, 1) := by decide +kernel
theorem dX8_init_1 : decode cX8_init 1 = .ok (.invokespecial 1, 3) := by decide +kernel
theorem dX8_init_4 : decode cX8_init 4 = .ok (.return_, 1) := by decide +kernel
abbrev cX9_init : ByteArray := prog_11_method_1_code
def yX9_init : MethodName := ⟨RX9, "<init>", "(I)V"⟩
def dkwX9_init_0 : List UInt8 := [42, 183, 0, 1, 42, 27, 181, 0, 7, 177]
abbrev dktX9_init_0 : List UInt8 := dkwX9_init_0 ++ []
theorem dksX9_init_0 : cX9_init.data.toList.drop 0 = dktX9_init_0 := by decide +kernel
theorem dX9_init_0 : decode cX9_init 0 = .ok (.aload_n 0, 1) := dk_42 (dk_at dksX9_init_0 0 rfl rfl)
theorem dX9_init_1 : decode cX9_init 1 = .ok (.invokespecial 1, 3) := dk_183 0 1 (dk_at dksX9_init_0 1 rfl rfl)
theorem dX9_init_4 : decode cX9_init 4 = .ok (.aload_n 0, 1) := dk_42 (dk_at dksX9_init_0 4 rfl rfl)
theorem dX9_init_5 : decode cX9_init 5 = .ok (.iload_n 1, 1) := dk_27 (dk_at dksX9_init_0 5 rfl rfl)
theorem dX9_init_6 : decode cX9_init 6 = .ok (.putfield 7, 3) := dk_181 0 7 (dk_at dksX9_init_0 6 rfl rfl)
theorem dX9_init_9 : decode cX9_init 9 = .ok (.return_, 1) := dk_177 (dk_at dksX9_init_0 9 rfl rfl)
abbrev cX9_of : ByteArray := prog_11_method_2_code
def yX9_of : MethodName := ⟨RX9, "of", "([J)J"⟩
def dkwX9_of_0 : List UInt8 := [42, 180, 0, 7, 133, 173]
abbrev dktX9_of_0 : List UInt8 := dkwX9_of_0 ++ []
theorem dksX9_of_0 : cX9_of.data.toList.drop 0 = dktX9_of_0 := by decide +kernel
theorem dX9_of_0 : decode cX9_of 0 = .ok (.aload_n 0, 1) := dk_42 (dk_at dksX9_of_0 0 rfl rfl)
theorem dX9_of_1 : decode cX9_of 1 = .ok (.getfield 7, 3) := dk_180 0 7 (dk_at dksX9_of_0 1 rfl rfl)
theorem dX9_of_4 : decode cX9_of 4 = .ok (.i2l, 1) := dk_133 (dk_at dksX9_of_0 4 rfl rfl)
theorem dX9_of_5 : decode cX9_of 5 = .ok (.lreturn, 1) := dk_173 (dk_at dksX9_of_0 5 rfl rfl)
abbrev cX10_init : ByteArray := prog_2_method_1_code
def yX10_init : MethodName := ⟨RX10, "<init>", "(I)V"⟩
def dkwX10_init_0 : List UInt8 := [42, 183, 0, 1, 42, 27, 181, 0, 7, 177]
abbrev dktX10_init_0 : List UInt8 := dkwX10_init_0 ++ []
theorem dksX10_init_0 : cX10_init.data.toList.drop 0 = dktX10_init_0 := by decide +kernel
theorem dX10_init_0 : decode cX10_init 0 = .ok (.aload_n 0, 1) := dk_42 (dk_at dksX10_init_0 0 rfl rfl)
theorem dX10_init_1 : decode cX10_init 1 = .ok (.invokespecial 1, 3) := dk_183 0 1 (dk_at dksX10_init_0 1 rfl rfl)
theorem dX10_init_4 : decode cX10_init 4 = .ok (.aload_n 0, 1) := dk_42 (dk_at dksX10_init_0 4 rfl rfl)
theorem dX10_init_5 : decode cX10_init 5 = .ok (.iload_n 1, 1) := dk_27 (dk_at dksX10_init_0 5 rfl rfl)
theorem dX10_init_6 : decode cX10_init 6 = .ok (.putfield 7, 3) := dk_181 0 7 (dk_at dksX10_init_0 6 rfl rfl)
theorem dX10_init_9 : decode cX10_init 9 = .ok (.return_, 1) := dk_177 (dk_at dksX10_init_0 9 rfl rfl)
abbrev cX10_of : ByteArray := prog_2_method_2_code
def yX10_of : MethodName := ⟨RX10, "of", "([J)J"⟩
def dkwX10_of_0 : List UInt8 := [43, 42, 180, 0, 7, 47, 173]
abbrev dktX10_of_0 : List UInt8 := dkwX10_of_0 ++ []
theorem dksX10_of_0 : cX10_of.data.toList.drop 0 = dktX10_of_0 := by decide +kernel
theorem dX10_of_0 : decode cX10_of 0 = .ok (.aload_n 1, 1) := dk_43 (dk_at dksX10_of_0 0 rfl rfl)
theorem dX10_of_1 : decode cX10_of 1 = .ok (.aload_n 0, 1) := dk_42 (dk_at dksX10_of_0 1 rfl rfl)
theorem dX10_of_2 : decode cX10_of 2 = .ok (.getfield 7, 3) := dk_180 0 7 (dk_at dksX10_of_0 2 rfl rfl)
theorem dX10_of_5 : decode cX10_of 5 = .ok (.laload, 1) := dk_47 (dk_at dksX10_of_0 5 rfl rfl)
theorem dX10_of_6 : decode cX10_of 6 = .ok (.lreturn, 1) := dk_173 (dk_at dksX10_of_0 6 rfl rfl)
abbrev cX11_init : ByteArray := prog_7_method_1_code
def yX11_init : MethodName := ⟨RX11, "<init>", "(LDutyBeats$Value;LDutyBeats$Value;I)V"⟩
def dkwX11_init_0 : List UInt8 := [42, 183, 0, 1, 42, 43, 181, 0, 7, 42, 44, 181, 0, 13, 42, 29, 181, 0, 16, 177]
abbrev dktX11_init_0 : List UInt8 := dkwX11_init_0 ++ []
theorem dksX11_init_0 : cX11_init.data.toList.drop 0 = dktX11_init_0 := by decide +kernel
theorem dX11_init_0 : decode cX11_init 0 = .ok (.aload_n 0, 1) := dk_42 (dk_at dksX11_init_0 0 rfl rfl)
theorem dX11_init_1 : decode cX11_init 1 = .ok (.invokespecial 1, 3) := dk_183 0 1 (dk_at dksX11_init_0 1 rfl rfl)
theorem dX11_init_4 : decode cX11_init 4 = .ok (.aload_n 0, 1) := dk_42 (dk_at dksX11_init_0 4 rfl rfl)
theorem dX11_init_5 : decode cX11_init 5 = .ok (.aload_n 1, 1) := dk_43 (dk_at dksX11_init_0 5 rfl rfl)
theorem dX11_init_6 : decode cX11_init 6 = .ok (.putfield 7, 3) := dk_181 0 7 (dk_at dksX11_init_0 6 rfl rfl)
theorem dX11_init_9 : decode cX11_init 9 = .ok (.aload_n 0, 1) := dk_42 (dk_at dksX11_init_0 9 rfl rfl)
theorem dX11_init_10 : decode cX11_init 10 = .ok (.aload_n 2, 1) := dk_44 (dk_at dksX11_init_0 10 rfl rfl)
theorem dX11_init_11 : decode cX11_init 11 = .ok (.putfield 13, 3) := dk_181 0 13 (dk_at dksX11_init_0 11 rfl rfl)
theorem dX11_init_14 : decode cX11_init 14 = .ok (.aload_n 0, 1) := dk_42 (dk_at dksX11_init_0 14 rfl rfl)
theorem dX11_init_15 : decode cX11_init 15 = .ok (.iload_n 3, 1) := dk_29 (dk_at dksX11_init_0 15 rfl rfl)
theorem dX11_init_16 : decode cX11_init 16 = .ok (.putfield 16, 3) := dk_181 0 16 (dk_at dksX11_init_0 16 rfl rfl)
theorem dX11_init_19 : decode cX11_init 19 = .ok (.return_, 1) := dk_177 (dk_at dksX11_init_0 19 rfl rfl)
abbrev cX11_of : ByteArray := prog_7_method_2_code
def yX11_of : MethodName := ⟨RX11, "of", "([J)J"⟩
def dkwX11_of_4 : List UInt8 := [22, 4, 113, 173]
abbrev dktX11_of_4 : List UInt8 := dkwX11_of_4 ++ []
def dkwX11_of_3 : List UInt8 := [154, 0, 7, 9, 167, 0, 23, 42, 180, 0, 16, 16, 47, 160, 0, 10, 32, 22, 4, 109, 167, 0, 7, 32]
abbrev dktX11_of_3 : List UInt8 := dkwX11_of_3 ++ dktX11_of_4
def dkwX11_of_2 : List UInt8 := [101, 167, 0, 50, 42, 180, 0, 16, 16, 42, 160, 0, 10, 32, 22, 4, 105, 167, 0, 34, 22, 4, 9, 148]
abbrev dktX11_of_2 : List UInt8 := dkwX11_of_2 ++ dktX11_of_3
def dkwX11_of_1 : List UInt8 := [16, 43, 160, 0, 10, 32, 22, 4, 97, 167, 0, 66, 42, 180, 0, 16, 16, 45, 160, 0, 10, 32, 22, 4]
abbrev dktX11_of_1 : List UInt8 := dkwX11_of_1 ++ dktX11_of_2
def dkwX11_of_0 : List UInt8 := [42, 180, 0, 7, 43, 182, 0, 20, 65, 42, 180, 0, 13, 43, 182, 0, 20, 55, 4, 42, 180, 0, 16]
abbrev dktX11_of_0 : List UInt8 := dkwX11_of_0 ++ dktX11_of_1
theorem dksX11_of_0 : cX11_of.data.toList.drop 0 = dktX11_of_0 := by decide +kernel
theorem dksX11_of_1 : cX11_of.data.toList.drop 23 = dktX11_of_1 := dk_seg dksX11_of_0 23 rfl rfl
theorem dksX11_of_2 : cX11_of.data.toList.drop 47 = dktX11_of_2 := dk_seg dksX11_of_1 24 rfl rfl
theorem dksX11_of_3 : cX11_of.data.toList.drop 71 = dktX11_of_3 := dk_seg dksX11_of_2 24 rfl rfl
theorem dksX11_of_4 : cX11_of.data.toList.drop 95 = dktX11_of_4 := dk_seg dksX11_of_3 24 rfl rfl
theorem dX11_of_0 : decode cX11_of 0 = .ok (.aload_n 0, 1) := dk_42 (dk_at dksX11_of_0 0 rfl rfl)
theorem dX11_of_1 : decode cX11_of 1 = .ok (.getfield 7, 3) := dk_180 0 7 (dk_at dksX11_of_0 1 rfl rfl)
theorem dX11_of_4 : decode cX11_of 4 = .ok (.aload_n 1, 1) := dk_43 (dk_at dksX11_of_0 4 rfl rfl)
theorem dX11_of_5 : decode cX11_of 5 = .ok (.invokevirtual 20, 3) := dk_182 0 20 (dk_at dksX11_of_0 5 rfl rfl)
theorem dX11_of_8 : decode cX11_of 8 = .ok (.lstore_n 2, 1) := dk_65 (dk_at dksX11_of_0 8 rfl rfl)
theorem dX11_of_9 : decode cX11_of 9 = .ok (.aload_n 0, 1) := dk_42 (dk_at dksX11_of_0 9 rfl rfl)
theorem dX11_of_10 : decode cX11_of 10 = .ok (.getfield 13, 3) := dk_180 0 13 (dk_at dksX11_of_0 10 rfl rfl)
theorem dX11_of_13 : decode cX11_of 13 = .ok (.aload_n 1, 1) := dk_43 (dk_at dksX11_of_0 13 rfl rfl)
theorem dX11_of_14 : decode cX11_of 14 = .ok (.invokevirtual 20, 3) := dk_182 0 20 (dk_at dksX11_of_0 14 rfl rfl)
theorem dX11_of_17 : decode cX11_of 17 = .ok (.lstore 4, 2) := dk_55 4 (dk_at dksX11_of_0 17 rfl rfl)
theorem dX11_of_19 : decode cX11_of 19 = .ok (.aload_n 0, 1) := dk_42 (dk_at dksX11_of_0 19 rfl rfl)
theorem dX11_of_20 : decode cX11_of 20 = .ok (.getfield 16, 3) := dk_180 0 16 (dk_at dksX11_of_0 20 rfl rfl)
theorem dX11_of_23 : decode cX11_of 23 = .ok (.bipush 43, 2) := dk_16 43 (dk_at dksX11_of_1 0 rfl rfl)
theorem dX11_of_25 : decode cX11_of 25 = .ok (.if_icmp .ne 10, 3) := dk_160 0 10 (dk_at dksX11_of_1 2 rfl rfl)
theorem dX11_of_28 : decode cX11_of 28 = .ok (.lload_n 2, 1) := dk_32 (dk_at dksX11_of_1 5 rfl rfl)
theorem dX11_of_29 : decode cX11_of 29 = .ok (.lload 4, 2) := dk_22 4 (dk_at dksX11_of_1 6 rfl rfl)
theorem dX11_of_31 : decode cX11_of 31 = .ok (.ladd, 1) := dk_97 (dk_at dksX11_of_1 8 rfl rfl)
theorem dX11_of_32 : decode cX11_of 32 = .ok (.goto 66, 3) := dk_167 0 66 (dk_at dksX11_of_1 9 rfl rfl)
theorem dX11_of_35 : decode cX11_of 35 = .ok (.aload_n 0, 1) := dk_42 (dk_at dksX11_of_1 12 rfl rfl)
theorem dX11_of_36 : decode cX11_of 36 = .ok (.getfield 16, 3) := dk_180 0 16 (dk_at dksX11_of_1 13 rfl rfl)
theorem dX11_of_39 : decode cX11_of 39 = .ok (.bipush 45, 2) := dk_16 45 (dk_at dksX11_of_1 16 rfl rfl)
theorem dX11_of_41 : decode cX11_of 41 = .ok (.if_icmp .ne 10, 3) := dk_160 0 10 (dk_at dksX11_of_1 18 rfl rfl)
theorem dX11_of_44 : decode cX11_of 44 = .ok (.lload_n 2, 1) := dk_32 (dk_at dksX11_of_1 21 rfl rfl)
theorem dX11_of_45 : decode cX11_of 45 = .ok (.lload 4, 2) := dk_22 4 (dk_at dksX11_of_1 22 rfl rfl)
theorem dX11_of_47 : decode cX11_of 47 = .ok (.lsub, 1) := dk_101 (dk_at dksX11_of_2 0 rfl rfl)
theorem dX11_of_48 : decode cX11_of 48 = .ok (.goto 50, 3) := dk_167 0 50 (dk_at dksX11_of_2 1 rfl rfl)
theorem dX11_of_51 : decode cX11_of 51 = .ok (.aload_n 0, 1) := dk_42 (dk_at dksX11_of_2 4 rfl rfl)
theorem dX11_of_52 : decode cX11_of 52 = .ok (.getfield 16, 3) := dk_180 0 16 (dk_at dksX11_of_2 5 rfl rfl)
theorem dX11_of_55 : decode cX11_of 55 = .ok (.bipush 42, 2) := dk_16 42 (dk_at dksX11_of_2 8 rfl rfl)
theorem dX11_of_57 : decode cX11_of 57 = .ok (.if_icmp .ne 10, 3) := dk_160 0 10 (dk_at dksX11_of_2 10 rfl rfl)
theorem dX11_of_60 : decode cX11_of 60 = .ok (.lload_n 2, 1) := dk_32 (dk_at dksX11_of_2 13 rfl rfl)
theorem dX11_of_61 : decode cX11_of 61 = .ok (.lload 4, 2) := dk_22 4 (dk_at dksX11_of_2 14 rfl rfl)
theorem dX11_of_63 : decode cX11_of 63 = .ok (.lmul, 1) := dk_105 (dk_at dksX11_of_2 16 rfl rfl)
theorem dX11_of_64 : decode cX11_of 64 = .ok (.goto 34, 3) := dk_167 0 34 (dk_at dksX11_of_2 17 rfl rfl)
theorem dX11_of_67 : decode cX11_of 67 = .ok (.lload 4, 2) := dk_22 4 (dk_at dksX11_of_2 20 rfl rfl)
theorem dX11_of_69 : decode cX11_of 69 = .ok (.lconst 0, 1) := dk_9 (dk_at dksX11_of_2 22 rfl rfl)
theorem dX11_of_70 : decode cX11_of 70 = .ok (.lcmp, 1) := dk_148 (dk_at dksX11_of_2 23 rfl rfl)
theorem dX11_of_71 : decode cX11_of 71 = .ok (.ifCond .ne 7, 3) := dk_154 0 7 (dk_at dksX11_of_3 0 rfl rfl)
theorem dX11_of_74 : decode cX11_of 74 = .ok (.lconst 0, 1) := dk_9 (dk_at dksX11_of_3 3 rfl rfl)
theorem dX11_of_75 : decode cX11_of 75 = .ok (.goto 23, 3) := dk_167 0 23 (dk_at dksX11_of_3 4 rfl rfl)
theorem dX11_of_78 : decode cX11_of 78 = .ok (.aload_n 0, 1) := dk_42 (dk_at dksX11_of_3 7 rfl rfl)
theorem dX11_of_79 : decode cX11_of 79 = .ok (.getfield 16, 3) := dk_180 0 16 (dk_at dksX11_of_3 8 rfl rfl)
theorem dX11_of_82 : decode cX11_of 82 = .ok (.bipush 47, 2) := dk_16 47 (dk_at dksX11_of_3 11 rfl rfl)
theorem dX11_of_84 : decode cX11_of 84 = .ok (.if_icmp .ne 10, 3) := dk_160 0 10 (dk_at dksX11_of_3 13 rfl rfl)
theorem dX11_of_87 : decode cX11_of 87 = .ok (.lload_n 2, 1) := dk_32 (dk_at dksX11_of_3 16 rfl rfl)
theorem dX11_of_88 : decode cX11_of 88 = .ok (.lload 4, 2) := dk_22 4 (dk_at dksX11_of_3 17 rfl rfl)
theorem dX11_of_90 : decode cX11_of 90 = .ok (.ldiv, 1) := dk_109 (dk_at dksX11_of_3 19 rfl rfl)
theorem dX11_of_91 : decode cX11_of 91 = .ok (.goto 7, 3) := dk_167 0 7 (dk_at dksX11_of_3 20 rfl rfl)
theorem dX11_of_94 : decode cX11_of 94 = .ok (.lload_n 2, 1) := dk_32 (dk_at dksX11_of_3 23 rfl rfl)
theorem dX11_of_95 : decode cX11_of 95 = .ok (.lload 4, 2) := dk_22 4 (dk_at dksX11_of_4 0 rfl rfl)
theorem dX11_of_97 : decode cX11_of 97 = .ok (.lrem, 1) := dk_113 (dk_at dksX11_of_4 2 rfl rfl)
theorem dX11_of_98 : decode cX11_of 98 = .ok (.lreturn, 1) := dk_173 (dk_at dksX11_of_4 3 rfl rfl)
abbrev cX12_init : ByteArray := prog_15_method_1_code
def yX12_init : MethodName := ⟨RX12, "<init>", "(LDutyBeats$Value;LDutyBeats$Condition;)V"⟩
def dkwX12_init_0 : List UInt8 := [42, 183, 0, 1, 42, 43, 181, 0, 7, 42, 44, 181, 0, 13, 177]
abbrev dktX12_init_0 : List UInt8 := dkwX12_init_0 ++ []
theorem dksX12_init_0 : cX12_init.data.toList.drop 0 = dktX12_init_0 := by decide +kernel
theorem dX12_init_0 : decode cX12_init 0 = .ok (.aload_n 0, 1) := dk_42 (dk_at dksX12_init_0 0 rfl rfl)
theorem dX12_init_1 : decode cX12_init 1 = .ok (.invokespecial 1, 3) := dk_183 0 1 (dk_at dksX12_init_0 1 rfl rfl)
theorem dX12_init_4 : decode cX12_init 4 = .ok (.aload_n 0, 1) := dk_42 (dk_at dksX12_init_0 4 rfl rfl)
theorem dX12_init_5 : decode cX12_init 5 = .ok (.aload_n 1, 1) := dk_43 (dk_at dksX12_init_0 5 rfl rfl)
theorem dX12_init_6 : decode cX12_init 6 = .ok (.putfield 7, 3) := dk_181 0 7 (dk_at dksX12_init_0 6 rfl rfl)
theorem dX12_init_9 : decode cX12_init 9 = .ok (.aload_n 0, 1) := dk_42 (dk_at dksX12_init_0 9 rfl rfl)
theorem dX12_init_10 : decode cX12_init 10 = .ok (.aload_n 2, 1) := dk_44 (dk_at dksX12_init_0 10 rfl rfl)
theorem dX12_init_11 : decode cX12_init 11 = .ok (.putfield 13, 3) := dk_181 0 13 (dk_at dksX12_init_0 11 rfl rfl)
theorem dX12_init_14 : decode cX12_init 14 = .ok (.return_, 1) := dk_177 (dk_at dksX12_init_0 14 rfl rfl)
abbrev cX12_holds : ByteArray := prog_15_method_2_code
def yX12_holds : MethodName := ⟨RX12, "holds", "([J)Z"⟩
def dkwX12_holds_0 : List UInt8 := [42, 180, 0, 13, 198, 0, 14, 42, 180, 0, 13, 43, 182, 0, 17, 153, 0, 7, 4, 167, 0, 4, 3, 172]
abbrev dktX12_holds_0 : List UInt8 := dkwX12_holds_0 ++ []
theorem dksX12_holds_0 : cX12_holds.data.toList.drop 0 = dktX12_holds_0 := by decide +kernel
theorem dX12_holds_0 : decode cX12_holds 0 = .ok (.aload_n 0, 1) := dk_42 (dk_at dksX12_holds_0 0 rfl rfl)
theorem dX12_holds_1 : decode cX12_holds 1 = .ok (.getfield 13, 3) := dk_180 0 13 (dk_at dksX12_holds_0 1 rfl rfl)
theorem dX12_holds_4 : decode cX12_holds 4 = .ok (.ifnull 14, 3) := dk_198 0 14 (dk_at dksX12_holds_0 4 rfl rfl)
theorem dX12_holds_7 : decode cX12_holds 7 = .ok (.aload_n 0, 1) := dk_42 (dk_at dksX12_holds_0 7 rfl rfl)
theorem dX12_holds_8 : decode cX12_holds 8 = .ok (.getfield 13, 3) := dk_180 0 13 (dk_at dksX12_holds_0 8 rfl rfl)
theorem dX12_holds_11 : decode cX12_holds 11 = .ok (.aload_n 1, 1) := dk_43 (dk_at dksX12_holds_0 11 rfl rfl)
theorem dX12_holds_12 : decode cX12_holds 12 = .ok (.invokevirtual 17, 3) := dk_182 0 17 (dk_at dksX12_holds_0 12 rfl rfl)
theorem dX12_holds_15 : decode cX12_holds 15 = .ok (.ifCond .eq 7, 3) := dk_153 0 7 (dk_at dksX12_holds_0 15 rfl rfl)
theorem dX12_holds_18 : decode cX12_holds 18 = .ok (.iconst 1, 1) := dk_4 (dk_at dksX12_holds_0 18 rfl rfl)
theorem dX12_holds_19 : decode cX12_holds 19 = .ok (.goto 4, 3) := dk_167 0 4 (dk_at dksX12_holds_0 19 rfl rfl)
theorem dX12_holds_22 : decode cX12_holds 22 = .ok (.iconst 0, 1) := dk_3 (dk_at dksX12_holds_0 22 rfl rfl)
theorem dX12_holds_23 : decode cX12_holds 23 = .ok (.ireturn, 1) := dk_172 (dk_at dksX12_holds_0 23 rfl rfl)
abbrev cX13_init : ByteArray := prog_5_method_1_code
def yX13_init : MethodName := ⟨RX13, "<init>", "()V"⟩
theorem dX13_init_0 : decode cX13_init 0 = .ok (.aload_n 0, 1) := by decide +kernel
theorem dX13_init_1 : decode cX13_init 1 = .ok (.invokespecial 1, 3) := by decide +kernel
theorem dX13_init_4 : decode cX13_init 4 = .ok (.return_, 1) := by decide +kernel
abbrev cX14_init : ByteArray := prog_9_method_1_code
def yX14_init : MethodName := ⟨RX14, "<init>", "(LDutyBeats$Condition;)V"⟩
def dkwX14_init_0 : List UInt8 := [42, 183, 0, 1, 42, 43, 181, 0, 7, 177]
abbrev dktX14_init_0 : List UInt8 := dkwX14_init_0 ++ []
theorem dksX14_init_0 : cX14_init.data.toList.drop 0 = dktX14_init_0 := by decide +kernel
theorem dX14_init_0 : decode cX14_init 0 = .ok (.aload_n 0, 1) := dk_42 (dk_at dksX14_init_0 0 rfl rfl)
theorem dX14_init_1 : decode cX14_init 1 = .ok (.invokespecial 1, 3) := dk_183 0 1 (dk_at dksX14_init_0 1 rfl rfl)
theorem dX14_init_4 : decode cX14_init 4 = .ok (.aload_n 0, 1) := dk_42 (dk_at dksX14_init_0 4 rfl rfl)
theorem dX14_init_5 : decode cX14_init 5 = .ok (.aload_n 1, 1) := dk_43 (dk_at dksX14_init_0 5 rfl rfl)
theorem dX14_init_6 : decode cX14_init 6 = .ok (.putfield 7, 3) := dk_181 0 7 (dk_at dksX14_init_0 6 rfl rfl)
theorem dX14_init_9 : decode cX14_init 9 = .ok (.return_, 1) := dk_177 (dk_at dksX14_init_0 9 rfl rfl)
abbrev cX14_is : ByteArray := prog_9_method_2_code
def yX14_is : MethodName := ⟨RX14, "is", "([J)Z"⟩
def dkwX14_is_0 : List UInt8 := [42, 180, 0, 7, 43, 182, 0, 13, 154, 0, 7, 4, 167, 0, 4, 3, 172]
abbrev dktX14_is_0 : List UInt8 := dkwX14_is_0 ++ []
theorem dksX14_is_0 : cX14_is.data.toList.drop 0 = dktX14_is_0 := by decide +kernel
theorem dX14_is_0 : decode cX14_is 0 = .ok (.aload_n 0, 1) := dk_42 (dk_at dksX14_is_0 0 rfl rfl)
theorem dX14_is_1 : decode cX14_is 1 = .ok (.getfield 7, 3) := dk_180 0 7 (dk_at dksX14_is_0 1 rfl rfl)
theorem dX14_is_4 : decode cX14_is 4 = .ok (.aload_n 1, 1) := dk_43 (dk_at dksX14_is_0 4 rfl rfl)
theorem dX14_is_5 : decode cX14_is 5 = .ok (.invokevirtual 13, 3) := dk_182 0 13 (dk_at dksX14_is_0 5 rfl rfl)
theorem dX14_is_8 : decode cX14_is 8 = .ok (.ifCond .ne 7, 3) := dk_154 0 7 (dk_at dksX14_is_0 8 rfl rfl)
theorem dX14_is_11 : decode cX14_is 11 = .ok (.iconst 1, 1) := dk_4 (dk_at dksX14_is_0 11 rfl rfl)
theorem dX14_is_12 : decode cX14_is 12 = .ok (.goto 4, 3) := dk_167 0 4 (dk_at dksX14_is_0 12 rfl rfl)
theorem dX14_is_15 : decode cX14_is 15 = .ok (.iconst 0, 1) := dk_3 (dk_at dksX14_is_0 15 rfl rfl)
theorem dX14_is_16 : decode cX14_is 16 = .ok (.ireturn, 1) := dk_172 (dk_at dksX14_is_0 16 rfl rfl)
abbrev cX15_init : ByteArray := prog_4_method_1_code
def yX15_init : MethodName := ⟨RX15, "<init>", "(LDutyBeats$Value;LDutyBeats$Value;IZ)V"⟩
def dkwX15_init_1 : List UInt8 := [181, 0, 20, 177]
abbrev dktX15_init_1 : List UInt8 := dkwX15_init_1 ++ []
def dkwX15_init_0 : List UInt8 := [42, 183, 0, 1, 42, 43, 181, 0, 7, 42, 44, 181, 0, 13, 42, 29, 181, 0, 16, 42, 21, 4]
abbrev dktX15_init_0 : List UInt8 := dkwX15_init_0 ++ dktX15_init_1
theorem dksX15_init_0 : cX15_init.data.toList.drop 0 = dktX15_init_0 := by decide +kernel
theorem dksX15_init_1 : cX15_init.data.toList.drop 22 = dktX15_init_1 := dk_seg dksX15_init_0 22 rfl rfl
theorem dX15_init_0 : decode cX15_init 0 = .ok (.aload_n 0, 1) := dk_42 (dk_at dksX15_init_0 0 rfl rfl)
theorem dX15_init_1 : decode cX15_init 1 = .ok (.invokespecial 1, 3) := dk_183 0 1 (dk_at dksX15_init_0 1 rfl rfl)
theorem dX15_init_4 : decode cX15_init 4 = .ok (.aload_n 0, 1) := dk_42 (dk_at dksX15_init_0 4 rfl rfl)
theorem dX15_init_5 : decode cX15_init 5 = .ok (.aload_n 1, 1) := dk_43 (dk_at dksX15_init_0 5 rfl rfl)
theorem dX15_init_6 : decode cX15_init 6 = .ok (.putfield 7, 3) := dk_181 0 7 (dk_at dksX15_init_0 6 rfl rfl)
theorem dX15_init_9 : decode cX15_init 9 = .ok (.aload_n 0, 1) := dk_42 (dk_at dksX15_init_0 9 rfl rfl)
theorem dX15_init_10 : decode cX15_init 10 = .ok (.aload_n 2, 1) := dk_44 (dk_at dksX15_init_0 10 rfl rfl)
theorem dX15_init_11 : decode cX15_init 11 = .ok (.putfield 13, 3) := dk_181 0 13 (dk_at dksX15_init_0 11 rfl rfl)
theorem dX15_init_14 : decode cX15_init 14 = .ok (.aload_n 0, 1) := dk_42 (dk_at dksX15_init_0 14 rfl rfl)
theorem dX15_init_15 : decode cX15_init 15 = .ok (.iload_n 3, 1) := dk_29 (dk_at dksX15_init_0 15 rfl rfl)
theorem dX15_init_16 : decode cX15_init 16 = .ok (.putfield 16, 3) := dk_181 0 16 (dk_at dksX15_init_0 16 rfl rfl)
theorem dX15_init_19 : decode cX15_init 19 = .ok (.aload_n 0, 1) := dk_42 (dk_at dksX15_init_0 19 rfl rfl)
theorem dX15_init_20 : decode cX15_init 20 = .ok (.iload 4, 2) := dk_21 4 (dk_at dksX15_init_0 20 rfl rfl)
theorem dX15_init_22 : decode cX15_init 22 = .ok (.putfield 20, 3) := dk_181 0 20 (dk_at dksX15_init_1 0 rfl rfl)
theorem dX15_init_25 : decode cX15_init 25 = .ok (.return_, 1) := dk_177 (dk_at dksX15_init_1 3 rfl rfl)
abbrev cX15_is : ByteArray := prog_4_method_2_code
def yX15_is : MethodName := ⟨RX15, "is", "([J)Z"⟩
def dkwX15_is_3 : List UInt8 := [16, 62, 160, 0, 14, 32, 22, 4, 148, 158, 0, 7, 4, 167, 0, 4, 3, 172]
abbrev dktX15_is_3 : List UInt8 := dkwX15_is_3 ++ []
def dkwX15_is_2 : List UInt8 := [167, 0, 40, 42, 180, 0, 16, 16, 60, 160, 0, 10, 32, 22, 4, 148, 155, 0, 19, 42, 180, 0, 16]
abbrev dktX15_is_2 : List UInt8 := dkwX15_is_2 ++ dktX15_is_3
def dkwX15_is_1 : List UInt8 := [154, 0, 27, 42, 180, 0, 16, 16, 61, 159, 0, 10, 42, 180, 0, 20, 153, 0, 7, 4, 167, 0, 44, 3]
abbrev dktX15_is_1 : List UInt8 := dkwX15_is_1 ++ dktX15_is_2
def dkwX15_is_0 : List UInt8 := [42, 180, 0, 7, 43, 182, 0, 24, 65, 42, 180, 0, 13, 43, 182, 0, 24, 55, 4, 32, 22, 4, 148]
abbrev dktX15_is_0 : List UInt8 := dkwX15_is_0 ++ dktX15_is_1
theorem dksX15_is_0 : cX15_is.data.toList.drop 0 = dktX15_is_0 := by decide +kernel
theorem dksX15_is_1 : cX15_is.data.toList.drop 23 = dktX15_is_1 := dk_seg dksX15_is_0 23 rfl rfl
theorem dksX15_is_2 : cX15_is.data.toList.drop 47 = dktX15_is_2 := dk_seg dksX15_is_1 24 rfl rfl
theorem dksX15_is_3 : cX15_is.data.toList.drop 70 = dktX15_is_3 := dk_seg dksX15_is_2 23 rfl rfl
theorem dX15_is_0 : decode cX15_is 0 = .ok (.aload_n 0, 1) := dk_42 (dk_at dksX15_is_0 0 rfl rfl)
theorem dX15_is_1 : decode cX15_is 1 = .ok (.getfield 7, 3) := dk_180 0 7 (dk_at dksX15_is_0 1 rfl rfl)
theorem dX15_is_4 : decode cX15_is 4 = .ok (.aload_n 1, 1) := dk_43 (dk_at dksX15_is_0 4 rfl rfl)
theorem dX15_is_5 : decode cX15_is 5 = .ok (.invokevirtual 24, 3) := dk_182 0 24 (dk_at dksX15_is_0 5 rfl rfl)
theorem dX15_is_8 : decode cX15_is 8 = .ok (.lstore_n 2, 1) := dk_65 (dk_at dksX15_is_0 8 rfl rfl)
theorem dX15_is_9 : decode cX15_is 9 = .ok (.aload_n 0, 1) := dk_42 (dk_at dksX15_is_0 9 rfl rfl)
theorem dX15_is_10 : decode cX15_is 10 = .ok (.getfield 13, 3) := dk_180 0 13 (dk_at dksX15_is_0 10 rfl rfl)
theorem dX15_is_13 : decode cX15_is 13 = .ok (.aload_n 1, 1) := dk_43 (dk_at dksX15_is_0 13 rfl rfl)
theorem dX15_is_14 : decode cX15_is 14 = .ok (.invokevirtual 24, 3) := dk_182 0 24 (dk_at dksX15_is_0 14 rfl rfl)
theorem dX15_is_17 : decode cX15_is 17 = .ok (.lstore 4, 2) := dk_55 4 (dk_at dksX15_is_0 17 rfl rfl)
theorem dX15_is_19 : decode cX15_is 19 = .ok (.lload_n 2, 1) := dk_32 (dk_at dksX15_is_0 19 rfl rfl)
theorem dX15_is_20 : decode cX15_is 20 = .ok (.lload 4, 2) := dk_22 4 (dk_at dksX15_is_0 20 rfl rfl)
theorem dX15_is_22 : decode cX15_is 22 = .ok (.lcmp, 1) := dk_148 (dk_at dksX15_is_0 22 rfl rfl)
theorem dX15_is_23 : decode cX15_is 23 = .ok (.ifCond .ne 27, 3) := dk_154 0 27 (dk_at dksX15_is_1 0 rfl rfl)
theorem dX15_is_26 : decode cX15_is 26 = .ok (.aload_n 0, 1) := dk_42 (dk_at dksX15_is_1 3 rfl rfl)
theorem dX15_is_27 : decode cX15_is 27 = .ok (.getfield 16, 3) := dk_180 0 16 (dk_at dksX15_is_1 4 rfl rfl)
theorem dX15_is_30 : decode cX15_is 30 = .ok (.bipush 61, 2) := dk_16 61 (dk_at dksX15_is_1 7 rfl rfl)
theorem dX15_is_32 : decode cX15_is 32 = .ok (.if_icmp .eq 10, 3) := dk_159 0 10 (dk_at dksX15_is_1 9 rfl rfl)
theorem dX15_is_35 : decode cX15_is 35 = .ok (.aload_n 0, 1) := dk_42 (dk_at dksX15_is_1 12 rfl rfl)
theorem dX15_is_36 : decode cX15_is 36 = .ok (.getfield 20, 3) := dk_180 0 20 (dk_at dksX15_is_1 13 rfl rfl)
theorem dX15_is_39 : decode cX15_is 39 = .ok (.ifCond .eq 7, 3) := dk_153 0 7 (dk_at dksX15_is_1 16 rfl rfl)
theorem dX15_is_42 : decode cX15_is 42 = .ok (.iconst 1, 1) := dk_4 (dk_at dksX15_is_1 19 rfl rfl)
theorem dX15_is_43 : decode cX15_is 43 = .ok (.goto 44, 3) := dk_167 0 44 (dk_at dksX15_is_1 20 rfl rfl)
theorem dX15_is_46 : decode cX15_is 46 = .ok (.iconst 0, 1) := dk_3 (dk_at dksX15_is_1 23 rfl rfl)
theorem dX15_is_47 : decode cX15_is 47 = .ok (.goto 40, 3) := dk_167 0 40 (dk_at dksX15_is_2 0 rfl rfl)
theorem dX15_is_50 : decode cX15_is 50 = .ok (.aload_n 0, 1) := dk_42 (dk_at dksX15_is_2 3 rfl rfl)
theorem dX15_is_51 : decode cX15_is 51 = .ok (.getfield 16, 3) := dk_180 0 16 (dk_at dksX15_is_2 4 rfl rfl)
theorem dX15_is_54 : decode cX15_is 54 = .ok (.bipush 60, 2) := dk_16 60 (dk_at dksX15_is_2 7 rfl rfl)
theorem dX15_is_56 : decode cX15_is 56 = .ok (.if_icmp .ne 10, 3) := dk_160 0 10 (dk_at dksX15_is_2 9 rfl rfl)
theorem dX15_is_59 : decode cX15_is 59 = .ok (.lload_n 2, 1) := dk_32 (dk_at dksX15_is_2 12 rfl rfl)
theorem dX15_is_60 : decode cX15_is 60 = .ok (.lload 4, 2) := dk_22 4 (dk_at dksX15_is_2 13 rfl rfl)
theorem dX15_is_62 : decode cX15_is 62 = .ok (.lcmp, 1) := dk_148 (dk_at dksX15_is_2 15 rfl rfl)
theorem dX15_is_63 : decode cX15_is 63 = .ok (.ifCond .lt 19, 3) := dk_155 0 19 (dk_at dksX15_is_2 16 rfl rfl)
theorem dX15_is_66 : decode cX15_is 66 = .ok (.aload_n 0, 1) := dk_42 (dk_at dksX15_is_2 19 rfl rfl)
theorem dX15_is_67 : decode cX15_is 67 = .ok (.getfield 16, 3) := dk_180 0 16 (dk_at dksX15_is_2 20 rfl rfl)
theorem dX15_is_70 : decode cX15_is 70 = .ok (.bipush 62, 2) := dk_16 62 (dk_at dksX15_is_3 0 rfl rfl)
theorem dX15_is_72 : decode cX15_is 72 = .ok (.if_icmp .ne 14, 3) := dk_160 0 14 (dk_at dksX15_is_3 2 rfl rfl)
theorem dX15_is_75 : decode cX15_is 75 = .ok (.lload_n 2, 1) := dk_32 (dk_at dksX15_is_3 5 rfl rfl)
theorem dX15_is_76 : decode cX15_is 76 = .ok (.lload 4, 2) := dk_22 4 (dk_at dksX15_is_3 6 rfl rfl)
theorem dX15_is_78 : decode cX15_is 78 = .ok (.lcmp, 1) := dk_148 (dk_at dksX15_is_3 8 rfl rfl)
theorem dX15_is_79 : decode cX15_is 79 = .ok (.ifCond .le 7, 3) := dk_158 0 7 (dk_at dksX15_is_3 9 rfl rfl)
theorem dX15_is_82 : decode cX15_is 82 = .ok (.iconst 1, 1) := dk_4 (dk_at dksX15_is_3 12 rfl rfl)
theorem dX15_is_83 : decode cX15_is 83 = .ok (.goto 4, 3) := dk_167 0 4 (dk_at dksX15_is_3 13 rfl rfl)
theorem dX15_is_86 : decode cX15_is 86 = .ok (.iconst 0, 1) := dk_3 (dk_at dksX15_is_3 16 rfl rfl)
theorem dX15_is_87 : decode cX15_is 87 = .ok (.ireturn, 1) := dk_172 (dk_at dksX15_is_3 17 rfl rfl)
abbrev cX16_init : ByteArray := prog_3_method_1_code
def yX16_init : MethodName := ⟨RX16, "<init>", "(LDutyBeats$Condition;LDutyBeats$Condition;Z)V"⟩
def dkwX16_init_0 : List UInt8 := [42, 183, 0, 1, 42, 43, 181, 0, 7, 42, 44, 181, 0, 13, 42, 29, 181, 0, 16, 177]
abbrev dktX16_init_0 : List UInt8 := dkwX16_init_0 ++ []
theorem dksX16_init_0 : cX16_init.data.toList.drop 0 = dktX16_init_0 := by decide +kernel
theorem dX16_init_0 : decode cX16_init 0 = .ok (.aload_n 0, 1) := dk_42 (dk_at dksX16_init_0 0 rfl rfl)
theorem dX16_init_1 : decode cX16_init 1 = .ok (.invokespecial 1, 3) := dk_183 0 1 (dk_at dksX16_init_0 1 rfl rfl)
theorem dX16_init_4 : decode cX16_init 4 = .ok (.aload_n 0, 1) := dk_42 (dk_at dksX16_init_0 4 rfl rfl)
theorem dX16_init_5 : decode cX16_init 5 = .ok (.aload_n 1, 1) := dk_43 (dk_at dksX16_init_0 5 rfl rfl)
theorem dX16_init_6 : decode cX16_init 6 = .ok (.putfield 7, 3) := dk_181 0 7 (dk_at dksX16_init_0 6 rfl rfl)
theorem dX16_init_9 : decode cX16_init 9 = .ok (.aload_n 0, 1) := dk_42 (dk_at dksX16_init_0 9 rfl rfl)
theorem dX16_init_10 : decode cX16_init 10 = .ok (.aload_n 2, 1) := dk_44 (dk_at dksX16_init_0 10 rfl rfl)
theorem dX16_init_11 : decode cX16_init 11 = .ok (.putfield 13, 3) := dk_181 0 13 (dk_at dksX16_init_0 11 rfl rfl)
theorem dX16_init_14 : decode cX16_init 14 = .ok (.aload_n 0, 1) := dk_42 (dk_at dksX16_init_0 14 rfl rfl)
theorem dX16_init_15 : decode cX16_init 15 = .ok (.iload_n 3, 1) := dk_29 (dk_at dksX16_init_0 15 rfl rfl)
theorem dX16_init_16 : decode cX16_init 16 = .ok (.putfield 16, 3) := dk_181 0 16 (dk_at dksX16_init_0 16 rfl rfl)
theorem dX16_init_19 : decode cX16_init 19 = .ok (.return_, 1) := dk_177 (dk_at dksX16_init_0 19 rfl rfl)
abbrev cX16_is : ByteArray := prog_3_method_2_code
def yX16_is : MethodName := ⟨RX16, "is", "([J)Z"⟩
def dkwX16_is_2 : List UInt8 := [153, 0, 18, 42, 180, 0, 13, 43, 182, 0, 20, 153, 0, 7, 4, 167, 0, 4, 3, 172]
abbrev dktX16_is_2 : List UInt8 := dkwX16_is_2 ++ []
def dkwX16_is_1 : List UInt8 := [182, 0, 20, 153, 0, 7, 4, 167, 0, 34, 3, 167, 0, 30, 42, 180, 0, 7, 43, 182, 0, 20]
abbrev dktX16_is_1 : List UInt8 := dkwX16_is_1 ++ dktX16_is_2
def dkwX16_is_0 : List UInt8 := [42, 180, 0, 16, 153, 0, 33, 42, 180, 0, 7, 43, 182, 0, 20, 154, 0, 14, 42, 180, 0, 13, 43]
abbrev dktX16_is_0 : List UInt8 := dkwX16_is_0 ++ dktX16_is_1
theorem dksX16_is_0 : cX16_is.data.toList.drop 0 = dktX16_is_0 := by decide +kernel
theorem dksX16_is_1 : cX16_is.data.toList.drop 23 = dktX16_is_1 := dk_seg dksX16_is_0 23 rfl rfl
theorem dksX16_is_2 : cX16_is.data.toList.drop 45 = dktX16_is_2 := dk_seg dksX16_is_1 22 rfl rfl
theorem dX16_is_0 : decode cX16_is 0 = .ok (.aload_n 0, 1) := dk_42 (dk_at dksX16_is_0 0 rfl rfl)
theorem dX16_is_1 : decode cX16_is 1 = .ok (.getfield 16, 3) := dk_180 0 16 (dk_at dksX16_is_0 1 rfl rfl)
theorem dX16_is_4 : decode cX16_is 4 = .ok (.ifCond .eq 33, 3) := dk_153 0 33 (dk_at dksX16_is_0 4 rfl rfl)
theorem dX16_is_7 : decode cX16_is 7 = .ok (.aload_n 0, 1) := dk_42 (dk_at dksX16_is_0 7 rfl rfl)
theorem dX16_is_8 : decode cX16_is 8 = .ok (.getfield 7, 3) := dk_180 0 7 (dk_at dksX16_is_0 8 rfl rfl)
theorem dX16_is_11 : decode cX16_is 11 = .ok (.aload_n 1, 1) := dk_43 (dk_at dksX16_is_0 11 rfl rfl)
theorem dX16_is_12 : decode cX16_is 12 = .ok (.invokevirtual 20, 3) := dk_182 0 20 (dk_at dksX16_is_0 12 rfl rfl)
theorem dX16_is_15 : decode cX16_is 15 = .ok (.ifCond .ne 14, 3) := dk_154 0 14 (dk_at dksX16_is_0 15 rfl rfl)
theorem dX16_is_18 : decode cX16_is 18 = .ok (.aload_n 0, 1) := dk_42 (dk_at dksX16_is_0 18 rfl rfl)
theorem dX16_is_19 : decode cX16_is 19 = .ok (.getfield 13, 3) := dk_180 0 13 (dk_at dksX16_is_0 19 rfl rfl)
theorem dX16_is_22 : decode cX16_is 22 = .ok (.aload_n 1, 1) := dk_43 (dk_at dksX16_is_0 22 rfl rfl)
theorem dX16_is_23 : decode cX16_is 23 = .ok (.invokevirtual 20, 3) := dk_182 0 20 (dk_at dksX16_is_1 0 rfl rfl)
theorem dX16_is_26 : decode cX16_is 26 = .ok (.ifCond .eq 7, 3) := dk_153 0 7 (dk_at dksX16_is_1 3 rfl rfl)
theorem dX16_is_29 : decode cX16_is 29 = .ok (.iconst 1, 1) := dk_4 (dk_at dksX16_is_1 6 rfl rfl)
theorem dX16_is_30 : decode cX16_is 30 = .ok (.goto 34, 3) := dk_167 0 34 (dk_at dksX16_is_1 7 rfl rfl)
theorem dX16_is_33 : decode cX16_is 33 = .ok (.iconst 0, 1) := dk_3 (dk_at dksX16_is_1 10 rfl rfl)
theorem dX16_is_34 : decode cX16_is 34 = .ok (.goto 30, 3) := dk_167 0 30 (dk_at dksX16_is_1 11 rfl rfl)
theorem dX16_is_37 : decode cX16_is 37 = .ok (.aload_n 0, 1) := dk_42 (dk_at dksX16_is_1 14 rfl rfl)
theorem dX16_is_38 : decode cX16_is 38 = .ok (.getfield 7, 3) := dk_180 0 7 (dk_at dksX16_is_1 15 rfl rfl)
theorem dX16_is_41 : decode cX16_is 41 = .ok (.aload_n 1, 1) := dk_43 (dk_at dksX16_is_1 18 rfl rfl)
theorem dX16_is_42 : decode cX16_is 42 = .ok (.invokevirtual 20, 3) := dk_182 0 20 (dk_at dksX16_is_1 19 rfl rfl)
theorem dX16_is_45 : decode cX16_is 45 = .ok (.ifCond .eq 18, 3) := dk_153 0 18 (dk_at dksX16_is_2 0 rfl rfl)
theorem dX16_is_48 : decode cX16_is 48 = .ok (.aload_n 0, 1) := dk_42 (dk_at dksX16_is_2 3 rfl rfl)
theorem dX16_is_49 : decode cX16_is 49 = .ok (.getfield 13, 3) := dk_180 0 13 (dk_at dksX16_is_2 4 rfl rfl)
theorem dX16_is_52 : decode cX16_is 52 = .ok (.aload_n 1, 1) := dk_43 (dk_at dksX16_is_2 7 rfl rfl)
theorem dX16_is_53 : decode cX16_is 53 = .ok (.invokevirtual 20, 3) := dk_182 0 20 (dk_at dksX16_is_2 8 rfl rfl)
theorem dX16_is_56 : decode cX16_is 56 = .ok (.ifCond .eq 7, 3) := dk_153 0 7 (dk_at dksX16_is_2 11 rfl rfl)
theorem dX16_is_59 : decode cX16_is 59 = .ok (.iconst 1, 1) := dk_4 (dk_at dksX16_is_2 14 rfl rfl)
theorem dX16_is_60 : decode cX16_is 60 = .ok (.goto 4, 3) := dk_167 0 4 (dk_at dksX16_is_2 15 rfl rfl)
theorem dX16_is_63 : decode cX16_is 63 = .ok (.iconst 0, 1) := dk_3 (dk_at dksX16_is_2 18 rfl rfl)
theorem dX16_is_64 : decode cX16_is 64 = .ok (.ireturn, 1) := dk_172 (dk_at dksX16_is_2 19 rfl rfl)
abbrev cJ14_bitCount : ByteArray := prog_25_method_49_code
def yJ14_bitCount : MethodName := ⟨RJ14, "bitCount", "(I)I"⟩
def dkwJ14_bitCount_2 : List UInt8 := [26, 16, 63, 126, 172]
abbrev dktJ14_bitCount_2 : List UInt8 := dkwJ14_bitCount_2 ++ []
def dkwJ14_bitCount_1 : List UInt8 := [26, 26, 7, 124, 96, 19, 1, 11, 126, 59, 26, 26, 16, 8, 124, 96, 59, 26, 26, 16, 16, 124, 96, 59]
abbrev dktJ14_bitCount_1 : List UInt8 := dkwJ14_bitCount_1 ++ dktJ14_bitCount_2
def dkwJ14_bitCount_0 : List UInt8 := [26, 26, 4, 124, 19, 1, 9, 126, 100, 59, 26, 19, 1, 10, 126, 26, 5, 124, 19, 1, 10, 126, 96, 59]
abbrev dktJ14_bitCount_0 : List UInt8 := dkwJ14_bitCount_0 ++ dktJ14_bitCount_1
theorem dksJ14_bitCount_0 : cJ14_bitCount.data.toList.drop 0 = dktJ14_bitCount_0 := by decide +kernel
theorem dksJ14_bitCount_1 : cJ14_bitCount.data.toList.drop 24 = dktJ14_bitCount_1 := dk_seg dksJ14_bitCount_0 24 rfl rfl
theorem dksJ14_bitCount_2 : cJ14_bitCount.data.toList.drop 48 = dktJ14_bitCount_2 := dk_seg dksJ14_bitCount_1 24 rfl rfl
theorem dJ14_bitCount_0 : decode cJ14_bitCount 0 = .ok (.iload_n 0, 1) := dk_26 (dk_at dksJ14_bitCount_0 0 rfl rfl)
theorem dJ14_bitCount_1 : decode cJ14_bitCount 1 = .ok (.iload_n 0, 1) := dk_26 (dk_at dksJ14_bitCount_0 1 rfl rfl)
theorem dJ14_bitCount_2 : decode cJ14_bitCount 2 = .ok (.iconst 1, 1) := dk_4 (dk_at dksJ14_bitCount_0 2 rfl rfl)
theorem dJ14_bitCount_3 : decode cJ14_bitCount 3 = .ok (.iushr, 1) := dk_124 (dk_at dksJ14_bitCount_0 3 rfl rfl)
theorem dJ14_bitCount_4 : decode cJ14_bitCount 4 = .ok (.ldc_w 265, 3) := dk_19 1 9 (dk_at dksJ14_bitCount_0 4 rfl rfl)
theorem dJ14_bitCount_7 : decode cJ14_bitCount 7 = .ok (.iand, 1) := dk_126 (dk_at dksJ14_bitCount_0 7 rfl rfl)
theorem dJ14_bitCount_8 : decode cJ14_bitCount 8 = .ok (.isub, 1) := dk_100 (dk_at dksJ14_bitCount_0 8 rfl rfl)
theorem dJ14_bitCount_9 : decode cJ14_bitCount 9 = .ok (.istore_n 0, 1) := dk_59 (dk_at dksJ14_bitCount_0 9 rfl rfl)
theorem dJ14_bitCount_10 : decode cJ14_bitCount 10 = .ok (.iload_n 0, 1) := dk_26 (dk_at dksJ14_bitCount_0 10 rfl rfl)
theorem dJ14_bitCount_11 : decode cJ14_bitCount 11 = .ok (.ldc_w 266, 3) := dk_19 1 10 (dk_at dksJ14_bitCount_0 11 rfl rfl)
theorem dJ14_bitCount_14 : decode cJ14_bitCount 14 = .ok (.iand, 1) := dk_126 (dk_at dksJ14_bitCount_0 14 rfl rfl)
theorem dJ14_bitCount_15 : decode cJ14_bitCount 15 = .ok (.iload_n 0, 1) := dk_26 (dk_at dksJ14_bitCount_0 15 rfl rfl)
theorem dJ14_bitCount_16 : decode cJ14_bitCount 16 = .ok (.iconst 2, 1) := dk_5 (dk_at dksJ14_bitCount_0 16 rfl rfl)
theorem dJ14_bitCount_17 : decode cJ14_bitCount 17 = .ok (.iushr, 1) := dk_124 (dk_at dksJ14_bitCount_0 17 rfl rfl)
theorem dJ14_bitCount_18 : decode cJ14_bitCount 18 = .ok (.ldc_w 266, 3) := dk_19 1 10 (dk_at dksJ14_bitCount_0 18 rfl rfl)
theorem dJ14_bitCount_21 : decode cJ14_bitCount 21 = .ok (.iand, 1) := dk_126 (dk_at dksJ14_bitCount_0 21 rfl rfl)
theorem dJ14_bitCount_22 : decode cJ14_bitCount 22 = .ok (.iadd, 1) := dk_96 (dk_at dksJ14_bitCount_0 22 rfl rfl)
theorem dJ14_bitCount_23 : decode cJ14_bitCount 23 = .ok (.istore_n 0, 1) := dk_59 (dk_at dksJ14_bitCount_0 23 rfl rfl)
theorem dJ14_bitCount_24 : decode cJ14_bitCount 24 = .ok (.iload_n 0, 1) := dk_26 (dk_at dksJ14_bitCount_1 0 rfl rfl)
theorem dJ14_bitCount_25 : decode cJ14_bitCount 25 = .ok (.iload_n 0, 1) := dk_26 (dk_at dksJ14_bitCount_1 1 rfl rfl)
theorem dJ14_bitCount_26 : decode cJ14_bitCount 26 = .ok (.iconst 4, 1) := dk_7 (dk_at dksJ14_bitCount_1 2 rfl rfl)
theorem dJ14_bitCount_27 : decode cJ14_bitCount 27 = .ok (.iushr, 1) := dk_124 (dk_at dksJ14_bitCount_1 3 rfl rfl)
theorem dJ14_bitCount_28 : decode cJ14_bitCount 28 = .ok (.iadd, 1) := dk_96 (dk_at dksJ14_bitCount_1 4 rfl rfl)
theorem dJ14_bitCount_29 : decode cJ14_bitCount 29 = .ok (.ldc_w 267, 3) := dk_19 1 11 (dk_at dksJ14_bitCount_1 5 rfl rfl)
theorem dJ14_bitCount_32 : decode cJ14_bitCount 32 = .ok (.iand, 1) := dk_126 (dk_at dksJ14_bitCount_1 8 rfl rfl)
theorem dJ14_bitCount_33 : decode cJ14_bitCount 33 = .ok (.istore_n 0, 1) := dk_59 (dk_at dksJ14_bitCount_1 9 rfl rfl)
theorem dJ14_bitCount_34 : decode cJ14_bitCount 34 = .ok (.iload_n 0, 1) := dk_26 (dk_at dksJ14_bitCount_1 10 rfl rfl)
theorem dJ14_bitCount_35 : decode cJ14_bitCount 35 = .ok (.iload_n 0, 1) := dk_26 (dk_at dksJ14_bitCount_1 11 rfl rfl)
theorem dJ14_bitCount_36 : decode cJ14_bitCount 36 = .ok (.bipush 8, 2) := dk_16 8 (dk_at dksJ14_bitCount_1 12 rfl rfl)
theorem dJ14_bitCount_38 : decode cJ14_bitCount 38 = .ok (.iushr, 1) := dk_124 (dk_at dksJ14_bitCount_1 14 rfl rfl)
theorem dJ14_bitCount_39 : decode cJ14_bitCount 39 = .ok (.iadd, 1) := dk_96 (dk_at dksJ14_bitCount_1 15 rfl rfl)
theorem dJ14_bitCount_40 : decode cJ14_bitCount 40 = .ok (.istore_n 0, 1) := dk_59 (dk_at dksJ14_bitCount_1 16 rfl rfl)
theorem dJ14_bitCount_41 : decode cJ14_bitCount 41 = .ok (.iload_n 0, 1) := dk_26 (dk_at dksJ14_bitCount_1 17 rfl rfl)
theorem dJ14_bitCount_42 : decode cJ14_bitCount 42 = .ok (.iload_n 0, 1) := dk_26 (dk_at dksJ14_bitCount_1 18 rfl rfl)
theorem dJ14_bitCount_43 : decode cJ14_bitCount 43 = .ok (.bipush 16, 2) := dk_16 16 (dk_at dksJ14_bitCount_1 19 rfl rfl)
theorem dJ14_bitCount_45 : decode cJ14_bitCount 45 = .ok (.iushr, 1) := dk_124 (dk_at dksJ14_bitCount_1 21 rfl rfl)
theorem dJ14_bitCount_46 : decode cJ14_bitCount 46 = .ok (.iadd, 1) := dk_96 (dk_at dksJ14_bitCount_1 22 rfl rfl)
theorem dJ14_bitCount_47 : decode cJ14_bitCount 47 = .ok (.istore_n 0, 1) := dk_59 (dk_at dksJ14_bitCount_1 23 rfl rfl)
theorem dJ14_bitCount_48 : decode cJ14_bitCount 48 = .ok (.iload_n 0, 1) := dk_26 (dk_at dksJ14_bitCount_2 0 rfl rfl)
theorem dJ14_bitCount_49 : decode cJ14_bitCount 49 = .ok (.bipush 63, 2) := dk_16 63 (dk_at dksJ14_bitCount_2 1 rfl rfl)
theorem dJ14_bitCount_51 : decode cJ14_bitCount 51 = .ok (.iand, 1) := dk_126 (dk_at dksJ14_bitCount_2 3 rfl rfl)
theorem dJ14_bitCount_52 : decode cJ14_bitCount 52 = .ok (.ireturn, 1) := dk_172 (dk_at dksJ14_bitCount_2 4 rfl rfl)
abbrev cX17_init : ByteArray := prog_6_method_1_code
def yX17_init : MethodName := ⟨RX17, "<init>", "(LDutyBeats;)V"⟩
def dkwX17_init_1 : List UInt8 := [188, 10, 181, 0, 22, 42, 16, 10, 188, 10, 181, 0, 26, 42, 16, 10, 188, 10, 181, 0, 29, 177]
abbrev dktX17_init_1 : List UInt8 := dkwX17_init_1 ++ []
def dkwX17_init_0 : List UInt8 := [42, 43, 181, 0, 3, 42, 183, 0, 9, 42, 187, 0, 15, 89, 183, 0, 17, 181, 0, 18, 42, 16, 10]
abbrev dktX17_init_0 : List UInt8 := dkwX17_init_0 ++ dktX17_init_1
theorem dksX17_init_0 : cX17_init.data.toList.drop 0 = dktX17_init_0 := by decide +kernel
theorem dksX17_init_1 : cX17_init.data.toList.drop 23 = dktX17_init_1 := dk_seg dksX17_init_0 23 rfl rfl
theorem dX17_init_0 : decode cX17_init 0 = .ok (.aload_n 0, 1) := dk_42 (dk_at dksX17_init_0 0 rfl rfl)
theorem dX17_init_1 : decode cX17_init 1 = .ok (.aload_n 1, 1) := dk_43 (dk_at dksX17_init_0 1 rfl rfl)
theorem dX17_init_2 : decode cX17_init 2 = .ok (.putfield 3, 3) := dk_181 0 3 (dk_at dksX17_init_0 2 rfl rfl)
theorem dX17_init_5 : decode cX17_init 5 = .ok (.aload_n 0, 1) := dk_42 (dk_at dksX17_init_0 5 rfl rfl)
theorem dX17_init_6 : decode cX17_init 6 = .ok (.invokespecial 9, 3) := dk_183 0 9 (dk_at dksX17_init_0 6 rfl rfl)
theorem dX17_init_9 : decode cX17_init 9 = .ok (.aload_n 0, 1) := dk_42 (dk_at dksX17_init_0 9 rfl rfl)
theorem dX17_init_10 : decode cX17_init 10 = .ok (.new 15, 3) := dk_187 0 15 (dk_at dksX17_init_0 10 rfl rfl)
theorem dX17_init_13 : decode cX17_init 13 = .ok (.dup, 1) := dk_89 (dk_at dksX17_init_0 13 rfl rfl)
theorem dX17_init_14 : decode cX17_init 14 = .ok (.invokespecial 17, 3) := dk_183 0 17 (dk_at dksX17_init_0 14 rfl rfl)
theorem dX17_init_17 : decode cX17_init 17 = .ok (.putfield 18, 3) := dk_181 0 18 (dk_at dksX17_init_0 17 rfl rfl)
theorem dX17_init_20 : decode cX17_init 20 = .ok (.aload_n 0, 1) := dk_42 (dk_at dksX17_init_0 20 rfl rfl)
theorem dX17_init_21 : decode cX17_init 21 = .ok (.bipush 10, 2) := dk_16 10 (dk_at dksX17_init_0 21 rfl rfl)
theorem dX17_init_23 : decode cX17_init 23 = .ok (.newarray .int, 2) := dk_188_10 (dk_at dksX17_init_1 0 rfl rfl)
theorem dX17_init_25 : decode cX17_init 25 = .ok (.putfield 22, 3) := dk_181 0 22 (dk_at dksX17_init_1 2 rfl rfl)
theorem dX17_init_28 : decode cX17_init 28 = .ok (.aload_n 0, 1) := dk_42 (dk_at dksX17_init_1 5 rfl rfl)
theorem dX17_init_29 : decode cX17_init 29 = .ok (.bipush 10, 2) := dk_16 10 (dk_at dksX17_init_1 6 rfl rfl)
theorem dX17_init_31 : decode cX17_init 31 = .ok (.newarray .int, 2) := dk_188_10 (dk_at dksX17_init_1 8 rfl rfl)
theorem dX17_init_33 : decode cX17_init 33 = .ok (.putfield 26, 3) := dk_181 0 26 (dk_at dksX17_init_1 10 rfl rfl)
theorem dX17_init_36 : decode cX17_init 36 = .ok (.aload_n 0, 1) := dk_42 (dk_at dksX17_init_1 13 rfl rfl)
theorem dX17_init_37 : decode cX17_init 37 = .ok (.bipush 10, 2) := dk_16 10 (dk_at dksX17_init_1 14 rfl rfl)
theorem dX17_init_39 : decode cX17_init 39 = .ok (.newarray .int, 2) := dk_188_10 (dk_at dksX17_init_1 16 rfl rfl)
theorem dX17_init_41 : decode cX17_init 41 = .ok (.putfield 29, 3) := dk_181 0 29 (dk_at dksX17_init_1 18 rfl rfl)
theorem dX17_init_44 : decode cX17_init 44 = .ok (.return_, 1) := dk_177 (dk_at dksX17_init_1 21 rfl rfl)
abbrev cX17_keep : ByteArray := prog_6_method_2_code
def yX17_keep : MethodName := ⟨RX17, "keep", "()V"⟩
def dkwX17_keep_5 : List UInt8 := [181, 0, 71, 177]
abbrev dktX17_keep_5 : List UInt8 := dkwX17_keep_5 ++ []
def dkwX17_keep_4 : List UInt8 := [181, 0, 59, 42, 42, 180, 0, 3, 180, 0, 62, 181, 0, 65, 42, 42, 180, 0, 3, 180, 0, 68]
abbrev dktX17_keep_4 : List UInt8 := dkwX17_keep_4 ++ dktX17_keep_5
def dkwX17_keep_3 : List UInt8 := [180, 0, 3, 180, 0, 52, 27, 46, 79, 132, 1, 1, 167, 255, 202, 42, 42, 180, 0, 3, 180, 0, 55]
abbrev dktX17_keep_3 : List UInt8 := dkwX17_keep_3 ++ dktX17_keep_4
def dkwX17_keep_2 : List UInt8 := [46, 79, 42, 180, 0, 26, 27, 42, 180, 0, 3, 180, 0, 49, 27, 46, 79, 42, 180, 0, 29, 27, 42]
abbrev dktX17_keep_2 : List UInt8 := dkwX17_keep_2 ++ dktX17_keep_3
def dkwX17_keep_1 : List UInt8 := [182, 0, 42, 3, 60, 27, 16, 10, 162, 0, 54, 42, 180, 0, 22, 27, 42, 180, 0, 3, 180, 0, 46, 27]
abbrev dktX17_keep_1 : List UInt8 := dkwX17_keep_1 ++ dktX17_keep_2
def dkwX17_keep_0 : List UInt8 := [42, 42, 180, 0, 3, 180, 0, 32, 181, 0, 36, 42, 180, 0, 18, 42, 180, 0, 3, 180, 0, 39]
abbrev dktX17_keep_0 : List UInt8 := dkwX17_keep_0 ++ dktX17_keep_1
theorem dksX17_keep_0 : cX17_keep.data.toList.drop 0 = dktX17_keep_0 := by decide +kernel
theorem dksX17_keep_1 : cX17_keep.data.toList.drop 22 = dktX17_keep_1 := dk_seg dksX17_keep_0 22 rfl rfl
theorem dksX17_keep_2 : cX17_keep.data.toList.drop 46 = dktX17_keep_2 := dk_seg dksX17_keep_1 24 rfl rfl
theorem dksX17_keep_3 : cX17_keep.data.toList.drop 69 = dktX17_keep_3 := dk_seg dksX17_keep_2 23 rfl rfl
theorem dksX17_keep_4 : cX17_keep.data.toList.drop 92 = dktX17_keep_4 := dk_seg dksX17_keep_3 23 rfl rfl
theorem dksX17_keep_5 : cX17_keep.data.toList.drop 114 = dktX17_keep_5 := dk_seg dksX17_keep_4 22 rfl rfl
theorem dX17_keep_0 : decode cX17_keep 0 = .ok (.aload_n 0, 1) := dk_42 (dk_at dksX17_keep_0 0 rfl rfl)
theorem dX17_keep_1 : decode cX17_keep 1 = .ok (.aload_n 0, 1) := dk_42 (dk_at dksX17_keep_0 1 rfl rfl)
theorem dX17_keep_2 : decode cX17_keep 2 = .ok (.getfield 3, 3) := dk_180 0 3 (dk_at dksX17_keep_0 2 rfl rfl)
theorem dX17_keep_5 : decode cX17_keep 5 = .ok (.getfield 32, 3) := dk_180 0 32 (dk_at dksX17_keep_0 5 rfl rfl)
theorem dX17_keep_8 : decode cX17_keep 8 = .ok (.putfield 36, 3) := dk_181 0 36 (dk_at dksX17_keep_0 8 rfl rfl)
theorem dX17_keep_11 : decode cX17_keep 11 = .ok (.aload_n 0, 1) := dk_42 (dk_at dksX17_keep_0 11 rfl rfl)
theorem dX17_keep_12 : decode cX17_keep 12 = .ok (.getfield 18, 3) := dk_180 0 18 (dk_at dksX17_keep_0 12 rfl rfl)
theorem dX17_keep_15 : decode cX17_keep 15 = .ok (.aload_n 0, 1) := dk_42 (dk_at dksX17_keep_0 15 rfl rfl)
theorem dX17_keep_16 : decode cX17_keep 16 = .ok (.getfield 3, 3) := dk_180 0 3 (dk_at dksX17_keep_0 16 rfl rfl)
theorem dX17_keep_19 : decode cX17_keep 19 = .ok (.getfield 39, 3) := dk_180 0 39 (dk_at dksX17_keep_0 19 rfl rfl)
theorem dX17_keep_22 : decode cX17_keep 22 = .ok (.invokevirtual 42, 3) := dk_182 0 42 (dk_at dksX17_keep_1 0 rfl rfl)
theorem dX17_keep_25 : decode cX17_keep 25 = .ok (.iconst 0, 1) := dk_3 (dk_at dksX17_keep_1 3 rfl rfl)
theorem dX17_keep_26 : decode cX17_keep 26 = .ok (.istore_n 1, 1) := dk_60 (dk_at dksX17_keep_1 4 rfl rfl)
theorem dX17_keep_27 : decode cX17_keep 27 = .ok (.iload_n 1, 1) := dk_27 (dk_at dksX17_keep_1 5 rfl rfl)
theorem dX17_keep_28 : decode cX17_keep 28 = .ok (.bipush 10, 2) := dk_16 10 (dk_at dksX17_keep_1 6 rfl rfl)
theorem dX17_keep_30 : decode cX17_keep 30 = .ok (.if_icmp .ge 54, 3) := dk_162 0 54 (dk_at dksX17_keep_1 8 rfl rfl)
theorem dX17_keep_33 : decode cX17_keep 33 = .ok (.aload_n 0, 1) := dk_42 (dk_at dksX17_keep_1 11 rfl rfl)
theorem dX17_keep_34 : decode cX17_keep 34 = .ok (.getfield 22, 3) := dk_180 0 22 (dk_at dksX17_keep_1 12 rfl rfl)
theorem dX17_keep_37 : decode cX17_keep 37 = .ok (.iload_n 1, 1) := dk_27 (dk_at dksX17_keep_1 15 rfl rfl)
theorem dX17_keep_38 : decode cX17_keep 38 = .ok (.aload_n 0, 1) := dk_42 (dk_at dksX17_keep_1 16 rfl rfl)
theorem dX17_keep_39 : decode cX17_keep 39 = .ok (.getfield 3, 3) := dk_180 0 3 (dk_at dksX17_keep_1 17 rfl rfl)
theorem dX17_keep_42 : decode cX17_keep 42 = .ok (.getfield 46, 3) := dk_180 0 46 (dk_at dksX17_keep_1 20 rfl rfl)
theorem dX17_keep_45 : decode cX17_keep 45 = .ok (.iload_n 1, 1) := dk_27 (dk_at dksX17_keep_1 23 rfl rfl)
theorem dX17_keep_46 : decode cX17_keep 46 = .ok (.iaload, 1) := dk_46 (dk_at dksX17_keep_2 0 rfl rfl)
theorem dX17_keep_47 : decode cX17_keep 47 = .ok (.iastore, 1) := dk_79 (dk_at dksX17_keep_2 1 rfl rfl)
theorem dX17_keep_48 : decode cX17_keep 48 = .ok (.aload_n 0, 1) := dk_42 (dk_at dksX17_keep_2 2 rfl rfl)
theorem dX17_keep_49 : decode cX17_keep 49 = .ok (.getfield 26, 3) := dk_180 0 26 (dk_at dksX17_keep_2 3 rfl rfl)
theorem dX17_keep_52 : decode cX17_keep 52 = .ok (.iload_n 1, 1) := dk_27 (dk_at dksX17_keep_2 6 rfl rfl)
theorem dX17_keep_53 : decode cX17_keep 53 = .ok (.aload_n 0, 1) := dk_42 (dk_at dksX17_keep_2 7 rfl rfl)
theorem dX17_keep_54 : decode cX17_keep 54 = .ok (.getfield 3, 3) := dk_180 0 3 (dk_at dksX17_keep_2 8 rfl rfl)
theorem dX17_keep_57 : decode cX17_keep 57 = .ok (.getfield 49, 3) := dk_180 0 49 (dk_at dksX17_keep_2 11 rfl rfl)
theorem dX17_keep_60 : decode cX17_keep 60 = .ok (.iload_n 1, 1) := dk_27 (dk_at dksX17_keep_2 14 rfl rfl)
theorem dX17_keep_61 : decode cX17_keep 61 = .ok (.iaload, 1) := dk_46 (dk_at dksX17_keep_2 15 rfl rfl)
theorem dX17_keep_62 : decode cX17_keep 62 = .ok (.iastore, 1) := dk_79 (dk_at dksX17_keep_2 16 rfl rfl)
theorem dX17_keep_63 : decode cX17_keep 63 = .ok (.aload_n 0, 1) := dk_42 (dk_at dksX17_keep_2 17 rfl rfl)
theorem dX17_keep_64 : decode cX17_keep 64 = .ok (.getfield 29, 3) := dk_180 0 29 (dk_at dksX17_keep_2 18 rfl rfl)
theorem dX17_keep_67 : decode cX17_keep 67 = .ok (.iload_n 1, 1) := dk_27 (dk_at dksX17_keep_2 21 rfl rfl)
theorem dX17_keep_68 : decode cX17_keep 68 = .ok (.aload_n 0, 1) := dk_42 (dk_at dksX17_keep_2 22 rfl rfl)
theorem dX17_keep_69 : decode cX17_keep 69 = .ok (.getfield 3, 3) := dk_180 0 3 (dk_at dksX17_keep_3 0 rfl rfl)
theorem dX17_keep_72 : decode cX17_keep 72 = .ok (.getfield 52, 3) := dk_180 0 52 (dk_at dksX17_keep_3 3 rfl rfl)
theorem dX17_keep_75 : decode cX17_keep 75 = .ok (.iload_n 1, 1) := dk_27 (dk_at dksX17_keep_3 6 rfl rfl)
theorem dX17_keep_76 : decode cX17_keep 76 = .ok (.iaload, 1) := dk_46 (dk_at dksX17_keep_3 7 rfl rfl)
theorem dX17_keep_77 : decode cX17_keep 77 = .ok (.iastore, 1) := dk_79 (dk_at dksX17_keep_3 8 rfl rfl)
theorem dX17_keep_78 : decode cX17_keep 78 = .ok (.iinc 1 1, 3) := dk_132 1 1 (dk_at dksX17_keep_3 9 rfl rfl)
theorem dX17_keep_81 : decode cX17_keep 81 = .ok (.goto (-54), 3) := dk_167 255 202 (dk_at dksX17_keep_3 12 rfl rfl)
theorem dX17_keep_84 : decode cX17_keep 84 = .ok (.aload_n 0, 1) := dk_42 (dk_at dksX17_keep_3 15 rfl rfl)
theorem dX17_keep_85 : decode cX17_keep 85 = .ok (.aload_n 0, 1) := dk_42 (dk_at dksX17_keep_3 16 rfl rfl)
theorem dX17_keep_86 : decode cX17_keep 86 = .ok (.getfield 3, 3) := dk_180 0 3 (dk_at dksX17_keep_3 17 rfl rfl)
theorem dX17_keep_89 : decode cX17_keep 89 = .ok (.getfield 55, 3) := dk_180 0 55 (dk_at dksX17_keep_3 20 rfl rfl)
theorem dX17_keep_92 : decode cX17_keep 92 = .ok (.putfield 59, 3) := dk_181 0 59 (dk_at dksX17_keep_4 0 rfl rfl)
theorem dX17_keep_95 : decode cX17_keep 95 = .ok (.aload_n 0, 1) := dk_42 (dk_at dksX17_keep_4 3 rfl rfl)
theorem dX17_keep_96 : decode cX17_keep 96 = .ok (.aload_n 0, 1) := dk_42 (dk_at dksX17_keep_4 4 rfl rfl)
theorem dX17_keep_97 : decode cX17_keep 97 = .ok (.getfield 3, 3) := dk_180 0 3 (dk_at dksX17_keep_4 5 rfl rfl)
theorem dX17_keep_100 : decode cX17_keep 100 = .ok (.getfield 62, 3) := dk_180 0 62 (dk_at dksX17_keep_4 8 rfl rfl)
theorem dX17_keep_103 : decode cX17_keep 103 = .ok (.putfield 65, 3) := dk_181 0 65 (dk_at dksX17_keep_4 11 rfl rfl)
theorem dX17_keep_106 : decode cX17_keep 106 = .ok (.aload_n 0, 1) := dk_42 (dk_at dksX17_keep_4 14 rfl rfl)
theorem dX17_keep_107 : decode cX17_keep 107 = .ok (.aload_n 0, 1) := dk_42 (dk_at dksX17_keep_4 15 rfl rfl)
theorem dX17_keep_108 : decode cX17_keep 108 = .ok (.getfield 3, 3) := dk_180 0 3 (dk_at dksX17_keep_4 16 rfl rfl)
theorem dX17_keep_111 : decode cX17_keep 111 = .ok (.getfield 68, 3) := dk_180 0 68 (dk_at dksX17_keep_4 19 rfl rfl)
theorem dX17_keep_114 : decode cX17_keep 114 = .ok (.putfield 71, 3) := dk_181 0 71 (dk_at dksX17_keep_5 0 rfl rfl)
theorem dX17_keep_117 : decode cX17_keep 117 = .ok (.return_, 1) := dk_177 (dk_at dksX17_keep_5 3 rfl rfl)
abbrev cX17_back : ByteArray := prog_6_method_3_code
def yX17_back : MethodName := ⟨RX17, "back", "()V"⟩
def dkwX17_back_5 : List UInt8 := [181, 0, 68, 42, 180, 0, 3, 3, 181, 0, 74, 177]
abbrev dktX17_back_5 : List UInt8 := dkwX17_back_5 ++ []
def dkwX17_back_4 : List UInt8 := [181, 0, 55, 42, 180, 0, 3, 42, 180, 0, 65, 181, 0, 62, 42, 180, 0, 3, 42, 180, 0, 71]
abbrev dktX17_back_4 : List UInt8 := dkwX17_back_4 ++ dktX17_back_5
def dkwX17_back_3 : List UInt8 := [27, 42, 180, 0, 29, 27, 46, 79, 132, 1, 1, 167, 255, 202, 42, 180, 0, 3, 42, 180, 0, 59]
abbrev dktX17_back_3 : List UInt8 := dkwX17_back_3 ++ dktX17_back_4
def dkwX17_back_2 : List UInt8 := [46, 79, 42, 180, 0, 3, 180, 0, 49, 27, 42, 180, 0, 26, 27, 46, 79, 42, 180, 0, 3, 180, 0, 52]
abbrev dktX17_back_2 : List UInt8 := dkwX17_back_2 ++ dktX17_back_3
def dkwX17_back_1 : List UInt8 := [182, 0, 42, 3, 60, 27, 16, 10, 162, 0, 54, 42, 180, 0, 3, 180, 0, 46, 27, 42, 180, 0, 22, 27]
abbrev dktX17_back_1 : List UInt8 := dkwX17_back_1 ++ dktX17_back_2
def dkwX17_back_0 : List UInt8 := [42, 180, 0, 3, 42, 180, 0, 36, 181, 0, 32, 42, 180, 0, 3, 180, 0, 39, 42, 180, 0, 18]
abbrev dktX17_back_0 : List UInt8 := dkwX17_back_0 ++ dktX17_back_1
theorem dksX17_back_0 : cX17_back.data.toList.drop 0 = dktX17_back_0 := by decide +kernel
theorem dksX17_back_1 : cX17_back.data.toList.drop 22 = dktX17_back_1 := dk_seg dksX17_back_0 22 rfl rfl
theorem dksX17_back_2 : cX17_back.data.toList.drop 46 = dktX17_back_2 := dk_seg dksX17_back_1 24 rfl rfl
theorem dksX17_back_3 : cX17_back.data.toList.drop 70 = dktX17_back_3 := dk_seg dksX17_back_2 24 rfl rfl
theorem dksX17_back_4 : cX17_back.data.toList.drop 92 = dktX17_back_4 := dk_seg dksX17_back_3 22 rfl rfl
theorem dksX17_back_5 : cX17_back.data.toList.drop 114 = dktX17_back_5 := dk_seg dksX17_back_4 22 rfl rfl
theorem dX17_back_0 : decode cX17_back 0 = .ok (.aload_n 0, 1) := dk_42 (dk_at dksX17_back_0 0 rfl rfl)
theorem dX17_back_1 : decode cX17_back 1 = .ok (.getfield 3, 3) := dk_180 0 3 (dk_at dksX17_back_0 1 rfl rfl)
theorem dX17_back_4 : decode cX17_back 4 = .ok (.aload_n 0, 1) := dk_42 (dk_at dksX17_back_0 4 rfl rfl)
theorem dX17_back_5 : decode cX17_back 5 = .ok (.getfield 36, 3) := dk_180 0 36 (dk_at dksX17_back_0 5 rfl rfl)
theorem dX17_back_8 : decode cX17_back 8 = .ok (.putfield 32, 3) := dk_181 0 32 (dk_at dksX17_back_0 8 rfl rfl)
theorem dX17_back_11 : decode cX17_back 11 = .ok (.aload_n 0, 1) := dk_42 (dk_at dksX17_back_0 11 rfl rfl)
theorem dX17_back_12 : decode cX17_back 12 = .ok (.getfield 3, 3) := dk_180 0 3 (dk_at dksX17_back_0 12 rfl rfl)
theorem dX17_back_15 : decode cX17_back 15 = .ok (.getfield 39, 3) := dk_180 0 39 (dk_at dksX17_back_0 15 rfl rfl)
theorem dX17_back_18 : decode cX17_back 18 = .ok (.aload_n 0, 1) := dk_42 (dk_at dksX17_back_0 18 rfl rfl)
theorem dX17_back_19 : decode cX17_back 19 = .ok (.getfield 18, 3) := dk_180 0 18 (dk_at dksX17_back_0 19 rfl rfl)
theorem dX17_back_22 : decode cX17_back 22 = .ok (.invokevirtual 42, 3) := dk_182 0 42 (dk_at dksX17_back_1 0 rfl rfl)
theorem dX17_back_25 : decode cX17_back 25 = .ok (.iconst 0, 1) := dk_3 (dk_at dksX17_back_1 3 rfl rfl)
theorem dX17_back_26 : decode cX17_back 26 = .ok (.istore_n 1, 1) := dk_60 (dk_at dksX17_back_1 4 rfl rfl)
theorem dX17_back_27 : decode cX17_back 27 = .ok (.iload_n 1, 1) := dk_27 (dk_at dksX17_back_1 5 rfl rfl)
theorem dX17_back_28 : decode cX17_back 28 = .ok (.bipush 10, 2) := dk_16 10 (dk_at dksX17_back_1 6 rfl rfl)
theorem dX17_back_30 : decode cX17_back 30 = .ok (.if_icmp .ge 54, 3) := dk_162 0 54 (dk_at dksX17_back_1 8 rfl rfl)
theorem dX17_back_33 : decode cX17_back 33 = .ok (.aload_n 0, 1) := dk_42 (dk_at dksX17_back_1 11 rfl rfl)
theorem dX17_back_34 : decode cX17_back 34 = .ok (.getfield 3, 3) := dk_180 0 3 (dk_at dksX17_back_1 12 rfl rfl)
theorem dX17_back_37 : decode cX17_back 37 = .ok (.getfield 46, 3) := dk_180 0 46 (dk_at dksX17_back_1 15 rfl rfl)
theorem dX17_back_40 : decode cX17_back 40 = .ok (.iload_n 1, 1) := dk_27 (dk_at dksX17_back_1 18 rfl rfl)
theorem dX17_back_41 : decode cX17_back 41 = .ok (.aload_n 0, 1) := dk_42 (dk_at dksX17_back_1 19 rfl rfl)
theorem dX17_back_42 : decode cX17_back 42 = .ok (.getfield 22, 3) := dk_180 0 22 (dk_at dksX17_back_1 20 rfl rfl)
theorem dX17_back_45 : decode cX17_back 45 = .ok (.iload_n 1, 1) := dk_27 (dk_at dksX17_back_1 23 rfl rfl)
theorem dX17_back_46 : decode cX17_back 46 = .ok (.iaload, 1) := dk_46 (dk_at dksX17_back_2 0 rfl rfl)
theorem dX17_back_47 : decode cX17_back 47 = .ok (.iastore, 1) := dk_79 (dk_at dksX17_back_2 1 rfl rfl)
theorem dX17_back_48 : decode cX17_back 48 = .ok (.aload_n 0, 1) := dk_42 (dk_at dksX17_back_2 2 rfl rfl)
theorem dX17_back_49 : decode cX17_back 49 = .ok (.getfield 3, 3) := dk_180 0 3 (dk_at dksX17_back_2 3 rfl rfl)
theorem dX17_back_52 : decode cX17_back 52 = .ok (.getfield 49, 3) := dk_180 0 49 (dk_at dksX17_back_2 6 rfl rfl)
theorem dX17_back_55 : decode cX17_back 55 = .ok (.iload_n 1, 1) := dk_27 (dk_at dksX17_back_2 9 rfl rfl)
theorem dX17_back_56 : decode cX17_back 56 = .ok (.aload_n 0, 1) := dk_42 (dk_at dksX17_back_2 10 rfl rfl)
theorem dX17_back_57 : decode cX17_back 57 = .ok (.getfield 26, 3) := dk_180 0 26 (dk_at dksX17_back_2 11 rfl rfl)
theorem dX17_back_60 : decode cX17_back 60 = .ok (.iload_n 1, 1) := dk_27 (dk_at dksX17_back_2 14 rfl rfl)
theorem dX17_back_61 : decode cX17_back 61 = .ok (.iaload, 1) := dk_46 (dk_at dksX17_back_2 15 rfl rfl)
theorem dX17_back_62 : decode cX17_back 62 = .ok (.iastore, 1) := dk_79 (dk_at dksX17_back_2 16 rfl rfl)
theorem dX17_back_63 : decode cX17_back 63 = .ok (.aload_n 0, 1) := dk_42 (dk_at dksX17_back_2 17 rfl rfl)
theorem dX17_back_64 : decode cX17_back 64 = .ok (.getfield 3, 3) := dk_180 0 3 (dk_at dksX17_back_2 18 rfl rfl)
theorem dX17_back_67 : decode cX17_back 67 = .ok (.getfield 52, 3) := dk_180 0 52 (dk_at dksX17_back_2 21 rfl rfl)
theorem dX17_back_70 : decode cX17_back 70 = .ok (.iload_n 1, 1) := dk_27 (dk_at dksX17_back_3 0 rfl rfl)
theorem dX17_back_71 : decode cX17_back 71 = .ok (.aload_n 0, 1) := dk_42 (dk_at dksX17_back_3 1 rfl rfl)
theorem dX17_back_72 : decode cX17_back 72 = .ok (.getfield 29, 3) := dk_180 0 29 (dk_at dksX17_back_3 2 rfl rfl)
theorem dX17_back_75 : decode cX17_back 75 = .ok (.iload_n 1, 1) := dk_27 (dk_at dksX17_back_3 5 rfl rfl)
theorem dX17_back_76 : decode cX17_back 76 = .ok (.iaload, 1) := dk_46 (dk_at dksX17_back_3 6 rfl rfl)
theorem dX17_back_77 : decode cX17_back 77 = .ok (.iastore, 1) := dk_79 (dk_at dksX17_back_3 7 rfl rfl)
theorem dX17_back_78 : decode cX17_back 78 = .ok (.iinc 1 1, 3) := dk_132 1 1 (dk_at dksX17_back_3 8 rfl rfl)
theorem dX17_back_81 : decode cX17_back 81 = .ok (.goto (-54), 3) := dk_167 255 202 (dk_at dksX17_back_3 11 rfl rfl)
theorem dX17_back_84 : decode cX17_back 84 = .ok (.aload_n 0, 1) := dk_42 (dk_at dksX17_back_3 14 rfl rfl)
theorem dX17_back_85 : decode cX17_back 85 = .ok (.getfield 3, 3) := dk_180 0 3 (dk_at dksX17_back_3 15 rfl rfl)
theorem dX17_back_88 : decode cX17_back 88 = .ok (.aload_n 0, 1) := dk_42 (dk_at dksX17_back_3 18 rfl rfl)
theorem dX17_back_89 : decode cX17_back 89 = .ok (.getfield 59, 3) := dk_180 0 59 (dk_at dksX17_back_3 19 rfl rfl)
theorem dX17_back_92 : decode cX17_back 92 = .ok (.putfield 55, 3) := dk_181 0 55 (dk_at dksX17_back_4 0 rfl rfl)
theorem dX17_back_95 : decode cX17_back 95 = .ok (.aload_n 0, 1) := dk_42 (dk_at dksX17_back_4 3 rfl rfl)
theorem dX17_back_96 : decode cX17_back 96 = .ok (.getfield 3, 3) := dk_180 0 3 (dk_at dksX17_back_4 4 rfl rfl)
theorem dX17_back_99 : decode cX17_back 99 = .ok (.aload_n 0, 1) := dk_42 (dk_at dksX17_back_4 7 rfl rfl)
theorem dX17_back_100 : decode cX17_back 100 = .ok (.getfield 65, 3) := dk_180 0 65 (dk_at dksX17_back_4 8 rfl rfl)
theorem dX17_back_103 : decode cX17_back 103 = .ok (.putfield 62, 3) := dk_181 0 62 (dk_at dksX17_back_4 11 rfl rfl)
theorem dX17_back_106 : decode cX17_back 106 = .ok (.aload_n 0, 1) := dk_42 (dk_at dksX17_back_4 14 rfl rfl)
theorem dX17_back_107 : decode cX17_back 107 = .ok (.getfield 3, 3) := dk_180 0 3 (dk_at dksX17_back_4 15 rfl rfl)
theorem dX17_back_110 : decode cX17_back 110 = .ok (.aload_n 0, 1) := dk_42 (dk_at dksX17_back_4 18 rfl rfl)
theorem dX17_back_111 : decode cX17_back 111 = .ok (.getfield 71, 3) := dk_180 0 71 (dk_at dksX17_back_4 19 rfl rfl)
theorem dX17_back_114 : decode cX17_back 114 = .ok (.putfield 68, 3) := dk_181 0 68 (dk_at dksX17_back_5 0 rfl rfl)
theorem dX17_back_117 : decode cX17_back 117 = .ok (.aload_n 0, 1) := dk_42 (dk_at dksX17_back_5 3 rfl rfl)
theorem dX17_back_118 : decode cX17_back 118 = .ok (.getfield 3, 3) := dk_180 0 3 (dk_at dksX17_back_5 4 rfl rfl)
theorem dX17_back_121 : decode cX17_back 121 = .ok (.iconst 0, 1) := dk_3 (dk_at dksX17_back_5 7 rfl rfl)
theorem dX17_back_122 : decode cX17_back 122 = .ok (.putfield 74, 3) := dk_181 0 74 (dk_at dksX17_back_5 8 rfl rfl)
theorem dX17_back_125 : decode cX17_back 125 = .ok (.return_, 1) := dk_177 (dk_at dksX17_back_5 11 rfl rfl)
abbrev cJ15_init : ByteArray := object_method_1_code
def yJ15_init : MethodName := ⟨RJ15, "<init>", "()V"⟩
theorem dJ15_init_0 : decode cJ15_init 0 = .ok (.return_, 1) := by decide +kernel
abbrev cL_law : ByteArray := code
def dkwL_law_45 : List UInt8 := [182, 0, 158, 159, 0, 5, 3, 172, 132, 3, 6, 167, 251, 112, 4, 172]
abbrev dktL_law_45 : List UInt8 := dkwL_law_45 ++ []
def dkwL_law_44 : List UInt8 := [182, 0, 154, 159, 0, 28, 3, 172, 43, 42, 29, 4, 96, 46, 182, 0, 155, 44, 42, 29, 4, 96, 46]
abbrev dktL_law_44 : List UInt8 := dkwL_law_44 ++ dktL_law_45
def dkwL_law_43 : List UInt8 := [182, 0, 150, 159, 0, 51, 3, 172, 43, 42, 29, 4, 96, 46, 182, 0, 151, 44, 42, 29, 4, 96, 46]
abbrev dktL_law_43 : List UInt8 := dkwL_law_43 ++ dktL_law_44
def dkwL_law_42 : List UInt8 := [182, 0, 143, 44, 42, 29, 4, 96, 46, 182, 0, 146, 159, 0, 64, 3, 172, 43, 182, 0, 147, 44]
abbrev dktL_law_42 : List UInt8 := dkwL_law_42 ++ dktL_law_43
def dkwL_law_41 : List UInt8 := [42, 29, 6, 96, 46, 42, 29, 7, 96, 46, 182, 0, 142, 159, 0, 87, 3, 172, 43, 42, 29, 4, 96, 46]
abbrev dktL_law_41 : List UInt8 := dkwL_law_41 ++ dktL_law_42
def dkwL_law_40 : List UInt8 := [42, 29, 6, 96, 46, 42, 29, 7, 96, 46, 182, 0, 139, 44, 42, 29, 4, 96, 46, 42, 29, 5, 96, 46]
abbrev dktL_law_40 : List UInt8 := dkwL_law_40 ++ dktL_law_41
def dkwL_law_39 : List UInt8 := [42, 29, 4, 96, 46, 182, 0, 138, 159, 0, 140, 3, 172, 43, 42, 29, 4, 96, 46, 42, 29, 5, 96, 46]
abbrev dktL_law_39 : List UInt8 := dkwL_law_39 ++ dktL_law_40
def dkwL_law_38 : List UInt8 := [46, 42, 29, 5, 96, 46, 182, 0, 134, 159, 0, 163, 3, 172, 43, 42, 29, 4, 96, 46, 182, 0, 135, 44]
abbrev dktL_law_38 : List UInt8 := dkwL_law_38 ++ dktL_law_39
def dkwL_law_37 : List UInt8 := [159, 0, 196, 3, 172, 43, 42, 29, 4, 96, 46, 42, 29, 5, 96, 46, 182, 0, 131, 44, 42, 29, 4, 96]
abbrev dktL_law_37 : List UInt8 := dkwL_law_37 ++ dktL_law_38
def dkwL_law_36 : List UInt8 := [159, 0, 219, 3, 172, 43, 42, 29, 4, 96, 46, 182, 0, 127, 44, 42, 29, 4, 96, 46, 182, 0, 130]
abbrev dktL_law_36 : List UInt8 := dkwL_law_36 ++ dktL_law_37
def dkwL_law_35 : List UInt8 := [182, 0, 123, 44, 42, 29, 4, 96, 46, 42, 29, 5, 96, 46, 42, 29, 6, 96, 46, 182, 0, 126]
abbrev dktL_law_35 : List UInt8 := dkwL_law_35 ++ dktL_law_36
def dkwL_law_34 : List UInt8 := [182, 0, 122, 159, 1, 6, 3, 172, 43, 42, 29, 4, 96, 46, 42, 29, 5, 96, 46, 42, 29, 6, 96, 46]
abbrev dktL_law_34 : List UInt8 := dkwL_law_34 ++ dktL_law_35
def dkwL_law_33 : List UInt8 := [4, 96, 46, 42, 29, 5, 96, 46, 182, 0, 119, 44, 42, 29, 4, 96, 46, 42, 29, 5, 96, 46]
abbrev dktL_law_33 : List UInt8 := dkwL_law_33 ++ dktL_law_34
def dkwL_law_32 : List UInt8 := [29, 4, 96, 46, 182, 0, 115, 44, 42, 29, 4, 96, 46, 182, 0, 118, 159, 1, 39, 3, 172, 43, 42, 29]
abbrev dktL_law_32 : List UInt8 := dkwL_law_32 ++ dktL_law_33
def dkwL_law_31 : List UInt8 := [29, 5, 96, 46, 42, 29, 6, 96, 46, 42, 29, 7, 96, 46, 182, 0, 114, 159, 1, 62, 3, 172, 43, 42]
abbrev dktL_law_31 : List UInt8 := dkwL_law_31 ++ dktL_law_32
def dkwL_law_30 : List UInt8 := [29, 5, 96, 46, 42, 29, 6, 96, 46, 42, 29, 7, 96, 46, 182, 0, 110, 44, 42, 29, 4, 96, 46, 42]
abbrev dktL_law_30 : List UInt8 := dkwL_law_30 ++ dktL_law_31
def dkwL_law_29 : List UInt8 := [182, 0, 106, 44, 42, 29, 4, 96, 46, 182, 0, 109, 159, 1, 115, 3, 172, 43, 42, 29, 4, 96, 46, 42]
abbrev dktL_law_29 : List UInt8 := dkwL_law_29 ++ dktL_law_30
def dkwL_law_28 : List UInt8 := [29, 4, 96, 46, 42, 29, 5, 96, 46, 182, 0, 105, 159, 1, 138, 3, 172, 43, 42, 29, 4, 96, 46]
abbrev dktL_law_28 : List UInt8 := dkwL_law_28 ++ dktL_law_29
def dkwL_law_27 : List UInt8 := [182, 0, 101, 159, 1, 171, 3, 172, 43, 42, 29, 4, 96, 46, 42, 29, 5, 96, 46, 182, 0, 102, 44, 42]
abbrev dktL_law_27 : List UInt8 := dkwL_law_27 ++ dktL_law_28
def dkwL_law_26 : List UInt8 := [29, 4, 96, 46, 42, 29, 5, 96, 46, 182, 0, 98, 44, 42, 29, 4, 96, 46, 42, 29, 5, 96, 46]
abbrev dktL_law_26 : List UInt8 := dkwL_law_26 ++ dktL_law_27
def dkwL_law_25 : List UInt8 := [42, 29, 4, 96, 46, 182, 0, 94, 44, 42, 29, 4, 96, 46, 182, 0, 97, 159, 1, 204, 3, 172, 43, 42]
abbrev dktL_law_25 : List UInt8 := dkwL_law_25 ++ dktL_law_26
def dkwL_law_24 : List UInt8 := [46, 182, 0, 90, 44, 42, 29, 4, 96, 46, 42, 29, 5, 96, 46, 182, 0, 93, 159, 1, 227, 3, 172, 43]
abbrev dktL_law_24 : List UInt8 := dkwL_law_24 ++ dktL_law_25
def dkwL_law_23 : List UInt8 := [46, 42, 29, 5, 96, 46, 182, 0, 89, 159, 2, 4, 3, 172, 43, 42, 29, 4, 96, 46, 42, 29, 5, 96]
abbrev dktL_law_23 : List UInt8 := dkwL_law_23 ++ dktL_law_24
def dkwL_law_22 : List UInt8 := [159, 2, 37, 3, 172, 43, 42, 29, 4, 96, 46, 42, 29, 5, 96, 46, 182, 0, 86, 44, 42, 29, 4, 96]
abbrev dktL_law_22 : List UInt8 := dkwL_law_22 ++ dktL_law_23
def dkwL_law_21 : List UInt8 := [159, 2, 60, 3, 172, 43, 42, 29, 4, 96, 46, 182, 0, 82, 44, 42, 29, 4, 96, 46, 182, 0, 85]
abbrev dktL_law_21 : List UInt8 := dkwL_law_21 ++ dktL_law_22
def dkwL_law_20 : List UInt8 := [159, 2, 83, 3, 172, 43, 42, 29, 4, 96, 46, 182, 0, 78, 44, 42, 29, 4, 96, 46, 182, 0, 81]
abbrev dktL_law_20 : List UInt8 := dkwL_law_20 ++ dktL_law_21
def dkwL_law_19 : List UInt8 := [159, 2, 106, 3, 172, 43, 42, 29, 4, 96, 46, 182, 0, 74, 44, 42, 29, 4, 96, 46, 182, 0, 77]
abbrev dktL_law_19 : List UInt8 := dkwL_law_19 ++ dktL_law_20
def dkwL_law_18 : List UInt8 := [182, 0, 69, 44, 42, 29, 4, 96, 46, 42, 29, 5, 96, 46, 42, 29, 6, 96, 46, 182, 0, 73]
abbrev dktL_law_18 : List UInt8 := dkwL_law_18 ++ dktL_law_19
def dkwL_law_17 : List UInt8 := [182, 0, 68, 159, 2, 149, 3, 172, 43, 42, 29, 4, 96, 46, 42, 29, 5, 96, 46, 42, 29, 6, 96, 46]
abbrev dktL_law_17 : List UInt8 := dkwL_law_17 ++ dktL_law_18
def dkwL_law_16 : List UInt8 := [29, 4, 96, 46, 42, 29, 5, 96, 46, 182, 0, 64, 159, 2, 162, 3, 172, 43, 182, 0, 65, 44]
abbrev dktL_law_16 : List UInt8 := dkwL_law_16 ++ dktL_law_17
def dkwL_law_15 : List UInt8 := [182, 0, 60, 159, 2, 195, 3, 172, 43, 42, 29, 4, 96, 46, 42, 29, 5, 96, 46, 182, 0, 61, 44, 42]
abbrev dktL_law_15 : List UInt8 := dkwL_law_15 ++ dktL_law_16
def dkwL_law_14 : List UInt8 := [29, 4, 96, 46, 42, 29, 5, 96, 46, 182, 0, 57, 44, 42, 29, 4, 96, 46, 42, 29, 5, 96, 46]
abbrev dktL_law_14 : List UInt8 := dkwL_law_14 ++ dktL_law_15
def dkwL_law_13 : List UInt8 := [42, 29, 4, 96, 46, 182, 0, 53, 44, 42, 29, 4, 96, 46, 182, 0, 56, 159, 2, 228, 3, 172, 43, 42]
abbrev dktL_law_13 : List UInt8 := dkwL_law_13 ++ dktL_law_14
def dkwL_law_12 : List UInt8 := [46, 182, 0, 49, 44, 42, 29, 4, 96, 46, 42, 29, 5, 96, 46, 182, 0, 52, 159, 2, 251, 3, 172, 43]
abbrev dktL_law_12 : List UInt8 := dkwL_law_12 ++ dktL_law_13
def dkwL_law_11 : List UInt8 := [172, 43, 182, 0, 45, 44, 182, 0, 48, 159, 3, 28, 3, 172, 43, 42, 29, 4, 96, 46, 42, 29, 5, 96]
abbrev dktL_law_11 : List UInt8 := dkwL_law_11 ++ dktL_law_12
def dkwL_law_10 : List UInt8 := [3, 172, 43, 42, 29, 4, 96, 46, 182, 0, 41, 44, 42, 29, 4, 96, 46, 182, 0, 44, 159, 3, 41, 3]
abbrev dktL_law_10 : List UInt8 := dkwL_law_10 ++ dktL_law_11
def dkwL_law_9 : List UInt8 := [29, 5, 96, 46, 182, 0, 36, 44, 42, 29, 4, 96, 46, 42, 29, 5, 96, 46, 182, 0, 40, 159, 3, 64]
abbrev dktL_law_9 : List UInt8 := dkwL_law_9 ++ dktL_law_10
def dkwL_law_8 : List UInt8 := [182, 0, 32, 44, 42, 29, 4, 96, 46, 182, 0, 35, 159, 3, 97, 3, 172, 43, 42, 29, 4, 96, 46, 42]
abbrev dktL_law_8 : List UInt8 := dkwL_law_8 ++ dktL_law_9
def dkwL_law_7 : List UInt8 := [159, 3, 133, 3, 172, 43, 182, 0, 28, 44, 182, 0, 31, 159, 3, 120, 3, 172, 43, 42, 29, 4, 96, 46]
abbrev dktL_law_7 : List UInt8 := dkwL_law_7 ++ dktL_law_8
def dkwL_law_6 : List UInt8 := [44, 42, 29, 4, 96, 46, 182, 0, 22, 159, 3, 146, 3, 172, 43, 182, 0, 23, 44, 182, 0, 27]
abbrev dktL_law_6 : List UInt8 := dkwL_law_6 ++ dktL_law_7
def dkwL_law_5 : List UInt8 := [96, 46, 42, 29, 8, 96, 46, 182, 0, 17, 159, 3, 169, 3, 172, 43, 42, 29, 4, 96, 46, 182, 0, 18]
abbrev dktL_law_5 : List UInt8 := dkwL_law_5 ++ dktL_law_6
def dkwL_law_4 : List UInt8 := [96, 46, 182, 0, 13, 44, 42, 29, 4, 96, 46, 42, 29, 5, 96, 46, 42, 29, 6, 96, 46, 42, 29, 7]
abbrev dktL_law_4 : List UInt8 := dkwL_law_4 ++ dktL_law_5
def dkwL_law_3 : List UInt8 := [43, 42, 29, 4, 96, 46, 42, 29, 5, 96, 46, 42, 29, 6, 96, 46, 42, 29, 7, 96, 46, 42, 29, 8]
abbrev dktL_law_3 : List UInt8 := dkwL_law_3 ++ dktL_law_4
def dkwL_law_2 : List UInt8 := [170, 0, 0, 0, 0, 4, 126, 0, 0, 0, 0, 0, 0, 0, 34, 0, 0, 0, 155, 0, 0, 0, 218, 0, 0, 0, 241, 0, 0, 0, 254, 0, 0, 1, 11, 0, 0, 1, 34, 0, 0, 1, 67, 0, 0, 1, 90, 0, 0, 1, 103, 0, 0, 1, 136, 0, 0, 1, 159, 0, 0, 1, 192, 0, 0, 1, 225, 0, 0, 1, 238, 0, 0, 2, 25, 0, 0, 2, 48, 0, 0, 2, 71, 0, 0, 2, 94, 0, 0, 2, 127, 0, 0, 2, 160, 0, 0, 2, 183, 0, 0, 2, 216, 0, 0, 2, 249, 0, 0, 3, 16, 0, 0, 3, 69, 0, 0, 3, 92, 0, 0, 3, 125, 0, 0, 3, 168, 0, 0, 3, 191, 0, 0, 3, 224, 0, 0, 3, 247, 0, 0, 4, 44, 0, 0, 4, 67, 0, 0, 4, 80, 0, 0, 4, 103]
abbrev dktL_law_2 : List UInt8 := dkwL_law_2 ++ dktL_law_3
def dkwL_law_1 : List UInt8 := [163, 4, 141, 42, 29, 46, 16, 63, 126]
abbrev dktL_law_1 : List UInt8 := dkwL_law_1 ++ dktL_law_2
def dkwL_law_0 : List UInt8 := [187, 0, 7, 89, 183, 0, 9, 76, 187, 0, 10, 89, 183, 0, 12, 77, 3, 62, 29, 42, 190, 16, 6, 100]
abbrev dktL_law_0 : List UInt8 := dkwL_law_0 ++ dktL_law_1
theorem dksL_law_0 : cL_law.data.toList.drop 0 = dktL_law_0 := by decide +kernel
theorem dksL_law_1 : cL_law.data.toList.drop 24 = dktL_law_1 := dk_seg dksL_law_0 24 rfl rfl
theorem dksL_law_2 : cL_law.data.toList.drop 33 = dktL_law_2 := dk_seg dksL_law_1 9 rfl rfl
theorem dksL_law_3 : cL_law.data.toList.drop 188 = dktL_law_3 := dk_seg dksL_law_2 155 rfl rfl
theorem dksL_law_4 : cL_law.data.toList.drop 212 = dktL_law_4 := dk_seg dksL_law_3 24 rfl rfl
theorem dksL_law_5 : cL_law.data.toList.drop 236 = dktL_law_5 := dk_seg dksL_law_4 24 rfl rfl
theorem dksL_law_6 : cL_law.data.toList.drop 260 = dktL_law_6 := dk_seg dksL_law_5 24 rfl rfl
theorem dksL_law_7 : cL_law.data.toList.drop 282 = dktL_law_7 := dk_seg dksL_law_6 22 rfl rfl
theorem dksL_law_8 : cL_law.data.toList.drop 306 = dktL_law_8 := dk_seg dksL_law_7 24 rfl rfl
theorem dksL_law_9 : cL_law.data.toList.drop 330 = dktL_law_9 := dk_seg dksL_law_8 24 rfl rfl
theorem dksL_law_10 : cL_law.data.toList.drop 354 = dktL_law_10 := dk_seg dksL_law_9 24 rfl rfl
theorem dksL_law_11 : cL_law.data.toList.drop 378 = dktL_law_11 := dk_seg dksL_law_10 24 rfl rfl
theorem dksL_law_12 : cL_law.data.toList.drop 402 = dktL_law_12 := dk_seg dksL_law_11 24 rfl rfl
theorem dksL_law_13 : cL_law.data.toList.drop 426 = dktL_law_13 := dk_seg dksL_law_12 24 rfl rfl
theorem dksL_law_14 : cL_law.data.toList.drop 450 = dktL_law_14 := dk_seg dksL_law_13 24 rfl rfl
theorem dksL_law_15 : cL_law.data.toList.drop 473 = dktL_law_15 := dk_seg dksL_law_14 23 rfl rfl
theorem dksL_law_16 : cL_law.data.toList.drop 497 = dktL_law_16 := dk_seg dksL_law_15 24 rfl rfl
theorem dksL_law_17 : cL_law.data.toList.drop 519 = dktL_law_17 := dk_seg dksL_law_16 22 rfl rfl
theorem dksL_law_18 : cL_law.data.toList.drop 543 = dktL_law_18 := dk_seg dksL_law_17 24 rfl rfl
theorem dksL_law_19 : cL_law.data.toList.drop 565 = dktL_law_19 := dk_seg dksL_law_18 22 rfl rfl
theorem dksL_law_20 : cL_law.data.toList.drop 588 = dktL_law_20 := dk_seg dksL_law_19 23 rfl rfl
theorem dksL_law_21 : cL_law.data.toList.drop 611 = dktL_law_21 := dk_seg dksL_law_20 23 rfl rfl
theorem dksL_law_22 : cL_law.data.toList.drop 634 = dktL_law_22 := dk_seg dksL_law_21 23 rfl rfl
theorem dksL_law_23 : cL_law.data.toList.drop 658 = dktL_law_23 := dk_seg dksL_law_22 24 rfl rfl
theorem dksL_law_24 : cL_law.data.toList.drop 682 = dktL_law_24 := dk_seg dksL_law_23 24 rfl rfl
theorem dksL_law_25 : cL_law.data.toList.drop 706 = dktL_law_25 := dk_seg dksL_law_24 24 rfl rfl
theorem dksL_law_26 : cL_law.data.toList.drop 730 = dktL_law_26 := dk_seg dksL_law_25 24 rfl rfl
theorem dksL_law_27 : cL_law.data.toList.drop 753 = dktL_law_27 := dk_seg dksL_law_26 23 rfl rfl
theorem dksL_law_28 : cL_law.data.toList.drop 777 = dktL_law_28 := dk_seg dksL_law_27 24 rfl rfl
theorem dksL_law_29 : cL_law.data.toList.drop 800 = dktL_law_29 := dk_seg dksL_law_28 23 rfl rfl
theorem dksL_law_30 : cL_law.data.toList.drop 824 = dktL_law_30 := dk_seg dksL_law_29 24 rfl rfl
theorem dksL_law_31 : cL_law.data.toList.drop 848 = dktL_law_31 := dk_seg dksL_law_30 24 rfl rfl
theorem dksL_law_32 : cL_law.data.toList.drop 872 = dktL_law_32 := dk_seg dksL_law_31 24 rfl rfl
theorem dksL_law_33 : cL_law.data.toList.drop 896 = dktL_law_33 := dk_seg dksL_law_32 24 rfl rfl
theorem dksL_law_34 : cL_law.data.toList.drop 918 = dktL_law_34 := dk_seg dksL_law_33 22 rfl rfl
theorem dksL_law_35 : cL_law.data.toList.drop 942 = dktL_law_35 := dk_seg dksL_law_34 24 rfl rfl
theorem dksL_law_36 : cL_law.data.toList.drop 964 = dktL_law_36 := dk_seg dksL_law_35 22 rfl rfl
theorem dksL_law_37 : cL_law.data.toList.drop 987 = dktL_law_37 := dk_seg dksL_law_36 23 rfl rfl
theorem dksL_law_38 : cL_law.data.toList.drop 1011 = dktL_law_38 := dk_seg dksL_law_37 24 rfl rfl
theorem dksL_law_39 : cL_law.data.toList.drop 1035 = dktL_law_39 := dk_seg dksL_law_38 24 rfl rfl
theorem dksL_law_40 : cL_law.data.toList.drop 1059 = dktL_law_40 := dk_seg dksL_law_39 24 rfl rfl
theorem dksL_law_41 : cL_law.data.toList.drop 1083 = dktL_law_41 := dk_seg dksL_law_40 24 rfl rfl
theorem dksL_law_42 : cL_law.data.toList.drop 1107 = dktL_law_42 := dk_seg dksL_law_41 24 rfl rfl
theorem dksL_law_43 : cL_law.data.toList.drop 1129 = dktL_law_43 := dk_seg dksL_law_42 22 rfl rfl
theorem dksL_law_44 : cL_law.data.toList.drop 1152 = dktL_law_44 := dk_seg dksL_law_43 23 rfl rfl
theorem dksL_law_45 : cL_law.data.toList.drop 1175 = dktL_law_45 := dk_seg dksL_law_44 23 rfl rfl
theorem dL_law_0 : decode cL_law 0 = .ok (.new 7, 3) := dk_187 0 7 (dk_at dksL_law_0 0 rfl rfl)
theorem dL_law_3 : decode cL_law 3 = .ok (.dup, 1) := dk_89 (dk_at dksL_law_0 3 rfl rfl)
theorem dL_law_4 : decode cL_law 4 = .ok (.invokespecial 9, 3) := dk_183 0 9 (dk_at dksL_law_0 4 rfl rfl)
theorem dL_law_7 : decode cL_law 7 = .ok (.astore_n 1, 1) := dk_76 (dk_at dksL_law_0 7 rfl rfl)
theorem dL_law_8 : decode cL_law 8 = .ok (.new 10, 3) := dk_187 0 10 (dk_at dksL_law_0 8 rfl rfl)
theorem dL_law_11 : decode cL_law 11 = .ok (.dup, 1) := dk_89 (dk_at dksL_law_0 11 rfl rfl)
theorem dL_law_12 : decode cL_law 12 = .ok (.invokespecial 12, 3) := dk_183 0 12 (dk_at dksL_law_0 12 rfl rfl)
theorem dL_law_15 : decode cL_law 15 = .ok (.astore_n 2, 1) := dk_77 (dk_at dksL_law_0 15 rfl rfl)
theorem dL_law_16 : decode cL_law 16 = .ok (.iconst 0, 1) := dk_3 (dk_at dksL_law_0 16 rfl rfl)
theorem dL_law_17 : decode cL_law 17 = .ok (.istore_n 3, 1) := dk_62 (dk_at dksL_law_0 17 rfl rfl)
theorem dL_law_18 : decode cL_law 18 = .ok (.iload_n 3, 1) := dk_29 (dk_at dksL_law_0 18 rfl rfl)
theorem dL_law_19 : decode cL_law 19 = .ok (.aload_n 0, 1) := dk_42 (dk_at dksL_law_0 19 rfl rfl)
theorem dL_law_20 : decode cL_law 20 = .ok (.arraylength, 1) := dk_190 (dk_at dksL_law_0 20 rfl rfl)
theorem dL_law_21 : decode cL_law 21 = .ok (.bipush 6, 2) := dk_16 6 (dk_at dksL_law_0 21 rfl rfl)
theorem dL_law_23 : decode cL_law 23 = .ok (.isub, 1) := dk_100 (dk_at dksL_law_0 23 rfl rfl)
theorem dL_law_24 : decode cL_law 24 = .ok (.if_icmp .gt 1165, 3) := dk_163 4 141 (dk_at dksL_law_1 0 rfl rfl)
theorem dL_law_27 : decode cL_law 27 = .ok (.aload_n 0, 1) := dk_42 (dk_at dksL_law_1 3 rfl rfl)
theorem dL_law_28 : decode cL_law 28 = .ok (.iload_n 3, 1) := dk_29 (dk_at dksL_law_1 4 rfl rfl)
theorem dL_law_29 : decode cL_law 29 = .ok (.iaload, 1) := dk_46 (dk_at dksL_law_1 5 rfl rfl)
theorem dL_law_30 : decode cL_law 30 = .ok (.bipush 63, 2) := dk_16 63 (dk_at dksL_law_1 6 rfl rfl)
theorem dL_law_32 : decode cL_law 32 = .ok (.iand, 1) := dk_126 (dk_at dksL_law_1 8 rfl rfl)
theorem dL_law_33 : decode cL_law 33 = .ok (.tableswitch 1150 0 34 #[155, 218, 241, 254, 267, 290, 323, 346, 359, 392, 415, 448, 481, 494, 537, 560, 583, 606, 639, 672, 695, 728, 761, 784, 837, 860, 893, 936, 959, 992, 1015, 1068, 1091, 1104, 1127], 155) := by decide +kernel
theorem dL_law_188 : decode cL_law 188 = .ok (.aload_n 1, 1) := dk_43 (dk_at dksL_law_3 0 rfl rfl)
theorem dL_law_189 : decode cL_law 189 = .ok (.aload_n 0, 1) := dk_42 (dk_at dksL_law_3 1 rfl rfl)
theorem dL_law_190 : decode cL_law 190 = .ok (.iload_n 3, 1) := dk_29 (dk_at dksL_law_3 2 rfl rfl)
theorem dL_law_191 : decode cL_law 191 = .ok (.iconst 1, 1) := dk_4 (dk_at dksL_law_3 3 rfl rfl)
theorem dL_law_192 : decode cL_law 192 = .ok (.iadd, 1) := dk_96 (dk_at dksL_law_3 4 rfl rfl)
theorem dL_law_193 : decode cL_law 193 = .ok (.iaload, 1) := dk_46 (dk_at dksL_law_3 5 rfl rfl)
theorem dL_law_194 : decode cL_law 194 = .ok (.aload_n 0, 1) := dk_42 (dk_at dksL_law_3 6 rfl rfl)
theorem dL_law_195 : decode cL_law 195 = .ok (.iload_n 3, 1) := dk_29 (dk_at dksL_law_3 7 rfl rfl)
theorem dL_law_196 : decode cL_law 196 = .ok (.iconst 2, 1) := dk_5 (dk_at dksL_law_3 8 rfl rfl)
theorem dL_law_197 : decode cL_law 197 = .ok (.iadd, 1) := dk_96 (dk_at dksL_law_3 9 rfl rfl)
theorem dL_law_198 : decode cL_law 198 = .ok (.iaload, 1) := dk_46 (dk_at dksL_law_3 10 rfl rfl)
theorem dL_law_199 : decode cL_law 199 = .ok (.aload_n 0, 1) := dk_42 (dk_at dksL_law_3 11 rfl rfl)
theorem dL_law_200 : decode cL_law 200 = .ok (.iload_n 3, 1) := dk_29 (dk_at dksL_law_3 12 rfl rfl)
theorem dL_law_201 : decode cL_law 201 = .ok (.iconst 3, 1) := dk_6 (dk_at dksL_law_3 13 rfl rfl)
theorem dL_law_202 : decode cL_law 202 = .ok (.iadd, 1) := dk_96 (dk_at dksL_law_3 14 rfl rfl)
theorem dL_law_203 : decode cL_law 203 = .ok (.iaload, 1) := dk_46 (dk_at dksL_law_3 15 rfl rfl)
theorem dL_law_204 : decode cL_law 204 = .ok (.aload_n 0, 1) := dk_42 (dk_at dksL_law_3 16 rfl rfl)
theorem dL_law_205 : decode cL_law 205 = .ok (.iload_n 3, 1) := dk_29 (dk_at dksL_law_3 17 rfl rfl)
theorem dL_law_206 : decode cL_law 206 = .ok (.iconst 4, 1) := dk_7 (dk_at dksL_law_3 18 rfl rfl)
theorem dL_law_207 : decode cL_law 207 = .ok (.iadd, 1) := dk_96 (dk_at dksL_law_3 19 rfl rfl)
theorem dL_law_208 : decode cL_law 208 = .ok (.iaload, 1) := dk_46 (dk_at dksL_law_3 20 rfl rfl)
theorem dL_law_209 : decode cL_law 209 = .ok (.aload_n 0, 1) := dk_42 (dk_at dksL_law_3 21 rfl rfl)
theorem dL_law_210 : decode cL_law 210 = .ok (.iload_n 3, 1) := dk_29 (dk_at dksL_law_3 22 rfl rfl)
theorem dL_law_211 : decode cL_law 211 = .ok (.iconst 5, 1) := dk_8 (dk_at dksL_law_3 23 rfl rfl)
theorem dL_law_212 : decode cL_law 212 = .ok (.iadd, 1) := dk_96 (dk_at dksL_law_4 0 rfl rfl)
theorem dL_law_213 : decode cL_law 213 = .ok (.iaload, 1) := dk_46 (dk_at dksL_law_4 1 rfl rfl)
theorem dL_law_214 : decode cL_law 214 = .ok (.invokevirtual 13, 3) := dk_182 0 13 (dk_at dksL_law_4 2 rfl rfl)
theorem dL_law_217 : decode cL_law 217 = .ok (.aload_n 2, 1) := dk_44 (dk_at dksL_law_4 5 rfl rfl)
theorem dL_law_218 : decode cL_law 218 = .ok (.aload_n 0, 1) := dk_42 (dk_at dksL_law_4 6 rfl rfl)
theorem dL_law_219 : decode cL_law 219 = .ok (.iload_n 3, 1) := dk_29 (dk_at dksL_law_4 7 rfl rfl)
theorem dL_law_220 : decode cL_law 220 = .ok (.iconst 1, 1) := dk_4 (dk_at dksL_law_4 8 rfl rfl)
theorem dL_law_221 : decode cL_law 221 = .ok (.iadd, 1) := dk_96 (dk_at dksL_law_4 9 rfl rfl)
theorem dL_law_222 : decode cL_law 222 = .ok (.iaload, 1) := dk_46 (dk_at dksL_law_4 10 rfl rfl)
theorem dL_law_223 : decode cL_law 223 = .ok (.aload_n 0, 1) := dk_42 (dk_at dksL_law_4 11 rfl rfl)
theorem dL_law_224 : decode cL_law 224 = .ok (.iload_n 3, 1) := dk_29 (dk_at dksL_law_4 12 rfl rfl)
theorem dL_law_225 : decode cL_law 225 = .ok (.iconst 2, 1) := dk_5 (dk_at dksL_law_4 13 rfl rfl)
theorem dL_law_226 : decode cL_law 226 = .ok (.iadd, 1) := dk_96 (dk_at dksL_law_4 14 rfl rfl)
theorem dL_law_227 : decode cL_law 227 = .ok (.iaload, 1) := dk_46 (dk_at dksL_law_4 15 rfl rfl)
theorem dL_law_228 : decode cL_law 228 = .ok (.aload_n 0, 1) := dk_42 (dk_at dksL_law_4 16 rfl rfl)
theorem dL_law_229 : decode cL_law 229 = .ok (.iload_n 3, 1) := dk_29 (dk_at dksL_law_4 17 rfl rfl)
theorem dL_law_230 : decode cL_law 230 = .ok (.iconst 3, 1) := dk_6 (dk_at dksL_law_4 18 rfl rfl)
theorem dL_law_231 : decode cL_law 231 = .ok (.iadd, 1) := dk_96 (dk_at dksL_law_4 19 rfl rfl)
theorem dL_law_232 : decode cL_law 232 = .ok (.iaload, 1) := dk_46 (dk_at dksL_law_4 20 rfl rfl)
theorem dL_law_233 : decode cL_law 233 = .ok (.aload_n 0, 1) := dk_42 (dk_at dksL_law_4 21 rfl rfl)
theorem dL_law_234 : decode cL_law 234 = .ok (.iload_n 3, 1) := dk_29 (dk_at dksL_law_4 22 rfl rfl)
theorem dL_law_235 : decode cL_law 235 = .ok (.iconst 4, 1) := dk_7 (dk_at dksL_law_4 23 rfl rfl)
theorem dL_law_236 : decode cL_law 236 = .ok (.iadd, 1) := dk_96 (dk_at dksL_law_5 0 rfl rfl)
theorem dL_law_237 : decode cL_law 237 = .ok (.iaload, 1) := dk_46 (dk_at dksL_law_5 1 rfl rfl)
theorem dL_law_238 : decode cL_law 238 = .ok (.aload_n 0, 1) := dk_42 (dk_at dksL_law_5 2 rfl rfl)
theorem dL_law_239 : decode cL_law 239 = .ok (.iload_n 3, 1) := dk_29 (dk_at dksL_law_5 3 rfl rfl)
theorem dL_law_240 : decode cL_law 240 = .ok (.iconst 5, 1) := dk_8 (dk_at dksL_law_5 4 rfl rfl)
theorem dL_law_241 : decode cL_law 241 = .ok (.iadd, 1) := dk_96 (dk_at dksL_law_5 5 rfl rfl)
theorem dL_law_242 : decode cL_law 242 = .ok (.iaload, 1) := dk_46 (dk_at dksL_law_5 6 rfl rfl)
theorem dL_law_243 : decode cL_law 243 = .ok (.invokevirtual 17, 3) := dk_182 0 17 (dk_at dksL_law_5 7 rfl rfl)
theorem dL_law_246 : decode cL_law 246 = .ok (.if_icmp .eq 937, 3) := dk_159 3 169 (dk_at dksL_law_5 10 rfl rfl)
theorem dL_law_249 : decode cL_law 249 = .ok (.iconst 0, 1) := dk_3 (dk_at dksL_law_5 13 rfl rfl)
theorem dL_law_250 : decode cL_law 250 = .ok (.ireturn, 1) := dk_172 (dk_at dksL_law_5 14 rfl rfl)
theorem dL_law_251 : decode cL_law 251 = .ok (.aload_n 1, 1) := dk_43 (dk_at dksL_law_5 15 rfl rfl)
theorem dL_law_252 : decode cL_law 252 = .ok (.aload_n 0, 1) := dk_42 (dk_at dksL_law_5 16 rfl rfl)
theorem dL_law_253 : decode cL_law 253 = .ok (.iload_n 3, 1) := dk_29 (dk_at dksL_law_5 17 rfl rfl)
theorem dL_law_254 : decode cL_law 254 = .ok (.iconst 1, 1) := dk_4 (dk_at dksL_law_5 18 rfl rfl)
theorem dL_law_255 : decode cL_law 255 = .ok (.iadd, 1) := dk_96 (dk_at dksL_law_5 19 rfl rfl)
theorem dL_law_256 : decode cL_law 256 = .ok (.iaload, 1) := dk_46 (dk_at dksL_law_5 20 rfl rfl)
theorem dL_law_257 : decode cL_law 257 = .ok (.invokevirtual 18, 3) := dk_182 0 18 (dk_at dksL_law_5 21 rfl rfl)
theorem dL_law_260 : decode cL_law 260 = .ok (.aload_n 2, 1) := dk_44 (dk_at dksL_law_6 0 rfl rfl)
theorem dL_law_261 : decode cL_law 261 = .ok (.aload_n 0, 1) := dk_42 (dk_at dksL_law_6 1 rfl rfl)
theorem dL_law_262 : decode cL_law 262 = .ok (.iload_n 3, 1) := dk_29 (dk_at dksL_law_6 2 rfl rfl)
theorem dL_law_263 : decode cL_law 263 = .ok (.iconst 1, 1) := dk_4 (dk_at dksL_law_6 3 rfl rfl)
theorem dL_law_264 : decode cL_law 264 = .ok (.iadd, 1) := dk_96 (dk_at dksL_law_6 4 rfl rfl)
theorem dL_law_265 : decode cL_law 265 = .ok (.iaload, 1) := dk_46 (dk_at dksL_law_6 5 rfl rfl)
theorem dL_law_266 : decode cL_law 266 = .ok (.invokevirtual 22, 3) := dk_182 0 22 (dk_at dksL_law_6 6 rfl rfl)
theorem dL_law_269 : decode cL_law 269 = .ok (.if_icmp .eq 914, 3) := dk_159 3 146 (dk_at dksL_law_6 9 rfl rfl)
theorem dL_law_272 : decode cL_law 272 = .ok (.iconst 0, 1) := dk_3 (dk_at dksL_law_6 12 rfl rfl)
theorem dL_law_273 : decode cL_law 273 = .ok (.ireturn, 1) := dk_172 (dk_at dksL_law_6 13 rfl rfl)
theorem dL_law_274 : decode cL_law 274 = .ok (.aload_n 1, 1) := dk_43 (dk_at dksL_law_6 14 rfl rfl)
theorem dL_law_275 : decode cL_law 275 = .ok (.invokevirtual 23, 3) := dk_182 0 23 (dk_at dksL_law_6 15 rfl rfl)
theorem dL_law_278 : decode cL_law 278 = .ok (.aload_n 2, 1) := dk_44 (dk_at dksL_law_6 18 rfl rfl)
theorem dL_law_279 : decode cL_law 279 = .ok (.invokevirtual 27, 3) := dk_182 0 27 (dk_at dksL_law_6 19 rfl rfl)
theorem dL_law_282 : decode cL_law 282 = .ok (.if_icmp .eq 901, 3) := dk_159 3 133 (dk_at dksL_law_7 0 rfl rfl)
theorem dL_law_285 : decode cL_law 285 = .ok (.iconst 0, 1) := dk_3 (dk_at dksL_law_7 3 rfl rfl)
theorem dL_law_286 : decode cL_law 286 = .ok (.ireturn, 1) := dk_172 (dk_at dksL_law_7 4 rfl rfl)
theorem dL_law_287 : decode cL_law 287 = .ok (.aload_n 1, 1) := dk_43 (dk_at dksL_law_7 5 rfl rfl)
theorem dL_law_288 : decode cL_law 288 = .ok (.invokevirtual 28, 3) := dk_182 0 28 (dk_at dksL_law_7 6 rfl rfl)
theorem dL_law_291 : decode cL_law 291 = .ok (.aload_n 2, 1) := dk_44 (dk_at dksL_law_7 9 rfl rfl)
theorem dL_law_292 : decode cL_law 292 = .ok (.invokevirtual 31, 3) := dk_182 0 31 (dk_at dksL_law_7 10 rfl rfl)
theorem dL_law_295 : decode cL_law 295 = .ok (.if_icmp .eq 888, 3) := dk_159 3 120 (dk_at dksL_law_7 13 rfl rfl)
theorem dL_law_298 : decode cL_law 298 = .ok (.iconst 0, 1) := dk_3 (dk_at dksL_law_7 16 rfl rfl)
theorem dL_law_299 : decode cL_law 299 = .ok (.ireturn, 1) := dk_172 (dk_at dksL_law_7 17 rfl rfl)
theorem dL_law_300 : decode cL_law 300 = .ok (.aload_n 1, 1) := dk_43 (dk_at dksL_law_7 18 rfl rfl)
theorem dL_law_301 : decode cL_law 301 = .ok (.aload_n 0, 1) := dk_42 (dk_at dksL_law_7 19 rfl rfl)
theorem dL_law_302 : decode cL_law 302 = .ok (.iload_n 3, 1) := dk_29 (dk_at dksL_law_7 20 rfl rfl)
theorem dL_law_303 : decode cL_law 303 = .ok (.iconst 1, 1) := dk_4 (dk_at dksL_law_7 21 rfl rfl)
theorem dL_law_304 : decode cL_law 304 = .ok (.iadd, 1) := dk_96 (dk_at dksL_law_7 22 rfl rfl)
theorem dL_law_305 : decode cL_law 305 = .ok (.iaload, 1) := dk_46 (dk_at dksL_law_7 23 rfl rfl)
theorem dL_law_306 : decode cL_law 306 = .ok (.invokevirtual 32, 3) := dk_182 0 32 (dk_at dksL_law_8 0 rfl rfl)
theorem dL_law_309 : decode cL_law 309 = .ok (.aload_n 2, 1) := dk_44 (dk_at dksL_law_8 3 rfl rfl)
theorem dL_law_310 : decode cL_law 310 = .ok (.aload_n 0, 1) := dk_42 (dk_at dksL_law_8 4 rfl rfl)
theorem dL_law_311 : decode cL_law 311 = .ok (.iload_n 3, 1) := dk_29 (dk_at dksL_law_8 5 rfl rfl)
theorem dL_law_312 : decode cL_law 312 = .ok (.iconst 1, 1) := dk_4 (dk_at dksL_law_8 6 rfl rfl)
theorem dL_law_313 : decode cL_law 313 = .ok (.iadd, 1) := dk_96 (dk_at dksL_law_8 7 rfl rfl)
theorem dL_law_314 : decode cL_law 314 = .ok (.iaload, 1) := dk_46 (dk_at dksL_law_8 8 rfl rfl)
theorem dL_law_315 : decode cL_law 315 = .ok (.invokevirtual 35, 3) := dk_182 0 35 (dk_at dksL_law_8 9 rfl rfl)
theorem dL_law_318 : decode cL_law 318 = .ok (.if_icmp .eq 865, 3) := dk_159 3 97 (dk_at dksL_law_8 12 rfl rfl)
theorem dL_law_321 : decode cL_law 321 = .ok (.iconst 0, 1) := dk_3 (dk_at dksL_law_8 15 rfl rfl)
theorem dL_law_322 : decode cL_law 322 = .ok (.ireturn, 1) := dk_172 (dk_at dksL_law_8 16 rfl rfl)
theorem dL_law_323 : decode cL_law 323 = .ok (.aload_n 1, 1) := dk_43 (dk_at dksL_law_8 17 rfl rfl)
theorem dL_law_324 : decode cL_law 324 = .ok (.aload_n 0, 1) := dk_42 (dk_at dksL_law_8 18 rfl rfl)
theorem dL_law_325 : decode cL_law 325 = .ok (.iload_n 3, 1) := dk_29 (dk_at dksL_law_8 19 rfl rfl)
theorem dL_law_326 : decode cL_law 326 = .ok (.iconst 1, 1) := dk_4 (dk_at dksL_law_8 20 rfl rfl)
theorem dL_law_327 : decode cL_law 327 = .ok (.iadd, 1) := dk_96 (dk_at dksL_law_8 21 rfl rfl)
theorem dL_law_328 : decode cL_law 328 = .ok (.iaload, 1) := dk_46 (dk_at dksL_law_8 22 rfl rfl)
theorem dL_law_329 : decode cL_law 329 = .ok (.aload_n 0, 1) := dk_42 (dk_at dksL_law_8 23 rfl rfl)
theorem dL_law_330 : decode cL_law 330 = .ok (.iload_n 3, 1) := dk_29 (dk_at dksL_law_9 0 rfl rfl)
theorem dL_law_331 : decode cL_law 331 = .ok (.iconst 2, 1) := dk_5 (dk_at dksL_law_9 1 rfl rfl)
theorem dL_law_332 : decode cL_law 332 = .ok (.iadd, 1) := dk_96 (dk_at dksL_law_9 2 rfl rfl)
theorem dL_law_333 : decode cL_law 333 = .ok (.iaload, 1) := dk_46 (dk_at dksL_law_9 3 rfl rfl)
theorem dL_law_334 : decode cL_law 334 = .ok (.invokevirtual 36, 3) := dk_182 0 36 (dk_at dksL_law_9 4 rfl rfl)
theorem dL_law_337 : decode cL_law 337 = .ok (.aload_n 2, 1) := dk_44 (dk_at dksL_law_9 7 rfl rfl)
theorem dL_law_338 : decode cL_law 338 = .ok (.aload_n 0, 1) := dk_42 (dk_at dksL_law_9 8 rfl rfl)
theorem dL_law_339 : decode cL_law 339 = .ok (.iload_n 3, 1) := dk_29 (dk_at dksL_law_9 9 rfl rfl)
theorem dL_law_340 : decode cL_law 340 = .ok (.iconst 1, 1) := dk_4 (dk_at dksL_law_9 10 rfl rfl)
theorem dL_law_341 : decode cL_law 341 = .ok (.iadd, 1) := dk_96 (dk_at dksL_law_9 11 rfl rfl)
theorem dL_law_342 : decode cL_law 342 = .ok (.iaload, 1) := dk_46 (dk_at dksL_law_9 12 rfl rfl)
theorem dL_law_343 : decode cL_law 343 = .ok (.aload_n 0, 1) := dk_42 (dk_at dksL_law_9 13 rfl rfl)
theorem dL_law_344 : decode cL_law 344 = .ok (.iload_n 3, 1) := dk_29 (dk_at dksL_law_9 14 rfl rfl)
theorem dL_law_345 : decode cL_law 345 = .ok (.iconst 2, 1) := dk_5 (dk_at dksL_law_9 15 rfl rfl)
theorem dL_law_346 : decode cL_law 346 = .ok (.iadd, 1) := dk_96 (dk_at dksL_law_9 16 rfl rfl)
theorem dL_law_347 : decode cL_law 347 = .ok (.iaload, 1) := dk_46 (dk_at dksL_law_9 17 rfl rfl)
theorem dL_law_348 : decode cL_law 348 = .ok (.invokevirtual 40, 3) := dk_182 0 40 (dk_at dksL_law_9 18 rfl rfl)
theorem dL_law_351 : decode cL_law 351 = .ok (.if_icmp .eq 832, 3) := dk_159 3 64 (dk_at dksL_law_9 21 rfl rfl)
theorem dL_law_354 : decode cL_law 354 = .ok (.iconst 0, 1) := dk_3 (dk_at dksL_law_10 0 rfl rfl)
theorem dL_law_355 : decode cL_law 355 = .ok (.ireturn, 1) := dk_172 (dk_at dksL_law_10 1 rfl rfl)
theorem dL_law_356 : decode cL_law 356 = .ok (.aload_n 1, 1) := dk_43 (dk_at dksL_law_10 2 rfl rfl)
theorem dL_law_357 : decode cL_law 357 = .ok (.aload_n 0, 1) := dk_42 (dk_at dksL_law_10 3 rfl rfl)
theorem dL_law_358 : decode cL_law 358 = .ok (.iload_n 3, 1) := dk_29 (dk_at dksL_law_10 4 rfl rfl)
theorem dL_law_359 : decode cL_law 359 = .ok (.iconst 1, 1) := dk_4 (dk_at dksL_law_10 5 rfl rfl)
theorem dL_law_360 : decode cL_law 360 = .ok (.iadd, 1) := dk_96 (dk_at dksL_law_10 6 rfl rfl)
theorem dL_law_361 : decode cL_law 361 = .ok (.iaload, 1) := dk_46 (dk_at dksL_law_10 7 rfl rfl)
theorem dL_law_362 : decode cL_law 362 = .ok (.invokevirtual 41, 3) := dk_182 0 41 (dk_at dksL_law_10 8 rfl rfl)
theorem dL_law_365 : decode cL_law 365 = .ok (.aload_n 2, 1) := dk_44 (dk_at dksL_law_10 11 rfl rfl)
theorem dL_law_366 : decode cL_law 366 = .ok (.aload_n 0, 1) := dk_42 (dk_at dksL_law_10 12 rfl rfl)
theorem dL_law_367 : decode cL_law 367 = .ok (.iload_n 3, 1) := dk_29 (dk_at dksL_law_10 13 rfl rfl)
theorem dL_law_368 : decode cL_law 368 = .ok (.iconst 1, 1) := dk_4 (dk_at dksL_law_10 14 rfl rfl)
theorem dL_law_369 : decode cL_law 369 = .ok (.iadd, 1) := dk_96 (dk_at dksL_law_10 15 rfl rfl)
theorem dL_law_370 : decode cL_law 370 = .ok (.iaload, 1) := dk_46 (dk_at dksL_law_10 16 rfl rfl)
theorem dL_law_371 : decode cL_law 371 = .ok (.invokevirtual 44, 3) := dk_182 0 44 (dk_at dksL_law_10 17 rfl rfl)
theorem dL_law_374 : decode cL_law 374 = .ok (.if_icmp .eq 809, 3) := dk_159 3 41 (dk_at dksL_law_10 20 rfl rfl)
theorem dL_law_377 : decode cL_law 377 = .ok (.iconst 0, 1) := dk_3 (dk_at dksL_law_10 23 rfl rfl)
theorem dL_law_378 : decode cL_law 378 = .ok (.ireturn, 1) := dk_172 (dk_at dksL_law_11 0 rfl rfl)
theorem dL_law_379 : decode cL_law 379 = .ok (.aload_n 1, 1) := dk_43 (dk_at dksL_law_11 1 rfl rfl)
theorem dL_law_380 : decode cL_law 380 = .ok (.invokevirtual 45, 3) := dk_182 0 45 (dk_at dksL_law_11 2 rfl rfl)
theorem dL_law_383 : decode cL_law 383 = .ok (.aload_n 2, 1) := dk_44 (dk_at dksL_law_11 5 rfl rfl)
theorem dL_law_384 : decode cL_law 384 = .ok (.invokevirtual 48, 3) := dk_182 0 48 (dk_at dksL_law_11 6 rfl rfl)
theorem dL_law_387 : decode cL_law 387 = .ok (.if_icmp .eq 796, 3) := dk_159 3 28 (dk_at dksL_law_11 9 rfl rfl)
theorem dL_law_390 : decode cL_law 390 = .ok (.iconst 0, 1) := dk_3 (dk_at dksL_law_11 12 rfl rfl)
theorem dL_law_391 : decode cL_law 391 = .ok (.ireturn, 1) := dk_172 (dk_at dksL_law_11 13 rfl rfl)
theorem dL_law_392 : decode cL_law 392 = .ok (.aload_n 1, 1) := dk_43 (dk_at dksL_law_11 14 rfl rfl)
theorem dL_law_393 : decode cL_law 393 = .ok (.aload_n 0, 1) := dk_42 (dk_at dksL_law_11 15 rfl rfl)
theorem dL_law_394 : decode cL_law 394 = .ok (.iload_n 3, 1) := dk_29 (dk_at dksL_law_11 16 rfl rfl)
theorem dL_law_395 : decode cL_law 395 = .ok (.iconst 1, 1) := dk_4 (dk_at dksL_law_11 17 rfl rfl)
theorem dL_law_396 : decode cL_law 396 = .ok (.iadd, 1) := dk_96 (dk_at dksL_law_11 18 rfl rfl)
theorem dL_law_397 : decode cL_law 397 = .ok (.iaload, 1) := dk_46 (dk_at dksL_law_11 19 rfl rfl)
theorem dL_law_398 : decode cL_law 398 = .ok (.aload_n 0, 1) := dk_42 (dk_at dksL_law_11 20 rfl rfl)
theorem dL_law_399 : decode cL_law 399 = .ok (.iload_n 3, 1) := dk_29 (dk_at dksL_law_11 21 rfl rfl)
theorem dL_law_400 : decode cL_law 400 = .ok (.iconst 2, 1) := dk_5 (dk_at dksL_law_11 22 rfl rfl)
theorem dL_law_401 : decode cL_law 401 = .ok (.iadd, 1) := dk_96 (dk_at dksL_law_11 23 rfl rfl)
theorem dL_law_402 : decode cL_law 402 = .ok (.iaload, 1) := dk_46 (dk_at dksL_law_12 0 rfl rfl)
theorem dL_law_403 : decode cL_law 403 = .ok (.invokevirtual 49, 3) := dk_182 0 49 (dk_at dksL_law_12 1 rfl rfl)
theorem dL_law_406 : decode cL_law 406 = .ok (.aload_n 2, 1) := dk_44 (dk_at dksL_law_12 4 rfl rfl)
theorem dL_law_407 : decode cL_law 407 = .ok (.aload_n 0, 1) := dk_42 (dk_at dksL_law_12 5 rfl rfl)
theorem dL_law_408 : decode cL_law 408 = .ok (.iload_n 3, 1) := dk_29 (dk_at dksL_law_12 6 rfl rfl)
theorem dL_law_409 : decode cL_law 409 = .ok (.iconst 1, 1) := dk_4 (dk_at dksL_law_12 7 rfl rfl)
theorem dL_law_410 : decode cL_law 410 = .ok (.iadd, 1) := dk_96 (dk_at dksL_law_12 8 rfl rfl)
theorem dL_law_411 : decode cL_law 411 = .ok (.iaload, 1) := dk_46 (dk_at dksL_law_12 9 rfl rfl)
theorem dL_law_412 : decode cL_law 412 = .ok (.aload_n 0, 1) := dk_42 (dk_at dksL_law_12 10 rfl rfl)
theorem dL_law_413 : decode cL_law 413 = .ok (.iload_n 3, 1) := dk_29 (dk_at dksL_law_12 11 rfl rfl)
theorem dL_law_414 : decode cL_law 414 = .ok (.iconst 2, 1) := dk_5 (dk_at dksL_law_12 12 rfl rfl)
theorem dL_law_415 : decode cL_law 415 = .ok (.iadd, 1) := dk_96 (dk_at dksL_law_12 13 rfl rfl)
theorem dL_law_416 : decode cL_law 416 = .ok (.iaload, 1) := dk_46 (dk_at dksL_law_12 14 rfl rfl)
theorem dL_law_417 : decode cL_law 417 = .ok (.invokevirtual 52, 3) := dk_182 0 52 (dk_at dksL_law_12 15 rfl rfl)
theorem dL_law_420 : decode cL_law 420 = .ok (.if_icmp .eq 763, 3) := dk_159 2 251 (dk_at dksL_law_12 18 rfl rfl)
theorem dL_law_423 : decode cL_law 423 = .ok (.iconst 0, 1) := dk_3 (dk_at dksL_law_12 21 rfl rfl)
theorem dL_law_424 : decode cL_law 424 = .ok (.ireturn, 1) := dk_172 (dk_at dksL_law_12 22 rfl rfl)
theorem dL_law_425 : decode cL_law 425 = .ok (.aload_n 1, 1) := dk_43 (dk_at dksL_law_12 23 rfl rfl)
theorem dL_law_426 : decode cL_law 426 = .ok (.aload_n 0, 1) := dk_42 (dk_at dksL_law_13 0 rfl rfl)
theorem dL_law_427 : decode cL_law 427 = .ok (.iload_n 3, 1) := dk_29 (dk_at dksL_law_13 1 rfl rfl)
theorem dL_law_428 : decode cL_law 428 = .ok (.iconst 1, 1) := dk_4 (dk_at dksL_law_13 2 rfl rfl)
theorem dL_law_429 : decode cL_law 429 = .ok (.iadd, 1) := dk_96 (dk_at dksL_law_13 3 rfl rfl)
theorem dL_law_430 : decode cL_law 430 = .ok (.iaload, 1) := dk_46 (dk_at dksL_law_13 4 rfl rfl)
theorem dL_law_431 : decode cL_law 431 = .ok (.invokevirtual 53, 3) := dk_182 0 53 (dk_at dksL_law_13 5 rfl rfl)
theorem dL_law_434 : decode cL_law 434 = .ok (.aload_n 2, 1) := dk_44 (dk_at dksL_law_13 8 rfl rfl)
theorem dL_law_435 : decode cL_law 435 = .ok (.aload_n 0, 1) := dk_42 (dk_at dksL_law_13 9 rfl rfl)
theorem dL_law_436 : decode cL_law 436 = .ok (.iload_n 3, 1) := dk_29 (dk_at dksL_law_13 10 rfl rfl)
theorem dL_law_437 : decode cL_law 437 = .ok (.iconst 1, 1) := dk_4 (dk_at dksL_law_13 11 rfl rfl)
theorem dL_law_438 : decode cL_law 438 = .ok (.iadd, 1) := dk_96 (dk_at dksL_law_13 12 rfl rfl)
theorem dL_law_439 : decode cL_law 439 = .ok (.iaload, 1) := dk_46 (dk_at dksL_law_13 13 rfl rfl)
theorem dL_law_440 : decode cL_law 440 = .ok (.invokevirtual 56, 3) := dk_182 0 56 (dk_at dksL_law_13 14 rfl rfl)
theorem dL_law_443 : decode cL_law 443 = .ok (.if_icmp .eq 740, 3) := dk_159 2 228 (dk_at dksL_law_13 17 rfl rfl)
theorem dL_law_446 : decode cL_law 446 = .ok (.iconst 0, 1) := dk_3 (dk_at dksL_law_13 20 rfl rfl)
theorem dL_law_447 : decode cL_law 447 = .ok (.ireturn, 1) := dk_172 (dk_at dksL_law_13 21 rfl rfl)
theorem dL_law_448 : decode cL_law 448 = .ok (.aload_n 1, 1) := dk_43 (dk_at dksL_law_13 22 rfl rfl)
theorem dL_law_449 : decode cL_law 449 = .ok (.aload_n 0, 1) := dk_42 (dk_at dksL_law_13 23 rfl rfl)
theorem dL_law_450 : decode cL_law 450 = .ok (.iload_n 3, 1) := dk_29 (dk_at dksL_law_14 0 rfl rfl)
theorem dL_law_451 : decode cL_law 451 = .ok (.iconst 1, 1) := dk_4 (dk_at dksL_law_14 1 rfl rfl)
theorem dL_law_452 : decode cL_law 452 = .ok (.iadd, 1) := dk_96 (dk_at dksL_law_14 2 rfl rfl)
theorem dL_law_453 : decode cL_law 453 = .ok (.iaload, 1) := dk_46 (dk_at dksL_law_14 3 rfl rfl)
theorem dL_law_454 : decode cL_law 454 = .ok (.aload_n 0, 1) := dk_42 (dk_at dksL_law_14 4 rfl rfl)
theorem dL_law_455 : decode cL_law 455 = .ok (.iload_n 3, 1) := dk_29 (dk_at dksL_law_14 5 rfl rfl)
theorem dL_law_456 : decode cL_law 456 = .ok (.iconst 2, 1) := dk_5 (dk_at dksL_law_14 6 rfl rfl)
theorem dL_law_457 : decode cL_law 457 = .ok (.iadd, 1) := dk_96 (dk_at dksL_law_14 7 rfl rfl)
theorem dL_law_458 : decode cL_law 458 = .ok (.iaload, 1) := dk_46 (dk_at dksL_law_14 8 rfl rfl)
theorem dL_law_459 : decode cL_law 459 = .ok (.invokevirtual 57, 3) := dk_182 0 57 (dk_at dksL_law_14 9 rfl rfl)
theorem dL_law_462 : decode cL_law 462 = .ok (.aload_n 2, 1) := dk_44 (dk_at dksL_law_14 12 rfl rfl)
theorem dL_law_463 : decode cL_law 463 = .ok (.aload_n 0, 1) := dk_42 (dk_at dksL_law_14 13 rfl rfl)
theorem dL_law_464 : decode cL_law 464 = .ok (.iload_n 3, 1) := dk_29 (dk_at dksL_law_14 14 rfl rfl)
theorem dL_law_465 : decode cL_law 465 = .ok (.iconst 1, 1) := dk_4 (dk_at dksL_law_14 15 rfl rfl)
theorem dL_law_466 : decode cL_law 466 = .ok (.iadd, 1) := dk_96 (dk_at dksL_law_14 16 rfl rfl)
theorem dL_law_467 : decode cL_law 467 = .ok (.iaload, 1) := dk_46 (dk_at dksL_law_14 17 rfl rfl)
theorem dL_law_468 : decode cL_law 468 = .ok (.aload_n 0, 1) := dk_42 (dk_at dksL_law_14 18 rfl rfl)
theorem dL_law_469 : decode cL_law 469 = .ok (.iload_n 3, 1) := dk_29 (dk_at dksL_law_14 19 rfl rfl)
theorem dL_law_470 : decode cL_law 470 = .ok (.iconst 2, 1) := dk_5 (dk_at dksL_law_14 20 rfl rfl)
theorem dL_law_471 : decode cL_law 471 = .ok (.iadd, 1) := dk_96 (dk_at dksL_law_14 21 rfl rfl)
theorem dL_law_472 : decode cL_law 472 = .ok (.iaload, 1) := dk_46 (dk_at dksL_law_14 22 rfl rfl)
theorem dL_law_473 : decode cL_law 473 = .ok (.invokevirtual 60, 3) := dk_182 0 60 (dk_at dksL_law_15 0 rfl rfl)
theorem dL_law_476 : decode cL_law 476 = .ok (.if_icmp .eq 707, 3) := dk_159 2 195 (dk_at dksL_law_15 3 rfl rfl)
theorem dL_law_479 : decode cL_law 479 = .ok (.iconst 0, 1) := dk_3 (dk_at dksL_law_15 6 rfl rfl)
theorem dL_law_480 : decode cL_law 480 = .ok (.ireturn, 1) := dk_172 (dk_at dksL_law_15 7 rfl rfl)
theorem dL_law_481 : decode cL_law 481 = .ok (.aload_n 1, 1) := dk_43 (dk_at dksL_law_15 8 rfl rfl)
theorem dL_law_482 : decode cL_law 482 = .ok (.aload_n 0, 1) := dk_42 (dk_at dksL_law_15 9 rfl rfl)
theorem dL_law_483 : decode cL_law 483 = .ok (.iload_n 3, 1) := dk_29 (dk_at dksL_law_15 10 rfl rfl)
theorem dL_law_484 : decode cL_law 484 = .ok (.iconst 1, 1) := dk_4 (dk_at dksL_law_15 11 rfl rfl)
theorem dL_law_485 : decode cL_law 485 = .ok (.iadd, 1) := dk_96 (dk_at dksL_law_15 12 rfl rfl)
theorem dL_law_486 : decode cL_law 486 = .ok (.iaload, 1) := dk_46 (dk_at dksL_law_15 13 rfl rfl)
theorem dL_law_487 : decode cL_law 487 = .ok (.aload_n 0, 1) := dk_42 (dk_at dksL_law_15 14 rfl rfl)
theorem dL_law_488 : decode cL_law 488 = .ok (.iload_n 3, 1) := dk_29 (dk_at dksL_law_15 15 rfl rfl)
theorem dL_law_489 : decode cL_law 489 = .ok (.iconst 2, 1) := dk_5 (dk_at dksL_law_15 16 rfl rfl)
theorem dL_law_490 : decode cL_law 490 = .ok (.iadd, 1) := dk_96 (dk_at dksL_law_15 17 rfl rfl)
theorem dL_law_491 : decode cL_law 491 = .ok (.iaload, 1) := dk_46 (dk_at dksL_law_15 18 rfl rfl)
theorem dL_law_492 : decode cL_law 492 = .ok (.invokevirtual 61, 3) := dk_182 0 61 (dk_at dksL_law_15 19 rfl rfl)
theorem dL_law_495 : decode cL_law 495 = .ok (.aload_n 2, 1) := dk_44 (dk_at dksL_law_15 22 rfl rfl)
theorem dL_law_496 : decode cL_law 496 = .ok (.aload_n 0, 1) := dk_42 (dk_at dksL_law_15 23 rfl rfl)
theorem dL_law_497 : decode cL_law 497 = .ok (.iload_n 3, 1) := dk_29 (dk_at dksL_law_16 0 rfl rfl)
theorem dL_law_498 : decode cL_law 498 = .ok (.iconst 1, 1) := dk_4 (dk_at dksL_law_16 1 rfl rfl)
theorem dL_law_499 : decode cL_law 499 = .ok (.iadd, 1) := dk_96 (dk_at dksL_law_16 2 rfl rfl)
theorem dL_law_500 : decode cL_law 500 = .ok (.iaload, 1) := dk_46 (dk_at dksL_law_16 3 rfl rfl)
theorem dL_law_501 : decode cL_law 501 = .ok (.aload_n 0, 1) := dk_42 (dk_at dksL_law_16 4 rfl rfl)
theorem dL_law_502 : decode cL_law 502 = .ok (.iload_n 3, 1) := dk_29 (dk_at dksL_law_16 5 rfl rfl)
theorem dL_law_503 : decode cL_law 503 = .ok (.iconst 2, 1) := dk_5 (dk_at dksL_law_16 6 rfl rfl)
theorem dL_law_504 : decode cL_law 504 = .ok (.iadd, 1) := dk_96 (dk_at dksL_law_16 7 rfl rfl)
theorem dL_law_505 : decode cL_law 505 = .ok (.iaload, 1) := dk_46 (dk_at dksL_law_16 8 rfl rfl)
theorem dL_law_506 : decode cL_law 506 = .ok (.invokevirtual 64, 3) := dk_182 0 64 (dk_at dksL_law_16 9 rfl rfl)
theorem dL_law_509 : decode cL_law 509 = .ok (.if_icmp .eq 674, 3) := dk_159 2 162 (dk_at dksL_law_16 12 rfl rfl)
theorem dL_law_512 : decode cL_law 512 = .ok (.iconst 0, 1) := dk_3 (dk_at dksL_law_16 15 rfl rfl)
theorem dL_law_513 : decode cL_law 513 = .ok (.ireturn, 1) := dk_172 (dk_at dksL_law_16 16 rfl rfl)
theorem dL_law_514 : decode cL_law 514 = .ok (.aload_n 1, 1) := dk_43 (dk_at dksL_law_16 17 rfl rfl)
theorem dL_law_515 : decode cL_law 515 = .ok (.invokevirtual 65, 3) := dk_182 0 65 (dk_at dksL_law_16 18 rfl rfl)
theorem dL_law_518 : decode cL_law 518 = .ok (.aload_n 2, 1) := dk_44 (dk_at dksL_law_16 21 rfl rfl)
theorem dL_law_519 : decode cL_law 519 = .ok (.invokevirtual 68, 3) := dk_182 0 68 (dk_at dksL_law_17 0 rfl rfl)
theorem dL_law_522 : decode cL_law 522 = .ok (.if_icmp .eq 661, 3) := dk_159 2 149 (dk_at dksL_law_17 3 rfl rfl)
theorem dL_law_525 : decode cL_law 525 = .ok (.iconst 0, 1) := dk_3 (dk_at dksL_law_17 6 rfl rfl)
theorem dL_law_526 : decode cL_law 526 = .ok (.ireturn, 1) := dk_172 (dk_at dksL_law_17 7 rfl rfl)
theorem dL_law_527 : decode cL_law 527 = .ok (.aload_n 1, 1) := dk_43 (dk_at dksL_law_17 8 rfl rfl)
theorem dL_law_528 : decode cL_law 528 = .ok (.aload_n 0, 1) := dk_42 (dk_at dksL_law_17 9 rfl rfl)
theorem dL_law_529 : decode cL_law 529 = .ok (.iload_n 3, 1) := dk_29 (dk_at dksL_law_17 10 rfl rfl)
theorem dL_law_530 : decode cL_law 530 = .ok (.iconst 1, 1) := dk_4 (dk_at dksL_law_17 11 rfl rfl)
theorem dL_law_531 : decode cL_law 531 = .ok (.iadd, 1) := dk_96 (dk_at dksL_law_17 12 rfl rfl)
theorem dL_law_532 : decode cL_law 532 = .ok (.iaload, 1) := dk_46 (dk_at dksL_law_17 13 rfl rfl)
theorem dL_law_533 : decode cL_law 533 = .ok (.aload_n 0, 1) := dk_42 (dk_at dksL_law_17 14 rfl rfl)
theorem dL_law_534 : decode cL_law 534 = .ok (.iload_n 3, 1) := dk_29 (dk_at dksL_law_17 15 rfl rfl)
theorem dL_law_535 : decode cL_law 535 = .ok (.iconst 2, 1) := dk_5 (dk_at dksL_law_17 16 rfl rfl)
theorem dL_law_536 : decode cL_law 536 = .ok (.iadd, 1) := dk_96 (dk_at dksL_law_17 17 rfl rfl)
theorem dL_law_537 : decode cL_law 537 = .ok (.iaload, 1) := dk_46 (dk_at dksL_law_17 18 rfl rfl)
theorem dL_law_538 : decode cL_law 538 = .ok (.aload_n 0, 1) := dk_42 (dk_at dksL_law_17 19 rfl rfl)
theorem dL_law_539 : decode cL_law 539 = .ok (.iload_n 3, 1) := dk_29 (dk_at dksL_law_17 20 rfl rfl)
theorem dL_law_540 : decode cL_law 540 = .ok (.iconst 3, 1) := dk_6 (dk_at dksL_law_17 21 rfl rfl)
theorem dL_law_541 : decode cL_law 541 = .ok (.iadd, 1) := dk_96 (dk_at dksL_law_17 22 rfl rfl)
theorem dL_law_542 : decode cL_law 542 = .ok (.iaload, 1) := dk_46 (dk_at dksL_law_17 23 rfl rfl)
theorem dL_law_543 : decode cL_law 543 = .ok (.invokevirtual 69, 3) := dk_182 0 69 (dk_at dksL_law_18 0 rfl rfl)
theorem dL_law_546 : decode cL_law 546 = .ok (.aload_n 2, 1) := dk_44 (dk_at dksL_law_18 3 rfl rfl)
theorem dL_law_547 : decode cL_law 547 = .ok (.aload_n 0, 1) := dk_42 (dk_at dksL_law_18 4 rfl rfl)
theorem dL_law_548 : decode cL_law 548 = .ok (.iload_n 3, 1) := dk_29 (dk_at dksL_law_18 5 rfl rfl)
theorem dL_law_549 : decode cL_law 549 = .ok (.iconst 1, 1) := dk_4 (dk_at dksL_law_18 6 rfl rfl)
theorem dL_law_550 : decode cL_law 550 = .ok (.iadd, 1) := dk_96 (dk_at dksL_law_18 7 rfl rfl)
theorem dL_law_551 : decode cL_law 551 = .ok (.iaload, 1) := dk_46 (dk_at dksL_law_18 8 rfl rfl)
theorem dL_law_552 : decode cL_law 552 = .ok (.aload_n 0, 1) := dk_42 (dk_at dksL_law_18 9 rfl rfl)
theorem dL_law_553 : decode cL_law 553 = .ok (.iload_n 3, 1) := dk_29 (dk_at dksL_law_18 10 rfl rfl)
theorem dL_law_554 : decode cL_law 554 = .ok (.iconst 2, 1) := dk_5 (dk_at dksL_law_18 11 rfl rfl)
theorem dL_law_555 : decode cL_law 555 = .ok (.iadd, 1) := dk_96 (dk_at dksL_law_18 12 rfl rfl)
theorem dL_law_556 : decode cL_law 556 = .ok (.iaload, 1) := dk_46 (dk_at dksL_law_18 13 rfl rfl)
theorem dL_law_557 : decode cL_law 557 = .ok (.aload_n 0, 1) := dk_42 (dk_at dksL_law_18 14 rfl rfl)
theorem dL_law_558 : decode cL_law 558 = .ok (.iload_n 3, 1) := dk_29 (dk_at dksL_law_18 15 rfl rfl)
theorem dL_law_559 : decode cL_law 559 = .ok (.iconst 3, 1) := dk_6 (dk_at dksL_law_18 16 rfl rfl)
theorem dL_law_560 : decode cL_law 560 = .ok (.iadd, 1) := dk_96 (dk_at dksL_law_18 17 rfl rfl)
theorem dL_law_561 : decode cL_law 561 = .ok (.iaload, 1) := dk_46 (dk_at dksL_law_18 18 rfl rfl)
theorem dL_law_562 : decode cL_law 562 = .ok (.invokevirtual 73, 3) := dk_182 0 73 (dk_at dksL_law_18 19 rfl rfl)
theorem dL_law_565 : decode cL_law 565 = .ok (.if_icmp .eq 618, 3) := dk_159 2 106 (dk_at dksL_law_19 0 rfl rfl)
theorem dL_law_568 : decode cL_law 568 = .ok (.iconst 0, 1) := dk_3 (dk_at dksL_law_19 3 rfl rfl)
theorem dL_law_569 : decode cL_law 569 = .ok (.ireturn, 1) := dk_172 (dk_at dksL_law_19 4 rfl rfl)
theorem dL_law_570 : decode cL_law 570 = .ok (.aload_n 1, 1) := dk_43 (dk_at dksL_law_19 5 rfl rfl)
theorem dL_law_571 : decode cL_law 571 = .ok (.aload_n 0, 1) := dk_42 (dk_at dksL_law_19 6 rfl rfl)
theorem dL_law_572 : decode cL_law 572 = .ok (.iload_n 3, 1) := dk_29 (dk_at dksL_law_19 7 rfl rfl)
theorem dL_law_573 : decode cL_law 573 = .ok (.iconst 1, 1) := dk_4 (dk_at dksL_law_19 8 rfl rfl)
theorem dL_law_574 : decode cL_law 574 = .ok (.iadd, 1) := dk_96 (dk_at dksL_law_19 9 rfl rfl)
theorem dL_law_575 : decode cL_law 575 = .ok (.iaload, 1) := dk_46 (dk_at dksL_law_19 10 rfl rfl)
theorem dL_law_576 : decode cL_law 576 = .ok (.invokevirtual 74, 3) := dk_182 0 74 (dk_at dksL_law_19 11 rfl rfl)
theorem dL_law_579 : decode cL_law 579 = .ok (.aload_n 2, 1) := dk_44 (dk_at dksL_law_19 14 rfl rfl)
theorem dL_law_580 : decode cL_law 580 = .ok (.aload_n 0, 1) := dk_42 (dk_at dksL_law_19 15 rfl rfl)
theorem dL_law_581 : decode cL_law 581 = .ok (.iload_n 3, 1) := dk_29 (dk_at dksL_law_19 16 rfl rfl)
theorem dL_law_582 : decode cL_law 582 = .ok (.iconst 1, 1) := dk_4 (dk_at dksL_law_19 17 rfl rfl)
theorem dL_law_583 : decode cL_law 583 = .ok (.iadd, 1) := dk_96 (dk_at dksL_law_19 18 rfl rfl)
theorem dL_law_584 : decode cL_law 584 = .ok (.iaload, 1) := dk_46 (dk_at dksL_law_19 19 rfl rfl)
theorem dL_law_585 : decode cL_law 585 = .ok (.invokevirtual 77, 3) := dk_182 0 77 (dk_at dksL_law_19 20 rfl rfl)
theorem dL_law_588 : decode cL_law 588 = .ok (.if_icmp .eq 595, 3) := dk_159 2 83 (dk_at dksL_law_20 0 rfl rfl)
theorem dL_law_591 : decode cL_law 591 = .ok (.iconst 0, 1) := dk_3 (dk_at dksL_law_20 3 rfl rfl)
theorem dL_law_592 : decode cL_law 592 = .ok (.ireturn, 1) := dk_172 (dk_at dksL_law_20 4 rfl rfl)
theorem dL_law_593 : decode cL_law 593 = .ok (.aload_n 1, 1) := dk_43 (dk_at dksL_law_20 5 rfl rfl)
theorem dL_law_594 : decode cL_law 594 = .ok (.aload_n 0, 1) := dk_42 (dk_at dksL_law_20 6 rfl rfl)
theorem dL_law_595 : decode cL_law 595 = .ok (.iload_n 3, 1) := dk_29 (dk_at dksL_law_20 7 rfl rfl)
theorem dL_law_596 : decode cL_law 596 = .ok (.iconst 1, 1) := dk_4 (dk_at dksL_law_20 8 rfl rfl)
theorem dL_law_597 : decode cL_law 597 = .ok (.iadd, 1) := dk_96 (dk_at dksL_law_20 9 rfl rfl)
theorem dL_law_598 : decode cL_law 598 = .ok (.iaload, 1) := dk_46 (dk_at dksL_law_20 10 rfl rfl)
theorem dL_law_599 : decode cL_law 599 = .ok (.invokevirtual 78, 3) := dk_182 0 78 (dk_at dksL_law_20 11 rfl rfl)
theorem dL_law_602 : decode cL_law 602 = .ok (.aload_n 2, 1) := dk_44 (dk_at dksL_law_20 14 rfl rfl)
theorem dL_law_603 : decode cL_law 603 = .ok (.aload_n 0, 1) := dk_42 (dk_at dksL_law_20 15 rfl rfl)
theorem dL_law_604 : decode cL_law 604 = .ok (.iload_n 3, 1) := dk_29 (dk_at dksL_law_20 16 rfl rfl)
theorem dL_law_605 : decode cL_law 605 = .ok (.iconst 1, 1) := dk_4 (dk_at dksL_law_20 17 rfl rfl)
theorem dL_law_606 : decode cL_law 606 = .ok (.iadd, 1) := dk_96 (dk_at dksL_law_20 18 rfl rfl)
theorem dL_law_607 : decode cL_law 607 = .ok (.iaload, 1) := dk_46 (dk_at dksL_law_20 19 rfl rfl)
theorem dL_law_608 : decode cL_law 608 = .ok (.invokevirtual 81, 3) := dk_182 0 81 (dk_at dksL_law_20 20 rfl rfl)
theorem dL_law_611 : decode cL_law 611 = .ok (.if_icmp .eq 572, 3) := dk_159 2 60 (dk_at dksL_law_21 0 rfl rfl)
theorem dL_law_614 : decode cL_law 614 = .ok (.iconst 0, 1) := dk_3 (dk_at dksL_law_21 3 rfl rfl)
theorem dL_law_615 : decode cL_law 615 = .ok (.ireturn, 1) := dk_172 (dk_at dksL_law_21 4 rfl rfl)
theorem dL_law_616 : decode cL_law 616 = .ok (.aload_n 1, 1) := dk_43 (dk_at dksL_law_21 5 rfl rfl)
theorem dL_law_617 : decode cL_law 617 = .ok (.aload_n 0, 1) := dk_42 (dk_at dksL_law_21 6 rfl rfl)
theorem dL_law_618 : decode cL_law 618 = .ok (.iload_n 3, 1) := dk_29 (dk_at dksL_law_21 7 rfl rfl)
theorem dL_law_619 : decode cL_law 619 = .ok (.iconst 1, 1) := dk_4 (dk_at dksL_law_21 8 rfl rfl)
theorem dL_law_620 : decode cL_law 620 = .ok (.iadd, 1) := dk_96 (dk_at dksL_law_21 9 rfl rfl)
theorem dL_law_621 : decode cL_law 621 = .ok (.iaload, 1) := dk_46 (dk_at dksL_law_21 10 rfl rfl)
theorem dL_law_622 : decode cL_law 622 = .ok (.invokevirtual 82, 3) := dk_182 0 82 (dk_at dksL_law_21 11 rfl rfl)
theorem dL_law_625 : decode cL_law 625 = .ok (.aload_n 2, 1) := dk_44 (dk_at dksL_law_21 14 rfl rfl)
theorem dL_law_626 : decode cL_law 626 = .ok (.aload_n 0, 1) := dk_42 (dk_at dksL_law_21 15 rfl rfl)
theorem dL_law_627 : decode cL_law 627 = .ok (.iload_n 3, 1) := dk_29 (dk_at dksL_law_21 16 rfl rfl)
theorem dL_law_628 : decode cL_law 628 = .ok (.iconst 1, 1) := dk_4 (dk_at dksL_law_21 17 rfl rfl)
theorem dL_law_629 : decode cL_law 629 = .ok (.iadd, 1) := dk_96 (dk_at dksL_law_21 18 rfl rfl)
theorem dL_law_630 : decode cL_law 630 = .ok (.iaload, 1) := dk_46 (dk_at dksL_law_21 19 rfl rfl)
theorem dL_law_631 : decode cL_law 631 = .ok (.invokevirtual 85, 3) := dk_182 0 85 (dk_at dksL_law_21 20 rfl rfl)
theorem dL_law_634 : decode cL_law 634 = .ok (.if_icmp .eq 549, 3) := dk_159 2 37 (dk_at dksL_law_22 0 rfl rfl)
theorem dL_law_637 : decode cL_law 637 = .ok (.iconst 0, 1) := dk_3 (dk_at dksL_law_22 3 rfl rfl)
theorem dL_law_638 : decode cL_law 638 = .ok (.ireturn, 1) := dk_172 (dk_at dksL_law_22 4 rfl rfl)
theorem dL_law_639 : decode cL_law 639 = .ok (.aload_n 1, 1) := dk_43 (dk_at dksL_law_22 5 rfl rfl)
theorem dL_law_640 : decode cL_law 640 = .ok (.aload_n 0, 1) := dk_42 (dk_at dksL_law_22 6 rfl rfl)
theorem dL_law_641 : decode cL_law 641 = .ok (.iload_n 3, 1) := dk_29 (dk_at dksL_law_22 7 rfl rfl)
theorem dL_law_642 : decode cL_law 642 = .ok (.iconst 1, 1) := dk_4 (dk_at dksL_law_22 8 rfl rfl)
theorem dL_law_643 : decode cL_law 643 = .ok (.iadd, 1) := dk_96 (dk_at dksL_law_22 9 rfl rfl)
theorem dL_law_644 : decode cL_law 644 = .ok (.iaload, 1) := dk_46 (dk_at dksL_law_22 10 rfl rfl)
theorem dL_law_645 : decode cL_law 645 = .ok (.aload_n 0, 1) := dk_42 (dk_at dksL_law_22 11 rfl rfl)
theorem dL_law_646 : decode cL_law 646 = .ok (.iload_n 3, 1) := dk_29 (dk_at dksL_law_22 12 rfl rfl)
theorem dL_law_647 : decode cL_law 647 = .ok (.iconst 2, 1) := dk_5 (dk_at dksL_law_22 13 rfl rfl)
theorem dL_law_648 : decode cL_law 648 = .ok (.iadd, 1) := dk_96 (dk_at dksL_law_22 14 rfl rfl)
theorem dL_law_649 : decode cL_law 649 = .ok (.iaload, 1) := dk_46 (dk_at dksL_law_22 15 rfl rfl)
theorem dL_law_650 : decode cL_law 650 = .ok (.invokevirtual 86, 3) := dk_182 0 86 (dk_at dksL_law_22 16 rfl rfl)
theorem dL_law_653 : decode cL_law 653 = .ok (.aload_n 2, 1) := dk_44 (dk_at dksL_law_22 19 rfl rfl)
theorem dL_law_654 : decode cL_law 654 = .ok (.aload_n 0, 1) := dk_42 (dk_at dksL_law_22 20 rfl rfl)
theorem dL_law_655 : decode cL_law 655 = .ok (.iload_n 3, 1) := dk_29 (dk_at dksL_law_22 21 rfl rfl)
theorem dL_law_656 : decode cL_law 656 = .ok (.iconst 1, 1) := dk_4 (dk_at dksL_law_22 22 rfl rfl)
theorem dL_law_657 : decode cL_law 657 = .ok (.iadd, 1) := dk_96 (dk_at dksL_law_22 23 rfl rfl)
theorem dL_law_658 : decode cL_law 658 = .ok (.iaload, 1) := dk_46 (dk_at dksL_law_23 0 rfl rfl)
theorem dL_law_659 : decode cL_law 659 = .ok (.aload_n 0, 1) := dk_42 (dk_at dksL_law_23 1 rfl rfl)
theorem dL_law_660 : decode cL_law 660 = .ok (.iload_n 3, 1) := dk_29 (dk_at dksL_law_23 2 rfl rfl)
theorem dL_law_661 : decode cL_law 661 = .ok (.iconst 2, 1) := dk_5 (dk_at dksL_law_23 3 rfl rfl)
theorem dL_law_662 : decode cL_law 662 = .ok (.iadd, 1) := dk_96 (dk_at dksL_law_23 4 rfl rfl)
theorem dL_law_663 : decode cL_law 663 = .ok (.iaload, 1) := dk_46 (dk_at dksL_law_23 5 rfl rfl)
theorem dL_law_664 : decode cL_law 664 = .ok (.invokevirtual 89, 3) := dk_182 0 89 (dk_at dksL_law_23 6 rfl rfl)
theorem dL_law_667 : decode cL_law 667 = .ok (.if_icmp .eq 516, 3) := dk_159 2 4 (dk_at dksL_law_23 9 rfl rfl)
theorem dL_law_670 : decode cL_law 670 = .ok (.iconst 0, 1) := dk_3 (dk_at dksL_law_23 12 rfl rfl)
theorem dL_law_671 : decode cL_law 671 = .ok (.ireturn, 1) := dk_172 (dk_at dksL_law_23 13 rfl rfl)
theorem dL_law_672 : decode cL_law 672 = .ok (.aload_n 1, 1) := dk_43 (dk_at dksL_law_23 14 rfl rfl)
theorem dL_law_673 : decode cL_law 673 = .ok (.aload_n 0, 1) := dk_42 (dk_at dksL_law_23 15 rfl rfl)
theorem dL_law_674 : decode cL_law 674 = .ok (.iload_n 3, 1) := dk_29 (dk_at dksL_law_23 16 rfl rfl)
theorem dL_law_675 : decode cL_law 675 = .ok (.iconst 1, 1) := dk_4 (dk_at dksL_law_23 17 rfl rfl)
theorem dL_law_676 : decode cL_law 676 = .ok (.iadd, 1) := dk_96 (dk_at dksL_law_23 18 rfl rfl)
theorem dL_law_677 : decode cL_law 677 = .ok (.iaload, 1) := dk_46 (dk_at dksL_law_23 19 rfl rfl)
theorem dL_law_678 : decode cL_law 678 = .ok (.aload_n 0, 1) := dk_42 (dk_at dksL_law_23 20 rfl rfl)
theorem dL_law_679 : decode cL_law 679 = .ok (.iload_n 3, 1) := dk_29 (dk_at dksL_law_23 21 rfl rfl)
theorem dL_law_680 : decode cL_law 680 = .ok (.iconst 2, 1) := dk_5 (dk_at dksL_law_23 22 rfl rfl)
theorem dL_law_681 : decode cL_law 681 = .ok (.iadd, 1) := dk_96 (dk_at dksL_law_23 23 rfl rfl)
theorem dL_law_682 : decode cL_law 682 = .ok (.iaload, 1) := dk_46 (dk_at dksL_law_24 0 rfl rfl)
theorem dL_law_683 : decode cL_law 683 = .ok (.invokevirtual 90, 3) := dk_182 0 90 (dk_at dksL_law_24 1 rfl rfl)
theorem dL_law_686 : decode cL_law 686 = .ok (.aload_n 2, 1) := dk_44 (dk_at dksL_law_24 4 rfl rfl)
theorem dL_law_687 : decode cL_law 687 = .ok (.aload_n 0, 1) := dk_42 (dk_at dksL_law_24 5 rfl rfl)
theorem dL_law_688 : decode cL_law 688 = .ok (.iload_n 3, 1) := dk_29 (dk_at dksL_law_24 6 rfl rfl)
theorem dL_law_689 : decode cL_law 689 = .ok (.iconst 1, 1) := dk_4 (dk_at dksL_law_24 7 rfl rfl)
theorem dL_law_690 : decode cL_law 690 = .ok (.iadd, 1) := dk_96 (dk_at dksL_law_24 8 rfl rfl)
theorem dL_law_691 : decode cL_law 691 = .ok (.iaload, 1) := dk_46 (dk_at dksL_law_24 9 rfl rfl)
theorem dL_law_692 : decode cL_law 692 = .ok (.aload_n 0, 1) := dk_42 (dk_at dksL_law_24 10 rfl rfl)
theorem dL_law_693 : decode cL_law 693 = .ok (.iload_n 3, 1) := dk_29 (dk_at dksL_law_24 11 rfl rfl)
theorem dL_law_694 : decode cL_law 694 = .ok (.iconst 2, 1) := dk_5 (dk_at dksL_law_24 12 rfl rfl)
theorem dL_law_695 : decode cL_law 695 = .ok (.iadd, 1) := dk_96 (dk_at dksL_law_24 13 rfl rfl)
theorem dL_law_696 : decode cL_law 696 = .ok (.iaload, 1) := dk_46 (dk_at dksL_law_24 14 rfl rfl)
theorem dL_law_697 : decode cL_law 697 = .ok (.invokevirtual 93, 3) := dk_182 0 93 (dk_at dksL_law_24 15 rfl rfl)
theorem dL_law_700 : decode cL_law 700 = .ok (.if_icmp .eq 483, 3) := dk_159 1 227 (dk_at dksL_law_24 18 rfl rfl)
theorem dL_law_703 : decode cL_law 703 = .ok (.iconst 0, 1) := dk_3 (dk_at dksL_law_24 21 rfl rfl)
theorem dL_law_704 : decode cL_law 704 = .ok (.ireturn, 1) := dk_172 (dk_at dksL_law_24 22 rfl rfl)
theorem dL_law_705 : decode cL_law 705 = .ok (.aload_n 1, 1) := dk_43 (dk_at dksL_law_24 23 rfl rfl)
theorem dL_law_706 : decode cL_law 706 = .ok (.aload_n 0, 1) := dk_42 (dk_at dksL_law_25 0 rfl rfl)
theorem dL_law_707 : decode cL_law 707 = .ok (.iload_n 3, 1) := dk_29 (dk_at dksL_law_25 1 rfl rfl)
theorem dL_law_708 : decode cL_law 708 = .ok (.iconst 1, 1) := dk_4 (dk_at dksL_law_25 2 rfl rfl)
theorem dL_law_709 : decode cL_law 709 = .ok (.iadd, 1) := dk_96 (dk_at dksL_law_25 3 rfl rfl)
theorem dL_law_710 : decode cL_law 710 = .ok (.iaload, 1) := dk_46 (dk_at dksL_law_25 4 rfl rfl)
theorem dL_law_711 : decode cL_law 711 = .ok (.invokevirtual 94, 3) := dk_182 0 94 (dk_at dksL_law_25 5 rfl rfl)
theorem dL_law_714 : decode cL_law 714 = .ok (.aload_n 2, 1) := dk_44 (dk_at dksL_law_25 8 rfl rfl)
theorem dL_law_715 : decode cL_law 715 = .ok (.aload_n 0, 1) := dk_42 (dk_at dksL_law_25 9 rfl rfl)
theorem dL_law_716 : decode cL_law 716 = .ok (.iload_n 3, 1) := dk_29 (dk_at dksL_law_25 10 rfl rfl)
theorem dL_law_717 : decode cL_law 717 = .ok (.iconst 1, 1) := dk_4 (dk_at dksL_law_25 11 rfl rfl)
theorem dL_law_718 : decode cL_law 718 = .ok (.iadd, 1) := dk_96 (dk_at dksL_law_25 12 rfl rfl)
theorem dL_law_719 : decode cL_law 719 = .ok (.iaload, 1) := dk_46 (dk_at dksL_law_25 13 rfl rfl)
theorem dL_law_720 : decode cL_law 720 = .ok (.invokevirtual 97, 3) := dk_182 0 97 (dk_at dksL_law_25 14 rfl rfl)
theorem dL_law_723 : decode cL_law 723 = .ok (.if_icmp .eq 460, 3) := dk_159 1 204 (dk_at dksL_law_25 17 rfl rfl)
theorem dL_law_726 : decode cL_law 726 = .ok (.iconst 0, 1) := dk_3 (dk_at dksL_law_25 20 rfl rfl)
theorem dL_law_727 : decode cL_law 727 = .ok (.ireturn, 1) := dk_172 (dk_at dksL_law_25 21 rfl rfl)
theorem dL_law_728 : decode cL_law 728 = .ok (.aload_n 1, 1) := dk_43 (dk_at dksL_law_25 22 rfl rfl)
theorem dL_law_729 : decode cL_law 729 = .ok (.aload_n 0, 1) := dk_42 (dk_at dksL_law_25 23 rfl rfl)
theorem dL_law_730 : decode cL_law 730 = .ok (.iload_n 3, 1) := dk_29 (dk_at dksL_law_26 0 rfl rfl)
theorem dL_law_731 : decode cL_law 731 = .ok (.iconst 1, 1) := dk_4 (dk_at dksL_law_26 1 rfl rfl)
theorem dL_law_732 : decode cL_law 732 = .ok (.iadd, 1) := dk_96 (dk_at dksL_law_26 2 rfl rfl)
theorem dL_law_733 : decode cL_law 733 = .ok (.iaload, 1) := dk_46 (dk_at dksL_law_26 3 rfl rfl)
theorem dL_law_734 : decode cL_law 734 = .ok (.aload_n 0, 1) := dk_42 (dk_at dksL_law_26 4 rfl rfl)
theorem dL_law_735 : decode cL_law 735 = .ok (.iload_n 3, 1) := dk_29 (dk_at dksL_law_26 5 rfl rfl)
theorem dL_law_736 : decode cL_law 736 = .ok (.iconst 2, 1) := dk_5 (dk_at dksL_law_26 6 rfl rfl)
theorem dL_law_737 : decode cL_law 737 = .ok (.iadd, 1) := dk_96 (dk_at dksL_law_26 7 rfl rfl)
theorem dL_law_738 : decode cL_law 738 = .ok (.iaload, 1) := dk_46 (dk_at dksL_law_26 8 rfl rfl)
theorem dL_law_739 : decode cL_law 739 = .ok (.invokevirtual 98, 3) := dk_182 0 98 (dk_at dksL_law_26 9 rfl rfl)
theorem dL_law_742 : decode cL_law 742 = .ok (.aload_n 2, 1) := dk_44 (dk_at dksL_law_26 12 rfl rfl)
theorem dL_law_743 : decode cL_law 743 = .ok (.aload_n 0, 1) := dk_42 (dk_at dksL_law_26 13 rfl rfl)
theorem dL_law_744 : decode cL_law 744 = .ok (.iload_n 3, 1) := dk_29 (dk_at dksL_law_26 14 rfl rfl)
theorem dL_law_745 : decode cL_law 745 = .ok (.iconst 1, 1) := dk_4 (dk_at dksL_law_26 15 rfl rfl)
theorem dL_law_746 : decode cL_law 746 = .ok (.iadd, 1) := dk_96 (dk_at dksL_law_26 16 rfl rfl)
theorem dL_law_747 : decode cL_law 747 = .ok (.iaload, 1) := dk_46 (dk_at dksL_law_26 17 rfl rfl)
theorem dL_law_748 : decode cL_law 748 = .ok (.aload_n 0, 1) := dk_42 (dk_at dksL_law_26 18 rfl rfl)
theorem dL_law_749 : decode cL_law 749 = .ok (.iload_n 3, 1) := dk_29 (dk_at dksL_law_26 19 rfl rfl)
theorem dL_law_750 : decode cL_law 750 = .ok (.iconst 2, 1) := dk_5 (dk_at dksL_law_26 20 rfl rfl)
theorem dL_law_751 : decode cL_law 751 = .ok (.iadd, 1) := dk_96 (dk_at dksL_law_26 21 rfl rfl)
theorem dL_law_752 : decode cL_law 752 = .ok (.iaload, 1) := dk_46 (dk_at dksL_law_26 22 rfl rfl)
theorem dL_law_753 : decode cL_law 753 = .ok (.invokevirtual 101, 3) := dk_182 0 101 (dk_at dksL_law_27 0 rfl rfl)
theorem dL_law_756 : decode cL_law 756 = .ok (.if_icmp .eq 427, 3) := dk_159 1 171 (dk_at dksL_law_27 3 rfl rfl)
theorem dL_law_759 : decode cL_law 759 = .ok (.iconst 0, 1) := dk_3 (dk_at dksL_law_27 6 rfl rfl)
theorem dL_law_760 : decode cL_law 760 = .ok (.ireturn, 1) := dk_172 (dk_at dksL_law_27 7 rfl rfl)
theorem dL_law_761 : decode cL_law 761 = .ok (.aload_n 1, 1) := dk_43 (dk_at dksL_law_27 8 rfl rfl)
theorem dL_law_762 : decode cL_law 762 = .ok (.aload_n 0, 1) := dk_42 (dk_at dksL_law_27 9 rfl rfl)
theorem dL_law_763 : decode cL_law 763 = .ok (.iload_n 3, 1) := dk_29 (dk_at dksL_law_27 10 rfl rfl)
theorem dL_law_764 : decode cL_law 764 = .ok (.iconst 1, 1) := dk_4 (dk_at dksL_law_27 11 rfl rfl)
theorem dL_law_765 : decode cL_law 765 = .ok (.iadd, 1) := dk_96 (dk_at dksL_law_27 12 rfl rfl)
theorem dL_law_766 : decode cL_law 766 = .ok (.iaload, 1) := dk_46 (dk_at dksL_law_27 13 rfl rfl)
theorem dL_law_767 : decode cL_law 767 = .ok (.aload_n 0, 1) := dk_42 (dk_at dksL_law_27 14 rfl rfl)
theorem dL_law_768 : decode cL_law 768 = .ok (.iload_n 3, 1) := dk_29 (dk_at dksL_law_27 15 rfl rfl)
theorem dL_law_769 : decode cL_law 769 = .ok (.iconst 2, 1) := dk_5 (dk_at dksL_law_27 16 rfl rfl)
theorem dL_law_770 : decode cL_law 770 = .ok (.iadd, 1) := dk_96 (dk_at dksL_law_27 17 rfl rfl)
theorem dL_law_771 : decode cL_law 771 = .ok (.iaload, 1) := dk_46 (dk_at dksL_law_27 18 rfl rfl)
theorem dL_law_772 : decode cL_law 772 = .ok (.invokevirtual 102, 3) := dk_182 0 102 (dk_at dksL_law_27 19 rfl rfl)
theorem dL_law_775 : decode cL_law 775 = .ok (.aload_n 2, 1) := dk_44 (dk_at dksL_law_27 22 rfl rfl)
theorem dL_law_776 : decode cL_law 776 = .ok (.aload_n 0, 1) := dk_42 (dk_at dksL_law_27 23 rfl rfl)
theorem dL_law_777 : decode cL_law 777 = .ok (.iload_n 3, 1) := dk_29 (dk_at dksL_law_28 0 rfl rfl)
theorem dL_law_778 : decode cL_law 778 = .ok (.iconst 1, 1) := dk_4 (dk_at dksL_law_28 1 rfl rfl)
theorem dL_law_779 : decode cL_law 779 = .ok (.iadd, 1) := dk_96 (dk_at dksL_law_28 2 rfl rfl)
theorem dL_law_780 : decode cL_law 780 = .ok (.iaload, 1) := dk_46 (dk_at dksL_law_28 3 rfl rfl)
theorem dL_law_781 : decode cL_law 781 = .ok (.aload_n 0, 1) := dk_42 (dk_at dksL_law_28 4 rfl rfl)
theorem dL_law_782 : decode cL_law 782 = .ok (.iload_n 3, 1) := dk_29 (dk_at dksL_law_28 5 rfl rfl)
theorem dL_law_783 : decode cL_law 783 = .ok (.iconst 2, 1) := dk_5 (dk_at dksL_law_28 6 rfl rfl)
theorem dL_law_784 : decode cL_law 784 = .ok (.iadd, 1) := dk_96 (dk_at dksL_law_28 7 rfl rfl)
theorem dL_law_785 : decode cL_law 785 = .ok (.iaload, 1) := dk_46 (dk_at dksL_law_28 8 rfl rfl)
theorem dL_law_786 : decode cL_law 786 = .ok (.invokevirtual 105, 3) := dk_182 0 105 (dk_at dksL_law_28 9 rfl rfl)
theorem dL_law_789 : decode cL_law 789 = .ok (.if_icmp .eq 394, 3) := dk_159 1 138 (dk_at dksL_law_28 12 rfl rfl)
theorem dL_law_792 : decode cL_law 792 = .ok (.iconst 0, 1) := dk_3 (dk_at dksL_law_28 15 rfl rfl)
theorem dL_law_793 : decode cL_law 793 = .ok (.ireturn, 1) := dk_172 (dk_at dksL_law_28 16 rfl rfl)
theorem dL_law_794 : decode cL_law 794 = .ok (.aload_n 1, 1) := dk_43 (dk_at dksL_law_28 17 rfl rfl)
theorem dL_law_795 : decode cL_law 795 = .ok (.aload_n 0, 1) := dk_42 (dk_at dksL_law_28 18 rfl rfl)
theorem dL_law_796 : decode cL_law 796 = .ok (.iload_n 3, 1) := dk_29 (dk_at dksL_law_28 19 rfl rfl)
theorem dL_law_797 : decode cL_law 797 = .ok (.iconst 1, 1) := dk_4 (dk_at dksL_law_28 20 rfl rfl)
theorem dL_law_798 : decode cL_law 798 = .ok (.iadd, 1) := dk_96 (dk_at dksL_law_28 21 rfl rfl)
theorem dL_law_799 : decode cL_law 799 = .ok (.iaload, 1) := dk_46 (dk_at dksL_law_28 22 rfl rfl)
theorem dL_law_800 : decode cL_law 800 = .ok (.invokevirtual 106, 3) := dk_182 0 106 (dk_at dksL_law_29 0 rfl rfl)
theorem dL_law_803 : decode cL_law 803 = .ok (.aload_n 2, 1) := dk_44 (dk_at dksL_law_29 3 rfl rfl)
theorem dL_law_804 : decode cL_law 804 = .ok (.aload_n 0, 1) := dk_42 (dk_at dksL_law_29 4 rfl rfl)
theorem dL_law_805 : decode cL_law 805 = .ok (.iload_n 3, 1) := dk_29 (dk_at dksL_law_29 5 rfl rfl)
theorem dL_law_806 : decode cL_law 806 = .ok (.iconst 1, 1) := dk_4 (dk_at dksL_law_29 6 rfl rfl)
theorem dL_law_807 : decode cL_law 807 = .ok (.iadd, 1) := dk_96 (dk_at dksL_law_29 7 rfl rfl)
theorem dL_law_808 : decode cL_law 808 = .ok (.iaload, 1) := dk_46 (dk_at dksL_law_29 8 rfl rfl)
theorem dL_law_809 : decode cL_law 809 = .ok (.invokevirtual 109, 3) := dk_182 0 109 (dk_at dksL_law_29 9 rfl rfl)
theorem dL_law_812 : decode cL_law 812 = .ok (.if_icmp .eq 371, 3) := dk_159 1 115 (dk_at dksL_law_29 12 rfl rfl)
theorem dL_law_815 : decode cL_law 815 = .ok (.iconst 0, 1) := dk_3 (dk_at dksL_law_29 15 rfl rfl)
theorem dL_law_816 : decode cL_law 816 = .ok (.ireturn, 1) := dk_172 (dk_at dksL_law_29 16 rfl rfl)
theorem dL_law_817 : decode cL_law 817 = .ok (.aload_n 1, 1) := dk_43 (dk_at dksL_law_29 17 rfl rfl)
theorem dL_law_818 : decode cL_law 818 = .ok (.aload_n 0, 1) := dk_42 (dk_at dksL_law_29 18 rfl rfl)
theorem dL_law_819 : decode cL_law 819 = .ok (.iload_n 3, 1) := dk_29 (dk_at dksL_law_29 19 rfl rfl)
theorem dL_law_820 : decode cL_law 820 = .ok (.iconst 1, 1) := dk_4 (dk_at dksL_law_29 20 rfl rfl)
theorem dL_law_821 : decode cL_law 821 = .ok (.iadd, 1) := dk_96 (dk_at dksL_law_29 21 rfl rfl)
theorem dL_law_822 : decode cL_law 822 = .ok (.iaload, 1) := dk_46 (dk_at dksL_law_29 22 rfl rfl)
theorem dL_law_823 : decode cL_law 823 = .ok (.aload_n 0, 1) := dk_42 (dk_at dksL_law_29 23 rfl rfl)
theorem dL_law_824 : decode cL_law 824 = .ok (.iload_n 3, 1) := dk_29 (dk_at dksL_law_30 0 rfl rfl)
theorem dL_law_825 : decode cL_law 825 = .ok (.iconst 2, 1) := dk_5 (dk_at dksL_law_30 1 rfl rfl)
theorem dL_law_826 : decode cL_law 826 = .ok (.iadd, 1) := dk_96 (dk_at dksL_law_30 2 rfl rfl)
theorem dL_law_827 : decode cL_law 827 = .ok (.iaload, 1) := dk_46 (dk_at dksL_law_30 3 rfl rfl)
theorem dL_law_828 : decode cL_law 828 = .ok (.aload_n 0, 1) := dk_42 (dk_at dksL_law_30 4 rfl rfl)
theorem dL_law_829 : decode cL_law 829 = .ok (.iload_n 3, 1) := dk_29 (dk_at dksL_law_30 5 rfl rfl)
theorem dL_law_830 : decode cL_law 830 = .ok (.iconst 3, 1) := dk_6 (dk_at dksL_law_30 6 rfl rfl)
theorem dL_law_831 : decode cL_law 831 = .ok (.iadd, 1) := dk_96 (dk_at dksL_law_30 7 rfl rfl)
theorem dL_law_832 : decode cL_law 832 = .ok (.iaload, 1) := dk_46 (dk_at dksL_law_30 8 rfl rfl)
theorem dL_law_833 : decode cL_law 833 = .ok (.aload_n 0, 1) := dk_42 (dk_at dksL_law_30 9 rfl rfl)
theorem dL_law_834 : decode cL_law 834 = .ok (.iload_n 3, 1) := dk_29 (dk_at dksL_law_30 10 rfl rfl)
theorem dL_law_835 : decode cL_law 835 = .ok (.iconst 4, 1) := dk_7 (dk_at dksL_law_30 11 rfl rfl)
theorem dL_law_836 : decode cL_law 836 = .ok (.iadd, 1) := dk_96 (dk_at dksL_law_30 12 rfl rfl)
theorem dL_law_837 : decode cL_law 837 = .ok (.iaload, 1) := dk_46 (dk_at dksL_law_30 13 rfl rfl)
theorem dL_law_838 : decode cL_law 838 = .ok (.invokevirtual 110, 3) := dk_182 0 110 (dk_at dksL_law_30 14 rfl rfl)
theorem dL_law_841 : decode cL_law 841 = .ok (.aload_n 2, 1) := dk_44 (dk_at dksL_law_30 17 rfl rfl)
theorem dL_law_842 : decode cL_law 842 = .ok (.aload_n 0, 1) := dk_42 (dk_at dksL_law_30 18 rfl rfl)
theorem dL_law_843 : decode cL_law 843 = .ok (.iload_n 3, 1) := dk_29 (dk_at dksL_law_30 19 rfl rfl)
theorem dL_law_844 : decode cL_law 844 = .ok (.iconst 1, 1) := dk_4 (dk_at dksL_law_30 20 rfl rfl)
theorem dL_law_845 : decode cL_law 845 = .ok (.iadd, 1) := dk_96 (dk_at dksL_law_30 21 rfl rfl)
theorem dL_law_846 : decode cL_law 846 = .ok (.iaload, 1) := dk_46 (dk_at dksL_law_30 22 rfl rfl)
theorem dL_law_847 : decode cL_law 847 = .ok (.aload_n 0, 1) := dk_42 (dk_at dksL_law_30 23 rfl rfl)
theorem dL_law_848 : decode cL_law 848 = .ok (.iload_n 3, 1) := dk_29 (dk_at dksL_law_31 0 rfl rfl)
theorem dL_law_849 : decode cL_law 849 = .ok (.iconst 2, 1) := dk_5 (dk_at dksL_law_31 1 rfl rfl)
theorem dL_law_850 : decode cL_law 850 = .ok (.iadd, 1) := dk_96 (dk_at dksL_law_31 2 rfl rfl)
theorem dL_law_851 : decode cL_law 851 = .ok (.iaload, 1) := dk_46 (dk_at dksL_law_31 3 rfl rfl)
theorem dL_law_852 : decode cL_law 852 = .ok (.aload_n 0, 1) := dk_42 (dk_at dksL_law_31 4 rfl rfl)
theorem dL_law_853 : decode cL_law 853 = .ok (.iload_n 3, 1) := dk_29 (dk_at dksL_law_31 5 rfl rfl)
theorem dL_law_854 : decode cL_law 854 = .ok (.iconst 3, 1) := dk_6 (dk_at dksL_law_31 6 rfl rfl)
theorem dL_law_855 : decode cL_law 855 = .ok (.iadd, 1) := dk_96 (dk_at dksL_law_31 7 rfl rfl)
theorem dL_law_856 : decode cL_law 856 = .ok (.iaload, 1) := dk_46 (dk_at dksL_law_31 8 rfl rfl)
theorem dL_law_857 : decode cL_law 857 = .ok (.aload_n 0, 1) := dk_42 (dk_at dksL_law_31 9 rfl rfl)
theorem dL_law_858 : decode cL_law 858 = .ok (.iload_n 3, 1) := dk_29 (dk_at dksL_law_31 10 rfl rfl)
theorem dL_law_859 : decode cL_law 859 = .ok (.iconst 4, 1) := dk_7 (dk_at dksL_law_31 11 rfl rfl)
theorem dL_law_860 : decode cL_law 860 = .ok (.iadd, 1) := dk_96 (dk_at dksL_law_31 12 rfl rfl)
theorem dL_law_861 : decode cL_law 861 = .ok (.iaload, 1) := dk_46 (dk_at dksL_law_31 13 rfl rfl)
theorem dL_law_862 : decode cL_law 862 = .ok (.invokevirtual 114, 3) := dk_182 0 114 (dk_at dksL_law_31 14 rfl rfl)
theorem dL_law_865 : decode cL_law 865 = .ok (.if_icmp .eq 318, 3) := dk_159 1 62 (dk_at dksL_law_31 17 rfl rfl)
theorem dL_law_868 : decode cL_law 868 = .ok (.iconst 0, 1) := dk_3 (dk_at dksL_law_31 20 rfl rfl)
theorem dL_law_869 : decode cL_law 869 = .ok (.ireturn, 1) := dk_172 (dk_at dksL_law_31 21 rfl rfl)
theorem dL_law_870 : decode cL_law 870 = .ok (.aload_n 1, 1) := dk_43 (dk_at dksL_law_31 22 rfl rfl)
theorem dL_law_871 : decode cL_law 871 = .ok (.aload_n 0, 1) := dk_42 (dk_at dksL_law_31 23 rfl rfl)
theorem dL_law_872 : decode cL_law 872 = .ok (.iload_n 3, 1) := dk_29 (dk_at dksL_law_32 0 rfl rfl)
theorem dL_law_873 : decode cL_law 873 = .ok (.iconst 1, 1) := dk_4 (dk_at dksL_law_32 1 rfl rfl)
theorem dL_law_874 : decode cL_law 874 = .ok (.iadd, 1) := dk_96 (dk_at dksL_law_32 2 rfl rfl)
theorem dL_law_875 : decode cL_law 875 = .ok (.iaload, 1) := dk_46 (dk_at dksL_law_32 3 rfl rfl)
theorem dL_law_876 : decode cL_law 876 = .ok (.invokevirtual 115, 3) := dk_182 0 115 (dk_at dksL_law_32 4 rfl rfl)
theorem dL_law_879 : decode cL_law 879 = .ok (.aload_n 2, 1) := dk_44 (dk_at dksL_law_32 7 rfl rfl)
theorem dL_law_880 : decode cL_law 880 = .ok (.aload_n 0, 1) := dk_42 (dk_at dksL_law_32 8 rfl rfl)
theorem dL_law_881 : decode cL_law 881 = .ok (.iload_n 3, 1) := dk_29 (dk_at dksL_law_32 9 rfl rfl)
theorem dL_law_882 : decode cL_law 882 = .ok (.iconst 1, 1) := dk_4 (dk_at dksL_law_32 10 rfl rfl)
theorem dL_law_883 : decode cL_law 883 = .ok (.iadd, 1) := dk_96 (dk_at dksL_law_32 11 rfl rfl)
theorem dL_law_884 : decode cL_law 884 = .ok (.iaload, 1) := dk_46 (dk_at dksL_law_32 12 rfl rfl)
theorem dL_law_885 : decode cL_law 885 = .ok (.invokevirtual 118, 3) := dk_182 0 118 (dk_at dksL_law_32 13 rfl rfl)
theorem dL_law_888 : decode cL_law 888 = .ok (.if_icmp .eq 295, 3) := dk_159 1 39 (dk_at dksL_law_32 16 rfl rfl)
theorem dL_law_891 : decode cL_law 891 = .ok (.iconst 0, 1) := dk_3 (dk_at dksL_law_32 19 rfl rfl)
theorem dL_law_892 : decode cL_law 892 = .ok (.ireturn, 1) := dk_172 (dk_at dksL_law_32 20 rfl rfl)
theorem dL_law_893 : decode cL_law 893 = .ok (.aload_n 1, 1) := dk_43 (dk_at dksL_law_32 21 rfl rfl)
theorem dL_law_894 : decode cL_law 894 = .ok (.aload_n 0, 1) := dk_42 (dk_at dksL_law_32 22 rfl rfl)
theorem dL_law_895 : decode cL_law 895 = .ok (.iload_n 3, 1) := dk_29 (dk_at dksL_law_32 23 rfl rfl)
theorem dL_law_896 : decode cL_law 896 = .ok (.iconst 1, 1) := dk_4 (dk_at dksL_law_33 0 rfl rfl)
theorem dL_law_897 : decode cL_law 897 = .ok (.iadd, 1) := dk_96 (dk_at dksL_law_33 1 rfl rfl)
theorem dL_law_898 : decode cL_law 898 = .ok (.iaload, 1) := dk_46 (dk_at dksL_law_33 2 rfl rfl)
theorem dL_law_899 : decode cL_law 899 = .ok (.aload_n 0, 1) := dk_42 (dk_at dksL_law_33 3 rfl rfl)
theorem dL_law_900 : decode cL_law 900 = .ok (.iload_n 3, 1) := dk_29 (dk_at dksL_law_33 4 rfl rfl)
theorem dL_law_901 : decode cL_law 901 = .ok (.iconst 2, 1) := dk_5 (dk_at dksL_law_33 5 rfl rfl)
theorem dL_law_902 : decode cL_law 902 = .ok (.iadd, 1) := dk_96 (dk_at dksL_law_33 6 rfl rfl)
theorem dL_law_903 : decode cL_law 903 = .ok (.iaload, 1) := dk_46 (dk_at dksL_law_33 7 rfl rfl)
theorem dL_law_904 : decode cL_law 904 = .ok (.invokevirtual 119, 3) := dk_182 0 119 (dk_at dksL_law_33 8 rfl rfl)
theorem dL_law_907 : decode cL_law 907 = .ok (.aload_n 2, 1) := dk_44 (dk_at dksL_law_33 11 rfl rfl)
theorem dL_law_908 : decode cL_law 908 = .ok (.aload_n 0, 1) := dk_42 (dk_at dksL_law_33 12 rfl rfl)
theorem dL_law_909 : decode cL_law 909 = .ok (.iload_n 3, 1) := dk_29 (dk_at dksL_law_33 13 rfl rfl)
theorem dL_law_910 : decode cL_law 910 = .ok (.iconst 1, 1) := dk_4 (dk_at dksL_law_33 14 rfl rfl)
theorem dL_law_911 : decode cL_law 911 = .ok (.iadd, 1) := dk_96 (dk_at dksL_law_33 15 rfl rfl)
theorem dL_law_912 : decode cL_law 912 = .ok (.iaload, 1) := dk_46 (dk_at dksL_law_33 16 rfl rfl)
theorem dL_law_913 : decode cL_law 913 = .ok (.aload_n 0, 1) := dk_42 (dk_at dksL_law_33 17 rfl rfl)
theorem dL_law_914 : decode cL_law 914 = .ok (.iload_n 3, 1) := dk_29 (dk_at dksL_law_33 18 rfl rfl)
theorem dL_law_915 : decode cL_law 915 = .ok (.iconst 2, 1) := dk_5 (dk_at dksL_law_33 19 rfl rfl)
theorem dL_law_916 : decode cL_law 916 = .ok (.iadd, 1) := dk_96 (dk_at dksL_law_33 20 rfl rfl)
theorem dL_law_917 : decode cL_law 917 = .ok (.iaload, 1) := dk_46 (dk_at dksL_law_33 21 rfl rfl)
theorem dL_law_918 : decode cL_law 918 = .ok (.invokevirtual 122, 3) := dk_182 0 122 (dk_at dksL_law_34 0 rfl rfl)
theorem dL_law_921 : decode cL_law 921 = .ok (.if_icmp .eq 262, 3) := dk_159 1 6 (dk_at dksL_law_34 3 rfl rfl)
theorem dL_law_924 : decode cL_law 924 = .ok (.iconst 0, 1) := dk_3 (dk_at dksL_law_34 6 rfl rfl)
theorem dL_law_925 : decode cL_law 925 = .ok (.ireturn, 1) := dk_172 (dk_at dksL_law_34 7 rfl rfl)
theorem dL_law_926 : decode cL_law 926 = .ok (.aload_n 1, 1) := dk_43 (dk_at dksL_law_34 8 rfl rfl)
theorem dL_law_927 : decode cL_law 927 = .ok (.aload_n 0, 1) := dk_42 (dk_at dksL_law_34 9 rfl rfl)
theorem dL_law_928 : decode cL_law 928 = .ok (.iload_n 3, 1) := dk_29 (dk_at dksL_law_34 10 rfl rfl)
theorem dL_law_929 : decode cL_law 929 = .ok (.iconst 1, 1) := dk_4 (dk_at dksL_law_34 11 rfl rfl)
theorem dL_law_930 : decode cL_law 930 = .ok (.iadd, 1) := dk_96 (dk_at dksL_law_34 12 rfl rfl)
theorem dL_law_931 : decode cL_law 931 = .ok (.iaload, 1) := dk_46 (dk_at dksL_law_34 13 rfl rfl)
theorem dL_law_932 : decode cL_law 932 = .ok (.aload_n 0, 1) := dk_42 (dk_at dksL_law_34 14 rfl rfl)
theorem dL_law_933 : decode cL_law 933 = .ok (.iload_n 3, 1) := dk_29 (dk_at dksL_law_34 15 rfl rfl)
theorem dL_law_934 : decode cL_law 934 = .ok (.iconst 2, 1) := dk_5 (dk_at dksL_law_34 16 rfl rfl)
theorem dL_law_935 : decode cL_law 935 = .ok (.iadd, 1) := dk_96 (dk_at dksL_law_34 17 rfl rfl)
theorem dL_law_936 : decode cL_law 936 = .ok (.iaload, 1) := dk_46 (dk_at dksL_law_34 18 rfl rfl)
theorem dL_law_937 : decode cL_law 937 = .ok (.aload_n 0, 1) := dk_42 (dk_at dksL_law_34 19 rfl rfl)
theorem dL_law_938 : decode cL_law 938 = .ok (.iload_n 3, 1) := dk_29 (dk_at dksL_law_34 20 rfl rfl)
theorem dL_law_939 : decode cL_law 939 = .ok (.iconst 3, 1) := dk_6 (dk_at dksL_law_34 21 rfl rfl)
theorem dL_law_940 : decode cL_law 940 = .ok (.iadd, 1) := dk_96 (dk_at dksL_law_34 22 rfl rfl)
theorem dL_law_941 : decode cL_law 941 = .ok (.iaload, 1) := dk_46 (dk_at dksL_law_34 23 rfl rfl)
theorem dL_law_942 : decode cL_law 942 = .ok (.invokevirtual 123, 3) := dk_182 0 123 (dk_at dksL_law_35 0 rfl rfl)
theorem dL_law_945 : decode cL_law 945 = .ok (.aload_n 2, 1) := dk_44 (dk_at dksL_law_35 3 rfl rfl)
theorem dL_law_946 : decode cL_law 946 = .ok (.aload_n 0, 1) := dk_42 (dk_at dksL_law_35 4 rfl rfl)
theorem dL_law_947 : decode cL_law 947 = .ok (.iload_n 3, 1) := dk_29 (dk_at dksL_law_35 5 rfl rfl)
theorem dL_law_948 : decode cL_law 948 = .ok (.iconst 1, 1) := dk_4 (dk_at dksL_law_35 6 rfl rfl)
theorem dL_law_949 : decode cL_law 949 = .ok (.iadd, 1) := dk_96 (dk_at dksL_law_35 7 rfl rfl)
theorem dL_law_950 : decode cL_law 950 = .ok (.iaload, 1) := dk_46 (dk_at dksL_law_35 8 rfl rfl)
theorem dL_law_951 : decode cL_law 951 = .ok (.aload_n 0, 1) := dk_42 (dk_at dksL_law_35 9 rfl rfl)
theorem dL_law_952 : decode cL_law 952 = .ok (.iload_n 3, 1) := dk_29 (dk_at dksL_law_35 10 rfl rfl)
theorem dL_law_953 : decode cL_law 953 = .ok (.iconst 2, 1) := dk_5 (dk_at dksL_law_35 11 rfl rfl)
theorem dL_law_954 : decode cL_law 954 = .ok (.iadd, 1) := dk_96 (dk_at dksL_law_35 12 rfl rfl)
theorem dL_law_955 : decode cL_law 955 = .ok (.iaload, 1) := dk_46 (dk_at dksL_law_35 13 rfl rfl)
theorem dL_law_956 : decode cL_law 956 = .ok (.aload_n 0, 1) := dk_42 (dk_at dksL_law_35 14 rfl rfl)
theorem dL_law_957 : decode cL_law 957 = .ok (.iload_n 3, 1) := dk_29 (dk_at dksL_law_35 15 rfl rfl)
theorem dL_law_958 : decode cL_law 958 = .ok (.iconst 3, 1) := dk_6 (dk_at dksL_law_35 16 rfl rfl)
theorem dL_law_959 : decode cL_law 959 = .ok (.iadd, 1) := dk_96 (dk_at dksL_law_35 17 rfl rfl)
theorem dL_law_960 : decode cL_law 960 = .ok (.iaload, 1) := dk_46 (dk_at dksL_law_35 18 rfl rfl)
theorem dL_law_961 : decode cL_law 961 = .ok (.invokevirtual 126, 3) := dk_182 0 126 (dk_at dksL_law_35 19 rfl rfl)
theorem dL_law_964 : decode cL_law 964 = .ok (.if_icmp .eq 219, 3) := dk_159 0 219 (dk_at dksL_law_36 0 rfl rfl)
theorem dL_law_967 : decode cL_law 967 = .ok (.iconst 0, 1) := dk_3 (dk_at dksL_law_36 3 rfl rfl)
theorem dL_law_968 : decode cL_law 968 = .ok (.ireturn, 1) := dk_172 (dk_at dksL_law_36 4 rfl rfl)
theorem dL_law_969 : decode cL_law 969 = .ok (.aload_n 1, 1) := dk_43 (dk_at dksL_law_36 5 rfl rfl)
theorem dL_law_970 : decode cL_law 970 = .ok (.aload_n 0, 1) := dk_42 (dk_at dksL_law_36 6 rfl rfl)
theorem dL_law_971 : decode cL_law 971 = .ok (.iload_n 3, 1) := dk_29 (dk_at dksL_law_36 7 rfl rfl)
theorem dL_law_972 : decode cL_law 972 = .ok (.iconst 1, 1) := dk_4 (dk_at dksL_law_36 8 rfl rfl)
theorem dL_law_973 : decode cL_law 973 = .ok (.iadd, 1) := dk_96 (dk_at dksL_law_36 9 rfl rfl)
theorem dL_law_974 : decode cL_law 974 = .ok (.iaload, 1) := dk_46 (dk_at dksL_law_36 10 rfl rfl)
theorem dL_law_975 : decode cL_law 975 = .ok (.invokevirtual 127, 3) := dk_182 0 127 (dk_at dksL_law_36 11 rfl rfl)
theorem dL_law_978 : decode cL_law 978 = .ok (.aload_n 2, 1) := dk_44 (dk_at dksL_law_36 14 rfl rfl)
theorem dL_law_979 : decode cL_law 979 = .ok (.aload_n 0, 1) := dk_42 (dk_at dksL_law_36 15 rfl rfl)
theorem dL_law_980 : decode cL_law 980 = .ok (.iload_n 3, 1) := dk_29 (dk_at dksL_law_36 16 rfl rfl)
theorem dL_law_981 : decode cL_law 981 = .ok (.iconst 1, 1) := dk_4 (dk_at dksL_law_36 17 rfl rfl)
theorem dL_law_982 : decode cL_law 982 = .ok (.iadd, 1) := dk_96 (dk_at dksL_law_36 18 rfl rfl)
theorem dL_law_983 : decode cL_law 983 = .ok (.iaload, 1) := dk_46 (dk_at dksL_law_36 19 rfl rfl)
theorem dL_law_984 : decode cL_law 984 = .ok (.invokevirtual 130, 3) := dk_182 0 130 (dk_at dksL_law_36 20 rfl rfl)
theorem dL_law_987 : decode cL_law 987 = .ok (.if_icmp .eq 196, 3) := dk_159 0 196 (dk_at dksL_law_37 0 rfl rfl)
theorem dL_law_990 : decode cL_law 990 = .ok (.iconst 0, 1) := dk_3 (dk_at dksL_law_37 3 rfl rfl)
theorem dL_law_991 : decode cL_law 991 = .ok (.ireturn, 1) := dk_172 (dk_at dksL_law_37 4 rfl rfl)
theorem dL_law_992 : decode cL_law 992 = .ok (.aload_n 1, 1) := dk_43 (dk_at dksL_law_37 5 rfl rfl)
theorem dL_law_993 : decode cL_law 993 = .ok (.aload_n 0, 1) := dk_42 (dk_at dksL_law_37 6 rfl rfl)
theorem dL_law_994 : decode cL_law 994 = .ok (.iload_n 3, 1) := dk_29 (dk_at dksL_law_37 7 rfl rfl)
theorem dL_law_995 : decode cL_law 995 = .ok (.iconst 1, 1) := dk_4 (dk_at dksL_law_37 8 rfl rfl)
theorem dL_law_996 : decode cL_law 996 = .ok (.iadd, 1) := dk_96 (dk_at dksL_law_37 9 rfl rfl)
theorem dL_law_997 : decode cL_law 997 = .ok (.iaload, 1) := dk_46 (dk_at dksL_law_37 10 rfl rfl)
theorem dL_law_998 : decode cL_law 998 = .ok (.aload_n 0, 1) := dk_42 (dk_at dksL_law_37 11 rfl rfl)
theorem dL_law_999 : decode cL_law 999 = .ok (.iload_n 3, 1) := dk_29 (dk_at dksL_law_37 12 rfl rfl)
theorem dL_law_1000 : decode cL_law 1000 = .ok (.iconst 2, 1) := dk_5 (dk_at dksL_law_37 13 rfl rfl)
theorem dL_law_1001 : decode cL_law 1001 = .ok (.iadd, 1) := dk_96 (dk_at dksL_law_37 14 rfl rfl)
theorem dL_law_1002 : decode cL_law 1002 = .ok (.iaload, 1) := dk_46 (dk_at dksL_law_37 15 rfl rfl)
theorem dL_law_1003 : decode cL_law 1003 = .ok (.invokevirtual 131, 3) := dk_182 0 131 (dk_at dksL_law_37 16 rfl rfl)
theorem dL_law_1006 : decode cL_law 1006 = .ok (.aload_n 2, 1) := dk_44 (dk_at dksL_law_37 19 rfl rfl)
theorem dL_law_1007 : decode cL_law 1007 = .ok (.aload_n 0, 1) := dk_42 (dk_at dksL_law_37 20 rfl rfl)
theorem dL_law_1008 : decode cL_law 1008 = .ok (.iload_n 3, 1) := dk_29 (dk_at dksL_law_37 21 rfl rfl)
theorem dL_law_1009 : decode cL_law 1009 = .ok (.iconst 1, 1) := dk_4 (dk_at dksL_law_37 22 rfl rfl)
theorem dL_law_1010 : decode cL_law 1010 = .ok (.iadd, 1) := dk_96 (dk_at dksL_law_37 23 rfl rfl)
theorem dL_law_1011 : decode cL_law 1011 = .ok (.iaload, 1) := dk_46 (dk_at dksL_law_38 0 rfl rfl)
theorem dL_law_1012 : decode cL_law 1012 = .ok (.aload_n 0, 1) := dk_42 (dk_at dksL_law_38 1 rfl rfl)
theorem dL_law_1013 : decode cL_law 1013 = .ok (.iload_n 3, 1) := dk_29 (dk_at dksL_law_38 2 rfl rfl)
theorem dL_law_1014 : decode cL_law 1014 = .ok (.iconst 2, 1) := dk_5 (dk_at dksL_law_38 3 rfl rfl)
theorem dL_law_1015 : decode cL_law 1015 = .ok (.iadd, 1) := dk_96 (dk_at dksL_law_38 4 rfl rfl)
theorem dL_law_1016 : decode cL_law 1016 = .ok (.iaload, 1) := dk_46 (dk_at dksL_law_38 5 rfl rfl)
theorem dL_law_1017 : decode cL_law 1017 = .ok (.invokevirtual 134, 3) := dk_182 0 134 (dk_at dksL_law_38 6 rfl rfl)
theorem dL_law_1020 : decode cL_law 1020 = .ok (.if_icmp .eq 163, 3) := dk_159 0 163 (dk_at dksL_law_38 9 rfl rfl)
theorem dL_law_1023 : decode cL_law 1023 = .ok (.iconst 0, 1) := dk_3 (dk_at dksL_law_38 12 rfl rfl)
theorem dL_law_1024 : decode cL_law 1024 = .ok (.ireturn, 1) := dk_172 (dk_at dksL_law_38 13 rfl rfl)
theorem dL_law_1025 : decode cL_law 1025 = .ok (.aload_n 1, 1) := dk_43 (dk_at dksL_law_38 14 rfl rfl)
theorem dL_law_1026 : decode cL_law 1026 = .ok (.aload_n 0, 1) := dk_42 (dk_at dksL_law_38 15 rfl rfl)
theorem dL_law_1027 : decode cL_law 1027 = .ok (.iload_n 3, 1) := dk_29 (dk_at dksL_law_38 16 rfl rfl)
theorem dL_law_1028 : decode cL_law 1028 = .ok (.iconst 1, 1) := dk_4 (dk_at dksL_law_38 17 rfl rfl)
theorem dL_law_1029 : decode cL_law 1029 = .ok (.iadd, 1) := dk_96 (dk_at dksL_law_38 18 rfl rfl)
theorem dL_law_1030 : decode cL_law 1030 = .ok (.iaload, 1) := dk_46 (dk_at dksL_law_38 19 rfl rfl)
theorem dL_law_1031 : decode cL_law 1031 = .ok (.invokevirtual 135, 3) := dk_182 0 135 (dk_at dksL_law_38 20 rfl rfl)
theorem dL_law_1034 : decode cL_law 1034 = .ok (.aload_n 2, 1) := dk_44 (dk_at dksL_law_38 23 rfl rfl)
theorem dL_law_1035 : decode cL_law 1035 = .ok (.aload_n 0, 1) := dk_42 (dk_at dksL_law_39 0 rfl rfl)
theorem dL_law_1036 : decode cL_law 1036 = .ok (.iload_n 3, 1) := dk_29 (dk_at dksL_law_39 1 rfl rfl)
theorem dL_law_1037 : decode cL_law 1037 = .ok (.iconst 1, 1) := dk_4 (dk_at dksL_law_39 2 rfl rfl)
theorem dL_law_1038 : decode cL_law 1038 = .ok (.iadd, 1) := dk_96 (dk_at dksL_law_39 3 rfl rfl)
theorem dL_law_1039 : decode cL_law 1039 = .ok (.iaload, 1) := dk_46 (dk_at dksL_law_39 4 rfl rfl)
theorem dL_law_1040 : decode cL_law 1040 = .ok (.invokevirtual 138, 3) := dk_182 0 138 (dk_at dksL_law_39 5 rfl rfl)
theorem dL_law_1043 : decode cL_law 1043 = .ok (.if_icmp .eq 140, 3) := dk_159 0 140 (dk_at dksL_law_39 8 rfl rfl)
theorem dL_law_1046 : decode cL_law 1046 = .ok (.iconst 0, 1) := dk_3 (dk_at dksL_law_39 11 rfl rfl)
theorem dL_law_1047 : decode cL_law 1047 = .ok (.ireturn, 1) := dk_172 (dk_at dksL_law_39 12 rfl rfl)
theorem dL_law_1048 : decode cL_law 1048 = .ok (.aload_n 1, 1) := dk_43 (dk_at dksL_law_39 13 rfl rfl)
theorem dL_law_1049 : decode cL_law 1049 = .ok (.aload_n 0, 1) := dk_42 (dk_at dksL_law_39 14 rfl rfl)
theorem dL_law_1050 : decode cL_law 1050 = .ok (.iload_n 3, 1) := dk_29 (dk_at dksL_law_39 15 rfl rfl)
theorem dL_law_1051 : decode cL_law 1051 = .ok (.iconst 1, 1) := dk_4 (dk_at dksL_law_39 16 rfl rfl)
theorem dL_law_1052 : decode cL_law 1052 = .ok (.iadd, 1) := dk_96 (dk_at dksL_law_39 17 rfl rfl)
theorem dL_law_1053 : decode cL_law 1053 = .ok (.iaload, 1) := dk_46 (dk_at dksL_law_39 18 rfl rfl)
theorem dL_law_1054 : decode cL_law 1054 = .ok (.aload_n 0, 1) := dk_42 (dk_at dksL_law_39 19 rfl rfl)
theorem dL_law_1055 : decode cL_law 1055 = .ok (.iload_n 3, 1) := dk_29 (dk_at dksL_law_39 20 rfl rfl)
theorem dL_law_1056 : decode cL_law 1056 = .ok (.iconst 2, 1) := dk_5 (dk_at dksL_law_39 21 rfl rfl)
theorem dL_law_1057 : decode cL_law 1057 = .ok (.iadd, 1) := dk_96 (dk_at dksL_law_39 22 rfl rfl)
theorem dL_law_1058 : decode cL_law 1058 = .ok (.iaload, 1) := dk_46 (dk_at dksL_law_39 23 rfl rfl)
theorem dL_law_1059 : decode cL_law 1059 = .ok (.aload_n 0, 1) := dk_42 (dk_at dksL_law_40 0 rfl rfl)
theorem dL_law_1060 : decode cL_law 1060 = .ok (.iload_n 3, 1) := dk_29 (dk_at dksL_law_40 1 rfl rfl)
theorem dL_law_1061 : decode cL_law 1061 = .ok (.iconst 3, 1) := dk_6 (dk_at dksL_law_40 2 rfl rfl)
theorem dL_law_1062 : decode cL_law 1062 = .ok (.iadd, 1) := dk_96 (dk_at dksL_law_40 3 rfl rfl)
theorem dL_law_1063 : decode cL_law 1063 = .ok (.iaload, 1) := dk_46 (dk_at dksL_law_40 4 rfl rfl)
theorem dL_law_1064 : decode cL_law 1064 = .ok (.aload_n 0, 1) := dk_42 (dk_at dksL_law_40 5 rfl rfl)
theorem dL_law_1065 : decode cL_law 1065 = .ok (.iload_n 3, 1) := dk_29 (dk_at dksL_law_40 6 rfl rfl)
theorem dL_law_1066 : decode cL_law 1066 = .ok (.iconst 4, 1) := dk_7 (dk_at dksL_law_40 7 rfl rfl)
theorem dL_law_1067 : decode cL_law 1067 = .ok (.iadd, 1) := dk_96 (dk_at dksL_law_40 8 rfl rfl)
theorem dL_law_1068 : decode cL_law 1068 = .ok (.iaload, 1) := dk_46 (dk_at dksL_law_40 9 rfl rfl)
theorem dL_law_1069 : decode cL_law 1069 = .ok (.invokevirtual 139, 3) := dk_182 0 139 (dk_at dksL_law_40 10 rfl rfl)
theorem dL_law_1072 : decode cL_law 1072 = .ok (.aload_n 2, 1) := dk_44 (dk_at dksL_law_40 13 rfl rfl)
theorem dL_law_1073 : decode cL_law 1073 = .ok (.aload_n 0, 1) := dk_42 (dk_at dksL_law_40 14 rfl rfl)
theorem dL_law_1074 : decode cL_law 1074 = .ok (.iload_n 3, 1) := dk_29 (dk_at dksL_law_40 15 rfl rfl)
theorem dL_law_1075 : decode cL_law 1075 = .ok (.iconst 1, 1) := dk_4 (dk_at dksL_law_40 16 rfl rfl)
theorem dL_law_1076 : decode cL_law 1076 = .ok (.iadd, 1) := dk_96 (dk_at dksL_law_40 17 rfl rfl)
theorem dL_law_1077 : decode cL_law 1077 = .ok (.iaload, 1) := dk_46 (dk_at dksL_law_40 18 rfl rfl)
theorem dL_law_1078 : decode cL_law 1078 = .ok (.aload_n 0, 1) := dk_42 (dk_at dksL_law_40 19 rfl rfl)
theorem dL_law_1079 : decode cL_law 1079 = .ok (.iload_n 3, 1) := dk_29 (dk_at dksL_law_40 20 rfl rfl)
theorem dL_law_1080 : decode cL_law 1080 = .ok (.iconst 2, 1) := dk_5 (dk_at dksL_law_40 21 rfl rfl)
theorem dL_law_1081 : decode cL_law 1081 = .ok (.iadd, 1) := dk_96 (dk_at dksL_law_40 22 rfl rfl)
theorem dL_law_1082 : decode cL_law 1082 = .ok (.iaload, 1) := dk_46 (dk_at dksL_law_40 23 rfl rfl)
theorem dL_law_1083 : decode cL_law 1083 = .ok (.aload_n 0, 1) := dk_42 (dk_at dksL_law_41 0 rfl rfl)
theorem dL_law_1084 : decode cL_law 1084 = .ok (.iload_n 3, 1) := dk_29 (dk_at dksL_law_41 1 rfl rfl)
theorem dL_law_1085 : decode cL_law 1085 = .ok (.iconst 3, 1) := dk_6 (dk_at dksL_law_41 2 rfl rfl)
theorem dL_law_1086 : decode cL_law 1086 = .ok (.iadd, 1) := dk_96 (dk_at dksL_law_41 3 rfl rfl)
theorem dL_law_1087 : decode cL_law 1087 = .ok (.iaload, 1) := dk_46 (dk_at dksL_law_41 4 rfl rfl)
theorem dL_law_1088 : decode cL_law 1088 = .ok (.aload_n 0, 1) := dk_42 (dk_at dksL_law_41 5 rfl rfl)
theorem dL_law_1089 : decode cL_law 1089 = .ok (.iload_n 3, 1) := dk_29 (dk_at dksL_law_41 6 rfl rfl)
theorem dL_law_1090 : decode cL_law 1090 = .ok (.iconst 4, 1) := dk_7 (dk_at dksL_law_41 7 rfl rfl)
theorem dL_law_1091 : decode cL_law 1091 = .ok (.iadd, 1) := dk_96 (dk_at dksL_law_41 8 rfl rfl)
theorem dL_law_1092 : decode cL_law 1092 = .ok (.iaload, 1) := dk_46 (dk_at dksL_law_41 9 rfl rfl)
theorem dL_law_1093 : decode cL_law 1093 = .ok (.invokevirtual 142, 3) := dk_182 0 142 (dk_at dksL_law_41 10 rfl rfl)
theorem dL_law_1096 : decode cL_law 1096 = .ok (.if_icmp .eq 87, 3) := dk_159 0 87 (dk_at dksL_law_41 13 rfl rfl)
theorem dL_law_1099 : decode cL_law 1099 = .ok (.iconst 0, 1) := dk_3 (dk_at dksL_law_41 16 rfl rfl)
theorem dL_law_1100 : decode cL_law 1100 = .ok (.ireturn, 1) := dk_172 (dk_at dksL_law_41 17 rfl rfl)
theorem dL_law_1101 : decode cL_law 1101 = .ok (.aload_n 1, 1) := dk_43 (dk_at dksL_law_41 18 rfl rfl)
theorem dL_law_1102 : decode cL_law 1102 = .ok (.aload_n 0, 1) := dk_42 (dk_at dksL_law_41 19 rfl rfl)
theorem dL_law_1103 : decode cL_law 1103 = .ok (.iload_n 3, 1) := dk_29 (dk_at dksL_law_41 20 rfl rfl)
theorem dL_law_1104 : decode cL_law 1104 = .ok (.iconst 1, 1) := dk_4 (dk_at dksL_law_41 21 rfl rfl)
theorem dL_law_1105 : decode cL_law 1105 = .ok (.iadd, 1) := dk_96 (dk_at dksL_law_41 22 rfl rfl)
theorem dL_law_1106 : decode cL_law 1106 = .ok (.iaload, 1) := dk_46 (dk_at dksL_law_41 23 rfl rfl)
theorem dL_law_1107 : decode cL_law 1107 = .ok (.invokevirtual 143, 3) := dk_182 0 143 (dk_at dksL_law_42 0 rfl rfl)
theorem dL_law_1110 : decode cL_law 1110 = .ok (.aload_n 2, 1) := dk_44 (dk_at dksL_law_42 3 rfl rfl)
theorem dL_law_1111 : decode cL_law 1111 = .ok (.aload_n 0, 1) := dk_42 (dk_at dksL_law_42 4 rfl rfl)
theorem dL_law_1112 : decode cL_law 1112 = .ok (.iload_n 3, 1) := dk_29 (dk_at dksL_law_42 5 rfl rfl)
theorem dL_law_1113 : decode cL_law 1113 = .ok (.iconst 1, 1) := dk_4 (dk_at dksL_law_42 6 rfl rfl)
theorem dL_law_1114 : decode cL_law 1114 = .ok (.iadd, 1) := dk_96 (dk_at dksL_law_42 7 rfl rfl)
theorem dL_law_1115 : decode cL_law 1115 = .ok (.iaload, 1) := dk_46 (dk_at dksL_law_42 8 rfl rfl)
theorem dL_law_1116 : decode cL_law 1116 = .ok (.invokevirtual 146, 3) := dk_182 0 146 (dk_at dksL_law_42 9 rfl rfl)
theorem dL_law_1119 : decode cL_law 1119 = .ok (.if_icmp .eq 64, 3) := dk_159 0 64 (dk_at dksL_law_42 12 rfl rfl)
theorem dL_law_1122 : decode cL_law 1122 = .ok (.iconst 0, 1) := dk_3 (dk_at dksL_law_42 15 rfl rfl)
theorem dL_law_1123 : decode cL_law 1123 = .ok (.ireturn, 1) := dk_172 (dk_at dksL_law_42 16 rfl rfl)
theorem dL_law_1124 : decode cL_law 1124 = .ok (.aload_n 1, 1) := dk_43 (dk_at dksL_law_42 17 rfl rfl)
theorem dL_law_1125 : decode cL_law 1125 = .ok (.invokevirtual 147, 3) := dk_182 0 147 (dk_at dksL_law_42 18 rfl rfl)
theorem dL_law_1128 : decode cL_law 1128 = .ok (.aload_n 2, 1) := dk_44 (dk_at dksL_law_42 21 rfl rfl)
theorem dL_law_1129 : decode cL_law 1129 = .ok (.invokevirtual 150, 3) := dk_182 0 150 (dk_at dksL_law_43 0 rfl rfl)
theorem dL_law_1132 : decode cL_law 1132 = .ok (.if_icmp .eq 51, 3) := dk_159 0 51 (dk_at dksL_law_43 3 rfl rfl)
theorem dL_law_1135 : decode cL_law 1135 = .ok (.iconst 0, 1) := dk_3 (dk_at dksL_law_43 6 rfl rfl)
theorem dL_law_1136 : decode cL_law 1136 = .ok (.ireturn, 1) := dk_172 (dk_at dksL_law_43 7 rfl rfl)
theorem dL_law_1137 : decode cL_law 1137 = .ok (.aload_n 1, 1) := dk_43 (dk_at dksL_law_43 8 rfl rfl)
theorem dL_law_1138 : decode cL_law 1138 = .ok (.aload_n 0, 1) := dk_42 (dk_at dksL_law_43 9 rfl rfl)
theorem dL_law_1139 : decode cL_law 1139 = .ok (.iload_n 3, 1) := dk_29 (dk_at dksL_law_43 10 rfl rfl)
theorem dL_law_1140 : decode cL_law 1140 = .ok (.iconst 1, 1) := dk_4 (dk_at dksL_law_43 11 rfl rfl)
theorem dL_law_1141 : decode cL_law 1141 = .ok (.iadd, 1) := dk_96 (dk_at dksL_law_43 12 rfl rfl)
theorem dL_law_1142 : decode cL_law 1142 = .ok (.iaload, 1) := dk_46 (dk_at dksL_law_43 13 rfl rfl)
theorem dL_law_1143 : decode cL_law 1143 = .ok (.invokevirtual 151, 3) := dk_182 0 151 (dk_at dksL_law_43 14 rfl rfl)
theorem dL_law_1146 : decode cL_law 1146 = .ok (.aload_n 2, 1) := dk_44 (dk_at dksL_law_43 17 rfl rfl)
theorem dL_law_1147 : decode cL_law 1147 = .ok (.aload_n 0, 1) := dk_42 (dk_at dksL_law_43 18 rfl rfl)
theorem dL_law_1148 : decode cL_law 1148 = .ok (.iload_n 3, 1) := dk_29 (dk_at dksL_law_43 19 rfl rfl)
theorem dL_law_1149 : decode cL_law 1149 = .ok (.iconst 1, 1) := dk_4 (dk_at dksL_law_43 20 rfl rfl)
theorem dL_law_1150 : decode cL_law 1150 = .ok (.iadd, 1) := dk_96 (dk_at dksL_law_43 21 rfl rfl)
theorem dL_law_1151 : decode cL_law 1151 = .ok (.iaload, 1) := dk_46 (dk_at dksL_law_43 22 rfl rfl)
theorem dL_law_1152 : decode cL_law 1152 = .ok (.invokevirtual 154, 3) := dk_182 0 154 (dk_at dksL_law_44 0 rfl rfl)
theorem dL_law_1155 : decode cL_law 1155 = .ok (.if_icmp .eq 28, 3) := dk_159 0 28 (dk_at dksL_law_44 3 rfl rfl)
theorem dL_law_1158 : decode cL_law 1158 = .ok (.iconst 0, 1) := dk_3 (dk_at dksL_law_44 6 rfl rfl)
theorem dL_law_1159 : decode cL_law 1159 = .ok (.ireturn, 1) := dk_172 (dk_at dksL_law_44 7 rfl rfl)
theorem dL_law_1160 : decode cL_law 1160 = .ok (.aload_n 1, 1) := dk_43 (dk_at dksL_law_44 8 rfl rfl)
theorem dL_law_1161 : decode cL_law 1161 = .ok (.aload_n 0, 1) := dk_42 (dk_at dksL_law_44 9 rfl rfl)
theorem dL_law_1162 : decode cL_law 1162 = .ok (.iload_n 3, 1) := dk_29 (dk_at dksL_law_44 10 rfl rfl)
theorem dL_law_1163 : decode cL_law 1163 = .ok (.iconst 1, 1) := dk_4 (dk_at dksL_law_44 11 rfl rfl)
theorem dL_law_1164 : decode cL_law 1164 = .ok (.iadd, 1) := dk_96 (dk_at dksL_law_44 12 rfl rfl)
theorem dL_law_1165 : decode cL_law 1165 = .ok (.iaload, 1) := dk_46 (dk_at dksL_law_44 13 rfl rfl)
theorem dL_law_1166 : decode cL_law 1166 = .ok (.invokevirtual 155, 3) := dk_182 0 155 (dk_at dksL_law_44 14 rfl rfl)
theorem dL_law_1169 : decode cL_law 1169 = .ok (.aload_n 2, 1) := dk_44 (dk_at dksL_law_44 17 rfl rfl)
theorem dL_law_1170 : decode cL_law 1170 = .ok (.aload_n 0, 1) := dk_42 (dk_at dksL_law_44 18 rfl rfl)
theorem dL_law_1171 : decode cL_law 1171 = .ok (.iload_n 3, 1) := dk_29 (dk_at dksL_law_44 19 rfl rfl)
theorem dL_law_1172 : decode cL_law 1172 = .ok (.iconst 1, 1) := dk_4 (dk_at dksL_law_44 20 rfl rfl)
theorem dL_law_1173 : decode cL_law 1173 = .ok (.iadd, 1) := dk_96 (dk_at dksL_law_44 21 rfl rfl)
theorem dL_law_1174 : decode cL_law 1174 = .ok (.iaload, 1) := dk_46 (dk_at dksL_law_44 22 rfl rfl)
theorem dL_law_1175 : decode cL_law 1175 = .ok (.invokevirtual 158, 3) := dk_182 0 158 (dk_at dksL_law_45 0 rfl rfl)
theorem dL_law_1178 : decode cL_law 1178 = .ok (.if_icmp .eq 5, 3) := dk_159 0 5 (dk_at dksL_law_45 3 rfl rfl)
theorem dL_law_1181 : decode cL_law 1181 = .ok (.iconst 0, 1) := dk_3 (dk_at dksL_law_45 6 rfl rfl)
theorem dL_law_1182 : decode cL_law 1182 = .ok (.ireturn, 1) := dk_172 (dk_at dksL_law_45 7 rfl rfl)
theorem dL_law_1183 : decode cL_law 1183 = .ok (.iinc 3 6, 3) := dk_132 3 6 (dk_at dksL_law_45 8 rfl rfl)
theorem dL_law_1186 : decode cL_law 1186 = .ok (.goto (-1168), 3) := dk_167 251 112 (dk_at dksL_law_45 11 rfl rfl)
theorem dL_law_1189 : decode cL_law 1189 = .ok (.iconst 1, 1) := dk_4 (dk_at dksL_law_45 14 rfl rfl)
theorem dL_law_1190 : decode cL_law 1190 = .ok (.ireturn, 1) := dk_172 (dk_at dksL_law_45 15 rfl rfl)
