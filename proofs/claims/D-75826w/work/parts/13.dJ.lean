set_option maxRecDepth 100000
def dkwJ2_init_2 : List UInt8 := [182, 0, 25, 27, 182, 0, 29, 182, 0, 32, 183, 0, 36, 191, 177]
abbrev dktJ2_init_2 : List UInt8 := dkwJ2_init_2 ++ []
def dkwJ2_init_1 : List UInt8 := [178, 0, 15, 181, 0, 9, 167, 0, 30, 187, 0, 18, 89, 187, 0, 20, 89, 183, 0, 22, 18, 23]
abbrev dktJ2_init_1 : List UInt8 := dkwJ2_init_1 ++ dktJ2_init_2
def dkwJ2_init_0 : List UInt8 := [42, 183, 0, 1, 27, 158, 0, 14, 42, 27, 189, 0, 7, 181, 0, 9, 167, 0, 44, 27, 154, 0, 13, 42]
abbrev dktJ2_init_0 : List UInt8 := dkwJ2_init_0 ++ dktJ2_init_1
theorem dksJ2_init_0 : cJ2_init.data.toList.drop 0 = dktJ2_init_0 := by decide +kernel
theorem dksJ2_init_1 : cJ2_init.data.toList.drop 24 = dktJ2_init_1 := dk_seg dksJ2_init_0 24 rfl rfl
theorem dksJ2_init_2 : cJ2_init.data.toList.drop 46 = dktJ2_init_2 := dk_seg dksJ2_init_1 22 rfl rfl
theorem dJ2_init_0 : decode cJ2_init 0 = .ok (.aload_n 0, 1) := dk_42 (dk_at dksJ2_init_0 0 rfl rfl)
theorem dJ2_init_1 : decode cJ2_init 1 = .ok (.invokespecial 1, 3) := dk_183 0 1 (dk_at dksJ2_init_0 1 rfl rfl)
theorem dJ2_init_4 : decode cJ2_init 4 = .ok (.iload_n 1, 1) := dk_27 (dk_at dksJ2_init_0 4 rfl rfl)
theorem dJ2_init_5 : decode cJ2_init 5 = .ok (.ifCond .le 14, 3) := dk_158 0 14 (dk_at dksJ2_init_0 5 rfl rfl)
theorem dJ2_init_8 : decode cJ2_init 8 = .ok (.aload_n 0, 1) := dk_42 (dk_at dksJ2_init_0 8 rfl rfl)
theorem dJ2_init_9 : decode cJ2_init 9 = .ok (.iload_n 1, 1) := dk_27 (dk_at dksJ2_init_0 9 rfl rfl)
theorem dJ2_init_10 : decode cJ2_init 10 = .ok (.anewarray 7, 3) := dk_189 0 7 (dk_at dksJ2_init_0 10 rfl rfl)
theorem dJ2_init_13 : decode cJ2_init 13 = .ok (.putfield 9, 3) := dk_181 0 9 (dk_at dksJ2_init_0 13 rfl rfl)
theorem dJ2_init_16 : decode cJ2_init 16 = .ok (.goto 44, 3) := dk_167 0 44 (dk_at dksJ2_init_0 16 rfl rfl)
theorem dJ2_init_19 : decode cJ2_init 19 = .ok (.iload_n 1, 1) := dk_27 (dk_at dksJ2_init_0 19 rfl rfl)
theorem dJ2_init_20 : decode cJ2_init 20 = .ok (.ifCond .ne 13, 3) := dk_154 0 13 (dk_at dksJ2_init_0 20 rfl rfl)
theorem dJ2_init_23 : decode cJ2_init 23 = .ok (.aload_n 0, 1) := dk_42 (dk_at dksJ2_init_0 23 rfl rfl)
theorem dJ2_init_24 : decode cJ2_init 24 = .ok (.getstatic 15, 3) := dk_178 0 15 (dk_at dksJ2_init_1 0 rfl rfl)
theorem dJ2_init_27 : decode cJ2_init 27 = .ok (.putfield 9, 3) := dk_181 0 9 (dk_at dksJ2_init_1 3 rfl rfl)
theorem dJ2_init_30 : decode cJ2_init 30 = .ok (.goto 30, 3) := dk_167 0 30 (dk_at dksJ2_init_1 6 rfl rfl)
theorem dJ2_init_33 : decode cJ2_init 33 = .ok (.new 18, 3) := dk_187 0 18 (dk_at dksJ2_init_1 9 rfl rfl)
theorem dJ2_init_36 : decode cJ2_init 36 = .ok (.dup, 1) := dk_89 (dk_at dksJ2_init_1 12 rfl rfl)
theorem dJ2_init_37 : decode cJ2_init 37 = .ok (.new 20, 3) := dk_187 0 20 (dk_at dksJ2_init_1 13 rfl rfl)
theorem dJ2_init_40 : decode cJ2_init 40 = .ok (.dup, 1) := dk_89 (dk_at dksJ2_init_1 16 rfl rfl)
theorem dJ2_init_41 : decode cJ2_init 41 = .ok (.invokespecial 22, 3) := dk_183 0 22 (dk_at dksJ2_init_1 17 rfl rfl)
theorem dJ2_init_44 : decode cJ2_init 44 = .ok (.ldc 23, 2) := dk_18 23 (dk_at dksJ2_init_1 20 rfl rfl)
theorem dJ2_init_46 : decode cJ2_init 46 = .ok (.invokevirtual 25, 3) := dk_182 0 25 (dk_at dksJ2_init_2 0 rfl rfl)
theorem dJ2_init_49 : decode cJ2_init 49 = .ok (.iload_n 1, 1) := dk_27 (dk_at dksJ2_init_2 3 rfl rfl)
theorem dJ2_init_50 : decode cJ2_init 50 = .ok (.invokevirtual 29, 3) := dk_182 0 29 (dk_at dksJ2_init_2 4 rfl rfl)
theorem dJ2_init_53 : decode cJ2_init 53 = .ok (.invokevirtual 32, 3) := dk_182 0 32 (dk_at dksJ2_init_2 7 rfl rfl)
theorem dJ2_init_56 : decode cJ2_init 56 = .ok (.invokespecial 36, 3) := dk_183 0 36 (dk_at dksJ2_init_2 10 rfl rfl)
theorem dJ2_init_59 : decode cJ2_init 59 = .ok (.athrow, 1) := dk_191 (dk_at dksJ2_init_2 13 rfl rfl)
theorem dJ2_init_60 : decode cJ2_init 60 = .ok (.return_, 1) := dk_177 (dk_at dksJ2_init_2 14 rfl rfl)
theorem dJ2_size_0 : decode cJ2_size 0 = .ok (.aload_n 0, 1) := by decide +kernel
theorem dJ2_size_1 : decode cJ2_size 1 = .ok (.getfield 48, 3) := by decide +kernel
theorem dJ2_size_4 : decode cJ2_size 4 = .ok (.ireturn, 1) := by decide +kernel
def dkwJ2_get_0 : List UInt8 := [27, 42, 180, 0, 48, 184, 0, 118, 87, 42, 27, 182, 0, 123, 176]
abbrev dktJ2_get_0 : List UInt8 := dkwJ2_get_0 ++ []
theorem dksJ2_get_0 : cJ2_get.data.toList.drop 0 = dktJ2_get_0 := by decide +kernel
theorem dJ2_get_0 : decode cJ2_get 0 = .ok (.iload_n 1, 1) := dk_27 (dk_at dksJ2_get_0 0 rfl rfl)
theorem dJ2_get_1 : decode cJ2_get 1 = .ok (.aload_n 0, 1) := dk_42 (dk_at dksJ2_get_0 1 rfl rfl)
theorem dJ2_get_2 : decode cJ2_get 2 = .ok (.getfield 48, 3) := dk_180 0 48 (dk_at dksJ2_get_0 2 rfl rfl)
theorem dJ2_get_5 : decode cJ2_get 5 = .ok (.invokestatic 118, 3) := dk_184 0 118 (dk_at dksJ2_get_0 5 rfl rfl)
theorem dJ2_get_8 : decode cJ2_get 8 = .ok (.pop, 1) := dk_87 (dk_at dksJ2_get_0 8 rfl rfl)
theorem dJ2_get_9 : decode cJ2_get 9 = .ok (.aload_n 0, 1) := dk_42 (dk_at dksJ2_get_0 9 rfl rfl)
theorem dJ2_get_10 : decode cJ2_get 10 = .ok (.iload_n 1, 1) := dk_27 (dk_at dksJ2_get_0 10 rfl rfl)
theorem dJ2_get_11 : decode cJ2_get 11 = .ok (.invokevirtual 123, 3) := dk_182 0 123 (dk_at dksJ2_get_0 11 rfl rfl)
theorem dJ2_get_14 : decode cJ2_get 14 = .ok (.areturn, 1) := dk_176 (dk_at dksJ2_get_0 14 rfl rfl)
def dkwJ2_elementData_0 : List UInt8 := [42, 180, 0, 9, 27, 50, 176]
abbrev dktJ2_elementData_0 : List UInt8 := dkwJ2_elementData_0 ++ []
theorem dksJ2_elementData_0 : cJ2_elementData.data.toList.drop 0 = dktJ2_elementData_0 := by decide +kernel
theorem dJ2_elementData_0 : decode cJ2_elementData 0 = .ok (.aload_n 0, 1) := dk_42 (dk_at dksJ2_elementData_0 0 rfl rfl)
theorem dJ2_elementData_1 : decode cJ2_elementData 1 = .ok (.getfield 9, 3) := dk_180 0 9 (dk_at dksJ2_elementData_0 1 rfl rfl)
theorem dJ2_elementData_4 : decode cJ2_elementData 4 = .ok (.iload_n 1, 1) := dk_27 (dk_at dksJ2_elementData_0 4 rfl rfl)
theorem dJ2_elementData_5 : decode cJ2_elementData 5 = .ok (.aaload, 1) := dk_50 (dk_at dksJ2_elementData_0 5 rfl rfl)
theorem dJ2_elementData_6 : decode cJ2_elementData 6 = .ok (.areturn, 1) := dk_176 (dk_at dksJ2_elementData_0 6 rfl rfl)
def dkwJ2_add_1 : List UInt8 := [172]
abbrev dktJ2_add_1 : List UInt8 := dkwJ2_add_1 ++ []
def dkwJ2_add_0 : List UInt8 := [42, 89, 180, 0, 63, 4, 96, 181, 0, 63, 42, 43, 42, 180, 0, 9, 42, 180, 0, 48, 182, 0, 131, 4]
abbrev dktJ2_add_0 : List UInt8 := dkwJ2_add_0 ++ dktJ2_add_1
theorem dksJ2_add_0 : cJ2_add.data.toList.drop 0 = dktJ2_add_0 := by decide +kernel
theorem dksJ2_add_1 : cJ2_add.data.toList.drop 24 = dktJ2_add_1 := dk_seg dksJ2_add_0 24 rfl rfl
theorem dJ2_add_0 : decode cJ2_add 0 = .ok (.aload_n 0, 1) := dk_42 (dk_at dksJ2_add_0 0 rfl rfl)
theorem dJ2_add_1 : decode cJ2_add 1 = .ok (.dup, 1) := dk_89 (dk_at dksJ2_add_0 1 rfl rfl)
theorem dJ2_add_2 : decode cJ2_add 2 = .ok (.getfield 63, 3) := dk_180 0 63 (dk_at dksJ2_add_0 2 rfl rfl)
theorem dJ2_add_5 : decode cJ2_add 5 = .ok (.iconst 1, 1) := dk_4 (dk_at dksJ2_add_0 5 rfl rfl)
theorem dJ2_add_6 : decode cJ2_add 6 = .ok (.iadd, 1) := dk_96 (dk_at dksJ2_add_0 6 rfl rfl)
theorem dJ2_add_7 : decode cJ2_add 7 = .ok (.putfield 63, 3) := dk_181 0 63 (dk_at dksJ2_add_0 7 rfl rfl)
theorem dJ2_add_10 : decode cJ2_add 10 = .ok (.aload_n 0, 1) := dk_42 (dk_at dksJ2_add_0 10 rfl rfl)
theorem dJ2_add_11 : decode cJ2_add 11 = .ok (.aload_n 1, 1) := dk_43 (dk_at dksJ2_add_0 11 rfl rfl)
theorem dJ2_add_12 : decode cJ2_add 12 = .ok (.aload_n 0, 1) := dk_42 (dk_at dksJ2_add_0 12 rfl rfl)
theorem dJ2_add_13 : decode cJ2_add 13 = .ok (.getfield 9, 3) := dk_180 0 9 (dk_at dksJ2_add_0 13 rfl rfl)
theorem dJ2_add_16 : decode cJ2_add 16 = .ok (.aload_n 0, 1) := dk_42 (dk_at dksJ2_add_0 16 rfl rfl)
theorem dJ2_add_17 : decode cJ2_add 17 = .ok (.getfield 48, 3) := dk_180 0 48 (dk_at dksJ2_add_0 17 rfl rfl)
theorem dJ2_add_20 : decode cJ2_add 20 = .ok (.invokevirtual 131, 3) := dk_182 0 131 (dk_at dksJ2_add_0 20 rfl rfl)
theorem dJ2_add_23 : decode cJ2_add 23 = .ok (.iconst 1, 1) := dk_4 (dk_at dksJ2_add_0 23 rfl rfl)
theorem dJ2_add_24 : decode cJ2_add 24 = .ok (.ireturn, 1) := dk_172 (dk_at dksJ2_add_1 0 rfl rfl)
def dkwJ2_add_2_0 : List UInt8 := [29, 44, 190, 160, 0, 8, 42, 182, 0, 129, 77, 44, 29, 43, 83, 42, 29, 4, 96, 181, 0, 48, 177]
abbrev dktJ2_add_2_0 : List UInt8 := dkwJ2_add_2_0 ++ []
theorem dksJ2_add_2_0 : cJ2_add_2.data.toList.drop 0 = dktJ2_add_2_0 := by decide +kernel
theorem dJ2_add_2_0 : decode cJ2_add_2 0 = .ok (.iload_n 3, 1) := dk_29 (dk_at dksJ2_add_2_0 0 rfl rfl)
theorem dJ2_add_2_1 : decode cJ2_add_2 1 = .ok (.aload_n 2, 1) := dk_44 (dk_at dksJ2_add_2_0 1 rfl rfl)
theorem dJ2_add_2_2 : decode cJ2_add_2 2 = .ok (.arraylength, 1) := dk_190 (dk_at dksJ2_add_2_0 2 rfl rfl)
theorem dJ2_add_2_3 : decode cJ2_add_2 3 = .ok (.if_icmp .ne 8, 3) := dk_160 0 8 (dk_at dksJ2_add_2_0 3 rfl rfl)
theorem dJ2_add_2_6 : decode cJ2_add_2 6 = .ok (.aload_n 0, 1) := dk_42 (dk_at dksJ2_add_2_0 6 rfl rfl)
theorem dJ2_add_2_7 : decode cJ2_add_2 7 = .ok (.invokevirtual 129, 3) := dk_182 0 129 (dk_at dksJ2_add_2_0 7 rfl rfl)
theorem dJ2_add_2_10 : decode cJ2_add_2 10 = .ok (.astore_n 2, 1) := dk_77 (dk_at dksJ2_add_2_0 10 rfl rfl)
theorem dJ2_add_2_11 : decode cJ2_add_2 11 = .ok (.aload_n 2, 1) := dk_44 (dk_at dksJ2_add_2_0 11 rfl rfl)
theorem dJ2_add_2_12 : decode cJ2_add_2 12 = .ok (.iload_n 3, 1) := dk_29 (dk_at dksJ2_add_2_0 12 rfl rfl)
theorem dJ2_add_2_13 : decode cJ2_add_2 13 = .ok (.aload_n 1, 1) := dk_43 (dk_at dksJ2_add_2_0 13 rfl rfl)
theorem dJ2_add_2_14 : decode cJ2_add_2 14 = .ok (.aastore, 1) := dk_83 (dk_at dksJ2_add_2_0 14 rfl rfl)
theorem dJ2_add_2_15 : decode cJ2_add_2 15 = .ok (.aload_n 0, 1) := dk_42 (dk_at dksJ2_add_2_0 15 rfl rfl)
theorem dJ2_add_2_16 : decode cJ2_add_2 16 = .ok (.iload_n 3, 1) := dk_29 (dk_at dksJ2_add_2_0 16 rfl rfl)
theorem dJ2_add_2_17 : decode cJ2_add_2 17 = .ok (.iconst 1, 1) := dk_4 (dk_at dksJ2_add_2_0 17 rfl rfl)
theorem dJ2_add_2_18 : decode cJ2_add_2 18 = .ok (.iadd, 1) := dk_96 (dk_at dksJ2_add_2_0 18 rfl rfl)
theorem dJ2_add_2_19 : decode cJ2_add_2 19 = .ok (.putfield 48, 3) := dk_181 0 48 (dk_at dksJ2_add_2_0 19 rfl rfl)
theorem dJ2_add_2_22 : decode cJ2_add_2 22 = .ok (.return_, 1) := dk_177 (dk_at dksJ2_add_2_0 22 rfl rfl)
def dkwJ2_grow_0 : List UInt8 := [42, 42, 180, 0, 48, 4, 96, 182, 0, 69, 176]
abbrev dktJ2_grow_0 : List UInt8 := dkwJ2_grow_0 ++ []
theorem dksJ2_grow_0 : cJ2_grow.data.toList.drop 0 = dktJ2_grow_0 := by decide +kernel
theorem dJ2_grow_0 : decode cJ2_grow 0 = .ok (.aload_n 0, 1) := dk_42 (dk_at dksJ2_grow_0 0 rfl rfl)
theorem dJ2_grow_1 : decode cJ2_grow 1 = .ok (.aload_n 0, 1) := dk_42 (dk_at dksJ2_grow_0 1 rfl rfl)
theorem dJ2_grow_2 : decode cJ2_grow 2 = .ok (.getfield 48, 3) := dk_180 0 48 (dk_at dksJ2_grow_0 2 rfl rfl)
theorem dJ2_grow_5 : decode cJ2_grow 5 = .ok (.iconst 1, 1) := dk_4 (dk_at dksJ2_grow_0 5 rfl rfl)
theorem dJ2_grow_6 : decode cJ2_grow 6 = .ok (.iadd, 1) := dk_96 (dk_at dksJ2_grow_0 6 rfl rfl)
theorem dJ2_grow_7 : decode cJ2_grow 7 = .ok (.invokevirtual 69, 3) := dk_182 0 69 (dk_at dksJ2_grow_0 7 rfl rfl)
theorem dJ2_grow_10 : decode cJ2_grow 10 = .ok (.areturn, 1) := dk_176 (dk_at dksJ2_grow_0 10 rfl rfl)
def dkwJ2_grow_2_2 : List UInt8 := [27, 184, 0, 79, 189, 0, 7, 90, 181, 0, 9, 176]
abbrev dktJ2_grow_2_2 : List UInt8 := dkwJ2_grow_2_2 ++ []
def dkwJ2_grow_2_1 : List UInt8 := [28, 4, 122, 184, 0, 73, 62, 42, 42, 180, 0, 9, 29, 184, 0, 66, 90, 181, 0, 9, 176, 42, 16, 10]
abbrev dktJ2_grow_2_1 : List UInt8 := dkwJ2_grow_2_1 ++ dktJ2_grow_2_2
def dkwJ2_grow_2_0 : List UInt8 := [42, 180, 0, 9, 190, 61, 28, 157, 0, 13, 42, 180, 0, 9, 178, 0, 39, 165, 0, 28, 28, 27, 28, 100]
abbrev dktJ2_grow_2_0 : List UInt8 := dkwJ2_grow_2_0 ++ dktJ2_grow_2_1
theorem dksJ2_grow_2_0 : cJ2_grow_2.data.toList.drop 0 = dktJ2_grow_2_0 := by decide +kernel
theorem dksJ2_grow_2_1 : cJ2_grow_2.data.toList.drop 24 = dktJ2_grow_2_1 := dk_seg dksJ2_grow_2_0 24 rfl rfl
theorem dksJ2_grow_2_2 : cJ2_grow_2.data.toList.drop 48 = dktJ2_grow_2_2 := dk_seg dksJ2_grow_2_1 24 rfl rfl
theorem dJ2_grow_2_0 : decode cJ2_grow_2 0 = .ok (.aload_n 0, 1) := dk_42 (dk_at dksJ2_grow_2_0 0 rfl rfl)
theorem dJ2_grow_2_1 : decode cJ2_grow_2 1 = .ok (.getfield 9, 3) := dk_180 0 9 (dk_at dksJ2_grow_2_0 1 rfl rfl)
theorem dJ2_grow_2_4 : decode cJ2_grow_2 4 = .ok (.arraylength, 1) := dk_190 (dk_at dksJ2_grow_2_0 4 rfl rfl)
theorem dJ2_grow_2_5 : decode cJ2_grow_2 5 = .ok (.istore_n 2, 1) := dk_61 (dk_at dksJ2_grow_2_0 5 rfl rfl)
theorem dJ2_grow_2_6 : decode cJ2_grow_2 6 = .ok (.iload_n 2, 1) := dk_28 (dk_at dksJ2_grow_2_0 6 rfl rfl)
theorem dJ2_grow_2_7 : decode cJ2_grow_2 7 = .ok (.ifCond .gt 13, 3) := dk_157 0 13 (dk_at dksJ2_grow_2_0 7 rfl rfl)
theorem dJ2_grow_2_10 : decode cJ2_grow_2 10 = .ok (.aload_n 0, 1) := dk_42 (dk_at dksJ2_grow_2_0 10 rfl rfl)
theorem dJ2_grow_2_11 : decode cJ2_grow_2 11 = .ok (.getfield 9, 3) := dk_180 0 9 (dk_at dksJ2_grow_2_0 11 rfl rfl)
theorem dJ2_grow_2_14 : decode cJ2_grow_2 14 = .ok (.getstatic 39, 3) := dk_178 0 39 (dk_at dksJ2_grow_2_0 14 rfl rfl)
theorem dJ2_grow_2_17 : decode cJ2_grow_2 17 = .ok (.if_acmp .eq 28, 3) := dk_165 0 28 (dk_at dksJ2_grow_2_0 17 rfl rfl)
theorem dJ2_grow_2_20 : decode cJ2_grow_2 20 = .ok (.iload_n 2, 1) := dk_28 (dk_at dksJ2_grow_2_0 20 rfl rfl)
theorem dJ2_grow_2_21 : decode cJ2_grow_2 21 = .ok (.iload_n 1, 1) := dk_27 (dk_at dksJ2_grow_2_0 21 rfl rfl)
theorem dJ2_grow_2_22 : decode cJ2_grow_2 22 = .ok (.iload_n 2, 1) := dk_28 (dk_at dksJ2_grow_2_0 22 rfl rfl)
theorem dJ2_grow_2_23 : decode cJ2_grow_2 23 = .ok (.isub, 1) := dk_100 (dk_at dksJ2_grow_2_0 23 rfl rfl)
theorem dJ2_grow_2_24 : decode cJ2_grow_2 24 = .ok (.iload_n 2, 1) := dk_28 (dk_at dksJ2_grow_2_1 0 rfl rfl)
theorem dJ2_grow_2_25 : decode cJ2_grow_2 25 = .ok (.iconst 1, 1) := dk_4 (dk_at dksJ2_grow_2_1 1 rfl rfl)
theorem dJ2_grow_2_26 : decode cJ2_grow_2 26 = .ok (.ishr, 1) := dk_122 (dk_at dksJ2_grow_2_1 2 rfl rfl)
theorem dJ2_grow_2_27 : decode cJ2_grow_2 27 = .ok (.invokestatic 73, 3) := dk_184 0 73 (dk_at dksJ2_grow_2_1 3 rfl rfl)
theorem dJ2_grow_2_30 : decode cJ2_grow_2 30 = .ok (.istore_n 3, 1) := dk_62 (dk_at dksJ2_grow_2_1 6 rfl rfl)
theorem dJ2_grow_2_31 : decode cJ2_grow_2 31 = .ok (.aload_n 0, 1) := dk_42 (dk_at dksJ2_grow_2_1 7 rfl rfl)
theorem dJ2_grow_2_32 : decode cJ2_grow_2 32 = .ok (.aload_n 0, 1) := dk_42 (dk_at dksJ2_grow_2_1 8 rfl rfl)
theorem dJ2_grow_2_33 : decode cJ2_grow_2 33 = .ok (.getfield 9, 3) := dk_180 0 9 (dk_at dksJ2_grow_2_1 9 rfl rfl)
theorem dJ2_grow_2_36 : decode cJ2_grow_2 36 = .ok (.iload_n 3, 1) := dk_29 (dk_at dksJ2_grow_2_1 12 rfl rfl)
theorem dJ2_grow_2_37 : decode cJ2_grow_2 37 = .ok (.invokestatic 66, 3) := dk_184 0 66 (dk_at dksJ2_grow_2_1 13 rfl rfl)
theorem dJ2_grow_2_40 : decode cJ2_grow_2 40 = .ok (.dup_x1, 1) := dk_90 (dk_at dksJ2_grow_2_1 16 rfl rfl)
theorem dJ2_grow_2_41 : decode cJ2_grow_2 41 = .ok (.putfield 9, 3) := dk_181 0 9 (dk_at dksJ2_grow_2_1 17 rfl rfl)
theorem dJ2_grow_2_44 : decode cJ2_grow_2 44 = .ok (.areturn, 1) := dk_176 (dk_at dksJ2_grow_2_1 20 rfl rfl)
theorem dJ2_grow_2_45 : decode cJ2_grow_2 45 = .ok (.aload_n 0, 1) := dk_42 (dk_at dksJ2_grow_2_1 21 rfl rfl)
theorem dJ2_grow_2_46 : decode cJ2_grow_2 46 = .ok (.bipush 10, 2) := dk_16 10 (dk_at dksJ2_grow_2_1 22 rfl rfl)
theorem dJ2_grow_2_48 : decode cJ2_grow_2 48 = .ok (.iload_n 1, 1) := dk_27 (dk_at dksJ2_grow_2_2 0 rfl rfl)
theorem dJ2_grow_2_49 : decode cJ2_grow_2 49 = .ok (.invokestatic 79, 3) := dk_184 0 79 (dk_at dksJ2_grow_2_2 1 rfl rfl)
theorem dJ2_grow_2_52 : decode cJ2_grow_2 52 = .ok (.anewarray 7, 3) := dk_189 0 7 (dk_at dksJ2_grow_2_2 4 rfl rfl)
theorem dJ2_grow_2_55 : decode cJ2_grow_2 55 = .ok (.dup_x1, 1) := dk_90 (dk_at dksJ2_grow_2_2 7 rfl rfl)
theorem dJ2_grow_2_56 : decode cJ2_grow_2 56 = .ok (.putfield 9, 3) := dk_181 0 9 (dk_at dksJ2_grow_2_2 8 rfl rfl)
theorem dJ2_grow_2_59 : decode cJ2_grow_2 59 = .ok (.areturn, 1) := dk_176 (dk_at dksJ2_grow_2_2 11 rfl rfl)
def dkwJ2_iterator_0 : List UInt8 := [187, 1, 11, 89, 42, 183, 1, 13, 176]
abbrev dktJ2_iterator_0 : List UInt8 := dkwJ2_iterator_0 ++ []
theorem dksJ2_iterator_0 : cJ2_iterator.data.toList.drop 0 = dktJ2_iterator_0 := by decide +kernel
theorem dJ2_iterator_0 : decode cJ2_iterator 0 = .ok (.new 267, 3) := dk_187 1 11 (dk_at dksJ2_iterator_0 0 rfl rfl)
theorem dJ2_iterator_3 : decode cJ2_iterator 3 = .ok (.dup, 1) := dk_89 (dk_at dksJ2_iterator_0 3 rfl rfl)
theorem dJ2_iterator_4 : decode cJ2_iterator 4 = .ok (.aload_n 0, 1) := dk_42 (dk_at dksJ2_iterator_0 4 rfl rfl)
theorem dJ2_iterator_5 : decode cJ2_iterator 5 = .ok (.invokespecial 269, 3) := dk_183 1 13 (dk_at dksJ2_iterator_0 5 rfl rfl)
theorem dJ2_iterator_8 : decode cJ2_iterator 8 = .ok (.areturn, 1) := dk_176 (dk_at dksJ2_iterator_0 8 rfl rfl)
def dkwJ24_init_1 : List UInt8 := [181, 0, 22, 177]
abbrev dktJ24_init_1 : List UInt8 := dkwJ24_init_1 ++ []
def dkwJ24_init_0 : List UInt8 := [42, 43, 181, 0, 1, 42, 183, 0, 7, 42, 2, 181, 0, 13, 42, 42, 180, 0, 1, 180, 0, 17]
abbrev dktJ24_init_0 : List UInt8 := dkwJ24_init_0 ++ dktJ24_init_1
theorem dksJ24_init_0 : cJ24_init.data.toList.drop 0 = dktJ24_init_0 := by decide +kernel
theorem dksJ24_init_1 : cJ24_init.data.toList.drop 22 = dktJ24_init_1 := dk_seg dksJ24_init_0 22 rfl rfl
theorem dJ24_init_0 : decode cJ24_init 0 = .ok (.aload_n 0, 1) := dk_42 (dk_at dksJ24_init_0 0 rfl rfl)
theorem dJ24_init_1 : decode cJ24_init 1 = .ok (.aload_n 1, 1) := dk_43 (dk_at dksJ24_init_0 1 rfl rfl)
theorem dJ24_init_2 : decode cJ24_init 2 = .ok (.putfield 1, 3) := dk_181 0 1 (dk_at dksJ24_init_0 2 rfl rfl)
theorem dJ24_init_5 : decode cJ24_init 5 = .ok (.aload_n 0, 1) := dk_42 (dk_at dksJ24_init_0 5 rfl rfl)
theorem dJ24_init_6 : decode cJ24_init 6 = .ok (.invokespecial 7, 3) := dk_183 0 7 (dk_at dksJ24_init_0 6 rfl rfl)
theorem dJ24_init_9 : decode cJ24_init 9 = .ok (.aload_n 0, 1) := dk_42 (dk_at dksJ24_init_0 9 rfl rfl)
theorem dJ24_init_10 : decode cJ24_init 10 = .ok (.iconst (-1), 1) := dk_2 (dk_at dksJ24_init_0 10 rfl rfl)
theorem dJ24_init_11 : decode cJ24_init 11 = .ok (.putfield 13, 3) := dk_181 0 13 (dk_at dksJ24_init_0 11 rfl rfl)
theorem dJ24_init_14 : decode cJ24_init 14 = .ok (.aload_n 0, 1) := dk_42 (dk_at dksJ24_init_0 14 rfl rfl)
theorem dJ24_init_15 : decode cJ24_init 15 = .ok (.aload_n 0, 1) := dk_42 (dk_at dksJ24_init_0 15 rfl rfl)
theorem dJ24_init_16 : decode cJ24_init 16 = .ok (.getfield 1, 3) := dk_180 0 1 (dk_at dksJ24_init_0 16 rfl rfl)
theorem dJ24_init_19 : decode cJ24_init 19 = .ok (.getfield 17, 3) := dk_180 0 17 (dk_at dksJ24_init_0 19 rfl rfl)
theorem dJ24_init_22 : decode cJ24_init 22 = .ok (.putfield 22, 3) := dk_181 0 22 (dk_at dksJ24_init_1 0 rfl rfl)
theorem dJ24_init_25 : decode cJ24_init 25 = .ok (.return_, 1) := dk_177 (dk_at dksJ24_init_1 3 rfl rfl)
def dkwJ24_hasNext_0 : List UInt8 := [42, 180, 0, 25, 42, 180, 0, 1, 180, 0, 28, 159, 0, 7, 4, 167, 0, 4, 3, 172]
abbrev dktJ24_hasNext_0 : List UInt8 := dkwJ24_hasNext_0 ++ []
theorem dksJ24_hasNext_0 : cJ24_hasNext.data.toList.drop 0 = dktJ24_hasNext_0 := by decide +kernel
theorem dJ24_hasNext_0 : decode cJ24_hasNext 0 = .ok (.aload_n 0, 1) := dk_42 (dk_at dksJ24_hasNext_0 0 rfl rfl)
theorem dJ24_hasNext_1 : decode cJ24_hasNext 1 = .ok (.getfield 25, 3) := dk_180 0 25 (dk_at dksJ24_hasNext_0 1 rfl rfl)
theorem dJ24_hasNext_4 : decode cJ24_hasNext 4 = .ok (.aload_n 0, 1) := dk_42 (dk_at dksJ24_hasNext_0 4 rfl rfl)
theorem dJ24_hasNext_5 : decode cJ24_hasNext 5 = .ok (.getfield 1, 3) := dk_180 0 1 (dk_at dksJ24_hasNext_0 5 rfl rfl)
theorem dJ24_hasNext_8 : decode cJ24_hasNext 8 = .ok (.getfield 28, 3) := dk_180 0 28 (dk_at dksJ24_hasNext_0 8 rfl rfl)
theorem dJ24_hasNext_11 : decode cJ24_hasNext 11 = .ok (.if_icmp .eq 7, 3) := dk_159 0 7 (dk_at dksJ24_hasNext_0 11 rfl rfl)
theorem dJ24_hasNext_14 : decode cJ24_hasNext 14 = .ok (.iconst 1, 1) := dk_4 (dk_at dksJ24_hasNext_0 14 rfl rfl)
theorem dJ24_hasNext_15 : decode cJ24_hasNext 15 = .ok (.goto 4, 3) := dk_167 0 4 (dk_at dksJ24_hasNext_0 15 rfl rfl)
theorem dJ24_hasNext_18 : decode cJ24_hasNext 18 = .ok (.iconst 0, 1) := dk_3 (dk_at dksJ24_hasNext_0 18 rfl rfl)
theorem dJ24_hasNext_19 : decode cJ24_hasNext 19 = .ok (.ireturn, 1) := dk_172 (dk_at dksJ24_hasNext_0 19 rfl rfl)
def dkwJ24_next_2 : List UInt8 := [183, 0, 43, 191, 42, 27, 4, 96, 181, 0, 25, 44, 42, 27, 90, 181, 0, 13, 50, 176]
abbrev dktJ24_next_2 : List UInt8 := dkwJ24_next_2 ++ []
def dkwJ24_next_1 : List UInt8 := [183, 0, 36, 191, 42, 180, 0, 1, 180, 0, 37, 77, 27, 44, 190, 161, 0, 11, 187, 0, 41, 89]
abbrev dktJ24_next_1 : List UInt8 := dkwJ24_next_1 ++ dktJ24_next_2
def dkwJ24_next_0 : List UInt8 := [42, 182, 0, 31, 42, 180, 0, 25, 60, 27, 42, 180, 0, 1, 180, 0, 28, 161, 0, 11, 187, 0, 34, 89]
abbrev dktJ24_next_0 : List UInt8 := dkwJ24_next_0 ++ dktJ24_next_1
theorem dksJ24_next_0 : cJ24_next.data.toList.drop 0 = dktJ24_next_0 := by decide +kernel
theorem dksJ24_next_1 : cJ24_next.data.toList.drop 24 = dktJ24_next_1 := dk_seg dksJ24_next_0 24 rfl rfl
theorem dksJ24_next_2 : cJ24_next.data.toList.drop 46 = dktJ24_next_2 := dk_seg dksJ24_next_1 22 rfl rfl
theorem dJ24_next_0 : decode cJ24_next 0 = .ok (.aload_n 0, 1) := dk_42 (dk_at dksJ24_next_0 0 rfl rfl)
theorem dJ24_next_1 : decode cJ24_next 1 = .ok (.invokevirtual 31, 3) := dk_182 0 31 (dk_at dksJ24_next_0 1 rfl rfl)
theorem dJ24_next_4 : decode cJ24_next 4 = .ok (.aload_n 0, 1) := dk_42 (dk_at dksJ24_next_0 4 rfl rfl)
theorem dJ24_next_5 : decode cJ24_next 5 = .ok (.getfield 25, 3) := dk_180 0 25 (dk_at dksJ24_next_0 5 rfl rfl)
theorem dJ24_next_8 : decode cJ24_next 8 = .ok (.istore_n 1, 1) := dk_60 (dk_at dksJ24_next_0 8 rfl rfl)
theorem dJ24_next_9 : decode cJ24_next 9 = .ok (.iload_n 1, 1) := dk_27 (dk_at dksJ24_next_0 9 rfl rfl)
theorem dJ24_next_10 : decode cJ24_next 10 = .ok (.aload_n 0, 1) := dk_42 (dk_at dksJ24_next_0 10 rfl rfl)
theorem dJ24_next_11 : decode cJ24_next 11 = .ok (.getfield 1, 3) := dk_180 0 1 (dk_at dksJ24_next_0 11 rfl rfl)
theorem dJ24_next_14 : decode cJ24_next 14 = .ok (.getfield 28, 3) := dk_180 0 28 (dk_at dksJ24_next_0 14 rfl rfl)
theorem dJ24_next_17 : decode cJ24_next 17 = .ok (.if_icmp .lt 11, 3) := dk_161 0 11 (dk_at dksJ24_next_0 17 rfl rfl)
theorem dJ24_next_20 : decode cJ24_next 20 = .ok (.new 34, 3) := dk_187 0 34 (dk_at dksJ24_next_0 20 rfl rfl)
theorem dJ24_next_23 : decode cJ24_next 23 = .ok (.dup, 1) := dk_89 (dk_at dksJ24_next_0 23 rfl rfl)
theorem dJ24_next_24 : decode cJ24_next 24 = .ok (.invokespecial 36, 3) := dk_183 0 36 (dk_at dksJ24_next_1 0 rfl rfl)
theorem dJ24_next_27 : decode cJ24_next 27 = .ok (.athrow, 1) := dk_191 (dk_at dksJ24_next_1 3 rfl rfl)
theorem dJ24_next_28 : decode cJ24_next 28 = .ok (.aload_n 0, 1) := dk_42 (dk_at dksJ24_next_1 4 rfl rfl)
theorem dJ24_next_29 : decode cJ24_next 29 = .ok (.getfield 1, 3) := dk_180 0 1 (dk_at dksJ24_next_1 5 rfl rfl)
theorem dJ24_next_32 : decode cJ24_next 32 = .ok (.getfield 37, 3) := dk_180 0 37 (dk_at dksJ24_next_1 8 rfl rfl)
theorem dJ24_next_35 : decode cJ24_next 35 = .ok (.astore_n 2, 1) := dk_77 (dk_at dksJ24_next_1 11 rfl rfl)
theorem dJ24_next_36 : decode cJ24_next 36 = .ok (.iload_n 1, 1) := dk_27 (dk_at dksJ24_next_1 12 rfl rfl)
theorem dJ24_next_37 : decode cJ24_next 37 = .ok (.aload_n 2, 1) := dk_44 (dk_at dksJ24_next_1 13 rfl rfl)
theorem dJ24_next_38 : decode cJ24_next 38 = .ok (.arraylength, 1) := dk_190 (dk_at dksJ24_next_1 14 rfl rfl)
theorem dJ24_next_39 : decode cJ24_next 39 = .ok (.if_icmp .lt 11, 3) := dk_161 0 11 (dk_at dksJ24_next_1 15 rfl rfl)
theorem dJ24_next_42 : decode cJ24_next 42 = .ok (.new 41, 3) := dk_187 0 41 (dk_at dksJ24_next_1 18 rfl rfl)
theorem dJ24_next_45 : decode cJ24_next 45 = .ok (.dup, 1) := dk_89 (dk_at dksJ24_next_1 21 rfl rfl)
theorem dJ24_next_46 : decode cJ24_next 46 = .ok (.invokespecial 43, 3) := dk_183 0 43 (dk_at dksJ24_next_2 0 rfl rfl)
theorem dJ24_next_49 : decode cJ24_next 49 = .ok (.athrow, 1) := dk_191 (dk_at dksJ24_next_2 3 rfl rfl)
theorem dJ24_next_50 : decode cJ24_next 50 = .ok (.aload_n 0, 1) := dk_42 (dk_at dksJ24_next_2 4 rfl rfl)
theorem dJ24_next_51 : decode cJ24_next 51 = .ok (.iload_n 1, 1) := dk_27 (dk_at dksJ24_next_2 5 rfl rfl)
theorem dJ24_next_52 : decode cJ24_next 52 = .ok (.iconst 1, 1) := dk_4 (dk_at dksJ24_next_2 6 rfl rfl)
theorem dJ24_next_53 : decode cJ24_next 53 = .ok (.iadd, 1) := dk_96 (dk_at dksJ24_next_2 7 rfl rfl)
theorem dJ24_next_54 : decode cJ24_next 54 = .ok (.putfield 25, 3) := dk_181 0 25 (dk_at dksJ24_next_2 8 rfl rfl)
theorem dJ24_next_57 : decode cJ24_next 57 = .ok (.aload_n 2, 1) := dk_44 (dk_at dksJ24_next_2 11 rfl rfl)
theorem dJ24_next_58 : decode cJ24_next 58 = .ok (.aload_n 0, 1) := dk_42 (dk_at dksJ24_next_2 12 rfl rfl)
theorem dJ24_next_59 : decode cJ24_next 59 = .ok (.iload_n 1, 1) := dk_27 (dk_at dksJ24_next_2 13 rfl rfl)
theorem dJ24_next_60 : decode cJ24_next 60 = .ok (.dup_x1, 1) := dk_90 (dk_at dksJ24_next_2 14 rfl rfl)
theorem dJ24_next_61 : decode cJ24_next 61 = .ok (.putfield 13, 3) := dk_181 0 13 (dk_at dksJ24_next_2 15 rfl rfl)
theorem dJ24_next_64 : decode cJ24_next 64 = .ok (.aaload, 1) := dk_50 (dk_at dksJ24_next_2 18 rfl rfl)
theorem dJ24_next_65 : decode cJ24_next 65 = .ok (.areturn, 1) := dk_176 (dk_at dksJ24_next_2 19 rfl rfl)
def dkwJ24_checkForComodification_0 : List UInt8 := [42, 180, 0, 1, 180, 0, 17, 42, 180, 0, 22, 159, 0, 11, 187, 0, 41, 89, 183, 0, 43, 191, 177]
abbrev dktJ24_checkForComodification_0 : List UInt8 := dkwJ24_checkForComodification_0 ++ []
theorem dksJ24_checkForComodification_0 : cJ24_checkForComodification.data.toList.drop 0 = dktJ24_checkForComodification_0 := by decide +kernel
theorem dJ24_checkForComodification_0 : decode cJ24_checkForComodification 0 = .ok (.aload_n 0, 1) := dk_42 (dk_at dksJ24_checkForComodification_0 0 rfl rfl)
theorem dJ24_checkForComodification_1 : decode cJ24_checkForComodification 1 = .ok (.getfield 1, 3) := dk_180 0 1 (dk_at dksJ24_checkForComodification_0 1 rfl rfl)
theorem dJ24_checkForComodification_4 : decode cJ24_checkForComodification 4 = .ok (.getfield 17, 3) := dk_180 0 17 (dk_at dksJ24_checkForComodification_0 4 rfl rfl)
theorem dJ24_checkForComodification_7 : decode cJ24_checkForComodification 7 = .ok (.aload_n 0, 1) := dk_42 (dk_at dksJ24_checkForComodification_0 7 rfl rfl)
theorem dJ24_checkForComodification_8 : decode cJ24_checkForComodification 8 = .ok (.getfield 22, 3) := dk_180 0 22 (dk_at dksJ24_checkForComodification_0 8 rfl rfl)
theorem dJ24_checkForComodification_11 : decode cJ24_checkForComodification 11 = .ok (.if_icmp .eq 11, 3) := dk_159 0 11 (dk_at dksJ24_checkForComodification_0 11 rfl rfl)
theorem dJ24_checkForComodification_14 : decode cJ24_checkForComodification 14 = .ok (.new 41, 3) := dk_187 0 41 (dk_at dksJ24_checkForComodification_0 14 rfl rfl)
theorem dJ24_checkForComodification_17 : decode cJ24_checkForComodification 17 = .ok (.dup, 1) := dk_89 (dk_at dksJ24_checkForComodification_0 17 rfl rfl)
theorem dJ24_checkForComodification_18 : decode cJ24_checkForComodification 18 = .ok (.invokespecial 43, 3) := dk_183 0 43 (dk_at dksJ24_checkForComodification_0 18 rfl rfl)
theorem dJ24_checkForComodification_21 : decode cJ24_checkForComodification 21 = .ok (.athrow, 1) := dk_191 (dk_at dksJ24_checkForComodification_0 21 rfl rfl)
theorem dJ24_checkForComodification_22 : decode cJ24_checkForComodification 22 = .ok (.return_, 1) := dk_177 (dk_at dksJ24_checkForComodification_0 22 rfl rfl)
def dkwJ14_checkFromToIndex_0 : List UInt8 := [26, 155, 0, 13, 26, 27, 163, 0, 8, 27, 28, 164, 0, 11, 45, 26, 27, 28, 184, 0, 99, 191, 26, 172]
abbrev dktJ14_checkFromToIndex_0 : List UInt8 := dkwJ14_checkFromToIndex_0 ++ []
theorem dksJ14_checkFromToIndex_0 : cJ14_checkFromToIndex.data.toList.drop 0 = dktJ14_checkFromToIndex_0 := by decide +kernel
theorem dJ14_checkFromToIndex_0 : decode cJ14_checkFromToIndex 0 = .ok (.iload_n 0, 1) := dk_26 (dk_at dksJ14_checkFromToIndex_0 0 rfl rfl)
theorem dJ14_checkFromToIndex_1 : decode cJ14_checkFromToIndex 1 = .ok (.ifCond .lt 13, 3) := dk_155 0 13 (dk_at dksJ14_checkFromToIndex_0 1 rfl rfl)
theorem dJ14_checkFromToIndex_4 : decode cJ14_checkFromToIndex 4 = .ok (.iload_n 0, 1) := dk_26 (dk_at dksJ14_checkFromToIndex_0 4 rfl rfl)
theorem dJ14_checkFromToIndex_5 : decode cJ14_checkFromToIndex 5 = .ok (.iload_n 1, 1) := dk_27 (dk_at dksJ14_checkFromToIndex_0 5 rfl rfl)
theorem dJ14_checkFromToIndex_6 : decode cJ14_checkFromToIndex 6 = .ok (.if_icmp .gt 8, 3) := dk_163 0 8 (dk_at dksJ14_checkFromToIndex_0 6 rfl rfl)
theorem dJ14_checkFromToIndex_9 : decode cJ14_checkFromToIndex 9 = .ok (.iload_n 1, 1) := dk_27 (dk_at dksJ14_checkFromToIndex_0 9 rfl rfl)
theorem dJ14_checkFromToIndex_10 : decode cJ14_checkFromToIndex 10 = .ok (.iload_n 2, 1) := dk_28 (dk_at dksJ14_checkFromToIndex_0 10 rfl rfl)
theorem dJ14_checkFromToIndex_11 : decode cJ14_checkFromToIndex 11 = .ok (.if_icmp .le 11, 3) := dk_164 0 11 (dk_at dksJ14_checkFromToIndex_0 11 rfl rfl)
theorem dJ14_checkFromToIndex_14 : decode cJ14_checkFromToIndex 14 = .ok (.aload_n 3, 1) := dk_45 (dk_at dksJ14_checkFromToIndex_0 14 rfl rfl)
theorem dJ14_checkFromToIndex_15 : decode cJ14_checkFromToIndex 15 = .ok (.iload_n 0, 1) := dk_26 (dk_at dksJ14_checkFromToIndex_0 15 rfl rfl)
theorem dJ14_checkFromToIndex_16 : decode cJ14_checkFromToIndex 16 = .ok (.iload_n 1, 1) := dk_27 (dk_at dksJ14_checkFromToIndex_0 16 rfl rfl)
theorem dJ14_checkFromToIndex_17 : decode cJ14_checkFromToIndex 17 = .ok (.iload_n 2, 1) := dk_28 (dk_at dksJ14_checkFromToIndex_0 17 rfl rfl)
theorem dJ14_checkFromToIndex_18 : decode cJ14_checkFromToIndex 18 = .ok (.invokestatic 99, 3) := dk_184 0 99 (dk_at dksJ14_checkFromToIndex_0 18 rfl rfl)
theorem dJ14_checkFromToIndex_21 : decode cJ14_checkFromToIndex 21 = .ok (.athrow, 1) := dk_191 (dk_at dksJ14_checkFromToIndex_0 21 rfl rfl)
theorem dJ14_checkFromToIndex_22 : decode cJ14_checkFromToIndex 22 = .ok (.iload_n 0, 1) := dk_26 (dk_at dksJ14_checkFromToIndex_0 22 rfl rfl)
theorem dJ14_checkFromToIndex_23 : decode cJ14_checkFromToIndex 23 = .ok (.ireturn, 1) := dk_172 (dk_at dksJ14_checkFromToIndex_0 23 rfl rfl)
def dkwJ14_checkFromIndexSize_1 : List UInt8 := [172]
abbrev dktJ14_checkFromIndexSize_1 : List UInt8 := dkwJ14_checkFromIndexSize_1 ++ []
def dkwJ14_checkFromIndexSize_0 : List UInt8 := [28, 26, 128, 27, 128, 155, 0, 10, 27, 28, 26, 100, 164, 0, 11, 45, 26, 27, 28, 184, 0, 103, 191, 26]
abbrev dktJ14_checkFromIndexSize_0 : List UInt8 := dkwJ14_checkFromIndexSize_0 ++ dktJ14_checkFromIndexSize_1
theorem dksJ14_checkFromIndexSize_0 : cJ14_checkFromIndexSize.data.toList.drop 0 = dktJ14_checkFromIndexSize_0 := by decide +kernel
theorem dksJ14_checkFromIndexSize_1 : cJ14_checkFromIndexSize.data.toList.drop 24 = dktJ14_checkFromIndexSize_1 := dk_seg dksJ14_checkFromIndexSize_0 24 rfl rfl
theorem dJ14_checkFromIndexSize_0 : decode cJ14_checkFromIndexSize 0 = .ok (.iload_n 2, 1) := dk_28 (dk_at dksJ14_checkFromIndexSize_0 0 rfl rfl)
theorem dJ14_checkFromIndexSize_1 : decode cJ14_checkFromIndexSize 1 = .ok (.iload_n 0, 1) := dk_26 (dk_at dksJ14_checkFromIndexSize_0 1 rfl rfl)
theorem dJ14_checkFromIndexSize_2 : decode cJ14_checkFromIndexSize 2 = .ok (.ior, 1) := dk_128 (dk_at dksJ14_checkFromIndexSize_0 2 rfl rfl)
theorem dJ14_checkFromIndexSize_3 : decode cJ14_checkFromIndexSize 3 = .ok (.iload_n 1, 1) := dk_27 (dk_at dksJ14_checkFromIndexSize_0 3 rfl rfl)
theorem dJ14_checkFromIndexSize_4 : decode cJ14_checkFromIndexSize 4 = .ok (.ior, 1) := dk_128 (dk_at dksJ14_checkFromIndexSize_0 4 rfl rfl)
theorem dJ14_checkFromIndexSize_5 : decode cJ14_checkFromIndexSize 5 = .ok (.ifCond .lt 10, 3) := dk_155 0 10 (dk_at dksJ14_checkFromIndexSize_0 5 rfl rfl)
theorem dJ14_checkFromIndexSize_8 : decode cJ14_checkFromIndexSize 8 = .ok (.iload_n 1, 1) := dk_27 (dk_at dksJ14_checkFromIndexSize_0 8 rfl rfl)
theorem dJ14_checkFromIndexSize_9 : decode cJ14_checkFromIndexSize 9 = .ok (.iload_n 2, 1) := dk_28 (dk_at dksJ14_checkFromIndexSize_0 9 rfl rfl)
theorem dJ14_checkFromIndexSize_10 : decode cJ14_checkFromIndexSize 10 = .ok (.iload_n 0, 1) := dk_26 (dk_at dksJ14_checkFromIndexSize_0 10 rfl rfl)
theorem dJ14_checkFromIndexSize_11 : decode cJ14_checkFromIndexSize 11 = .ok (.isub, 1) := dk_100 (dk_at dksJ14_checkFromIndexSize_0 11 rfl rfl)
theorem dJ14_checkFromIndexSize_12 : decode cJ14_checkFromIndexSize 12 = .ok (.if_icmp .le 11, 3) := dk_164 0 11 (dk_at dksJ14_checkFromIndexSize_0 12 rfl rfl)
theorem dJ14_checkFromIndexSize_15 : decode cJ14_checkFromIndexSize 15 = .ok (.aload_n 3, 1) := dk_45 (dk_at dksJ14_checkFromIndexSize_0 15 rfl rfl)
theorem dJ14_checkFromIndexSize_16 : decode cJ14_checkFromIndexSize 16 = .ok (.iload_n 0, 1) := dk_26 (dk_at dksJ14_checkFromIndexSize_0 16 rfl rfl)
theorem dJ14_checkFromIndexSize_17 : decode cJ14_checkFromIndexSize 17 = .ok (.iload_n 1, 1) := dk_27 (dk_at dksJ14_checkFromIndexSize_0 17 rfl rfl)
theorem dJ14_checkFromIndexSize_18 : decode cJ14_checkFromIndexSize 18 = .ok (.iload_n 2, 1) := dk_28 (dk_at dksJ14_checkFromIndexSize_0 18 rfl rfl)
theorem dJ14_checkFromIndexSize_19 : decode cJ14_checkFromIndexSize 19 = .ok (.invokestatic 103, 3) := dk_184 0 103 (dk_at dksJ14_checkFromIndexSize_0 19 rfl rfl)
theorem dJ14_checkFromIndexSize_22 : decode cJ14_checkFromIndexSize 22 = .ok (.athrow, 1) := dk_191 (dk_at dksJ14_checkFromIndexSize_0 22 rfl rfl)
theorem dJ14_checkFromIndexSize_23 : decode cJ14_checkFromIndexSize 23 = .ok (.iload_n 0, 1) := dk_26 (dk_at dksJ14_checkFromIndexSize_0 23 rfl rfl)
theorem dJ14_checkFromIndexSize_24 : decode cJ14_checkFromIndexSize 24 = .ok (.ireturn, 1) := dk_172 (dk_at dksJ14_checkFromIndexSize_1 0 rfl rfl)
def dkwJ14_checkIndex_0 : List UInt8 := [26, 155, 0, 8, 26, 27, 161, 0, 10, 44, 26, 27, 184, 0, 95, 191, 26, 172]
abbrev dktJ14_checkIndex_0 : List UInt8 := dkwJ14_checkIndex_0 ++ []
theorem dksJ14_checkIndex_0 : cJ14_checkIndex.data.toList.drop 0 = dktJ14_checkIndex_0 := by decide +kernel
theorem dJ14_checkIndex_0 : decode cJ14_checkIndex 0 = .ok (.iload_n 0, 1) := dk_26 (dk_at dksJ14_checkIndex_0 0 rfl rfl)
theorem dJ14_checkIndex_1 : decode cJ14_checkIndex 1 = .ok (.ifCond .lt 8, 3) := dk_155 0 8 (dk_at dksJ14_checkIndex_0 1 rfl rfl)
theorem dJ14_checkIndex_4 : decode cJ14_checkIndex 4 = .ok (.iload_n 0, 1) := dk_26 (dk_at dksJ14_checkIndex_0 4 rfl rfl)
theorem dJ14_checkIndex_5 : decode cJ14_checkIndex 5 = .ok (.iload_n 1, 1) := dk_27 (dk_at dksJ14_checkIndex_0 5 rfl rfl)
theorem dJ14_checkIndex_6 : decode cJ14_checkIndex 6 = .ok (.if_icmp .lt 10, 3) := dk_161 0 10 (dk_at dksJ14_checkIndex_0 6 rfl rfl)
theorem dJ14_checkIndex_9 : decode cJ14_checkIndex 9 = .ok (.aload_n 2, 1) := dk_44 (dk_at dksJ14_checkIndex_0 9 rfl rfl)
theorem dJ14_checkIndex_10 : decode cJ14_checkIndex 10 = .ok (.iload_n 0, 1) := dk_26 (dk_at dksJ14_checkIndex_0 10 rfl rfl)
theorem dJ14_checkIndex_11 : decode cJ14_checkIndex 11 = .ok (.iload_n 1, 1) := dk_27 (dk_at dksJ14_checkIndex_0 11 rfl rfl)
theorem dJ14_checkIndex_12 : decode cJ14_checkIndex 12 = .ok (.invokestatic 95, 3) := dk_184 0 95 (dk_at dksJ14_checkIndex_0 12 rfl rfl)
theorem dJ14_checkIndex_15 : decode cJ14_checkIndex 15 = .ok (.athrow, 1) := dk_191 (dk_at dksJ14_checkIndex_0 15 rfl rfl)
theorem dJ14_checkIndex_16 : decode cJ14_checkIndex 16 = .ok (.iload_n 0, 1) := dk_26 (dk_at dksJ14_checkIndex_0 16 rfl rfl)
theorem dJ14_checkIndex_17 : decode cJ14_checkIndex 17 = .ok (.ireturn, 1) := dk_172 (dk_at dksJ14_checkIndex_0 17 rfl rfl)
def dkwJ17_checkIndex_0 : List UInt8 := [26, 27, 1, 184, 0, 105, 172]
abbrev dktJ17_checkIndex_0 : List UInt8 := dkwJ17_checkIndex_0 ++ []
theorem dksJ17_checkIndex_0 : cJ17_checkIndex.data.toList.drop 0 = dktJ17_checkIndex_0 := by decide +kernel
theorem dJ17_checkIndex_0 : decode cJ17_checkIndex 0 = .ok (.iload_n 0, 1) := dk_26 (dk_at dksJ17_checkIndex_0 0 rfl rfl)
theorem dJ17_checkIndex_1 : decode cJ17_checkIndex 1 = .ok (.iload_n 1, 1) := dk_27 (dk_at dksJ17_checkIndex_0 1 rfl rfl)
theorem dJ17_checkIndex_2 : decode cJ17_checkIndex 2 = .ok (.aconst_null, 1) := dk_1 (dk_at dksJ17_checkIndex_0 2 rfl rfl)
theorem dJ17_checkIndex_3 : decode cJ17_checkIndex 3 = .ok (.invokestatic 105, 3) := dk_184 0 105 (dk_at dksJ17_checkIndex_0 3 rfl rfl)
theorem dJ17_checkIndex_6 : decode cJ17_checkIndex 6 = .ok (.ireturn, 1) := dk_172 (dk_at dksJ17_checkIndex_0 6 rfl rfl)
def dkwJ18_init_0 : List UInt8 := [42, 183, 0, 42, 42, 16, 17, 189, 0, 47, 181, 0, 3, 177]
abbrev dktJ18_init_0 : List UInt8 := dkwJ18_init_0 ++ []
theorem dksJ18_init_0 : cJ18_init.data.toList.drop 0 = dktJ18_init_0 := by decide +kernel
theorem dJ18_init_0 : decode cJ18_init 0 = .ok (.aload_n 0, 1) := dk_42 (dk_at dksJ18_init_0 0 rfl rfl)
theorem dJ18_init_1 : decode cJ18_init 1 = .ok (.invokespecial 42, 3) := dk_183 0 42 (dk_at dksJ18_init_0 1 rfl rfl)
theorem dJ18_init_4 : decode cJ18_init 4 = .ok (.aload_n 0, 1) := dk_42 (dk_at dksJ18_init_0 4 rfl rfl)
theorem dJ18_init_5 : decode cJ18_init 5 = .ok (.bipush 17, 2) := dk_16 17 (dk_at dksJ18_init_0 5 rfl rfl)
theorem dJ18_init_7 : decode cJ18_init 7 = .ok (.anewarray 47, 3) := dk_189 0 47 (dk_at dksJ18_init_0 7 rfl rfl)
theorem dJ18_init_10 : decode cJ18_init 10 = .ok (.putfield 3, 3) := dk_181 0 3 (dk_at dksJ18_init_0 10 rfl rfl)
theorem dJ18_init_13 : decode cJ18_init 13 = .ok (.return_, 1) := dk_177 (dk_at dksJ18_init_0 13 rfl rfl)
def dkwJ18_size_0 : List UInt8 := [42, 180, 0, 20, 42, 180, 0, 24, 42, 180, 0, 3, 190, 184, 0, 127, 172]
abbrev dktJ18_size_0 : List UInt8 := dkwJ18_size_0 ++ []
theorem dksJ18_size_0 : cJ18_size.data.toList.drop 0 = dktJ18_size_0 := by decide +kernel
theorem dJ18_size_0 : decode cJ18_size 0 = .ok (.aload_n 0, 1) := dk_42 (dk_at dksJ18_size_0 0 rfl rfl)
theorem dJ18_size_1 : decode cJ18_size 1 = .ok (.getfield 20, 3) := dk_180 0 20 (dk_at dksJ18_size_0 1 rfl rfl)
theorem dJ18_size_4 : decode cJ18_size 4 = .ok (.aload_n 0, 1) := dk_42 (dk_at dksJ18_size_0 4 rfl rfl)
theorem dJ18_size_5 : decode cJ18_size 5 = .ok (.getfield 24, 3) := dk_180 0 24 (dk_at dksJ18_size_0 5 rfl rfl)
theorem dJ18_size_8 : decode cJ18_size 8 = .ok (.aload_n 0, 1) := dk_42 (dk_at dksJ18_size_0 8 rfl rfl)
theorem dJ18_size_9 : decode cJ18_size 9 = .ok (.getfield 3, 3) := dk_180 0 3 (dk_at dksJ18_size_0 9 rfl rfl)
theorem dJ18_size_12 : decode cJ18_size 12 = .ok (.arraylength, 1) := dk_190 (dk_at dksJ18_size_0 12 rfl rfl)
theorem dJ18_size_13 : decode cJ18_size 13 = .ok (.invokestatic 127, 3) := dk_184 0 127 (dk_at dksJ18_size_0 13 rfl rfl)
theorem dJ18_size_16 : decode cJ18_size 16 = .ok (.ireturn, 1) := dk_172 (dk_at dksJ18_size_0 16 rfl rfl)
def dkwJ18_sub_0 : List UInt8 := [26, 27, 100, 89, 59, 156, 0, 7, 26, 28, 96, 59, 26, 172]
abbrev dktJ18_sub_0 : List UInt8 := dkwJ18_sub_0 ++ []
theorem dksJ18_sub_0 : cJ18_sub.data.toList.drop 0 = dktJ18_sub_0 := by decide +kernel
theorem dJ18_sub_0 : decode cJ18_sub 0 = .ok (.iload_n 0, 1) := dk_26 (dk_at dksJ18_sub_0 0 rfl rfl)
theorem dJ18_sub_1 : decode cJ18_sub 1 = .ok (.iload_n 1, 1) := dk_27 (dk_at dksJ18_sub_0 1 rfl rfl)
theorem dJ18_sub_2 : decode cJ18_sub 2 = .ok (.isub, 1) := dk_100 (dk_at dksJ18_sub_0 2 rfl rfl)
theorem dJ18_sub_3 : decode cJ18_sub 3 = .ok (.dup, 1) := dk_89 (dk_at dksJ18_sub_0 3 rfl rfl)
theorem dJ18_sub_4 : decode cJ18_sub 4 = .ok (.istore_n 0, 1) := dk_59 (dk_at dksJ18_sub_0 4 rfl rfl)
theorem dJ18_sub_5 : decode cJ18_sub 5 = .ok (.ifCond .ge 7, 3) := dk_156 0 7 (dk_at dksJ18_sub_0 5 rfl rfl)
theorem dJ18_sub_8 : decode cJ18_sub 8 = .ok (.iload_n 0, 1) := dk_26 (dk_at dksJ18_sub_0 8 rfl rfl)
theorem dJ18_sub_9 : decode cJ18_sub 9 = .ok (.iload_n 2, 1) := dk_28 (dk_at dksJ18_sub_0 9 rfl rfl)
theorem dJ18_sub_10 : decode cJ18_sub 10 = .ok (.iadd, 1) := dk_96 (dk_at dksJ18_sub_0 10 rfl rfl)
theorem dJ18_sub_11 : decode cJ18_sub 11 = .ok (.istore_n 0, 1) := dk_59 (dk_at dksJ18_sub_0 11 rfl rfl)
theorem dJ18_sub_12 : decode cJ18_sub 12 = .ok (.iload_n 0, 1) := dk_26 (dk_at dksJ18_sub_0 12 rfl rfl)
theorem dJ18_sub_13 : decode cJ18_sub 13 = .ok (.ireturn, 1) := dk_172 (dk_at dksJ18_sub_0 13 rfl rfl)
def dkwJ18_removeFirst_0 : List UInt8 := [42, 182, 0, 93, 76, 43, 199, 0, 11, 187, 0, 97, 89, 183, 0, 99, 191, 43, 176]
abbrev dktJ18_removeFirst_0 : List UInt8 := dkwJ18_removeFirst_0 ++ []
theorem dksJ18_removeFirst_0 : cJ18_removeFirst.data.toList.drop 0 = dktJ18_removeFirst_0 := by decide +kernel
theorem dJ18_removeFirst_0 : decode cJ18_removeFirst 0 = .ok (.aload_n 0, 1) := dk_42 (dk_at dksJ18_removeFirst_0 0 rfl rfl)
theorem dJ18_removeFirst_1 : decode cJ18_removeFirst 1 = .ok (.invokevirtual 93, 3) := dk_182 0 93 (dk_at dksJ18_removeFirst_0 1 rfl rfl)
theorem dJ18_removeFirst_4 : decode cJ18_removeFirst 4 = .ok (.astore_n 1, 1) := dk_76 (dk_at dksJ18_removeFirst_0 4 rfl rfl)
theorem dJ18_removeFirst_5 : decode cJ18_removeFirst 5 = .ok (.aload_n 1, 1) := dk_43 (dk_at dksJ18_removeFirst_0 5 rfl rfl)
theorem dJ18_removeFirst_6 : decode cJ18_removeFirst 6 = .ok (.ifnonnull 11, 3) := dk_199 0 11 (dk_at dksJ18_removeFirst_0 6 rfl rfl)
theorem dJ18_removeFirst_9 : decode cJ18_removeFirst 9 = .ok (.new 97, 3) := dk_187 0 97 (dk_at dksJ18_removeFirst_0 9 rfl rfl)
theorem dJ18_removeFirst_12 : decode cJ18_removeFirst 12 = .ok (.dup, 1) := dk_89 (dk_at dksJ18_removeFirst_0 12 rfl rfl)
theorem dJ18_removeFirst_13 : decode cJ18_removeFirst 13 = .ok (.invokespecial 99, 3) := dk_183 0 99 (dk_at dksJ18_removeFirst_0 13 rfl rfl)
theorem dJ18_removeFirst_16 : decode cJ18_removeFirst 16 = .ok (.athrow, 1) := dk_191 (dk_at dksJ18_removeFirst_0 16 rfl rfl)
theorem dJ18_removeFirst_17 : decode cJ18_removeFirst 17 = .ok (.aload_n 1, 1) := dk_43 (dk_at dksJ18_removeFirst_0 17 rfl rfl)
theorem dJ18_removeFirst_18 : decode cJ18_removeFirst 18 = .ok (.areturn, 1) := dk_176 (dk_at dksJ18_removeFirst_0 18 rfl rfl)
def dkwJ18_pollFirst_1 : List UInt8 := [42, 28, 43, 190, 184, 0, 74, 181, 0, 24, 45, 176]
abbrev dktJ18_pollFirst_1 : List UInt8 := dkwJ18_pollFirst_1 ++ []
def dkwJ18_pollFirst_0 : List UInt8 := [42, 180, 0, 3, 89, 76, 42, 180, 0, 24, 89, 61, 184, 0, 103, 78, 45, 198, 0, 17, 43, 28, 1, 83]
abbrev dktJ18_pollFirst_0 : List UInt8 := dkwJ18_pollFirst_0 ++ dktJ18_pollFirst_1
theorem dksJ18_pollFirst_0 : cJ18_pollFirst.data.toList.drop 0 = dktJ18_pollFirst_0 := by decide +kernel
theorem dksJ18_pollFirst_1 : cJ18_pollFirst.data.toList.drop 24 = dktJ18_pollFirst_1 := dk_seg dksJ18_pollFirst_0 24 rfl rfl
theorem dJ18_pollFirst_0 : decode cJ18_pollFirst 0 = .ok (.aload_n 0, 1) := dk_42 (dk_at dksJ18_pollFirst_0 0 rfl rfl)
theorem dJ18_pollFirst_1 : decode cJ18_pollFirst 1 = .ok (.getfield 3, 3) := dk_180 0 3 (dk_at dksJ18_pollFirst_0 1 rfl rfl)
theorem dJ18_pollFirst_4 : decode cJ18_pollFirst 4 = .ok (.dup, 1) := dk_89 (dk_at dksJ18_pollFirst_0 4 rfl rfl)
theorem dJ18_pollFirst_5 : decode cJ18_pollFirst 5 = .ok (.astore_n 1, 1) := dk_76 (dk_at dksJ18_pollFirst_0 5 rfl rfl)
theorem dJ18_pollFirst_6 : decode cJ18_pollFirst 6 = .ok (.aload_n 0, 1) := dk_42 (dk_at dksJ18_pollFirst_0 6 rfl rfl)
theorem dJ18_pollFirst_7 : decode cJ18_pollFirst 7 = .ok (.getfield 24, 3) := dk_180 0 24 (dk_at dksJ18_pollFirst_0 7 rfl rfl)
theorem dJ18_pollFirst_10 : decode cJ18_pollFirst 10 = .ok (.dup, 1) := dk_89 (dk_at dksJ18_pollFirst_0 10 rfl rfl)
theorem dJ18_pollFirst_11 : decode cJ18_pollFirst 11 = .ok (.istore_n 2, 1) := dk_61 (dk_at dksJ18_pollFirst_0 11 rfl rfl)
theorem dJ18_pollFirst_12 : decode cJ18_pollFirst 12 = .ok (.invokestatic 103, 3) := dk_184 0 103 (dk_at dksJ18_pollFirst_0 12 rfl rfl)
theorem dJ18_pollFirst_15 : decode cJ18_pollFirst 15 = .ok (.astore_n 3, 1) := dk_78 (dk_at dksJ18_pollFirst_0 15 rfl rfl)
theorem dJ18_pollFirst_16 : decode cJ18_pollFirst 16 = .ok (.aload_n 3, 1) := dk_45 (dk_at dksJ18_pollFirst_0 16 rfl rfl)
theorem dJ18_pollFirst_17 : decode cJ18_pollFirst 17 = .ok (.ifnull 17, 3) := dk_198 0 17 (dk_at dksJ18_pollFirst_0 17 rfl rfl)
theorem dJ18_pollFirst_20 : decode cJ18_pollFirst 20 = .ok (.aload_n 1, 1) := dk_43 (dk_at dksJ18_pollFirst_0 20 rfl rfl)
theorem dJ18_pollFirst_21 : decode cJ18_pollFirst 21 = .ok (.iload_n 2, 1) := dk_28 (dk_at dksJ18_pollFirst_0 21 rfl rfl)
theorem dJ18_pollFirst_22 : decode cJ18_pollFirst 22 = .ok (.aconst_null, 1) := dk_1 (dk_at dksJ18_pollFirst_0 22 rfl rfl)
theorem dJ18_pollFirst_23 : decode cJ18_pollFirst 23 = .ok (.aastore, 1) := dk_83 (dk_at dksJ18_pollFirst_0 23 rfl rfl)
theorem dJ18_pollFirst_24 : decode cJ18_pollFirst 24 = .ok (.aload_n 0, 1) := dk_42 (dk_at dksJ18_pollFirst_1 0 rfl rfl)
theorem dJ18_pollFirst_25 : decode cJ18_pollFirst 25 = .ok (.iload_n 2, 1) := dk_28 (dk_at dksJ18_pollFirst_1 1 rfl rfl)
theorem dJ18_pollFirst_26 : decode cJ18_pollFirst 26 = .ok (.aload_n 1, 1) := dk_43 (dk_at dksJ18_pollFirst_1 2 rfl rfl)
theorem dJ18_pollFirst_27 : decode cJ18_pollFirst 27 = .ok (.arraylength, 1) := dk_190 (dk_at dksJ18_pollFirst_1 3 rfl rfl)
theorem dJ18_pollFirst_28 : decode cJ18_pollFirst 28 = .ok (.invokestatic 74, 3) := dk_184 0 74 (dk_at dksJ18_pollFirst_1 4 rfl rfl)
theorem dJ18_pollFirst_31 : decode cJ18_pollFirst 31 = .ok (.putfield 24, 3) := dk_181 0 24 (dk_at dksJ18_pollFirst_1 7 rfl rfl)
theorem dJ18_pollFirst_34 : decode cJ18_pollFirst 34 = .ok (.aload_n 3, 1) := dk_45 (dk_at dksJ18_pollFirst_1 10 rfl rfl)
theorem dJ18_pollFirst_35 : decode cJ18_pollFirst 35 = .ok (.areturn, 1) := dk_176 (dk_at dksJ18_pollFirst_1 11 rfl rfl)
def dkwJ18_elementAt_0 : List UInt8 := [42, 27, 50, 176]
abbrev dktJ18_elementAt_0 : List UInt8 := dkwJ18_elementAt_0 ++ []
theorem dksJ18_elementAt_0 : cJ18_elementAt.data.toList.drop 0 = dktJ18_elementAt_0 := by decide +kernel
theorem dJ18_elementAt_0 : decode cJ18_elementAt 0 = .ok (.aload_n 0, 1) := dk_42 (dk_at dksJ18_elementAt_0 0 rfl rfl)
theorem dJ18_elementAt_1 : decode cJ18_elementAt 1 = .ok (.iload_n 1, 1) := dk_27 (dk_at dksJ18_elementAt_0 1 rfl rfl)
theorem dJ18_elementAt_2 : decode cJ18_elementAt 2 = .ok (.aaload, 1) := dk_50 (dk_at dksJ18_elementAt_0 2 rfl rfl)
theorem dJ18_elementAt_3 : decode cJ18_elementAt 3 = .ok (.areturn, 1) := dk_176 (dk_at dksJ18_elementAt_0 3 rfl rfl)
def dkwJ18_inc_0 : List UInt8 := [132, 0, 1, 26, 27, 161, 0, 5, 3, 59, 26, 172]
abbrev dktJ18_inc_0 : List UInt8 := dkwJ18_inc_0 ++ []
theorem dksJ18_inc_0 : cJ18_inc.data.toList.drop 0 = dktJ18_inc_0 := by decide +kernel
theorem dJ18_inc_0 : decode cJ18_inc 0 = .ok (.iinc 0 1, 3) := dk_132 0 1 (dk_at dksJ18_inc_0 0 rfl rfl)
theorem dJ18_inc_3 : decode cJ18_inc 3 = .ok (.iload_n 0, 1) := dk_26 (dk_at dksJ18_inc_0 3 rfl rfl)
theorem dJ18_inc_4 : decode cJ18_inc 4 = .ok (.iload_n 1, 1) := dk_27 (dk_at dksJ18_inc_0 4 rfl rfl)
theorem dJ18_inc_5 : decode cJ18_inc 5 = .ok (.if_icmp .lt 5, 3) := dk_161 0 5 (dk_at dksJ18_inc_0 5 rfl rfl)
theorem dJ18_inc_8 : decode cJ18_inc 8 = .ok (.iconst 0, 1) := dk_3 (dk_at dksJ18_inc_0 8 rfl rfl)
theorem dJ18_inc_9 : decode cJ18_inc 9 = .ok (.istore_n 0, 1) := dk_59 (dk_at dksJ18_inc_0 9 rfl rfl)
theorem dJ18_inc_10 : decode cJ18_inc 10 = .ok (.iload_n 0, 1) := dk_26 (dk_at dksJ18_inc_0 10 rfl rfl)
theorem dJ18_inc_11 : decode cJ18_inc 11 = .ok (.ireturn, 1) := dk_172 (dk_at dksJ18_inc_0 11 rfl rfl)
def dkwJ18_addLast_2 : List UInt8 := [182, 0, 71, 177]
abbrev dktJ18_addLast_2 : List UInt8 := dkwJ18_addLast_2 ++ []
def dkwJ18_addLast_1 : List UInt8 := [42, 180, 0, 24, 42, 42, 180, 0, 20, 44, 190, 184, 0, 74, 90, 181, 0, 20, 160, 0, 8, 42, 4]
abbrev dktJ18_addLast_1 : List UInt8 := dkwJ18_addLast_1 ++ dktJ18_addLast_2
def dkwJ18_addLast_0 : List UInt8 := [43, 199, 0, 11, 187, 0, 65, 89, 183, 0, 67, 191, 42, 180, 0, 3, 77, 44, 42, 180, 0, 20, 43, 83]
abbrev dktJ18_addLast_0 : List UInt8 := dkwJ18_addLast_0 ++ dktJ18_addLast_1
theorem dksJ18_addLast_0 : cJ18_addLast.data.toList.drop 0 = dktJ18_addLast_0 := by decide +kernel
theorem dksJ18_addLast_1 : cJ18_addLast.data.toList.drop 24 = dktJ18_addLast_1 := dk_seg dksJ18_addLast_0 24 rfl rfl
theorem dksJ18_addLast_2 : cJ18_addLast.data.toList.drop 47 = dktJ18_addLast_2 := dk_seg dksJ18_addLast_1 23 rfl rfl
theorem dJ18_addLast_0 : decode cJ18_addLast 0 = .ok (.aload_n 1, 1) := dk_43 (dk_at dksJ18_addLast_0 0 rfl rfl)
theorem dJ18_addLast_1 : decode cJ18_addLast 1 = .ok (.ifnonnull 11, 3) := dk_199 0 11 (dk_at dksJ18_addLast_0 1 rfl rfl)
theorem dJ18_addLast_4 : decode cJ18_addLast 4 = .ok (.new 65, 3) := dk_187 0 65 (dk_at dksJ18_addLast_0 4 rfl rfl)
theorem dJ18_addLast_7 : decode cJ18_addLast 7 = .ok (.dup, 1) := dk_89 (dk_at dksJ18_addLast_0 7 rfl rfl)
theorem dJ18_addLast_8 : decode cJ18_addLast 8 = .ok (.invokespecial 67, 3) := dk_183 0 67 (dk_at dksJ18_addLast_0 8 rfl rfl)
theorem dJ18_addLast_11 : decode cJ18_addLast 11 = .ok (.athrow, 1) := dk_191 (dk_at dksJ18_addLast_0 11 rfl rfl)
theorem dJ18_addLast_12 : decode cJ18_addLast 12 = .ok (.aload_n 0, 1) := dk_42 (dk_at dksJ18_addLast_0 12 rfl rfl)
theorem dJ18_addLast_13 : decode cJ18_addLast 13 = .ok (.getfield 3, 3) := dk_180 0 3 (dk_at dksJ18_addLast_0 13 rfl rfl)
theorem dJ18_addLast_16 : decode cJ18_addLast 16 = .ok (.astore_n 2, 1) := dk_77 (dk_at dksJ18_addLast_0 16 rfl rfl)
theorem dJ18_addLast_17 : decode cJ18_addLast 17 = .ok (.aload_n 2, 1) := dk_44 (dk_at dksJ18_addLast_0 17 rfl rfl)
theorem dJ18_addLast_18 : decode cJ18_addLast 18 = .ok (.aload_n 0, 1) := dk_42 (dk_at dksJ18_addLast_0 18 rfl rfl)
theorem dJ18_addLast_19 : decode cJ18_addLast 19 = .ok (.getfield 20, 3) := dk_180 0 20 (dk_at dksJ18_addLast_0 19 rfl rfl)
theorem dJ18_addLast_22 : decode cJ18_addLast 22 = .ok (.aload_n 1, 1) := dk_43 (dk_at dksJ18_addLast_0 22 rfl rfl)
theorem dJ18_addLast_23 : decode cJ18_addLast 23 = .ok (.aastore, 1) := dk_83 (dk_at dksJ18_addLast_0 23 rfl rfl)
theorem dJ18_addLast_24 : decode cJ18_addLast 24 = .ok (.aload_n 0, 1) := dk_42 (dk_at dksJ18_addLast_1 0 rfl rfl)
theorem dJ18_addLast_25 : decode cJ18_addLast 25 = .ok (.getfield 24, 3) := dk_180 0 24 (dk_at dksJ18_addLast_1 1 rfl rfl)
theorem dJ18_addLast_28 : decode cJ18_addLast 28 = .ok (.aload_n 0, 1) := dk_42 (dk_at dksJ18_addLast_1 4 rfl rfl)
theorem dJ18_addLast_29 : decode cJ18_addLast 29 = .ok (.aload_n 0, 1) := dk_42 (dk_at dksJ18_addLast_1 5 rfl rfl)
theorem dJ18_addLast_30 : decode cJ18_addLast 30 = .ok (.getfield 20, 3) := dk_180 0 20 (dk_at dksJ18_addLast_1 6 rfl rfl)
theorem dJ18_addLast_33 : decode cJ18_addLast 33 = .ok (.aload_n 2, 1) := dk_44 (dk_at dksJ18_addLast_1 9 rfl rfl)
theorem dJ18_addLast_34 : decode cJ18_addLast 34 = .ok (.arraylength, 1) := dk_190 (dk_at dksJ18_addLast_1 10 rfl rfl)
theorem dJ18_addLast_35 : decode cJ18_addLast 35 = .ok (.invokestatic 74, 3) := dk_184 0 74 (dk_at dksJ18_addLast_1 11 rfl rfl)
theorem dJ18_addLast_38 : decode cJ18_addLast 38 = .ok (.dup_x1, 1) := dk_90 (dk_at dksJ18_addLast_1 14 rfl rfl)
theorem dJ18_addLast_39 : decode cJ18_addLast 39 = .ok (.putfield 20, 3) := dk_181 0 20 (dk_at dksJ18_addLast_1 15 rfl rfl)
theorem dJ18_addLast_42 : decode cJ18_addLast 42 = .ok (.if_icmp .ne 8, 3) := dk_160 0 8 (dk_at dksJ18_addLast_1 18 rfl rfl)
theorem dJ18_addLast_45 : decode cJ18_addLast 45 = .ok (.aload_n 0, 1) := dk_42 (dk_at dksJ18_addLast_1 21 rfl rfl)
theorem dJ18_addLast_46 : decode cJ18_addLast 46 = .ok (.iconst 1, 1) := dk_4 (dk_at dksJ18_addLast_1 22 rfl rfl)
theorem dJ18_addLast_47 : decode cJ18_addLast 47 = .ok (.invokevirtual 71, 3) := dk_182 0 71 (dk_at dksJ18_addLast_2 0 rfl rfl)
theorem dJ18_addLast_50 : decode cJ18_addLast 50 = .ok (.return_, 1) := dk_177 (dk_at dksJ18_addLast_2 3 rfl rfl)
def dkwJ18_grow_7 : List UInt8 := [177]
abbrev dktJ18_grow_7 : List UInt8 := dkwJ18_grow_7 ++ []
def dkwJ18_grow_6 : List UInt8 := [181, 0, 24, 54, 8, 21, 7, 21, 8, 162, 0, 15, 25, 5, 21, 7, 1, 83, 132, 7, 1, 167, 255, 240]
abbrev dktJ18_grow_6 : List UInt8 := dkwJ18_grow_6 ++ dktJ18_grow_7
def dkwJ18_grow_5 : List UInt8 := [42, 180, 0, 24, 100, 184, 0, 27, 42, 180, 0, 24, 54, 7, 42, 89, 180, 0, 24, 21, 6, 96, 90]
abbrev dktJ18_grow_5 : List UInt8 := dkwJ18_grow_5 ++ dktJ18_grow_6
def dkwJ18_grow_4 : List UInt8 := [198, 0, 71, 29, 28, 100, 54, 6, 25, 5, 42, 180, 0, 24, 25, 5, 42, 180, 0, 24, 21, 6, 96, 28]
abbrev dktJ18_grow_4 : List UInt8 := dkwJ18_grow_4 ++ dktJ18_grow_5
def dkwJ18_grow_3 : List UInt8 := [180, 0, 24, 161, 0, 24, 42, 180, 0, 20, 42, 180, 0, 24, 160, 0, 81, 25, 5, 42, 180, 0, 24, 50]
abbrev dktJ18_grow_3 : List UInt8 := dkwJ18_grow_3 ++ dktJ18_grow_4
def dkwJ18_grow_2 : List UInt8 := [182, 0, 10, 62, 42, 42, 180, 0, 3, 29, 184, 0, 14, 90, 181, 0, 3, 58, 5, 42, 180, 0, 20, 42]
abbrev dktJ18_grow_2 : List UInt8 := dkwJ18_grow_2 ++ dktJ18_grow_3
def dkwJ18_grow_1 : List UInt8 := [21, 4, 27, 161, 0, 15, 28, 21, 4, 96, 89, 62, 18, 9, 100, 158, 0, 11, 42, 27, 21, 4]
abbrev dktJ18_grow_1 : List UInt8 := dkwJ18_grow_1 ++ dktJ18_grow_2
def dkwJ18_grow_0 : List UInt8 := [42, 180, 0, 3, 190, 61, 28, 16, 64, 162, 0, 9, 28, 5, 96, 167, 0, 6, 28, 4, 122, 54, 4]
abbrev dktJ18_grow_0 : List UInt8 := dkwJ18_grow_0 ++ dktJ18_grow_1
theorem dksJ18_grow_0 : cJ18_grow.data.toList.drop 0 = dktJ18_grow_0 := by decide +kernel
theorem dksJ18_grow_1 : cJ18_grow.data.toList.drop 23 = dktJ18_grow_1 := dk_seg dksJ18_grow_0 23 rfl rfl
theorem dksJ18_grow_2 : cJ18_grow.data.toList.drop 45 = dktJ18_grow_2 := dk_seg dksJ18_grow_1 22 rfl rfl
theorem dksJ18_grow_3 : cJ18_grow.data.toList.drop 69 = dktJ18_grow_3 := dk_seg dksJ18_grow_2 24 rfl rfl
theorem dksJ18_grow_4 : cJ18_grow.data.toList.drop 93 = dktJ18_grow_4 := dk_seg dksJ18_grow_3 24 rfl rfl
theorem dksJ18_grow_5 : cJ18_grow.data.toList.drop 117 = dktJ18_grow_5 := dk_seg dksJ18_grow_4 24 rfl rfl
theorem dksJ18_grow_6 : cJ18_grow.data.toList.drop 140 = dktJ18_grow_6 := dk_seg dksJ18_grow_5 23 rfl rfl
theorem dksJ18_grow_7 : cJ18_grow.data.toList.drop 164 = dktJ18_grow_7 := dk_seg dksJ18_grow_6 24 rfl rfl
theorem dJ18_grow_0 : decode cJ18_grow 0 = .ok (.aload_n 0, 1) := dk_42 (dk_at dksJ18_grow_0 0 rfl rfl)
theorem dJ18_grow_1 : decode cJ18_grow 1 = .ok (.getfield 3, 3) := dk_180 0 3 (dk_at dksJ18_grow_0 1 rfl rfl)
theorem dJ18_grow_4 : decode cJ18_grow 4 = .ok (.arraylength, 1) := dk_190 (dk_at dksJ18_grow_0 4 rfl rfl)
theorem dJ18_grow_5 : decode cJ18_grow 5 = .ok (.istore_n 2, 1) := dk_61 (dk_at dksJ18_grow_0 5 rfl rfl)
theorem dJ18_grow_6 : decode cJ18_grow 6 = .ok (.iload_n 2, 1) := dk_28 (dk_at dksJ18_grow_0 6 rfl rfl)
theorem dJ18_grow_7 : decode cJ18_grow 7 = .ok (.bipush 64, 2) := dk_16 64 (dk_at dksJ18_grow_0 7 rfl rfl)
theorem dJ18_grow_9 : decode cJ18_grow 9 = .ok (.if_icmp .ge 9, 3) := dk_162 0 9 (dk_at dksJ18_grow_0 9 rfl rfl)
theorem dJ18_grow_12 : decode cJ18_grow 12 = .ok (.iload_n 2, 1) := dk_28 (dk_at dksJ18_grow_0 12 rfl rfl)
theorem dJ18_grow_13 : decode cJ18_grow 13 = .ok (.iconst 2, 1) := dk_5 (dk_at dksJ18_grow_0 13 rfl rfl)
theorem dJ18_grow_14 : decode cJ18_grow 14 = .ok (.iadd, 1) := dk_96 (dk_at dksJ18_grow_0 14 rfl rfl)
theorem dJ18_grow_15 : decode cJ18_grow 15 = .ok (.goto 6, 3) := dk_167 0 6 (dk_at dksJ18_grow_0 15 rfl rfl)
theorem dJ18_grow_18 : decode cJ18_grow 18 = .ok (.iload_n 2, 1) := dk_28 (dk_at dksJ18_grow_0 18 rfl rfl)
theorem dJ18_grow_19 : decode cJ18_grow 19 = .ok (.iconst 1, 1) := dk_4 (dk_at dksJ18_grow_0 19 rfl rfl)
theorem dJ18_grow_20 : decode cJ18_grow 20 = .ok (.ishr, 1) := dk_122 (dk_at dksJ18_grow_0 20 rfl rfl)
theorem dJ18_grow_21 : decode cJ18_grow 21 = .ok (.istore 4, 2) := dk_54 4 (dk_at dksJ18_grow_0 21 rfl rfl)
theorem dJ18_grow_23 : decode cJ18_grow 23 = .ok (.iload 4, 2) := dk_21 4 (dk_at dksJ18_grow_1 0 rfl rfl)
theorem dJ18_grow_25 : decode cJ18_grow 25 = .ok (.iload_n 1, 1) := dk_27 (dk_at dksJ18_grow_1 2 rfl rfl)
theorem dJ18_grow_26 : decode cJ18_grow 26 = .ok (.if_icmp .lt 15, 3) := dk_161 0 15 (dk_at dksJ18_grow_1 3 rfl rfl)
theorem dJ18_grow_29 : decode cJ18_grow 29 = .ok (.iload_n 2, 1) := dk_28 (dk_at dksJ18_grow_1 6 rfl rfl)
theorem dJ18_grow_30 : decode cJ18_grow 30 = .ok (.iload 4, 2) := dk_21 4 (dk_at dksJ18_grow_1 7 rfl rfl)
theorem dJ18_grow_32 : decode cJ18_grow 32 = .ok (.iadd, 1) := dk_96 (dk_at dksJ18_grow_1 9 rfl rfl)
theorem dJ18_grow_33 : decode cJ18_grow 33 = .ok (.dup, 1) := dk_89 (dk_at dksJ18_grow_1 10 rfl rfl)
theorem dJ18_grow_34 : decode cJ18_grow 34 = .ok (.istore_n 3, 1) := dk_62 (dk_at dksJ18_grow_1 11 rfl rfl)
theorem dJ18_grow_35 : decode cJ18_grow 35 = .ok (.ldc 9, 2) := dk_18 9 (dk_at dksJ18_grow_1 12 rfl rfl)
theorem dJ18_grow_37 : decode cJ18_grow 37 = .ok (.isub, 1) := dk_100 (dk_at dksJ18_grow_1 14 rfl rfl)
theorem dJ18_grow_38 : decode cJ18_grow 38 = .ok (.ifCond .le 11, 3) := dk_158 0 11 (dk_at dksJ18_grow_1 15 rfl rfl)
theorem dJ18_grow_41 : decode cJ18_grow 41 = .ok (.aload_n 0, 1) := dk_42 (dk_at dksJ18_grow_1 18 rfl rfl)
theorem dJ18_grow_42 : decode cJ18_grow 42 = .ok (.iload_n 1, 1) := dk_27 (dk_at dksJ18_grow_1 19 rfl rfl)
theorem dJ18_grow_43 : decode cJ18_grow 43 = .ok (.iload 4, 2) := dk_21 4 (dk_at dksJ18_grow_1 20 rfl rfl)
theorem dJ18_grow_45 : decode cJ18_grow 45 = .ok (.invokevirtual 10, 3) := dk_182 0 10 (dk_at dksJ18_grow_2 0 rfl rfl)
theorem dJ18_grow_48 : decode cJ18_grow 48 = .ok (.istore_n 3, 1) := dk_62 (dk_at dksJ18_grow_2 3 rfl rfl)
theorem dJ18_grow_49 : decode cJ18_grow 49 = .ok (.aload_n 0, 1) := dk_42 (dk_at dksJ18_grow_2 4 rfl rfl)
theorem dJ18_grow_50 : decode cJ18_grow 50 = .ok (.aload_n 0, 1) := dk_42 (dk_at dksJ18_grow_2 5 rfl rfl)
theorem dJ18_grow_51 : decode cJ18_grow 51 = .ok (.getfield 3, 3) := dk_180 0 3 (dk_at dksJ18_grow_2 6 rfl rfl)
theorem dJ18_grow_54 : decode cJ18_grow 54 = .ok (.iload_n 3, 1) := dk_29 (dk_at dksJ18_grow_2 9 rfl rfl)
theorem dJ18_grow_55 : decode cJ18_grow 55 = .ok (.invokestatic 14, 3) := dk_184 0 14 (dk_at dksJ18_grow_2 10 rfl rfl)
theorem dJ18_grow_58 : decode cJ18_grow 58 = .ok (.dup_x1, 1) := dk_90 (dk_at dksJ18_grow_2 13 rfl rfl)
theorem dJ18_grow_59 : decode cJ18_grow 59 = .ok (.putfield 3, 3) := dk_181 0 3 (dk_at dksJ18_grow_2 14 rfl rfl)
theorem dJ18_grow_62 : decode cJ18_grow 62 = .ok (.astore 5, 2) := dk_58 5 (dk_at dksJ18_grow_2 17 rfl rfl)
theorem dJ18_grow_64 : decode cJ18_grow 64 = .ok (.aload_n 0, 1) := dk_42 (dk_at dksJ18_grow_2 19 rfl rfl)
theorem dJ18_grow_65 : decode cJ18_grow 65 = .ok (.getfield 20, 3) := dk_180 0 20 (dk_at dksJ18_grow_2 20 rfl rfl)
theorem dJ18_grow_68 : decode cJ18_grow 68 = .ok (.aload_n 0, 1) := dk_42 (dk_at dksJ18_grow_2 23 rfl rfl)
theorem dJ18_grow_69 : decode cJ18_grow 69 = .ok (.getfield 24, 3) := dk_180 0 24 (dk_at dksJ18_grow_3 0 rfl rfl)
theorem dJ18_grow_72 : decode cJ18_grow 72 = .ok (.if_icmp .lt 24, 3) := dk_161 0 24 (dk_at dksJ18_grow_3 3 rfl rfl)
theorem dJ18_grow_75 : decode cJ18_grow 75 = .ok (.aload_n 0, 1) := dk_42 (dk_at dksJ18_grow_3 6 rfl rfl)
theorem dJ18_grow_76 : decode cJ18_grow 76 = .ok (.getfield 20, 3) := dk_180 0 20 (dk_at dksJ18_grow_3 7 rfl rfl)
theorem dJ18_grow_79 : decode cJ18_grow 79 = .ok (.aload_n 0, 1) := dk_42 (dk_at dksJ18_grow_3 10 rfl rfl)
theorem dJ18_grow_80 : decode cJ18_grow 80 = .ok (.getfield 24, 3) := dk_180 0 24 (dk_at dksJ18_grow_3 11 rfl rfl)
theorem dJ18_grow_83 : decode cJ18_grow 83 = .ok (.if_icmp .ne 81, 3) := dk_160 0 81 (dk_at dksJ18_grow_3 14 rfl rfl)
theorem dJ18_grow_86 : decode cJ18_grow 86 = .ok (.aload 5, 2) := dk_25 5 (dk_at dksJ18_grow_3 17 rfl rfl)
theorem dJ18_grow_88 : decode cJ18_grow 88 = .ok (.aload_n 0, 1) := dk_42 (dk_at dksJ18_grow_3 19 rfl rfl)
theorem dJ18_grow_89 : decode cJ18_grow 89 = .ok (.getfield 24, 3) := dk_180 0 24 (dk_at dksJ18_grow_3 20 rfl rfl)
theorem dJ18_grow_92 : decode cJ18_grow 92 = .ok (.aaload, 1) := dk_50 (dk_at dksJ18_grow_3 23 rfl rfl)
theorem dJ18_grow_93 : decode cJ18_grow 93 = .ok (.ifnull 71, 3) := dk_198 0 71 (dk_at dksJ18_grow_4 0 rfl rfl)
theorem dJ18_grow_96 : decode cJ18_grow 96 = .ok (.iload_n 3, 1) := dk_29 (dk_at dksJ18_grow_4 3 rfl rfl)
theorem dJ18_grow_97 : decode cJ18_grow 97 = .ok (.iload_n 2, 1) := dk_28 (dk_at dksJ18_grow_4 4 rfl rfl)
theorem dJ18_grow_98 : decode cJ18_grow 98 = .ok (.isub, 1) := dk_100 (dk_at dksJ18_grow_4 5 rfl rfl)
theorem dJ18_grow_99 : decode cJ18_grow 99 = .ok (.istore 6, 2) := dk_54 6 (dk_at dksJ18_grow_4 6 rfl rfl)
theorem dJ18_grow_101 : decode cJ18_grow 101 = .ok (.aload 5, 2) := dk_25 5 (dk_at dksJ18_grow_4 8 rfl rfl)
theorem dJ18_grow_103 : decode cJ18_grow 103 = .ok (.aload_n 0, 1) := dk_42 (dk_at dksJ18_grow_4 10 rfl rfl)
theorem dJ18_grow_104 : decode cJ18_grow 104 = .ok (.getfield 24, 3) := dk_180 0 24 (dk_at dksJ18_grow_4 11 rfl rfl)
theorem dJ18_grow_107 : decode cJ18_grow 107 = .ok (.aload 5, 2) := dk_25 5 (dk_at dksJ18_grow_4 14 rfl rfl)
theorem dJ18_grow_109 : decode cJ18_grow 109 = .ok (.aload_n 0, 1) := dk_42 (dk_at dksJ18_grow_4 16 rfl rfl)
theorem dJ18_grow_110 : decode cJ18_grow 110 = .ok (.getfield 24, 3) := dk_180 0 24 (dk_at dksJ18_grow_4 17 rfl rfl)
theorem dJ18_grow_113 : decode cJ18_grow 113 = .ok (.iload 6, 2) := dk_21 6 (dk_at dksJ18_grow_4 20 rfl rfl)
theorem dJ18_grow_115 : decode cJ18_grow 115 = .ok (.iadd, 1) := dk_96 (dk_at dksJ18_grow_4 22 rfl rfl)
theorem dJ18_grow_116 : decode cJ18_grow 116 = .ok (.iload_n 2, 1) := dk_28 (dk_at dksJ18_grow_4 23 rfl rfl)
theorem dJ18_grow_117 : decode cJ18_grow 117 = .ok (.aload_n 0, 1) := dk_42 (dk_at dksJ18_grow_5 0 rfl rfl)
theorem dJ18_grow_118 : decode cJ18_grow 118 = .ok (.getfield 24, 3) := dk_180 0 24 (dk_at dksJ18_grow_5 1 rfl rfl)
theorem dJ18_grow_121 : decode cJ18_grow 121 = .ok (.isub, 1) := dk_100 (dk_at dksJ18_grow_5 4 rfl rfl)
theorem dJ18_grow_122 : decode cJ18_grow 122 = .ok (.invokestatic 27, 3) := dk_184 0 27 (dk_at dksJ18_grow_5 5 rfl rfl)
theorem dJ18_grow_125 : decode cJ18_grow 125 = .ok (.aload_n 0, 1) := dk_42 (dk_at dksJ18_grow_5 8 rfl rfl)
theorem dJ18_grow_126 : decode cJ18_grow 126 = .ok (.getfield 24, 3) := dk_180 0 24 (dk_at dksJ18_grow_5 9 rfl rfl)
theorem dJ18_grow_129 : decode cJ18_grow 129 = .ok (.istore 7, 2) := dk_54 7 (dk_at dksJ18_grow_5 12 rfl rfl)
theorem dJ18_grow_131 : decode cJ18_grow 131 = .ok (.aload_n 0, 1) := dk_42 (dk_at dksJ18_grow_5 14 rfl rfl)
theorem dJ18_grow_132 : decode cJ18_grow 132 = .ok (.dup, 1) := dk_89 (dk_at dksJ18_grow_5 15 rfl rfl)
theorem dJ18_grow_133 : decode cJ18_grow 133 = .ok (.getfield 24, 3) := dk_180 0 24 (dk_at dksJ18_grow_5 16 rfl rfl)
theorem dJ18_grow_136 : decode cJ18_grow 136 = .ok (.iload 6, 2) := dk_21 6 (dk_at dksJ18_grow_5 19 rfl rfl)
theorem dJ18_grow_138 : decode cJ18_grow 138 = .ok (.iadd, 1) := dk_96 (dk_at dksJ18_grow_5 21 rfl rfl)
theorem dJ18_grow_139 : decode cJ18_grow 139 = .ok (.dup_x1, 1) := dk_90 (dk_at dksJ18_grow_5 22 rfl rfl)
theorem dJ18_grow_140 : decode cJ18_grow 140 = .ok (.putfield 24, 3) := dk_181 0 24 (dk_at dksJ18_grow_6 0 rfl rfl)
theorem dJ18_grow_143 : decode cJ18_grow 143 = .ok (.istore 8, 2) := dk_54 8 (dk_at dksJ18_grow_6 3 rfl rfl)
theorem dJ18_grow_145 : decode cJ18_grow 145 = .ok (.iload 7, 2) := dk_21 7 (dk_at dksJ18_grow_6 5 rfl rfl)
theorem dJ18_grow_147 : decode cJ18_grow 147 = .ok (.iload 8, 2) := dk_21 8 (dk_at dksJ18_grow_6 7 rfl rfl)
theorem dJ18_grow_149 : decode cJ18_grow 149 = .ok (.if_icmp .ge 15, 3) := dk_162 0 15 (dk_at dksJ18_grow_6 9 rfl rfl)
theorem dJ18_grow_152 : decode cJ18_grow 152 = .ok (.aload 5, 2) := dk_25 5 (dk_at dksJ18_grow_6 12 rfl rfl)
theorem dJ18_grow_154 : decode cJ18_grow 154 = .ok (.iload 7, 2) := dk_21 7 (dk_at dksJ18_grow_6 14 rfl rfl)
theorem dJ18_grow_156 : decode cJ18_grow 156 = .ok (.aconst_null, 1) := dk_1 (dk_at dksJ18_grow_6 16 rfl rfl)
theorem dJ18_grow_157 : decode cJ18_grow 157 = .ok (.aastore, 1) := dk_83 (dk_at dksJ18_grow_6 17 rfl rfl)
theorem dJ18_grow_158 : decode cJ18_grow 158 = .ok (.iinc 7 1, 3) := dk_132 7 1 (dk_at dksJ18_grow_6 18 rfl rfl)
theorem dJ18_grow_161 : decode cJ18_grow 161 = .ok (.goto (-16), 3) := dk_167 255 240 (dk_at dksJ18_grow_6 21 rfl rfl)
theorem dJ18_grow_164 : decode cJ18_grow 164 = .ok (.return_, 1) := dk_177 (dk_at dksJ18_grow_7 0 rfl rfl)
def dkwJ18_newCapacity_2 : List UInt8 := [18, 9, 100, 156, 0, 9, 29, 28, 96, 167, 0, 5, 18, 9, 172]
abbrev dktJ18_newCapacity_2 : List UInt8 := dkwJ18_newCapacity_2 ++ []
def dkwJ18_newCapacity_1 : List UInt8 := [187, 0, 33, 89, 18, 35, 183, 0, 37, 191, 18, 41, 172, 27, 28, 164, 0, 6, 21, 4, 172, 29, 28, 96]
abbrev dktJ18_newCapacity_1 : List UInt8 := dkwJ18_newCapacity_1 ++ dktJ18_newCapacity_2
def dkwJ18_newCapacity_0 : List UInt8 := [42, 180, 0, 3, 190, 62, 29, 27, 96, 89, 54, 4, 18, 9, 100, 158, 0, 21, 21, 4, 156, 0, 13]
abbrev dktJ18_newCapacity_0 : List UInt8 := dkwJ18_newCapacity_0 ++ dktJ18_newCapacity_1
theorem dksJ18_newCapacity_0 : cJ18_newCapacity.data.toList.drop 0 = dktJ18_newCapacity_0 := by decide +kernel
theorem dksJ18_newCapacity_1 : cJ18_newCapacity.data.toList.drop 23 = dktJ18_newCapacity_1 := dk_seg dksJ18_newCapacity_0 23 rfl rfl
theorem dksJ18_newCapacity_2 : cJ18_newCapacity.data.toList.drop 47 = dktJ18_newCapacity_2 := dk_seg dksJ18_newCapacity_1 24 rfl rfl
theorem dJ18_newCapacity_0 : decode cJ18_newCapacity 0 = .ok (.aload_n 0, 1) := dk_42 (dk_at dksJ18_newCapacity_0 0 rfl rfl)
theorem dJ18_newCapacity_1 : decode cJ18_newCapacity 1 = .ok (.getfield 3, 3) := dk_180 0 3 (dk_at dksJ18_newCapacity_0 1 rfl rfl)
theorem dJ18_newCapacity_4 : decode cJ18_newCapacity 4 = .ok (.arraylength, 1) := dk_190 (dk_at dksJ18_newCapacity_0 4 rfl rfl)
theorem dJ18_newCapacity_5 : decode cJ18_newCapacity 5 = .ok (.istore_n 3, 1) := dk_62 (dk_at dksJ18_newCapacity_0 5 rfl rfl)
theorem dJ18_newCapacity_6 : decode cJ18_newCapacity 6 = .ok (.iload_n 3, 1) := dk_29 (dk_at dksJ18_newCapacity_0 6 rfl rfl)
theorem dJ18_newCapacity_7 : decode cJ18_newCapacity 7 = .ok (.iload_n 1, 1) := dk_27 (dk_at dksJ18_newCapacity_0 7 rfl rfl)
theorem dJ18_newCapacity_8 : decode cJ18_newCapacity 8 = .ok (.iadd, 1) := dk_96 (dk_at dksJ18_newCapacity_0 8 rfl rfl)
theorem dJ18_newCapacity_9 : decode cJ18_newCapacity 9 = .ok (.dup, 1) := dk_89 (dk_at dksJ18_newCapacity_0 9 rfl rfl)
theorem dJ18_newCapacity_10 : decode cJ18_newCapacity 10 = .ok (.istore 4, 2) := dk_54 4 (dk_at dksJ18_newCapacity_0 10 rfl rfl)
theorem dJ18_newCapacity_12 : decode cJ18_newCapacity 12 = .ok (.ldc 9, 2) := dk_18 9 (dk_at dksJ18_newCapacity_0 12 rfl rfl)
theorem dJ18_newCapacity_14 : decode cJ18_newCapacity 14 = .ok (.isub, 1) := dk_100 (dk_at dksJ18_newCapacity_0 14 rfl rfl)
theorem dJ18_newCapacity_15 : decode cJ18_newCapacity 15 = .ok (.ifCond .le 21, 3) := dk_158 0 21 (dk_at dksJ18_newCapacity_0 15 rfl rfl)
theorem dJ18_newCapacity_18 : decode cJ18_newCapacity 18 = .ok (.iload 4, 2) := dk_21 4 (dk_at dksJ18_newCapacity_0 18 rfl rfl)
theorem dJ18_newCapacity_20 : decode cJ18_newCapacity 20 = .ok (.ifCond .ge 13, 3) := dk_156 0 13 (dk_at dksJ18_newCapacity_0 20 rfl rfl)
theorem dJ18_newCapacity_23 : decode cJ18_newCapacity 23 = .ok (.new 33, 3) := dk_187 0 33 (dk_at dksJ18_newCapacity_1 0 rfl rfl)
theorem dJ18_newCapacity_26 : decode cJ18_newCapacity 26 = .ok (.dup, 1) := dk_89 (dk_at dksJ18_newCapacity_1 3 rfl rfl)
theorem dJ18_newCapacity_27 : decode cJ18_newCapacity 27 = .ok (.ldc 35, 2) := dk_18 35 (dk_at dksJ18_newCapacity_1 4 rfl rfl)
theorem dJ18_newCapacity_29 : decode cJ18_newCapacity 29 = .ok (.invokespecial 37, 3) := dk_183 0 37 (dk_at dksJ18_newCapacity_1 6 rfl rfl)
theorem dJ18_newCapacity_32 : decode cJ18_newCapacity 32 = .ok (.athrow, 1) := dk_191 (dk_at dksJ18_newCapacity_1 9 rfl rfl)
theorem dJ18_newCapacity_33 : decode cJ18_newCapacity 33 = .ok (.ldc 41, 2) := dk_18 41 (dk_at dksJ18_newCapacity_1 10 rfl rfl)
theorem dJ18_newCapacity_35 : decode cJ18_newCapacity 35 = .ok (.ireturn, 1) := dk_172 (dk_at dksJ18_newCapacity_1 12 rfl rfl)
theorem dJ18_newCapacity_36 : decode cJ18_newCapacity 36 = .ok (.iload_n 1, 1) := dk_27 (dk_at dksJ18_newCapacity_1 13 rfl rfl)
theorem dJ18_newCapacity_37 : decode cJ18_newCapacity 37 = .ok (.iload_n 2, 1) := dk_28 (dk_at dksJ18_newCapacity_1 14 rfl rfl)
theorem dJ18_newCapacity_38 : decode cJ18_newCapacity 38 = .ok (.if_icmp .le 6, 3) := dk_164 0 6 (dk_at dksJ18_newCapacity_1 15 rfl rfl)
theorem dJ18_newCapacity_41 : decode cJ18_newCapacity 41 = .ok (.iload 4, 2) := dk_21 4 (dk_at dksJ18_newCapacity_1 18 rfl rfl)
theorem dJ18_newCapacity_43 : decode cJ18_newCapacity 43 = .ok (.ireturn, 1) := dk_172 (dk_at dksJ18_newCapacity_1 20 rfl rfl)
theorem dJ18_newCapacity_44 : decode cJ18_newCapacity 44 = .ok (.iload_n 3, 1) := dk_29 (dk_at dksJ18_newCapacity_1 21 rfl rfl)
theorem dJ18_newCapacity_45 : decode cJ18_newCapacity 45 = .ok (.iload_n 2, 1) := dk_28 (dk_at dksJ18_newCapacity_1 22 rfl rfl)
theorem dJ18_newCapacity_46 : decode cJ18_newCapacity 46 = .ok (.iadd, 1) := dk_96 (dk_at dksJ18_newCapacity_1 23 rfl rfl)
theorem dJ18_newCapacity_47 : decode cJ18_newCapacity 47 = .ok (.ldc 9, 2) := dk_18 9 (dk_at dksJ18_newCapacity_2 0 rfl rfl)
theorem dJ18_newCapacity_49 : decode cJ18_newCapacity 49 = .ok (.isub, 1) := dk_100 (dk_at dksJ18_newCapacity_2 2 rfl rfl)
theorem dJ18_newCapacity_50 : decode cJ18_newCapacity 50 = .ok (.ifCond .ge 9, 3) := dk_156 0 9 (dk_at dksJ18_newCapacity_2 3 rfl rfl)
theorem dJ18_newCapacity_53 : decode cJ18_newCapacity 53 = .ok (.iload_n 3, 1) := dk_29 (dk_at dksJ18_newCapacity_2 6 rfl rfl)
theorem dJ18_newCapacity_54 : decode cJ18_newCapacity 54 = .ok (.iload_n 2, 1) := dk_28 (dk_at dksJ18_newCapacity_2 7 rfl rfl)
theorem dJ18_newCapacity_55 : decode cJ18_newCapacity 55 = .ok (.iadd, 1) := dk_96 (dk_at dksJ18_newCapacity_2 8 rfl rfl)
theorem dJ18_newCapacity_56 : decode cJ18_newCapacity 56 = .ok (.goto 5, 3) := dk_167 0 5 (dk_at dksJ18_newCapacity_2 9 rfl rfl)
theorem dJ18_newCapacity_59 : decode cJ18_newCapacity 59 = .ok (.ldc 9, 2) := dk_18 9 (dk_at dksJ18_newCapacity_2 12 rfl rfl)
theorem dJ18_newCapacity_61 : decode cJ18_newCapacity 61 = .ok (.ireturn, 1) := dk_172 (dk_at dksJ18_newCapacity_2 14 rfl rfl)
def dkwJ18_clear_1 : List UInt8 := [181, 0, 24, 177]
abbrev dktJ18_clear_1 : List UInt8 := dkwJ18_clear_1 ++ []
def dkwJ18_clear_0 : List UInt8 := [42, 180, 0, 3, 42, 180, 0, 24, 42, 180, 0, 20, 184, 0, 181, 42, 42, 3, 90, 181, 0, 20]
abbrev dktJ18_clear_0 : List UInt8 := dkwJ18_clear_0 ++ dktJ18_clear_1
theorem dksJ18_clear_0 : cJ18_clear.data.toList.drop 0 = dktJ18_clear_0 := by decide +kernel
theorem dksJ18_clear_1 : cJ18_clear.data.toList.drop 22 = dktJ18_clear_1 := dk_seg dksJ18_clear_0 22 rfl rfl
theorem dJ18_clear_0 : decode cJ18_clear 0 = .ok (.aload_n 0, 1) := dk_42 (dk_at dksJ18_clear_0 0 rfl rfl)
theorem dJ18_clear_1 : decode cJ18_clear 1 = .ok (.getfield 3, 3) := dk_180 0 3 (dk_at dksJ18_clear_0 1 rfl rfl)
theorem dJ18_clear_4 : decode cJ18_clear 4 = .ok (.aload_n 0, 1) := dk_42 (dk_at dksJ18_clear_0 4 rfl rfl)
theorem dJ18_clear_5 : decode cJ18_clear 5 = .ok (.getfield 24, 3) := dk_180 0 24 (dk_at dksJ18_clear_0 5 rfl rfl)
theorem dJ18_clear_8 : decode cJ18_clear 8 = .ok (.aload_n 0, 1) := dk_42 (dk_at dksJ18_clear_0 8 rfl rfl)
theorem dJ18_clear_9 : decode cJ18_clear 9 = .ok (.getfield 20, 3) := dk_180 0 20 (dk_at dksJ18_clear_0 9 rfl rfl)
theorem dJ18_clear_12 : decode cJ18_clear 12 = .ok (.invokestatic 181, 3) := dk_184 0 181 (dk_at dksJ18_clear_0 12 rfl rfl)
theorem dJ18_clear_15 : decode cJ18_clear 15 = .ok (.aload_n 0, 1) := dk_42 (dk_at dksJ18_clear_0 15 rfl rfl)
theorem dJ18_clear_16 : decode cJ18_clear 16 = .ok (.aload_n 0, 1) := dk_42 (dk_at dksJ18_clear_0 16 rfl rfl)
theorem dJ18_clear_17 : decode cJ18_clear 17 = .ok (.iconst 0, 1) := dk_3 (dk_at dksJ18_clear_0 17 rfl rfl)
theorem dJ18_clear_18 : decode cJ18_clear 18 = .ok (.dup_x1, 1) := dk_90 (dk_at dksJ18_clear_0 18 rfl rfl)
theorem dJ18_clear_19 : decode cJ18_clear 19 = .ok (.putfield 20, 3) := dk_181 0 20 (dk_at dksJ18_clear_0 19 rfl rfl)
theorem dJ18_clear_22 : decode cJ18_clear 22 = .ok (.putfield 24, 3) := dk_181 0 24 (dk_at dksJ18_clear_1 0 rfl rfl)
theorem dJ18_clear_25 : decode cJ18_clear 25 = .ok (.return_, 1) := dk_177 (dk_at dksJ18_clear_1 3 rfl rfl)
def dkwJ18_circularClear_1 : List UInt8 := [167, 255, 244, 29, 28, 160, 0, 6, 167, 0, 10, 3, 60, 28, 62, 167, 255, 229, 177]
abbrev dktJ18_circularClear_1 : List UInt8 := dkwJ18_circularClear_1 ++ []
def dkwJ18_circularClear_0 : List UInt8 := [27, 28, 163, 0, 7, 28, 167, 0, 5, 42, 190, 62, 27, 29, 162, 0, 13, 42, 27, 1, 83, 132, 1, 1]
abbrev dktJ18_circularClear_0 : List UInt8 := dkwJ18_circularClear_0 ++ dktJ18_circularClear_1
theorem dksJ18_circularClear_0 : cJ18_circularClear.data.toList.drop 0 = dktJ18_circularClear_0 := by decide +kernel
theorem dksJ18_circularClear_1 : cJ18_circularClear.data.toList.drop 24 = dktJ18_circularClear_1 := dk_seg dksJ18_circularClear_0 24 rfl rfl
theorem dJ18_circularClear_0 : decode cJ18_circularClear 0 = .ok (.iload_n 1, 1) := dk_27 (dk_at dksJ18_circularClear_0 0 rfl rfl)
theorem dJ18_circularClear_1 : decode cJ18_circularClear 1 = .ok (.iload_n 2, 1) := dk_28 (dk_at dksJ18_circularClear_0 1 rfl rfl)
theorem dJ18_circularClear_2 : decode cJ18_circularClear 2 = .ok (.if_icmp .gt 7, 3) := dk_163 0 7 (dk_at dksJ18_circularClear_0 2 rfl rfl)
theorem dJ18_circularClear_5 : decode cJ18_circularClear 5 = .ok (.iload_n 2, 1) := dk_28 (dk_at dksJ18_circularClear_0 5 rfl rfl)
theorem dJ18_circularClear_6 : decode cJ18_circularClear 6 = .ok (.goto 5, 3) := dk_167 0 5 (dk_at dksJ18_circularClear_0 6 rfl rfl)
theorem dJ18_circularClear_9 : decode cJ18_circularClear 9 = .ok (.aload_n 0, 1) := dk_42 (dk_at dksJ18_circularClear_0 9 rfl rfl)
theorem dJ18_circularClear_10 : decode cJ18_circularClear 10 = .ok (.arraylength, 1) := dk_190 (dk_at dksJ18_circularClear_0 10 rfl rfl)
theorem dJ18_circularClear_11 : decode cJ18_circularClear 11 = .ok (.istore_n 3, 1) := dk_62 (dk_at dksJ18_circularClear_0 11 rfl rfl)
theorem dJ18_circularClear_12 : decode cJ18_circularClear 12 = .ok (.iload_n 1, 1) := dk_27 (dk_at dksJ18_circularClear_0 12 rfl rfl)
theorem dJ18_circularClear_13 : decode cJ18_circularClear 13 = .ok (.iload_n 3, 1) := dk_29 (dk_at dksJ18_circularClear_0 13 rfl rfl)
theorem dJ18_circularClear_14 : decode cJ18_circularClear 14 = .ok (.if_icmp .ge 13, 3) := dk_162 0 13 (dk_at dksJ18_circularClear_0 14 rfl rfl)
theorem dJ18_circularClear_17 : decode cJ18_circularClear 17 = .ok (.aload_n 0, 1) := dk_42 (dk_at dksJ18_circularClear_0 17 rfl rfl)
theorem dJ18_circularClear_18 : decode cJ18_circularClear 18 = .ok (.iload_n 1, 1) := dk_27 (dk_at dksJ18_circularClear_0 18 rfl rfl)
theorem dJ18_circularClear_19 : decode cJ18_circularClear 19 = .ok (.aconst_null, 1) := dk_1 (dk_at dksJ18_circularClear_0 19 rfl rfl)
theorem dJ18_circularClear_20 : decode cJ18_circularClear 20 = .ok (.aastore, 1) := dk_83 (dk_at dksJ18_circularClear_0 20 rfl rfl)
theorem dJ18_circularClear_21 : decode cJ18_circularClear 21 = .ok (.iinc 1 1, 3) := dk_132 1 1 (dk_at dksJ18_circularClear_0 21 rfl rfl)
theorem dJ18_circularClear_24 : decode cJ18_circularClear 24 = .ok (.goto (-12), 3) := dk_167 255 244 (dk_at dksJ18_circularClear_1 0 rfl rfl)
theorem dJ18_circularClear_27 : decode cJ18_circularClear 27 = .ok (.iload_n 3, 1) := dk_29 (dk_at dksJ18_circularClear_1 3 rfl rfl)
theorem dJ18_circularClear_28 : decode cJ18_circularClear 28 = .ok (.iload_n 2, 1) := dk_28 (dk_at dksJ18_circularClear_1 4 rfl rfl)
theorem dJ18_circularClear_29 : decode cJ18_circularClear 29 = .ok (.if_icmp .ne 6, 3) := dk_160 0 6 (dk_at dksJ18_circularClear_1 5 rfl rfl)
theorem dJ18_circularClear_32 : decode cJ18_circularClear 32 = .ok (.goto 10, 3) := dk_167 0 10 (dk_at dksJ18_circularClear_1 8 rfl rfl)
theorem dJ18_circularClear_35 : decode cJ18_circularClear 35 = .ok (.iconst 0, 1) := dk_3 (dk_at dksJ18_circularClear_1 11 rfl rfl)
theorem dJ18_circularClear_36 : decode cJ18_circularClear 36 = .ok (.istore_n 1, 1) := dk_60 (dk_at dksJ18_circularClear_1 12 rfl rfl)
theorem dJ18_circularClear_37 : decode cJ18_circularClear 37 = .ok (.iload_n 2, 1) := dk_28 (dk_at dksJ18_circularClear_1 13 rfl rfl)
theorem dJ18_circularClear_38 : decode cJ18_circularClear 38 = .ok (.istore_n 3, 1) := dk_62 (dk_at dksJ18_circularClear_1 14 rfl rfl)
theorem dJ18_circularClear_39 : decode cJ18_circularClear 39 = .ok (.goto (-27), 3) := dk_167 255 229 (dk_at dksJ18_circularClear_1 15 rfl rfl)
theorem dJ18_circularClear_42 : decode cJ18_circularClear 42 = .ok (.return_, 1) := dk_177 (dk_at dksJ18_circularClear_1 18 rfl rfl)
def dkwJ18_isEmpty_0 : List UInt8 := [42, 180, 0, 24, 42, 180, 0, 20, 160, 0, 7, 4, 167, 0, 4, 3, 172]
abbrev dktJ18_isEmpty_0 : List UInt8 := dkwJ18_isEmpty_0 ++ []
theorem dksJ18_isEmpty_0 : cJ18_isEmpty.data.toList.drop 0 = dktJ18_isEmpty_0 := by decide +kernel
theorem dJ18_isEmpty_0 : decode cJ18_isEmpty 0 = .ok (.aload_n 0, 1) := dk_42 (dk_at dksJ18_isEmpty_0 0 rfl rfl)
theorem dJ18_isEmpty_1 : decode cJ18_isEmpty 1 = .ok (.getfield 24, 3) := dk_180 0 24 (dk_at dksJ18_isEmpty_0 1 rfl rfl)
theorem dJ18_isEmpty_4 : decode cJ18_isEmpty 4 = .ok (.aload_n 0, 1) := dk_42 (dk_at dksJ18_isEmpty_0 4 rfl rfl)
theorem dJ18_isEmpty_5 : decode cJ18_isEmpty 5 = .ok (.getfield 20, 3) := dk_180 0 20 (dk_at dksJ18_isEmpty_0 5 rfl rfl)
theorem dJ18_isEmpty_8 : decode cJ18_isEmpty 8 = .ok (.if_icmp .ne 7, 3) := dk_160 0 7 (dk_at dksJ18_isEmpty_0 8 rfl rfl)
theorem dJ18_isEmpty_11 : decode cJ18_isEmpty 11 = .ok (.iconst 1, 1) := dk_4 (dk_at dksJ18_isEmpty_0 11 rfl rfl)
theorem dJ18_isEmpty_12 : decode cJ18_isEmpty 12 = .ok (.goto 4, 3) := dk_167 0 4 (dk_at dksJ18_isEmpty_0 12 rfl rfl)
theorem dJ18_isEmpty_15 : decode cJ18_isEmpty 15 = .ok (.iconst 0, 1) := dk_3 (dk_at dksJ18_isEmpty_0 15 rfl rfl)
theorem dJ18_isEmpty_16 : decode cJ18_isEmpty 16 = .ok (.ireturn, 1) := dk_172 (dk_at dksJ18_isEmpty_0 16 rfl rfl)
def dkwJ18_removeLast_0 : List UInt8 := [42, 182, 0, 100, 76, 43, 199, 0, 11, 187, 0, 97, 89, 183, 0, 99, 191, 43, 176]
abbrev dktJ18_removeLast_0 : List UInt8 := dkwJ18_removeLast_0 ++ []
theorem dksJ18_removeLast_0 : cJ18_removeLast.data.toList.drop 0 = dktJ18_removeLast_0 := by decide +kernel
theorem dJ18_removeLast_0 : decode cJ18_removeLast 0 = .ok (.aload_n 0, 1) := dk_42 (dk_at dksJ18_removeLast_0 0 rfl rfl)
theorem dJ18_removeLast_1 : decode cJ18_removeLast 1 = .ok (.invokevirtual 100, 3) := dk_182 0 100 (dk_at dksJ18_removeLast_0 1 rfl rfl)
theorem dJ18_removeLast_4 : decode cJ18_removeLast 4 = .ok (.astore_n 1, 1) := dk_76 (dk_at dksJ18_removeLast_0 4 rfl rfl)
theorem dJ18_removeLast_5 : decode cJ18_removeLast 5 = .ok (.aload_n 1, 1) := dk_43 (dk_at dksJ18_removeLast_0 5 rfl rfl)
theorem dJ18_removeLast_6 : decode cJ18_removeLast 6 = .ok (.ifnonnull 11, 3) := dk_199 0 11 (dk_at dksJ18_removeLast_0 6 rfl rfl)
theorem dJ18_removeLast_9 : decode cJ18_removeLast 9 = .ok (.new 97, 3) := dk_187 0 97 (dk_at dksJ18_removeLast_0 9 rfl rfl)
theorem dJ18_removeLast_12 : decode cJ18_removeLast 12 = .ok (.dup, 1) := dk_89 (dk_at dksJ18_removeLast_0 12 rfl rfl)
theorem dJ18_removeLast_13 : decode cJ18_removeLast 13 = .ok (.invokespecial 99, 3) := dk_183 0 99 (dk_at dksJ18_removeLast_0 13 rfl rfl)
theorem dJ18_removeLast_16 : decode cJ18_removeLast 16 = .ok (.athrow, 1) := dk_191 (dk_at dksJ18_removeLast_0 16 rfl rfl)
theorem dJ18_removeLast_17 : decode cJ18_removeLast 17 = .ok (.aload_n 1, 1) := dk_43 (dk_at dksJ18_removeLast_0 17 rfl rfl)
theorem dJ18_removeLast_18 : decode cJ18_removeLast 18 = .ok (.areturn, 1) := dk_176 (dk_at dksJ18_removeLast_0 18 rfl rfl)
def dkwJ18_pollLast_1 : List UInt8 := [198, 0, 12, 43, 42, 28, 90, 181, 0, 20, 1, 83, 45, 176]
abbrev dktJ18_pollLast_1 : List UInt8 := dkwJ18_pollLast_1 ++ []
def dkwJ18_pollLast_0 : List UInt8 := [42, 180, 0, 3, 89, 76, 42, 180, 0, 20, 43, 190, 184, 0, 68, 89, 61, 184, 0, 103, 78, 45]
abbrev dktJ18_pollLast_0 : List UInt8 := dkwJ18_pollLast_0 ++ dktJ18_pollLast_1
theorem dksJ18_pollLast_0 : cJ18_pollLast.data.toList.drop 0 = dktJ18_pollLast_0 := by decide +kernel
theorem dksJ18_pollLast_1 : cJ18_pollLast.data.toList.drop 22 = dktJ18_pollLast_1 := dk_seg dksJ18_pollLast_0 22 rfl rfl
theorem dJ18_pollLast_0 : decode cJ18_pollLast 0 = .ok (.aload_n 0, 1) := dk_42 (dk_at dksJ18_pollLast_0 0 rfl rfl)
theorem dJ18_pollLast_1 : decode cJ18_pollLast 1 = .ok (.getfield 3, 3) := dk_180 0 3 (dk_at dksJ18_pollLast_0 1 rfl rfl)
theorem dJ18_pollLast_4 : decode cJ18_pollLast 4 = .ok (.dup, 1) := dk_89 (dk_at dksJ18_pollLast_0 4 rfl rfl)
theorem dJ18_pollLast_5 : decode cJ18_pollLast 5 = .ok (.astore_n 1, 1) := dk_76 (dk_at dksJ18_pollLast_0 5 rfl rfl)
theorem dJ18_pollLast_6 : decode cJ18_pollLast 6 = .ok (.aload_n 0, 1) := dk_42 (dk_at dksJ18_pollLast_0 6 rfl rfl)
theorem dJ18_pollLast_7 : decode cJ18_pollLast 7 = .ok (.getfield 20, 3) := dk_180 0 20 (dk_at dksJ18_pollLast_0 7 rfl rfl)
theorem dJ18_pollLast_10 : decode cJ18_pollLast 10 = .ok (.aload_n 1, 1) := dk_43 (dk_at dksJ18_pollLast_0 10 rfl rfl)
theorem dJ18_pollLast_11 : decode cJ18_pollLast 11 = .ok (.arraylength, 1) := dk_190 (dk_at dksJ18_pollLast_0 11 rfl rfl)
theorem dJ18_pollLast_12 : decode cJ18_pollLast 12 = .ok (.invokestatic 68, 3) := dk_184 0 68 (dk_at dksJ18_pollLast_0 12 rfl rfl)
theorem dJ18_pollLast_15 : decode cJ18_pollLast 15 = .ok (.dup, 1) := dk_89 (dk_at dksJ18_pollLast_0 15 rfl rfl)
theorem dJ18_pollLast_16 : decode cJ18_pollLast 16 = .ok (.istore_n 2, 1) := dk_61 (dk_at dksJ18_pollLast_0 16 rfl rfl)
theorem dJ18_pollLast_17 : decode cJ18_pollLast 17 = .ok (.invokestatic 103, 3) := dk_184 0 103 (dk_at dksJ18_pollLast_0 17 rfl rfl)
theorem dJ18_pollLast_20 : decode cJ18_pollLast 20 = .ok (.astore_n 3, 1) := dk_78 (dk_at dksJ18_pollLast_0 20 rfl rfl)
theorem dJ18_pollLast_21 : decode cJ18_pollLast 21 = .ok (.aload_n 3, 1) := dk_45 (dk_at dksJ18_pollLast_0 21 rfl rfl)
theorem dJ18_pollLast_22 : decode cJ18_pollLast 22 = .ok (.ifnull 12, 3) := dk_198 0 12 (dk_at dksJ18_pollLast_1 0 rfl rfl)
theorem dJ18_pollLast_25 : decode cJ18_pollLast 25 = .ok (.aload_n 1, 1) := dk_43 (dk_at dksJ18_pollLast_1 3 rfl rfl)
theorem dJ18_pollLast_26 : decode cJ18_pollLast 26 = .ok (.aload_n 0, 1) := dk_42 (dk_at dksJ18_pollLast_1 4 rfl rfl)
theorem dJ18_pollLast_27 : decode cJ18_pollLast 27 = .ok (.iload_n 2, 1) := dk_28 (dk_at dksJ18_pollLast_1 5 rfl rfl)
theorem dJ18_pollLast_28 : decode cJ18_pollLast 28 = .ok (.dup_x1, 1) := dk_90 (dk_at dksJ18_pollLast_1 6 rfl rfl)
theorem dJ18_pollLast_29 : decode cJ18_pollLast 29 = .ok (.putfield 20, 3) := dk_181 0 20 (dk_at dksJ18_pollLast_1 7 rfl rfl)
theorem dJ18_pollLast_32 : decode cJ18_pollLast 32 = .ok (.aconst_null, 1) := dk_1 (dk_at dksJ18_pollLast_1 10 rfl rfl)
theorem dJ18_pollLast_33 : decode cJ18_pollLast 33 = .ok (.aastore, 1) := dk_83 (dk_at dksJ18_pollLast_1 11 rfl rfl)
theorem dJ18_pollLast_34 : decode cJ18_pollLast 34 = .ok (.aload_n 3, 1) := dk_45 (dk_at dksJ18_pollLast_1 12 rfl rfl)
theorem dJ18_pollLast_35 : decode cJ18_pollLast 35 = .ok (.areturn, 1) := dk_176 (dk_at dksJ18_pollLast_1 13 rfl rfl)
def dkwJ18_dec_0 : List UInt8 := [132, 0, 255, 26, 156, 0, 7, 27, 4, 100, 59, 26, 172]
abbrev dktJ18_dec_0 : List UInt8 := dkwJ18_dec_0 ++ []
theorem dksJ18_dec_0 : cJ18_dec.data.toList.drop 0 = dktJ18_dec_0 := by decide +kernel
theorem dJ18_dec_0 : decode cJ18_dec 0 = .ok (.iinc 0 (-1), 3) := dk_132 0 255 (dk_at dksJ18_dec_0 0 rfl rfl)
theorem dJ18_dec_3 : decode cJ18_dec 3 = .ok (.iload_n 0, 1) := dk_26 (dk_at dksJ18_dec_0 3 rfl rfl)
theorem dJ18_dec_4 : decode cJ18_dec 4 = .ok (.ifCond .ge 7, 3) := dk_156 0 7 (dk_at dksJ18_dec_0 4 rfl rfl)
theorem dJ18_dec_7 : decode cJ18_dec 7 = .ok (.iload_n 1, 1) := dk_27 (dk_at dksJ18_dec_0 7 rfl rfl)
theorem dJ18_dec_8 : decode cJ18_dec 8 = .ok (.iconst 1, 1) := dk_4 (dk_at dksJ18_dec_0 8 rfl rfl)
theorem dJ18_dec_9 : decode cJ18_dec 9 = .ok (.isub, 1) := dk_100 (dk_at dksJ18_dec_0 9 rfl rfl)
theorem dJ18_dec_10 : decode cJ18_dec 10 = .ok (.istore_n 0, 1) := dk_59 (dk_at dksJ18_dec_0 10 rfl rfl)
theorem dJ18_dec_11 : decode cJ18_dec 11 = .ok (.iload_n 0, 1) := dk_26 (dk_at dksJ18_dec_0 11 rfl rfl)
theorem dJ18_dec_12 : decode cJ18_dec 12 = .ok (.ireturn, 1) := dk_172 (dk_at dksJ18_dec_0 12 rfl rfl)
def dkwJ9_checkBoundsBeginEnd_0 : List UInt8 := [26, 27, 28, 178, 4, 29, 184, 4, 38, 87, 177]
abbrev dktJ9_checkBoundsBeginEnd_0 : List UInt8 := dkwJ9_checkBoundsBeginEnd_0 ++ []
theorem dksJ9_checkBoundsBeginEnd_0 : cJ9_checkBoundsBeginEnd.data.toList.drop 0 = dktJ9_checkBoundsBeginEnd_0 := by decide +kernel
theorem dJ9_checkBoundsBeginEnd_0 : decode cJ9_checkBoundsBeginEnd 0 = .ok (.iload_n 0, 1) := dk_26 (dk_at dksJ9_checkBoundsBeginEnd_0 0 rfl rfl)
theorem dJ9_checkBoundsBeginEnd_1 : decode cJ9_checkBoundsBeginEnd 1 = .ok (.iload_n 1, 1) := dk_27 (dk_at dksJ9_checkBoundsBeginEnd_0 1 rfl rfl)
theorem dJ9_checkBoundsBeginEnd_2 : decode cJ9_checkBoundsBeginEnd 2 = .ok (.iload_n 2, 1) := dk_28 (dk_at dksJ9_checkBoundsBeginEnd_0 2 rfl rfl)
theorem dJ9_checkBoundsBeginEnd_3 : decode cJ9_checkBoundsBeginEnd 3 = .ok (.getstatic 1053, 3) := dk_178 4 29 (dk_at dksJ9_checkBoundsBeginEnd_0 3 rfl rfl)
theorem dJ9_checkBoundsBeginEnd_6 : decode cJ9_checkBoundsBeginEnd 6 = .ok (.invokestatic 1062, 3) := dk_184 4 38 (dk_at dksJ9_checkBoundsBeginEnd_0 6 rfl rfl)
theorem dJ9_checkBoundsBeginEnd_9 : decode cJ9_checkBoundsBeginEnd 9 = .ok (.pop, 1) := dk_87 (dk_at dksJ9_checkBoundsBeginEnd_0 9 rfl rfl)
theorem dJ9_checkBoundsBeginEnd_10 : decode cJ9_checkBoundsBeginEnd 10 = .ok (.return_, 1) := dk_177 (dk_at dksJ9_checkBoundsBeginEnd_0 10 rfl rfl)
def dkwJ9_length_0 : List UInt8 := [42, 180, 0, 9, 190, 42, 182, 1, 79, 122, 172]
abbrev dktJ9_length_0 : List UInt8 := dkwJ9_length_0 ++ []
theorem dksJ9_length_0 : cJ9_length.data.toList.drop 0 = dktJ9_length_0 := by decide +kernel
theorem dJ9_length_0 : decode cJ9_length 0 = .ok (.aload_n 0, 1) := dk_42 (dk_at dksJ9_length_0 0 rfl rfl)
theorem dJ9_length_1 : decode cJ9_length 1 = .ok (.getfield 9, 3) := dk_180 0 9 (dk_at dksJ9_length_0 1 rfl rfl)
theorem dJ9_length_4 : decode cJ9_length 4 = .ok (.arraylength, 1) := dk_190 (dk_at dksJ9_length_0 4 rfl rfl)
theorem dJ9_length_5 : decode cJ9_length 5 = .ok (.aload_n 0, 1) := dk_42 (dk_at dksJ9_length_0 5 rfl rfl)
theorem dJ9_length_6 : decode cJ9_length 6 = .ok (.invokevirtual 335, 3) := dk_182 1 79 (dk_at dksJ9_length_0 6 rfl rfl)
theorem dJ9_length_9 : decode cJ9_length 9 = .ok (.ishr, 1) := dk_122 (dk_at dksJ9_length_0 9 rfl rfl)
theorem dJ9_length_10 : decode cJ9_length 10 = .ok (.ireturn, 1) := dk_172 (dk_at dksJ9_length_0 10 rfl rfl)
def dkwJ9_coder_0 : List UInt8 := [178, 0, 38, 153, 0, 10, 42, 180, 0, 15, 167, 0, 4, 4, 172]
abbrev dktJ9_coder_0 : List UInt8 := dkwJ9_coder_0 ++ []
theorem dksJ9_coder_0 : cJ9_coder.data.toList.drop 0 = dktJ9_coder_0 := by decide +kernel
theorem dJ9_coder_0 : decode cJ9_coder 0 = .ok (.getstatic 38, 3) := dk_178 0 38 (dk_at dksJ9_coder_0 0 rfl rfl)
theorem dJ9_coder_3 : decode cJ9_coder 3 = .ok (.ifCond .eq 10, 3) := dk_153 0 10 (dk_at dksJ9_coder_0 3 rfl rfl)
theorem dJ9_coder_6 : decode cJ9_coder 6 = .ok (.aload_n 0, 1) := dk_42 (dk_at dksJ9_coder_0 6 rfl rfl)
theorem dJ9_coder_7 : decode cJ9_coder 7 = .ok (.getfield 15, 3) := dk_180 0 15 (dk_at dksJ9_coder_0 7 rfl rfl)
theorem dJ9_coder_10 : decode cJ9_coder 10 = .ok (.goto 4, 3) := dk_167 0 4 (dk_at dksJ9_coder_0 10 rfl rfl)
theorem dJ9_coder_13 : decode cJ9_coder 13 = .ok (.iconst 1, 1) := dk_4 (dk_at dksJ9_coder_0 13 rfl rfl)
theorem dJ9_coder_14 : decode cJ9_coder 14 = .ok (.ireturn, 1) := dk_172 (dk_at dksJ9_coder_0 14 rfl rfl)
def dkwJ9_checkBoundsOffCount_0 : List UInt8 := [26, 27, 28, 178, 4, 29, 184, 4, 41, 172]
abbrev dktJ9_checkBoundsOffCount_0 : List UInt8 := dkwJ9_checkBoundsOffCount_0 ++ []
theorem dksJ9_checkBoundsOffCount_0 : cJ9_checkBoundsOffCount.data.toList.drop 0 = dktJ9_checkBoundsOffCount_0 := by decide +kernel
theorem dJ9_checkBoundsOffCount_0 : decode cJ9_checkBoundsOffCount 0 = .ok (.iload_n 0, 1) := dk_26 (dk_at dksJ9_checkBoundsOffCount_0 0 rfl rfl)
theorem dJ9_checkBoundsOffCount_1 : decode cJ9_checkBoundsOffCount 1 = .ok (.iload_n 1, 1) := dk_27 (dk_at dksJ9_checkBoundsOffCount_0 1 rfl rfl)
theorem dJ9_checkBoundsOffCount_2 : decode cJ9_checkBoundsOffCount 2 = .ok (.iload_n 2, 1) := dk_28 (dk_at dksJ9_checkBoundsOffCount_0 2 rfl rfl)
theorem dJ9_checkBoundsOffCount_3 : decode cJ9_checkBoundsOffCount 3 = .ok (.getstatic 1053, 3) := dk_178 4 29 (dk_at dksJ9_checkBoundsOffCount_0 3 rfl rfl)
theorem dJ9_checkBoundsOffCount_6 : decode cJ9_checkBoundsOffCount 6 = .ok (.invokestatic 1065, 3) := dk_184 4 41 (dk_at dksJ9_checkBoundsOffCount_0 6 rfl rfl)
theorem dJ9_checkBoundsOffCount_9 : decode cJ9_checkBoundsOffCount 9 = .ok (.ireturn, 1) := dk_172 (dk_at dksJ9_checkBoundsOffCount_0 9 rfl rfl)
def dkwJ9_getBytes_1 : List UInt8 := [184, 0, 212, 167, 0, 18, 42, 180, 0, 9, 3, 43, 28, 42, 180, 0, 9, 190, 184, 0, 106, 177]
abbrev dktJ9_getBytes_1 : List UInt8 := dkwJ9_getBytes_1 ++ []
def dkwJ9_getBytes_0 : List UInt8 := [42, 182, 1, 79, 29, 160, 0, 23, 42, 180, 0, 9, 3, 43, 28, 29, 120, 42, 180, 0, 9, 190]
abbrev dktJ9_getBytes_0 : List UInt8 := dkwJ9_getBytes_0 ++ dktJ9_getBytes_1
theorem dksJ9_getBytes_0 : cJ9_getBytes.data.toList.drop 0 = dktJ9_getBytes_0 := by decide +kernel
theorem dksJ9_getBytes_1 : cJ9_getBytes.data.toList.drop 22 = dktJ9_getBytes_1 := dk_seg dksJ9_getBytes_0 22 rfl rfl
theorem dJ9_getBytes_0 : decode cJ9_getBytes 0 = .ok (.aload_n 0, 1) := dk_42 (dk_at dksJ9_getBytes_0 0 rfl rfl)
theorem dJ9_getBytes_1 : decode cJ9_getBytes 1 = .ok (.invokevirtual 335, 3) := dk_182 1 79 (dk_at dksJ9_getBytes_0 1 rfl rfl)
theorem dJ9_getBytes_4 : decode cJ9_getBytes 4 = .ok (.iload_n 3, 1) := dk_29 (dk_at dksJ9_getBytes_0 4 rfl rfl)
theorem dJ9_getBytes_5 : decode cJ9_getBytes 5 = .ok (.if_icmp .ne 23, 3) := dk_160 0 23 (dk_at dksJ9_getBytes_0 5 rfl rfl)
theorem dJ9_getBytes_8 : decode cJ9_getBytes 8 = .ok (.aload_n 0, 1) := dk_42 (dk_at dksJ9_getBytes_0 8 rfl rfl)
theorem dJ9_getBytes_9 : decode cJ9_getBytes 9 = .ok (.getfield 9, 3) := dk_180 0 9 (dk_at dksJ9_getBytes_0 9 rfl rfl)
theorem dJ9_getBytes_12 : decode cJ9_getBytes 12 = .ok (.iconst 0, 1) := dk_3 (dk_at dksJ9_getBytes_0 12 rfl rfl)
theorem dJ9_getBytes_13 : decode cJ9_getBytes 13 = .ok (.aload_n 1, 1) := dk_43 (dk_at dksJ9_getBytes_0 13 rfl rfl)
theorem dJ9_getBytes_14 : decode cJ9_getBytes 14 = .ok (.iload_n 2, 1) := dk_28 (dk_at dksJ9_getBytes_0 14 rfl rfl)
theorem dJ9_getBytes_15 : decode cJ9_getBytes 15 = .ok (.iload_n 3, 1) := dk_29 (dk_at dksJ9_getBytes_0 15 rfl rfl)
theorem dJ9_getBytes_16 : decode cJ9_getBytes 16 = .ok (.ishl, 1) := dk_120 (dk_at dksJ9_getBytes_0 16 rfl rfl)
theorem dJ9_getBytes_17 : decode cJ9_getBytes 17 = .ok (.aload_n 0, 1) := dk_42 (dk_at dksJ9_getBytes_0 17 rfl rfl)
theorem dJ9_getBytes_18 : decode cJ9_getBytes 18 = .ok (.getfield 9, 3) := dk_180 0 9 (dk_at dksJ9_getBytes_0 18 rfl rfl)
theorem dJ9_getBytes_21 : decode cJ9_getBytes 21 = .ok (.arraylength, 1) := dk_190 (dk_at dksJ9_getBytes_0 21 rfl rfl)
theorem dJ9_getBytes_22 : decode cJ9_getBytes 22 = .ok (.invokestatic 212, 3) := dk_184 0 212 (dk_at dksJ9_getBytes_1 0 rfl rfl)
theorem dJ9_getBytes_25 : decode cJ9_getBytes 25 = .ok (.goto 18, 3) := dk_167 0 18 (dk_at dksJ9_getBytes_1 3 rfl rfl)
theorem dJ9_getBytes_28 : decode cJ9_getBytes 28 = .ok (.aload_n 0, 1) := dk_42 (dk_at dksJ9_getBytes_1 6 rfl rfl)
theorem dJ9_getBytes_29 : decode cJ9_getBytes 29 = .ok (.getfield 9, 3) := dk_180 0 9 (dk_at dksJ9_getBytes_1 7 rfl rfl)
theorem dJ9_getBytes_32 : decode cJ9_getBytes 32 = .ok (.iconst 0, 1) := dk_3 (dk_at dksJ9_getBytes_1 10 rfl rfl)
theorem dJ9_getBytes_33 : decode cJ9_getBytes 33 = .ok (.aload_n 1, 1) := dk_43 (dk_at dksJ9_getBytes_1 11 rfl rfl)
theorem dJ9_getBytes_34 : decode cJ9_getBytes 34 = .ok (.iload_n 2, 1) := dk_28 (dk_at dksJ9_getBytes_1 12 rfl rfl)
theorem dJ9_getBytes_35 : decode cJ9_getBytes 35 = .ok (.aload_n 0, 1) := dk_42 (dk_at dksJ9_getBytes_1 13 rfl rfl)
theorem dJ9_getBytes_36 : decode cJ9_getBytes 36 = .ok (.getfield 9, 3) := dk_180 0 9 (dk_at dksJ9_getBytes_1 14 rfl rfl)
theorem dJ9_getBytes_39 : decode cJ9_getBytes 39 = .ok (.arraylength, 1) := dk_190 (dk_at dksJ9_getBytes_1 17 rfl rfl)
theorem dJ9_getBytes_40 : decode cJ9_getBytes 40 = .ok (.invokestatic 106, 3) := dk_184 0 106 (dk_at dksJ9_getBytes_1 18 rfl rfl)
theorem dJ9_getBytes_43 : decode cJ9_getBytes 43 = .ok (.return_, 1) := dk_177 (dk_at dksJ9_getBytes_1 21 rfl rfl)
def dkwJ9_init_0 : List UInt8 := [42, 43, 1, 183, 1, 233, 177]
abbrev dktJ9_init_0 : List UInt8 := dkwJ9_init_0 ++ []
theorem dksJ9_init_0 : cJ9_init.data.toList.drop 0 = dktJ9_init_0 := by decide +kernel
theorem dJ9_init_0 : decode cJ9_init 0 = .ok (.aload_n 0, 1) := dk_42 (dk_at dksJ9_init_0 0 rfl rfl)
theorem dJ9_init_1 : decode cJ9_init 1 = .ok (.aload_n 1, 1) := dk_43 (dk_at dksJ9_init_0 1 rfl rfl)
theorem dJ9_init_2 : decode cJ9_init 2 = .ok (.aconst_null, 1) := dk_1 (dk_at dksJ9_init_0 2 rfl rfl)
theorem dJ9_init_3 : decode cJ9_init 3 = .ok (.invokespecial 489, 3) := dk_183 1 233 (dk_at dksJ9_init_0 3 rfl rfl)
theorem dJ9_init_6 : decode cJ9_init 6 = .ok (.return_, 1) := dk_177 (dk_at dksJ9_init_0 6 rfl rfl)
def dkwJ9_init_2_4 : List UInt8 := [181, 0, 9, 177]
abbrev dktJ9_init_2_4 : List UInt8 := dkwJ9_init_2_4 ++ []
def dkwJ9_init_2_3 : List UInt8 := [184, 0, 47, 181, 0, 15, 177, 42, 4, 181, 0, 15, 42, 45, 3, 21, 4, 4, 120, 184, 0, 54]
abbrev dktJ9_init_2_3 : List UInt8 := dkwJ9_init_2_3 ++ dktJ9_init_2_4
def dkwJ9_init_2_2 : List UInt8 := [180, 4, 24, 153, 0, 28, 42, 45, 3, 21, 4, 184, 4, 27, 181, 0, 9, 42, 42, 180, 0, 9, 21, 4]
abbrev dktJ9_init_2_2 : List UInt8 := dkwJ9_init_2_2 ++ dktJ9_init_2_3
def dkwJ9_init_2_1 : List UInt8 := [181, 0, 15, 42, 45, 3, 21, 4, 184, 0, 54, 181, 0, 9, 167, 0, 59, 178, 0, 38, 153, 0, 35, 43]
abbrev dktJ9_init_2_1 : List UInt8 := dkwJ9_init_2_1 ++ dktJ9_init_2_2
def dkwJ9_init_2_0 : List UInt8 := [42, 183, 0, 1, 43, 182, 2, 40, 78, 43, 182, 2, 37, 54, 4, 43, 182, 4, 23, 153, 0, 22, 42, 3]
abbrev dktJ9_init_2_0 : List UInt8 := dkwJ9_init_2_0 ++ dktJ9_init_2_1
theorem dksJ9_init_2_0 : cJ9_init_2.data.toList.drop 0 = dktJ9_init_2_0 := by decide +kernel
theorem dksJ9_init_2_1 : cJ9_init_2.data.toList.drop 24 = dktJ9_init_2_1 := dk_seg dksJ9_init_2_0 24 rfl rfl
theorem dksJ9_init_2_2 : cJ9_init_2.data.toList.drop 48 = dktJ9_init_2_2 := dk_seg dksJ9_init_2_1 24 rfl rfl
theorem dksJ9_init_2_3 : cJ9_init_2.data.toList.drop 72 = dktJ9_init_2_3 := dk_seg dksJ9_init_2_2 24 rfl rfl
theorem dksJ9_init_2_4 : cJ9_init_2.data.toList.drop 94 = dktJ9_init_2_4 := dk_seg dksJ9_init_2_3 22 rfl rfl
theorem dJ9_init_2_0 : decode cJ9_init_2 0 = .ok (.aload_n 0, 1) := dk_42 (dk_at dksJ9_init_2_0 0 rfl rfl)
theorem dJ9_init_2_1 : decode cJ9_init_2 1 = .ok (.invokespecial 1, 3) := dk_183 0 1 (dk_at dksJ9_init_2_0 1 rfl rfl)
theorem dJ9_init_2_4 : decode cJ9_init_2 4 = .ok (.aload_n 1, 1) := dk_43 (dk_at dksJ9_init_2_0 4 rfl rfl)
theorem dJ9_init_2_5 : decode cJ9_init_2 5 = .ok (.invokevirtual 552, 3) := dk_182 2 40 (dk_at dksJ9_init_2_0 5 rfl rfl)
theorem dJ9_init_2_8 : decode cJ9_init_2 8 = .ok (.astore_n 3, 1) := dk_78 (dk_at dksJ9_init_2_0 8 rfl rfl)
theorem dJ9_init_2_9 : decode cJ9_init_2 9 = .ok (.aload_n 1, 1) := dk_43 (dk_at dksJ9_init_2_0 9 rfl rfl)
theorem dJ9_init_2_10 : decode cJ9_init_2 10 = .ok (.invokevirtual 549, 3) := dk_182 2 37 (dk_at dksJ9_init_2_0 10 rfl rfl)
theorem dJ9_init_2_13 : decode cJ9_init_2 13 = .ok (.istore 4, 2) := dk_54 4 (dk_at dksJ9_init_2_0 13 rfl rfl)
theorem dJ9_init_2_15 : decode cJ9_init_2 15 = .ok (.aload_n 1, 1) := dk_43 (dk_at dksJ9_init_2_0 15 rfl rfl)
theorem dJ9_init_2_16 : decode cJ9_init_2 16 = .ok (.invokevirtual 1047, 3) := dk_182 4 23 (dk_at dksJ9_init_2_0 16 rfl rfl)
theorem dJ9_init_2_19 : decode cJ9_init_2 19 = .ok (.ifCond .eq 22, 3) := dk_153 0 22 (dk_at dksJ9_init_2_0 19 rfl rfl)
theorem dJ9_init_2_22 : decode cJ9_init_2 22 = .ok (.aload_n 0, 1) := dk_42 (dk_at dksJ9_init_2_0 22 rfl rfl)
theorem dJ9_init_2_23 : decode cJ9_init_2 23 = .ok (.iconst 0, 1) := dk_3 (dk_at dksJ9_init_2_0 23 rfl rfl)
theorem dJ9_init_2_24 : decode cJ9_init_2 24 = .ok (.putfield 15, 3) := dk_181 0 15 (dk_at dksJ9_init_2_1 0 rfl rfl)
theorem dJ9_init_2_27 : decode cJ9_init_2 27 = .ok (.aload_n 0, 1) := dk_42 (dk_at dksJ9_init_2_1 3 rfl rfl)
theorem dJ9_init_2_28 : decode cJ9_init_2 28 = .ok (.aload_n 3, 1) := dk_45 (dk_at dksJ9_init_2_1 4 rfl rfl)
theorem dJ9_init_2_29 : decode cJ9_init_2 29 = .ok (.iconst 0, 1) := dk_3 (dk_at dksJ9_init_2_1 5 rfl rfl)
theorem dJ9_init_2_30 : decode cJ9_init_2 30 = .ok (.iload 4, 2) := dk_21 4 (dk_at dksJ9_init_2_1 6 rfl rfl)
theorem dJ9_init_2_32 : decode cJ9_init_2 32 = .ok (.invokestatic 54, 3) := dk_184 0 54 (dk_at dksJ9_init_2_1 8 rfl rfl)
theorem dJ9_init_2_35 : decode cJ9_init_2 35 = .ok (.putfield 9, 3) := dk_181 0 9 (dk_at dksJ9_init_2_1 11 rfl rfl)
theorem dJ9_init_2_38 : decode cJ9_init_2 38 = .ok (.goto 59, 3) := dk_167 0 59 (dk_at dksJ9_init_2_1 14 rfl rfl)
theorem dJ9_init_2_41 : decode cJ9_init_2 41 = .ok (.getstatic 38, 3) := dk_178 0 38 (dk_at dksJ9_init_2_1 17 rfl rfl)
theorem dJ9_init_2_44 : decode cJ9_init_2 44 = .ok (.ifCond .eq 35, 3) := dk_153 0 35 (dk_at dksJ9_init_2_1 20 rfl rfl)
theorem dJ9_init_2_47 : decode cJ9_init_2 47 = .ok (.aload_n 1, 1) := dk_43 (dk_at dksJ9_init_2_1 23 rfl rfl)
theorem dJ9_init_2_48 : decode cJ9_init_2 48 = .ok (.getfield 1048, 3) := dk_180 4 24 (dk_at dksJ9_init_2_2 0 rfl rfl)
theorem dJ9_init_2_51 : decode cJ9_init_2 51 = .ok (.ifCond .eq 28, 3) := dk_153 0 28 (dk_at dksJ9_init_2_2 3 rfl rfl)
theorem dJ9_init_2_54 : decode cJ9_init_2 54 = .ok (.aload_n 0, 1) := dk_42 (dk_at dksJ9_init_2_2 6 rfl rfl)
theorem dJ9_init_2_55 : decode cJ9_init_2 55 = .ok (.aload_n 3, 1) := dk_45 (dk_at dksJ9_init_2_2 7 rfl rfl)
theorem dJ9_init_2_56 : decode cJ9_init_2 56 = .ok (.iconst 0, 1) := dk_3 (dk_at dksJ9_init_2_2 8 rfl rfl)
theorem dJ9_init_2_57 : decode cJ9_init_2 57 = .ok (.iload 4, 2) := dk_21 4 (dk_at dksJ9_init_2_2 9 rfl rfl)
theorem dJ9_init_2_59 : decode cJ9_init_2 59 = .ok (.invokestatic 1051, 3) := dk_184 4 27 (dk_at dksJ9_init_2_2 11 rfl rfl)
theorem dJ9_init_2_62 : decode cJ9_init_2 62 = .ok (.putfield 9, 3) := dk_181 0 9 (dk_at dksJ9_init_2_2 14 rfl rfl)
theorem dJ9_init_2_65 : decode cJ9_init_2 65 = .ok (.aload_n 0, 1) := dk_42 (dk_at dksJ9_init_2_2 17 rfl rfl)
theorem dJ9_init_2_66 : decode cJ9_init_2 66 = .ok (.aload_n 0, 1) := dk_42 (dk_at dksJ9_init_2_2 18 rfl rfl)
theorem dJ9_init_2_67 : decode cJ9_init_2 67 = .ok (.getfield 9, 3) := dk_180 0 9 (dk_at dksJ9_init_2_2 19 rfl rfl)
theorem dJ9_init_2_70 : decode cJ9_init_2 70 = .ok (.iload 4, 2) := dk_21 4 (dk_at dksJ9_init_2_2 22 rfl rfl)
theorem dJ9_init_2_72 : decode cJ9_init_2 72 = .ok (.invokestatic 47, 3) := dk_184 0 47 (dk_at dksJ9_init_2_3 0 rfl rfl)
theorem dJ9_init_2_75 : decode cJ9_init_2 75 = .ok (.putfield 15, 3) := dk_181 0 15 (dk_at dksJ9_init_2_3 3 rfl rfl)
theorem dJ9_init_2_78 : decode cJ9_init_2 78 = .ok (.return_, 1) := dk_177 (dk_at dksJ9_init_2_3 6 rfl rfl)
theorem dJ9_init_2_79 : decode cJ9_init_2 79 = .ok (.aload_n 0, 1) := dk_42 (dk_at dksJ9_init_2_3 7 rfl rfl)
theorem dJ9_init_2_80 : decode cJ9_init_2 80 = .ok (.iconst 1, 1) := dk_4 (dk_at dksJ9_init_2_3 8 rfl rfl)
theorem dJ9_init_2_81 : decode cJ9_init_2 81 = .ok (.putfield 15, 3) := dk_181 0 15 (dk_at dksJ9_init_2_3 9 rfl rfl)
theorem dJ9_init_2_84 : decode cJ9_init_2 84 = .ok (.aload_n 0, 1) := dk_42 (dk_at dksJ9_init_2_3 12 rfl rfl)
theorem dJ9_init_2_85 : decode cJ9_init_2 85 = .ok (.aload_n 3, 1) := dk_45 (dk_at dksJ9_init_2_3 13 rfl rfl)
theorem dJ9_init_2_86 : decode cJ9_init_2 86 = .ok (.iconst 0, 1) := dk_3 (dk_at dksJ9_init_2_3 14 rfl rfl)
theorem dJ9_init_2_87 : decode cJ9_init_2 87 = .ok (.iload 4, 2) := dk_21 4 (dk_at dksJ9_init_2_3 15 rfl rfl)
theorem dJ9_init_2_89 : decode cJ9_init_2 89 = .ok (.iconst 1, 1) := dk_4 (dk_at dksJ9_init_2_3 17 rfl rfl)
theorem dJ9_init_2_90 : decode cJ9_init_2 90 = .ok (.ishl, 1) := dk_120 (dk_at dksJ9_init_2_3 18 rfl rfl)
theorem dJ9_init_2_91 : decode cJ9_init_2 91 = .ok (.invokestatic 54, 3) := dk_184 0 54 (dk_at dksJ9_init_2_3 19 rfl rfl)
theorem dJ9_init_2_94 : decode cJ9_init_2 94 = .ok (.putfield 9, 3) := dk_181 0 9 (dk_at dksJ9_init_2_4 0 rfl rfl)
theorem dJ9_init_2_97 : decode cJ9_init_2 97 = .ok (.return_, 1) := dk_177 (dk_at dksJ9_init_2_4 3 rfl rfl)
def dkwJ9_checkIndex_0 : List UInt8 := [26, 27, 178, 4, 29, 184, 4, 35, 87, 177]
abbrev dktJ9_checkIndex_0 : List UInt8 := dkwJ9_checkIndex_0 ++ []
theorem dksJ9_checkIndex_0 : cJ9_checkIndex.data.toList.drop 0 = dktJ9_checkIndex_0 := by decide +kernel
theorem dJ9_checkIndex_0 : decode cJ9_checkIndex 0 = .ok (.iload_n 0, 1) := dk_26 (dk_at dksJ9_checkIndex_0 0 rfl rfl)
theorem dJ9_checkIndex_1 : decode cJ9_checkIndex 1 = .ok (.iload_n 1, 1) := dk_27 (dk_at dksJ9_checkIndex_0 1 rfl rfl)
theorem dJ9_checkIndex_2 : decode cJ9_checkIndex 2 = .ok (.getstatic 1053, 3) := dk_178 4 29 (dk_at dksJ9_checkIndex_0 2 rfl rfl)
theorem dJ9_checkIndex_5 : decode cJ9_checkIndex 5 = .ok (.invokestatic 1059, 3) := dk_184 4 35 (dk_at dksJ9_checkIndex_0 5 rfl rfl)
theorem dJ9_checkIndex_8 : decode cJ9_checkIndex 8 = .ok (.pop, 1) := dk_87 (dk_at dksJ9_checkIndex_0 8 rfl rfl)
theorem dJ9_checkIndex_9 : decode cJ9_checkIndex 9 = .ok (.return_, 1) := dk_177 (dk_at dksJ9_checkIndex_0 9 rfl rfl)
def dkwJ9_equals_2 : List UInt8 := [184, 2, 29, 153, 0, 7, 4, 167, 0, 4, 3, 172]
abbrev dktJ9_equals_2 : List UInt8 := dkwJ9_equals_2 ++ []
def dkwJ9_equals_1 : List UInt8 := [153, 0, 14, 42, 180, 0, 15, 44, 180, 0, 15, 160, 0, 21, 42, 180, 0, 9, 44, 180, 0, 9]
abbrev dktJ9_equals_1 : List UInt8 := dkwJ9_equals_1 ++ dktJ9_equals_2
def dkwJ9_equals_0 : List UInt8 := [42, 43, 166, 0, 5, 4, 172, 43, 193, 0, 10, 153, 0, 43, 43, 192, 0, 10, 77, 178, 0, 38]
abbrev dktJ9_equals_0 : List UInt8 := dkwJ9_equals_0 ++ dktJ9_equals_1
theorem dksJ9_equals_0 : cJ9_equals.data.toList.drop 0 = dktJ9_equals_0 := by decide +kernel
theorem dksJ9_equals_1 : cJ9_equals.data.toList.drop 22 = dktJ9_equals_1 := dk_seg dksJ9_equals_0 22 rfl rfl
theorem dksJ9_equals_2 : cJ9_equals.data.toList.drop 44 = dktJ9_equals_2 := dk_seg dksJ9_equals_1 22 rfl rfl
theorem dJ9_equals_0 : decode cJ9_equals 0 = .ok (.aload_n 0, 1) := dk_42 (dk_at dksJ9_equals_0 0 rfl rfl)
theorem dJ9_equals_1 : decode cJ9_equals 1 = .ok (.aload_n 1, 1) := dk_43 (dk_at dksJ9_equals_0 1 rfl rfl)
theorem dJ9_equals_2 : decode cJ9_equals 2 = .ok (.if_acmp .ne 5, 3) := dk_166 0 5 (dk_at dksJ9_equals_0 2 rfl rfl)
theorem dJ9_equals_5 : decode cJ9_equals 5 = .ok (.iconst 1, 1) := dk_4 (dk_at dksJ9_equals_0 5 rfl rfl)
theorem dJ9_equals_6 : decode cJ9_equals 6 = .ok (.ireturn, 1) := dk_172 (dk_at dksJ9_equals_0 6 rfl rfl)
theorem dJ9_equals_7 : decode cJ9_equals 7 = .ok (.aload_n 1, 1) := dk_43 (dk_at dksJ9_equals_0 7 rfl rfl)
theorem dJ9_equals_8 : decode cJ9_equals 8 = .ok (.instanceof 10, 3) := dk_193 0 10 (dk_at dksJ9_equals_0 8 rfl rfl)
theorem dJ9_equals_11 : decode cJ9_equals 11 = .ok (.ifCond .eq 43, 3) := dk_153 0 43 (dk_at dksJ9_equals_0 11 rfl rfl)
theorem dJ9_equals_14 : decode cJ9_equals 14 = .ok (.aload_n 1, 1) := dk_43 (dk_at dksJ9_equals_0 14 rfl rfl)
theorem dJ9_equals_15 : decode cJ9_equals 15 = .ok (.checkcast 10, 3) := dk_192 0 10 (dk_at dksJ9_equals_0 15 rfl rfl)
theorem dJ9_equals_18 : decode cJ9_equals 18 = .ok (.astore_n 2, 1) := dk_77 (dk_at dksJ9_equals_0 18 rfl rfl)
theorem dJ9_equals_19 : decode cJ9_equals 19 = .ok (.getstatic 38, 3) := dk_178 0 38 (dk_at dksJ9_equals_0 19 rfl rfl)
theorem dJ9_equals_22 : decode cJ9_equals 22 = .ok (.ifCond .eq 14, 3) := dk_153 0 14 (dk_at dksJ9_equals_1 0 rfl rfl)
theorem dJ9_equals_25 : decode cJ9_equals 25 = .ok (.aload_n 0, 1) := dk_42 (dk_at dksJ9_equals_1 3 rfl rfl)
theorem dJ9_equals_26 : decode cJ9_equals 26 = .ok (.getfield 15, 3) := dk_180 0 15 (dk_at dksJ9_equals_1 4 rfl rfl)
theorem dJ9_equals_29 : decode cJ9_equals 29 = .ok (.aload_n 2, 1) := dk_44 (dk_at dksJ9_equals_1 7 rfl rfl)
theorem dJ9_equals_30 : decode cJ9_equals 30 = .ok (.getfield 15, 3) := dk_180 0 15 (dk_at dksJ9_equals_1 8 rfl rfl)
theorem dJ9_equals_33 : decode cJ9_equals 33 = .ok (.if_icmp .ne 21, 3) := dk_160 0 21 (dk_at dksJ9_equals_1 11 rfl rfl)
theorem dJ9_equals_36 : decode cJ9_equals 36 = .ok (.aload_n 0, 1) := dk_42 (dk_at dksJ9_equals_1 14 rfl rfl)
theorem dJ9_equals_37 : decode cJ9_equals 37 = .ok (.getfield 9, 3) := dk_180 0 9 (dk_at dksJ9_equals_1 15 rfl rfl)
theorem dJ9_equals_40 : decode cJ9_equals 40 = .ok (.aload_n 2, 1) := dk_44 (dk_at dksJ9_equals_1 18 rfl rfl)
theorem dJ9_equals_41 : decode cJ9_equals 41 = .ok (.getfield 9, 3) := dk_180 0 9 (dk_at dksJ9_equals_1 19 rfl rfl)
theorem dJ9_equals_44 : decode cJ9_equals 44 = .ok (.invokestatic 541, 3) := dk_184 2 29 (dk_at dksJ9_equals_2 0 rfl rfl)
theorem dJ9_equals_47 : decode cJ9_equals 47 = .ok (.ifCond .eq 7, 3) := dk_153 0 7 (dk_at dksJ9_equals_2 3 rfl rfl)
theorem dJ9_equals_50 : decode cJ9_equals 50 = .ok (.iconst 1, 1) := dk_4 (dk_at dksJ9_equals_2 6 rfl rfl)
theorem dJ9_equals_51 : decode cJ9_equals 51 = .ok (.goto 4, 3) := dk_167 0 4 (dk_at dksJ9_equals_2 7 rfl rfl)
theorem dJ9_equals_54 : decode cJ9_equals 54 = .ok (.iconst 0, 1) := dk_3 (dk_at dksJ9_equals_2 10 rfl rfl)
theorem dJ9_equals_55 : decode cJ9_equals 55 = .ok (.ireturn, 1) := dk_172 (dk_at dksJ9_equals_2 11 rfl rfl)
def dkwJ9_hashCode_2 : List UInt8 := [181, 0, 23, 167, 0, 8, 42, 27, 181, 0, 19, 27, 172]
abbrev dktJ9_hashCode_2 : List UInt8 := dkwJ9_hashCode_2 ++ []
def dkwJ9_hashCode_1 : List UInt8 := [180, 0, 9, 184, 2, 116, 167, 0, 10, 42, 180, 0, 9, 184, 2, 120, 60, 27, 154, 0, 11, 42, 4]
abbrev dktJ9_hashCode_1 : List UInt8 := dkwJ9_hashCode_1 ++ dktJ9_hashCode_2
def dkwJ9_hashCode_0 : List UInt8 := [42, 180, 0, 19, 60, 27, 154, 0, 52, 42, 180, 0, 23, 154, 0, 45, 42, 182, 1, 236, 153, 0, 13, 42]
abbrev dktJ9_hashCode_0 : List UInt8 := dkwJ9_hashCode_0 ++ dktJ9_hashCode_1
theorem dksJ9_hashCode_0 : cJ9_hashCode.data.toList.drop 0 = dktJ9_hashCode_0 := by decide +kernel
theorem dksJ9_hashCode_1 : cJ9_hashCode.data.toList.drop 24 = dktJ9_hashCode_1 := dk_seg dksJ9_hashCode_0 24 rfl rfl
theorem dksJ9_hashCode_2 : cJ9_hashCode.data.toList.drop 47 = dktJ9_hashCode_2 := dk_seg dksJ9_hashCode_1 23 rfl rfl
theorem dJ9_hashCode_0 : decode cJ9_hashCode 0 = .ok (.aload_n 0, 1) := dk_42 (dk_at dksJ9_hashCode_0 0 rfl rfl)
theorem dJ9_hashCode_1 : decode cJ9_hashCode 1 = .ok (.getfield 19, 3) := dk_180 0 19 (dk_at dksJ9_hashCode_0 1 rfl rfl)
theorem dJ9_hashCode_4 : decode cJ9_hashCode 4 = .ok (.istore_n 1, 1) := dk_60 (dk_at dksJ9_hashCode_0 4 rfl rfl)
theorem dJ9_hashCode_5 : decode cJ9_hashCode 5 = .ok (.iload_n 1, 1) := dk_27 (dk_at dksJ9_hashCode_0 5 rfl rfl)
theorem dJ9_hashCode_6 : decode cJ9_hashCode 6 = .ok (.ifCond .ne 52, 3) := dk_154 0 52 (dk_at dksJ9_hashCode_0 6 rfl rfl)
theorem dJ9_hashCode_9 : decode cJ9_hashCode 9 = .ok (.aload_n 0, 1) := dk_42 (dk_at dksJ9_hashCode_0 9 rfl rfl)
theorem dJ9_hashCode_10 : decode cJ9_hashCode 10 = .ok (.getfield 23, 3) := dk_180 0 23 (dk_at dksJ9_hashCode_0 10 rfl rfl)
theorem dJ9_hashCode_13 : decode cJ9_hashCode 13 = .ok (.ifCond .ne 45, 3) := dk_154 0 45 (dk_at dksJ9_hashCode_0 13 rfl rfl)
theorem dJ9_hashCode_16 : decode cJ9_hashCode 16 = .ok (.aload_n 0, 1) := dk_42 (dk_at dksJ9_hashCode_0 16 rfl rfl)
theorem dJ9_hashCode_17 : decode cJ9_hashCode 17 = .ok (.invokevirtual 492, 3) := dk_182 1 236 (dk_at dksJ9_hashCode_0 17 rfl rfl)
theorem dJ9_hashCode_20 : decode cJ9_hashCode 20 = .ok (.ifCond .eq 13, 3) := dk_153 0 13 (dk_at dksJ9_hashCode_0 20 rfl rfl)
theorem dJ9_hashCode_23 : decode cJ9_hashCode 23 = .ok (.aload_n 0, 1) := dk_42 (dk_at dksJ9_hashCode_0 23 rfl rfl)
theorem dJ9_hashCode_24 : decode cJ9_hashCode 24 = .ok (.getfield 9, 3) := dk_180 0 9 (dk_at dksJ9_hashCode_1 0 rfl rfl)
theorem dJ9_hashCode_27 : decode cJ9_hashCode 27 = .ok (.invokestatic 628, 3) := dk_184 2 116 (dk_at dksJ9_hashCode_1 3 rfl rfl)
theorem dJ9_hashCode_30 : decode cJ9_hashCode 30 = .ok (.goto 10, 3) := dk_167 0 10 (dk_at dksJ9_hashCode_1 6 rfl rfl)
theorem dJ9_hashCode_33 : decode cJ9_hashCode 33 = .ok (.aload_n 0, 1) := dk_42 (dk_at dksJ9_hashCode_1 9 rfl rfl)
theorem dJ9_hashCode_34 : decode cJ9_hashCode 34 = .ok (.getfield 9, 3) := dk_180 0 9 (dk_at dksJ9_hashCode_1 10 rfl rfl)
theorem dJ9_hashCode_37 : decode cJ9_hashCode 37 = .ok (.invokestatic 632, 3) := dk_184 2 120 (dk_at dksJ9_hashCode_1 13 rfl rfl)
theorem dJ9_hashCode_40 : decode cJ9_hashCode 40 = .ok (.istore_n 1, 1) := dk_60 (dk_at dksJ9_hashCode_1 16 rfl rfl)
theorem dJ9_hashCode_41 : decode cJ9_hashCode 41 = .ok (.iload_n 1, 1) := dk_27 (dk_at dksJ9_hashCode_1 17 rfl rfl)
theorem dJ9_hashCode_42 : decode cJ9_hashCode 42 = .ok (.ifCond .ne 11, 3) := dk_154 0 11 (dk_at dksJ9_hashCode_1 18 rfl rfl)
theorem dJ9_hashCode_45 : decode cJ9_hashCode 45 = .ok (.aload_n 0, 1) := dk_42 (dk_at dksJ9_hashCode_1 21 rfl rfl)
theorem dJ9_hashCode_46 : decode cJ9_hashCode 46 = .ok (.iconst 1, 1) := dk_4 (dk_at dksJ9_hashCode_1 22 rfl rfl)
theorem dJ9_hashCode_47 : decode cJ9_hashCode 47 = .ok (.putfield 23, 3) := dk_181 0 23 (dk_at dksJ9_hashCode_2 0 rfl rfl)
theorem dJ9_hashCode_50 : decode cJ9_hashCode 50 = .ok (.goto 8, 3) := dk_167 0 8 (dk_at dksJ9_hashCode_2 3 rfl rfl)
theorem dJ9_hashCode_53 : decode cJ9_hashCode 53 = .ok (.aload_n 0, 1) := dk_42 (dk_at dksJ9_hashCode_2 6 rfl rfl)
theorem dJ9_hashCode_54 : decode cJ9_hashCode 54 = .ok (.iload_n 1, 1) := dk_27 (dk_at dksJ9_hashCode_2 7 rfl rfl)
theorem dJ9_hashCode_55 : decode cJ9_hashCode 55 = .ok (.putfield 19, 3) := dk_181 0 19 (dk_at dksJ9_hashCode_2 8 rfl rfl)
theorem dJ9_hashCode_58 : decode cJ9_hashCode 58 = .ok (.iload_n 1, 1) := dk_27 (dk_at dksJ9_hashCode_2 11 rfl rfl)
theorem dJ9_hashCode_59 : decode cJ9_hashCode 59 = .ok (.ireturn, 1) := dk_172 (dk_at dksJ9_hashCode_2 12 rfl rfl)
def dkwJ9_isLatin1_0 : List UInt8 := [178, 0, 38, 153, 0, 14, 42, 180, 0, 15, 154, 0, 7, 4, 167, 0, 4, 3, 172]
abbrev dktJ9_isLatin1_0 : List UInt8 := dkwJ9_isLatin1_0 ++ []
theorem dksJ9_isLatin1_0 : cJ9_isLatin1.data.toList.drop 0 = dktJ9_isLatin1_0 := by decide +kernel
theorem dJ9_isLatin1_0 : decode cJ9_isLatin1 0 = .ok (.getstatic 38, 3) := dk_178 0 38 (dk_at dksJ9_isLatin1_0 0 rfl rfl)
theorem dJ9_isLatin1_3 : decode cJ9_isLatin1 3 = .ok (.ifCond .eq 14, 3) := dk_153 0 14 (dk_at dksJ9_isLatin1_0 3 rfl rfl)
theorem dJ9_isLatin1_6 : decode cJ9_isLatin1 6 = .ok (.aload_n 0, 1) := dk_42 (dk_at dksJ9_isLatin1_0 6 rfl rfl)
theorem dJ9_isLatin1_7 : decode cJ9_isLatin1 7 = .ok (.getfield 15, 3) := dk_180 0 15 (dk_at dksJ9_isLatin1_0 7 rfl rfl)
theorem dJ9_isLatin1_10 : decode cJ9_isLatin1 10 = .ok (.ifCond .ne 7, 3) := dk_154 0 7 (dk_at dksJ9_isLatin1_0 10 rfl rfl)
theorem dJ9_isLatin1_13 : decode cJ9_isLatin1 13 = .ok (.iconst 1, 1) := dk_4 (dk_at dksJ9_isLatin1_0 13 rfl rfl)
theorem dJ9_isLatin1_14 : decode cJ9_isLatin1 14 = .ok (.goto 4, 3) := dk_167 0 4 (dk_at dksJ9_isLatin1_0 14 rfl rfl)
theorem dJ9_isLatin1_17 : decode cJ9_isLatin1 17 = .ok (.iconst 0, 1) := dk_3 (dk_at dksJ9_isLatin1_0 17 rfl rfl)
theorem dJ9_isLatin1_18 : decode cJ9_isLatin1 18 = .ok (.ireturn, 1) := dk_172 (dk_at dksJ9_isLatin1_0 18 rfl rfl)
def dkwJ9_charAt_1 : List UInt8 := [172]
abbrev dktJ9_charAt_1 : List UInt8 := dkwJ9_charAt_1 ++ []
def dkwJ9_charAt_0 : List UInt8 := [42, 182, 1, 236, 153, 0, 12, 42, 180, 0, 9, 27, 184, 1, 239, 172, 42, 180, 0, 9, 27, 184, 1, 242]
abbrev dktJ9_charAt_0 : List UInt8 := dkwJ9_charAt_0 ++ dktJ9_charAt_1
theorem dksJ9_charAt_0 : cJ9_charAt.data.toList.drop 0 = dktJ9_charAt_0 := by decide +kernel
theorem dksJ9_charAt_1 : cJ9_charAt.data.toList.drop 24 = dktJ9_charAt_1 := dk_seg dksJ9_charAt_0 24 rfl rfl
theorem dJ9_charAt_0 : decode cJ9_charAt 0 = .ok (.aload_n 0, 1) := dk_42 (dk_at dksJ9_charAt_0 0 rfl rfl)
theorem dJ9_charAt_1 : decode cJ9_charAt 1 = .ok (.invokevirtual 492, 3) := dk_182 1 236 (dk_at dksJ9_charAt_0 1 rfl rfl)
theorem dJ9_charAt_4 : decode cJ9_charAt 4 = .ok (.ifCond .eq 12, 3) := dk_153 0 12 (dk_at dksJ9_charAt_0 4 rfl rfl)
theorem dJ9_charAt_7 : decode cJ9_charAt 7 = .ok (.aload_n 0, 1) := dk_42 (dk_at dksJ9_charAt_0 7 rfl rfl)
theorem dJ9_charAt_8 : decode cJ9_charAt 8 = .ok (.getfield 9, 3) := dk_180 0 9 (dk_at dksJ9_charAt_0 8 rfl rfl)
theorem dJ9_charAt_11 : decode cJ9_charAt 11 = .ok (.iload_n 1, 1) := dk_27 (dk_at dksJ9_charAt_0 11 rfl rfl)
theorem dJ9_charAt_12 : decode cJ9_charAt 12 = .ok (.invokestatic 495, 3) := dk_184 1 239 (dk_at dksJ9_charAt_0 12 rfl rfl)
theorem dJ9_charAt_15 : decode cJ9_charAt 15 = .ok (.ireturn, 1) := dk_172 (dk_at dksJ9_charAt_0 15 rfl rfl)
theorem dJ9_charAt_16 : decode cJ9_charAt 16 = .ok (.aload_n 0, 1) := dk_42 (dk_at dksJ9_charAt_0 16 rfl rfl)
theorem dJ9_charAt_17 : decode cJ9_charAt 17 = .ok (.getfield 9, 3) := dk_180 0 9 (dk_at dksJ9_charAt_0 17 rfl rfl)
theorem dJ9_charAt_20 : decode cJ9_charAt 20 = .ok (.iload_n 1, 1) := dk_27 (dk_at dksJ9_charAt_0 20 rfl rfl)
theorem dJ9_charAt_21 : decode cJ9_charAt 21 = .ok (.invokestatic 498, 3) := dk_184 1 242 (dk_at dksJ9_charAt_0 21 rfl rfl)
theorem dJ9_charAt_24 : decode cJ9_charAt 24 = .ok (.ireturn, 1) := dk_172 (dk_at dksJ9_charAt_1 0 rfl rfl)
def dkwJ15_inflate_0 : List UInt8 := [42, 27, 44, 29, 21, 4, 184, 0, 240, 177]
abbrev dktJ15_inflate_0 : List UInt8 := dkwJ15_inflate_0 ++ []
theorem dksJ15_inflate_0 : cJ15_inflate.data.toList.drop 0 = dktJ15_inflate_0 := by decide +kernel
theorem dJ15_inflate_0 : decode cJ15_inflate 0 = .ok (.aload_n 0, 1) := dk_42 (dk_at dksJ15_inflate_0 0 rfl rfl)
theorem dJ15_inflate_1 : decode cJ15_inflate 1 = .ok (.iload_n 1, 1) := dk_27 (dk_at dksJ15_inflate_0 1 rfl rfl)
theorem dJ15_inflate_2 : decode cJ15_inflate 2 = .ok (.aload_n 2, 1) := dk_44 (dk_at dksJ15_inflate_0 2 rfl rfl)
theorem dJ15_inflate_3 : decode cJ15_inflate 3 = .ok (.iload_n 3, 1) := dk_29 (dk_at dksJ15_inflate_0 3 rfl rfl)
theorem dJ15_inflate_4 : decode cJ15_inflate 4 = .ok (.iload 4, 2) := dk_21 4 (dk_at dksJ15_inflate_0 4 rfl rfl)
theorem dJ15_inflate_6 : decode cJ15_inflate 6 = .ok (.invokestatic 240, 3) := dk_184 0 240 (dk_at dksJ15_inflate_0 6 rfl rfl)
theorem dJ15_inflate_9 : decode cJ15_inflate 9 = .ok (.return_, 1) := dk_177 (dk_at dksJ15_inflate_0 9 rfl rfl)
def dkwJ15_canEncode_0 : List UInt8 := [26, 17, 0, 255, 163, 0, 7, 4, 167, 0, 4, 3, 172]
abbrev dktJ15_canEncode_0 : List UInt8 := dkwJ15_canEncode_0 ++ []
theorem dksJ15_canEncode_0 : cJ15_canEncode.data.toList.drop 0 = dktJ15_canEncode_0 := by decide +kernel
theorem dJ15_canEncode_0 : decode cJ15_canEncode 0 = .ok (.iload_n 0, 1) := dk_26 (dk_at dksJ15_canEncode_0 0 rfl rfl)
theorem dJ15_canEncode_1 : decode cJ15_canEncode 1 = .ok (.sipush 255, 3) := dk_17 0 255 (dk_at dksJ15_canEncode_0 1 rfl rfl)
theorem dJ15_canEncode_4 : decode cJ15_canEncode 4 = .ok (.if_icmp .gt 7, 3) := dk_163 0 7 (dk_at dksJ15_canEncode_0 4 rfl rfl)
theorem dJ15_canEncode_7 : decode cJ15_canEncode 7 = .ok (.iconst 1, 1) := dk_4 (dk_at dksJ15_canEncode_0 7 rfl rfl)
theorem dJ15_canEncode_8 : decode cJ15_canEncode 8 = .ok (.goto 4, 3) := dk_167 0 4 (dk_at dksJ15_canEncode_0 8 rfl rfl)
theorem dJ15_canEncode_11 : decode cJ15_canEncode 11 = .ok (.iconst 0, 1) := dk_3 (dk_at dksJ15_canEncode_0 11 rfl rfl)
theorem dJ15_canEncode_12 : decode cJ15_canEncode 12 = .ok (.ireturn, 1) := dk_172 (dk_at dksJ15_canEncode_0 12 rfl rfl)
def dkwJ15_equals_1 : List UInt8 := [3, 172, 132, 2, 1, 167, 255, 236, 4, 172, 3, 172]
abbrev dktJ15_equals_1 : List UInt8 := dkwJ15_equals_1 ++ []
def dkwJ15_equals_0 : List UInt8 := [42, 190, 43, 190, 160, 0, 30, 3, 61, 28, 42, 190, 162, 0, 20, 42, 28, 51, 43, 28, 51, 159, 0, 5]
abbrev dktJ15_equals_0 : List UInt8 := dkwJ15_equals_0 ++ dktJ15_equals_1
theorem dksJ15_equals_0 : cJ15_equals.data.toList.drop 0 = dktJ15_equals_0 := by decide +kernel
theorem dksJ15_equals_1 : cJ15_equals.data.toList.drop 24 = dktJ15_equals_1 := dk_seg dksJ15_equals_0 24 rfl rfl
theorem dJ15_equals_0 : decode cJ15_equals 0 = .ok (.aload_n 0, 1) := dk_42 (dk_at dksJ15_equals_0 0 rfl rfl)
theorem dJ15_equals_1 : decode cJ15_equals 1 = .ok (.arraylength, 1) := dk_190 (dk_at dksJ15_equals_0 1 rfl rfl)
theorem dJ15_equals_2 : decode cJ15_equals 2 = .ok (.aload_n 1, 1) := dk_43 (dk_at dksJ15_equals_0 2 rfl rfl)
theorem dJ15_equals_3 : decode cJ15_equals 3 = .ok (.arraylength, 1) := dk_190 (dk_at dksJ15_equals_0 3 rfl rfl)
theorem dJ15_equals_4 : decode cJ15_equals 4 = .ok (.if_icmp .ne 30, 3) := dk_160 0 30 (dk_at dksJ15_equals_0 4 rfl rfl)
theorem dJ15_equals_7 : decode cJ15_equals 7 = .ok (.iconst 0, 1) := dk_3 (dk_at dksJ15_equals_0 7 rfl rfl)
theorem dJ15_equals_8 : decode cJ15_equals 8 = .ok (.istore_n 2, 1) := dk_61 (dk_at dksJ15_equals_0 8 rfl rfl)
theorem dJ15_equals_9 : decode cJ15_equals 9 = .ok (.iload_n 2, 1) := dk_28 (dk_at dksJ15_equals_0 9 rfl rfl)
theorem dJ15_equals_10 : decode cJ15_equals 10 = .ok (.aload_n 0, 1) := dk_42 (dk_at dksJ15_equals_0 10 rfl rfl)
theorem dJ15_equals_11 : decode cJ15_equals 11 = .ok (.arraylength, 1) := dk_190 (dk_at dksJ15_equals_0 11 rfl rfl)
theorem dJ15_equals_12 : decode cJ15_equals 12 = .ok (.if_icmp .ge 20, 3) := dk_162 0 20 (dk_at dksJ15_equals_0 12 rfl rfl)
theorem dJ15_equals_15 : decode cJ15_equals 15 = .ok (.aload_n 0, 1) := dk_42 (dk_at dksJ15_equals_0 15 rfl rfl)
theorem dJ15_equals_16 : decode cJ15_equals 16 = .ok (.iload_n 2, 1) := dk_28 (dk_at dksJ15_equals_0 16 rfl rfl)
theorem dJ15_equals_17 : decode cJ15_equals 17 = .ok (.baload, 1) := dk_51 (dk_at dksJ15_equals_0 17 rfl rfl)
theorem dJ15_equals_18 : decode cJ15_equals 18 = .ok (.aload_n 1, 1) := dk_43 (dk_at dksJ15_equals_0 18 rfl rfl)
theorem dJ15_equals_19 : decode cJ15_equals 19 = .ok (.iload_n 2, 1) := dk_28 (dk_at dksJ15_equals_0 19 rfl rfl)
theorem dJ15_equals_20 : decode cJ15_equals 20 = .ok (.baload, 1) := dk_51 (dk_at dksJ15_equals_0 20 rfl rfl)
theorem dJ15_equals_21 : decode cJ15_equals 21 = .ok (.if_icmp .eq 5, 3) := dk_159 0 5 (dk_at dksJ15_equals_0 21 rfl rfl)
theorem dJ15_equals_24 : decode cJ15_equals 24 = .ok (.iconst 0, 1) := dk_3 (dk_at dksJ15_equals_1 0 rfl rfl)
theorem dJ15_equals_25 : decode cJ15_equals 25 = .ok (.ireturn, 1) := dk_172 (dk_at dksJ15_equals_1 1 rfl rfl)
theorem dJ15_equals_26 : decode cJ15_equals 26 = .ok (.iinc 2 1, 3) := dk_132 2 1 (dk_at dksJ15_equals_1 2 rfl rfl)
theorem dJ15_equals_29 : decode cJ15_equals 29 = .ok (.goto (-20), 3) := dk_167 255 236 (dk_at dksJ15_equals_1 5 rfl rfl)
theorem dJ15_equals_32 : decode cJ15_equals 32 = .ok (.iconst 1, 1) := dk_4 (dk_at dksJ15_equals_1 8 rfl rfl)
theorem dJ15_equals_33 : decode cJ15_equals 33 = .ok (.ireturn, 1) := dk_172 (dk_at dksJ15_equals_1 9 rfl rfl)
theorem dJ15_equals_34 : decode cJ15_equals 34 = .ok (.iconst 0, 1) := dk_3 (dk_at dksJ15_equals_1 10 rfl rfl)
theorem dJ15_equals_35 : decode cJ15_equals 35 = .ok (.ireturn, 1) := dk_172 (dk_at dksJ15_equals_1 11 rfl rfl)
def dkwJ15_hashCode_2 : List UInt8 := [3, 167, 0, 22, 42, 3, 51, 17, 0, 255, 126, 167, 0, 12, 42, 3, 42, 190, 3, 7, 184, 0, 84, 172]
abbrev dktJ15_hashCode_2 : List UInt8 := dkwJ15_hashCode_2 ++ []
def dkwJ15_hashCode_1 : List UInt8 := [171, 0, 0, 0, 0, 40, 0, 0, 0, 2, 0, 0, 0, 0, 0, 0, 0, 26, 0, 0, 0, 1, 0, 0, 0, 30]
abbrev dktJ15_hashCode_1 : List UInt8 := dkwJ15_hashCode_1 ++ dktJ15_hashCode_2
def dkwJ15_hashCode_0 : List UInt8 := [42, 190]
abbrev dktJ15_hashCode_0 : List UInt8 := dkwJ15_hashCode_0 ++ dktJ15_hashCode_1
theorem dksJ15_hashCode_0 : cJ15_hashCode.data.toList.drop 0 = dktJ15_hashCode_0 := by decide +kernel
theorem dksJ15_hashCode_1 : cJ15_hashCode.data.toList.drop 2 = dktJ15_hashCode_1 := dk_seg dksJ15_hashCode_0 2 rfl rfl
theorem dksJ15_hashCode_2 : cJ15_hashCode.data.toList.drop 28 = dktJ15_hashCode_2 := dk_seg dksJ15_hashCode_1 26 rfl rfl
theorem dJ15_hashCode_0 : decode cJ15_hashCode 0 = .ok (.aload_n 0, 1) := dk_42 (dk_at dksJ15_hashCode_0 0 rfl rfl)
theorem dJ15_hashCode_1 : decode cJ15_hashCode 1 = .ok (.arraylength, 1) := dk_190 (dk_at dksJ15_hashCode_0 1 rfl rfl)
theorem dJ15_hashCode_2 : decode cJ15_hashCode 2 = .ok (.lookupswitch 40 #[(0, 26), (1, 30)], 26) := by decide +kernel
theorem dJ15_hashCode_28 : decode cJ15_hashCode 28 = .ok (.iconst 0, 1) := dk_3 (dk_at dksJ15_hashCode_2 0 rfl rfl)
theorem dJ15_hashCode_29 : decode cJ15_hashCode 29 = .ok (.goto 22, 3) := dk_167 0 22 (dk_at dksJ15_hashCode_2 1 rfl rfl)
theorem dJ15_hashCode_32 : decode cJ15_hashCode 32 = .ok (.aload_n 0, 1) := dk_42 (dk_at dksJ15_hashCode_2 4 rfl rfl)
theorem dJ15_hashCode_33 : decode cJ15_hashCode 33 = .ok (.iconst 0, 1) := dk_3 (dk_at dksJ15_hashCode_2 5 rfl rfl)
theorem dJ15_hashCode_34 : decode cJ15_hashCode 34 = .ok (.baload, 1) := dk_51 (dk_at dksJ15_hashCode_2 6 rfl rfl)
theorem dJ15_hashCode_35 : decode cJ15_hashCode 35 = .ok (.sipush 255, 3) := dk_17 0 255 (dk_at dksJ15_hashCode_2 7 rfl rfl)
theorem dJ15_hashCode_38 : decode cJ15_hashCode 38 = .ok (.iand, 1) := dk_126 (dk_at dksJ15_hashCode_2 10 rfl rfl)
theorem dJ15_hashCode_39 : decode cJ15_hashCode 39 = .ok (.goto 12, 3) := dk_167 0 12 (dk_at dksJ15_hashCode_2 11 rfl rfl)
theorem dJ15_hashCode_42 : decode cJ15_hashCode 42 = .ok (.aload_n 0, 1) := dk_42 (dk_at dksJ15_hashCode_2 14 rfl rfl)
theorem dJ15_hashCode_43 : decode cJ15_hashCode 43 = .ok (.iconst 0, 1) := dk_3 (dk_at dksJ15_hashCode_2 15 rfl rfl)
theorem dJ15_hashCode_44 : decode cJ15_hashCode 44 = .ok (.aload_n 0, 1) := dk_42 (dk_at dksJ15_hashCode_2 16 rfl rfl)
theorem dJ15_hashCode_45 : decode cJ15_hashCode 45 = .ok (.arraylength, 1) := dk_190 (dk_at dksJ15_hashCode_2 17 rfl rfl)
theorem dJ15_hashCode_46 : decode cJ15_hashCode 46 = .ok (.iconst 0, 1) := dk_3 (dk_at dksJ15_hashCode_2 18 rfl rfl)
theorem dJ15_hashCode_47 : decode cJ15_hashCode 47 = .ok (.iconst 4, 1) := dk_7 (dk_at dksJ15_hashCode_2 19 rfl rfl)
theorem dJ15_hashCode_48 : decode cJ15_hashCode 48 = .ok (.invokestatic 84, 3) := dk_184 0 84 (dk_at dksJ15_hashCode_2 20 rfl rfl)
theorem dJ15_hashCode_51 : decode cJ15_hashCode 51 = .ok (.ireturn, 1) := dk_172 (dk_at dksJ15_hashCode_2 23 rfl rfl)
def dkwJ15_charAt_0 : List UInt8 := [27, 42, 190, 184, 0, 9, 42, 27, 51, 17, 0, 255, 126, 146, 172]
abbrev dktJ15_charAt_0 : List UInt8 := dkwJ15_charAt_0 ++ []
theorem dksJ15_charAt_0 : cJ15_charAt.data.toList.drop 0 = dktJ15_charAt_0 := by decide +kernel
theorem dJ15_charAt_0 : decode cJ15_charAt 0 = .ok (.iload_n 1, 1) := dk_27 (dk_at dksJ15_charAt_0 0 rfl rfl)
theorem dJ15_charAt_1 : decode cJ15_charAt 1 = .ok (.aload_n 0, 1) := dk_42 (dk_at dksJ15_charAt_0 1 rfl rfl)
theorem dJ15_charAt_2 : decode cJ15_charAt 2 = .ok (.arraylength, 1) := dk_190 (dk_at dksJ15_charAt_0 2 rfl rfl)
theorem dJ15_charAt_3 : decode cJ15_charAt 3 = .ok (.invokestatic 9, 3) := dk_184 0 9 (dk_at dksJ15_charAt_0 3 rfl rfl)
theorem dJ15_charAt_6 : decode cJ15_charAt 6 = .ok (.aload_n 0, 1) := dk_42 (dk_at dksJ15_charAt_0 6 rfl rfl)
theorem dJ15_charAt_7 : decode cJ15_charAt 7 = .ok (.iload_n 1, 1) := dk_27 (dk_at dksJ15_charAt_0 7 rfl rfl)
theorem dJ15_charAt_8 : decode cJ15_charAt 8 = .ok (.baload, 1) := dk_51 (dk_at dksJ15_charAt_0 8 rfl rfl)
theorem dJ15_charAt_9 : decode cJ15_charAt 9 = .ok (.sipush 255, 3) := dk_17 0 255 (dk_at dksJ15_charAt_0 9 rfl rfl)
theorem dJ15_charAt_12 : decode cJ15_charAt 12 = .ok (.iand, 1) := dk_126 (dk_at dksJ15_charAt_0 12 rfl rfl)
theorem dJ15_charAt_13 : decode cJ15_charAt 13 = .ok (.i2c, 1) := dk_146 (dk_at dksJ15_charAt_0 13 rfl rfl)
theorem dJ15_charAt_14 : decode cJ15_charAt 14 = .ok (.ireturn, 1) := dk_172 (dk_at dksJ15_charAt_0 14 rfl rfl)
def dkwJ7_init_1 : List UInt8 := [167, 0, 16, 42, 27, 184, 0, 26, 181, 0, 15, 42, 4, 181, 0, 22, 177]
abbrev dktJ7_init_1 : List UInt8 := dkwJ7_init_1 ++ []
def dkwJ7_init_0 : List UInt8 := [42, 183, 0, 3, 178, 0, 18, 153, 0, 18, 42, 27, 188, 8, 181, 0, 15, 42, 3, 181, 0, 22]
abbrev dktJ7_init_0 : List UInt8 := dkwJ7_init_0 ++ dktJ7_init_1
theorem dksJ7_init_0 : cJ7_init.data.toList.drop 0 = dktJ7_init_0 := by decide +kernel
theorem dksJ7_init_1 : cJ7_init.data.toList.drop 22 = dktJ7_init_1 := dk_seg dksJ7_init_0 22 rfl rfl
theorem dJ7_init_0 : decode cJ7_init 0 = .ok (.aload_n 0, 1) := dk_42 (dk_at dksJ7_init_0 0 rfl rfl)
theorem dJ7_init_1 : decode cJ7_init 1 = .ok (.invokespecial 3, 3) := dk_183 0 3 (dk_at dksJ7_init_0 1 rfl rfl)
theorem dJ7_init_4 : decode cJ7_init 4 = .ok (.getstatic 18, 3) := dk_178 0 18 (dk_at dksJ7_init_0 4 rfl rfl)
theorem dJ7_init_7 : decode cJ7_init 7 = .ok (.ifCond .eq 18, 3) := dk_153 0 18 (dk_at dksJ7_init_0 7 rfl rfl)
theorem dJ7_init_10 : decode cJ7_init 10 = .ok (.aload_n 0, 1) := dk_42 (dk_at dksJ7_init_0 10 rfl rfl)
theorem dJ7_init_11 : decode cJ7_init 11 = .ok (.iload_n 1, 1) := dk_27 (dk_at dksJ7_init_0 11 rfl rfl)
theorem dJ7_init_12 : decode cJ7_init 12 = .ok (.newarray .byte, 2) := dk_188_8 (dk_at dksJ7_init_0 12 rfl rfl)
theorem dJ7_init_14 : decode cJ7_init 14 = .ok (.putfield 15, 3) := dk_181 0 15 (dk_at dksJ7_init_0 14 rfl rfl)
theorem dJ7_init_17 : decode cJ7_init 17 = .ok (.aload_n 0, 1) := dk_42 (dk_at dksJ7_init_0 17 rfl rfl)
theorem dJ7_init_18 : decode cJ7_init 18 = .ok (.iconst 0, 1) := dk_3 (dk_at dksJ7_init_0 18 rfl rfl)
theorem dJ7_init_19 : decode cJ7_init 19 = .ok (.putfield 22, 3) := dk_181 0 22 (dk_at dksJ7_init_0 19 rfl rfl)
theorem dJ7_init_22 : decode cJ7_init 22 = .ok (.goto 16, 3) := dk_167 0 16 (dk_at dksJ7_init_1 0 rfl rfl)
theorem dJ7_init_25 : decode cJ7_init 25 = .ok (.aload_n 0, 1) := dk_42 (dk_at dksJ7_init_1 3 rfl rfl)
theorem dJ7_init_26 : decode cJ7_init 26 = .ok (.iload_n 1, 1) := dk_27 (dk_at dksJ7_init_1 4 rfl rfl)
theorem dJ7_init_27 : decode cJ7_init 27 = .ok (.invokestatic 26, 3) := dk_184 0 26 (dk_at dksJ7_init_1 5 rfl rfl)
theorem dJ7_init_30 : decode cJ7_init 30 = .ok (.putfield 15, 3) := dk_181 0 15 (dk_at dksJ7_init_1 8 rfl rfl)
theorem dJ7_init_33 : decode cJ7_init 33 = .ok (.aload_n 0, 1) := dk_42 (dk_at dksJ7_init_1 11 rfl rfl)
theorem dJ7_init_34 : decode cJ7_init 34 = .ok (.iconst 1, 1) := dk_4 (dk_at dksJ7_init_1 12 rfl rfl)
theorem dJ7_init_35 : decode cJ7_init 35 = .ok (.putfield 22, 3) := dk_181 0 22 (dk_at dksJ7_init_1 13 rfl rfl)
theorem dJ7_init_38 : decode cJ7_init 38 = .ok (.return_, 1) := dk_177 (dk_at dksJ7_init_1 16 rfl rfl)
def dkwJ7_append_1 : List UInt8 := [42, 42, 180, 0, 79, 43, 182, 0, 208, 42, 89, 180, 0, 79, 28, 96, 181, 0, 79, 42, 176]
abbrev dktJ7_append_1 : List UInt8 := dkwJ7_append_1 ++ []
def dkwJ7_append_0 : List UInt8 := [43, 199, 0, 8, 42, 182, 0, 204, 176, 43, 182, 0, 32, 61, 42, 42, 180, 0, 79, 28, 96, 182, 0, 100]
abbrev dktJ7_append_0 : List UInt8 := dkwJ7_append_0 ++ dktJ7_append_1
theorem dksJ7_append_0 : cJ7_append.data.toList.drop 0 = dktJ7_append_0 := by decide +kernel
theorem dksJ7_append_1 : cJ7_append.data.toList.drop 24 = dktJ7_append_1 := dk_seg dksJ7_append_0 24 rfl rfl
theorem dJ7_append_0 : decode cJ7_append 0 = .ok (.aload_n 1, 1) := dk_43 (dk_at dksJ7_append_0 0 rfl rfl)
theorem dJ7_append_1 : decode cJ7_append 1 = .ok (.ifnonnull 8, 3) := dk_199 0 8 (dk_at dksJ7_append_0 1 rfl rfl)
theorem dJ7_append_4 : decode cJ7_append 4 = .ok (.aload_n 0, 1) := dk_42 (dk_at dksJ7_append_0 4 rfl rfl)
theorem dJ7_append_5 : decode cJ7_append 5 = .ok (.invokevirtual 204, 3) := dk_182 0 204 (dk_at dksJ7_append_0 5 rfl rfl)
theorem dJ7_append_8 : decode cJ7_append 8 = .ok (.areturn, 1) := dk_176 (dk_at dksJ7_append_0 8 rfl rfl)
theorem dJ7_append_9 : decode cJ7_append 9 = .ok (.aload_n 1, 1) := dk_43 (dk_at dksJ7_append_0 9 rfl rfl)
theorem dJ7_append_10 : decode cJ7_append 10 = .ok (.invokevirtual 32, 3) := dk_182 0 32 (dk_at dksJ7_append_0 10 rfl rfl)
theorem dJ7_append_13 : decode cJ7_append 13 = .ok (.istore_n 2, 1) := dk_61 (dk_at dksJ7_append_0 13 rfl rfl)
theorem dJ7_append_14 : decode cJ7_append 14 = .ok (.aload_n 0, 1) := dk_42 (dk_at dksJ7_append_0 14 rfl rfl)
theorem dJ7_append_15 : decode cJ7_append 15 = .ok (.aload_n 0, 1) := dk_42 (dk_at dksJ7_append_0 15 rfl rfl)
theorem dJ7_append_16 : decode cJ7_append 16 = .ok (.getfield 79, 3) := dk_180 0 79 (dk_at dksJ7_append_0 16 rfl rfl)
theorem dJ7_append_19 : decode cJ7_append 19 = .ok (.iload_n 2, 1) := dk_28 (dk_at dksJ7_append_0 19 rfl rfl)
theorem dJ7_append_20 : decode cJ7_append 20 = .ok (.iadd, 1) := dk_96 (dk_at dksJ7_append_0 20 rfl rfl)
theorem dJ7_append_21 : decode cJ7_append 21 = .ok (.invokevirtual 100, 3) := dk_182 0 100 (dk_at dksJ7_append_0 21 rfl rfl)
theorem dJ7_append_24 : decode cJ7_append 24 = .ok (.aload_n 0, 1) := dk_42 (dk_at dksJ7_append_1 0 rfl rfl)
theorem dJ7_append_25 : decode cJ7_append 25 = .ok (.aload_n 0, 1) := dk_42 (dk_at dksJ7_append_1 1 rfl rfl)
theorem dJ7_append_26 : decode cJ7_append 26 = .ok (.getfield 79, 3) := dk_180 0 79 (dk_at dksJ7_append_1 2 rfl rfl)
theorem dJ7_append_29 : decode cJ7_append 29 = .ok (.aload_n 1, 1) := dk_43 (dk_at dksJ7_append_1 5 rfl rfl)
theorem dJ7_append_30 : decode cJ7_append 30 = .ok (.invokevirtual 208, 3) := dk_182 0 208 (dk_at dksJ7_append_1 6 rfl rfl)
theorem dJ7_append_33 : decode cJ7_append 33 = .ok (.aload_n 0, 1) := dk_42 (dk_at dksJ7_append_1 9 rfl rfl)
theorem dJ7_append_34 : decode cJ7_append 34 = .ok (.dup, 1) := dk_89 (dk_at dksJ7_append_1 10 rfl rfl)
theorem dJ7_append_35 : decode cJ7_append 35 = .ok (.getfield 79, 3) := dk_180 0 79 (dk_at dksJ7_append_1 11 rfl rfl)
theorem dJ7_append_38 : decode cJ7_append 38 = .ok (.iload_n 2, 1) := dk_28 (dk_at dksJ7_append_1 14 rfl rfl)
theorem dJ7_append_39 : decode cJ7_append 39 = .ok (.iadd, 1) := dk_96 (dk_at dksJ7_append_1 15 rfl rfl)
theorem dJ7_append_40 : decode cJ7_append 40 = .ok (.putfield 79, 3) := dk_181 0 79 (dk_at dksJ7_append_1 16 rfl rfl)
theorem dJ7_append_43 : decode cJ7_append 43 = .ok (.aload_n 0, 1) := dk_42 (dk_at dksJ7_append_1 19 rfl rfl)
theorem dJ7_append_44 : decode cJ7_append 44 = .ok (.areturn, 1) := dk_176 (dk_at dksJ7_append_1 20 rfl rfl)
def dkwJ7_appendNull_3 : List UInt8 := [184, 0, 226, 60, 42, 27, 181, 0, 79, 42, 176]
abbrev dktJ7_appendNull_3 : List UInt8 := dkwJ7_appendNull_3 ++ []
def dkwJ7_appendNull_2 : List UInt8 := [16, 108, 84, 44, 27, 132, 1, 1, 16, 108, 84, 167, 0, 17, 44, 27, 16, 110, 16, 117, 16, 108, 16, 108]
abbrev dktJ7_appendNull_2 : List UInt8 := dkwJ7_appendNull_2 ++ dktJ7_appendNull_3
def dkwJ7_appendNull_1 : List UInt8 := [153, 0, 38, 44, 27, 132, 1, 1, 16, 110, 84, 44, 27, 132, 1, 1, 16, 117, 84, 44, 27, 132, 1, 1]
abbrev dktJ7_appendNull_1 : List UInt8 := dkwJ7_appendNull_1 ++ dktJ7_appendNull_2
def dkwJ7_appendNull_0 : List UInt8 := [42, 42, 180, 0, 79, 7, 96, 182, 0, 100, 42, 180, 0, 79, 60, 42, 180, 0, 15, 77, 42, 182, 0, 83]
abbrev dktJ7_appendNull_0 : List UInt8 := dkwJ7_appendNull_0 ++ dktJ7_appendNull_1
theorem dksJ7_appendNull_0 : cJ7_appendNull.data.toList.drop 0 = dktJ7_appendNull_0 := by decide +kernel
theorem dksJ7_appendNull_1 : cJ7_appendNull.data.toList.drop 24 = dktJ7_appendNull_1 := dk_seg dksJ7_appendNull_0 24 rfl rfl
theorem dksJ7_appendNull_2 : cJ7_appendNull.data.toList.drop 48 = dktJ7_appendNull_2 := dk_seg dksJ7_appendNull_1 24 rfl rfl
theorem dksJ7_appendNull_3 : cJ7_appendNull.data.toList.drop 72 = dktJ7_appendNull_3 := dk_seg dksJ7_appendNull_2 24 rfl rfl
theorem dJ7_appendNull_0 : decode cJ7_appendNull 0 = .ok (.aload_n 0, 1) := dk_42 (dk_at dksJ7_appendNull_0 0 rfl rfl)
theorem dJ7_appendNull_1 : decode cJ7_appendNull 1 = .ok (.aload_n 0, 1) := dk_42 (dk_at dksJ7_appendNull_0 1 rfl rfl)
theorem dJ7_appendNull_2 : decode cJ7_appendNull 2 = .ok (.getfield 79, 3) := dk_180 0 79 (dk_at dksJ7_appendNull_0 2 rfl rfl)
theorem dJ7_appendNull_5 : decode cJ7_appendNull 5 = .ok (.iconst 4, 1) := dk_7 (dk_at dksJ7_appendNull_0 5 rfl rfl)
theorem dJ7_appendNull_6 : decode cJ7_appendNull 6 = .ok (.iadd, 1) := dk_96 (dk_at dksJ7_appendNull_0 6 rfl rfl)
theorem dJ7_appendNull_7 : decode cJ7_appendNull 7 = .ok (.invokevirtual 100, 3) := dk_182 0 100 (dk_at dksJ7_appendNull_0 7 rfl rfl)
theorem dJ7_appendNull_10 : decode cJ7_appendNull 10 = .ok (.aload_n 0, 1) := dk_42 (dk_at dksJ7_appendNull_0 10 rfl rfl)
theorem dJ7_appendNull_11 : decode cJ7_appendNull 11 = .ok (.getfield 79, 3) := dk_180 0 79 (dk_at dksJ7_appendNull_0 11 rfl rfl)
theorem dJ7_appendNull_14 : decode cJ7_appendNull 14 = .ok (.istore_n 1, 1) := dk_60 (dk_at dksJ7_appendNull_0 14 rfl rfl)
theorem dJ7_appendNull_15 : decode cJ7_appendNull 15 = .ok (.aload_n 0, 1) := dk_42 (dk_at dksJ7_appendNull_0 15 rfl rfl)
theorem dJ7_appendNull_16 : decode cJ7_appendNull 16 = .ok (.getfield 15, 3) := dk_180 0 15 (dk_at dksJ7_appendNull_0 16 rfl rfl)
theorem dJ7_appendNull_19 : decode cJ7_appendNull 19 = .ok (.astore_n 2, 1) := dk_77 (dk_at dksJ7_appendNull_0 19 rfl rfl)
theorem dJ7_appendNull_20 : decode cJ7_appendNull 20 = .ok (.aload_n 0, 1) := dk_42 (dk_at dksJ7_appendNull_0 20 rfl rfl)
theorem dJ7_appendNull_21 : decode cJ7_appendNull 21 = .ok (.invokevirtual 83, 3) := dk_182 0 83 (dk_at dksJ7_appendNull_0 21 rfl rfl)
theorem dJ7_appendNull_24 : decode cJ7_appendNull 24 = .ok (.ifCond .eq 38, 3) := dk_153 0 38 (dk_at dksJ7_appendNull_1 0 rfl rfl)
theorem dJ7_appendNull_27 : decode cJ7_appendNull 27 = .ok (.aload_n 2, 1) := dk_44 (dk_at dksJ7_appendNull_1 3 rfl rfl)
theorem dJ7_appendNull_28 : decode cJ7_appendNull 28 = .ok (.iload_n 1, 1) := dk_27 (dk_at dksJ7_appendNull_1 4 rfl rfl)
theorem dJ7_appendNull_29 : decode cJ7_appendNull 29 = .ok (.iinc 1 1, 3) := dk_132 1 1 (dk_at dksJ7_appendNull_1 5 rfl rfl)
theorem dJ7_appendNull_32 : decode cJ7_appendNull 32 = .ok (.bipush 110, 2) := dk_16 110 (dk_at dksJ7_appendNull_1 8 rfl rfl)
theorem dJ7_appendNull_34 : decode cJ7_appendNull 34 = .ok (.bastore, 1) := dk_84 (dk_at dksJ7_appendNull_1 10 rfl rfl)
theorem dJ7_appendNull_35 : decode cJ7_appendNull 35 = .ok (.aload_n 2, 1) := dk_44 (dk_at dksJ7_appendNull_1 11 rfl rfl)
theorem dJ7_appendNull_36 : decode cJ7_appendNull 36 = .ok (.iload_n 1, 1) := dk_27 (dk_at dksJ7_appendNull_1 12 rfl rfl)
theorem dJ7_appendNull_37 : decode cJ7_appendNull 37 = .ok (.iinc 1 1, 3) := dk_132 1 1 (dk_at dksJ7_appendNull_1 13 rfl rfl)
theorem dJ7_appendNull_40 : decode cJ7_appendNull 40 = .ok (.bipush 117, 2) := dk_16 117 (dk_at dksJ7_appendNull_1 16 rfl rfl)
theorem dJ7_appendNull_42 : decode cJ7_appendNull 42 = .ok (.bastore, 1) := dk_84 (dk_at dksJ7_appendNull_1 18 rfl rfl)
theorem dJ7_appendNull_43 : decode cJ7_appendNull 43 = .ok (.aload_n 2, 1) := dk_44 (dk_at dksJ7_appendNull_1 19 rfl rfl)
theorem dJ7_appendNull_44 : decode cJ7_appendNull 44 = .ok (.iload_n 1, 1) := dk_27 (dk_at dksJ7_appendNull_1 20 rfl rfl)
theorem dJ7_appendNull_45 : decode cJ7_appendNull 45 = .ok (.iinc 1 1, 3) := dk_132 1 1 (dk_at dksJ7_appendNull_1 21 rfl rfl)
theorem dJ7_appendNull_48 : decode cJ7_appendNull 48 = .ok (.bipush 108, 2) := dk_16 108 (dk_at dksJ7_appendNull_2 0 rfl rfl)
theorem dJ7_appendNull_50 : decode cJ7_appendNull 50 = .ok (.bastore, 1) := dk_84 (dk_at dksJ7_appendNull_2 2 rfl rfl)
theorem dJ7_appendNull_51 : decode cJ7_appendNull 51 = .ok (.aload_n 2, 1) := dk_44 (dk_at dksJ7_appendNull_2 3 rfl rfl)
theorem dJ7_appendNull_52 : decode cJ7_appendNull 52 = .ok (.iload_n 1, 1) := dk_27 (dk_at dksJ7_appendNull_2 4 rfl rfl)
theorem dJ7_appendNull_53 : decode cJ7_appendNull 53 = .ok (.iinc 1 1, 3) := dk_132 1 1 (dk_at dksJ7_appendNull_2 5 rfl rfl)
theorem dJ7_appendNull_56 : decode cJ7_appendNull 56 = .ok (.bipush 108, 2) := dk_16 108 (dk_at dksJ7_appendNull_2 8 rfl rfl)
theorem dJ7_appendNull_58 : decode cJ7_appendNull 58 = .ok (.bastore, 1) := dk_84 (dk_at dksJ7_appendNull_2 10 rfl rfl)
theorem dJ7_appendNull_59 : decode cJ7_appendNull 59 = .ok (.goto 17, 3) := dk_167 0 17 (dk_at dksJ7_appendNull_2 11 rfl rfl)
theorem dJ7_appendNull_62 : decode cJ7_appendNull 62 = .ok (.aload_n 2, 1) := dk_44 (dk_at dksJ7_appendNull_2 14 rfl rfl)
theorem dJ7_appendNull_63 : decode cJ7_appendNull 63 = .ok (.iload_n 1, 1) := dk_27 (dk_at dksJ7_appendNull_2 15 rfl rfl)
theorem dJ7_appendNull_64 : decode cJ7_appendNull 64 = .ok (.bipush 110, 2) := dk_16 110 (dk_at dksJ7_appendNull_2 16 rfl rfl)
theorem dJ7_appendNull_66 : decode cJ7_appendNull 66 = .ok (.bipush 117, 2) := dk_16 117 (dk_at dksJ7_appendNull_2 18 rfl rfl)
theorem dJ7_appendNull_68 : decode cJ7_appendNull 68 = .ok (.bipush 108, 2) := dk_16 108 (dk_at dksJ7_appendNull_2 20 rfl rfl)
theorem dJ7_appendNull_70 : decode cJ7_appendNull 70 = .ok (.bipush 108, 2) := dk_16 108 (dk_at dksJ7_appendNull_2 22 rfl rfl)
theorem dJ7_appendNull_72 : decode cJ7_appendNull 72 = .ok (.invokestatic 226, 3) := dk_184 0 226 (dk_at dksJ7_appendNull_3 0 rfl rfl)
theorem dJ7_appendNull_75 : decode cJ7_appendNull 75 = .ok (.istore_n 1, 1) := dk_60 (dk_at dksJ7_appendNull_3 3 rfl rfl)
theorem dJ7_appendNull_76 : decode cJ7_appendNull 76 = .ok (.aload_n 0, 1) := dk_42 (dk_at dksJ7_appendNull_3 4 rfl rfl)
theorem dJ7_appendNull_77 : decode cJ7_appendNull 77 = .ok (.iload_n 1, 1) := dk_27 (dk_at dksJ7_appendNull_3 5 rfl rfl)
theorem dJ7_appendNull_78 : decode cJ7_appendNull 78 = .ok (.putfield 79, 3) := dk_181 0 79 (dk_at dksJ7_appendNull_3 6 rfl rfl)
theorem dJ7_appendNull_81 : decode cJ7_appendNull 81 = .ok (.aload_n 0, 1) := dk_42 (dk_at dksJ7_appendNull_3 9 rfl rfl)
theorem dJ7_appendNull_82 : decode cJ7_appendNull 82 = .ok (.areturn, 1) := dk_176 (dk_at dksJ7_appendNull_3 10 rfl rfl)
def dkwJ7_ensureCapacityInternal_1 : List UInt8 := [182, 0, 104, 42, 180, 0, 22, 120, 184, 0, 108, 181, 0, 15, 177]
abbrev dktJ7_ensureCapacityInternal_1 : List UInt8 := dkwJ7_ensureCapacityInternal_1 ++ []
def dkwJ7_ensureCapacityInternal_0 : List UInt8 := [42, 180, 0, 15, 190, 42, 180, 0, 22, 122, 61, 27, 28, 100, 158, 0, 24, 42, 42, 180, 0, 15, 42, 27]
abbrev dktJ7_ensureCapacityInternal_0 : List UInt8 := dkwJ7_ensureCapacityInternal_0 ++ dktJ7_ensureCapacityInternal_1
theorem dksJ7_ensureCapacityInternal_0 : cJ7_ensureCapacityInternal.data.toList.drop 0 = dktJ7_ensureCapacityInternal_0 := by decide +kernel
theorem dksJ7_ensureCapacityInternal_1 : cJ7_ensureCapacityInternal.data.toList.drop 24 = dktJ7_ensureCapacityInternal_1 := dk_seg dksJ7_ensureCapacityInternal_0 24 rfl rfl
theorem dJ7_ensureCapacityInternal_0 : decode cJ7_ensureCapacityInternal 0 = .ok (.aload_n 0, 1) := dk_42 (dk_at dksJ7_ensureCapacityInternal_0 0 rfl rfl)
theorem dJ7_ensureCapacityInternal_1 : decode cJ7_ensureCapacityInternal 1 = .ok (.getfield 15, 3) := dk_180 0 15 (dk_at dksJ7_ensureCapacityInternal_0 1 rfl rfl)
theorem dJ7_ensureCapacityInternal_4 : decode cJ7_ensureCapacityInternal 4 = .ok (.arraylength, 1) := dk_190 (dk_at dksJ7_ensureCapacityInternal_0 4 rfl rfl)
theorem dJ7_ensureCapacityInternal_5 : decode cJ7_ensureCapacityInternal 5 = .ok (.aload_n 0, 1) := dk_42 (dk_at dksJ7_ensureCapacityInternal_0 5 rfl rfl)
theorem dJ7_ensureCapacityInternal_6 : decode cJ7_ensureCapacityInternal 6 = .ok (.getfield 22, 3) := dk_180 0 22 (dk_at dksJ7_ensureCapacityInternal_0 6 rfl rfl)
theorem dJ7_ensureCapacityInternal_9 : decode cJ7_ensureCapacityInternal 9 = .ok (.ishr, 1) := dk_122 (dk_at dksJ7_ensureCapacityInternal_0 9 rfl rfl)
theorem dJ7_ensureCapacityInternal_10 : decode cJ7_ensureCapacityInternal 10 = .ok (.istore_n 2, 1) := dk_61 (dk_at dksJ7_ensureCapacityInternal_0 10 rfl rfl)
theorem dJ7_ensureCapacityInternal_11 : decode cJ7_ensureCapacityInternal 11 = .ok (.iload_n 1, 1) := dk_27 (dk_at dksJ7_ensureCapacityInternal_0 11 rfl rfl)
theorem dJ7_ensureCapacityInternal_12 : decode cJ7_ensureCapacityInternal 12 = .ok (.iload_n 2, 1) := dk_28 (dk_at dksJ7_ensureCapacityInternal_0 12 rfl rfl)
theorem dJ7_ensureCapacityInternal_13 : decode cJ7_ensureCapacityInternal 13 = .ok (.isub, 1) := dk_100 (dk_at dksJ7_ensureCapacityInternal_0 13 rfl rfl)
theorem dJ7_ensureCapacityInternal_14 : decode cJ7_ensureCapacityInternal 14 = .ok (.ifCond .le 24, 3) := dk_158 0 24 (dk_at dksJ7_ensureCapacityInternal_0 14 rfl rfl)
theorem dJ7_ensureCapacityInternal_17 : decode cJ7_ensureCapacityInternal 17 = .ok (.aload_n 0, 1) := dk_42 (dk_at dksJ7_ensureCapacityInternal_0 17 rfl rfl)
theorem dJ7_ensureCapacityInternal_18 : decode cJ7_ensureCapacityInternal 18 = .ok (.aload_n 0, 1) := dk_42 (dk_at dksJ7_ensureCapacityInternal_0 18 rfl rfl)
theorem dJ7_ensureCapacityInternal_19 : decode cJ7_ensureCapacityInternal 19 = .ok (.getfield 15, 3) := dk_180 0 15 (dk_at dksJ7_ensureCapacityInternal_0 19 rfl rfl)
theorem dJ7_ensureCapacityInternal_22 : decode cJ7_ensureCapacityInternal 22 = .ok (.aload_n 0, 1) := dk_42 (dk_at dksJ7_ensureCapacityInternal_0 22 rfl rfl)
theorem dJ7_ensureCapacityInternal_23 : decode cJ7_ensureCapacityInternal 23 = .ok (.iload_n 1, 1) := dk_27 (dk_at dksJ7_ensureCapacityInternal_0 23 rfl rfl)
theorem dJ7_ensureCapacityInternal_24 : decode cJ7_ensureCapacityInternal 24 = .ok (.invokevirtual 104, 3) := dk_182 0 104 (dk_at dksJ7_ensureCapacityInternal_1 0 rfl rfl)
theorem dJ7_ensureCapacityInternal_27 : decode cJ7_ensureCapacityInternal 27 = .ok (.aload_n 0, 1) := dk_42 (dk_at dksJ7_ensureCapacityInternal_1 3 rfl rfl)
theorem dJ7_ensureCapacityInternal_28 : decode cJ7_ensureCapacityInternal 28 = .ok (.getfield 22, 3) := dk_180 0 22 (dk_at dksJ7_ensureCapacityInternal_1 4 rfl rfl)
theorem dJ7_ensureCapacityInternal_31 : decode cJ7_ensureCapacityInternal 31 = .ok (.ishl, 1) := dk_120 (dk_at dksJ7_ensureCapacityInternal_1 7 rfl rfl)
theorem dJ7_ensureCapacityInternal_32 : decode cJ7_ensureCapacityInternal 32 = .ok (.invokestatic 108, 3) := dk_184 0 108 (dk_at dksJ7_ensureCapacityInternal_1 8 rfl rfl)
theorem dJ7_ensureCapacityInternal_35 : decode cJ7_ensureCapacityInternal 35 = .ok (.putfield 15, 3) := dk_181 0 15 (dk_at dksJ7_ensureCapacityInternal_1 11 rfl rfl)
theorem dJ7_ensureCapacityInternal_38 : decode cJ7_ensureCapacityInternal 38 = .ok (.return_, 1) := dk_177 (dk_at dksJ7_ensureCapacityInternal_1 14 rfl rfl)
def dkwJ7_newCapacity_2 : List UInt8 := [183, 0, 124, 191, 21, 5, 42, 180, 0, 22, 122, 172]
abbrev dktJ7_newCapacity_2 : List UInt8 := dkwJ7_newCapacity_2 ++ []
def dkwJ7_newCapacity_1 : List UInt8 := [180, 0, 22, 120, 96, 184, 0, 114, 54, 5, 21, 5, 18, 39, 160, 0, 13, 187, 0, 120, 89, 18, 122]
abbrev dktJ7_newCapacity_1 : List UInt8 := dkwJ7_newCapacity_1 ++ dktJ7_newCapacity_2
def dkwJ7_newCapacity_0 : List UInt8 := [42, 180, 0, 15, 190, 61, 27, 42, 180, 0, 22, 120, 62, 29, 28, 100, 54, 4, 28, 21, 4, 28, 5, 42]
abbrev dktJ7_newCapacity_0 : List UInt8 := dkwJ7_newCapacity_0 ++ dktJ7_newCapacity_1
theorem dksJ7_newCapacity_0 : cJ7_newCapacity.data.toList.drop 0 = dktJ7_newCapacity_0 := by decide +kernel
theorem dksJ7_newCapacity_1 : cJ7_newCapacity.data.toList.drop 24 = dktJ7_newCapacity_1 := dk_seg dksJ7_newCapacity_0 24 rfl rfl
theorem dksJ7_newCapacity_2 : cJ7_newCapacity.data.toList.drop 47 = dktJ7_newCapacity_2 := dk_seg dksJ7_newCapacity_1 23 rfl rfl
theorem dJ7_newCapacity_0 : decode cJ7_newCapacity 0 = .ok (.aload_n 0, 1) := dk_42 (dk_at dksJ7_newCapacity_0 0 rfl rfl)
theorem dJ7_newCapacity_1 : decode cJ7_newCapacity 1 = .ok (.getfield 15, 3) := dk_180 0 15 (dk_at dksJ7_newCapacity_0 1 rfl rfl)
theorem dJ7_newCapacity_4 : decode cJ7_newCapacity 4 = .ok (.arraylength, 1) := dk_190 (dk_at dksJ7_newCapacity_0 4 rfl rfl)
theorem dJ7_newCapacity_5 : decode cJ7_newCapacity 5 = .ok (.istore_n 2, 1) := dk_61 (dk_at dksJ7_newCapacity_0 5 rfl rfl)
theorem dJ7_newCapacity_6 : decode cJ7_newCapacity 6 = .ok (.iload_n 1, 1) := dk_27 (dk_at dksJ7_newCapacity_0 6 rfl rfl)
theorem dJ7_newCapacity_7 : decode cJ7_newCapacity 7 = .ok (.aload_n 0, 1) := dk_42 (dk_at dksJ7_newCapacity_0 7 rfl rfl)
theorem dJ7_newCapacity_8 : decode cJ7_newCapacity 8 = .ok (.getfield 22, 3) := dk_180 0 22 (dk_at dksJ7_newCapacity_0 8 rfl rfl)
theorem dJ7_newCapacity_11 : decode cJ7_newCapacity 11 = .ok (.ishl, 1) := dk_120 (dk_at dksJ7_newCapacity_0 11 rfl rfl)
theorem dJ7_newCapacity_12 : decode cJ7_newCapacity 12 = .ok (.istore_n 3, 1) := dk_62 (dk_at dksJ7_newCapacity_0 12 rfl rfl)
theorem dJ7_newCapacity_13 : decode cJ7_newCapacity 13 = .ok (.iload_n 3, 1) := dk_29 (dk_at dksJ7_newCapacity_0 13 rfl rfl)
theorem dJ7_newCapacity_14 : decode cJ7_newCapacity 14 = .ok (.iload_n 2, 1) := dk_28 (dk_at dksJ7_newCapacity_0 14 rfl rfl)
theorem dJ7_newCapacity_15 : decode cJ7_newCapacity 15 = .ok (.isub, 1) := dk_100 (dk_at dksJ7_newCapacity_0 15 rfl rfl)
theorem dJ7_newCapacity_16 : decode cJ7_newCapacity 16 = .ok (.istore 4, 2) := dk_54 4 (dk_at dksJ7_newCapacity_0 16 rfl rfl)
theorem dJ7_newCapacity_18 : decode cJ7_newCapacity 18 = .ok (.iload_n 2, 1) := dk_28 (dk_at dksJ7_newCapacity_0 18 rfl rfl)
theorem dJ7_newCapacity_19 : decode cJ7_newCapacity 19 = .ok (.iload 4, 2) := dk_21 4 (dk_at dksJ7_newCapacity_0 19 rfl rfl)
theorem dJ7_newCapacity_21 : decode cJ7_newCapacity 21 = .ok (.iload_n 2, 1) := dk_28 (dk_at dksJ7_newCapacity_0 21 rfl rfl)
theorem dJ7_newCapacity_22 : decode cJ7_newCapacity 22 = .ok (.iconst 2, 1) := dk_5 (dk_at dksJ7_newCapacity_0 22 rfl rfl)
theorem dJ7_newCapacity_23 : decode cJ7_newCapacity 23 = .ok (.aload_n 0, 1) := dk_42 (dk_at dksJ7_newCapacity_0 23 rfl rfl)
theorem dJ7_newCapacity_24 : decode cJ7_newCapacity 24 = .ok (.getfield 22, 3) := dk_180 0 22 (dk_at dksJ7_newCapacity_1 0 rfl rfl)
theorem dJ7_newCapacity_27 : decode cJ7_newCapacity 27 = .ok (.ishl, 1) := dk_120 (dk_at dksJ7_newCapacity_1 3 rfl rfl)
theorem dJ7_newCapacity_28 : decode cJ7_newCapacity 28 = .ok (.iadd, 1) := dk_96 (dk_at dksJ7_newCapacity_1 4 rfl rfl)
theorem dJ7_newCapacity_29 : decode cJ7_newCapacity 29 = .ok (.invokestatic 114, 3) := dk_184 0 114 (dk_at dksJ7_newCapacity_1 5 rfl rfl)
theorem dJ7_newCapacity_32 : decode cJ7_newCapacity 32 = .ok (.istore 5, 2) := dk_54 5 (dk_at dksJ7_newCapacity_1 8 rfl rfl)
theorem dJ7_newCapacity_34 : decode cJ7_newCapacity 34 = .ok (.iload 5, 2) := dk_21 5 (dk_at dksJ7_newCapacity_1 10 rfl rfl)
theorem dJ7_newCapacity_36 : decode cJ7_newCapacity 36 = .ok (.ldc 39, 2) := dk_18 39 (dk_at dksJ7_newCapacity_1 12 rfl rfl)
theorem dJ7_newCapacity_38 : decode cJ7_newCapacity 38 = .ok (.if_icmp .ne 13, 3) := dk_160 0 13 (dk_at dksJ7_newCapacity_1 14 rfl rfl)
theorem dJ7_newCapacity_41 : decode cJ7_newCapacity 41 = .ok (.new 120, 3) := dk_187 0 120 (dk_at dksJ7_newCapacity_1 17 rfl rfl)
theorem dJ7_newCapacity_44 : decode cJ7_newCapacity 44 = .ok (.dup, 1) := dk_89 (dk_at dksJ7_newCapacity_1 20 rfl rfl)
theorem dJ7_newCapacity_45 : decode cJ7_newCapacity 45 = .ok (.ldc 122, 2) := dk_18 122 (dk_at dksJ7_newCapacity_1 21 rfl rfl)
theorem dJ7_newCapacity_47 : decode cJ7_newCapacity 47 = .ok (.invokespecial 124, 3) := dk_183 0 124 (dk_at dksJ7_newCapacity_2 0 rfl rfl)
theorem dJ7_newCapacity_50 : decode cJ7_newCapacity 50 = .ok (.athrow, 1) := dk_191 (dk_at dksJ7_newCapacity_2 3 rfl rfl)
theorem dJ7_newCapacity_51 : decode cJ7_newCapacity 51 = .ok (.iload 5, 2) := dk_21 5 (dk_at dksJ7_newCapacity_2 4 rfl rfl)
theorem dJ7_newCapacity_53 : decode cJ7_newCapacity 53 = .ok (.aload_n 0, 1) := dk_42 (dk_at dksJ7_newCapacity_2 6 rfl rfl)
theorem dJ7_newCapacity_54 : decode cJ7_newCapacity 54 = .ok (.getfield 22, 3) := dk_180 0 22 (dk_at dksJ7_newCapacity_2 7 rfl rfl)
theorem dJ7_newCapacity_57 : decode cJ7_newCapacity 57 = .ok (.ishr, 1) := dk_122 (dk_at dksJ7_newCapacity_2 10 rfl rfl)
theorem dJ7_newCapacity_58 : decode cJ7_newCapacity 58 = .ok (.ireturn, 1) := dk_172 (dk_at dksJ7_newCapacity_2 11 rfl rfl)
def dkwJ7_isLatin1_0 : List UInt8 := [178, 0, 18, 153, 0, 14, 42, 180, 0, 22, 154, 0, 7, 4, 167, 0, 4, 3, 172]
abbrev dktJ7_isLatin1_0 : List UInt8 := dkwJ7_isLatin1_0 ++ []
theorem dksJ7_isLatin1_0 : cJ7_isLatin1.data.toList.drop 0 = dktJ7_isLatin1_0 := by decide +kernel
theorem dJ7_isLatin1_0 : decode cJ7_isLatin1 0 = .ok (.getstatic 18, 3) := dk_178 0 18 (dk_at dksJ7_isLatin1_0 0 rfl rfl)
theorem dJ7_isLatin1_3 : decode cJ7_isLatin1 3 = .ok (.ifCond .eq 14, 3) := dk_153 0 14 (dk_at dksJ7_isLatin1_0 3 rfl rfl)
theorem dJ7_isLatin1_6 : decode cJ7_isLatin1 6 = .ok (.aload_n 0, 1) := dk_42 (dk_at dksJ7_isLatin1_0 6 rfl rfl)
theorem dJ7_isLatin1_7 : decode cJ7_isLatin1 7 = .ok (.getfield 22, 3) := dk_180 0 22 (dk_at dksJ7_isLatin1_0 7 rfl rfl)
theorem dJ7_isLatin1_10 : decode cJ7_isLatin1 10 = .ok (.ifCond .ne 7, 3) := dk_154 0 7 (dk_at dksJ7_isLatin1_0 10 rfl rfl)
theorem dJ7_isLatin1_13 : decode cJ7_isLatin1 13 = .ok (.iconst 1, 1) := dk_4 (dk_at dksJ7_isLatin1_0 13 rfl rfl)
theorem dJ7_isLatin1_14 : decode cJ7_isLatin1 14 = .ok (.goto 4, 3) := dk_167 0 4 (dk_at dksJ7_isLatin1_0 14 rfl rfl)
theorem dJ7_isLatin1_17 : decode cJ7_isLatin1 17 = .ok (.iconst 0, 1) := dk_3 (dk_at dksJ7_isLatin1_0 17 rfl rfl)
theorem dJ7_isLatin1_18 : decode cJ7_isLatin1 18 = .ok (.ireturn, 1) := dk_172 (dk_at dksJ7_isLatin1_0 18 rfl rfl)
def dkwJ7_putStringAt_0 : List UInt8 := [42, 44, 182, 1, 141, 44, 42, 180, 0, 15, 27, 42, 180, 0, 22, 182, 1, 143, 177]
abbrev dktJ7_putStringAt_0 : List UInt8 := dkwJ7_putStringAt_0 ++ []
theorem dksJ7_putStringAt_0 : cJ7_putStringAt.data.toList.drop 0 = dktJ7_putStringAt_0 := by decide +kernel
theorem dJ7_putStringAt_0 : decode cJ7_putStringAt 0 = .ok (.aload_n 0, 1) := dk_42 (dk_at dksJ7_putStringAt_0 0 rfl rfl)
theorem dJ7_putStringAt_1 : decode cJ7_putStringAt 1 = .ok (.aload_n 2, 1) := dk_44 (dk_at dksJ7_putStringAt_0 1 rfl rfl)
theorem dJ7_putStringAt_2 : decode cJ7_putStringAt 2 = .ok (.invokevirtual 397, 3) := dk_182 1 141 (dk_at dksJ7_putStringAt_0 2 rfl rfl)
theorem dJ7_putStringAt_5 : decode cJ7_putStringAt 5 = .ok (.aload_n 2, 1) := dk_44 (dk_at dksJ7_putStringAt_0 5 rfl rfl)
theorem dJ7_putStringAt_6 : decode cJ7_putStringAt 6 = .ok (.aload_n 0, 1) := dk_42 (dk_at dksJ7_putStringAt_0 6 rfl rfl)
theorem dJ7_putStringAt_7 : decode cJ7_putStringAt 7 = .ok (.getfield 15, 3) := dk_180 0 15 (dk_at dksJ7_putStringAt_0 7 rfl rfl)
theorem dJ7_putStringAt_10 : decode cJ7_putStringAt 10 = .ok (.iload_n 1, 1) := dk_27 (dk_at dksJ7_putStringAt_0 10 rfl rfl)
theorem dJ7_putStringAt_11 : decode cJ7_putStringAt 11 = .ok (.aload_n 0, 1) := dk_42 (dk_at dksJ7_putStringAt_0 11 rfl rfl)
theorem dJ7_putStringAt_12 : decode cJ7_putStringAt 12 = .ok (.getfield 22, 3) := dk_180 0 22 (dk_at dksJ7_putStringAt_0 12 rfl rfl)
theorem dJ7_putStringAt_15 : decode cJ7_putStringAt 15 = .ok (.invokevirtual 399, 3) := dk_182 1 143 (dk_at dksJ7_putStringAt_0 15 rfl rfl)
theorem dJ7_putStringAt_18 : decode cJ7_putStringAt 18 = .ok (.return_, 1) := dk_177 (dk_at dksJ7_putStringAt_0 18 rfl rfl)
def dkwJ7_inflateIfNeededFor_0 : List UInt8 := [178, 0, 18, 153, 0, 18, 42, 180, 0, 22, 43, 182, 0, 40, 159, 0, 7, 42, 182, 0, 195, 177]
abbrev dktJ7_inflateIfNeededFor_0 : List UInt8 := dkwJ7_inflateIfNeededFor_0 ++ []
theorem dksJ7_inflateIfNeededFor_0 : cJ7_inflateIfNeededFor.data.toList.drop 0 = dktJ7_inflateIfNeededFor_0 := by decide +kernel
theorem dJ7_inflateIfNeededFor_0 : decode cJ7_inflateIfNeededFor 0 = .ok (.getstatic 18, 3) := dk_178 0 18 (dk_at dksJ7_inflateIfNeededFor_0 0 rfl rfl)
theorem dJ7_inflateIfNeededFor_3 : decode cJ7_inflateIfNeededFor 3 = .ok (.ifCond .eq 18, 3) := dk_153 0 18 (dk_at dksJ7_inflateIfNeededFor_0 3 rfl rfl)
theorem dJ7_inflateIfNeededFor_6 : decode cJ7_inflateIfNeededFor 6 = .ok (.aload_n 0, 1) := dk_42 (dk_at dksJ7_inflateIfNeededFor_0 6 rfl rfl)
theorem dJ7_inflateIfNeededFor_7 : decode cJ7_inflateIfNeededFor 7 = .ok (.getfield 22, 3) := dk_180 0 22 (dk_at dksJ7_inflateIfNeededFor_0 7 rfl rfl)
theorem dJ7_inflateIfNeededFor_10 : decode cJ7_inflateIfNeededFor 10 = .ok (.aload_n 1, 1) := dk_43 (dk_at dksJ7_inflateIfNeededFor_0 10 rfl rfl)
theorem dJ7_inflateIfNeededFor_11 : decode cJ7_inflateIfNeededFor 11 = .ok (.invokevirtual 40, 3) := dk_182 0 40 (dk_at dksJ7_inflateIfNeededFor_0 11 rfl rfl)
theorem dJ7_inflateIfNeededFor_14 : decode cJ7_inflateIfNeededFor 14 = .ok (.if_icmp .eq 7, 3) := dk_159 0 7 (dk_at dksJ7_inflateIfNeededFor_0 14 rfl rfl)
theorem dJ7_inflateIfNeededFor_17 : decode cJ7_inflateIfNeededFor 17 = .ok (.aload_n 0, 1) := dk_42 (dk_at dksJ7_inflateIfNeededFor_0 17 rfl rfl)
theorem dJ7_inflateIfNeededFor_18 : decode cJ7_inflateIfNeededFor 18 = .ok (.invokevirtual 195, 3) := dk_182 0 195 (dk_at dksJ7_inflateIfNeededFor_0 18 rfl rfl)
theorem dJ7_inflateIfNeededFor_21 : decode cJ7_inflateIfNeededFor 21 = .ok (.return_, 1) := dk_177 (dk_at dksJ7_inflateIfNeededFor_0 21 rfl rfl)
def dkwJ7_inflate_1 : List UInt8 := [42, 180, 0, 79, 184, 0, 125, 42, 43, 181, 0, 15, 42, 4, 181, 0, 22, 177]
abbrev dktJ7_inflate_1 : List UInt8 := dkwJ7_inflate_1 ++ []
def dkwJ7_inflate_0 : List UInt8 := [42, 182, 0, 83, 154, 0, 4, 177, 42, 180, 0, 15, 190, 184, 0, 26, 76, 42, 180, 0, 15, 3, 43, 3]
abbrev dktJ7_inflate_0 : List UInt8 := dkwJ7_inflate_0 ++ dktJ7_inflate_1
theorem dksJ7_inflate_0 : cJ7_inflate.data.toList.drop 0 = dktJ7_inflate_0 := by decide +kernel
theorem dksJ7_inflate_1 : cJ7_inflate.data.toList.drop 24 = dktJ7_inflate_1 := dk_seg dksJ7_inflate_0 24 rfl rfl
theorem dJ7_inflate_0 : decode cJ7_inflate 0 = .ok (.aload_n 0, 1) := dk_42 (dk_at dksJ7_inflate_0 0 rfl rfl)
theorem dJ7_inflate_1 : decode cJ7_inflate 1 = .ok (.invokevirtual 83, 3) := dk_182 0 83 (dk_at dksJ7_inflate_0 1 rfl rfl)
theorem dJ7_inflate_4 : decode cJ7_inflate 4 = .ok (.ifCond .ne 4, 3) := dk_154 0 4 (dk_at dksJ7_inflate_0 4 rfl rfl)
theorem dJ7_inflate_7 : decode cJ7_inflate 7 = .ok (.return_, 1) := dk_177 (dk_at dksJ7_inflate_0 7 rfl rfl)
theorem dJ7_inflate_8 : decode cJ7_inflate 8 = .ok (.aload_n 0, 1) := dk_42 (dk_at dksJ7_inflate_0 8 rfl rfl)
theorem dJ7_inflate_9 : decode cJ7_inflate 9 = .ok (.getfield 15, 3) := dk_180 0 15 (dk_at dksJ7_inflate_0 9 rfl rfl)
theorem dJ7_inflate_12 : decode cJ7_inflate 12 = .ok (.arraylength, 1) := dk_190 (dk_at dksJ7_inflate_0 12 rfl rfl)
theorem dJ7_inflate_13 : decode cJ7_inflate 13 = .ok (.invokestatic 26, 3) := dk_184 0 26 (dk_at dksJ7_inflate_0 13 rfl rfl)
theorem dJ7_inflate_16 : decode cJ7_inflate 16 = .ok (.astore_n 1, 1) := dk_76 (dk_at dksJ7_inflate_0 16 rfl rfl)
theorem dJ7_inflate_17 : decode cJ7_inflate 17 = .ok (.aload_n 0, 1) := dk_42 (dk_at dksJ7_inflate_0 17 rfl rfl)
theorem dJ7_inflate_18 : decode cJ7_inflate 18 = .ok (.getfield 15, 3) := dk_180 0 15 (dk_at dksJ7_inflate_0 18 rfl rfl)
theorem dJ7_inflate_21 : decode cJ7_inflate 21 = .ok (.iconst 0, 1) := dk_3 (dk_at dksJ7_inflate_0 21 rfl rfl)
theorem dJ7_inflate_22 : decode cJ7_inflate 22 = .ok (.aload_n 1, 1) := dk_43 (dk_at dksJ7_inflate_0 22 rfl rfl)
theorem dJ7_inflate_23 : decode cJ7_inflate 23 = .ok (.iconst 0, 1) := dk_3 (dk_at dksJ7_inflate_0 23 rfl rfl)
theorem dJ7_inflate_24 : decode cJ7_inflate 24 = .ok (.aload_n 0, 1) := dk_42 (dk_at dksJ7_inflate_1 0 rfl rfl)
theorem dJ7_inflate_25 : decode cJ7_inflate 25 = .ok (.getfield 79, 3) := dk_180 0 79 (dk_at dksJ7_inflate_1 1 rfl rfl)
theorem dJ7_inflate_28 : decode cJ7_inflate 28 = .ok (.invokestatic 125, 3) := dk_184 0 125 (dk_at dksJ7_inflate_1 4 rfl rfl)
theorem dJ7_inflate_31 : decode cJ7_inflate 31 = .ok (.aload_n 0, 1) := dk_42 (dk_at dksJ7_inflate_1 7 rfl rfl)
theorem dJ7_inflate_32 : decode cJ7_inflate 32 = .ok (.aload_n 1, 1) := dk_43 (dk_at dksJ7_inflate_1 8 rfl rfl)
theorem dJ7_inflate_33 : decode cJ7_inflate 33 = .ok (.putfield 15, 3) := dk_181 0 15 (dk_at dksJ7_inflate_1 9 rfl rfl)
theorem dJ7_inflate_36 : decode cJ7_inflate 36 = .ok (.aload_n 0, 1) := dk_42 (dk_at dksJ7_inflate_1 12 rfl rfl)
theorem dJ7_inflate_37 : decode cJ7_inflate 37 = .ok (.iconst 1, 1) := dk_4 (dk_at dksJ7_inflate_1 13 rfl rfl)
theorem dJ7_inflate_38 : decode cJ7_inflate 38 = .ok (.putfield 22, 3) := dk_181 0 22 (dk_at dksJ7_inflate_1 14 rfl rfl)
theorem dJ7_inflate_41 : decode cJ7_inflate 41 = .ok (.return_, 1) := dk_177 (dk_at dksJ7_inflate_1 17 rfl rfl)
def dkwJ7_append_2_2 : List UInt8 := [42, 29, 181, 0, 79, 42, 176]
abbrev dktJ7_append_2_2 : List UInt8 := dkwJ7_append_2_2 ++ []
def dkwJ7_append_2_1 : List UInt8 := [27, 29, 42, 180, 0, 15, 184, 0, 248, 87, 167, 0, 14, 27, 28, 29, 42, 180, 0, 15, 184, 0, 251, 87]
abbrev dktJ7_append_2_1 : List UInt8 := dkwJ7_append_2_1 ++ dktJ7_append_2_2
def dkwJ7_append_2_0 : List UInt8 := [42, 180, 0, 79, 61, 28, 27, 184, 0, 245, 96, 62, 42, 29, 182, 0, 100, 42, 182, 0, 83, 153, 0, 16]
abbrev dktJ7_append_2_0 : List UInt8 := dkwJ7_append_2_0 ++ dktJ7_append_2_1
theorem dksJ7_append_2_0 : cJ7_append_2.data.toList.drop 0 = dktJ7_append_2_0 := by decide +kernel
theorem dksJ7_append_2_1 : cJ7_append_2.data.toList.drop 24 = dktJ7_append_2_1 := dk_seg dksJ7_append_2_0 24 rfl rfl
theorem dksJ7_append_2_2 : cJ7_append_2.data.toList.drop 48 = dktJ7_append_2_2 := dk_seg dksJ7_append_2_1 24 rfl rfl
theorem dJ7_append_2_0 : decode cJ7_append_2 0 = .ok (.aload_n 0, 1) := dk_42 (dk_at dksJ7_append_2_0 0 rfl rfl)
theorem dJ7_append_2_1 : decode cJ7_append_2 1 = .ok (.getfield 79, 3) := dk_180 0 79 (dk_at dksJ7_append_2_0 1 rfl rfl)
theorem dJ7_append_2_4 : decode cJ7_append_2 4 = .ok (.istore_n 2, 1) := dk_61 (dk_at dksJ7_append_2_0 4 rfl rfl)
theorem dJ7_append_2_5 : decode cJ7_append_2 5 = .ok (.iload_n 2, 1) := dk_28 (dk_at dksJ7_append_2_0 5 rfl rfl)
theorem dJ7_append_2_6 : decode cJ7_append_2 6 = .ok (.iload_n 1, 1) := dk_27 (dk_at dksJ7_append_2_0 6 rfl rfl)
theorem dJ7_append_2_7 : decode cJ7_append_2 7 = .ok (.invokestatic 245, 3) := dk_184 0 245 (dk_at dksJ7_append_2_0 7 rfl rfl)
theorem dJ7_append_2_10 : decode cJ7_append_2 10 = .ok (.iadd, 1) := dk_96 (dk_at dksJ7_append_2_0 10 rfl rfl)
theorem dJ7_append_2_11 : decode cJ7_append_2 11 = .ok (.istore_n 3, 1) := dk_62 (dk_at dksJ7_append_2_0 11 rfl rfl)
theorem dJ7_append_2_12 : decode cJ7_append_2 12 = .ok (.aload_n 0, 1) := dk_42 (dk_at dksJ7_append_2_0 12 rfl rfl)
theorem dJ7_append_2_13 : decode cJ7_append_2 13 = .ok (.iload_n 3, 1) := dk_29 (dk_at dksJ7_append_2_0 13 rfl rfl)
theorem dJ7_append_2_14 : decode cJ7_append_2 14 = .ok (.invokevirtual 100, 3) := dk_182 0 100 (dk_at dksJ7_append_2_0 14 rfl rfl)
theorem dJ7_append_2_17 : decode cJ7_append_2 17 = .ok (.aload_n 0, 1) := dk_42 (dk_at dksJ7_append_2_0 17 rfl rfl)
theorem dJ7_append_2_18 : decode cJ7_append_2 18 = .ok (.invokevirtual 83, 3) := dk_182 0 83 (dk_at dksJ7_append_2_0 18 rfl rfl)
theorem dJ7_append_2_21 : decode cJ7_append_2 21 = .ok (.ifCond .eq 16, 3) := dk_153 0 16 (dk_at dksJ7_append_2_0 21 rfl rfl)
theorem dJ7_append_2_24 : decode cJ7_append_2 24 = .ok (.iload_n 1, 1) := dk_27 (dk_at dksJ7_append_2_1 0 rfl rfl)
theorem dJ7_append_2_25 : decode cJ7_append_2 25 = .ok (.iload_n 3, 1) := dk_29 (dk_at dksJ7_append_2_1 1 rfl rfl)
theorem dJ7_append_2_26 : decode cJ7_append_2 26 = .ok (.aload_n 0, 1) := dk_42 (dk_at dksJ7_append_2_1 2 rfl rfl)
theorem dJ7_append_2_27 : decode cJ7_append_2 27 = .ok (.getfield 15, 3) := dk_180 0 15 (dk_at dksJ7_append_2_1 3 rfl rfl)
theorem dJ7_append_2_30 : decode cJ7_append_2 30 = .ok (.invokestatic 248, 3) := dk_184 0 248 (dk_at dksJ7_append_2_1 6 rfl rfl)
theorem dJ7_append_2_33 : decode cJ7_append_2 33 = .ok (.pop, 1) := dk_87 (dk_at dksJ7_append_2_1 9 rfl rfl)
theorem dJ7_append_2_34 : decode cJ7_append_2 34 = .ok (.goto 14, 3) := dk_167 0 14 (dk_at dksJ7_append_2_1 10 rfl rfl)
theorem dJ7_append_2_37 : decode cJ7_append_2 37 = .ok (.iload_n 1, 1) := dk_27 (dk_at dksJ7_append_2_1 13 rfl rfl)
theorem dJ7_append_2_38 : decode cJ7_append_2 38 = .ok (.iload_n 2, 1) := dk_28 (dk_at dksJ7_append_2_1 14 rfl rfl)
theorem dJ7_append_2_39 : decode cJ7_append_2 39 = .ok (.iload_n 3, 1) := dk_29 (dk_at dksJ7_append_2_1 15 rfl rfl)
theorem dJ7_append_2_40 : decode cJ7_append_2 40 = .ok (.aload_n 0, 1) := dk_42 (dk_at dksJ7_append_2_1 16 rfl rfl)
theorem dJ7_append_2_41 : decode cJ7_append_2 41 = .ok (.getfield 15, 3) := dk_180 0 15 (dk_at dksJ7_append_2_1 17 rfl rfl)
theorem dJ7_append_2_44 : decode cJ7_append_2 44 = .ok (.invokestatic 251, 3) := dk_184 0 251 (dk_at dksJ7_append_2_1 20 rfl rfl)
theorem dJ7_append_2_47 : decode cJ7_append_2 47 = .ok (.pop, 1) := dk_87 (dk_at dksJ7_append_2_1 23 rfl rfl)
theorem dJ7_append_2_48 : decode cJ7_append_2 48 = .ok (.aload_n 0, 1) := dk_42 (dk_at dksJ7_append_2_2 0 rfl rfl)
theorem dJ7_append_2_49 : decode cJ7_append_2 49 = .ok (.iload_n 3, 1) := dk_29 (dk_at dksJ7_append_2_2 1 rfl rfl)
theorem dJ7_append_2_50 : decode cJ7_append_2 50 = .ok (.putfield 79, 3) := dk_181 0 79 (dk_at dksJ7_append_2_2 2 rfl rfl)
theorem dJ7_append_2_53 : decode cJ7_append_2 53 = .ok (.aload_n 0, 1) := dk_42 (dk_at dksJ7_append_2_2 5 rfl rfl)
theorem dJ7_append_2_54 : decode cJ7_append_2 54 = .ok (.areturn, 1) := dk_176 (dk_at dksJ7_append_2_2 6 rfl rfl)
theorem dJ7_getValue_0 : decode cJ7_getValue 0 = .ok (.aload_n 0, 1) := by decide +kernel
theorem dJ7_getValue_1 : decode cJ7_getValue 1 = .ok (.getfield 15, 3) := by decide +kernel
theorem dJ7_getValue_4 : decode cJ7_getValue 4 = .ok (.areturn, 1) := by decide +kernel
theorem dJ7_length_0 : decode cJ7_length 0 = .ok (.aload_n 0, 1) := by decide +kernel
theorem dJ7_length_1 : decode cJ7_length 1 = .ok (.getfield 79, 3) := by decide +kernel
theorem dJ7_length_4 : decode cJ7_length 4 = .ok (.ireturn, 1) := by decide +kernel
def dkwJ7_append_3_3 : List UInt8 := [181, 0, 79, 27, 184, 0, 197, 42, 176]
abbrev dktJ7_append_3_3 : List UInt8 := dkwJ7_append_3_3 ++ []
def dkwJ7_append_3_2 : List UInt8 := [182, 0, 83, 153, 0, 7, 42, 182, 0, 195, 42, 180, 0, 15, 42, 89, 180, 0, 79, 90, 4, 96]
abbrev dktJ7_append_3_2 : List UInt8 := dkwJ7_append_3_2 ++ dktJ7_append_3_3
def dkwJ7_append_3_1 : List UInt8 := [42, 180, 0, 15, 42, 89, 180, 0, 79, 90, 4, 96, 181, 0, 79, 27, 145, 84, 167, 0, 33, 42]
abbrev dktJ7_append_3_1 : List UInt8 := dkwJ7_append_3_1 ++ dktJ7_append_3_2
def dkwJ7_append_3_0 : List UInt8 := [42, 42, 180, 0, 79, 4, 96, 182, 0, 100, 42, 182, 0, 83, 153, 0, 31, 27, 184, 0, 191, 153, 0, 24]
abbrev dktJ7_append_3_0 : List UInt8 := dkwJ7_append_3_0 ++ dktJ7_append_3_1
theorem dksJ7_append_3_0 : cJ7_append_3.data.toList.drop 0 = dktJ7_append_3_0 := by decide +kernel
theorem dksJ7_append_3_1 : cJ7_append_3.data.toList.drop 24 = dktJ7_append_3_1 := dk_seg dksJ7_append_3_0 24 rfl rfl
theorem dksJ7_append_3_2 : cJ7_append_3.data.toList.drop 46 = dktJ7_append_3_2 := dk_seg dksJ7_append_3_1 22 rfl rfl
theorem dksJ7_append_3_3 : cJ7_append_3.data.toList.drop 68 = dktJ7_append_3_3 := dk_seg dksJ7_append_3_2 22 rfl rfl
theorem dJ7_append_3_0 : decode cJ7_append_3 0 = .ok (.aload_n 0, 1) := dk_42 (dk_at dksJ7_append_3_0 0 rfl rfl)
theorem dJ7_append_3_1 : decode cJ7_append_3 1 = .ok (.aload_n 0, 1) := dk_42 (dk_at dksJ7_append_3_0 1 rfl rfl)
theorem dJ7_append_3_2 : decode cJ7_append_3 2 = .ok (.getfield 79, 3) := dk_180 0 79 (dk_at dksJ7_append_3_0 2 rfl rfl)
theorem dJ7_append_3_5 : decode cJ7_append_3 5 = .ok (.iconst 1, 1) := dk_4 (dk_at dksJ7_append_3_0 5 rfl rfl)
theorem dJ7_append_3_6 : decode cJ7_append_3 6 = .ok (.iadd, 1) := dk_96 (dk_at dksJ7_append_3_0 6 rfl rfl)
theorem dJ7_append_3_7 : decode cJ7_append_3 7 = .ok (.invokevirtual 100, 3) := dk_182 0 100 (dk_at dksJ7_append_3_0 7 rfl rfl)
theorem dJ7_append_3_10 : decode cJ7_append_3 10 = .ok (.aload_n 0, 1) := dk_42 (dk_at dksJ7_append_3_0 10 rfl rfl)
theorem dJ7_append_3_11 : decode cJ7_append_3 11 = .ok (.invokevirtual 83, 3) := dk_182 0 83 (dk_at dksJ7_append_3_0 11 rfl rfl)
theorem dJ7_append_3_14 : decode cJ7_append_3 14 = .ok (.ifCond .eq 31, 3) := dk_153 0 31 (dk_at dksJ7_append_3_0 14 rfl rfl)
theorem dJ7_append_3_17 : decode cJ7_append_3 17 = .ok (.iload_n 1, 1) := dk_27 (dk_at dksJ7_append_3_0 17 rfl rfl)
theorem dJ7_append_3_18 : decode cJ7_append_3 18 = .ok (.invokestatic 191, 3) := dk_184 0 191 (dk_at dksJ7_append_3_0 18 rfl rfl)
theorem dJ7_append_3_21 : decode cJ7_append_3 21 = .ok (.ifCond .eq 24, 3) := dk_153 0 24 (dk_at dksJ7_append_3_0 21 rfl rfl)
theorem dJ7_append_3_24 : decode cJ7_append_3 24 = .ok (.aload_n 0, 1) := dk_42 (dk_at dksJ7_append_3_1 0 rfl rfl)
theorem dJ7_append_3_25 : decode cJ7_append_3 25 = .ok (.getfield 15, 3) := dk_180 0 15 (dk_at dksJ7_append_3_1 1 rfl rfl)
theorem dJ7_append_3_28 : decode cJ7_append_3 28 = .ok (.aload_n 0, 1) := dk_42 (dk_at dksJ7_append_3_1 4 rfl rfl)
theorem dJ7_append_3_29 : decode cJ7_append_3 29 = .ok (.dup, 1) := dk_89 (dk_at dksJ7_append_3_1 5 rfl rfl)
theorem dJ7_append_3_30 : decode cJ7_append_3 30 = .ok (.getfield 79, 3) := dk_180 0 79 (dk_at dksJ7_append_3_1 6 rfl rfl)
theorem dJ7_append_3_33 : decode cJ7_append_3 33 = .ok (.dup_x1, 1) := dk_90 (dk_at dksJ7_append_3_1 9 rfl rfl)
theorem dJ7_append_3_34 : decode cJ7_append_3 34 = .ok (.iconst 1, 1) := dk_4 (dk_at dksJ7_append_3_1 10 rfl rfl)
theorem dJ7_append_3_35 : decode cJ7_append_3 35 = .ok (.iadd, 1) := dk_96 (dk_at dksJ7_append_3_1 11 rfl rfl)
theorem dJ7_append_3_36 : decode cJ7_append_3 36 = .ok (.putfield 79, 3) := dk_181 0 79 (dk_at dksJ7_append_3_1 12 rfl rfl)
theorem dJ7_append_3_39 : decode cJ7_append_3 39 = .ok (.iload_n 1, 1) := dk_27 (dk_at dksJ7_append_3_1 15 rfl rfl)
theorem dJ7_append_3_40 : decode cJ7_append_3 40 = .ok (.i2b, 1) := dk_145 (dk_at dksJ7_append_3_1 16 rfl rfl)
theorem dJ7_append_3_41 : decode cJ7_append_3 41 = .ok (.bastore, 1) := dk_84 (dk_at dksJ7_append_3_1 17 rfl rfl)
theorem dJ7_append_3_42 : decode cJ7_append_3 42 = .ok (.goto 33, 3) := dk_167 0 33 (dk_at dksJ7_append_3_1 18 rfl rfl)
theorem dJ7_append_3_45 : decode cJ7_append_3 45 = .ok (.aload_n 0, 1) := dk_42 (dk_at dksJ7_append_3_1 21 rfl rfl)
theorem dJ7_append_3_46 : decode cJ7_append_3 46 = .ok (.invokevirtual 83, 3) := dk_182 0 83 (dk_at dksJ7_append_3_2 0 rfl rfl)
theorem dJ7_append_3_49 : decode cJ7_append_3 49 = .ok (.ifCond .eq 7, 3) := dk_153 0 7 (dk_at dksJ7_append_3_2 3 rfl rfl)
theorem dJ7_append_3_52 : decode cJ7_append_3 52 = .ok (.aload_n 0, 1) := dk_42 (dk_at dksJ7_append_3_2 6 rfl rfl)
theorem dJ7_append_3_53 : decode cJ7_append_3 53 = .ok (.invokevirtual 195, 3) := dk_182 0 195 (dk_at dksJ7_append_3_2 7 rfl rfl)
theorem dJ7_append_3_56 : decode cJ7_append_3 56 = .ok (.aload_n 0, 1) := dk_42 (dk_at dksJ7_append_3_2 10 rfl rfl)
theorem dJ7_append_3_57 : decode cJ7_append_3 57 = .ok (.getfield 15, 3) := dk_180 0 15 (dk_at dksJ7_append_3_2 11 rfl rfl)
theorem dJ7_append_3_60 : decode cJ7_append_3 60 = .ok (.aload_n 0, 1) := dk_42 (dk_at dksJ7_append_3_2 14 rfl rfl)
theorem dJ7_append_3_61 : decode cJ7_append_3 61 = .ok (.dup, 1) := dk_89 (dk_at dksJ7_append_3_2 15 rfl rfl)
theorem dJ7_append_3_62 : decode cJ7_append_3 62 = .ok (.getfield 79, 3) := dk_180 0 79 (dk_at dksJ7_append_3_2 16 rfl rfl)
theorem dJ7_append_3_65 : decode cJ7_append_3 65 = .ok (.dup_x1, 1) := dk_90 (dk_at dksJ7_append_3_2 19 rfl rfl)
theorem dJ7_append_3_66 : decode cJ7_append_3 66 = .ok (.iconst 1, 1) := dk_4 (dk_at dksJ7_append_3_2 20 rfl rfl)
theorem dJ7_append_3_67 : decode cJ7_append_3 67 = .ok (.iadd, 1) := dk_96 (dk_at dksJ7_append_3_2 21 rfl rfl)
theorem dJ7_append_3_68 : decode cJ7_append_3 68 = .ok (.putfield 79, 3) := dk_181 0 79 (dk_at dksJ7_append_3_3 0 rfl rfl)
theorem dJ7_append_3_71 : decode cJ7_append_3 71 = .ok (.iload_n 1, 1) := dk_27 (dk_at dksJ7_append_3_3 3 rfl rfl)
theorem dJ7_append_3_72 : decode cJ7_append_3 72 = .ok (.invokestatic 197, 3) := dk_184 0 197 (dk_at dksJ7_append_3_3 4 rfl rfl)
theorem dJ7_append_3_75 : decode cJ7_append_3 75 = .ok (.aload_n 0, 1) := dk_42 (dk_at dksJ7_append_3_3 7 rfl rfl)
theorem dJ7_append_3_76 : decode cJ7_append_3 76 = .ok (.areturn, 1) := dk_176 (dk_at dksJ7_append_3_3 8 rfl rfl)
def dkwJ8_init_0 : List UInt8 := [42, 16, 16, 183, 0, 1, 177]
abbrev dktJ8_init_0 : List UInt8 := dkwJ8_init_0 ++ []
theorem dksJ8_init_0 : cJ8_init.data.toList.drop 0 = dktJ8_init_0 := by decide +kernel
theorem dJ8_init_0 : decode cJ8_init 0 = .ok (.aload_n 0, 1) := dk_42 (dk_at dksJ8_init_0 0 rfl rfl)
theorem dJ8_init_1 : decode cJ8_init 1 = .ok (.bipush 16, 2) := dk_16 16 (dk_at dksJ8_init_0 1 rfl rfl)
theorem dJ8_init_3 : decode cJ8_init 3 = .ok (.invokespecial 1, 3) := dk_183 0 1 (dk_at dksJ8_init_0 3 rfl rfl)
theorem dJ8_init_6 : decode cJ8_init 6 = .ok (.return_, 1) := dk_177 (dk_at dksJ8_init_0 6 rfl rfl)
def dkwJ8_append_0 : List UInt8 := [42, 43, 183, 0, 29, 87, 42, 176]
abbrev dktJ8_append_0 : List UInt8 := dkwJ8_append_0 ++ []
theorem dksJ8_append_0 : cJ8_append.data.toList.drop 0 = dktJ8_append_0 := by decide +kernel
theorem dJ8_append_0 : decode cJ8_append 0 = .ok (.aload_n 0, 1) := dk_42 (dk_at dksJ8_append_0 0 rfl rfl)
theorem dJ8_append_1 : decode cJ8_append 1 = .ok (.aload_n 1, 1) := dk_43 (dk_at dksJ8_append_0 1 rfl rfl)
theorem dJ8_append_2 : decode cJ8_append 2 = .ok (.invokespecial 29, 3) := dk_183 0 29 (dk_at dksJ8_append_0 2 rfl rfl)
theorem dJ8_append_5 : decode cJ8_append 5 = .ok (.pop, 1) := dk_87 (dk_at dksJ8_append_0 5 rfl rfl)
theorem dJ8_append_6 : decode cJ8_append 6 = .ok (.aload_n 0, 1) := dk_42 (dk_at dksJ8_append_0 6 rfl rfl)
theorem dJ8_append_7 : decode cJ8_append 7 = .ok (.areturn, 1) := dk_176 (dk_at dksJ8_append_0 7 rfl rfl)
def dkwJ8_append_2_0 : List UInt8 := [42, 27, 183, 0, 53, 87, 42, 176]
abbrev dktJ8_append_2_0 : List UInt8 := dkwJ8_append_2_0 ++ []
theorem dksJ8_append_2_0 : cJ8_append_2.data.toList.drop 0 = dktJ8_append_2_0 := by decide +kernel
theorem dJ8_append_2_0 : decode cJ8_append_2 0 = .ok (.aload_n 0, 1) := dk_42 (dk_at dksJ8_append_2_0 0 rfl rfl)
theorem dJ8_append_2_1 : decode cJ8_append_2 1 = .ok (.iload_n 1, 1) := dk_27 (dk_at dksJ8_append_2_0 1 rfl rfl)
theorem dJ8_append_2_2 : decode cJ8_append_2 2 = .ok (.invokespecial 53, 3) := dk_183 0 53 (dk_at dksJ8_append_2_0 2 rfl rfl)
theorem dJ8_append_2_5 : decode cJ8_append_2 5 = .ok (.pop, 1) := dk_87 (dk_at dksJ8_append_2_0 5 rfl rfl)
theorem dJ8_append_2_6 : decode cJ8_append_2 6 = .ok (.aload_n 0, 1) := dk_42 (dk_at dksJ8_append_2_0 6 rfl rfl)
theorem dJ8_append_2_7 : decode cJ8_append_2 7 = .ok (.areturn, 1) := dk_176 (dk_at dksJ8_append_2_0 7 rfl rfl)
def dkwJ8_toString_0 : List UInt8 := [187, 0, 18, 89, 42, 183, 0, 137, 176]
abbrev dktJ8_toString_0 : List UInt8 := dkwJ8_toString_0 ++ []
theorem dksJ8_toString_0 : cJ8_toString.data.toList.drop 0 = dktJ8_toString_0 := by decide +kernel
theorem dJ8_toString_0 : decode cJ8_toString 0 = .ok (.new 18, 3) := dk_187 0 18 (dk_at dksJ8_toString_0 0 rfl rfl)
theorem dJ8_toString_3 : decode cJ8_toString 3 = .ok (.dup, 1) := dk_89 (dk_at dksJ8_toString_0 3 rfl rfl)
theorem dJ8_toString_4 : decode cJ8_toString 4 = .ok (.aload_n 0, 1) := dk_42 (dk_at dksJ8_toString_0 4 rfl rfl)
theorem dJ8_toString_5 : decode cJ8_toString 5 = .ok (.invokespecial 137, 3) := dk_183 0 137 (dk_at dksJ8_toString_0 5 rfl rfl)
theorem dJ8_toString_8 : decode cJ8_toString 8 = .ok (.areturn, 1) := dk_176 (dk_at dksJ8_toString_0 8 rfl rfl)
theorem dJ8_length_0 : decode cJ8_length 0 = .ok (.aload_n 0, 1) := by decide +kernel
theorem dJ8_length_1 : decode cJ8_length 1 = .ok (.invokespecial 343, 3) := by decide +kernel
theorem dJ8_length_4 : decode cJ8_length 4 = .ok (.ireturn, 1) := by decide +kernel
def dkwJ8_init_2_0 : List UInt8 := [42, 27, 183, 0, 1, 177]
abbrev dktJ8_init_2_0 : List UInt8 := dkwJ8_init_2_0 ++ []
theorem dksJ8_init_2_0 : cJ8_init_2.data.toList.drop 0 = dktJ8_init_2_0 := by decide +kernel
theorem dJ8_init_2_0 : decode cJ8_init_2 0 = .ok (.aload_n 0, 1) := dk_42 (dk_at dksJ8_init_2_0 0 rfl rfl)
theorem dJ8_init_2_1 : decode cJ8_init_2 1 = .ok (.iload_n 1, 1) := dk_27 (dk_at dksJ8_init_2_0 1 rfl rfl)
theorem dJ8_init_2_2 : decode cJ8_init_2 2 = .ok (.invokespecial 1, 3) := dk_183 0 1 (dk_at dksJ8_init_2_0 2 rfl rfl)
theorem dJ8_init_2_5 : decode cJ8_init_2 5 = .ok (.return_, 1) := dk_177 (dk_at dksJ8_init_2_0 5 rfl rfl)
def dkwJ8_append_3_0 : List UInt8 := [42, 27, 183, 0, 50, 87, 42, 176]
abbrev dktJ8_append_3_0 : List UInt8 := dkwJ8_append_3_0 ++ []
theorem dksJ8_append_3_0 : cJ8_append_3.data.toList.drop 0 = dktJ8_append_3_0 := by decide +kernel
theorem dJ8_append_3_0 : decode cJ8_append_3 0 = .ok (.aload_n 0, 1) := dk_42 (dk_at dksJ8_append_3_0 0 rfl rfl)
theorem dJ8_append_3_1 : decode cJ8_append_3 1 = .ok (.iload_n 1, 1) := dk_27 (dk_at dksJ8_append_3_0 1 rfl rfl)
theorem dJ8_append_3_2 : decode cJ8_append_3 2 = .ok (.invokespecial 50, 3) := dk_183 0 50 (dk_at dksJ8_append_3_0 2 rfl rfl)
theorem dJ8_append_3_5 : decode cJ8_append_3 5 = .ok (.pop, 1) := dk_87 (dk_at dksJ8_append_3_0 5 rfl rfl)
theorem dJ8_append_3_6 : decode cJ8_append_3 6 = .ok (.aload_n 0, 1) := dk_42 (dk_at dksJ8_append_3_0 6 rfl rfl)
theorem dJ8_append_3_7 : decode cJ8_append_3 7 = .ok (.areturn, 1) := dk_176 (dk_at dksJ8_append_3_0 7 rfl rfl)
def dkwJ12_max_0 : List UInt8 := [26, 27, 161, 0, 7, 26, 167, 0, 4, 27, 172]
abbrev dktJ12_max_0 : List UInt8 := dkwJ12_max_0 ++ []
theorem dksJ12_max_0 : cJ12_max.data.toList.drop 0 = dktJ12_max_0 := by decide +kernel
theorem dJ12_max_0 : decode cJ12_max 0 = .ok (.iload_n 0, 1) := dk_26 (dk_at dksJ12_max_0 0 rfl rfl)
theorem dJ12_max_1 : decode cJ12_max 1 = .ok (.iload_n 1, 1) := dk_27 (dk_at dksJ12_max_0 1 rfl rfl)
theorem dJ12_max_2 : decode cJ12_max 2 = .ok (.if_icmp .lt 7, 3) := dk_161 0 7 (dk_at dksJ12_max_0 2 rfl rfl)
theorem dJ12_max_5 : decode cJ12_max 5 = .ok (.iload_n 0, 1) := dk_26 (dk_at dksJ12_max_0 5 rfl rfl)
theorem dJ12_max_6 : decode cJ12_max 6 = .ok (.goto 4, 3) := dk_167 0 4 (dk_at dksJ12_max_0 6 rfl rfl)
theorem dJ12_max_9 : decode cJ12_max 9 = .ok (.iload_n 1, 1) := dk_27 (dk_at dksJ12_max_0 9 rfl rfl)
theorem dJ12_max_10 : decode cJ12_max 10 = .ok (.ireturn, 1) := dk_172 (dk_at dksJ12_max_0 10 rfl rfl)
def dkwJ12_min_0 : List UInt8 := [26, 27, 163, 0, 7, 26, 167, 0, 4, 27, 172]
abbrev dktJ12_min_0 : List UInt8 := dkwJ12_min_0 ++ []
theorem dksJ12_min_0 : cJ12_min.data.toList.drop 0 = dktJ12_min_0 := by decide +kernel
theorem dJ12_min_0 : decode cJ12_min 0 = .ok (.iload_n 0, 1) := dk_26 (dk_at dksJ12_min_0 0 rfl rfl)
theorem dJ12_min_1 : decode cJ12_min 1 = .ok (.iload_n 1, 1) := dk_27 (dk_at dksJ12_min_0 1 rfl rfl)
theorem dJ12_min_2 : decode cJ12_min 2 = .ok (.if_icmp .gt 7, 3) := dk_163 0 7 (dk_at dksJ12_min_0 2 rfl rfl)
theorem dJ12_min_5 : decode cJ12_min 5 = .ok (.iload_n 0, 1) := dk_26 (dk_at dksJ12_min_0 5 rfl rfl)
theorem dJ12_min_6 : decode cJ12_min 6 = .ok (.goto 4, 3) := dk_167 0 4 (dk_at dksJ12_min_0 6 rfl rfl)
theorem dJ12_min_9 : decode cJ12_min 9 = .ok (.iload_n 1, 1) := dk_27 (dk_at dksJ12_min_0 9 rfl rfl)
theorem dJ12_min_10 : decode cJ12_min 10 = .ok (.ireturn, 1) := dk_172 (dk_at dksJ12_min_0 10 rfl rfl)
def dkwJ13_copyOf_1 : List UInt8 := [27, 184, 1, 48, 184, 0, 150, 44, 176]
abbrev dktJ13_copyOf_1 : List UInt8 := dkwJ13_copyOf_1 ++ []
def dkwJ13_copyOf_0 : List UInt8 := [27, 42, 190, 160, 0, 11, 42, 182, 1, 54, 192, 1, 55, 176, 27, 188, 8, 77, 42, 3, 44, 3, 42, 190]
abbrev dktJ13_copyOf_0 : List UInt8 := dkwJ13_copyOf_0 ++ dktJ13_copyOf_1
theorem dksJ13_copyOf_0 : cJ13_copyOf.data.toList.drop 0 = dktJ13_copyOf_0 := by decide +kernel
theorem dksJ13_copyOf_1 : cJ13_copyOf.data.toList.drop 24 = dktJ13_copyOf_1 := dk_seg dksJ13_copyOf_0 24 rfl rfl
theorem dJ13_copyOf_0 : decode cJ13_copyOf 0 = .ok (.iload_n 1, 1) := dk_27 (dk_at dksJ13_copyOf_0 0 rfl rfl)
theorem dJ13_copyOf_1 : decode cJ13_copyOf 1 = .ok (.aload_n 0, 1) := dk_42 (dk_at dksJ13_copyOf_0 1 rfl rfl)
theorem dJ13_copyOf_2 : decode cJ13_copyOf 2 = .ok (.arraylength, 1) := dk_190 (dk_at dksJ13_copyOf_0 2 rfl rfl)
theorem dJ13_copyOf_3 : decode cJ13_copyOf 3 = .ok (.if_icmp .ne 11, 3) := dk_160 0 11 (dk_at dksJ13_copyOf_0 3 rfl rfl)
theorem dJ13_copyOf_6 : decode cJ13_copyOf 6 = .ok (.aload_n 0, 1) := dk_42 (dk_at dksJ13_copyOf_0 6 rfl rfl)
theorem dJ13_copyOf_7 : decode cJ13_copyOf 7 = .ok (.invokevirtual 310, 3) := dk_182 1 54 (dk_at dksJ13_copyOf_0 7 rfl rfl)
theorem dJ13_copyOf_10 : decode cJ13_copyOf 10 = .ok (.checkcast 311, 3) := dk_192 1 55 (dk_at dksJ13_copyOf_0 10 rfl rfl)
theorem dJ13_copyOf_13 : decode cJ13_copyOf 13 = .ok (.areturn, 1) := dk_176 (dk_at dksJ13_copyOf_0 13 rfl rfl)
theorem dJ13_copyOf_14 : decode cJ13_copyOf 14 = .ok (.iload_n 1, 1) := dk_27 (dk_at dksJ13_copyOf_0 14 rfl rfl)
theorem dJ13_copyOf_15 : decode cJ13_copyOf 15 = .ok (.newarray .byte, 2) := dk_188_8 (dk_at dksJ13_copyOf_0 15 rfl rfl)
theorem dJ13_copyOf_17 : decode cJ13_copyOf 17 = .ok (.astore_n 2, 1) := dk_77 (dk_at dksJ13_copyOf_0 17 rfl rfl)
theorem dJ13_copyOf_18 : decode cJ13_copyOf 18 = .ok (.aload_n 0, 1) := dk_42 (dk_at dksJ13_copyOf_0 18 rfl rfl)
theorem dJ13_copyOf_19 : decode cJ13_copyOf 19 = .ok (.iconst 0, 1) := dk_3 (dk_at dksJ13_copyOf_0 19 rfl rfl)
theorem dJ13_copyOf_20 : decode cJ13_copyOf 20 = .ok (.aload_n 2, 1) := dk_44 (dk_at dksJ13_copyOf_0 20 rfl rfl)
theorem dJ13_copyOf_21 : decode cJ13_copyOf 21 = .ok (.iconst 0, 1) := dk_3 (dk_at dksJ13_copyOf_0 21 rfl rfl)
theorem dJ13_copyOf_22 : decode cJ13_copyOf 22 = .ok (.aload_n 0, 1) := dk_42 (dk_at dksJ13_copyOf_0 22 rfl rfl)
theorem dJ13_copyOf_23 : decode cJ13_copyOf 23 = .ok (.arraylength, 1) := dk_190 (dk_at dksJ13_copyOf_0 23 rfl rfl)
theorem dJ13_copyOf_24 : decode cJ13_copyOf 24 = .ok (.iload_n 1, 1) := dk_27 (dk_at dksJ13_copyOf_1 0 rfl rfl)
theorem dJ13_copyOf_25 : decode cJ13_copyOf 25 = .ok (.invokestatic 304, 3) := dk_184 1 48 (dk_at dksJ13_copyOf_1 1 rfl rfl)
theorem dJ13_copyOf_28 : decode cJ13_copyOf 28 = .ok (.invokestatic 150, 3) := dk_184 0 150 (dk_at dksJ13_copyOf_1 4 rfl rfl)
theorem dJ13_copyOf_31 : decode cJ13_copyOf 31 = .ok (.aload_n 2, 1) := dk_44 (dk_at dksJ13_copyOf_1 7 rfl rfl)
theorem dJ13_copyOf_32 : decode cJ13_copyOf 32 = .ok (.areturn, 1) := dk_176 (dk_at dksJ13_copyOf_1 8 rfl rfl)
def dkwJ13_copyOfRange_1 : List UInt8 := [176]
abbrev dktJ13_copyOfRange_1 : List UInt8 := dkwJ13_copyOfRange_1 ++ []
def dkwJ13_copyOfRange_0 : List UInt8 := [27, 154, 0, 9, 28, 42, 190, 159, 0, 10, 42, 27, 28, 184, 1, 83, 176, 42, 182, 1, 54, 192, 1, 55]
abbrev dktJ13_copyOfRange_0 : List UInt8 := dkwJ13_copyOfRange_0 ++ dktJ13_copyOfRange_1
theorem dksJ13_copyOfRange_0 : cJ13_copyOfRange.data.toList.drop 0 = dktJ13_copyOfRange_0 := by decide +kernel
theorem dksJ13_copyOfRange_1 : cJ13_copyOfRange.data.toList.drop 24 = dktJ13_copyOfRange_1 := dk_seg dksJ13_copyOfRange_0 24 rfl rfl
theorem dJ13_copyOfRange_0 : decode cJ13_copyOfRange 0 = .ok (.iload_n 1, 1) := dk_27 (dk_at dksJ13_copyOfRange_0 0 rfl rfl)
theorem dJ13_copyOfRange_1 : decode cJ13_copyOfRange 1 = .ok (.ifCond .ne 9, 3) := dk_154 0 9 (dk_at dksJ13_copyOfRange_0 1 rfl rfl)
theorem dJ13_copyOfRange_4 : decode cJ13_copyOfRange 4 = .ok (.iload_n 2, 1) := dk_28 (dk_at dksJ13_copyOfRange_0 4 rfl rfl)
theorem dJ13_copyOfRange_5 : decode cJ13_copyOfRange 5 = .ok (.aload_n 0, 1) := dk_42 (dk_at dksJ13_copyOfRange_0 5 rfl rfl)
theorem dJ13_copyOfRange_6 : decode cJ13_copyOfRange 6 = .ok (.arraylength, 1) := dk_190 (dk_at dksJ13_copyOfRange_0 6 rfl rfl)
theorem dJ13_copyOfRange_7 : decode cJ13_copyOfRange 7 = .ok (.if_icmp .eq 10, 3) := dk_159 0 10 (dk_at dksJ13_copyOfRange_0 7 rfl rfl)
theorem dJ13_copyOfRange_10 : decode cJ13_copyOfRange 10 = .ok (.aload_n 0, 1) := dk_42 (dk_at dksJ13_copyOfRange_0 10 rfl rfl)
theorem dJ13_copyOfRange_11 : decode cJ13_copyOfRange 11 = .ok (.iload_n 1, 1) := dk_27 (dk_at dksJ13_copyOfRange_0 11 rfl rfl)
theorem dJ13_copyOfRange_12 : decode cJ13_copyOfRange 12 = .ok (.iload_n 2, 1) := dk_28 (dk_at dksJ13_copyOfRange_0 12 rfl rfl)
theorem dJ13_copyOfRange_13 : decode cJ13_copyOfRange 13 = .ok (.invokestatic 339, 3) := dk_184 1 83 (dk_at dksJ13_copyOfRange_0 13 rfl rfl)
theorem dJ13_copyOfRange_16 : decode cJ13_copyOfRange 16 = .ok (.areturn, 1) := dk_176 (dk_at dksJ13_copyOfRange_0 16 rfl rfl)
theorem dJ13_copyOfRange_17 : decode cJ13_copyOfRange 17 = .ok (.aload_n 0, 1) := dk_42 (dk_at dksJ13_copyOfRange_0 17 rfl rfl)
theorem dJ13_copyOfRange_18 : decode cJ13_copyOfRange 18 = .ok (.invokevirtual 310, 3) := dk_182 1 54 (dk_at dksJ13_copyOfRange_0 18 rfl rfl)
theorem dJ13_copyOfRange_21 : decode cJ13_copyOfRange 21 = .ok (.checkcast 311, 3) := dk_192 1 55 (dk_at dksJ13_copyOfRange_0 21 rfl rfl)
theorem dJ13_copyOfRange_24 : decode cJ13_copyOfRange 24 = .ok (.areturn, 1) := dk_176 (dk_at dksJ13_copyOfRange_1 0 rfl rfl)
def dkwJ13_copyOfRangeByte_1 : List UInt8 := [184, 1, 48, 184, 0, 150, 25, 4, 176]
abbrev dktJ13_copyOfRangeByte_1 : List UInt8 := dkwJ13_copyOfRangeByte_1 ++ []
def dkwJ13_copyOfRangeByte_0 : List UInt8 := [27, 28, 184, 1, 87, 28, 27, 100, 62, 29, 188, 8, 58, 4, 42, 27, 25, 4, 3, 42, 190, 27, 100, 29]
abbrev dktJ13_copyOfRangeByte_0 : List UInt8 := dkwJ13_copyOfRangeByte_0 ++ dktJ13_copyOfRangeByte_1
theorem dksJ13_copyOfRangeByte_0 : cJ13_copyOfRangeByte.data.toList.drop 0 = dktJ13_copyOfRangeByte_0 := by decide +kernel
theorem dksJ13_copyOfRangeByte_1 : cJ13_copyOfRangeByte.data.toList.drop 24 = dktJ13_copyOfRangeByte_1 := dk_seg dksJ13_copyOfRangeByte_0 24 rfl rfl
theorem dJ13_copyOfRangeByte_0 : decode cJ13_copyOfRangeByte 0 = .ok (.iload_n 1, 1) := dk_27 (dk_at dksJ13_copyOfRangeByte_0 0 rfl rfl)
theorem dJ13_copyOfRangeByte_1 : decode cJ13_copyOfRangeByte 1 = .ok (.iload_n 2, 1) := dk_28 (dk_at dksJ13_copyOfRangeByte_0 1 rfl rfl)
theorem dJ13_copyOfRangeByte_2 : decode cJ13_copyOfRangeByte 2 = .ok (.invokestatic 343, 3) := dk_184 1 87 (dk_at dksJ13_copyOfRangeByte_0 2 rfl rfl)
theorem dJ13_copyOfRangeByte_5 : decode cJ13_copyOfRangeByte 5 = .ok (.iload_n 2, 1) := dk_28 (dk_at dksJ13_copyOfRangeByte_0 5 rfl rfl)
theorem dJ13_copyOfRangeByte_6 : decode cJ13_copyOfRangeByte 6 = .ok (.iload_n 1, 1) := dk_27 (dk_at dksJ13_copyOfRangeByte_0 6 rfl rfl)
theorem dJ13_copyOfRangeByte_7 : decode cJ13_copyOfRangeByte 7 = .ok (.isub, 1) := dk_100 (dk_at dksJ13_copyOfRangeByte_0 7 rfl rfl)
theorem dJ13_copyOfRangeByte_8 : decode cJ13_copyOfRangeByte 8 = .ok (.istore_n 3, 1) := dk_62 (dk_at dksJ13_copyOfRangeByte_0 8 rfl rfl)
theorem dJ13_copyOfRangeByte_9 : decode cJ13_copyOfRangeByte 9 = .ok (.iload_n 3, 1) := dk_29 (dk_at dksJ13_copyOfRangeByte_0 9 rfl rfl)
theorem dJ13_copyOfRangeByte_10 : decode cJ13_copyOfRangeByte 10 = .ok (.newarray .byte, 2) := dk_188_8 (dk_at dksJ13_copyOfRangeByte_0 10 rfl rfl)
theorem dJ13_copyOfRangeByte_12 : decode cJ13_copyOfRangeByte 12 = .ok (.astore 4, 2) := dk_58 4 (dk_at dksJ13_copyOfRangeByte_0 12 rfl rfl)
theorem dJ13_copyOfRangeByte_14 : decode cJ13_copyOfRangeByte 14 = .ok (.aload_n 0, 1) := dk_42 (dk_at dksJ13_copyOfRangeByte_0 14 rfl rfl)
theorem dJ13_copyOfRangeByte_15 : decode cJ13_copyOfRangeByte 15 = .ok (.iload_n 1, 1) := dk_27 (dk_at dksJ13_copyOfRangeByte_0 15 rfl rfl)
theorem dJ13_copyOfRangeByte_16 : decode cJ13_copyOfRangeByte 16 = .ok (.aload 4, 2) := dk_25 4 (dk_at dksJ13_copyOfRangeByte_0 16 rfl rfl)
theorem dJ13_copyOfRangeByte_18 : decode cJ13_copyOfRangeByte 18 = .ok (.iconst 0, 1) := dk_3 (dk_at dksJ13_copyOfRangeByte_0 18 rfl rfl)
theorem dJ13_copyOfRangeByte_19 : decode cJ13_copyOfRangeByte 19 = .ok (.aload_n 0, 1) := dk_42 (dk_at dksJ13_copyOfRangeByte_0 19 rfl rfl)
theorem dJ13_copyOfRangeByte_20 : decode cJ13_copyOfRangeByte 20 = .ok (.arraylength, 1) := dk_190 (dk_at dksJ13_copyOfRangeByte_0 20 rfl rfl)
theorem dJ13_copyOfRangeByte_21 : decode cJ13_copyOfRangeByte 21 = .ok (.iload_n 1, 1) := dk_27 (dk_at dksJ13_copyOfRangeByte_0 21 rfl rfl)
theorem dJ13_copyOfRangeByte_22 : decode cJ13_copyOfRangeByte 22 = .ok (.isub, 1) := dk_100 (dk_at dksJ13_copyOfRangeByte_0 22 rfl rfl)
theorem dJ13_copyOfRangeByte_23 : decode cJ13_copyOfRangeByte 23 = .ok (.iload_n 3, 1) := dk_29 (dk_at dksJ13_copyOfRangeByte_0 23 rfl rfl)
theorem dJ13_copyOfRangeByte_24 : decode cJ13_copyOfRangeByte 24 = .ok (.invokestatic 304, 3) := dk_184 1 48 (dk_at dksJ13_copyOfRangeByte_1 0 rfl rfl)
theorem dJ13_copyOfRangeByte_27 : decode cJ13_copyOfRangeByte 27 = .ok (.invokestatic 150, 3) := dk_184 0 150 (dk_at dksJ13_copyOfRangeByte_1 3 rfl rfl)
theorem dJ13_copyOfRangeByte_30 : decode cJ13_copyOfRangeByte 30 = .ok (.aload 4, 2) := dk_25 4 (dk_at dksJ13_copyOfRangeByte_1 6 rfl rfl)
theorem dJ13_copyOfRangeByte_32 : decode cJ13_copyOfRangeByte 32 = .ok (.areturn, 1) := dk_176 (dk_at dksJ13_copyOfRangeByte_1 8 rfl rfl)
def dkwJ13_copyOf_2_0 : List UInt8 := [42, 27, 42, 182, 0, 86, 184, 1, 44, 176]
abbrev dktJ13_copyOf_2_0 : List UInt8 := dkwJ13_copyOf_2_0 ++ []
theorem dksJ13_copyOf_2_0 : cJ13_copyOf_2.data.toList.drop 0 = dktJ13_copyOf_2_0 := by decide +kernel
theorem dJ13_copyOf_2_0 : decode cJ13_copyOf_2 0 = .ok (.aload_n 0, 1) := dk_42 (dk_at dksJ13_copyOf_2_0 0 rfl rfl)
theorem dJ13_copyOf_2_1 : decode cJ13_copyOf_2 1 = .ok (.iload_n 1, 1) := dk_27 (dk_at dksJ13_copyOf_2_0 1 rfl rfl)
theorem dJ13_copyOf_2_2 : decode cJ13_copyOf_2 2 = .ok (.aload_n 0, 1) := dk_42 (dk_at dksJ13_copyOf_2_0 2 rfl rfl)
theorem dJ13_copyOf_2_3 : decode cJ13_copyOf_2 3 = .ok (.invokevirtual 86, 3) := dk_182 0 86 (dk_at dksJ13_copyOf_2_0 3 rfl rfl)
theorem dJ13_copyOf_2_6 : decode cJ13_copyOf_2 6 = .ok (.invokestatic 300, 3) := dk_184 1 44 (dk_at dksJ13_copyOf_2_0 6 rfl rfl)
theorem dJ13_copyOf_2_9 : decode cJ13_copyOf_2 9 = .ok (.areturn, 1) := dk_176 (dk_at dksJ13_copyOf_2_0 9 rfl rfl)
def dkwJ13_copyOf_3_1 : List UInt8 := [78, 42, 3, 45, 3, 42, 190, 27, 184, 1, 48, 184, 0, 150, 45, 176]
abbrev dktJ13_copyOf_3_1 : List UInt8 := dkwJ13_copyOf_3_1 ++ []
def dkwJ13_copyOf_3_0 : List UInt8 := [44, 18, 110, 166, 0, 10, 27, 189, 0, 2, 167, 0, 14, 44, 182, 0, 90, 27, 184, 0, 95, 192, 0, 110]
abbrev dktJ13_copyOf_3_0 : List UInt8 := dkwJ13_copyOf_3_0 ++ dktJ13_copyOf_3_1
theorem dksJ13_copyOf_3_0 : cJ13_copyOf_3.data.toList.drop 0 = dktJ13_copyOf_3_0 := by decide +kernel
theorem dksJ13_copyOf_3_1 : cJ13_copyOf_3.data.toList.drop 24 = dktJ13_copyOf_3_1 := dk_seg dksJ13_copyOf_3_0 24 rfl rfl
theorem dJ13_copyOf_3_0 : decode cJ13_copyOf_3 0 = .ok (.aload_n 2, 1) := dk_44 (dk_at dksJ13_copyOf_3_0 0 rfl rfl)
theorem dJ13_copyOf_3_1 : decode cJ13_copyOf_3 1 = .ok (.ldc 110, 2) := dk_18 110 (dk_at dksJ13_copyOf_3_0 1 rfl rfl)
theorem dJ13_copyOf_3_3 : decode cJ13_copyOf_3 3 = .ok (.if_acmp .ne 10, 3) := dk_166 0 10 (dk_at dksJ13_copyOf_3_0 3 rfl rfl)
theorem dJ13_copyOf_3_6 : decode cJ13_copyOf_3 6 = .ok (.iload_n 1, 1) := dk_27 (dk_at dksJ13_copyOf_3_0 6 rfl rfl)
theorem dJ13_copyOf_3_7 : decode cJ13_copyOf_3 7 = .ok (.anewarray 2, 3) := dk_189 0 2 (dk_at dksJ13_copyOf_3_0 7 rfl rfl)
theorem dJ13_copyOf_3_10 : decode cJ13_copyOf_3 10 = .ok (.goto 14, 3) := dk_167 0 14 (dk_at dksJ13_copyOf_3_0 10 rfl rfl)
theorem dJ13_copyOf_3_13 : decode cJ13_copyOf_3 13 = .ok (.aload_n 2, 1) := dk_44 (dk_at dksJ13_copyOf_3_0 13 rfl rfl)
theorem dJ13_copyOf_3_14 : decode cJ13_copyOf_3 14 = .ok (.invokevirtual 90, 3) := dk_182 0 90 (dk_at dksJ13_copyOf_3_0 14 rfl rfl)
theorem dJ13_copyOf_3_17 : decode cJ13_copyOf_3 17 = .ok (.iload_n 1, 1) := dk_27 (dk_at dksJ13_copyOf_3_0 17 rfl rfl)
theorem dJ13_copyOf_3_18 : decode cJ13_copyOf_3 18 = .ok (.invokestatic 95, 3) := dk_184 0 95 (dk_at dksJ13_copyOf_3_0 18 rfl rfl)
theorem dJ13_copyOf_3_21 : decode cJ13_copyOf_3 21 = .ok (.checkcast 110, 3) := dk_192 0 110 (dk_at dksJ13_copyOf_3_0 21 rfl rfl)
theorem dJ13_copyOf_3_24 : decode cJ13_copyOf_3 24 = .ok (.astore_n 3, 1) := dk_78 (dk_at dksJ13_copyOf_3_1 0 rfl rfl)
theorem dJ13_copyOf_3_25 : decode cJ13_copyOf_3 25 = .ok (.aload_n 0, 1) := dk_42 (dk_at dksJ13_copyOf_3_1 1 rfl rfl)
theorem dJ13_copyOf_3_26 : decode cJ13_copyOf_3 26 = .ok (.iconst 0, 1) := dk_3 (dk_at dksJ13_copyOf_3_1 2 rfl rfl)
theorem dJ13_copyOf_3_27 : decode cJ13_copyOf_3 27 = .ok (.aload_n 3, 1) := dk_45 (dk_at dksJ13_copyOf_3_1 3 rfl rfl)
theorem dJ13_copyOf_3_28 : decode cJ13_copyOf_3 28 = .ok (.iconst 0, 1) := dk_3 (dk_at dksJ13_copyOf_3_1 4 rfl rfl)
theorem dJ13_copyOf_3_29 : decode cJ13_copyOf_3 29 = .ok (.aload_n 0, 1) := dk_42 (dk_at dksJ13_copyOf_3_1 5 rfl rfl)
theorem dJ13_copyOf_3_30 : decode cJ13_copyOf_3 30 = .ok (.arraylength, 1) := dk_190 (dk_at dksJ13_copyOf_3_1 6 rfl rfl)
theorem dJ13_copyOf_3_31 : decode cJ13_copyOf_3 31 = .ok (.iload_n 1, 1) := dk_27 (dk_at dksJ13_copyOf_3_1 7 rfl rfl)
theorem dJ13_copyOf_3_32 : decode cJ13_copyOf_3 32 = .ok (.invokestatic 304, 3) := dk_184 1 48 (dk_at dksJ13_copyOf_3_1 8 rfl rfl)
theorem dJ13_copyOf_3_35 : decode cJ13_copyOf_3 35 = .ok (.invokestatic 150, 3) := dk_184 0 150 (dk_at dksJ13_copyOf_3_1 11 rfl rfl)
theorem dJ13_copyOf_3_38 : decode cJ13_copyOf_3 38 = .ok (.aload_n 3, 1) := dk_45 (dk_at dksJ13_copyOf_3_1 14 rfl rfl)
theorem dJ13_copyOf_3_39 : decode cJ13_copyOf_3 39 = .ok (.areturn, 1) := dk_176 (dk_at dksJ13_copyOf_3_1 15 rfl rfl)
def dkwJ16_bitCount_2 : List UInt8 := [26, 16, 63, 126, 172]
abbrev dktJ16_bitCount_2 : List UInt8 := dkwJ16_bitCount_2 ++ []
def dkwJ16_bitCount_1 : List UInt8 := [26, 26, 7, 124, 96, 19, 1, 11, 126, 59, 26, 26, 16, 8, 124, 96, 59, 26, 26, 16, 16, 124, 96, 59]
abbrev dktJ16_bitCount_1 : List UInt8 := dkwJ16_bitCount_1 ++ dktJ16_bitCount_2
def dkwJ16_bitCount_0 : List UInt8 := [26, 26, 4, 124, 19, 1, 9, 126, 100, 59, 26, 19, 1, 10, 126, 26, 5, 124, 19, 1, 10, 126, 96, 59]
abbrev dktJ16_bitCount_0 : List UInt8 := dkwJ16_bitCount_0 ++ dktJ16_bitCount_1
theorem dksJ16_bitCount_0 : cJ16_bitCount.data.toList.drop 0 = dktJ16_bitCount_0 := by decide +kernel
theorem dksJ16_bitCount_1 : cJ16_bitCount.data.toList.drop 24 = dktJ16_bitCount_1 := dk_seg dksJ16_bitCount_0 24 rfl rfl
theorem dksJ16_bitCount_2 : cJ16_bitCount.data.toList.drop 48 = dktJ16_bitCount_2 := dk_seg dksJ16_bitCount_1 24 rfl rfl
theorem dJ16_bitCount_0 : decode cJ16_bitCount 0 = .ok (.iload_n 0, 1) := dk_26 (dk_at dksJ16_bitCount_0 0 rfl rfl)
theorem dJ16_bitCount_1 : decode cJ16_bitCount 1 = .ok (.iload_n 0, 1) := dk_26 (dk_at dksJ16_bitCount_0 1 rfl rfl)
theorem dJ16_bitCount_2 : decode cJ16_bitCount 2 = .ok (.iconst 1, 1) := dk_4 (dk_at dksJ16_bitCount_0 2 rfl rfl)
theorem dJ16_bitCount_3 : decode cJ16_bitCount 3 = .ok (.iushr, 1) := dk_124 (dk_at dksJ16_bitCount_0 3 rfl rfl)
theorem dJ16_bitCount_4 : decode cJ16_bitCount 4 = .ok (.ldc_w 265, 3) := dk_19 1 9 (dk_at dksJ16_bitCount_0 4 rfl rfl)
theorem dJ16_bitCount_7 : decode cJ16_bitCount 7 = .ok (.iand, 1) := dk_126 (dk_at dksJ16_bitCount_0 7 rfl rfl)
theorem dJ16_bitCount_8 : decode cJ16_bitCount 8 = .ok (.isub, 1) := dk_100 (dk_at dksJ16_bitCount_0 8 rfl rfl)
theorem dJ16_bitCount_9 : decode cJ16_bitCount 9 = .ok (.istore_n 0, 1) := dk_59 (dk_at dksJ16_bitCount_0 9 rfl rfl)
theorem dJ16_bitCount_10 : decode cJ16_bitCount 10 = .ok (.iload_n 0, 1) := dk_26 (dk_at dksJ16_bitCount_0 10 rfl rfl)
theorem dJ16_bitCount_11 : decode cJ16_bitCount 11 = .ok (.ldc_w 266, 3) := dk_19 1 10 (dk_at dksJ16_bitCount_0 11 rfl rfl)
theorem dJ16_bitCount_14 : decode cJ16_bitCount 14 = .ok (.iand, 1) := dk_126 (dk_at dksJ16_bitCount_0 14 rfl rfl)
theorem dJ16_bitCount_15 : decode cJ16_bitCount 15 = .ok (.iload_n 0, 1) := dk_26 (dk_at dksJ16_bitCount_0 15 rfl rfl)
theorem dJ16_bitCount_16 : decode cJ16_bitCount 16 = .ok (.iconst 2, 1) := dk_5 (dk_at dksJ16_bitCount_0 16 rfl rfl)
theorem dJ16_bitCount_17 : decode cJ16_bitCount 17 = .ok (.iushr, 1) := dk_124 (dk_at dksJ16_bitCount_0 17 rfl rfl)
theorem dJ16_bitCount_18 : decode cJ16_bitCount 18 = .ok (.ldc_w 266, 3) := dk_19 1 10 (dk_at dksJ16_bitCount_0 18 rfl rfl)
theorem dJ16_bitCount_21 : decode cJ16_bitCount 21 = .ok (.iand, 1) := dk_126 (dk_at dksJ16_bitCount_0 21 rfl rfl)
theorem dJ16_bitCount_22 : decode cJ16_bitCount 22 = .ok (.iadd, 1) := dk_96 (dk_at dksJ16_bitCount_0 22 rfl rfl)
theorem dJ16_bitCount_23 : decode cJ16_bitCount 23 = .ok (.istore_n 0, 1) := dk_59 (dk_at dksJ16_bitCount_0 23 rfl rfl)
theorem dJ16_bitCount_24 : decode cJ16_bitCount 24 = .ok (.iload_n 0, 1) := dk_26 (dk_at dksJ16_bitCount_1 0 rfl rfl)
theorem dJ16_bitCount_25 : decode cJ16_bitCount 25 = .ok (.iload_n 0, 1) := dk_26 (dk_at dksJ16_bitCount_1 1 rfl rfl)
theorem dJ16_bitCount_26 : decode cJ16_bitCount 26 = .ok (.iconst 4, 1) := dk_7 (dk_at dksJ16_bitCount_1 2 rfl rfl)
theorem dJ16_bitCount_27 : decode cJ16_bitCount 27 = .ok (.iushr, 1) := dk_124 (dk_at dksJ16_bitCount_1 3 rfl rfl)
theorem dJ16_bitCount_28 : decode cJ16_bitCount 28 = .ok (.iadd, 1) := dk_96 (dk_at dksJ16_bitCount_1 4 rfl rfl)
theorem dJ16_bitCount_29 : decode cJ16_bitCount 29 = .ok (.ldc_w 267, 3) := dk_19 1 11 (dk_at dksJ16_bitCount_1 5 rfl rfl)
theorem dJ16_bitCount_32 : decode cJ16_bitCount 32 = .ok (.iand, 1) := dk_126 (dk_at dksJ16_bitCount_1 8 rfl rfl)
theorem dJ16_bitCount_33 : decode cJ16_bitCount 33 = .ok (.istore_n 0, 1) := dk_59 (dk_at dksJ16_bitCount_1 9 rfl rfl)
theorem dJ16_bitCount_34 : decode cJ16_bitCount 34 = .ok (.iload_n 0, 1) := dk_26 (dk_at dksJ16_bitCount_1 10 rfl rfl)
theorem dJ16_bitCount_35 : decode cJ16_bitCount 35 = .ok (.iload_n 0, 1) := dk_26 (dk_at dksJ16_bitCount_1 11 rfl rfl)
theorem dJ16_bitCount_36 : decode cJ16_bitCount 36 = .ok (.bipush 8, 2) := dk_16 8 (dk_at dksJ16_bitCount_1 12 rfl rfl)
theorem dJ16_bitCount_38 : decode cJ16_bitCount 38 = .ok (.iushr, 1) := dk_124 (dk_at dksJ16_bitCount_1 14 rfl rfl)
theorem dJ16_bitCount_39 : decode cJ16_bitCount 39 = .ok (.iadd, 1) := dk_96 (dk_at dksJ16_bitCount_1 15 rfl rfl)
theorem dJ16_bitCount_40 : decode cJ16_bitCount 40 = .ok (.istore_n 0, 1) := dk_59 (dk_at dksJ16_bitCount_1 16 rfl rfl)
theorem dJ16_bitCount_41 : decode cJ16_bitCount 41 = .ok (.iload_n 0, 1) := dk_26 (dk_at dksJ16_bitCount_1 17 rfl rfl)
theorem dJ16_bitCount_42 : decode cJ16_bitCount 42 = .ok (.iload_n 0, 1) := dk_26 (dk_at dksJ16_bitCount_1 18 rfl rfl)
theorem dJ16_bitCount_43 : decode cJ16_bitCount 43 = .ok (.bipush 16, 2) := dk_16 16 (dk_at dksJ16_bitCount_1 19 rfl rfl)
theorem dJ16_bitCount_45 : decode cJ16_bitCount 45 = .ok (.iushr, 1) := dk_124 (dk_at dksJ16_bitCount_1 21 rfl rfl)
theorem dJ16_bitCount_46 : decode cJ16_bitCount 46 = .ok (.iadd, 1) := dk_96 (dk_at dksJ16_bitCount_1 22 rfl rfl)
theorem dJ16_bitCount_47 : decode cJ16_bitCount 47 = .ok (.istore_n 0, 1) := dk_59 (dk_at dksJ16_bitCount_1 23 rfl rfl)
theorem dJ16_bitCount_48 : decode cJ16_bitCount 48 = .ok (.iload_n 0, 1) := dk_26 (dk_at dksJ16_bitCount_2 0 rfl rfl)
theorem dJ16_bitCount_49 : decode cJ16_bitCount 49 = .ok (.bipush 63, 2) := dk_16 63 (dk_at dksJ16_bitCount_2 1 rfl rfl)
theorem dJ16_bitCount_51 : decode cJ16_bitCount 51 = .ok (.iand, 1) := dk_126 (dk_at dksJ16_bitCount_2 3 rfl rfl)
theorem dJ16_bitCount_52 : decode cJ16_bitCount 52 = .ok (.ireturn, 1) := dk_172 (dk_at dksJ16_bitCount_2 4 rfl rfl)
def dkwJ11_newLength_1 : List UInt8 := [184, 0, 201, 172]
abbrev dktJ11_newLength_1 : List UInt8 := dkwJ11_newLength_1 ++ []
def dkwJ11_newLength_0 : List UInt8 := [26, 27, 28, 184, 0, 194, 96, 62, 3, 29, 162, 0, 11, 29, 18, 200, 163, 0, 5, 29, 172, 26, 27]
abbrev dktJ11_newLength_0 : List UInt8 := dkwJ11_newLength_0 ++ dktJ11_newLength_1
theorem dksJ11_newLength_0 : cJ11_newLength.data.toList.drop 0 = dktJ11_newLength_0 := by decide +kernel
theorem dksJ11_newLength_1 : cJ11_newLength.data.toList.drop 23 = dktJ11_newLength_1 := dk_seg dksJ11_newLength_0 23 rfl rfl
theorem dJ11_newLength_0 : decode cJ11_newLength 0 = .ok (.iload_n 0, 1) := dk_26 (dk_at dksJ11_newLength_0 0 rfl rfl)
theorem dJ11_newLength_1 : decode cJ11_newLength 1 = .ok (.iload_n 1, 1) := dk_27 (dk_at dksJ11_newLength_0 1 rfl rfl)
theorem dJ11_newLength_2 : decode cJ11_newLength 2 = .ok (.iload_n 2, 1) := dk_28 (dk_at dksJ11_newLength_0 2 rfl rfl)
theorem dJ11_newLength_3 : decode cJ11_newLength 3 = .ok (.invokestatic 194, 3) := dk_184 0 194 (dk_at dksJ11_newLength_0 3 rfl rfl)
theorem dJ11_newLength_6 : decode cJ11_newLength 6 = .ok (.iadd, 1) := dk_96 (dk_at dksJ11_newLength_0 6 rfl rfl)
theorem dJ11_newLength_7 : decode cJ11_newLength 7 = .ok (.istore_n 3, 1) := dk_62 (dk_at dksJ11_newLength_0 7 rfl rfl)
theorem dJ11_newLength_8 : decode cJ11_newLength 8 = .ok (.iconst 0, 1) := dk_3 (dk_at dksJ11_newLength_0 8 rfl rfl)
theorem dJ11_newLength_9 : decode cJ11_newLength 9 = .ok (.iload_n 3, 1) := dk_29 (dk_at dksJ11_newLength_0 9 rfl rfl)
theorem dJ11_newLength_10 : decode cJ11_newLength 10 = .ok (.if_icmp .ge 11, 3) := dk_162 0 11 (dk_at dksJ11_newLength_0 10 rfl rfl)
theorem dJ11_newLength_13 : decode cJ11_newLength 13 = .ok (.iload_n 3, 1) := dk_29 (dk_at dksJ11_newLength_0 13 rfl rfl)
theorem dJ11_newLength_14 : decode cJ11_newLength 14 = .ok (.ldc 200, 2) := dk_18 200 (dk_at dksJ11_newLength_0 14 rfl rfl)
theorem dJ11_newLength_16 : decode cJ11_newLength 16 = .ok (.if_icmp .gt 5, 3) := dk_163 0 5 (dk_at dksJ11_newLength_0 16 rfl rfl)
theorem dJ11_newLength_19 : decode cJ11_newLength 19 = .ok (.iload_n 3, 1) := dk_29 (dk_at dksJ11_newLength_0 19 rfl rfl)
theorem dJ11_newLength_20 : decode cJ11_newLength 20 = .ok (.ireturn, 1) := dk_172 (dk_at dksJ11_newLength_0 20 rfl rfl)
theorem dJ11_newLength_21 : decode cJ11_newLength 21 = .ok (.iload_n 0, 1) := dk_26 (dk_at dksJ11_newLength_0 21 rfl rfl)
theorem dJ11_newLength_22 : decode cJ11_newLength 22 = .ok (.iload_n 1, 1) := dk_27 (dk_at dksJ11_newLength_0 22 rfl rfl)
theorem dJ11_newLength_23 : decode cJ11_newLength 23 = .ok (.invokestatic 201, 3) := dk_184 0 201 (dk_at dksJ11_newLength_1 0 rfl rfl)
theorem dJ11_newLength_26 : decode cJ11_newLength 26 = .ok (.ireturn, 1) := dk_172 (dk_at dksJ11_newLength_1 3 rfl rfl)
def dkwJ11_vectorizedHashCode_6 : List UInt8 := [183, 0, 91, 18, 92, 182, 0, 94, 21, 4, 182, 0, 98, 182, 0, 101, 183, 0, 105, 191, 172]
abbrev dktJ11_vectorizedHashCode_6 : List UInt8 := dkwJ11_vectorizedHashCode_6 ++ []
def dkwJ11_vectorizedHashCode_5 : List UInt8 := [167, 0, 44, 29, 42, 192, 0, 82, 27, 28, 184, 0, 84, 167, 0, 31, 187, 0, 87, 89, 187, 0, 89, 89]
abbrev dktJ11_vectorizedHashCode_5 : List UInt8 := dkwJ11_vectorizedHashCode_5 ++ dktJ11_vectorizedHashCode_6
def dkwJ11_vectorizedHashCode_4 : List UInt8 := [29, 42, 192, 0, 60, 27, 28, 184, 0, 75, 167, 0, 57, 29, 42, 192, 0, 77, 27, 28, 184, 0, 79]
abbrev dktJ11_vectorizedHashCode_4 : List UInt8 := dkwJ11_vectorizedHashCode_4 ++ dktJ11_vectorizedHashCode_5
def dkwJ11_vectorizedHashCode_3 : List UInt8 := [192, 0, 60, 27, 28, 184, 0, 66, 167, 0, 83, 29, 42, 192, 0, 69, 27, 28, 184, 0, 71, 167, 0, 70]
abbrev dktJ11_vectorizedHashCode_3 : List UInt8 := dkwJ11_vectorizedHashCode_3 ++ dktJ11_vectorizedHashCode_4
def dkwJ11_vectorizedHashCode_2 : List UInt8 := [29, 42, 192, 0, 60, 27, 28, 184, 0, 62, 167, 0, 103, 42, 193, 0, 60, 153, 0, 16, 29, 42]
abbrev dktJ11_vectorizedHashCode_2 : List UInt8 := dkwJ11_vectorizedHashCode_2 ++ dktJ11_vectorizedHashCode_3
def dkwJ11_vectorizedHashCode_1 : List UInt8 := [170, 0, 0, 0, 0, 127, 0, 0, 0, 4, 0, 0, 0, 10, 0, 0, 0, 42, 0, 0, 0, 55, 0, 0, 0, 127, 0, 0, 0, 127, 0, 0, 0, 88, 0, 0, 0, 101, 0, 0, 0, 114]
abbrev dktJ11_vectorizedHashCode_1 : List UInt8 := dkwJ11_vectorizedHashCode_1 ++ dktJ11_vectorizedHashCode_2
def dkwJ11_vectorizedHashCode_0 : List UInt8 := [21, 4]
abbrev dktJ11_vectorizedHashCode_0 : List UInt8 := dkwJ11_vectorizedHashCode_0 ++ dktJ11_vectorizedHashCode_1
theorem dksJ11_vectorizedHashCode_0 : cJ11_vectorizedHashCode.data.toList.drop 0 = dktJ11_vectorizedHashCode_0 := by decide +kernel
theorem dksJ11_vectorizedHashCode_1 : cJ11_vectorizedHashCode.data.toList.drop 2 = dktJ11_vectorizedHashCode_1 := dk_seg dksJ11_vectorizedHashCode_0 2 rfl rfl
theorem dksJ11_vectorizedHashCode_2 : cJ11_vectorizedHashCode.data.toList.drop 44 = dktJ11_vectorizedHashCode_2 := dk_seg dksJ11_vectorizedHashCode_1 42 rfl rfl
theorem dksJ11_vectorizedHashCode_3 : cJ11_vectorizedHashCode.data.toList.drop 66 = dktJ11_vectorizedHashCode_3 := dk_seg dksJ11_vectorizedHashCode_2 22 rfl rfl
theorem dksJ11_vectorizedHashCode_4 : cJ11_vectorizedHashCode.data.toList.drop 90 = dktJ11_vectorizedHashCode_4 := dk_seg dksJ11_vectorizedHashCode_3 24 rfl rfl
theorem dksJ11_vectorizedHashCode_5 : cJ11_vectorizedHashCode.data.toList.drop 113 = dktJ11_vectorizedHashCode_5 := dk_seg dksJ11_vectorizedHashCode_4 23 rfl rfl
theorem dksJ11_vectorizedHashCode_6 : cJ11_vectorizedHashCode.data.toList.drop 137 = dktJ11_vectorizedHashCode_6 := dk_seg dksJ11_vectorizedHashCode_5 24 rfl rfl
theorem dJ11_vectorizedHashCode_0 : decode cJ11_vectorizedHashCode 0 = .ok (.iload 4, 2) := dk_21 4 (dk_at dksJ11_vectorizedHashCode_0 0 rfl rfl)
theorem dJ11_vectorizedHashCode_2 : decode cJ11_vectorizedHashCode 2 = .ok (.tableswitch 127 4 10 #[42, 55, 127, 127, 88, 101, 114], 42) := by decide +kernel
theorem dJ11_vectorizedHashCode_44 : decode cJ11_vectorizedHashCode 44 = .ok (.iload_n 3, 1) := dk_29 (dk_at dksJ11_vectorizedHashCode_2 0 rfl rfl)
theorem dJ11_vectorizedHashCode_45 : decode cJ11_vectorizedHashCode 45 = .ok (.aload_n 0, 1) := dk_42 (dk_at dksJ11_vectorizedHashCode_2 1 rfl rfl)
theorem dJ11_vectorizedHashCode_46 : decode cJ11_vectorizedHashCode 46 = .ok (.checkcast 60, 3) := dk_192 0 60 (dk_at dksJ11_vectorizedHashCode_2 2 rfl rfl)
theorem dJ11_vectorizedHashCode_49 : decode cJ11_vectorizedHashCode 49 = .ok (.iload_n 1, 1) := dk_27 (dk_at dksJ11_vectorizedHashCode_2 5 rfl rfl)
theorem dJ11_vectorizedHashCode_50 : decode cJ11_vectorizedHashCode 50 = .ok (.iload_n 2, 1) := dk_28 (dk_at dksJ11_vectorizedHashCode_2 6 rfl rfl)
theorem dJ11_vectorizedHashCode_51 : decode cJ11_vectorizedHashCode 51 = .ok (.invokestatic 62, 3) := dk_184 0 62 (dk_at dksJ11_vectorizedHashCode_2 7 rfl rfl)
theorem dJ11_vectorizedHashCode_54 : decode cJ11_vectorizedHashCode 54 = .ok (.goto 103, 3) := dk_167 0 103 (dk_at dksJ11_vectorizedHashCode_2 10 rfl rfl)
theorem dJ11_vectorizedHashCode_57 : decode cJ11_vectorizedHashCode 57 = .ok (.aload_n 0, 1) := dk_42 (dk_at dksJ11_vectorizedHashCode_2 13 rfl rfl)
theorem dJ11_vectorizedHashCode_58 : decode cJ11_vectorizedHashCode 58 = .ok (.instanceof 60, 3) := dk_193 0 60 (dk_at dksJ11_vectorizedHashCode_2 14 rfl rfl)
theorem dJ11_vectorizedHashCode_61 : decode cJ11_vectorizedHashCode 61 = .ok (.ifCond .eq 16, 3) := dk_153 0 16 (dk_at dksJ11_vectorizedHashCode_2 17 rfl rfl)
theorem dJ11_vectorizedHashCode_64 : decode cJ11_vectorizedHashCode 64 = .ok (.iload_n 3, 1) := dk_29 (dk_at dksJ11_vectorizedHashCode_2 20 rfl rfl)
theorem dJ11_vectorizedHashCode_65 : decode cJ11_vectorizedHashCode 65 = .ok (.aload_n 0, 1) := dk_42 (dk_at dksJ11_vectorizedHashCode_2 21 rfl rfl)
theorem dJ11_vectorizedHashCode_66 : decode cJ11_vectorizedHashCode 66 = .ok (.checkcast 60, 3) := dk_192 0 60 (dk_at dksJ11_vectorizedHashCode_3 0 rfl rfl)
theorem dJ11_vectorizedHashCode_69 : decode cJ11_vectorizedHashCode 69 = .ok (.iload_n 1, 1) := dk_27 (dk_at dksJ11_vectorizedHashCode_3 3 rfl rfl)
theorem dJ11_vectorizedHashCode_70 : decode cJ11_vectorizedHashCode 70 = .ok (.iload_n 2, 1) := dk_28 (dk_at dksJ11_vectorizedHashCode_3 4 rfl rfl)
theorem dJ11_vectorizedHashCode_71 : decode cJ11_vectorizedHashCode 71 = .ok (.invokestatic 66, 3) := dk_184 0 66 (dk_at dksJ11_vectorizedHashCode_3 5 rfl rfl)
theorem dJ11_vectorizedHashCode_74 : decode cJ11_vectorizedHashCode 74 = .ok (.goto 83, 3) := dk_167 0 83 (dk_at dksJ11_vectorizedHashCode_3 8 rfl rfl)
theorem dJ11_vectorizedHashCode_77 : decode cJ11_vectorizedHashCode 77 = .ok (.iload_n 3, 1) := dk_29 (dk_at dksJ11_vectorizedHashCode_3 11 rfl rfl)
theorem dJ11_vectorizedHashCode_78 : decode cJ11_vectorizedHashCode 78 = .ok (.aload_n 0, 1) := dk_42 (dk_at dksJ11_vectorizedHashCode_3 12 rfl rfl)
theorem dJ11_vectorizedHashCode_79 : decode cJ11_vectorizedHashCode 79 = .ok (.checkcast 69, 3) := dk_192 0 69 (dk_at dksJ11_vectorizedHashCode_3 13 rfl rfl)
theorem dJ11_vectorizedHashCode_82 : decode cJ11_vectorizedHashCode 82 = .ok (.iload_n 1, 1) := dk_27 (dk_at dksJ11_vectorizedHashCode_3 16 rfl rfl)
theorem dJ11_vectorizedHashCode_83 : decode cJ11_vectorizedHashCode 83 = .ok (.iload_n 2, 1) := dk_28 (dk_at dksJ11_vectorizedHashCode_3 17 rfl rfl)
theorem dJ11_vectorizedHashCode_84 : decode cJ11_vectorizedHashCode 84 = .ok (.invokestatic 71, 3) := dk_184 0 71 (dk_at dksJ11_vectorizedHashCode_3 18 rfl rfl)
theorem dJ11_vectorizedHashCode_87 : decode cJ11_vectorizedHashCode 87 = .ok (.goto 70, 3) := dk_167 0 70 (dk_at dksJ11_vectorizedHashCode_3 21 rfl rfl)
theorem dJ11_vectorizedHashCode_90 : decode cJ11_vectorizedHashCode 90 = .ok (.iload_n 3, 1) := dk_29 (dk_at dksJ11_vectorizedHashCode_4 0 rfl rfl)
theorem dJ11_vectorizedHashCode_91 : decode cJ11_vectorizedHashCode 91 = .ok (.aload_n 0, 1) := dk_42 (dk_at dksJ11_vectorizedHashCode_4 1 rfl rfl)
theorem dJ11_vectorizedHashCode_92 : decode cJ11_vectorizedHashCode 92 = .ok (.checkcast 60, 3) := dk_192 0 60 (dk_at dksJ11_vectorizedHashCode_4 2 rfl rfl)
theorem dJ11_vectorizedHashCode_95 : decode cJ11_vectorizedHashCode 95 = .ok (.iload_n 1, 1) := dk_27 (dk_at dksJ11_vectorizedHashCode_4 5 rfl rfl)
theorem dJ11_vectorizedHashCode_96 : decode cJ11_vectorizedHashCode 96 = .ok (.iload_n 2, 1) := dk_28 (dk_at dksJ11_vectorizedHashCode_4 6 rfl rfl)
theorem dJ11_vectorizedHashCode_97 : decode cJ11_vectorizedHashCode 97 = .ok (.invokestatic 75, 3) := dk_184 0 75 (dk_at dksJ11_vectorizedHashCode_4 7 rfl rfl)
theorem dJ11_vectorizedHashCode_100 : decode cJ11_vectorizedHashCode 100 = .ok (.goto 57, 3) := dk_167 0 57 (dk_at dksJ11_vectorizedHashCode_4 10 rfl rfl)
theorem dJ11_vectorizedHashCode_103 : decode cJ11_vectorizedHashCode 103 = .ok (.iload_n 3, 1) := dk_29 (dk_at dksJ11_vectorizedHashCode_4 13 rfl rfl)
theorem dJ11_vectorizedHashCode_104 : decode cJ11_vectorizedHashCode 104 = .ok (.aload_n 0, 1) := dk_42 (dk_at dksJ11_vectorizedHashCode_4 14 rfl rfl)
theorem dJ11_vectorizedHashCode_105 : decode cJ11_vectorizedHashCode 105 = .ok (.checkcast 77, 3) := dk_192 0 77 (dk_at dksJ11_vectorizedHashCode_4 15 rfl rfl)
theorem dJ11_vectorizedHashCode_108 : decode cJ11_vectorizedHashCode 108 = .ok (.iload_n 1, 1) := dk_27 (dk_at dksJ11_vectorizedHashCode_4 18 rfl rfl)
theorem dJ11_vectorizedHashCode_109 : decode cJ11_vectorizedHashCode 109 = .ok (.iload_n 2, 1) := dk_28 (dk_at dksJ11_vectorizedHashCode_4 19 rfl rfl)
theorem dJ11_vectorizedHashCode_110 : decode cJ11_vectorizedHashCode 110 = .ok (.invokestatic 79, 3) := dk_184 0 79 (dk_at dksJ11_vectorizedHashCode_4 20 rfl rfl)
theorem dJ11_vectorizedHashCode_113 : decode cJ11_vectorizedHashCode 113 = .ok (.goto 44, 3) := dk_167 0 44 (dk_at dksJ11_vectorizedHashCode_5 0 rfl rfl)
theorem dJ11_vectorizedHashCode_116 : decode cJ11_vectorizedHashCode 116 = .ok (.iload_n 3, 1) := dk_29 (dk_at dksJ11_vectorizedHashCode_5 3 rfl rfl)
theorem dJ11_vectorizedHashCode_117 : decode cJ11_vectorizedHashCode 117 = .ok (.aload_n 0, 1) := dk_42 (dk_at dksJ11_vectorizedHashCode_5 4 rfl rfl)
theorem dJ11_vectorizedHashCode_118 : decode cJ11_vectorizedHashCode 118 = .ok (.checkcast 82, 3) := dk_192 0 82 (dk_at dksJ11_vectorizedHashCode_5 5 rfl rfl)
theorem dJ11_vectorizedHashCode_121 : decode cJ11_vectorizedHashCode 121 = .ok (.iload_n 1, 1) := dk_27 (dk_at dksJ11_vectorizedHashCode_5 8 rfl rfl)
theorem dJ11_vectorizedHashCode_122 : decode cJ11_vectorizedHashCode 122 = .ok (.iload_n 2, 1) := dk_28 (dk_at dksJ11_vectorizedHashCode_5 9 rfl rfl)
theorem dJ11_vectorizedHashCode_123 : decode cJ11_vectorizedHashCode 123 = .ok (.invokestatic 84, 3) := dk_184 0 84 (dk_at dksJ11_vectorizedHashCode_5 10 rfl rfl)
theorem dJ11_vectorizedHashCode_126 : decode cJ11_vectorizedHashCode 126 = .ok (.goto 31, 3) := dk_167 0 31 (dk_at dksJ11_vectorizedHashCode_5 13 rfl rfl)
theorem dJ11_vectorizedHashCode_129 : decode cJ11_vectorizedHashCode 129 = .ok (.new 87, 3) := dk_187 0 87 (dk_at dksJ11_vectorizedHashCode_5 16 rfl rfl)
theorem dJ11_vectorizedHashCode_132 : decode cJ11_vectorizedHashCode 132 = .ok (.dup, 1) := dk_89 (dk_at dksJ11_vectorizedHashCode_5 19 rfl rfl)
theorem dJ11_vectorizedHashCode_133 : decode cJ11_vectorizedHashCode 133 = .ok (.new 89, 3) := dk_187 0 89 (dk_at dksJ11_vectorizedHashCode_5 20 rfl rfl)
theorem dJ11_vectorizedHashCode_136 : decode cJ11_vectorizedHashCode 136 = .ok (.dup, 1) := dk_89 (dk_at dksJ11_vectorizedHashCode_5 23 rfl rfl)
theorem dJ11_vectorizedHashCode_137 : decode cJ11_vectorizedHashCode 137 = .ok (.invokespecial 91, 3) := dk_183 0 91 (dk_at dksJ11_vectorizedHashCode_6 0 rfl rfl)
theorem dJ11_vectorizedHashCode_140 : decode cJ11_vectorizedHashCode 140 = .ok (.ldc 92, 2) := dk_18 92 (dk_at dksJ11_vectorizedHashCode_6 3 rfl rfl)
theorem dJ11_vectorizedHashCode_142 : decode cJ11_vectorizedHashCode 142 = .ok (.invokevirtual 94, 3) := dk_182 0 94 (dk_at dksJ11_vectorizedHashCode_6 5 rfl rfl)
theorem dJ11_vectorizedHashCode_145 : decode cJ11_vectorizedHashCode 145 = .ok (.iload 4, 2) := dk_21 4 (dk_at dksJ11_vectorizedHashCode_6 8 rfl rfl)
theorem dJ11_vectorizedHashCode_147 : decode cJ11_vectorizedHashCode 147 = .ok (.invokevirtual 98, 3) := dk_182 0 98 (dk_at dksJ11_vectorizedHashCode_6 10 rfl rfl)
theorem dJ11_vectorizedHashCode_150 : decode cJ11_vectorizedHashCode 150 = .ok (.invokevirtual 101, 3) := dk_182 0 101 (dk_at dksJ11_vectorizedHashCode_6 13 rfl rfl)
theorem dJ11_vectorizedHashCode_153 : decode cJ11_vectorizedHashCode 153 = .ok (.invokespecial 105, 3) := dk_183 0 105 (dk_at dksJ11_vectorizedHashCode_6 16 rfl rfl)
theorem dJ11_vectorizedHashCode_156 : decode cJ11_vectorizedHashCode 156 = .ok (.athrow, 1) := dk_191 (dk_at dksJ11_vectorizedHashCode_6 19 rfl rfl)
theorem dJ11_vectorizedHashCode_157 : decode cJ11_vectorizedHashCode 157 = .ok (.ireturn, 1) := dk_172 (dk_at dksJ11_vectorizedHashCode_6 20 rfl rfl)
def dkwJ11_signedHashCode_1 : List UInt8 := [17, 0, 255, 126, 96, 59, 132, 5, 1, 167, 255, 232, 26, 172]
abbrev dktJ11_signedHashCode_1 : List UInt8 := dkwJ11_signedHashCode_1 ++ []
def dkwJ11_signedHashCode_0 : List UInt8 := [28, 29, 96, 54, 4, 28, 54, 5, 21, 5, 21, 4, 162, 0, 23, 16, 31, 26, 104, 43, 21, 5, 51]
abbrev dktJ11_signedHashCode_0 : List UInt8 := dkwJ11_signedHashCode_0 ++ dktJ11_signedHashCode_1
theorem dksJ11_signedHashCode_0 : cJ11_signedHashCode.data.toList.drop 0 = dktJ11_signedHashCode_0 := by decide +kernel
theorem dksJ11_signedHashCode_1 : cJ11_signedHashCode.data.toList.drop 23 = dktJ11_signedHashCode_1 := dk_seg dksJ11_signedHashCode_0 23 rfl rfl
theorem dJ11_signedHashCode_0 : decode cJ11_signedHashCode 0 = .ok (.iload_n 2, 1) := dk_28 (dk_at dksJ11_signedHashCode_0 0 rfl rfl)
theorem dJ11_signedHashCode_1 : decode cJ11_signedHashCode 1 = .ok (.iload_n 3, 1) := dk_29 (dk_at dksJ11_signedHashCode_0 1 rfl rfl)
theorem dJ11_signedHashCode_2 : decode cJ11_signedHashCode 2 = .ok (.iadd, 1) := dk_96 (dk_at dksJ11_signedHashCode_0 2 rfl rfl)
theorem dJ11_signedHashCode_3 : decode cJ11_signedHashCode 3 = .ok (.istore 4, 2) := dk_54 4 (dk_at dksJ11_signedHashCode_0 3 rfl rfl)
theorem dJ11_signedHashCode_5 : decode cJ11_signedHashCode 5 = .ok (.iload_n 2, 1) := dk_28 (dk_at dksJ11_signedHashCode_0 5 rfl rfl)
theorem dJ11_signedHashCode_6 : decode cJ11_signedHashCode 6 = .ok (.istore 5, 2) := dk_54 5 (dk_at dksJ11_signedHashCode_0 6 rfl rfl)
theorem dJ11_signedHashCode_8 : decode cJ11_signedHashCode 8 = .ok (.iload 5, 2) := dk_21 5 (dk_at dksJ11_signedHashCode_0 8 rfl rfl)
theorem dJ11_signedHashCode_10 : decode cJ11_signedHashCode 10 = .ok (.iload 4, 2) := dk_21 4 (dk_at dksJ11_signedHashCode_0 10 rfl rfl)
theorem dJ11_signedHashCode_12 : decode cJ11_signedHashCode 12 = .ok (.if_icmp .ge 23, 3) := dk_162 0 23 (dk_at dksJ11_signedHashCode_0 12 rfl rfl)
theorem dJ11_signedHashCode_15 : decode cJ11_signedHashCode 15 = .ok (.bipush 31, 2) := dk_16 31 (dk_at dksJ11_signedHashCode_0 15 rfl rfl)
theorem dJ11_signedHashCode_17 : decode cJ11_signedHashCode 17 = .ok (.iload_n 0, 1) := dk_26 (dk_at dksJ11_signedHashCode_0 17 rfl rfl)
theorem dJ11_signedHashCode_18 : decode cJ11_signedHashCode 18 = .ok (.imul, 1) := dk_104 (dk_at dksJ11_signedHashCode_0 18 rfl rfl)
theorem dJ11_signedHashCode_19 : decode cJ11_signedHashCode 19 = .ok (.aload_n 1, 1) := dk_43 (dk_at dksJ11_signedHashCode_0 19 rfl rfl)
theorem dJ11_signedHashCode_20 : decode cJ11_signedHashCode 20 = .ok (.iload 5, 2) := dk_21 5 (dk_at dksJ11_signedHashCode_0 20 rfl rfl)
theorem dJ11_signedHashCode_22 : decode cJ11_signedHashCode 22 = .ok (.baload, 1) := dk_51 (dk_at dksJ11_signedHashCode_0 22 rfl rfl)
theorem dJ11_signedHashCode_23 : decode cJ11_signedHashCode 23 = .ok (.sipush 255, 3) := dk_17 0 255 (dk_at dksJ11_signedHashCode_1 0 rfl rfl)
theorem dJ11_signedHashCode_26 : decode cJ11_signedHashCode 26 = .ok (.iand, 1) := dk_126 (dk_at dksJ11_signedHashCode_1 3 rfl rfl)
theorem dJ11_signedHashCode_27 : decode cJ11_signedHashCode 27 = .ok (.iadd, 1) := dk_96 (dk_at dksJ11_signedHashCode_1 4 rfl rfl)
theorem dJ11_signedHashCode_28 : decode cJ11_signedHashCode 28 = .ok (.istore_n 0, 1) := dk_59 (dk_at dksJ11_signedHashCode_1 5 rfl rfl)
theorem dJ11_signedHashCode_29 : decode cJ11_signedHashCode 29 = .ok (.iinc 5 1, 3) := dk_132 5 1 (dk_at dksJ11_signedHashCode_1 6 rfl rfl)
theorem dJ11_signedHashCode_32 : decode cJ11_signedHashCode 32 = .ok (.goto (-24), 3) := dk_167 255 232 (dk_at dksJ11_signedHashCode_1 9 rfl rfl)
theorem dJ11_signedHashCode_35 : decode cJ11_signedHashCode 35 = .ok (.iload_n 0, 1) := dk_26 (dk_at dksJ11_signedHashCode_1 12 rfl rfl)
theorem dJ11_signedHashCode_36 : decode cJ11_signedHashCode 36 = .ok (.ireturn, 1) := dk_172 (dk_at dksJ11_signedHashCode_1 13 rfl rfl)
def dkwJ11_hashCode_1 : List UInt8 := [59, 132, 5, 1, 167, 255, 236, 26, 172]
abbrev dktJ11_hashCode_1 : List UInt8 := dkwJ11_hashCode_1 ++ []
def dkwJ11_hashCode_0 : List UInt8 := [28, 29, 96, 54, 4, 28, 54, 5, 21, 5, 21, 4, 162, 0, 19, 16, 31, 26, 104, 43, 21, 5, 52, 96]
abbrev dktJ11_hashCode_0 : List UInt8 := dkwJ11_hashCode_0 ++ dktJ11_hashCode_1
theorem dksJ11_hashCode_0 : cJ11_hashCode.data.toList.drop 0 = dktJ11_hashCode_0 := by decide +kernel
theorem dksJ11_hashCode_1 : cJ11_hashCode.data.toList.drop 24 = dktJ11_hashCode_1 := dk_seg dksJ11_hashCode_0 24 rfl rfl
theorem dJ11_hashCode_0 : decode cJ11_hashCode 0 = .ok (.iload_n 2, 1) := dk_28 (dk_at dksJ11_hashCode_0 0 rfl rfl)
theorem dJ11_hashCode_1 : decode cJ11_hashCode 1 = .ok (.iload_n 3, 1) := dk_29 (dk_at dksJ11_hashCode_0 1 rfl rfl)
theorem dJ11_hashCode_2 : decode cJ11_hashCode 2 = .ok (.iadd, 1) := dk_96 (dk_at dksJ11_hashCode_0 2 rfl rfl)
theorem dJ11_hashCode_3 : decode cJ11_hashCode 3 = .ok (.istore 4, 2) := dk_54 4 (dk_at dksJ11_hashCode_0 3 rfl rfl)
theorem dJ11_hashCode_5 : decode cJ11_hashCode 5 = .ok (.iload_n 2, 1) := dk_28 (dk_at dksJ11_hashCode_0 5 rfl rfl)
theorem dJ11_hashCode_6 : decode cJ11_hashCode 6 = .ok (.istore 5, 2) := dk_54 5 (dk_at dksJ11_hashCode_0 6 rfl rfl)
theorem dJ11_hashCode_8 : decode cJ11_hashCode 8 = .ok (.iload 5, 2) := dk_21 5 (dk_at dksJ11_hashCode_0 8 rfl rfl)
theorem dJ11_hashCode_10 : decode cJ11_hashCode 10 = .ok (.iload 4, 2) := dk_21 4 (dk_at dksJ11_hashCode_0 10 rfl rfl)
theorem dJ11_hashCode_12 : decode cJ11_hashCode 12 = .ok (.if_icmp .ge 19, 3) := dk_162 0 19 (dk_at dksJ11_hashCode_0 12 rfl rfl)
theorem dJ11_hashCode_15 : decode cJ11_hashCode 15 = .ok (.bipush 31, 2) := dk_16 31 (dk_at dksJ11_hashCode_0 15 rfl rfl)
theorem dJ11_hashCode_17 : decode cJ11_hashCode 17 = .ok (.iload_n 0, 1) := dk_26 (dk_at dksJ11_hashCode_0 17 rfl rfl)
theorem dJ11_hashCode_18 : decode cJ11_hashCode 18 = .ok (.imul, 1) := dk_104 (dk_at dksJ11_hashCode_0 18 rfl rfl)
theorem dJ11_hashCode_19 : decode cJ11_hashCode 19 = .ok (.aload_n 1, 1) := dk_43 (dk_at dksJ11_hashCode_0 19 rfl rfl)
theorem dJ11_hashCode_20 : decode cJ11_hashCode 20 = .ok (.iload 5, 2) := dk_21 5 (dk_at dksJ11_hashCode_0 20 rfl rfl)
theorem dJ11_hashCode_22 : decode cJ11_hashCode 22 = .ok (.caload, 1) := dk_52 (dk_at dksJ11_hashCode_0 22 rfl rfl)
theorem dJ11_hashCode_23 : decode cJ11_hashCode 23 = .ok (.iadd, 1) := dk_96 (dk_at dksJ11_hashCode_0 23 rfl rfl)
theorem dJ11_hashCode_24 : decode cJ11_hashCode 24 = .ok (.istore_n 0, 1) := dk_59 (dk_at dksJ11_hashCode_1 0 rfl rfl)
theorem dJ11_hashCode_25 : decode cJ11_hashCode 25 = .ok (.iinc 5 1, 3) := dk_132 5 1 (dk_at dksJ11_hashCode_1 1 rfl rfl)
theorem dJ11_hashCode_28 : decode cJ11_hashCode 28 = .ok (.goto (-20), 3) := dk_167 255 236 (dk_at dksJ11_hashCode_1 4 rfl rfl)
theorem dJ11_hashCode_31 : decode cJ11_hashCode 31 = .ok (.iload_n 0, 1) := dk_26 (dk_at dksJ11_hashCode_1 7 rfl rfl)
theorem dJ11_hashCode_32 : decode cJ11_hashCode 32 = .ok (.ireturn, 1) := dk_172 (dk_at dksJ11_hashCode_1 8 rfl rfl)
def dkwJ11_hashCode_2_1 : List UInt8 := [59, 132, 5, 1, 167, 255, 236, 26, 172]
abbrev dktJ11_hashCode_2_1 : List UInt8 := dkwJ11_hashCode_2_1 ++ []
def dkwJ11_hashCode_2_0 : List UInt8 := [28, 29, 96, 54, 4, 28, 54, 5, 21, 5, 21, 4, 162, 0, 19, 16, 31, 26, 104, 43, 21, 5, 51, 96]
abbrev dktJ11_hashCode_2_0 : List UInt8 := dkwJ11_hashCode_2_0 ++ dktJ11_hashCode_2_1
theorem dksJ11_hashCode_2_0 : cJ11_hashCode_2.data.toList.drop 0 = dktJ11_hashCode_2_0 := by decide +kernel
theorem dksJ11_hashCode_2_1 : cJ11_hashCode_2.data.toList.drop 24 = dktJ11_hashCode_2_1 := dk_seg dksJ11_hashCode_2_0 24 rfl rfl
theorem dJ11_hashCode_2_0 : decode cJ11_hashCode_2 0 = .ok (.iload_n 2, 1) := dk_28 (dk_at dksJ11_hashCode_2_0 0 rfl rfl)
theorem dJ11_hashCode_2_1 : decode cJ11_hashCode_2 1 = .ok (.iload_n 3, 1) := dk_29 (dk_at dksJ11_hashCode_2_0 1 rfl rfl)
theorem dJ11_hashCode_2_2 : decode cJ11_hashCode_2 2 = .ok (.iadd, 1) := dk_96 (dk_at dksJ11_hashCode_2_0 2 rfl rfl)
theorem dJ11_hashCode_2_3 : decode cJ11_hashCode_2 3 = .ok (.istore 4, 2) := dk_54 4 (dk_at dksJ11_hashCode_2_0 3 rfl rfl)
theorem dJ11_hashCode_2_5 : decode cJ11_hashCode_2 5 = .ok (.iload_n 2, 1) := dk_28 (dk_at dksJ11_hashCode_2_0 5 rfl rfl)
theorem dJ11_hashCode_2_6 : decode cJ11_hashCode_2 6 = .ok (.istore 5, 2) := dk_54 5 (dk_at dksJ11_hashCode_2_0 6 rfl rfl)
theorem dJ11_hashCode_2_8 : decode cJ11_hashCode_2 8 = .ok (.iload 5, 2) := dk_21 5 (dk_at dksJ11_hashCode_2_0 8 rfl rfl)
theorem dJ11_hashCode_2_10 : decode cJ11_hashCode_2 10 = .ok (.iload 4, 2) := dk_21 4 (dk_at dksJ11_hashCode_2_0 10 rfl rfl)
theorem dJ11_hashCode_2_12 : decode cJ11_hashCode_2 12 = .ok (.if_icmp .ge 19, 3) := dk_162 0 19 (dk_at dksJ11_hashCode_2_0 12 rfl rfl)
theorem dJ11_hashCode_2_15 : decode cJ11_hashCode_2 15 = .ok (.bipush 31, 2) := dk_16 31 (dk_at dksJ11_hashCode_2_0 15 rfl rfl)
theorem dJ11_hashCode_2_17 : decode cJ11_hashCode_2 17 = .ok (.iload_n 0, 1) := dk_26 (dk_at dksJ11_hashCode_2_0 17 rfl rfl)
theorem dJ11_hashCode_2_18 : decode cJ11_hashCode_2 18 = .ok (.imul, 1) := dk_104 (dk_at dksJ11_hashCode_2_0 18 rfl rfl)
theorem dJ11_hashCode_2_19 : decode cJ11_hashCode_2 19 = .ok (.aload_n 1, 1) := dk_43 (dk_at dksJ11_hashCode_2_0 19 rfl rfl)
theorem dJ11_hashCode_2_20 : decode cJ11_hashCode_2 20 = .ok (.iload 5, 2) := dk_21 5 (dk_at dksJ11_hashCode_2_0 20 rfl rfl)
theorem dJ11_hashCode_2_22 : decode cJ11_hashCode_2 22 = .ok (.baload, 1) := dk_51 (dk_at dksJ11_hashCode_2_0 22 rfl rfl)
theorem dJ11_hashCode_2_23 : decode cJ11_hashCode_2 23 = .ok (.iadd, 1) := dk_96 (dk_at dksJ11_hashCode_2_0 23 rfl rfl)
theorem dJ11_hashCode_2_24 : decode cJ11_hashCode_2 24 = .ok (.istore_n 0, 1) := dk_59 (dk_at dksJ11_hashCode_2_1 0 rfl rfl)
theorem dJ11_hashCode_2_25 : decode cJ11_hashCode_2 25 = .ok (.iinc 5 1, 3) := dk_132 5 1 (dk_at dksJ11_hashCode_2_1 1 rfl rfl)
theorem dJ11_hashCode_2_28 : decode cJ11_hashCode_2 28 = .ok (.goto (-20), 3) := dk_167 255 236 (dk_at dksJ11_hashCode_2_1 4 rfl rfl)
theorem dJ11_hashCode_2_31 : decode cJ11_hashCode_2 31 = .ok (.iload_n 0, 1) := dk_26 (dk_at dksJ11_hashCode_2_1 7 rfl rfl)
theorem dJ11_hashCode_2_32 : decode cJ11_hashCode_2 32 = .ok (.ireturn, 1) := dk_172 (dk_at dksJ11_hashCode_2_1 8 rfl rfl)
