set_option maxRecDepth 100000
def dkwX0_append_1 : List UInt8 := [172]
abbrev dktX0_append_1 : List UInt8 := dkwX0_append_1 ++ []
def dkwX0_append_0 : List UInt8 := [25, 6, 3, 42, 27, 28, 29, 21, 4, 21, 5, 182, 0, 7, 133, 80, 167, 0, 7, 58, 7, 4, 172, 3]
abbrev dktX0_append_0 : List UInt8 := dkwX0_append_0 ++ dktX0_append_1
theorem dksX0_append_0 : cX0_append.data.toList.drop 0 = dktX0_append_0 := by decide +kernel
theorem dksX0_append_1 : cX0_append.data.toList.drop 24 = dktX0_append_1 := dk_seg dksX0_append_0 24 rfl rfl
theorem dX0_append_0 : decode cX0_append 0 = .ok (.aload 6, 2) := dk_25 6 (dk_at dksX0_append_0 0 rfl rfl)
theorem dX0_append_2 : decode cX0_append 2 = .ok (.iconst 0, 1) := dk_3 (dk_at dksX0_append_0 2 rfl rfl)
theorem dX0_append_3 : decode cX0_append 3 = .ok (.aload_n 0, 1) := dk_42 (dk_at dksX0_append_0 3 rfl rfl)
theorem dX0_append_4 : decode cX0_append 4 = .ok (.iload_n 1, 1) := dk_27 (dk_at dksX0_append_0 4 rfl rfl)
theorem dX0_append_5 : decode cX0_append 5 = .ok (.iload_n 2, 1) := dk_28 (dk_at dksX0_append_0 5 rfl rfl)
theorem dX0_append_6 : decode cX0_append 6 = .ok (.iload_n 3, 1) := dk_29 (dk_at dksX0_append_0 6 rfl rfl)
theorem dX0_append_7 : decode cX0_append 7 = .ok (.iload 4, 2) := dk_21 4 (dk_at dksX0_append_0 7 rfl rfl)
theorem dX0_append_9 : decode cX0_append 9 = .ok (.iload 5, 2) := dk_21 5 (dk_at dksX0_append_0 9 rfl rfl)
theorem dX0_append_11 : decode cX0_append 11 = .ok (.invokevirtual 7, 3) := dk_182 0 7 (dk_at dksX0_append_0 11 rfl rfl)
theorem dX0_append_14 : decode cX0_append 14 = .ok (.i2l, 1) := dk_133 (dk_at dksX0_append_0 14 rfl rfl)
theorem dX0_append_15 : decode cX0_append 15 = .ok (.lastore, 1) := dk_80 (dk_at dksX0_append_0 15 rfl rfl)
theorem dX0_append_16 : decode cX0_append 16 = .ok (.goto 7, 3) := dk_167 0 7 (dk_at dksX0_append_0 16 rfl rfl)
theorem dX0_append_19 : decode cX0_append 19 = .ok (.astore 7, 2) := dk_58 7 (dk_at dksX0_append_0 19 rfl rfl)
theorem dX0_append_21 : decode cX0_append 21 = .ok (.iconst 1, 1) := dk_4 (dk_at dksX0_append_0 21 rfl rfl)
theorem dX0_append_22 : decode cX0_append 22 = .ok (.ireturn, 1) := dk_172 (dk_at dksX0_append_0 22 rfl rfl)
theorem dX0_append_23 : decode cX0_append 23 = .ok (.iconst 0, 1) := dk_3 (dk_at dksX0_append_0 23 rfl rfl)
theorem dX0_append_24 : decode cX0_append 24 = .ok (.ireturn, 1) := dk_172 (dk_at dksX0_append_1 0 rfl rfl)
def dkwX0_truncate_0 : List UInt8 := [44, 3, 42, 27, 182, 0, 15, 133, 80, 167, 0, 6, 78, 4, 172, 3, 172]
abbrev dktX0_truncate_0 : List UInt8 := dkwX0_truncate_0 ++ []
theorem dksX0_truncate_0 : cX0_truncate.data.toList.drop 0 = dktX0_truncate_0 := by decide +kernel
theorem dX0_truncate_0 : decode cX0_truncate 0 = .ok (.aload_n 2, 1) := dk_44 (dk_at dksX0_truncate_0 0 rfl rfl)
theorem dX0_truncate_1 : decode cX0_truncate 1 = .ok (.iconst 0, 1) := dk_3 (dk_at dksX0_truncate_0 1 rfl rfl)
theorem dX0_truncate_2 : decode cX0_truncate 2 = .ok (.aload_n 0, 1) := dk_42 (dk_at dksX0_truncate_0 2 rfl rfl)
theorem dX0_truncate_3 : decode cX0_truncate 3 = .ok (.iload_n 1, 1) := dk_27 (dk_at dksX0_truncate_0 3 rfl rfl)
theorem dX0_truncate_4 : decode cX0_truncate 4 = .ok (.invokevirtual 15, 3) := dk_182 0 15 (dk_at dksX0_truncate_0 4 rfl rfl)
theorem dX0_truncate_7 : decode cX0_truncate 7 = .ok (.i2l, 1) := dk_133 (dk_at dksX0_truncate_0 7 rfl rfl)
theorem dX0_truncate_8 : decode cX0_truncate 8 = .ok (.lastore, 1) := dk_80 (dk_at dksX0_truncate_0 8 rfl rfl)
theorem dX0_truncate_9 : decode cX0_truncate 9 = .ok (.goto 6, 3) := dk_167 0 6 (dk_at dksX0_truncate_0 9 rfl rfl)
theorem dX0_truncate_12 : decode cX0_truncate 12 = .ok (.astore_n 3, 1) := dk_78 (dk_at dksX0_truncate_0 12 rfl rfl)
theorem dX0_truncate_13 : decode cX0_truncate 13 = .ok (.iconst 1, 1) := dk_4 (dk_at dksX0_truncate_0 13 rfl rfl)
theorem dX0_truncate_14 : decode cX0_truncate 14 = .ok (.ireturn, 1) := dk_172 (dk_at dksX0_truncate_0 14 rfl rfl)
theorem dX0_truncate_15 : decode cX0_truncate 15 = .ok (.iconst 0, 1) := dk_3 (dk_at dksX0_truncate_0 15 rfl rfl)
theorem dX0_truncate_16 : decode cX0_truncate 16 = .ok (.ireturn, 1) := dk_172 (dk_at dksX0_truncate_0 16 rfl rfl)
def dkwX0_load_0 : List UInt8 := [43, 3, 42, 182, 0, 21, 133, 80, 167, 0, 6, 77, 4, 172, 3, 172]
abbrev dktX0_load_0 : List UInt8 := dkwX0_load_0 ++ []
theorem dksX0_load_0 : cX0_load.data.toList.drop 0 = dktX0_load_0 := by decide +kernel
theorem dX0_load_0 : decode cX0_load 0 = .ok (.aload_n 1, 1) := dk_43 (dk_at dksX0_load_0 0 rfl rfl)
theorem dX0_load_1 : decode cX0_load 1 = .ok (.iconst 0, 1) := dk_3 (dk_at dksX0_load_0 1 rfl rfl)
theorem dX0_load_2 : decode cX0_load 2 = .ok (.aload_n 0, 1) := dk_42 (dk_at dksX0_load_0 2 rfl rfl)
theorem dX0_load_3 : decode cX0_load 3 = .ok (.invokevirtual 21, 3) := dk_182 0 21 (dk_at dksX0_load_0 3 rfl rfl)
theorem dX0_load_6 : decode cX0_load 6 = .ok (.i2l, 1) := dk_133 (dk_at dksX0_load_0 6 rfl rfl)
theorem dX0_load_7 : decode cX0_load 7 = .ok (.lastore, 1) := dk_80 (dk_at dksX0_load_0 7 rfl rfl)
theorem dX0_load_8 : decode cX0_load 8 = .ok (.goto 6, 3) := dk_167 0 6 (dk_at dksX0_load_0 8 rfl rfl)
theorem dX0_load_11 : decode cX0_load 11 = .ok (.astore_n 2, 1) := dk_77 (dk_at dksX0_load_0 11 rfl rfl)
theorem dX0_load_12 : decode cX0_load 12 = .ok (.iconst 1, 1) := dk_4 (dk_at dksX0_load_0 12 rfl rfl)
theorem dX0_load_13 : decode cX0_load 13 = .ok (.ireturn, 1) := dk_172 (dk_at dksX0_load_0 13 rfl rfl)
theorem dX0_load_14 : decode cX0_load 14 = .ok (.iconst 0, 1) := dk_3 (dk_at dksX0_load_0 14 rfl rfl)
theorem dX0_load_15 : decode cX0_load 15 = .ok (.ireturn, 1) := dk_172 (dk_at dksX0_load_0 15 rfl rfl)
def dkwX0_find_0 : List UInt8 := [43, 3, 42, 182, 0, 27, 133, 80, 167, 0, 6, 77, 4, 172, 3, 172]
abbrev dktX0_find_0 : List UInt8 := dkwX0_find_0 ++ []
theorem dksX0_find_0 : cX0_find.data.toList.drop 0 = dktX0_find_0 := by decide +kernel
theorem dX0_find_0 : decode cX0_find 0 = .ok (.aload_n 1, 1) := dk_43 (dk_at dksX0_find_0 0 rfl rfl)
theorem dX0_find_1 : decode cX0_find 1 = .ok (.iconst 0, 1) := dk_3 (dk_at dksX0_find_0 1 rfl rfl)
theorem dX0_find_2 : decode cX0_find 2 = .ok (.aload_n 0, 1) := dk_42 (dk_at dksX0_find_0 2 rfl rfl)
theorem dX0_find_3 : decode cX0_find 3 = .ok (.invokevirtual 27, 3) := dk_182 0 27 (dk_at dksX0_find_0 3 rfl rfl)
theorem dX0_find_6 : decode cX0_find 6 = .ok (.i2l, 1) := dk_133 (dk_at dksX0_find_0 6 rfl rfl)
theorem dX0_find_7 : decode cX0_find 7 = .ok (.lastore, 1) := dk_80 (dk_at dksX0_find_0 7 rfl rfl)
theorem dX0_find_8 : decode cX0_find 8 = .ok (.goto 6, 3) := dk_167 0 6 (dk_at dksX0_find_0 8 rfl rfl)
theorem dX0_find_11 : decode cX0_find 11 = .ok (.astore_n 2, 1) := dk_77 (dk_at dksX0_find_0 11 rfl rfl)
theorem dX0_find_12 : decode cX0_find 12 = .ok (.iconst 1, 1) := dk_4 (dk_at dksX0_find_0 12 rfl rfl)
theorem dX0_find_13 : decode cX0_find 13 = .ok (.ireturn, 1) := dk_172 (dk_at dksX0_find_0 13 rfl rfl)
theorem dX0_find_14 : decode cX0_find 14 = .ok (.iconst 0, 1) := dk_3 (dk_at dksX0_find_0 14 rfl rfl)
theorem dX0_find_15 : decode cX0_find 15 = .ok (.ireturn, 1) := dk_172 (dk_at dksX0_find_0 15 rfl rfl)
def dkwX0_count_0 : List UInt8 := [44, 3, 42, 27, 182, 0, 32, 133, 80, 167, 0, 6, 78, 4, 172, 3, 172]
abbrev dktX0_count_0 : List UInt8 := dkwX0_count_0 ++ []
theorem dksX0_count_0 : cX0_count.data.toList.drop 0 = dktX0_count_0 := by decide +kernel
theorem dX0_count_0 : decode cX0_count 0 = .ok (.aload_n 2, 1) := dk_44 (dk_at dksX0_count_0 0 rfl rfl)
theorem dX0_count_1 : decode cX0_count 1 = .ok (.iconst 0, 1) := dk_3 (dk_at dksX0_count_0 1 rfl rfl)
theorem dX0_count_2 : decode cX0_count 2 = .ok (.aload_n 0, 1) := dk_42 (dk_at dksX0_count_0 2 rfl rfl)
theorem dX0_count_3 : decode cX0_count 3 = .ok (.iload_n 1, 1) := dk_27 (dk_at dksX0_count_0 3 rfl rfl)
theorem dX0_count_4 : decode cX0_count 4 = .ok (.invokevirtual 32, 3) := dk_182 0 32 (dk_at dksX0_count_0 4 rfl rfl)
theorem dX0_count_7 : decode cX0_count 7 = .ok (.i2l, 1) := dk_133 (dk_at dksX0_count_0 7 rfl rfl)
theorem dX0_count_8 : decode cX0_count 8 = .ok (.lastore, 1) := dk_80 (dk_at dksX0_count_0 8 rfl rfl)
theorem dX0_count_9 : decode cX0_count 9 = .ok (.goto 6, 3) := dk_167 0 6 (dk_at dksX0_count_0 9 rfl rfl)
theorem dX0_count_12 : decode cX0_count 12 = .ok (.astore_n 3, 1) := dk_78 (dk_at dksX0_count_0 12 rfl rfl)
theorem dX0_count_13 : decode cX0_count 13 = .ok (.iconst 1, 1) := dk_4 (dk_at dksX0_count_0 13 rfl rfl)
theorem dX0_count_14 : decode cX0_count 14 = .ok (.ireturn, 1) := dk_172 (dk_at dksX0_count_0 14 rfl rfl)
theorem dX0_count_15 : decode cX0_count 15 = .ok (.iconst 0, 1) := dk_3 (dk_at dksX0_count_0 15 rfl rfl)
theorem dX0_count_16 : decode cX0_count 16 = .ok (.ireturn, 1) := dk_172 (dk_at dksX0_count_0 16 rfl rfl)
def dkwX0_outlet_0 : List UInt8 := [45, 3, 42, 27, 28, 182, 0, 35, 133, 80, 167, 0, 11, 58, 4, 4, 172, 58, 4, 5, 172, 3, 172]
abbrev dktX0_outlet_0 : List UInt8 := dkwX0_outlet_0 ++ []
theorem dksX0_outlet_0 : cX0_outlet.data.toList.drop 0 = dktX0_outlet_0 := by decide +kernel
theorem dX0_outlet_0 : decode cX0_outlet 0 = .ok (.aload_n 3, 1) := dk_45 (dk_at dksX0_outlet_0 0 rfl rfl)
theorem dX0_outlet_1 : decode cX0_outlet 1 = .ok (.iconst 0, 1) := dk_3 (dk_at dksX0_outlet_0 1 rfl rfl)
theorem dX0_outlet_2 : decode cX0_outlet 2 = .ok (.aload_n 0, 1) := dk_42 (dk_at dksX0_outlet_0 2 rfl rfl)
theorem dX0_outlet_3 : decode cX0_outlet 3 = .ok (.iload_n 1, 1) := dk_27 (dk_at dksX0_outlet_0 3 rfl rfl)
theorem dX0_outlet_4 : decode cX0_outlet 4 = .ok (.iload_n 2, 1) := dk_28 (dk_at dksX0_outlet_0 4 rfl rfl)
theorem dX0_outlet_5 : decode cX0_outlet 5 = .ok (.invokevirtual 35, 3) := dk_182 0 35 (dk_at dksX0_outlet_0 5 rfl rfl)
theorem dX0_outlet_8 : decode cX0_outlet 8 = .ok (.i2l, 1) := dk_133 (dk_at dksX0_outlet_0 8 rfl rfl)
theorem dX0_outlet_9 : decode cX0_outlet 9 = .ok (.lastore, 1) := dk_80 (dk_at dksX0_outlet_0 9 rfl rfl)
theorem dX0_outlet_10 : decode cX0_outlet 10 = .ok (.goto 11, 3) := dk_167 0 11 (dk_at dksX0_outlet_0 10 rfl rfl)
theorem dX0_outlet_13 : decode cX0_outlet 13 = .ok (.astore 4, 2) := dk_58 4 (dk_at dksX0_outlet_0 13 rfl rfl)
theorem dX0_outlet_15 : decode cX0_outlet 15 = .ok (.iconst 1, 1) := dk_4 (dk_at dksX0_outlet_0 15 rfl rfl)
theorem dX0_outlet_16 : decode cX0_outlet 16 = .ok (.ireturn, 1) := dk_172 (dk_at dksX0_outlet_0 16 rfl rfl)
theorem dX0_outlet_17 : decode cX0_outlet 17 = .ok (.astore 4, 2) := dk_58 4 (dk_at dksX0_outlet_0 17 rfl rfl)
theorem dX0_outlet_19 : decode cX0_outlet 19 = .ok (.iconst 2, 1) := dk_5 (dk_at dksX0_outlet_0 19 rfl rfl)
theorem dX0_outlet_20 : decode cX0_outlet 20 = .ok (.ireturn, 1) := dk_172 (dk_at dksX0_outlet_0 20 rfl rfl)
theorem dX0_outlet_21 : decode cX0_outlet 21 = .ok (.iconst 0, 1) := dk_3 (dk_at dksX0_outlet_0 21 rfl rfl)
theorem dX0_outlet_22 : decode cX0_outlet 22 = .ok (.ireturn, 1) := dk_172 (dk_at dksX0_outlet_0 22 rfl rfl)
def dkwX0_known_0 : List UInt8 := [45, 3, 42, 27, 28, 182, 0, 39, 133, 80, 167, 0, 11, 58, 4, 4, 172, 58, 4, 5, 172, 3, 172]
abbrev dktX0_known_0 : List UInt8 := dkwX0_known_0 ++ []
theorem dksX0_known_0 : cX0_known.data.toList.drop 0 = dktX0_known_0 := by decide +kernel
theorem dX0_known_0 : decode cX0_known 0 = .ok (.aload_n 3, 1) := dk_45 (dk_at dksX0_known_0 0 rfl rfl)
theorem dX0_known_1 : decode cX0_known 1 = .ok (.iconst 0, 1) := dk_3 (dk_at dksX0_known_0 1 rfl rfl)
theorem dX0_known_2 : decode cX0_known 2 = .ok (.aload_n 0, 1) := dk_42 (dk_at dksX0_known_0 2 rfl rfl)
theorem dX0_known_3 : decode cX0_known 3 = .ok (.iload_n 1, 1) := dk_27 (dk_at dksX0_known_0 3 rfl rfl)
theorem dX0_known_4 : decode cX0_known 4 = .ok (.iload_n 2, 1) := dk_28 (dk_at dksX0_known_0 4 rfl rfl)
theorem dX0_known_5 : decode cX0_known 5 = .ok (.invokevirtual 39, 3) := dk_182 0 39 (dk_at dksX0_known_0 5 rfl rfl)
theorem dX0_known_8 : decode cX0_known 8 = .ok (.i2l, 1) := dk_133 (dk_at dksX0_known_0 8 rfl rfl)
theorem dX0_known_9 : decode cX0_known 9 = .ok (.lastore, 1) := dk_80 (dk_at dksX0_known_0 9 rfl rfl)
theorem dX0_known_10 : decode cX0_known 10 = .ok (.goto 11, 3) := dk_167 0 11 (dk_at dksX0_known_0 10 rfl rfl)
theorem dX0_known_13 : decode cX0_known 13 = .ok (.astore 4, 2) := dk_58 4 (dk_at dksX0_known_0 13 rfl rfl)
theorem dX0_known_15 : decode cX0_known 15 = .ok (.iconst 1, 1) := dk_4 (dk_at dksX0_known_0 15 rfl rfl)
theorem dX0_known_16 : decode cX0_known 16 = .ok (.ireturn, 1) := dk_172 (dk_at dksX0_known_0 16 rfl rfl)
theorem dX0_known_17 : decode cX0_known 17 = .ok (.astore 4, 2) := dk_58 4 (dk_at dksX0_known_0 17 rfl rfl)
theorem dX0_known_19 : decode cX0_known 19 = .ok (.iconst 2, 1) := dk_5 (dk_at dksX0_known_0 19 rfl rfl)
theorem dX0_known_20 : decode cX0_known 20 = .ok (.ireturn, 1) := dk_172 (dk_at dksX0_known_0 20 rfl rfl)
theorem dX0_known_21 : decode cX0_known 21 = .ok (.iconst 0, 1) := dk_3 (dk_at dksX0_known_0 21 rfl rfl)
theorem dX0_known_22 : decode cX0_known 22 = .ok (.ireturn, 1) := dk_172 (dk_at dksX0_known_0 22 rfl rfl)
def dkwX0_needs_0 : List UInt8 := [45, 3, 42, 27, 28, 182, 0, 42, 133, 80, 167, 0, 7, 58, 4, 4, 172, 3, 172]
abbrev dktX0_needs_0 : List UInt8 := dkwX0_needs_0 ++ []
theorem dksX0_needs_0 : cX0_needs.data.toList.drop 0 = dktX0_needs_0 := by decide +kernel
theorem dX0_needs_0 : decode cX0_needs 0 = .ok (.aload_n 3, 1) := dk_45 (dk_at dksX0_needs_0 0 rfl rfl)
theorem dX0_needs_1 : decode cX0_needs 1 = .ok (.iconst 0, 1) := dk_3 (dk_at dksX0_needs_0 1 rfl rfl)
theorem dX0_needs_2 : decode cX0_needs 2 = .ok (.aload_n 0, 1) := dk_42 (dk_at dksX0_needs_0 2 rfl rfl)
theorem dX0_needs_3 : decode cX0_needs 3 = .ok (.iload_n 1, 1) := dk_27 (dk_at dksX0_needs_0 3 rfl rfl)
theorem dX0_needs_4 : decode cX0_needs 4 = .ok (.iload_n 2, 1) := dk_28 (dk_at dksX0_needs_0 4 rfl rfl)
theorem dX0_needs_5 : decode cX0_needs 5 = .ok (.invokevirtual 42, 3) := dk_182 0 42 (dk_at dksX0_needs_0 5 rfl rfl)
theorem dX0_needs_8 : decode cX0_needs 8 = .ok (.i2l, 1) := dk_133 (dk_at dksX0_needs_0 8 rfl rfl)
theorem dX0_needs_9 : decode cX0_needs 9 = .ok (.lastore, 1) := dk_80 (dk_at dksX0_needs_0 9 rfl rfl)
theorem dX0_needs_10 : decode cX0_needs 10 = .ok (.goto 7, 3) := dk_167 0 7 (dk_at dksX0_needs_0 10 rfl rfl)
theorem dX0_needs_13 : decode cX0_needs 13 = .ok (.astore 4, 2) := dk_58 4 (dk_at dksX0_needs_0 13 rfl rfl)
theorem dX0_needs_15 : decode cX0_needs 15 = .ok (.iconst 1, 1) := dk_4 (dk_at dksX0_needs_0 15 rfl rfl)
theorem dX0_needs_16 : decode cX0_needs 16 = .ok (.ireturn, 1) := dk_172 (dk_at dksX0_needs_0 16 rfl rfl)
theorem dX0_needs_17 : decode cX0_needs 17 = .ok (.iconst 0, 1) := dk_3 (dk_at dksX0_needs_0 17 rfl rfl)
theorem dX0_needs_18 : decode cX0_needs 18 = .ok (.ireturn, 1) := dk_172 (dk_at dksX0_needs_0 18 rfl rfl)
def dkwX0_outletsWith_0 : List UInt8 := [45, 3, 42, 27, 28, 182, 0, 46, 133, 80, 167, 0, 7, 58, 4, 4, 172, 3, 172]
abbrev dktX0_outletsWith_0 : List UInt8 := dkwX0_outletsWith_0 ++ []
theorem dksX0_outletsWith_0 : cX0_outletsWith.data.toList.drop 0 = dktX0_outletsWith_0 := by decide +kernel
theorem dX0_outletsWith_0 : decode cX0_outletsWith 0 = .ok (.aload_n 3, 1) := dk_45 (dk_at dksX0_outletsWith_0 0 rfl rfl)
theorem dX0_outletsWith_1 : decode cX0_outletsWith 1 = .ok (.iconst 0, 1) := dk_3 (dk_at dksX0_outletsWith_0 1 rfl rfl)
theorem dX0_outletsWith_2 : decode cX0_outletsWith 2 = .ok (.aload_n 0, 1) := dk_42 (dk_at dksX0_outletsWith_0 2 rfl rfl)
theorem dX0_outletsWith_3 : decode cX0_outletsWith 3 = .ok (.iload_n 1, 1) := dk_27 (dk_at dksX0_outletsWith_0 3 rfl rfl)
theorem dX0_outletsWith_4 : decode cX0_outletsWith 4 = .ok (.iload_n 2, 1) := dk_28 (dk_at dksX0_outletsWith_0 4 rfl rfl)
theorem dX0_outletsWith_5 : decode cX0_outletsWith 5 = .ok (.invokevirtual 46, 3) := dk_182 0 46 (dk_at dksX0_outletsWith_0 5 rfl rfl)
theorem dX0_outletsWith_8 : decode cX0_outletsWith 8 = .ok (.i2l, 1) := dk_133 (dk_at dksX0_outletsWith_0 8 rfl rfl)
theorem dX0_outletsWith_9 : decode cX0_outletsWith 9 = .ok (.lastore, 1) := dk_80 (dk_at dksX0_outletsWith_0 9 rfl rfl)
theorem dX0_outletsWith_10 : decode cX0_outletsWith 10 = .ok (.goto 7, 3) := dk_167 0 7 (dk_at dksX0_outletsWith_0 10 rfl rfl)
theorem dX0_outletsWith_13 : decode cX0_outletsWith 13 = .ok (.astore 4, 2) := dk_58 4 (dk_at dksX0_outletsWith_0 13 rfl rfl)
theorem dX0_outletsWith_15 : decode cX0_outletsWith 15 = .ok (.iconst 1, 1) := dk_4 (dk_at dksX0_outletsWith_0 15 rfl rfl)
theorem dX0_outletsWith_16 : decode cX0_outletsWith 16 = .ok (.ireturn, 1) := dk_172 (dk_at dksX0_outletsWith_0 16 rfl rfl)
theorem dX0_outletsWith_17 : decode cX0_outletsWith 17 = .ok (.iconst 0, 1) := dk_3 (dk_at dksX0_outletsWith_0 17 rfl rfl)
theorem dX0_outletsWith_18 : decode cX0_outletsWith 18 = .ok (.ireturn, 1) := dk_172 (dk_at dksX0_outletsWith_0 18 rfl rfl)
def dkwX0_load_2_0 : List UInt8 := [44, 3, 42, 27, 182, 0, 49, 133, 80, 167, 0, 6, 78, 4, 172, 3, 172]
abbrev dktX0_load_2_0 : List UInt8 := dkwX0_load_2_0 ++ []
theorem dksX0_load_2_0 : cX0_load_2.data.toList.drop 0 = dktX0_load_2_0 := by decide +kernel
theorem dX0_load_2_0 : decode cX0_load_2 0 = .ok (.aload_n 2, 1) := dk_44 (dk_at dksX0_load_2_0 0 rfl rfl)
theorem dX0_load_2_1 : decode cX0_load_2 1 = .ok (.iconst 0, 1) := dk_3 (dk_at dksX0_load_2_0 1 rfl rfl)
theorem dX0_load_2_2 : decode cX0_load_2 2 = .ok (.aload_n 0, 1) := dk_42 (dk_at dksX0_load_2_0 2 rfl rfl)
theorem dX0_load_2_3 : decode cX0_load_2 3 = .ok (.iload_n 1, 1) := dk_27 (dk_at dksX0_load_2_0 3 rfl rfl)
theorem dX0_load_2_4 : decode cX0_load_2 4 = .ok (.invokevirtual 49, 3) := dk_182 0 49 (dk_at dksX0_load_2_0 4 rfl rfl)
theorem dX0_load_2_7 : decode cX0_load_2 7 = .ok (.i2l, 1) := dk_133 (dk_at dksX0_load_2_0 7 rfl rfl)
theorem dX0_load_2_8 : decode cX0_load_2 8 = .ok (.lastore, 1) := dk_80 (dk_at dksX0_load_2_0 8 rfl rfl)
theorem dX0_load_2_9 : decode cX0_load_2 9 = .ok (.goto 6, 3) := dk_167 0 6 (dk_at dksX0_load_2_0 9 rfl rfl)
theorem dX0_load_2_12 : decode cX0_load_2 12 = .ok (.astore_n 3, 1) := dk_78 (dk_at dksX0_load_2_0 12 rfl rfl)
theorem dX0_load_2_13 : decode cX0_load_2 13 = .ok (.iconst 1, 1) := dk_4 (dk_at dksX0_load_2_0 13 rfl rfl)
theorem dX0_load_2_14 : decode cX0_load_2 14 = .ok (.ireturn, 1) := dk_172 (dk_at dksX0_load_2_0 14 rfl rfl)
theorem dX0_load_2_15 : decode cX0_load_2 15 = .ok (.iconst 0, 1) := dk_3 (dk_at dksX0_load_2_0 15 rfl rfl)
theorem dX0_load_2_16 : decode cX0_load_2 16 = .ok (.ireturn, 1) := dk_172 (dk_at dksX0_load_2_0 16 rfl rfl)
def dkwX0_message_0 : List UInt8 := [45, 3, 42, 27, 28, 182, 0, 51, 133, 80, 167, 0, 11, 58, 4, 4, 172, 58, 4, 5, 172, 3, 172]
abbrev dktX0_message_0 : List UInt8 := dkwX0_message_0 ++ []
theorem dksX0_message_0 : cX0_message.data.toList.drop 0 = dktX0_message_0 := by decide +kernel
theorem dX0_message_0 : decode cX0_message 0 = .ok (.aload_n 3, 1) := dk_45 (dk_at dksX0_message_0 0 rfl rfl)
theorem dX0_message_1 : decode cX0_message 1 = .ok (.iconst 0, 1) := dk_3 (dk_at dksX0_message_0 1 rfl rfl)
theorem dX0_message_2 : decode cX0_message 2 = .ok (.aload_n 0, 1) := dk_42 (dk_at dksX0_message_0 2 rfl rfl)
theorem dX0_message_3 : decode cX0_message 3 = .ok (.iload_n 1, 1) := dk_27 (dk_at dksX0_message_0 3 rfl rfl)
theorem dX0_message_4 : decode cX0_message 4 = .ok (.iload_n 2, 1) := dk_28 (dk_at dksX0_message_0 4 rfl rfl)
theorem dX0_message_5 : decode cX0_message 5 = .ok (.invokevirtual 51, 3) := dk_182 0 51 (dk_at dksX0_message_0 5 rfl rfl)
theorem dX0_message_8 : decode cX0_message 8 = .ok (.i2l, 1) := dk_133 (dk_at dksX0_message_0 8 rfl rfl)
theorem dX0_message_9 : decode cX0_message 9 = .ok (.lastore, 1) := dk_80 (dk_at dksX0_message_0 9 rfl rfl)
theorem dX0_message_10 : decode cX0_message 10 = .ok (.goto 11, 3) := dk_167 0 11 (dk_at dksX0_message_0 10 rfl rfl)
theorem dX0_message_13 : decode cX0_message 13 = .ok (.astore 4, 2) := dk_58 4 (dk_at dksX0_message_0 13 rfl rfl)
theorem dX0_message_15 : decode cX0_message 15 = .ok (.iconst 1, 1) := dk_4 (dk_at dksX0_message_0 15 rfl rfl)
theorem dX0_message_16 : decode cX0_message 16 = .ok (.ireturn, 1) := dk_172 (dk_at dksX0_message_0 16 rfl rfl)
theorem dX0_message_17 : decode cX0_message 17 = .ok (.astore 4, 2) := dk_58 4 (dk_at dksX0_message_0 17 rfl rfl)
theorem dX0_message_19 : decode cX0_message 19 = .ok (.iconst 2, 1) := dk_5 (dk_at dksX0_message_0 19 rfl rfl)
theorem dX0_message_20 : decode cX0_message 20 = .ok (.ireturn, 1) := dk_172 (dk_at dksX0_message_0 20 rfl rfl)
theorem dX0_message_21 : decode cX0_message 21 = .ok (.iconst 0, 1) := dk_3 (dk_at dksX0_message_0 21 rfl rfl)
theorem dX0_message_22 : decode cX0_message 22 = .ok (.ireturn, 1) := dk_172 (dk_at dksX0_message_0 22 rfl rfl)
def dkwX0_traffic_0 : List UInt8 := [45, 3, 42, 27, 28, 182, 0, 54, 133, 80, 167, 0, 7, 58, 4, 4, 172, 3, 172]
abbrev dktX0_traffic_0 : List UInt8 := dkwX0_traffic_0 ++ []
theorem dksX0_traffic_0 : cX0_traffic.data.toList.drop 0 = dktX0_traffic_0 := by decide +kernel
theorem dX0_traffic_0 : decode cX0_traffic 0 = .ok (.aload_n 3, 1) := dk_45 (dk_at dksX0_traffic_0 0 rfl rfl)
theorem dX0_traffic_1 : decode cX0_traffic 1 = .ok (.iconst 0, 1) := dk_3 (dk_at dksX0_traffic_0 1 rfl rfl)
theorem dX0_traffic_2 : decode cX0_traffic 2 = .ok (.aload_n 0, 1) := dk_42 (dk_at dksX0_traffic_0 2 rfl rfl)
theorem dX0_traffic_3 : decode cX0_traffic 3 = .ok (.iload_n 1, 1) := dk_27 (dk_at dksX0_traffic_0 3 rfl rfl)
theorem dX0_traffic_4 : decode cX0_traffic 4 = .ok (.iload_n 2, 1) := dk_28 (dk_at dksX0_traffic_0 4 rfl rfl)
theorem dX0_traffic_5 : decode cX0_traffic 5 = .ok (.invokevirtual 54, 3) := dk_182 0 54 (dk_at dksX0_traffic_0 5 rfl rfl)
theorem dX0_traffic_8 : decode cX0_traffic 8 = .ok (.i2l, 1) := dk_133 (dk_at dksX0_traffic_0 8 rfl rfl)
theorem dX0_traffic_9 : decode cX0_traffic 9 = .ok (.lastore, 1) := dk_80 (dk_at dksX0_traffic_0 9 rfl rfl)
theorem dX0_traffic_10 : decode cX0_traffic 10 = .ok (.goto 7, 3) := dk_167 0 7 (dk_at dksX0_traffic_0 10 rfl rfl)
theorem dX0_traffic_13 : decode cX0_traffic 13 = .ok (.astore 4, 2) := dk_58 4 (dk_at dksX0_traffic_0 13 rfl rfl)
theorem dX0_traffic_15 : decode cX0_traffic 15 = .ok (.iconst 1, 1) := dk_4 (dk_at dksX0_traffic_0 15 rfl rfl)
theorem dX0_traffic_16 : decode cX0_traffic 16 = .ok (.ireturn, 1) := dk_172 (dk_at dksX0_traffic_0 16 rfl rfl)
theorem dX0_traffic_17 : decode cX0_traffic 17 = .ok (.iconst 0, 1) := dk_3 (dk_at dksX0_traffic_0 17 rfl rfl)
theorem dX0_traffic_18 : decode cX0_traffic 18 = .ok (.ireturn, 1) := dk_172 (dk_at dksX0_traffic_0 18 rfl rfl)
def dkwX0_learned_0 : List UInt8 := [44, 3, 42, 27, 182, 0, 57, 133, 80, 167, 0, 6, 78, 4, 172, 3, 172]
abbrev dktX0_learned_0 : List UInt8 := dkwX0_learned_0 ++ []
theorem dksX0_learned_0 : cX0_learned.data.toList.drop 0 = dktX0_learned_0 := by decide +kernel
theorem dX0_learned_0 : decode cX0_learned 0 = .ok (.aload_n 2, 1) := dk_44 (dk_at dksX0_learned_0 0 rfl rfl)
theorem dX0_learned_1 : decode cX0_learned 1 = .ok (.iconst 0, 1) := dk_3 (dk_at dksX0_learned_0 1 rfl rfl)
theorem dX0_learned_2 : decode cX0_learned 2 = .ok (.aload_n 0, 1) := dk_42 (dk_at dksX0_learned_0 2 rfl rfl)
theorem dX0_learned_3 : decode cX0_learned 3 = .ok (.iload_n 1, 1) := dk_27 (dk_at dksX0_learned_0 3 rfl rfl)
theorem dX0_learned_4 : decode cX0_learned 4 = .ok (.invokevirtual 57, 3) := dk_182 0 57 (dk_at dksX0_learned_0 4 rfl rfl)
theorem dX0_learned_7 : decode cX0_learned 7 = .ok (.i2l, 1) := dk_133 (dk_at dksX0_learned_0 7 rfl rfl)
theorem dX0_learned_8 : decode cX0_learned 8 = .ok (.lastore, 1) := dk_80 (dk_at dksX0_learned_0 8 rfl rfl)
theorem dX0_learned_9 : decode cX0_learned 9 = .ok (.goto 6, 3) := dk_167 0 6 (dk_at dksX0_learned_0 9 rfl rfl)
theorem dX0_learned_12 : decode cX0_learned 12 = .ok (.astore_n 3, 1) := dk_78 (dk_at dksX0_learned_0 12 rfl rfl)
theorem dX0_learned_13 : decode cX0_learned 13 = .ok (.iconst 1, 1) := dk_4 (dk_at dksX0_learned_0 13 rfl rfl)
theorem dX0_learned_14 : decode cX0_learned 14 = .ok (.ireturn, 1) := dk_172 (dk_at dksX0_learned_0 14 rfl rfl)
theorem dX0_learned_15 : decode cX0_learned 15 = .ok (.iconst 0, 1) := dk_3 (dk_at dksX0_learned_0 15 rfl rfl)
theorem dX0_learned_16 : decode cX0_learned 16 = .ok (.ireturn, 1) := dk_172 (dk_at dksX0_learned_0 16 rfl rfl)
def dkwX0_why_0 : List UInt8 := [44, 3, 42, 27, 182, 0, 60, 133, 80, 167, 0, 6, 78, 4, 172, 3, 172]
abbrev dktX0_why_0 : List UInt8 := dkwX0_why_0 ++ []
theorem dksX0_why_0 : cX0_why.data.toList.drop 0 = dktX0_why_0 := by decide +kernel
theorem dX0_why_0 : decode cX0_why 0 = .ok (.aload_n 2, 1) := dk_44 (dk_at dksX0_why_0 0 rfl rfl)
theorem dX0_why_1 : decode cX0_why 1 = .ok (.iconst 0, 1) := dk_3 (dk_at dksX0_why_0 1 rfl rfl)
theorem dX0_why_2 : decode cX0_why 2 = .ok (.aload_n 0, 1) := dk_42 (dk_at dksX0_why_0 2 rfl rfl)
theorem dX0_why_3 : decode cX0_why 3 = .ok (.iload_n 1, 1) := dk_27 (dk_at dksX0_why_0 3 rfl rfl)
theorem dX0_why_4 : decode cX0_why 4 = .ok (.invokevirtual 60, 3) := dk_182 0 60 (dk_at dksX0_why_0 4 rfl rfl)
theorem dX0_why_7 : decode cX0_why 7 = .ok (.i2l, 1) := dk_133 (dk_at dksX0_why_0 7 rfl rfl)
theorem dX0_why_8 : decode cX0_why 8 = .ok (.lastore, 1) := dk_80 (dk_at dksX0_why_0 8 rfl rfl)
theorem dX0_why_9 : decode cX0_why 9 = .ok (.goto 6, 3) := dk_167 0 6 (dk_at dksX0_why_0 9 rfl rfl)
theorem dX0_why_12 : decode cX0_why 12 = .ok (.astore_n 3, 1) := dk_78 (dk_at dksX0_why_0 12 rfl rfl)
theorem dX0_why_13 : decode cX0_why 13 = .ok (.iconst 1, 1) := dk_4 (dk_at dksX0_why_0 13 rfl rfl)
theorem dX0_why_14 : decode cX0_why 14 = .ok (.ireturn, 1) := dk_172 (dk_at dksX0_why_0 14 rfl rfl)
theorem dX0_why_15 : decode cX0_why 15 = .ok (.iconst 0, 1) := dk_3 (dk_at dksX0_why_0 15 rfl rfl)
theorem dX0_why_16 : decode cX0_why 16 = .ok (.ireturn, 1) := dk_172 (dk_at dksX0_why_0 16 rfl rfl)
def dkwX0_runsIn_0 : List UInt8 := [44, 3, 42, 27, 182, 0, 63, 133, 80, 167, 0, 9, 78, 4, 172, 78, 5, 172, 3, 172]
abbrev dktX0_runsIn_0 : List UInt8 := dkwX0_runsIn_0 ++ []
theorem dksX0_runsIn_0 : cX0_runsIn.data.toList.drop 0 = dktX0_runsIn_0 := by decide +kernel
theorem dX0_runsIn_0 : decode cX0_runsIn 0 = .ok (.aload_n 2, 1) := dk_44 (dk_at dksX0_runsIn_0 0 rfl rfl)
theorem dX0_runsIn_1 : decode cX0_runsIn 1 = .ok (.iconst 0, 1) := dk_3 (dk_at dksX0_runsIn_0 1 rfl rfl)
theorem dX0_runsIn_2 : decode cX0_runsIn 2 = .ok (.aload_n 0, 1) := dk_42 (dk_at dksX0_runsIn_0 2 rfl rfl)
theorem dX0_runsIn_3 : decode cX0_runsIn 3 = .ok (.iload_n 1, 1) := dk_27 (dk_at dksX0_runsIn_0 3 rfl rfl)
theorem dX0_runsIn_4 : decode cX0_runsIn 4 = .ok (.invokevirtual 63, 3) := dk_182 0 63 (dk_at dksX0_runsIn_0 4 rfl rfl)
theorem dX0_runsIn_7 : decode cX0_runsIn 7 = .ok (.i2l, 1) := dk_133 (dk_at dksX0_runsIn_0 7 rfl rfl)
theorem dX0_runsIn_8 : decode cX0_runsIn 8 = .ok (.lastore, 1) := dk_80 (dk_at dksX0_runsIn_0 8 rfl rfl)
theorem dX0_runsIn_9 : decode cX0_runsIn 9 = .ok (.goto 9, 3) := dk_167 0 9 (dk_at dksX0_runsIn_0 9 rfl rfl)
theorem dX0_runsIn_12 : decode cX0_runsIn 12 = .ok (.astore_n 3, 1) := dk_78 (dk_at dksX0_runsIn_0 12 rfl rfl)
theorem dX0_runsIn_13 : decode cX0_runsIn 13 = .ok (.iconst 1, 1) := dk_4 (dk_at dksX0_runsIn_0 13 rfl rfl)
theorem dX0_runsIn_14 : decode cX0_runsIn 14 = .ok (.ireturn, 1) := dk_172 (dk_at dksX0_runsIn_0 14 rfl rfl)
theorem dX0_runsIn_15 : decode cX0_runsIn 15 = .ok (.astore_n 3, 1) := dk_78 (dk_at dksX0_runsIn_0 15 rfl rfl)
theorem dX0_runsIn_16 : decode cX0_runsIn 16 = .ok (.iconst 2, 1) := dk_5 (dk_at dksX0_runsIn_0 16 rfl rfl)
theorem dX0_runsIn_17 : decode cX0_runsIn 17 = .ok (.ireturn, 1) := dk_172 (dk_at dksX0_runsIn_0 17 rfl rfl)
theorem dX0_runsIn_18 : decode cX0_runsIn 18 = .ok (.iconst 0, 1) := dk_3 (dk_at dksX0_runsIn_0 18 rfl rfl)
theorem dX0_runsIn_19 : decode cX0_runsIn 19 = .ok (.ireturn, 1) := dk_172 (dk_at dksX0_runsIn_0 19 rfl rfl)
def dkwX0_allIn_0 : List UInt8 := [44, 3, 42, 27, 182, 0, 66, 133, 80, 167, 0, 9, 78, 4, 172, 78, 5, 172, 3, 172]
abbrev dktX0_allIn_0 : List UInt8 := dkwX0_allIn_0 ++ []
theorem dksX0_allIn_0 : cX0_allIn.data.toList.drop 0 = dktX0_allIn_0 := by decide +kernel
theorem dX0_allIn_0 : decode cX0_allIn 0 = .ok (.aload_n 2, 1) := dk_44 (dk_at dksX0_allIn_0 0 rfl rfl)
theorem dX0_allIn_1 : decode cX0_allIn 1 = .ok (.iconst 0, 1) := dk_3 (dk_at dksX0_allIn_0 1 rfl rfl)
theorem dX0_allIn_2 : decode cX0_allIn 2 = .ok (.aload_n 0, 1) := dk_42 (dk_at dksX0_allIn_0 2 rfl rfl)
theorem dX0_allIn_3 : decode cX0_allIn 3 = .ok (.iload_n 1, 1) := dk_27 (dk_at dksX0_allIn_0 3 rfl rfl)
theorem dX0_allIn_4 : decode cX0_allIn 4 = .ok (.invokevirtual 66, 3) := dk_182 0 66 (dk_at dksX0_allIn_0 4 rfl rfl)
theorem dX0_allIn_7 : decode cX0_allIn 7 = .ok (.i2l, 1) := dk_133 (dk_at dksX0_allIn_0 7 rfl rfl)
theorem dX0_allIn_8 : decode cX0_allIn 8 = .ok (.lastore, 1) := dk_80 (dk_at dksX0_allIn_0 8 rfl rfl)
theorem dX0_allIn_9 : decode cX0_allIn 9 = .ok (.goto 9, 3) := dk_167 0 9 (dk_at dksX0_allIn_0 9 rfl rfl)
theorem dX0_allIn_12 : decode cX0_allIn 12 = .ok (.astore_n 3, 1) := dk_78 (dk_at dksX0_allIn_0 12 rfl rfl)
theorem dX0_allIn_13 : decode cX0_allIn 13 = .ok (.iconst 1, 1) := dk_4 (dk_at dksX0_allIn_0 13 rfl rfl)
theorem dX0_allIn_14 : decode cX0_allIn 14 = .ok (.ireturn, 1) := dk_172 (dk_at dksX0_allIn_0 14 rfl rfl)
theorem dX0_allIn_15 : decode cX0_allIn 15 = .ok (.astore_n 3, 1) := dk_78 (dk_at dksX0_allIn_0 15 rfl rfl)
theorem dX0_allIn_16 : decode cX0_allIn 16 = .ok (.iconst 2, 1) := dk_5 (dk_at dksX0_allIn_0 16 rfl rfl)
theorem dX0_allIn_17 : decode cX0_allIn 17 = .ok (.ireturn, 1) := dk_172 (dk_at dksX0_allIn_0 17 rfl rfl)
theorem dX0_allIn_18 : decode cX0_allIn 18 = .ok (.iconst 0, 1) := dk_3 (dk_at dksX0_allIn_0 18 rfl rfl)
theorem dX0_allIn_19 : decode cX0_allIn 19 = .ok (.ireturn, 1) := dk_172 (dk_at dksX0_allIn_0 19 rfl rfl)
def dkwX0_peakIn_0 : List UInt8 := [45, 3, 42, 27, 28, 182, 0, 69, 133, 80, 167, 0, 7, 58, 4, 4, 172, 3, 172]
abbrev dktX0_peakIn_0 : List UInt8 := dkwX0_peakIn_0 ++ []
theorem dksX0_peakIn_0 : cX0_peakIn.data.toList.drop 0 = dktX0_peakIn_0 := by decide +kernel
theorem dX0_peakIn_0 : decode cX0_peakIn 0 = .ok (.aload_n 3, 1) := dk_45 (dk_at dksX0_peakIn_0 0 rfl rfl)
theorem dX0_peakIn_1 : decode cX0_peakIn 1 = .ok (.iconst 0, 1) := dk_3 (dk_at dksX0_peakIn_0 1 rfl rfl)
theorem dX0_peakIn_2 : decode cX0_peakIn 2 = .ok (.aload_n 0, 1) := dk_42 (dk_at dksX0_peakIn_0 2 rfl rfl)
theorem dX0_peakIn_3 : decode cX0_peakIn 3 = .ok (.iload_n 1, 1) := dk_27 (dk_at dksX0_peakIn_0 3 rfl rfl)
theorem dX0_peakIn_4 : decode cX0_peakIn 4 = .ok (.iload_n 2, 1) := dk_28 (dk_at dksX0_peakIn_0 4 rfl rfl)
theorem dX0_peakIn_5 : decode cX0_peakIn 5 = .ok (.invokevirtual 69, 3) := dk_182 0 69 (dk_at dksX0_peakIn_0 5 rfl rfl)
theorem dX0_peakIn_8 : decode cX0_peakIn 8 = .ok (.i2l, 1) := dk_133 (dk_at dksX0_peakIn_0 8 rfl rfl)
theorem dX0_peakIn_9 : decode cX0_peakIn 9 = .ok (.lastore, 1) := dk_80 (dk_at dksX0_peakIn_0 9 rfl rfl)
theorem dX0_peakIn_10 : decode cX0_peakIn 10 = .ok (.goto 7, 3) := dk_167 0 7 (dk_at dksX0_peakIn_0 10 rfl rfl)
theorem dX0_peakIn_13 : decode cX0_peakIn 13 = .ok (.astore 4, 2) := dk_58 4 (dk_at dksX0_peakIn_0 13 rfl rfl)
theorem dX0_peakIn_15 : decode cX0_peakIn 15 = .ok (.iconst 1, 1) := dk_4 (dk_at dksX0_peakIn_0 15 rfl rfl)
theorem dX0_peakIn_16 : decode cX0_peakIn 16 = .ok (.ireturn, 1) := dk_172 (dk_at dksX0_peakIn_0 16 rfl rfl)
theorem dX0_peakIn_17 : decode cX0_peakIn 17 = .ok (.iconst 0, 1) := dk_3 (dk_at dksX0_peakIn_0 17 rfl rfl)
theorem dX0_peakIn_18 : decode cX0_peakIn 18 = .ok (.ireturn, 1) := dk_172 (dk_at dksX0_peakIn_0 18 rfl rfl)
def dkwX0_sentIn_0 : List UInt8 := [45, 3, 42, 27, 28, 182, 0, 72, 133, 80, 167, 0, 7, 58, 4, 4, 172, 3, 172]
abbrev dktX0_sentIn_0 : List UInt8 := dkwX0_sentIn_0 ++ []
theorem dksX0_sentIn_0 : cX0_sentIn.data.toList.drop 0 = dktX0_sentIn_0 := by decide +kernel
theorem dX0_sentIn_0 : decode cX0_sentIn 0 = .ok (.aload_n 3, 1) := dk_45 (dk_at dksX0_sentIn_0 0 rfl rfl)
theorem dX0_sentIn_1 : decode cX0_sentIn 1 = .ok (.iconst 0, 1) := dk_3 (dk_at dksX0_sentIn_0 1 rfl rfl)
theorem dX0_sentIn_2 : decode cX0_sentIn 2 = .ok (.aload_n 0, 1) := dk_42 (dk_at dksX0_sentIn_0 2 rfl rfl)
theorem dX0_sentIn_3 : decode cX0_sentIn 3 = .ok (.iload_n 1, 1) := dk_27 (dk_at dksX0_sentIn_0 3 rfl rfl)
theorem dX0_sentIn_4 : decode cX0_sentIn 4 = .ok (.iload_n 2, 1) := dk_28 (dk_at dksX0_sentIn_0 4 rfl rfl)
theorem dX0_sentIn_5 : decode cX0_sentIn 5 = .ok (.invokevirtual 72, 3) := dk_182 0 72 (dk_at dksX0_sentIn_0 5 rfl rfl)
theorem dX0_sentIn_8 : decode cX0_sentIn 8 = .ok (.i2l, 1) := dk_133 (dk_at dksX0_sentIn_0 8 rfl rfl)
theorem dX0_sentIn_9 : decode cX0_sentIn 9 = .ok (.lastore, 1) := dk_80 (dk_at dksX0_sentIn_0 9 rfl rfl)
theorem dX0_sentIn_10 : decode cX0_sentIn 10 = .ok (.goto 7, 3) := dk_167 0 7 (dk_at dksX0_sentIn_0 10 rfl rfl)
theorem dX0_sentIn_13 : decode cX0_sentIn 13 = .ok (.astore 4, 2) := dk_58 4 (dk_at dksX0_sentIn_0 13 rfl rfl)
theorem dX0_sentIn_15 : decode cX0_sentIn 15 = .ok (.iconst 1, 1) := dk_4 (dk_at dksX0_sentIn_0 15 rfl rfl)
theorem dX0_sentIn_16 : decode cX0_sentIn 16 = .ok (.ireturn, 1) := dk_172 (dk_at dksX0_sentIn_0 16 rfl rfl)
theorem dX0_sentIn_17 : decode cX0_sentIn 17 = .ok (.iconst 0, 1) := dk_3 (dk_at dksX0_sentIn_0 17 rfl rfl)
theorem dX0_sentIn_18 : decode cX0_sentIn 18 = .ok (.ireturn, 1) := dk_172 (dk_at dksX0_sentIn_0 18 rfl rfl)
def dkwX0_run_0 : List UInt8 := [44, 3, 42, 27, 182, 0, 75, 133, 80, 167, 0, 9, 78, 4, 172, 78, 5, 172, 3, 172]
abbrev dktX0_run_0 : List UInt8 := dkwX0_run_0 ++ []
theorem dksX0_run_0 : cX0_run.data.toList.drop 0 = dktX0_run_0 := by decide +kernel
theorem dX0_run_0 : decode cX0_run 0 = .ok (.aload_n 2, 1) := dk_44 (dk_at dksX0_run_0 0 rfl rfl)
theorem dX0_run_1 : decode cX0_run 1 = .ok (.iconst 0, 1) := dk_3 (dk_at dksX0_run_0 1 rfl rfl)
theorem dX0_run_2 : decode cX0_run 2 = .ok (.aload_n 0, 1) := dk_42 (dk_at dksX0_run_0 2 rfl rfl)
theorem dX0_run_3 : decode cX0_run 3 = .ok (.iload_n 1, 1) := dk_27 (dk_at dksX0_run_0 3 rfl rfl)
theorem dX0_run_4 : decode cX0_run 4 = .ok (.invokevirtual 75, 3) := dk_182 0 75 (dk_at dksX0_run_0 4 rfl rfl)
theorem dX0_run_7 : decode cX0_run 7 = .ok (.i2l, 1) := dk_133 (dk_at dksX0_run_0 7 rfl rfl)
theorem dX0_run_8 : decode cX0_run 8 = .ok (.lastore, 1) := dk_80 (dk_at dksX0_run_0 8 rfl rfl)
theorem dX0_run_9 : decode cX0_run 9 = .ok (.goto 9, 3) := dk_167 0 9 (dk_at dksX0_run_0 9 rfl rfl)
theorem dX0_run_12 : decode cX0_run 12 = .ok (.astore_n 3, 1) := dk_78 (dk_at dksX0_run_0 12 rfl rfl)
theorem dX0_run_13 : decode cX0_run 13 = .ok (.iconst 1, 1) := dk_4 (dk_at dksX0_run_0 13 rfl rfl)
theorem dX0_run_14 : decode cX0_run 14 = .ok (.ireturn, 1) := dk_172 (dk_at dksX0_run_0 14 rfl rfl)
theorem dX0_run_15 : decode cX0_run 15 = .ok (.astore_n 3, 1) := dk_78 (dk_at dksX0_run_0 15 rfl rfl)
theorem dX0_run_16 : decode cX0_run 16 = .ok (.iconst 2, 1) := dk_5 (dk_at dksX0_run_0 16 rfl rfl)
theorem dX0_run_17 : decode cX0_run 17 = .ok (.ireturn, 1) := dk_172 (dk_at dksX0_run_0 17 rfl rfl)
theorem dX0_run_18 : decode cX0_run 18 = .ok (.iconst 0, 1) := dk_3 (dk_at dksX0_run_0 18 rfl rfl)
theorem dX0_run_19 : decode cX0_run 19 = .ok (.ireturn, 1) := dk_172 (dk_at dksX0_run_0 19 rfl rfl)
def dkwX0_blackout_0 : List UInt8 := [44, 3, 42, 27, 182, 0, 78, 133, 80, 167, 0, 6, 78, 4, 172, 3, 172]
abbrev dktX0_blackout_0 : List UInt8 := dkwX0_blackout_0 ++ []
theorem dksX0_blackout_0 : cX0_blackout.data.toList.drop 0 = dktX0_blackout_0 := by decide +kernel
theorem dX0_blackout_0 : decode cX0_blackout 0 = .ok (.aload_n 2, 1) := dk_44 (dk_at dksX0_blackout_0 0 rfl rfl)
theorem dX0_blackout_1 : decode cX0_blackout 1 = .ok (.iconst 0, 1) := dk_3 (dk_at dksX0_blackout_0 1 rfl rfl)
theorem dX0_blackout_2 : decode cX0_blackout 2 = .ok (.aload_n 0, 1) := dk_42 (dk_at dksX0_blackout_0 2 rfl rfl)
theorem dX0_blackout_3 : decode cX0_blackout 3 = .ok (.iload_n 1, 1) := dk_27 (dk_at dksX0_blackout_0 3 rfl rfl)
theorem dX0_blackout_4 : decode cX0_blackout 4 = .ok (.invokevirtual 78, 3) := dk_182 0 78 (dk_at dksX0_blackout_0 4 rfl rfl)
theorem dX0_blackout_7 : decode cX0_blackout 7 = .ok (.i2l, 1) := dk_133 (dk_at dksX0_blackout_0 7 rfl rfl)
theorem dX0_blackout_8 : decode cX0_blackout 8 = .ok (.lastore, 1) := dk_80 (dk_at dksX0_blackout_0 8 rfl rfl)
theorem dX0_blackout_9 : decode cX0_blackout 9 = .ok (.goto 6, 3) := dk_167 0 6 (dk_at dksX0_blackout_0 9 rfl rfl)
theorem dX0_blackout_12 : decode cX0_blackout 12 = .ok (.astore_n 3, 1) := dk_78 (dk_at dksX0_blackout_0 12 rfl rfl)
theorem dX0_blackout_13 : decode cX0_blackout 13 = .ok (.iconst 1, 1) := dk_4 (dk_at dksX0_blackout_0 13 rfl rfl)
theorem dX0_blackout_14 : decode cX0_blackout 14 = .ok (.ireturn, 1) := dk_172 (dk_at dksX0_blackout_0 14 rfl rfl)
theorem dX0_blackout_15 : decode cX0_blackout 15 = .ok (.iconst 0, 1) := dk_3 (dk_at dksX0_blackout_0 15 rfl rfl)
theorem dX0_blackout_16 : decode cX0_blackout 16 = .ok (.ireturn, 1) := dk_172 (dk_at dksX0_blackout_0 16 rfl rfl)
def dkwX0_want_1 : List UInt8 := [3, 172]
abbrev dktX0_want_1 : List UInt8 := dkwX0_want_1 ++ []
def dkwX0_want_0 : List UInt8 := [45, 3, 42, 27, 28, 182, 0, 81, 153, 0, 7, 10, 167, 0, 4, 9, 80, 167, 0, 7, 58, 4, 4, 172]
abbrev dktX0_want_0 : List UInt8 := dkwX0_want_0 ++ dktX0_want_1
theorem dksX0_want_0 : cX0_want.data.toList.drop 0 = dktX0_want_0 := by decide +kernel
theorem dksX0_want_1 : cX0_want.data.toList.drop 24 = dktX0_want_1 := dk_seg dksX0_want_0 24 rfl rfl
theorem dX0_want_0 : decode cX0_want 0 = .ok (.aload_n 3, 1) := dk_45 (dk_at dksX0_want_0 0 rfl rfl)
theorem dX0_want_1 : decode cX0_want 1 = .ok (.iconst 0, 1) := dk_3 (dk_at dksX0_want_0 1 rfl rfl)
theorem dX0_want_2 : decode cX0_want 2 = .ok (.aload_n 0, 1) := dk_42 (dk_at dksX0_want_0 2 rfl rfl)
theorem dX0_want_3 : decode cX0_want 3 = .ok (.iload_n 1, 1) := dk_27 (dk_at dksX0_want_0 3 rfl rfl)
theorem dX0_want_4 : decode cX0_want 4 = .ok (.iload_n 2, 1) := dk_28 (dk_at dksX0_want_0 4 rfl rfl)
theorem dX0_want_5 : decode cX0_want 5 = .ok (.invokevirtual 81, 3) := dk_182 0 81 (dk_at dksX0_want_0 5 rfl rfl)
theorem dX0_want_8 : decode cX0_want 8 = .ok (.ifCond .eq 7, 3) := dk_153 0 7 (dk_at dksX0_want_0 8 rfl rfl)
theorem dX0_want_11 : decode cX0_want 11 = .ok (.lconst 1, 1) := dk_10 (dk_at dksX0_want_0 11 rfl rfl)
theorem dX0_want_12 : decode cX0_want 12 = .ok (.goto 4, 3) := dk_167 0 4 (dk_at dksX0_want_0 12 rfl rfl)
theorem dX0_want_15 : decode cX0_want 15 = .ok (.lconst 0, 1) := dk_9 (dk_at dksX0_want_0 15 rfl rfl)
theorem dX0_want_16 : decode cX0_want 16 = .ok (.lastore, 1) := dk_80 (dk_at dksX0_want_0 16 rfl rfl)
theorem dX0_want_17 : decode cX0_want 17 = .ok (.goto 7, 3) := dk_167 0 7 (dk_at dksX0_want_0 17 rfl rfl)
theorem dX0_want_20 : decode cX0_want 20 = .ok (.astore 4, 2) := dk_58 4 (dk_at dksX0_want_0 20 rfl rfl)
theorem dX0_want_22 : decode cX0_want 22 = .ok (.iconst 1, 1) := dk_4 (dk_at dksX0_want_0 22 rfl rfl)
theorem dX0_want_23 : decode cX0_want 23 = .ok (.ireturn, 1) := dk_172 (dk_at dksX0_want_0 23 rfl rfl)
theorem dX0_want_24 : decode cX0_want 24 = .ok (.iconst 0, 1) := dk_3 (dk_at dksX0_want_1 0 rfl rfl)
theorem dX0_want_25 : decode cX0_want 25 = .ok (.ireturn, 1) := dk_172 (dk_at dksX0_want_1 1 rfl rfl)
def dkwX0_setFuse_0 : List UInt8 := [44, 3, 42, 27, 182, 0, 85, 133, 80, 167, 0, 6, 78, 4, 172, 3, 172]
abbrev dktX0_setFuse_0 : List UInt8 := dkwX0_setFuse_0 ++ []
theorem dksX0_setFuse_0 : cX0_setFuse.data.toList.drop 0 = dktX0_setFuse_0 := by decide +kernel
theorem dX0_setFuse_0 : decode cX0_setFuse 0 = .ok (.aload_n 2, 1) := dk_44 (dk_at dksX0_setFuse_0 0 rfl rfl)
theorem dX0_setFuse_1 : decode cX0_setFuse 1 = .ok (.iconst 0, 1) := dk_3 (dk_at dksX0_setFuse_0 1 rfl rfl)
theorem dX0_setFuse_2 : decode cX0_setFuse 2 = .ok (.aload_n 0, 1) := dk_42 (dk_at dksX0_setFuse_0 2 rfl rfl)
theorem dX0_setFuse_3 : decode cX0_setFuse 3 = .ok (.iload_n 1, 1) := dk_27 (dk_at dksX0_setFuse_0 3 rfl rfl)
theorem dX0_setFuse_4 : decode cX0_setFuse 4 = .ok (.invokevirtual 85, 3) := dk_182 0 85 (dk_at dksX0_setFuse_0 4 rfl rfl)
theorem dX0_setFuse_7 : decode cX0_setFuse 7 = .ok (.i2l, 1) := dk_133 (dk_at dksX0_setFuse_0 7 rfl rfl)
theorem dX0_setFuse_8 : decode cX0_setFuse 8 = .ok (.lastore, 1) := dk_80 (dk_at dksX0_setFuse_0 8 rfl rfl)
theorem dX0_setFuse_9 : decode cX0_setFuse 9 = .ok (.goto 6, 3) := dk_167 0 6 (dk_at dksX0_setFuse_0 9 rfl rfl)
theorem dX0_setFuse_12 : decode cX0_setFuse 12 = .ok (.astore_n 3, 1) := dk_78 (dk_at dksX0_setFuse_0 12 rfl rfl)
theorem dX0_setFuse_13 : decode cX0_setFuse 13 = .ok (.iconst 1, 1) := dk_4 (dk_at dksX0_setFuse_0 13 rfl rfl)
theorem dX0_setFuse_14 : decode cX0_setFuse 14 = .ok (.ireturn, 1) := dk_172 (dk_at dksX0_setFuse_0 14 rfl rfl)
theorem dX0_setFuse_15 : decode cX0_setFuse 15 = .ok (.iconst 0, 1) := dk_3 (dk_at dksX0_setFuse_0 15 rfl rfl)
theorem dX0_setFuse_16 : decode cX0_setFuse 16 = .ok (.ireturn, 1) := dk_172 (dk_at dksX0_setFuse_0 16 rfl rfl)
def dkwX0_setPriority_0 : List UInt8 := [45, 3, 42, 27, 28, 182, 0, 88, 133, 80, 167, 0, 11, 58, 4, 4, 172, 58, 4, 5, 172, 3, 172]
abbrev dktX0_setPriority_0 : List UInt8 := dkwX0_setPriority_0 ++ []
theorem dksX0_setPriority_0 : cX0_setPriority.data.toList.drop 0 = dktX0_setPriority_0 := by decide +kernel
theorem dX0_setPriority_0 : decode cX0_setPriority 0 = .ok (.aload_n 3, 1) := dk_45 (dk_at dksX0_setPriority_0 0 rfl rfl)
theorem dX0_setPriority_1 : decode cX0_setPriority 1 = .ok (.iconst 0, 1) := dk_3 (dk_at dksX0_setPriority_0 1 rfl rfl)
theorem dX0_setPriority_2 : decode cX0_setPriority 2 = .ok (.aload_n 0, 1) := dk_42 (dk_at dksX0_setPriority_0 2 rfl rfl)
theorem dX0_setPriority_3 : decode cX0_setPriority 3 = .ok (.iload_n 1, 1) := dk_27 (dk_at dksX0_setPriority_0 3 rfl rfl)
theorem dX0_setPriority_4 : decode cX0_setPriority 4 = .ok (.iload_n 2, 1) := dk_28 (dk_at dksX0_setPriority_0 4 rfl rfl)
theorem dX0_setPriority_5 : decode cX0_setPriority 5 = .ok (.invokevirtual 88, 3) := dk_182 0 88 (dk_at dksX0_setPriority_0 5 rfl rfl)
theorem dX0_setPriority_8 : decode cX0_setPriority 8 = .ok (.i2l, 1) := dk_133 (dk_at dksX0_setPriority_0 8 rfl rfl)
theorem dX0_setPriority_9 : decode cX0_setPriority 9 = .ok (.lastore, 1) := dk_80 (dk_at dksX0_setPriority_0 9 rfl rfl)
theorem dX0_setPriority_10 : decode cX0_setPriority 10 = .ok (.goto 11, 3) := dk_167 0 11 (dk_at dksX0_setPriority_0 10 rfl rfl)
theorem dX0_setPriority_13 : decode cX0_setPriority 13 = .ok (.astore 4, 2) := dk_58 4 (dk_at dksX0_setPriority_0 13 rfl rfl)
theorem dX0_setPriority_15 : decode cX0_setPriority 15 = .ok (.iconst 1, 1) := dk_4 (dk_at dksX0_setPriority_0 15 rfl rfl)
theorem dX0_setPriority_16 : decode cX0_setPriority 16 = .ok (.ireturn, 1) := dk_172 (dk_at dksX0_setPriority_0 16 rfl rfl)
theorem dX0_setPriority_17 : decode cX0_setPriority 17 = .ok (.astore 4, 2) := dk_58 4 (dk_at dksX0_setPriority_0 17 rfl rfl)
theorem dX0_setPriority_19 : decode cX0_setPriority 19 = .ok (.iconst 2, 1) := dk_5 (dk_at dksX0_setPriority_0 19 rfl rfl)
theorem dX0_setPriority_20 : decode cX0_setPriority 20 = .ok (.ireturn, 1) := dk_172 (dk_at dksX0_setPriority_0 20 rfl rfl)
theorem dX0_setPriority_21 : decode cX0_setPriority 21 = .ok (.iconst 0, 1) := dk_3 (dk_at dksX0_setPriority_0 21 rfl rfl)
theorem dX0_setPriority_22 : decode cX0_setPriority 22 = .ok (.ireturn, 1) := dk_172 (dk_at dksX0_setPriority_0 22 rfl rfl)
def dkwX0_undo_0 : List UInt8 := [43, 3, 42, 182, 0, 91, 133, 80, 167, 0, 6, 77, 4, 172, 3, 172]
abbrev dktX0_undo_0 : List UInt8 := dkwX0_undo_0 ++ []
theorem dksX0_undo_0 : cX0_undo.data.toList.drop 0 = dktX0_undo_0 := by decide +kernel
theorem dX0_undo_0 : decode cX0_undo 0 = .ok (.aload_n 1, 1) := dk_43 (dk_at dksX0_undo_0 0 rfl rfl)
theorem dX0_undo_1 : decode cX0_undo 1 = .ok (.iconst 0, 1) := dk_3 (dk_at dksX0_undo_0 1 rfl rfl)
theorem dX0_undo_2 : decode cX0_undo 2 = .ok (.aload_n 0, 1) := dk_42 (dk_at dksX0_undo_0 2 rfl rfl)
theorem dX0_undo_3 : decode cX0_undo 3 = .ok (.invokevirtual 91, 3) := dk_182 0 91 (dk_at dksX0_undo_0 3 rfl rfl)
theorem dX0_undo_6 : decode cX0_undo 6 = .ok (.i2l, 1) := dk_133 (dk_at dksX0_undo_0 6 rfl rfl)
theorem dX0_undo_7 : decode cX0_undo 7 = .ok (.lastore, 1) := dk_80 (dk_at dksX0_undo_0 7 rfl rfl)
theorem dX0_undo_8 : decode cX0_undo 8 = .ok (.goto 6, 3) := dk_167 0 6 (dk_at dksX0_undo_0 8 rfl rfl)
theorem dX0_undo_11 : decode cX0_undo 11 = .ok (.astore_n 2, 1) := dk_77 (dk_at dksX0_undo_0 11 rfl rfl)
theorem dX0_undo_12 : decode cX0_undo 12 = .ok (.iconst 1, 1) := dk_4 (dk_at dksX0_undo_0 12 rfl rfl)
theorem dX0_undo_13 : decode cX0_undo 13 = .ok (.ireturn, 1) := dk_172 (dk_at dksX0_undo_0 13 rfl rfl)
theorem dX0_undo_14 : decode cX0_undo 14 = .ok (.iconst 0, 1) := dk_3 (dk_at dksX0_undo_0 14 rfl rfl)
theorem dX0_undo_15 : decode cX0_undo 15 = .ok (.ireturn, 1) := dk_172 (dk_at dksX0_undo_0 15 rfl rfl)
def dkwX0_save_0 : List UInt8 := [42, 27, 182, 0, 94, 167, 0, 6, 77, 4, 172, 3, 172]
abbrev dktX0_save_0 : List UInt8 := dkwX0_save_0 ++ []
theorem dksX0_save_0 : cX0_save.data.toList.drop 0 = dktX0_save_0 := by decide +kernel
theorem dX0_save_0 : decode cX0_save 0 = .ok (.aload_n 0, 1) := dk_42 (dk_at dksX0_save_0 0 rfl rfl)
theorem dX0_save_1 : decode cX0_save 1 = .ok (.iload_n 1, 1) := dk_27 (dk_at dksX0_save_0 1 rfl rfl)
theorem dX0_save_2 : decode cX0_save 2 = .ok (.invokevirtual 94, 3) := dk_182 0 94 (dk_at dksX0_save_0 2 rfl rfl)
theorem dX0_save_5 : decode cX0_save 5 = .ok (.goto 6, 3) := dk_167 0 6 (dk_at dksX0_save_0 5 rfl rfl)
theorem dX0_save_8 : decode cX0_save 8 = .ok (.astore_n 2, 1) := dk_77 (dk_at dksX0_save_0 8 rfl rfl)
theorem dX0_save_9 : decode cX0_save 9 = .ok (.iconst 1, 1) := dk_4 (dk_at dksX0_save_0 9 rfl rfl)
theorem dX0_save_10 : decode cX0_save 10 = .ok (.ireturn, 1) := dk_172 (dk_at dksX0_save_0 10 rfl rfl)
theorem dX0_save_11 : decode cX0_save 11 = .ok (.iconst 0, 1) := dk_3 (dk_at dksX0_save_0 11 rfl rfl)
theorem dX0_save_12 : decode cX0_save 12 = .ok (.ireturn, 1) := dk_172 (dk_at dksX0_save_0 12 rfl rfl)
def dkwX0_restore_0 : List UInt8 := [42, 27, 182, 0, 98, 167, 0, 9, 77, 4, 172, 77, 5, 172, 3, 172]
abbrev dktX0_restore_0 : List UInt8 := dkwX0_restore_0 ++ []
theorem dksX0_restore_0 : cX0_restore.data.toList.drop 0 = dktX0_restore_0 := by decide +kernel
theorem dX0_restore_0 : decode cX0_restore 0 = .ok (.aload_n 0, 1) := dk_42 (dk_at dksX0_restore_0 0 rfl rfl)
theorem dX0_restore_1 : decode cX0_restore 1 = .ok (.iload_n 1, 1) := dk_27 (dk_at dksX0_restore_0 1 rfl rfl)
theorem dX0_restore_2 : decode cX0_restore 2 = .ok (.invokevirtual 98, 3) := dk_182 0 98 (dk_at dksX0_restore_0 2 rfl rfl)
theorem dX0_restore_5 : decode cX0_restore 5 = .ok (.goto 9, 3) := dk_167 0 9 (dk_at dksX0_restore_0 5 rfl rfl)
theorem dX0_restore_8 : decode cX0_restore 8 = .ok (.astore_n 2, 1) := dk_77 (dk_at dksX0_restore_0 8 rfl rfl)
theorem dX0_restore_9 : decode cX0_restore 9 = .ok (.iconst 1, 1) := dk_4 (dk_at dksX0_restore_0 9 rfl rfl)
theorem dX0_restore_10 : decode cX0_restore 10 = .ok (.ireturn, 1) := dk_172 (dk_at dksX0_restore_0 10 rfl rfl)
theorem dX0_restore_11 : decode cX0_restore 11 = .ok (.astore_n 2, 1) := dk_77 (dk_at dksX0_restore_0 11 rfl rfl)
theorem dX0_restore_12 : decode cX0_restore 12 = .ok (.iconst 2, 1) := dk_5 (dk_at dksX0_restore_0 12 rfl rfl)
theorem dX0_restore_13 : decode cX0_restore 13 = .ok (.ireturn, 1) := dk_172 (dk_at dksX0_restore_0 13 rfl rfl)
theorem dX0_restore_14 : decode cX0_restore 14 = .ok (.iconst 0, 1) := dk_3 (dk_at dksX0_restore_0 14 rfl rfl)
theorem dX0_restore_15 : decode cX0_restore 15 = .ok (.ireturn, 1) := dk_172 (dk_at dksX0_restore_0 15 rfl rfl)
def dkwX1_init_2 : List UInt8 := [181, 0, 48, 42, 5, 189, 0, 29, 181, 0, 52, 177]
abbrev dktX1_init_2 : List UInt8 := dkwX1_init_2 ++ []
def dkwX1_init_1 : List UInt8 := [187, 0, 31, 89, 183, 0, 33, 183, 0, 34, 182, 0, 37, 181, 0, 41, 42, 187, 0, 45, 89, 183, 0, 47]
abbrev dktX1_init_1 : List UInt8 := dkwX1_init_1 ++ dktX1_init_2
def dkwX1_init_0 : List UInt8 := [42, 183, 0, 18, 42, 17, 3, 132, 188, 8, 181, 0, 21, 42, 2, 181, 0, 25, 42, 187, 0, 29, 89]
abbrev dktX1_init_0 : List UInt8 := dkwX1_init_0 ++ dktX1_init_1
theorem dksX1_init_0 : cX1_init.data.toList.drop 0 = dktX1_init_0 := by decide +kernel
theorem dksX1_init_1 : cX1_init.data.toList.drop 23 = dktX1_init_1 := dk_seg dksX1_init_0 23 rfl rfl
theorem dksX1_init_2 : cX1_init.data.toList.drop 47 = dktX1_init_2 := dk_seg dksX1_init_1 24 rfl rfl
theorem dX1_init_0 : decode cX1_init 0 = .ok (.aload_n 0, 1) := dk_42 (dk_at dksX1_init_0 0 rfl rfl)
theorem dX1_init_1 : decode cX1_init 1 = .ok (.invokespecial 18, 3) := dk_183 0 18 (dk_at dksX1_init_0 1 rfl rfl)
theorem dX1_init_4 : decode cX1_init 4 = .ok (.aload_n 0, 1) := dk_42 (dk_at dksX1_init_0 4 rfl rfl)
theorem dX1_init_5 : decode cX1_init 5 = .ok (.sipush 900, 3) := dk_17 3 132 (dk_at dksX1_init_0 5 rfl rfl)
theorem dX1_init_8 : decode cX1_init 8 = .ok (.newarray .byte, 2) := dk_188_8 (dk_at dksX1_init_0 8 rfl rfl)
theorem dX1_init_10 : decode cX1_init 10 = .ok (.putfield 21, 3) := dk_181 0 21 (dk_at dksX1_init_0 10 rfl rfl)
theorem dX1_init_13 : decode cX1_init 13 = .ok (.aload_n 0, 1) := dk_42 (dk_at dksX1_init_0 13 rfl rfl)
theorem dX1_init_14 : decode cX1_init 14 = .ok (.iconst (-1), 1) := dk_2 (dk_at dksX1_init_0 14 rfl rfl)
theorem dX1_init_15 : decode cX1_init 15 = .ok (.putfield 25, 3) := dk_181 0 25 (dk_at dksX1_init_0 15 rfl rfl)
theorem dX1_init_18 : decode cX1_init 18 = .ok (.aload_n 0, 1) := dk_42 (dk_at dksX1_init_0 18 rfl rfl)
theorem dX1_init_19 : decode cX1_init 19 = .ok (.new 29, 3) := dk_187 0 29 (dk_at dksX1_init_0 19 rfl rfl)
theorem dX1_init_22 : decode cX1_init 22 = .ok (.dup, 1) := dk_89 (dk_at dksX1_init_0 22 rfl rfl)
theorem dX1_init_23 : decode cX1_init 23 = .ok (.new 31, 3) := dk_187 0 31 (dk_at dksX1_init_1 0 rfl rfl)
theorem dX1_init_26 : decode cX1_init 26 = .ok (.dup, 1) := dk_89 (dk_at dksX1_init_1 3 rfl rfl)
theorem dX1_init_27 : decode cX1_init 27 = .ok (.invokespecial 33, 3) := dk_183 0 33 (dk_at dksX1_init_1 4 rfl rfl)
theorem dX1_init_30 : decode cX1_init 30 = .ok (.invokespecial 34, 3) := dk_183 0 34 (dk_at dksX1_init_1 7 rfl rfl)
theorem dX1_init_33 : decode cX1_init 33 = .ok (.invokevirtual 37, 3) := dk_182 0 37 (dk_at dksX1_init_1 10 rfl rfl)
theorem dX1_init_36 : decode cX1_init 36 = .ok (.putfield 41, 3) := dk_181 0 41 (dk_at dksX1_init_1 13 rfl rfl)
theorem dX1_init_39 : decode cX1_init 39 = .ok (.aload_n 0, 1) := dk_42 (dk_at dksX1_init_1 16 rfl rfl)
theorem dX1_init_40 : decode cX1_init 40 = .ok (.new 45, 3) := dk_187 0 45 (dk_at dksX1_init_1 17 rfl rfl)
theorem dX1_init_43 : decode cX1_init 43 = .ok (.dup, 1) := dk_89 (dk_at dksX1_init_1 20 rfl rfl)
theorem dX1_init_44 : decode cX1_init 44 = .ok (.invokespecial 47, 3) := dk_183 0 47 (dk_at dksX1_init_1 21 rfl rfl)
theorem dX1_init_47 : decode cX1_init 47 = .ok (.putfield 48, 3) := dk_181 0 48 (dk_at dksX1_init_2 0 rfl rfl)
theorem dX1_init_50 : decode cX1_init 50 = .ok (.aload_n 0, 1) := dk_42 (dk_at dksX1_init_2 3 rfl rfl)
theorem dX1_init_51 : decode cX1_init 51 = .ok (.iconst 2, 1) := dk_5 (dk_at dksX1_init_2 4 rfl rfl)
theorem dX1_init_52 : decode cX1_init 52 = .ok (.anewarray 29, 3) := dk_189 0 29 (dk_at dksX1_init_2 5 rfl rfl)
theorem dX1_init_55 : decode cX1_init 55 = .ok (.putfield 52, 3) := dk_181 0 52 (dk_at dksX1_init_2 8 rfl rfl)
theorem dX1_init_58 : decode cX1_init 58 = .ok (.return_, 1) := dk_177 (dk_at dksX1_init_2 11 rfl rfl)
def dkwX1_has_0 : List UInt8 := [26, 27, 122, 4, 126, 4, 160, 0, 7, 4, 167, 0, 4, 3, 172]
abbrev dktX1_has_0 : List UInt8 := dkwX1_has_0 ++ []
theorem dksX1_has_0 : cX1_has.data.toList.drop 0 = dktX1_has_0 := by decide +kernel
theorem dX1_has_0 : decode cX1_has 0 = .ok (.iload_n 0, 1) := dk_26 (dk_at dksX1_has_0 0 rfl rfl)
theorem dX1_has_1 : decode cX1_has 1 = .ok (.iload_n 1, 1) := dk_27 (dk_at dksX1_has_0 1 rfl rfl)
theorem dX1_has_2 : decode cX1_has 2 = .ok (.ishr, 1) := dk_122 (dk_at dksX1_has_0 2 rfl rfl)
theorem dX1_has_3 : decode cX1_has 3 = .ok (.iconst 1, 1) := dk_4 (dk_at dksX1_has_0 3 rfl rfl)
theorem dX1_has_4 : decode cX1_has 4 = .ok (.iand, 1) := dk_126 (dk_at dksX1_has_0 4 rfl rfl)
theorem dX1_has_5 : decode cX1_has 5 = .ok (.iconst 1, 1) := dk_4 (dk_at dksX1_has_0 5 rfl rfl)
theorem dX1_has_6 : decode cX1_has 6 = .ok (.if_icmp .ne 7, 3) := dk_160 0 7 (dk_at dksX1_has_0 6 rfl rfl)
theorem dX1_has_9 : decode cX1_has 9 = .ok (.iconst 1, 1) := dk_4 (dk_at dksX1_has_0 9 rfl rfl)
theorem dX1_has_10 : decode cX1_has 10 = .ok (.goto 4, 3) := dk_167 0 4 (dk_at dksX1_has_0 10 rfl rfl)
theorem dX1_has_13 : decode cX1_has 13 = .ok (.iconst 0, 1) := dk_3 (dk_at dksX1_has_0 13 rfl rfl)
theorem dX1_has_14 : decode cX1_has 14 = .ok (.ireturn, 1) := dk_172 (dk_at dksX1_has_0 14 rfl rfl)
theorem dX1_errorCode_0 : decode cX1_errorCode 0 = .ok (.aload_n 0, 1) := by decide +kernel
theorem dX1_errorCode_1 : decode cX1_errorCode 1 = .ok (.getfield 74, 3) := by decide +kernel
theorem dX1_errorCode_4 : decode cX1_errorCode 4 = .ok (.ireturn, 1) := by decide +kernel
theorem dX1_errorPosition_0 : decode cX1_errorPosition 0 = .ok (.aload_n 0, 1) := by decide +kernel
theorem dX1_errorPosition_1 : decode cX1_errorPosition 1 = .ok (.getfield 25, 3) := by decide +kernel
theorem dX1_errorPosition_4 : decode cX1_errorPosition 4 = .ok (.ireturn, 1) := by decide +kernel
def dkwX1_rights_0 : List UInt8 := [42, 180, 0, 41, 182, 1, 5, 172]
abbrev dktX1_rights_0 : List UInt8 := dkwX1_rights_0 ++ []
theorem dksX1_rights_0 : cX1_rights.data.toList.drop 0 = dktX1_rights_0 := by decide +kernel
theorem dX1_rights_0 : decode cX1_rights 0 = .ok (.aload_n 0, 1) := dk_42 (dk_at dksX1_rights_0 0 rfl rfl)
theorem dX1_rights_1 : decode cX1_rights 1 = .ok (.getfield 41, 3) := dk_180 0 41 (dk_at dksX1_rights_0 1 rfl rfl)
theorem dX1_rights_4 : decode cX1_rights 4 = .ok (.invokevirtual 261, 3) := dk_182 1 5 (dk_at dksX1_rights_0 4 rfl rfl)
theorem dX1_rights_7 : decode cX1_rights 7 = .ok (.ireturn, 1) := dk_172 (dk_at dksX1_rights_0 7 rfl rfl)
def dkwX1_strain_0 : List UInt8 := [42, 180, 0, 41, 180, 1, 11, 135, 42, 180, 0, 41, 180, 0, 169, 135, 111, 175]
abbrev dktX1_strain_0 : List UInt8 := dkwX1_strain_0 ++ []
theorem dksX1_strain_0 : cX1_strain.data.toList.drop 0 = dktX1_strain_0 := by decide +kernel
theorem dX1_strain_0 : decode cX1_strain 0 = .ok (.aload_n 0, 1) := dk_42 (dk_at dksX1_strain_0 0 rfl rfl)
theorem dX1_strain_1 : decode cX1_strain 1 = .ok (.getfield 41, 3) := dk_180 0 41 (dk_at dksX1_strain_0 1 rfl rfl)
theorem dX1_strain_4 : decode cX1_strain 4 = .ok (.getfield 267, 3) := dk_180 1 11 (dk_at dksX1_strain_0 4 rfl rfl)
theorem dX1_strain_7 : decode cX1_strain 7 = .ok (.i2d, 1) := dk_135 (dk_at dksX1_strain_0 7 rfl rfl)
theorem dX1_strain_8 : decode cX1_strain 8 = .ok (.aload_n 0, 1) := dk_42 (dk_at dksX1_strain_0 8 rfl rfl)
theorem dX1_strain_9 : decode cX1_strain 9 = .ok (.getfield 41, 3) := dk_180 0 41 (dk_at dksX1_strain_0 9 rfl rfl)
theorem dX1_strain_12 : decode cX1_strain 12 = .ok (.getfield 169, 3) := dk_180 0 169 (dk_at dksX1_strain_0 12 rfl rfl)
theorem dX1_strain_15 : decode cX1_strain 15 = .ok (.i2d, 1) := dk_135 (dk_at dksX1_strain_0 15 rfl rfl)
theorem dX1_strain_16 : decode cX1_strain 16 = .ok (.ddiv, 1) := dk_111 (dk_at dksX1_strain_0 16 rfl rfl)
theorem dX1_strain_17 : decode cX1_strain 17 = .ok (.dreturn, 1) := dk_175 (dk_at dksX1_strain_0 17 rfl rfl)
def dkwX1_grants_1 : List UInt8 := [180, 1, 22, 29, 46, 120, 128, 61, 132, 3, 1, 167, 255, 234, 28, 172]
abbrev dktX1_grants_1 : List UInt8 := dkwX1_grants_1 ++ []
def dkwX1_grants_0 : List UInt8 := [42, 180, 0, 41, 182, 1, 25, 76, 3, 61, 3, 62, 29, 43, 180, 1, 21, 162, 0, 20, 28, 4, 43]
abbrev dktX1_grants_0 : List UInt8 := dkwX1_grants_0 ++ dktX1_grants_1
theorem dksX1_grants_0 : cX1_grants.data.toList.drop 0 = dktX1_grants_0 := by decide +kernel
theorem dksX1_grants_1 : cX1_grants.data.toList.drop 23 = dktX1_grants_1 := dk_seg dksX1_grants_0 23 rfl rfl
theorem dX1_grants_0 : decode cX1_grants 0 = .ok (.aload_n 0, 1) := dk_42 (dk_at dksX1_grants_0 0 rfl rfl)
theorem dX1_grants_1 : decode cX1_grants 1 = .ok (.getfield 41, 3) := dk_180 0 41 (dk_at dksX1_grants_0 1 rfl rfl)
theorem dX1_grants_4 : decode cX1_grants 4 = .ok (.invokevirtual 281, 3) := dk_182 1 25 (dk_at dksX1_grants_0 4 rfl rfl)
theorem dX1_grants_7 : decode cX1_grants 7 = .ok (.astore_n 1, 1) := dk_76 (dk_at dksX1_grants_0 7 rfl rfl)
theorem dX1_grants_8 : decode cX1_grants 8 = .ok (.iconst 0, 1) := dk_3 (dk_at dksX1_grants_0 8 rfl rfl)
theorem dX1_grants_9 : decode cX1_grants 9 = .ok (.istore_n 2, 1) := dk_61 (dk_at dksX1_grants_0 9 rfl rfl)
theorem dX1_grants_10 : decode cX1_grants 10 = .ok (.iconst 0, 1) := dk_3 (dk_at dksX1_grants_0 10 rfl rfl)
theorem dX1_grants_11 : decode cX1_grants 11 = .ok (.istore_n 3, 1) := dk_62 (dk_at dksX1_grants_0 11 rfl rfl)
theorem dX1_grants_12 : decode cX1_grants 12 = .ok (.iload_n 3, 1) := dk_29 (dk_at dksX1_grants_0 12 rfl rfl)
theorem dX1_grants_13 : decode cX1_grants 13 = .ok (.aload_n 1, 1) := dk_43 (dk_at dksX1_grants_0 13 rfl rfl)
theorem dX1_grants_14 : decode cX1_grants 14 = .ok (.getfield 277, 3) := dk_180 1 21 (dk_at dksX1_grants_0 14 rfl rfl)
theorem dX1_grants_17 : decode cX1_grants 17 = .ok (.if_icmp .ge 20, 3) := dk_162 0 20 (dk_at dksX1_grants_0 17 rfl rfl)
theorem dX1_grants_20 : decode cX1_grants 20 = .ok (.iload_n 2, 1) := dk_28 (dk_at dksX1_grants_0 20 rfl rfl)
theorem dX1_grants_21 : decode cX1_grants 21 = .ok (.iconst 1, 1) := dk_4 (dk_at dksX1_grants_0 21 rfl rfl)
theorem dX1_grants_22 : decode cX1_grants 22 = .ok (.aload_n 1, 1) := dk_43 (dk_at dksX1_grants_0 22 rfl rfl)
theorem dX1_grants_23 : decode cX1_grants 23 = .ok (.getfield 278, 3) := dk_180 1 22 (dk_at dksX1_grants_1 0 rfl rfl)
theorem dX1_grants_26 : decode cX1_grants 26 = .ok (.iload_n 3, 1) := dk_29 (dk_at dksX1_grants_1 3 rfl rfl)
theorem dX1_grants_27 : decode cX1_grants 27 = .ok (.iaload, 1) := dk_46 (dk_at dksX1_grants_1 4 rfl rfl)
theorem dX1_grants_28 : decode cX1_grants 28 = .ok (.ishl, 1) := dk_120 (dk_at dksX1_grants_1 5 rfl rfl)
theorem dX1_grants_29 : decode cX1_grants 29 = .ok (.ior, 1) := dk_128 (dk_at dksX1_grants_1 6 rfl rfl)
theorem dX1_grants_30 : decode cX1_grants 30 = .ok (.istore_n 2, 1) := dk_61 (dk_at dksX1_grants_1 7 rfl rfl)
theorem dX1_grants_31 : decode cX1_grants 31 = .ok (.iinc 3 1, 3) := dk_132 3 1 (dk_at dksX1_grants_1 8 rfl rfl)
theorem dX1_grants_34 : decode cX1_grants 34 = .ok (.goto (-22), 3) := dk_167 255 234 (dk_at dksX1_grants_1 11 rfl rfl)
theorem dX1_grants_37 : decode cX1_grants 37 = .ok (.iload_n 2, 1) := dk_28 (dk_at dksX1_grants_1 14 rfl rfl)
theorem dX1_grants_38 : decode cX1_grants 38 = .ok (.ireturn, 1) := dk_172 (dk_at dksX1_grants_1 15 rfl rfl)
def dkwX1_forget_0 : List UInt8 := [42, 182, 1, 73, 182, 1, 45, 172]
abbrev dktX1_forget_0 : List UInt8 := dkwX1_forget_0 ++ []
theorem dksX1_forget_0 : cX1_forget.data.toList.drop 0 = dktX1_forget_0 := by decide +kernel
theorem dX1_forget_0 : decode cX1_forget 0 = .ok (.aload_n 0, 1) := dk_42 (dk_at dksX1_forget_0 0 rfl rfl)
theorem dX1_forget_1 : decode cX1_forget 1 = .ok (.invokevirtual 329, 3) := dk_182 1 73 (dk_at dksX1_forget_0 1 rfl rfl)
theorem dX1_forget_4 : decode cX1_forget 4 = .ok (.invokevirtual 301, 3) := dk_182 1 45 (dk_at dksX1_forget_0 4 rfl rfl)
theorem dX1_forget_7 : decode cX1_forget 7 = .ok (.ireturn, 1) := dk_172 (dk_at dksX1_forget_0 7 rfl rfl)
def dkwX1_change_2 : List UInt8 := [180, 0, 41, 176]
abbrev dktX1_change_2 : List UInt8 := dkwX1_change_2 ++ []
def dkwX1_change_1 : List UInt8 := [180, 0, 48, 42, 180, 0, 41, 182, 1, 67, 42, 42, 180, 0, 41, 182, 1, 35, 181, 0, 41, 42]
abbrev dktX1_change_1 : List UInt8 := dkwX1_change_1 ++ dktX1_change_2
def dkwX1_change_0 : List UInt8 := [42, 180, 0, 48, 182, 0, 182, 16, 8, 160, 0, 14, 42, 180, 0, 48, 182, 1, 63, 192, 0, 29, 76, 42]
abbrev dktX1_change_0 : List UInt8 := dkwX1_change_0 ++ dktX1_change_1
theorem dksX1_change_0 : cX1_change.data.toList.drop 0 = dktX1_change_0 := by decide +kernel
theorem dksX1_change_1 : cX1_change.data.toList.drop 24 = dktX1_change_1 := dk_seg dksX1_change_0 24 rfl rfl
theorem dksX1_change_2 : cX1_change.data.toList.drop 46 = dktX1_change_2 := dk_seg dksX1_change_1 22 rfl rfl
theorem dX1_change_0 : decode cX1_change 0 = .ok (.aload_n 0, 1) := dk_42 (dk_at dksX1_change_0 0 rfl rfl)
theorem dX1_change_1 : decode cX1_change 1 = .ok (.getfield 48, 3) := dk_180 0 48 (dk_at dksX1_change_0 1 rfl rfl)
theorem dX1_change_4 : decode cX1_change 4 = .ok (.invokevirtual 182, 3) := dk_182 0 182 (dk_at dksX1_change_0 4 rfl rfl)
theorem dX1_change_7 : decode cX1_change 7 = .ok (.bipush 8, 2) := dk_16 8 (dk_at dksX1_change_0 7 rfl rfl)
theorem dX1_change_9 : decode cX1_change 9 = .ok (.if_icmp .ne 14, 3) := dk_160 0 14 (dk_at dksX1_change_0 9 rfl rfl)
theorem dX1_change_12 : decode cX1_change 12 = .ok (.aload_n 0, 1) := dk_42 (dk_at dksX1_change_0 12 rfl rfl)
theorem dX1_change_13 : decode cX1_change 13 = .ok (.getfield 48, 3) := dk_180 0 48 (dk_at dksX1_change_0 13 rfl rfl)
theorem dX1_change_16 : decode cX1_change 16 = .ok (.invokevirtual 319, 3) := dk_182 1 63 (dk_at dksX1_change_0 16 rfl rfl)
theorem dX1_change_19 : decode cX1_change 19 = .ok (.checkcast 29, 3) := dk_192 0 29 (dk_at dksX1_change_0 19 rfl rfl)
theorem dX1_change_22 : decode cX1_change 22 = .ok (.astore_n 1, 1) := dk_76 (dk_at dksX1_change_0 22 rfl rfl)
theorem dX1_change_23 : decode cX1_change 23 = .ok (.aload_n 0, 1) := dk_42 (dk_at dksX1_change_0 23 rfl rfl)
theorem dX1_change_24 : decode cX1_change 24 = .ok (.getfield 48, 3) := dk_180 0 48 (dk_at dksX1_change_1 0 rfl rfl)
theorem dX1_change_27 : decode cX1_change 27 = .ok (.aload_n 0, 1) := dk_42 (dk_at dksX1_change_1 3 rfl rfl)
theorem dX1_change_28 : decode cX1_change 28 = .ok (.getfield 41, 3) := dk_180 0 41 (dk_at dksX1_change_1 4 rfl rfl)
theorem dX1_change_31 : decode cX1_change 31 = .ok (.invokevirtual 323, 3) := dk_182 1 67 (dk_at dksX1_change_1 7 rfl rfl)
theorem dX1_change_34 : decode cX1_change 34 = .ok (.aload_n 0, 1) := dk_42 (dk_at dksX1_change_1 10 rfl rfl)
theorem dX1_change_35 : decode cX1_change 35 = .ok (.aload_n 0, 1) := dk_42 (dk_at dksX1_change_1 11 rfl rfl)
theorem dX1_change_36 : decode cX1_change 36 = .ok (.getfield 41, 3) := dk_180 0 41 (dk_at dksX1_change_1 12 rfl rfl)
theorem dX1_change_39 : decode cX1_change 39 = .ok (.invokevirtual 291, 3) := dk_182 1 35 (dk_at dksX1_change_1 15 rfl rfl)
theorem dX1_change_42 : decode cX1_change 42 = .ok (.putfield 41, 3) := dk_181 0 41 (dk_at dksX1_change_1 18 rfl rfl)
theorem dX1_change_45 : decode cX1_change 45 = .ok (.aload_n 0, 1) := dk_42 (dk_at dksX1_change_1 21 rfl rfl)
theorem dX1_change_46 : decode cX1_change 46 = .ok (.getfield 41, 3) := dk_180 0 41 (dk_at dksX1_change_2 0 rfl rfl)
theorem dX1_change_49 : decode cX1_change 49 = .ok (.areturn, 1) := dk_176 (dk_at dksX1_change_2 3 rfl rfl)
def dkwX1_append_2 : List UInt8 := [182, 0, 63, 42, 180, 0, 56, 172]
abbrev dktX1_append_2 : List UInt8 := dkwX1_append_2 ++ []
def dkwX1_append_1 : List UInt8 := [182, 0, 63, 42, 28, 182, 0, 63, 42, 29, 182, 0, 63, 42, 21, 4, 182, 0, 63, 42, 21, 5]
abbrev dktX1_append_1 : List UInt8 := dkwX1_append_1 ++ dktX1_append_2
def dkwX1_append_0 : List UInt8 := [42, 180, 0, 56, 16, 20, 96, 17, 3, 132, 163, 0, 7, 4, 167, 0, 4, 3, 184, 0, 59, 42, 27]
abbrev dktX1_append_0 : List UInt8 := dkwX1_append_0 ++ dktX1_append_1
theorem dksX1_append_0 : cX1_append.data.toList.drop 0 = dktX1_append_0 := by decide +kernel
theorem dksX1_append_1 : cX1_append.data.toList.drop 23 = dktX1_append_1 := dk_seg dksX1_append_0 23 rfl rfl
theorem dksX1_append_2 : cX1_append.data.toList.drop 45 = dktX1_append_2 := dk_seg dksX1_append_1 22 rfl rfl
theorem dX1_append_0 : decode cX1_append 0 = .ok (.aload_n 0, 1) := dk_42 (dk_at dksX1_append_0 0 rfl rfl)
theorem dX1_append_1 : decode cX1_append 1 = .ok (.getfield 56, 3) := dk_180 0 56 (dk_at dksX1_append_0 1 rfl rfl)
theorem dX1_append_4 : decode cX1_append 4 = .ok (.bipush 20, 2) := dk_16 20 (dk_at dksX1_append_0 4 rfl rfl)
theorem dX1_append_6 : decode cX1_append 6 = .ok (.iadd, 1) := dk_96 (dk_at dksX1_append_0 6 rfl rfl)
theorem dX1_append_7 : decode cX1_append 7 = .ok (.sipush 900, 3) := dk_17 3 132 (dk_at dksX1_append_0 7 rfl rfl)
theorem dX1_append_10 : decode cX1_append 10 = .ok (.if_icmp .gt 7, 3) := dk_163 0 7 (dk_at dksX1_append_0 10 rfl rfl)
theorem dX1_append_13 : decode cX1_append 13 = .ok (.iconst 1, 1) := dk_4 (dk_at dksX1_append_0 13 rfl rfl)
theorem dX1_append_14 : decode cX1_append 14 = .ok (.goto 4, 3) := dk_167 0 4 (dk_at dksX1_append_0 14 rfl rfl)
theorem dX1_append_17 : decode cX1_append 17 = .ok (.iconst 0, 1) := dk_3 (dk_at dksX1_append_0 17 rfl rfl)
theorem dX1_append_18 : decode cX1_append 18 = .ok (.invokestatic 59, 3) := dk_184 0 59 (dk_at dksX1_append_0 18 rfl rfl)
theorem dX1_append_21 : decode cX1_append 21 = .ok (.aload_n 0, 1) := dk_42 (dk_at dksX1_append_0 21 rfl rfl)
theorem dX1_append_22 : decode cX1_append 22 = .ok (.iload_n 1, 1) := dk_27 (dk_at dksX1_append_0 22 rfl rfl)
theorem dX1_append_23 : decode cX1_append 23 = .ok (.invokevirtual 63, 3) := dk_182 0 63 (dk_at dksX1_append_1 0 rfl rfl)
theorem dX1_append_26 : decode cX1_append 26 = .ok (.aload_n 0, 1) := dk_42 (dk_at dksX1_append_1 3 rfl rfl)
theorem dX1_append_27 : decode cX1_append 27 = .ok (.iload_n 2, 1) := dk_28 (dk_at dksX1_append_1 4 rfl rfl)
theorem dX1_append_28 : decode cX1_append 28 = .ok (.invokevirtual 63, 3) := dk_182 0 63 (dk_at dksX1_append_1 5 rfl rfl)
theorem dX1_append_31 : decode cX1_append 31 = .ok (.aload_n 0, 1) := dk_42 (dk_at dksX1_append_1 8 rfl rfl)
theorem dX1_append_32 : decode cX1_append 32 = .ok (.iload_n 3, 1) := dk_29 (dk_at dksX1_append_1 9 rfl rfl)
theorem dX1_append_33 : decode cX1_append 33 = .ok (.invokevirtual 63, 3) := dk_182 0 63 (dk_at dksX1_append_1 10 rfl rfl)
theorem dX1_append_36 : decode cX1_append 36 = .ok (.aload_n 0, 1) := dk_42 (dk_at dksX1_append_1 13 rfl rfl)
theorem dX1_append_37 : decode cX1_append 37 = .ok (.iload 4, 2) := dk_21 4 (dk_at dksX1_append_1 14 rfl rfl)
theorem dX1_append_39 : decode cX1_append 39 = .ok (.invokevirtual 63, 3) := dk_182 0 63 (dk_at dksX1_append_1 16 rfl rfl)
theorem dX1_append_42 : decode cX1_append 42 = .ok (.aload_n 0, 1) := dk_42 (dk_at dksX1_append_1 19 rfl rfl)
theorem dX1_append_43 : decode cX1_append 43 = .ok (.iload 5, 2) := dk_21 5 (dk_at dksX1_append_1 20 rfl rfl)
theorem dX1_append_45 : decode cX1_append 45 = .ok (.invokevirtual 63, 3) := dk_182 0 63 (dk_at dksX1_append_2 0 rfl rfl)
theorem dX1_append_48 : decode cX1_append 48 = .ok (.aload_n 0, 1) := dk_42 (dk_at dksX1_append_2 3 rfl rfl)
theorem dX1_append_49 : decode cX1_append 49 = .ok (.getfield 56, 3) := dk_180 0 56 (dk_at dksX1_append_2 4 rfl rfl)
theorem dX1_append_52 : decode cX1_append 52 = .ok (.ireturn, 1) := dk_172 (dk_at dksX1_append_2 7 rfl rfl)
def dkwX1_checkState_0 : List UInt8 := [26, 154, 0, 11, 187, 0, 9, 89, 183, 0, 11, 191, 177]
abbrev dktX1_checkState_0 : List UInt8 := dkwX1_checkState_0 ++ []
theorem dksX1_checkState_0 : cX1_checkState.data.toList.drop 0 = dktX1_checkState_0 := by decide +kernel
theorem dX1_checkState_0 : decode cX1_checkState 0 = .ok (.iload_n 0, 1) := dk_26 (dk_at dksX1_checkState_0 0 rfl rfl)
theorem dX1_checkState_1 : decode cX1_checkState 1 = .ok (.ifCond .ne 11, 3) := dk_154 0 11 (dk_at dksX1_checkState_0 1 rfl rfl)
theorem dX1_checkState_4 : decode cX1_checkState 4 = .ok (.new 9, 3) := dk_187 0 9 (dk_at dksX1_checkState_0 4 rfl rfl)
theorem dX1_checkState_7 : decode cX1_checkState 7 = .ok (.dup, 1) := dk_89 (dk_at dksX1_checkState_0 7 rfl rfl)
theorem dX1_checkState_8 : decode cX1_checkState 8 = .ok (.invokespecial 11, 3) := dk_183 0 11 (dk_at dksX1_checkState_0 8 rfl rfl)
theorem dX1_checkState_11 : decode cX1_checkState 11 = .ok (.athrow, 1) := dk_191 (dk_at dksX1_checkState_0 11 rfl rfl)
theorem dX1_checkState_12 : decode cX1_checkState 12 = .ok (.return_, 1) := dk_177 (dk_at dksX1_checkState_0 12 rfl rfl)
def dkwX1_put_1 : List UInt8 := [180, 0, 56, 4, 96, 181, 0, 56, 132, 2, 248, 167, 255, 226, 177]
abbrev dktX1_put_1 : List UInt8 := dkwX1_put_1 ++ []
def dkwX1_put_0 : List UInt8 := [16, 24, 61, 28, 155, 0, 32, 42, 180, 0, 21, 42, 180, 0, 56, 27, 28, 122, 145, 84, 42, 89]
abbrev dktX1_put_0 : List UInt8 := dkwX1_put_0 ++ dktX1_put_1
theorem dksX1_put_0 : cX1_put.data.toList.drop 0 = dktX1_put_0 := by decide +kernel
theorem dksX1_put_1 : cX1_put.data.toList.drop 22 = dktX1_put_1 := dk_seg dksX1_put_0 22 rfl rfl
theorem dX1_put_0 : decode cX1_put 0 = .ok (.bipush 24, 2) := dk_16 24 (dk_at dksX1_put_0 0 rfl rfl)
theorem dX1_put_2 : decode cX1_put 2 = .ok (.istore_n 2, 1) := dk_61 (dk_at dksX1_put_0 2 rfl rfl)
theorem dX1_put_3 : decode cX1_put 3 = .ok (.iload_n 2, 1) := dk_28 (dk_at dksX1_put_0 3 rfl rfl)
theorem dX1_put_4 : decode cX1_put 4 = .ok (.ifCond .lt 32, 3) := dk_155 0 32 (dk_at dksX1_put_0 4 rfl rfl)
theorem dX1_put_7 : decode cX1_put 7 = .ok (.aload_n 0, 1) := dk_42 (dk_at dksX1_put_0 7 rfl rfl)
theorem dX1_put_8 : decode cX1_put 8 = .ok (.getfield 21, 3) := dk_180 0 21 (dk_at dksX1_put_0 8 rfl rfl)
theorem dX1_put_11 : decode cX1_put 11 = .ok (.aload_n 0, 1) := dk_42 (dk_at dksX1_put_0 11 rfl rfl)
theorem dX1_put_12 : decode cX1_put 12 = .ok (.getfield 56, 3) := dk_180 0 56 (dk_at dksX1_put_0 12 rfl rfl)
theorem dX1_put_15 : decode cX1_put 15 = .ok (.iload_n 1, 1) := dk_27 (dk_at dksX1_put_0 15 rfl rfl)
theorem dX1_put_16 : decode cX1_put 16 = .ok (.iload_n 2, 1) := dk_28 (dk_at dksX1_put_0 16 rfl rfl)
theorem dX1_put_17 : decode cX1_put 17 = .ok (.ishr, 1) := dk_122 (dk_at dksX1_put_0 17 rfl rfl)
theorem dX1_put_18 : decode cX1_put 18 = .ok (.i2b, 1) := dk_145 (dk_at dksX1_put_0 18 rfl rfl)
theorem dX1_put_19 : decode cX1_put 19 = .ok (.bastore, 1) := dk_84 (dk_at dksX1_put_0 19 rfl rfl)
theorem dX1_put_20 : decode cX1_put 20 = .ok (.aload_n 0, 1) := dk_42 (dk_at dksX1_put_0 20 rfl rfl)
theorem dX1_put_21 : decode cX1_put 21 = .ok (.dup, 1) := dk_89 (dk_at dksX1_put_0 21 rfl rfl)
theorem dX1_put_22 : decode cX1_put 22 = .ok (.getfield 56, 3) := dk_180 0 56 (dk_at dksX1_put_1 0 rfl rfl)
theorem dX1_put_25 : decode cX1_put 25 = .ok (.iconst 1, 1) := dk_4 (dk_at dksX1_put_1 3 rfl rfl)
theorem dX1_put_26 : decode cX1_put 26 = .ok (.iadd, 1) := dk_96 (dk_at dksX1_put_1 4 rfl rfl)
theorem dX1_put_27 : decode cX1_put 27 = .ok (.putfield 56, 3) := dk_181 0 56 (dk_at dksX1_put_1 5 rfl rfl)
theorem dX1_put_30 : decode cX1_put 30 = .ok (.iinc 2 (-8), 3) := dk_132 2 248 (dk_at dksX1_put_1 8 rfl rfl)
theorem dX1_put_33 : decode cX1_put 33 = .ok (.goto (-30), 3) := dk_167 255 226 (dk_at dksX1_put_1 11 rfl rfl)
theorem dX1_put_36 : decode cX1_put 36 = .ok (.return_, 1) := dk_177 (dk_at dksX1_put_1 14 rfl rfl)
def dkwX1_truncate_0 : List UInt8 := [27, 133, 9, 42, 180, 0, 56, 133, 184, 0, 67, 184, 0, 71, 42, 27, 181, 0, 56, 27, 172]
abbrev dktX1_truncate_0 : List UInt8 := dkwX1_truncate_0 ++ []
theorem dksX1_truncate_0 : cX1_truncate.data.toList.drop 0 = dktX1_truncate_0 := by decide +kernel
theorem dX1_truncate_0 : decode cX1_truncate 0 = .ok (.iload_n 1, 1) := dk_27 (dk_at dksX1_truncate_0 0 rfl rfl)
theorem dX1_truncate_1 : decode cX1_truncate 1 = .ok (.i2l, 1) := dk_133 (dk_at dksX1_truncate_0 1 rfl rfl)
theorem dX1_truncate_2 : decode cX1_truncate 2 = .ok (.lconst 0, 1) := dk_9 (dk_at dksX1_truncate_0 2 rfl rfl)
theorem dX1_truncate_3 : decode cX1_truncate 3 = .ok (.aload_n 0, 1) := dk_42 (dk_at dksX1_truncate_0 3 rfl rfl)
theorem dX1_truncate_4 : decode cX1_truncate 4 = .ok (.getfield 56, 3) := dk_180 0 56 (dk_at dksX1_truncate_0 4 rfl rfl)
theorem dX1_truncate_7 : decode cX1_truncate 7 = .ok (.i2l, 1) := dk_133 (dk_at dksX1_truncate_0 7 rfl rfl)
theorem dX1_truncate_8 : decode cX1_truncate 8 = .ok (.invokestatic 67, 3) := dk_184 0 67 (dk_at dksX1_truncate_0 8 rfl rfl)
theorem dX1_truncate_11 : decode cX1_truncate 11 = .ok (.invokestatic 71, 3) := dk_184 0 71 (dk_at dksX1_truncate_0 11 rfl rfl)
theorem dX1_truncate_14 : decode cX1_truncate 14 = .ok (.aload_n 0, 1) := dk_42 (dk_at dksX1_truncate_0 14 rfl rfl)
theorem dX1_truncate_15 : decode cX1_truncate 15 = .ok (.iload_n 1, 1) := dk_27 (dk_at dksX1_truncate_0 15 rfl rfl)
theorem dX1_truncate_16 : decode cX1_truncate 16 = .ok (.putfield 56, 3) := dk_181 0 56 (dk_at dksX1_truncate_0 16 rfl rfl)
theorem dX1_truncate_19 : decode cX1_truncate 19 = .ok (.iload_n 1, 1) := dk_27 (dk_at dksX1_truncate_0 19 rfl rfl)
theorem dX1_truncate_20 : decode cX1_truncate 20 = .ok (.ireturn, 1) := dk_172 (dk_at dksX1_truncate_0 20 rfl rfl)
def dkwX1_in_0 : List UInt8 := [30, 32, 148, 155, 0, 14, 30, 22, 4, 148, 157, 0, 7, 4, 167, 0, 4, 3, 172]
abbrev dktX1_in_0 : List UInt8 := dkwX1_in_0 ++ []
theorem dksX1_in_0 : cX1_in.data.toList.drop 0 = dktX1_in_0 := by decide +kernel
theorem dX1_in_0 : decode cX1_in 0 = .ok (.lload_n 0, 1) := dk_30 (dk_at dksX1_in_0 0 rfl rfl)
theorem dX1_in_1 : decode cX1_in 1 = .ok (.lload_n 2, 1) := dk_32 (dk_at dksX1_in_0 1 rfl rfl)
theorem dX1_in_2 : decode cX1_in 2 = .ok (.lcmp, 1) := dk_148 (dk_at dksX1_in_0 2 rfl rfl)
theorem dX1_in_3 : decode cX1_in 3 = .ok (.ifCond .lt 14, 3) := dk_155 0 14 (dk_at dksX1_in_0 3 rfl rfl)
theorem dX1_in_6 : decode cX1_in 6 = .ok (.lload_n 0, 1) := dk_30 (dk_at dksX1_in_0 6 rfl rfl)
theorem dX1_in_7 : decode cX1_in 7 = .ok (.lload 4, 2) := dk_22 4 (dk_at dksX1_in_0 7 rfl rfl)
theorem dX1_in_9 : decode cX1_in 9 = .ok (.lcmp, 1) := dk_148 (dk_at dksX1_in_0 9 rfl rfl)
theorem dX1_in_10 : decode cX1_in 10 = .ok (.ifCond .gt 7, 3) := dk_157 0 7 (dk_at dksX1_in_0 10 rfl rfl)
theorem dX1_in_13 : decode cX1_in 13 = .ok (.iconst 1, 1) := dk_4 (dk_at dksX1_in_0 13 rfl rfl)
theorem dX1_in_14 : decode cX1_in 14 = .ok (.goto 4, 3) := dk_167 0 4 (dk_at dksX1_in_0 14 rfl rfl)
theorem dX1_in_17 : decode cX1_in 17 = .ok (.iconst 0, 1) := dk_3 (dk_at dksX1_in_0 17 rfl rfl)
theorem dX1_in_18 : decode cX1_in 18 = .ok (.ireturn, 1) := dk_172 (dk_at dksX1_in_0 18 rfl rfl)
def dkwX1_checkIndex_0 : List UInt8 := [26, 154, 0, 11, 187, 0, 12, 89, 183, 0, 14, 191, 177]
abbrev dktX1_checkIndex_0 : List UInt8 := dkwX1_checkIndex_0 ++ []
theorem dksX1_checkIndex_0 : cX1_checkIndex.data.toList.drop 0 = dktX1_checkIndex_0 := by decide +kernel
theorem dX1_checkIndex_0 : decode cX1_checkIndex 0 = .ok (.iload_n 0, 1) := dk_26 (dk_at dksX1_checkIndex_0 0 rfl rfl)
theorem dX1_checkIndex_1 : decode cX1_checkIndex 1 = .ok (.ifCond .ne 11, 3) := dk_154 0 11 (dk_at dksX1_checkIndex_0 1 rfl rfl)
theorem dX1_checkIndex_4 : decode cX1_checkIndex 4 = .ok (.new 12, 3) := dk_187 0 12 (dk_at dksX1_checkIndex_0 4 rfl rfl)
theorem dX1_checkIndex_7 : decode cX1_checkIndex 7 = .ok (.dup, 1) := dk_89 (dk_at dksX1_checkIndex_0 7 rfl rfl)
theorem dX1_checkIndex_8 : decode cX1_checkIndex 8 = .ok (.invokespecial 14, 3) := dk_183 0 14 (dk_at dksX1_checkIndex_0 8 rfl rfl)
theorem dX1_checkIndex_11 : decode cX1_checkIndex 11 = .ok (.athrow, 1) := dk_191 (dk_at dksX1_checkIndex_0 11 rfl rfl)
theorem dX1_checkIndex_12 : decode cX1_checkIndex 12 = .ok (.return_, 1) := dk_177 (dk_at dksX1_checkIndex_0 12 rfl rfl)
def dkwX1_load_6 : List UInt8 := [180, 0, 41, 180, 0, 107, 182, 0, 111, 172]
abbrev dktX1_load_6 : List UInt8 := dkwX1_load_6 ++ []
def dkwX1_load_5 : List UInt8 := [181, 0, 56, 25, 4, 191, 42, 180, 0, 74, 154, 0, 7, 4, 167, 0, 4, 3, 184, 0, 104, 42]
abbrev dktX1_load_5 : List UInt8 := dkwX1_load_5 ++ dktX1_load_6
def dkwX1_load_4 : List UInt8 := [181, 0, 74, 42, 44, 182, 0, 101, 181, 0, 25, 42, 3, 181, 0, 56, 167, 0, 13, 58, 4, 42, 3]
abbrev dktX1_load_4 : List UInt8 := dkwX1_load_4 ++ dktX1_load_5
def dkwX1_load_3 : List UInt8 := [76, 43, 182, 0, 91, 78, 45, 193, 0, 95, 153, 0, 24, 45, 192, 0, 95, 77, 42, 44, 182, 0, 97]
abbrev dktX1_load_3 : List UInt8 := dkwX1_load_3 ++ dktX1_load_4
def dkwX1_load_2 : List UInt8 := [162, 0, 16, 42, 180, 0, 52, 27, 1, 83, 132, 1, 1, 167, 255, 241, 42, 3, 181, 0, 56, 167, 0, 55]
abbrev dktX1_load_2 : List UInt8 := dkwX1_load_2 ++ dktX1_load_3
def dkwX1_load_1 : List UInt8 := [182, 0, 82, 183, 0, 34, 182, 0, 37, 181, 0, 41, 42, 180, 0, 48, 182, 0, 86, 3, 60, 27, 5]
abbrev dktX1_load_1 : List UInt8 := dkwX1_load_1 ++ dktX1_load_2
def dkwX1_load_0 : List UInt8 := [42, 3, 181, 0, 74, 42, 2, 181, 0, 25, 42, 187, 0, 29, 89, 187, 0, 77, 89, 42, 183, 0, 79]
abbrev dktX1_load_0 : List UInt8 := dkwX1_load_0 ++ dktX1_load_1
theorem dksX1_load_0 : cX1_load.data.toList.drop 0 = dktX1_load_0 := by decide +kernel
theorem dksX1_load_1 : cX1_load.data.toList.drop 23 = dktX1_load_1 := dk_seg dksX1_load_0 23 rfl rfl
theorem dksX1_load_2 : cX1_load.data.toList.drop 46 = dktX1_load_2 := dk_seg dksX1_load_1 23 rfl rfl
theorem dksX1_load_3 : cX1_load.data.toList.drop 70 = dktX1_load_3 := dk_seg dksX1_load_2 24 rfl rfl
theorem dksX1_load_4 : cX1_load.data.toList.drop 93 = dktX1_load_4 := dk_seg dksX1_load_3 23 rfl rfl
theorem dksX1_load_5 : cX1_load.data.toList.drop 116 = dktX1_load_5 := dk_seg dksX1_load_4 23 rfl rfl
theorem dksX1_load_6 : cX1_load.data.toList.drop 138 = dktX1_load_6 := dk_seg dksX1_load_5 22 rfl rfl
theorem dX1_load_0 : decode cX1_load 0 = .ok (.aload_n 0, 1) := dk_42 (dk_at dksX1_load_0 0 rfl rfl)
theorem dX1_load_1 : decode cX1_load 1 = .ok (.iconst 0, 1) := dk_3 (dk_at dksX1_load_0 1 rfl rfl)
theorem dX1_load_2 : decode cX1_load 2 = .ok (.putfield 74, 3) := dk_181 0 74 (dk_at dksX1_load_0 2 rfl rfl)
theorem dX1_load_5 : decode cX1_load 5 = .ok (.aload_n 0, 1) := dk_42 (dk_at dksX1_load_0 5 rfl rfl)
theorem dX1_load_6 : decode cX1_load 6 = .ok (.iconst (-1), 1) := dk_2 (dk_at dksX1_load_0 6 rfl rfl)
theorem dX1_load_7 : decode cX1_load 7 = .ok (.putfield 25, 3) := dk_181 0 25 (dk_at dksX1_load_0 7 rfl rfl)
theorem dX1_load_10 : decode cX1_load 10 = .ok (.aload_n 0, 1) := dk_42 (dk_at dksX1_load_0 10 rfl rfl)
theorem dX1_load_11 : decode cX1_load 11 = .ok (.new 29, 3) := dk_187 0 29 (dk_at dksX1_load_0 11 rfl rfl)
theorem dX1_load_14 : decode cX1_load 14 = .ok (.dup, 1) := dk_89 (dk_at dksX1_load_0 14 rfl rfl)
theorem dX1_load_15 : decode cX1_load 15 = .ok (.new 77, 3) := dk_187 0 77 (dk_at dksX1_load_0 15 rfl rfl)
theorem dX1_load_18 : decode cX1_load 18 = .ok (.dup, 1) := dk_89 (dk_at dksX1_load_0 18 rfl rfl)
theorem dX1_load_19 : decode cX1_load 19 = .ok (.aload_n 0, 1) := dk_42 (dk_at dksX1_load_0 19 rfl rfl)
theorem dX1_load_20 : decode cX1_load 20 = .ok (.invokespecial 79, 3) := dk_183 0 79 (dk_at dksX1_load_0 20 rfl rfl)
theorem dX1_load_23 : decode cX1_load 23 = .ok (.invokevirtual 82, 3) := dk_182 0 82 (dk_at dksX1_load_1 0 rfl rfl)
theorem dX1_load_26 : decode cX1_load 26 = .ok (.invokespecial 34, 3) := dk_183 0 34 (dk_at dksX1_load_1 3 rfl rfl)
theorem dX1_load_29 : decode cX1_load 29 = .ok (.invokevirtual 37, 3) := dk_182 0 37 (dk_at dksX1_load_1 6 rfl rfl)
theorem dX1_load_32 : decode cX1_load 32 = .ok (.putfield 41, 3) := dk_181 0 41 (dk_at dksX1_load_1 9 rfl rfl)
theorem dX1_load_35 : decode cX1_load 35 = .ok (.aload_n 0, 1) := dk_42 (dk_at dksX1_load_1 12 rfl rfl)
theorem dX1_load_36 : decode cX1_load 36 = .ok (.getfield 48, 3) := dk_180 0 48 (dk_at dksX1_load_1 13 rfl rfl)
theorem dX1_load_39 : decode cX1_load 39 = .ok (.invokevirtual 86, 3) := dk_182 0 86 (dk_at dksX1_load_1 16 rfl rfl)
theorem dX1_load_42 : decode cX1_load 42 = .ok (.iconst 0, 1) := dk_3 (dk_at dksX1_load_1 19 rfl rfl)
theorem dX1_load_43 : decode cX1_load 43 = .ok (.istore_n 1, 1) := dk_60 (dk_at dksX1_load_1 20 rfl rfl)
theorem dX1_load_44 : decode cX1_load 44 = .ok (.iload_n 1, 1) := dk_27 (dk_at dksX1_load_1 21 rfl rfl)
theorem dX1_load_45 : decode cX1_load 45 = .ok (.iconst 2, 1) := dk_5 (dk_at dksX1_load_1 22 rfl rfl)
theorem dX1_load_46 : decode cX1_load 46 = .ok (.if_icmp .ge 16, 3) := dk_162 0 16 (dk_at dksX1_load_2 0 rfl rfl)
theorem dX1_load_49 : decode cX1_load 49 = .ok (.aload_n 0, 1) := dk_42 (dk_at dksX1_load_2 3 rfl rfl)
theorem dX1_load_50 : decode cX1_load 50 = .ok (.getfield 52, 3) := dk_180 0 52 (dk_at dksX1_load_2 4 rfl rfl)
theorem dX1_load_53 : decode cX1_load 53 = .ok (.iload_n 1, 1) := dk_27 (dk_at dksX1_load_2 7 rfl rfl)
theorem dX1_load_54 : decode cX1_load 54 = .ok (.aconst_null, 1) := dk_1 (dk_at dksX1_load_2 8 rfl rfl)
theorem dX1_load_55 : decode cX1_load 55 = .ok (.aastore, 1) := dk_83 (dk_at dksX1_load_2 9 rfl rfl)
theorem dX1_load_56 : decode cX1_load 56 = .ok (.iinc 1 1, 3) := dk_132 1 1 (dk_at dksX1_load_2 10 rfl rfl)
theorem dX1_load_59 : decode cX1_load 59 = .ok (.goto (-15), 3) := dk_167 255 241 (dk_at dksX1_load_2 13 rfl rfl)
theorem dX1_load_62 : decode cX1_load 62 = .ok (.aload_n 0, 1) := dk_42 (dk_at dksX1_load_2 16 rfl rfl)
theorem dX1_load_63 : decode cX1_load 63 = .ok (.iconst 0, 1) := dk_3 (dk_at dksX1_load_2 17 rfl rfl)
theorem dX1_load_64 : decode cX1_load 64 = .ok (.putfield 56, 3) := dk_181 0 56 (dk_at dksX1_load_2 18 rfl rfl)
theorem dX1_load_67 : decode cX1_load 67 = .ok (.goto 55, 3) := dk_167 0 55 (dk_at dksX1_load_2 21 rfl rfl)
theorem dX1_load_70 : decode cX1_load 70 = .ok (.astore_n 1, 1) := dk_76 (dk_at dksX1_load_3 0 rfl rfl)
theorem dX1_load_71 : decode cX1_load 71 = .ok (.aload_n 1, 1) := dk_43 (dk_at dksX1_load_3 1 rfl rfl)
theorem dX1_load_72 : decode cX1_load 72 = .ok (.invokevirtual 91, 3) := dk_182 0 91 (dk_at dksX1_load_3 2 rfl rfl)
theorem dX1_load_75 : decode cX1_load 75 = .ok (.astore_n 3, 1) := dk_78 (dk_at dksX1_load_3 5 rfl rfl)
theorem dX1_load_76 : decode cX1_load 76 = .ok (.aload_n 3, 1) := dk_45 (dk_at dksX1_load_3 6 rfl rfl)
theorem dX1_load_77 : decode cX1_load 77 = .ok (.instanceof 95, 3) := dk_193 0 95 (dk_at dksX1_load_3 7 rfl rfl)
theorem dX1_load_80 : decode cX1_load 80 = .ok (.ifCond .eq 24, 3) := dk_153 0 24 (dk_at dksX1_load_3 10 rfl rfl)
theorem dX1_load_83 : decode cX1_load 83 = .ok (.aload_n 3, 1) := dk_45 (dk_at dksX1_load_3 13 rfl rfl)
theorem dX1_load_84 : decode cX1_load 84 = .ok (.checkcast 95, 3) := dk_192 0 95 (dk_at dksX1_load_3 14 rfl rfl)
theorem dX1_load_87 : decode cX1_load 87 = .ok (.astore_n 2, 1) := dk_77 (dk_at dksX1_load_3 17 rfl rfl)
theorem dX1_load_88 : decode cX1_load 88 = .ok (.aload_n 0, 1) := dk_42 (dk_at dksX1_load_3 18 rfl rfl)
theorem dX1_load_89 : decode cX1_load 89 = .ok (.aload_n 2, 1) := dk_44 (dk_at dksX1_load_3 19 rfl rfl)
theorem dX1_load_90 : decode cX1_load 90 = .ok (.invokevirtual 97, 3) := dk_182 0 97 (dk_at dksX1_load_3 20 rfl rfl)
theorem dX1_load_93 : decode cX1_load 93 = .ok (.putfield 74, 3) := dk_181 0 74 (dk_at dksX1_load_4 0 rfl rfl)
theorem dX1_load_96 : decode cX1_load 96 = .ok (.aload_n 0, 1) := dk_42 (dk_at dksX1_load_4 3 rfl rfl)
theorem dX1_load_97 : decode cX1_load 97 = .ok (.aload_n 2, 1) := dk_44 (dk_at dksX1_load_4 4 rfl rfl)
theorem dX1_load_98 : decode cX1_load 98 = .ok (.invokevirtual 101, 3) := dk_182 0 101 (dk_at dksX1_load_4 5 rfl rfl)
theorem dX1_load_101 : decode cX1_load 101 = .ok (.putfield 25, 3) := dk_181 0 25 (dk_at dksX1_load_4 8 rfl rfl)
theorem dX1_load_104 : decode cX1_load 104 = .ok (.aload_n 0, 1) := dk_42 (dk_at dksX1_load_4 11 rfl rfl)
theorem dX1_load_105 : decode cX1_load 105 = .ok (.iconst 0, 1) := dk_3 (dk_at dksX1_load_4 12 rfl rfl)
theorem dX1_load_106 : decode cX1_load 106 = .ok (.putfield 56, 3) := dk_181 0 56 (dk_at dksX1_load_4 13 rfl rfl)
theorem dX1_load_109 : decode cX1_load 109 = .ok (.goto 13, 3) := dk_167 0 13 (dk_at dksX1_load_4 16 rfl rfl)
theorem dX1_load_112 : decode cX1_load 112 = .ok (.astore 4, 2) := dk_58 4 (dk_at dksX1_load_4 19 rfl rfl)
theorem dX1_load_114 : decode cX1_load 114 = .ok (.aload_n 0, 1) := dk_42 (dk_at dksX1_load_4 21 rfl rfl)
theorem dX1_load_115 : decode cX1_load 115 = .ok (.iconst 0, 1) := dk_3 (dk_at dksX1_load_4 22 rfl rfl)
theorem dX1_load_116 : decode cX1_load 116 = .ok (.putfield 56, 3) := dk_181 0 56 (dk_at dksX1_load_5 0 rfl rfl)
theorem dX1_load_119 : decode cX1_load 119 = .ok (.aload 4, 2) := dk_25 4 (dk_at dksX1_load_5 3 rfl rfl)
theorem dX1_load_121 : decode cX1_load 121 = .ok (.athrow, 1) := dk_191 (dk_at dksX1_load_5 5 rfl rfl)
theorem dX1_load_122 : decode cX1_load 122 = .ok (.aload_n 0, 1) := dk_42 (dk_at dksX1_load_5 6 rfl rfl)
theorem dX1_load_123 : decode cX1_load 123 = .ok (.getfield 74, 3) := dk_180 0 74 (dk_at dksX1_load_5 7 rfl rfl)
theorem dX1_load_126 : decode cX1_load 126 = .ok (.ifCond .ne 7, 3) := dk_154 0 7 (dk_at dksX1_load_5 10 rfl rfl)
theorem dX1_load_129 : decode cX1_load 129 = .ok (.iconst 1, 1) := dk_4 (dk_at dksX1_load_5 13 rfl rfl)
theorem dX1_load_130 : decode cX1_load 130 = .ok (.goto 4, 3) := dk_167 0 4 (dk_at dksX1_load_5 14 rfl rfl)
theorem dX1_load_133 : decode cX1_load 133 = .ok (.iconst 0, 1) := dk_3 (dk_at dksX1_load_5 17 rfl rfl)
theorem dX1_load_134 : decode cX1_load 134 = .ok (.invokestatic 104, 3) := dk_184 0 104 (dk_at dksX1_load_5 18 rfl rfl)
theorem dX1_load_137 : decode cX1_load 137 = .ok (.aload_n 0, 1) := dk_42 (dk_at dksX1_load_5 21 rfl rfl)
theorem dX1_load_138 : decode cX1_load 138 = .ok (.getfield 41, 3) := dk_180 0 41 (dk_at dksX1_load_6 0 rfl rfl)
theorem dX1_load_141 : decode cX1_load 141 = .ok (.getfield 107, 3) := dk_180 0 107 (dk_at dksX1_load_6 3 rfl rfl)
theorem dX1_load_144 : decode cX1_load 144 = .ok (.invokevirtual 111, 3) := dk_182 0 111 (dk_at dksX1_load_6 6 rfl rfl)
theorem dX1_load_147 : decode cX1_load 147 = .ok (.ireturn, 1) := dk_172 (dk_at dksX1_load_6 9 rfl rfl)
def dkwX1_checkArgument_0 : List UInt8 := [26, 154, 0, 11, 187, 0, 3, 89, 183, 0, 5, 191, 177]
abbrev dktX1_checkArgument_0 : List UInt8 := dkwX1_checkArgument_0 ++ []
theorem dksX1_checkArgument_0 : cX1_checkArgument.data.toList.drop 0 = dktX1_checkArgument_0 := by decide +kernel
theorem dX1_checkArgument_0 : decode cX1_checkArgument 0 = .ok (.iload_n 0, 1) := dk_26 (dk_at dksX1_checkArgument_0 0 rfl rfl)
theorem dX1_checkArgument_1 : decode cX1_checkArgument 1 = .ok (.ifCond .ne 11, 3) := dk_154 0 11 (dk_at dksX1_checkArgument_0 1 rfl rfl)
theorem dX1_checkArgument_4 : decode cX1_checkArgument 4 = .ok (.new 3, 3) := dk_187 0 3 (dk_at dksX1_checkArgument_0 4 rfl rfl)
theorem dX1_checkArgument_7 : decode cX1_checkArgument 7 = .ok (.dup, 1) := dk_89 (dk_at dksX1_checkArgument_0 7 rfl rfl)
theorem dX1_checkArgument_8 : decode cX1_checkArgument 8 = .ok (.invokespecial 5, 3) := dk_183 0 5 (dk_at dksX1_checkArgument_0 8 rfl rfl)
theorem dX1_checkArgument_11 : decode cX1_checkArgument 11 = .ok (.athrow, 1) := dk_191 (dk_at dksX1_checkArgument_0 11 rfl rfl)
theorem dX1_checkArgument_12 : decode cX1_checkArgument 12 = .ok (.return_, 1) := dk_177 (dk_at dksX1_checkArgument_0 12 rfl rfl)
def dkwX1_find_3 : List UInt8 := [167, 0, 4, 3, 184, 0, 130, 28, 172]
abbrev dktX1_find_3 : List UInt8 := dkwX1_find_3 ++ []
def dkwX1_find_2 : List UInt8 := [181, 0, 56, 42, 180, 0, 41, 180, 0, 107, 43, 182, 0, 122, 182, 0, 126, 61, 28, 2, 159, 0, 7, 4]
abbrev dktX1_find_2 : List UInt8 := dkwX1_find_2 ++ dktX1_find_3
def dkwX1_find_1 : List UInt8 := [180, 0, 21, 28, 51, 17, 0, 255, 126, 146, 182, 0, 118, 87, 132, 2, 1, 167, 255, 229, 42, 3]
abbrev dktX1_find_1 : List UInt8 := dkwX1_find_1 ++ dktX1_find_2
def dkwX1_find_0 : List UInt8 := [187, 0, 114, 89, 42, 180, 0, 56, 183, 0, 116, 76, 3, 61, 28, 42, 180, 0, 56, 162, 0, 25, 43, 42]
abbrev dktX1_find_0 : List UInt8 := dkwX1_find_0 ++ dktX1_find_1
theorem dksX1_find_0 : cX1_find.data.toList.drop 0 = dktX1_find_0 := by decide +kernel
theorem dksX1_find_1 : cX1_find.data.toList.drop 24 = dktX1_find_1 := dk_seg dksX1_find_0 24 rfl rfl
theorem dksX1_find_2 : cX1_find.data.toList.drop 46 = dktX1_find_2 := dk_seg dksX1_find_1 22 rfl rfl
theorem dksX1_find_3 : cX1_find.data.toList.drop 70 = dktX1_find_3 := dk_seg dksX1_find_2 24 rfl rfl
theorem dX1_find_0 : decode cX1_find 0 = .ok (.new 114, 3) := dk_187 0 114 (dk_at dksX1_find_0 0 rfl rfl)
theorem dX1_find_3 : decode cX1_find 3 = .ok (.dup, 1) := dk_89 (dk_at dksX1_find_0 3 rfl rfl)
theorem dX1_find_4 : decode cX1_find 4 = .ok (.aload_n 0, 1) := dk_42 (dk_at dksX1_find_0 4 rfl rfl)
theorem dX1_find_5 : decode cX1_find 5 = .ok (.getfield 56, 3) := dk_180 0 56 (dk_at dksX1_find_0 5 rfl rfl)
theorem dX1_find_8 : decode cX1_find 8 = .ok (.invokespecial 116, 3) := dk_183 0 116 (dk_at dksX1_find_0 8 rfl rfl)
theorem dX1_find_11 : decode cX1_find 11 = .ok (.astore_n 1, 1) := dk_76 (dk_at dksX1_find_0 11 rfl rfl)
theorem dX1_find_12 : decode cX1_find 12 = .ok (.iconst 0, 1) := dk_3 (dk_at dksX1_find_0 12 rfl rfl)
theorem dX1_find_13 : decode cX1_find 13 = .ok (.istore_n 2, 1) := dk_61 (dk_at dksX1_find_0 13 rfl rfl)
theorem dX1_find_14 : decode cX1_find 14 = .ok (.iload_n 2, 1) := dk_28 (dk_at dksX1_find_0 14 rfl rfl)
theorem dX1_find_15 : decode cX1_find 15 = .ok (.aload_n 0, 1) := dk_42 (dk_at dksX1_find_0 15 rfl rfl)
theorem dX1_find_16 : decode cX1_find 16 = .ok (.getfield 56, 3) := dk_180 0 56 (dk_at dksX1_find_0 16 rfl rfl)
theorem dX1_find_19 : decode cX1_find 19 = .ok (.if_icmp .ge 25, 3) := dk_162 0 25 (dk_at dksX1_find_0 19 rfl rfl)
theorem dX1_find_22 : decode cX1_find 22 = .ok (.aload_n 1, 1) := dk_43 (dk_at dksX1_find_0 22 rfl rfl)
theorem dX1_find_23 : decode cX1_find 23 = .ok (.aload_n 0, 1) := dk_42 (dk_at dksX1_find_0 23 rfl rfl)
theorem dX1_find_24 : decode cX1_find 24 = .ok (.getfield 21, 3) := dk_180 0 21 (dk_at dksX1_find_1 0 rfl rfl)
theorem dX1_find_27 : decode cX1_find 27 = .ok (.iload_n 2, 1) := dk_28 (dk_at dksX1_find_1 3 rfl rfl)
theorem dX1_find_28 : decode cX1_find 28 = .ok (.baload, 1) := dk_51 (dk_at dksX1_find_1 4 rfl rfl)
theorem dX1_find_29 : decode cX1_find 29 = .ok (.sipush 255, 3) := dk_17 0 255 (dk_at dksX1_find_1 5 rfl rfl)
theorem dX1_find_32 : decode cX1_find 32 = .ok (.iand, 1) := dk_126 (dk_at dksX1_find_1 8 rfl rfl)
theorem dX1_find_33 : decode cX1_find 33 = .ok (.i2c, 1) := dk_146 (dk_at dksX1_find_1 9 rfl rfl)
theorem dX1_find_34 : decode cX1_find 34 = .ok (.invokevirtual 118, 3) := dk_182 0 118 (dk_at dksX1_find_1 10 rfl rfl)
theorem dX1_find_37 : decode cX1_find 37 = .ok (.pop, 1) := dk_87 (dk_at dksX1_find_1 13 rfl rfl)
theorem dX1_find_38 : decode cX1_find 38 = .ok (.iinc 2 1, 3) := dk_132 2 1 (dk_at dksX1_find_1 14 rfl rfl)
theorem dX1_find_41 : decode cX1_find 41 = .ok (.goto (-27), 3) := dk_167 255 229 (dk_at dksX1_find_1 17 rfl rfl)
theorem dX1_find_44 : decode cX1_find 44 = .ok (.aload_n 0, 1) := dk_42 (dk_at dksX1_find_1 20 rfl rfl)
theorem dX1_find_45 : decode cX1_find 45 = .ok (.iconst 0, 1) := dk_3 (dk_at dksX1_find_1 21 rfl rfl)
theorem dX1_find_46 : decode cX1_find 46 = .ok (.putfield 56, 3) := dk_181 0 56 (dk_at dksX1_find_2 0 rfl rfl)
theorem dX1_find_49 : decode cX1_find 49 = .ok (.aload_n 0, 1) := dk_42 (dk_at dksX1_find_2 3 rfl rfl)
theorem dX1_find_50 : decode cX1_find 50 = .ok (.getfield 41, 3) := dk_180 0 41 (dk_at dksX1_find_2 4 rfl rfl)
theorem dX1_find_53 : decode cX1_find 53 = .ok (.getfield 107, 3) := dk_180 0 107 (dk_at dksX1_find_2 7 rfl rfl)
theorem dX1_find_56 : decode cX1_find 56 = .ok (.aload_n 1, 1) := dk_43 (dk_at dksX1_find_2 10 rfl rfl)
theorem dX1_find_57 : decode cX1_find 57 = .ok (.invokevirtual 122, 3) := dk_182 0 122 (dk_at dksX1_find_2 11 rfl rfl)
theorem dX1_find_60 : decode cX1_find 60 = .ok (.invokevirtual 126, 3) := dk_182 0 126 (dk_at dksX1_find_2 14 rfl rfl)
theorem dX1_find_63 : decode cX1_find 63 = .ok (.istore_n 2, 1) := dk_61 (dk_at dksX1_find_2 17 rfl rfl)
theorem dX1_find_64 : decode cX1_find 64 = .ok (.iload_n 2, 1) := dk_28 (dk_at dksX1_find_2 18 rfl rfl)
theorem dX1_find_65 : decode cX1_find 65 = .ok (.iconst (-1), 1) := dk_2 (dk_at dksX1_find_2 19 rfl rfl)
theorem dX1_find_66 : decode cX1_find 66 = .ok (.if_icmp .eq 7, 3) := dk_159 0 7 (dk_at dksX1_find_2 20 rfl rfl)
theorem dX1_find_69 : decode cX1_find 69 = .ok (.iconst 1, 1) := dk_4 (dk_at dksX1_find_2 23 rfl rfl)
theorem dX1_find_70 : decode cX1_find 70 = .ok (.goto 4, 3) := dk_167 0 4 (dk_at dksX1_find_3 0 rfl rfl)
theorem dX1_find_73 : decode cX1_find 73 = .ok (.iconst 0, 1) := dk_3 (dk_at dksX1_find_3 3 rfl rfl)
theorem dX1_find_74 : decode cX1_find 74 = .ok (.invokestatic 130, 3) := dk_184 0 130 (dk_at dksX1_find_3 4 rfl rfl)
theorem dX1_find_77 : decode cX1_find 77 = .ok (.iload_n 2, 1) := dk_28 (dk_at dksX1_find_3 7 rfl rfl)
theorem dX1_find_78 : decode cX1_find 78 = .ok (.ireturn, 1) := dk_172 (dk_at dksX1_find_3 8 rfl rfl)
def dkwX1_checkElement_0 : List UInt8 := [26, 154, 0, 11, 187, 0, 15, 89, 183, 0, 17, 191, 177]
abbrev dktX1_checkElement_0 : List UInt8 := dkwX1_checkElement_0 ++ []
theorem dksX1_checkElement_0 : cX1_checkElement.data.toList.drop 0 = dktX1_checkElement_0 := by decide +kernel
theorem dX1_checkElement_0 : decode cX1_checkElement 0 = .ok (.iload_n 0, 1) := dk_26 (dk_at dksX1_checkElement_0 0 rfl rfl)
theorem dX1_checkElement_1 : decode cX1_checkElement 1 = .ok (.ifCond .ne 11, 3) := dk_154 0 11 (dk_at dksX1_checkElement_0 1 rfl rfl)
theorem dX1_checkElement_4 : decode cX1_checkElement 4 = .ok (.new 15, 3) := dk_187 0 15 (dk_at dksX1_checkElement_0 4 rfl rfl)
theorem dX1_checkElement_7 : decode cX1_checkElement 7 = .ok (.dup, 1) := dk_89 (dk_at dksX1_checkElement_0 7 rfl rfl)
theorem dX1_checkElement_8 : decode cX1_checkElement 8 = .ok (.invokespecial 17, 3) := dk_183 0 17 (dk_at dksX1_checkElement_0 8 rfl rfl)
theorem dX1_checkElement_11 : decode cX1_checkElement 11 = .ok (.athrow, 1) := dk_191 (dk_at dksX1_checkElement_0 11 rfl rfl)
theorem dX1_checkElement_12 : decode cX1_checkElement 12 = .ok (.return_, 1) := dk_177 (dk_at dksX1_checkElement_0 12 rfl rfl)
def dkwX1_count_10 : List UInt8 := [191, 172]
abbrev dktX1_count_10 : List UInt8 := dkwX1_count_10 ++ []
def dkwX1_count_9 : List UInt8 := [167, 0, 25, 3, 167, 0, 21, 42, 180, 0, 48, 182, 0, 182, 167, 0, 11, 187, 0, 3, 89, 183, 0, 5]
abbrev dktX1_count_9 : List UInt8 := dkwX1_count_9 ++ dktX1_count_10
def dkwX1_count_8 : List UInt8 := [180, 0, 41, 180, 0, 107, 180, 0, 175, 167, 0, 39, 42, 180, 0, 41, 180, 0, 178, 153, 0, 7, 4]
abbrev dktX1_count_8 : List UInt8 := dkwX1_count_8 ++ dktX1_count_9
def dkwX1_count_7 : List UInt8 := [167, 0, 72, 42, 180, 0, 41, 180, 0, 169, 167, 0, 62, 42, 180, 0, 41, 180, 0, 172, 167, 0, 52, 42]
abbrev dktX1_count_7 : List UInt8 := dkwX1_count_7 ++ dktX1_count_8
def dkwX1_count_6 : List UInt8 := [180, 0, 158, 184, 0, 162, 167, 0, 88, 42, 180, 0, 41, 180, 0, 149, 180, 0, 166, 184, 0, 162]
abbrev dktX1_count_6 : List UInt8 := dkwX1_count_6 ++ dktX1_count_7
def dkwX1_count_5 : List UInt8 := [167, 0, 117, 42, 180, 0, 41, 180, 0, 149, 180, 0, 153, 167, 0, 104, 42, 180, 0, 41, 180, 0, 149]
abbrev dktX1_count_5 : List UInt8 := dkwX1_count_5 ++ dktX1_count_6
def dkwX1_count_4 : List UInt8 := [167, 0, 141, 4, 167, 0, 137, 42, 180, 0, 41, 180, 0, 143, 167, 0, 127, 42, 180, 0, 41, 180, 0, 146]
abbrev dktX1_count_4 : List UInt8 := dkwX1_count_4 ++ dktX1_count_5
def dkwX1_count_3 : List UInt8 := [167, 0, 165, 42, 180, 0, 41, 180, 0, 136, 167, 0, 155, 42, 180, 0, 41, 182, 0, 139, 153, 0, 7, 3]
abbrev dktX1_count_3 : List UInt8 := dkwX1_count_3 ++ dktX1_count_4
def dkwX1_count_2 : List UInt8 := [42, 180, 0, 41, 180, 0, 107, 182, 0, 111, 167, 0, 178, 42, 180, 0, 41, 180, 0, 107, 180, 0, 133]
abbrev dktX1_count_2 : List UInt8 := dkwX1_count_2 ++ dktX1_count_3
def dkwX1_count_1 : List UInt8 := [170, 0, 0, 0, 0, 0, 251, 0, 0, 0, 0, 0, 0, 0, 13, 0, 0, 0, 71, 0, 0, 0, 84, 0, 0, 0, 97, 0, 0, 0, 107, 0, 0, 0, 125, 0, 0, 0, 135, 0, 0, 0, 145, 0, 0, 0, 158, 0, 0, 0, 174, 0, 0, 0, 190, 0, 0, 0, 200, 0, 0, 0, 210, 0, 0, 0, 223, 0, 0, 0, 241]
abbrev dktX1_count_1 : List UInt8 := dkwX1_count_1 ++ dktX1_count_2
def dkwX1_count_0 : List UInt8 := [27]
abbrev dktX1_count_0 : List UInt8 := dkwX1_count_0 ++ dktX1_count_1
theorem dksX1_count_0 : cX1_count.data.toList.drop 0 = dktX1_count_0 := by decide +kernel
theorem dksX1_count_1 : cX1_count.data.toList.drop 1 = dktX1_count_1 := dk_seg dksX1_count_0 1 rfl rfl
theorem dksX1_count_2 : cX1_count.data.toList.drop 72 = dktX1_count_2 := dk_seg dksX1_count_1 71 rfl rfl
theorem dksX1_count_3 : cX1_count.data.toList.drop 95 = dktX1_count_3 := dk_seg dksX1_count_2 23 rfl rfl
theorem dksX1_count_4 : cX1_count.data.toList.drop 119 = dktX1_count_4 := dk_seg dksX1_count_3 24 rfl rfl
theorem dksX1_count_5 : cX1_count.data.toList.drop 143 = dktX1_count_5 := dk_seg dksX1_count_4 24 rfl rfl
theorem dksX1_count_6 : cX1_count.data.toList.drop 166 = dktX1_count_6 := dk_seg dksX1_count_5 23 rfl rfl
theorem dksX1_count_7 : cX1_count.data.toList.drop 188 = dktX1_count_7 := dk_seg dksX1_count_6 22 rfl rfl
theorem dksX1_count_8 : cX1_count.data.toList.drop 212 = dktX1_count_8 := dk_seg dksX1_count_7 24 rfl rfl
theorem dksX1_count_9 : cX1_count.data.toList.drop 235 = dktX1_count_9 := dk_seg dksX1_count_8 23 rfl rfl
theorem dksX1_count_10 : cX1_count.data.toList.drop 259 = dktX1_count_10 := dk_seg dksX1_count_9 24 rfl rfl
theorem dX1_count_0 : decode cX1_count 0 = .ok (.iload_n 1, 1) := dk_27 (dk_at dksX1_count_0 0 rfl rfl)
theorem dX1_count_1 : decode cX1_count 1 = .ok (.tableswitch 251 0 13 #[71, 84, 97, 107, 125, 135, 145, 158, 174, 190, 200, 210, 223, 241], 71) := by decide +kernel
theorem dX1_count_72 : decode cX1_count 72 = .ok (.aload_n 0, 1) := dk_42 (dk_at dksX1_count_2 0 rfl rfl)
theorem dX1_count_73 : decode cX1_count 73 = .ok (.getfield 41, 3) := dk_180 0 41 (dk_at dksX1_count_2 1 rfl rfl)
theorem dX1_count_76 : decode cX1_count 76 = .ok (.getfield 107, 3) := dk_180 0 107 (dk_at dksX1_count_2 4 rfl rfl)
theorem dX1_count_79 : decode cX1_count 79 = .ok (.invokevirtual 111, 3) := dk_182 0 111 (dk_at dksX1_count_2 7 rfl rfl)
theorem dX1_count_82 : decode cX1_count 82 = .ok (.goto 178, 3) := dk_167 0 178 (dk_at dksX1_count_2 10 rfl rfl)
theorem dX1_count_85 : decode cX1_count 85 = .ok (.aload_n 0, 1) := dk_42 (dk_at dksX1_count_2 13 rfl rfl)
theorem dX1_count_86 : decode cX1_count 86 = .ok (.getfield 41, 3) := dk_180 0 41 (dk_at dksX1_count_2 14 rfl rfl)
theorem dX1_count_89 : decode cX1_count 89 = .ok (.getfield 107, 3) := dk_180 0 107 (dk_at dksX1_count_2 17 rfl rfl)
theorem dX1_count_92 : decode cX1_count 92 = .ok (.getfield 133, 3) := dk_180 0 133 (dk_at dksX1_count_2 20 rfl rfl)
theorem dX1_count_95 : decode cX1_count 95 = .ok (.goto 165, 3) := dk_167 0 165 (dk_at dksX1_count_3 0 rfl rfl)
theorem dX1_count_98 : decode cX1_count 98 = .ok (.aload_n 0, 1) := dk_42 (dk_at dksX1_count_3 3 rfl rfl)
theorem dX1_count_99 : decode cX1_count 99 = .ok (.getfield 41, 3) := dk_180 0 41 (dk_at dksX1_count_3 4 rfl rfl)
theorem dX1_count_102 : decode cX1_count 102 = .ok (.getfield 136, 3) := dk_180 0 136 (dk_at dksX1_count_3 7 rfl rfl)
theorem dX1_count_105 : decode cX1_count 105 = .ok (.goto 155, 3) := dk_167 0 155 (dk_at dksX1_count_3 10 rfl rfl)
theorem dX1_count_108 : decode cX1_count 108 = .ok (.aload_n 0, 1) := dk_42 (dk_at dksX1_count_3 13 rfl rfl)
theorem dX1_count_109 : decode cX1_count 109 = .ok (.getfield 41, 3) := dk_180 0 41 (dk_at dksX1_count_3 14 rfl rfl)
theorem dX1_count_112 : decode cX1_count 112 = .ok (.invokevirtual 139, 3) := dk_182 0 139 (dk_at dksX1_count_3 17 rfl rfl)
theorem dX1_count_115 : decode cX1_count 115 = .ok (.ifCond .eq 7, 3) := dk_153 0 7 (dk_at dksX1_count_3 20 rfl rfl)
theorem dX1_count_118 : decode cX1_count 118 = .ok (.iconst 0, 1) := dk_3 (dk_at dksX1_count_3 23 rfl rfl)
theorem dX1_count_119 : decode cX1_count 119 = .ok (.goto 141, 3) := dk_167 0 141 (dk_at dksX1_count_4 0 rfl rfl)
theorem dX1_count_122 : decode cX1_count 122 = .ok (.iconst 1, 1) := dk_4 (dk_at dksX1_count_4 3 rfl rfl)
theorem dX1_count_123 : decode cX1_count 123 = .ok (.goto 137, 3) := dk_167 0 137 (dk_at dksX1_count_4 4 rfl rfl)
theorem dX1_count_126 : decode cX1_count 126 = .ok (.aload_n 0, 1) := dk_42 (dk_at dksX1_count_4 7 rfl rfl)
theorem dX1_count_127 : decode cX1_count 127 = .ok (.getfield 41, 3) := dk_180 0 41 (dk_at dksX1_count_4 8 rfl rfl)
theorem dX1_count_130 : decode cX1_count 130 = .ok (.getfield 143, 3) := dk_180 0 143 (dk_at dksX1_count_4 11 rfl rfl)
theorem dX1_count_133 : decode cX1_count 133 = .ok (.goto 127, 3) := dk_167 0 127 (dk_at dksX1_count_4 14 rfl rfl)
theorem dX1_count_136 : decode cX1_count 136 = .ok (.aload_n 0, 1) := dk_42 (dk_at dksX1_count_4 17 rfl rfl)
theorem dX1_count_137 : decode cX1_count 137 = .ok (.getfield 41, 3) := dk_180 0 41 (dk_at dksX1_count_4 18 rfl rfl)
theorem dX1_count_140 : decode cX1_count 140 = .ok (.getfield 146, 3) := dk_180 0 146 (dk_at dksX1_count_4 21 rfl rfl)
theorem dX1_count_143 : decode cX1_count 143 = .ok (.goto 117, 3) := dk_167 0 117 (dk_at dksX1_count_5 0 rfl rfl)
theorem dX1_count_146 : decode cX1_count 146 = .ok (.aload_n 0, 1) := dk_42 (dk_at dksX1_count_5 3 rfl rfl)
theorem dX1_count_147 : decode cX1_count 147 = .ok (.getfield 41, 3) := dk_180 0 41 (dk_at dksX1_count_5 4 rfl rfl)
theorem dX1_count_150 : decode cX1_count 150 = .ok (.getfield 149, 3) := dk_180 0 149 (dk_at dksX1_count_5 7 rfl rfl)
theorem dX1_count_153 : decode cX1_count 153 = .ok (.getfield 153, 3) := dk_180 0 153 (dk_at dksX1_count_5 10 rfl rfl)
theorem dX1_count_156 : decode cX1_count 156 = .ok (.goto 104, 3) := dk_167 0 104 (dk_at dksX1_count_5 13 rfl rfl)
theorem dX1_count_159 : decode cX1_count 159 = .ok (.aload_n 0, 1) := dk_42 (dk_at dksX1_count_5 16 rfl rfl)
theorem dX1_count_160 : decode cX1_count 160 = .ok (.getfield 41, 3) := dk_180 0 41 (dk_at dksX1_count_5 17 rfl rfl)
theorem dX1_count_163 : decode cX1_count 163 = .ok (.getfield 149, 3) := dk_180 0 149 (dk_at dksX1_count_5 20 rfl rfl)
theorem dX1_count_166 : decode cX1_count 166 = .ok (.getfield 158, 3) := dk_180 0 158 (dk_at dksX1_count_6 0 rfl rfl)
theorem dX1_count_169 : decode cX1_count 169 = .ok (.invokestatic 162, 3) := dk_184 0 162 (dk_at dksX1_count_6 3 rfl rfl)
theorem dX1_count_172 : decode cX1_count 172 = .ok (.goto 88, 3) := dk_167 0 88 (dk_at dksX1_count_6 6 rfl rfl)
theorem dX1_count_175 : decode cX1_count 175 = .ok (.aload_n 0, 1) := dk_42 (dk_at dksX1_count_6 9 rfl rfl)
theorem dX1_count_176 : decode cX1_count 176 = .ok (.getfield 41, 3) := dk_180 0 41 (dk_at dksX1_count_6 10 rfl rfl)
theorem dX1_count_179 : decode cX1_count 179 = .ok (.getfield 149, 3) := dk_180 0 149 (dk_at dksX1_count_6 13 rfl rfl)
theorem dX1_count_182 : decode cX1_count 182 = .ok (.getfield 166, 3) := dk_180 0 166 (dk_at dksX1_count_6 16 rfl rfl)
theorem dX1_count_185 : decode cX1_count 185 = .ok (.invokestatic 162, 3) := dk_184 0 162 (dk_at dksX1_count_6 19 rfl rfl)
theorem dX1_count_188 : decode cX1_count 188 = .ok (.goto 72, 3) := dk_167 0 72 (dk_at dksX1_count_7 0 rfl rfl)
theorem dX1_count_191 : decode cX1_count 191 = .ok (.aload_n 0, 1) := dk_42 (dk_at dksX1_count_7 3 rfl rfl)
theorem dX1_count_192 : decode cX1_count 192 = .ok (.getfield 41, 3) := dk_180 0 41 (dk_at dksX1_count_7 4 rfl rfl)
theorem dX1_count_195 : decode cX1_count 195 = .ok (.getfield 169, 3) := dk_180 0 169 (dk_at dksX1_count_7 7 rfl rfl)
theorem dX1_count_198 : decode cX1_count 198 = .ok (.goto 62, 3) := dk_167 0 62 (dk_at dksX1_count_7 10 rfl rfl)
theorem dX1_count_201 : decode cX1_count 201 = .ok (.aload_n 0, 1) := dk_42 (dk_at dksX1_count_7 13 rfl rfl)
theorem dX1_count_202 : decode cX1_count 202 = .ok (.getfield 41, 3) := dk_180 0 41 (dk_at dksX1_count_7 14 rfl rfl)
theorem dX1_count_205 : decode cX1_count 205 = .ok (.getfield 172, 3) := dk_180 0 172 (dk_at dksX1_count_7 17 rfl rfl)
theorem dX1_count_208 : decode cX1_count 208 = .ok (.goto 52, 3) := dk_167 0 52 (dk_at dksX1_count_7 20 rfl rfl)
theorem dX1_count_211 : decode cX1_count 211 = .ok (.aload_n 0, 1) := dk_42 (dk_at dksX1_count_7 23 rfl rfl)
theorem dX1_count_212 : decode cX1_count 212 = .ok (.getfield 41, 3) := dk_180 0 41 (dk_at dksX1_count_8 0 rfl rfl)
theorem dX1_count_215 : decode cX1_count 215 = .ok (.getfield 107, 3) := dk_180 0 107 (dk_at dksX1_count_8 3 rfl rfl)
theorem dX1_count_218 : decode cX1_count 218 = .ok (.getfield 175, 3) := dk_180 0 175 (dk_at dksX1_count_8 6 rfl rfl)
theorem dX1_count_221 : decode cX1_count 221 = .ok (.goto 39, 3) := dk_167 0 39 (dk_at dksX1_count_8 9 rfl rfl)
theorem dX1_count_224 : decode cX1_count 224 = .ok (.aload_n 0, 1) := dk_42 (dk_at dksX1_count_8 12 rfl rfl)
theorem dX1_count_225 : decode cX1_count 225 = .ok (.getfield 41, 3) := dk_180 0 41 (dk_at dksX1_count_8 13 rfl rfl)
theorem dX1_count_228 : decode cX1_count 228 = .ok (.getfield 178, 3) := dk_180 0 178 (dk_at dksX1_count_8 16 rfl rfl)
theorem dX1_count_231 : decode cX1_count 231 = .ok (.ifCond .eq 7, 3) := dk_153 0 7 (dk_at dksX1_count_8 19 rfl rfl)
theorem dX1_count_234 : decode cX1_count 234 = .ok (.iconst 1, 1) := dk_4 (dk_at dksX1_count_8 22 rfl rfl)
theorem dX1_count_235 : decode cX1_count 235 = .ok (.goto 25, 3) := dk_167 0 25 (dk_at dksX1_count_9 0 rfl rfl)
theorem dX1_count_238 : decode cX1_count 238 = .ok (.iconst 0, 1) := dk_3 (dk_at dksX1_count_9 3 rfl rfl)
theorem dX1_count_239 : decode cX1_count 239 = .ok (.goto 21, 3) := dk_167 0 21 (dk_at dksX1_count_9 4 rfl rfl)
theorem dX1_count_242 : decode cX1_count 242 = .ok (.aload_n 0, 1) := dk_42 (dk_at dksX1_count_9 7 rfl rfl)
theorem dX1_count_243 : decode cX1_count 243 = .ok (.getfield 48, 3) := dk_180 0 48 (dk_at dksX1_count_9 8 rfl rfl)
theorem dX1_count_246 : decode cX1_count 246 = .ok (.invokevirtual 182, 3) := dk_182 0 182 (dk_at dksX1_count_9 11 rfl rfl)
theorem dX1_count_249 : decode cX1_count 249 = .ok (.goto 11, 3) := dk_167 0 11 (dk_at dksX1_count_9 14 rfl rfl)
theorem dX1_count_252 : decode cX1_count 252 = .ok (.new 3, 3) := dk_187 0 3 (dk_at dksX1_count_9 17 rfl rfl)
theorem dX1_count_255 : decode cX1_count 255 = .ok (.dup, 1) := dk_89 (dk_at dksX1_count_9 20 rfl rfl)
theorem dX1_count_256 : decode cX1_count 256 = .ok (.invokespecial 5, 3) := dk_183 0 5 (dk_at dksX1_count_9 21 rfl rfl)
theorem dX1_count_259 : decode cX1_count 259 = .ok (.athrow, 1) := dk_191 (dk_at dksX1_count_10 0 rfl rfl)
theorem dX1_count_260 : decode cX1_count 260 = .ok (.ireturn, 1) := dk_172 (dk_at dksX1_count_10 1 rfl rfl)
def dkwX1_outlet_7 : List UInt8 := [183, 0, 5, 191, 172]
abbrev dktX1_outlet_7 : List UInt8 := dkwX1_outlet_7 ++ []
def dkwX1_outlet_6 : List UInt8 := [180, 0, 219, 27, 46, 167, 0, 23, 42, 180, 0, 41, 180, 0, 222, 27, 46, 167, 0, 11, 187, 0, 3, 89]
abbrev dktX1_outlet_6 : List UInt8 := dkwX1_outlet_6 ++ dktX1_outlet_7
def dkwX1_outlet_5 : List UInt8 := [180, 0, 214, 27, 46, 167, 0, 47, 42, 180, 0, 41, 180, 0, 216, 27, 46, 167, 0, 35, 42, 180, 0, 41]
abbrev dktX1_outlet_5 : List UInt8 := dkwX1_outlet_5 ++ dktX1_outlet_6
def dkwX1_outlet_4 : List UInt8 := [180, 0, 207, 27, 184, 0, 210, 153, 0, 7, 4, 167, 0, 63, 3, 167, 0, 59, 42, 180, 0, 41]
abbrev dktX1_outlet_4 : List UInt8 := dkwX1_outlet_4 ++ dktX1_outlet_5
def dkwX1_outlet_3 : List UInt8 := [180, 0, 201, 167, 0, 93, 42, 180, 0, 41, 180, 0, 204, 27, 46, 167, 0, 81, 42, 180, 0, 41]
abbrev dktX1_outlet_3 : List UInt8 := dkwX1_outlet_3 ++ dktX1_outlet_4
def dkwX1_outlet_2 : List UInt8 := [45, 180, 0, 190, 167, 0, 114, 45, 180, 0, 195, 167, 0, 107, 45, 180, 0, 198, 167, 0, 100, 45]
abbrev dktX1_outlet_2 : List UInt8 := dkwX1_outlet_2 ++ dktX1_outlet_3
def dkwX1_outlet_1 : List UInt8 := [170, 0, 0, 0, 163, 0, 0, 0, 0, 0, 0, 0, 9, 0, 0, 0, 53, 0, 0, 0, 60, 0, 0, 0, 67, 0, 0, 0, 74, 0, 0, 0, 81, 0, 0, 0, 93, 0, 0, 0, 115, 0, 0, 0, 127, 0, 0, 0, 139, 0, 0, 0, 151]
abbrev dktX1_outlet_1 : List UInt8 := dkwX1_outlet_1 ++ dktX1_outlet_2
def dkwX1_outlet_0 : List UInt8 := [42, 27, 182, 0, 187, 78, 28]
abbrev dktX1_outlet_0 : List UInt8 := dkwX1_outlet_0 ++ dktX1_outlet_1
theorem dksX1_outlet_0 : cX1_outlet.data.toList.drop 0 = dktX1_outlet_0 := by decide +kernel
theorem dksX1_outlet_1 : cX1_outlet.data.toList.drop 7 = dktX1_outlet_1 := dk_seg dksX1_outlet_0 7 rfl rfl
theorem dksX1_outlet_2 : cX1_outlet.data.toList.drop 60 = dktX1_outlet_2 := dk_seg dksX1_outlet_1 53 rfl rfl
theorem dksX1_outlet_3 : cX1_outlet.data.toList.drop 82 = dktX1_outlet_3 := dk_seg dksX1_outlet_2 22 rfl rfl
theorem dksX1_outlet_4 : cX1_outlet.data.toList.drop 104 = dktX1_outlet_4 := dk_seg dksX1_outlet_3 22 rfl rfl
theorem dksX1_outlet_5 : cX1_outlet.data.toList.drop 126 = dktX1_outlet_5 := dk_seg dksX1_outlet_4 22 rfl rfl
theorem dksX1_outlet_6 : cX1_outlet.data.toList.drop 150 = dktX1_outlet_6 := dk_seg dksX1_outlet_5 24 rfl rfl
theorem dksX1_outlet_7 : cX1_outlet.data.toList.drop 174 = dktX1_outlet_7 := dk_seg dksX1_outlet_6 24 rfl rfl
theorem dX1_outlet_0 : decode cX1_outlet 0 = .ok (.aload_n 0, 1) := dk_42 (dk_at dksX1_outlet_0 0 rfl rfl)
theorem dX1_outlet_1 : decode cX1_outlet 1 = .ok (.iload_n 1, 1) := dk_27 (dk_at dksX1_outlet_0 1 rfl rfl)
theorem dX1_outlet_2 : decode cX1_outlet 2 = .ok (.invokevirtual 187, 3) := dk_182 0 187 (dk_at dksX1_outlet_0 2 rfl rfl)
theorem dX1_outlet_5 : decode cX1_outlet 5 = .ok (.astore_n 3, 1) := dk_78 (dk_at dksX1_outlet_0 5 rfl rfl)
theorem dX1_outlet_6 : decode cX1_outlet 6 = .ok (.iload_n 2, 1) := dk_28 (dk_at dksX1_outlet_0 6 rfl rfl)
theorem dX1_outlet_7 : decode cX1_outlet 7 = .ok (.tableswitch 163 0 9 #[53, 60, 67, 74, 81, 93, 115, 127, 139, 151], 53) := by decide +kernel
theorem dX1_outlet_60 : decode cX1_outlet 60 = .ok (.aload_n 3, 1) := dk_45 (dk_at dksX1_outlet_2 0 rfl rfl)
theorem dX1_outlet_61 : decode cX1_outlet 61 = .ok (.getfield 190, 3) := dk_180 0 190 (dk_at dksX1_outlet_2 1 rfl rfl)
theorem dX1_outlet_64 : decode cX1_outlet 64 = .ok (.goto 114, 3) := dk_167 0 114 (dk_at dksX1_outlet_2 4 rfl rfl)
theorem dX1_outlet_67 : decode cX1_outlet 67 = .ok (.aload_n 3, 1) := dk_45 (dk_at dksX1_outlet_2 7 rfl rfl)
theorem dX1_outlet_68 : decode cX1_outlet 68 = .ok (.getfield 195, 3) := dk_180 0 195 (dk_at dksX1_outlet_2 8 rfl rfl)
theorem dX1_outlet_71 : decode cX1_outlet 71 = .ok (.goto 107, 3) := dk_167 0 107 (dk_at dksX1_outlet_2 11 rfl rfl)
theorem dX1_outlet_74 : decode cX1_outlet 74 = .ok (.aload_n 3, 1) := dk_45 (dk_at dksX1_outlet_2 14 rfl rfl)
theorem dX1_outlet_75 : decode cX1_outlet 75 = .ok (.getfield 198, 3) := dk_180 0 198 (dk_at dksX1_outlet_2 15 rfl rfl)
theorem dX1_outlet_78 : decode cX1_outlet 78 = .ok (.goto 100, 3) := dk_167 0 100 (dk_at dksX1_outlet_2 18 rfl rfl)
theorem dX1_outlet_81 : decode cX1_outlet 81 = .ok (.aload_n 3, 1) := dk_45 (dk_at dksX1_outlet_2 21 rfl rfl)
theorem dX1_outlet_82 : decode cX1_outlet 82 = .ok (.getfield 201, 3) := dk_180 0 201 (dk_at dksX1_outlet_3 0 rfl rfl)
theorem dX1_outlet_85 : decode cX1_outlet 85 = .ok (.goto 93, 3) := dk_167 0 93 (dk_at dksX1_outlet_3 3 rfl rfl)
theorem dX1_outlet_88 : decode cX1_outlet 88 = .ok (.aload_n 0, 1) := dk_42 (dk_at dksX1_outlet_3 6 rfl rfl)
theorem dX1_outlet_89 : decode cX1_outlet 89 = .ok (.getfield 41, 3) := dk_180 0 41 (dk_at dksX1_outlet_3 7 rfl rfl)
theorem dX1_outlet_92 : decode cX1_outlet 92 = .ok (.getfield 204, 3) := dk_180 0 204 (dk_at dksX1_outlet_3 10 rfl rfl)
theorem dX1_outlet_95 : decode cX1_outlet 95 = .ok (.iload_n 1, 1) := dk_27 (dk_at dksX1_outlet_3 13 rfl rfl)
theorem dX1_outlet_96 : decode cX1_outlet 96 = .ok (.iaload, 1) := dk_46 (dk_at dksX1_outlet_3 14 rfl rfl)
theorem dX1_outlet_97 : decode cX1_outlet 97 = .ok (.goto 81, 3) := dk_167 0 81 (dk_at dksX1_outlet_3 15 rfl rfl)
theorem dX1_outlet_100 : decode cX1_outlet 100 = .ok (.aload_n 0, 1) := dk_42 (dk_at dksX1_outlet_3 18 rfl rfl)
theorem dX1_outlet_101 : decode cX1_outlet 101 = .ok (.getfield 41, 3) := dk_180 0 41 (dk_at dksX1_outlet_3 19 rfl rfl)
theorem dX1_outlet_104 : decode cX1_outlet 104 = .ok (.getfield 207, 3) := dk_180 0 207 (dk_at dksX1_outlet_4 0 rfl rfl)
theorem dX1_outlet_107 : decode cX1_outlet 107 = .ok (.iload_n 1, 1) := dk_27 (dk_at dksX1_outlet_4 3 rfl rfl)
theorem dX1_outlet_108 : decode cX1_outlet 108 = .ok (.invokestatic 210, 3) := dk_184 0 210 (dk_at dksX1_outlet_4 4 rfl rfl)
theorem dX1_outlet_111 : decode cX1_outlet 111 = .ok (.ifCond .eq 7, 3) := dk_153 0 7 (dk_at dksX1_outlet_4 7 rfl rfl)
theorem dX1_outlet_114 : decode cX1_outlet 114 = .ok (.iconst 1, 1) := dk_4 (dk_at dksX1_outlet_4 10 rfl rfl)
theorem dX1_outlet_115 : decode cX1_outlet 115 = .ok (.goto 63, 3) := dk_167 0 63 (dk_at dksX1_outlet_4 11 rfl rfl)
theorem dX1_outlet_118 : decode cX1_outlet 118 = .ok (.iconst 0, 1) := dk_3 (dk_at dksX1_outlet_4 14 rfl rfl)
theorem dX1_outlet_119 : decode cX1_outlet 119 = .ok (.goto 59, 3) := dk_167 0 59 (dk_at dksX1_outlet_4 15 rfl rfl)
theorem dX1_outlet_122 : decode cX1_outlet 122 = .ok (.aload_n 0, 1) := dk_42 (dk_at dksX1_outlet_4 18 rfl rfl)
theorem dX1_outlet_123 : decode cX1_outlet 123 = .ok (.getfield 41, 3) := dk_180 0 41 (dk_at dksX1_outlet_4 19 rfl rfl)
theorem dX1_outlet_126 : decode cX1_outlet 126 = .ok (.getfield 214, 3) := dk_180 0 214 (dk_at dksX1_outlet_5 0 rfl rfl)
theorem dX1_outlet_129 : decode cX1_outlet 129 = .ok (.iload_n 1, 1) := dk_27 (dk_at dksX1_outlet_5 3 rfl rfl)
theorem dX1_outlet_130 : decode cX1_outlet 130 = .ok (.iaload, 1) := dk_46 (dk_at dksX1_outlet_5 4 rfl rfl)
theorem dX1_outlet_131 : decode cX1_outlet 131 = .ok (.goto 47, 3) := dk_167 0 47 (dk_at dksX1_outlet_5 5 rfl rfl)
theorem dX1_outlet_134 : decode cX1_outlet 134 = .ok (.aload_n 0, 1) := dk_42 (dk_at dksX1_outlet_5 8 rfl rfl)
theorem dX1_outlet_135 : decode cX1_outlet 135 = .ok (.getfield 41, 3) := dk_180 0 41 (dk_at dksX1_outlet_5 9 rfl rfl)
theorem dX1_outlet_138 : decode cX1_outlet 138 = .ok (.getfield 216, 3) := dk_180 0 216 (dk_at dksX1_outlet_5 12 rfl rfl)
theorem dX1_outlet_141 : decode cX1_outlet 141 = .ok (.iload_n 1, 1) := dk_27 (dk_at dksX1_outlet_5 15 rfl rfl)
theorem dX1_outlet_142 : decode cX1_outlet 142 = .ok (.iaload, 1) := dk_46 (dk_at dksX1_outlet_5 16 rfl rfl)
theorem dX1_outlet_143 : decode cX1_outlet 143 = .ok (.goto 35, 3) := dk_167 0 35 (dk_at dksX1_outlet_5 17 rfl rfl)
theorem dX1_outlet_146 : decode cX1_outlet 146 = .ok (.aload_n 0, 1) := dk_42 (dk_at dksX1_outlet_5 20 rfl rfl)
theorem dX1_outlet_147 : decode cX1_outlet 147 = .ok (.getfield 41, 3) := dk_180 0 41 (dk_at dksX1_outlet_5 21 rfl rfl)
theorem dX1_outlet_150 : decode cX1_outlet 150 = .ok (.getfield 219, 3) := dk_180 0 219 (dk_at dksX1_outlet_6 0 rfl rfl)
theorem dX1_outlet_153 : decode cX1_outlet 153 = .ok (.iload_n 1, 1) := dk_27 (dk_at dksX1_outlet_6 3 rfl rfl)
theorem dX1_outlet_154 : decode cX1_outlet 154 = .ok (.iaload, 1) := dk_46 (dk_at dksX1_outlet_6 4 rfl rfl)
theorem dX1_outlet_155 : decode cX1_outlet 155 = .ok (.goto 23, 3) := dk_167 0 23 (dk_at dksX1_outlet_6 5 rfl rfl)
theorem dX1_outlet_158 : decode cX1_outlet 158 = .ok (.aload_n 0, 1) := dk_42 (dk_at dksX1_outlet_6 8 rfl rfl)
theorem dX1_outlet_159 : decode cX1_outlet 159 = .ok (.getfield 41, 3) := dk_180 0 41 (dk_at dksX1_outlet_6 9 rfl rfl)
theorem dX1_outlet_162 : decode cX1_outlet 162 = .ok (.getfield 222, 3) := dk_180 0 222 (dk_at dksX1_outlet_6 12 rfl rfl)
theorem dX1_outlet_165 : decode cX1_outlet 165 = .ok (.iload_n 1, 1) := dk_27 (dk_at dksX1_outlet_6 15 rfl rfl)
theorem dX1_outlet_166 : decode cX1_outlet 166 = .ok (.iaload, 1) := dk_46 (dk_at dksX1_outlet_6 16 rfl rfl)
theorem dX1_outlet_167 : decode cX1_outlet 167 = .ok (.goto 11, 3) := dk_167 0 11 (dk_at dksX1_outlet_6 17 rfl rfl)
theorem dX1_outlet_170 : decode cX1_outlet 170 = .ok (.new 3, 3) := dk_187 0 3 (dk_at dksX1_outlet_6 20 rfl rfl)
theorem dX1_outlet_173 : decode cX1_outlet 173 = .ok (.dup, 1) := dk_89 (dk_at dksX1_outlet_6 23 rfl rfl)
theorem dX1_outlet_174 : decode cX1_outlet 174 = .ok (.invokespecial 5, 3) := dk_183 0 5 (dk_at dksX1_outlet_7 0 rfl rfl)
theorem dX1_outlet_177 : decode cX1_outlet 177 = .ok (.athrow, 1) := dk_191 (dk_at dksX1_outlet_7 3 rfl rfl)
theorem dX1_outlet_178 : decode cX1_outlet 178 = .ok (.ireturn, 1) := dk_172 (dk_at dksX1_outlet_7 4 rfl rfl)
def dkwX1_outletAt_1 : List UInt8 := [180, 0, 41, 27, 182, 0, 183, 176]
abbrev dktX1_outletAt_1 : List UInt8 := dkwX1_outletAt_1 ++ []
def dkwX1_outletAt_0 : List UInt8 := [27, 133, 9, 42, 180, 0, 41, 180, 0, 107, 182, 0, 111, 4, 100, 133, 184, 0, 67, 184, 0, 71, 42]
abbrev dktX1_outletAt_0 : List UInt8 := dkwX1_outletAt_0 ++ dktX1_outletAt_1
theorem dksX1_outletAt_0 : cX1_outletAt.data.toList.drop 0 = dktX1_outletAt_0 := by decide +kernel
theorem dksX1_outletAt_1 : cX1_outletAt.data.toList.drop 23 = dktX1_outletAt_1 := dk_seg dksX1_outletAt_0 23 rfl rfl
theorem dX1_outletAt_0 : decode cX1_outletAt 0 = .ok (.iload_n 1, 1) := dk_27 (dk_at dksX1_outletAt_0 0 rfl rfl)
theorem dX1_outletAt_1 : decode cX1_outletAt 1 = .ok (.i2l, 1) := dk_133 (dk_at dksX1_outletAt_0 1 rfl rfl)
theorem dX1_outletAt_2 : decode cX1_outletAt 2 = .ok (.lconst 0, 1) := dk_9 (dk_at dksX1_outletAt_0 2 rfl rfl)
theorem dX1_outletAt_3 : decode cX1_outletAt 3 = .ok (.aload_n 0, 1) := dk_42 (dk_at dksX1_outletAt_0 3 rfl rfl)
theorem dX1_outletAt_4 : decode cX1_outletAt 4 = .ok (.getfield 41, 3) := dk_180 0 41 (dk_at dksX1_outletAt_0 4 rfl rfl)
theorem dX1_outletAt_7 : decode cX1_outletAt 7 = .ok (.getfield 107, 3) := dk_180 0 107 (dk_at dksX1_outletAt_0 7 rfl rfl)
theorem dX1_outletAt_10 : decode cX1_outletAt 10 = .ok (.invokevirtual 111, 3) := dk_182 0 111 (dk_at dksX1_outletAt_0 10 rfl rfl)
theorem dX1_outletAt_13 : decode cX1_outletAt 13 = .ok (.iconst 1, 1) := dk_4 (dk_at dksX1_outletAt_0 13 rfl rfl)
theorem dX1_outletAt_14 : decode cX1_outletAt 14 = .ok (.isub, 1) := dk_100 (dk_at dksX1_outletAt_0 14 rfl rfl)
theorem dX1_outletAt_15 : decode cX1_outletAt 15 = .ok (.i2l, 1) := dk_133 (dk_at dksX1_outletAt_0 15 rfl rfl)
theorem dX1_outletAt_16 : decode cX1_outletAt 16 = .ok (.invokestatic 67, 3) := dk_184 0 67 (dk_at dksX1_outletAt_0 16 rfl rfl)
theorem dX1_outletAt_19 : decode cX1_outletAt 19 = .ok (.invokestatic 71, 3) := dk_184 0 71 (dk_at dksX1_outletAt_0 19 rfl rfl)
theorem dX1_outletAt_22 : decode cX1_outletAt 22 = .ok (.aload_n 0, 1) := dk_42 (dk_at dksX1_outletAt_0 22 rfl rfl)
theorem dX1_outletAt_23 : decode cX1_outletAt 23 = .ok (.getfield 41, 3) := dk_180 0 41 (dk_at dksX1_outletAt_1 0 rfl rfl)
theorem dX1_outletAt_26 : decode cX1_outletAt 26 = .ok (.iload_n 1, 1) := dk_27 (dk_at dksX1_outletAt_1 3 rfl rfl)
theorem dX1_outletAt_27 : decode cX1_outletAt 27 = .ok (.invokevirtual 183, 3) := dk_182 0 183 (dk_at dksX1_outletAt_1 4 rfl rfl)
theorem dX1_outletAt_30 : decode cX1_outletAt 30 = .ok (.areturn, 1) := dk_176 (dk_at dksX1_outletAt_1 7 rfl rfl)
def dkwX1_known_5 : List UInt8 := [153, 0, 7, 4, 167, 0, 15, 3, 167, 0, 11, 187, 0, 3, 89, 183, 0, 5, 191, 172]
abbrev dktX1_known_5 : List UInt8 := dkwX1_known_5 ++ []
def dkwX1_known_4 : List UInt8 := [180, 0, 41, 180, 0, 238, 27, 182, 0, 242, 167, 0, 33, 42, 180, 0, 41, 180, 0, 247, 27, 184, 0, 210]
abbrev dktX1_known_4 : List UInt8 := dkwX1_known_4 ++ dktX1_known_5
def dkwX1_known_3 : List UInt8 := [42, 180, 0, 41, 27, 182, 0, 231, 167, 0, 58, 42, 180, 0, 41, 27, 182, 0, 235, 167, 0, 47, 42]
abbrev dktX1_known_3 : List UInt8 := dkwX1_known_3 ++ dktX1_known_4
def dkwX1_known_2 : List UInt8 := [42, 180, 0, 41, 180, 0, 225, 27, 46, 167, 0, 81, 42, 180, 0, 41, 180, 0, 228, 27, 46, 167, 0, 69]
abbrev dktX1_known_2 : List UInt8 := dkwX1_known_2 ++ dktX1_known_3
def dkwX1_known_1 : List UInt8 := [170, 0, 0, 0, 119, 0, 0, 0, 0, 0, 0, 0, 5, 0, 0, 0, 37, 0, 0, 0, 49, 0, 0, 0, 61, 0, 0, 0, 72, 0, 0, 0, 83, 0, 0, 0, 97]
abbrev dktX1_known_1 : List UInt8 := dkwX1_known_1 ++ dktX1_known_2
def dkwX1_known_0 : List UInt8 := [42, 27, 182, 0, 187, 78, 28]
abbrev dktX1_known_0 : List UInt8 := dkwX1_known_0 ++ dktX1_known_1
theorem dksX1_known_0 : cX1_known.data.toList.drop 0 = dktX1_known_0 := by decide +kernel
theorem dksX1_known_1 : cX1_known.data.toList.drop 7 = dktX1_known_1 := dk_seg dksX1_known_0 7 rfl rfl
theorem dksX1_known_2 : cX1_known.data.toList.drop 44 = dktX1_known_2 := dk_seg dksX1_known_1 37 rfl rfl
theorem dksX1_known_3 : cX1_known.data.toList.drop 68 = dktX1_known_3 := dk_seg dksX1_known_2 24 rfl rfl
theorem dksX1_known_4 : cX1_known.data.toList.drop 91 = dktX1_known_4 := dk_seg dksX1_known_3 23 rfl rfl
theorem dksX1_known_5 : cX1_known.data.toList.drop 115 = dktX1_known_5 := dk_seg dksX1_known_4 24 rfl rfl
theorem dX1_known_0 : decode cX1_known 0 = .ok (.aload_n 0, 1) := dk_42 (dk_at dksX1_known_0 0 rfl rfl)
theorem dX1_known_1 : decode cX1_known 1 = .ok (.iload_n 1, 1) := dk_27 (dk_at dksX1_known_0 1 rfl rfl)
theorem dX1_known_2 : decode cX1_known 2 = .ok (.invokevirtual 187, 3) := dk_182 0 187 (dk_at dksX1_known_0 2 rfl rfl)
theorem dX1_known_5 : decode cX1_known 5 = .ok (.astore_n 3, 1) := dk_78 (dk_at dksX1_known_0 5 rfl rfl)
theorem dX1_known_6 : decode cX1_known 6 = .ok (.iload_n 2, 1) := dk_28 (dk_at dksX1_known_0 6 rfl rfl)
theorem dX1_known_7 : decode cX1_known 7 = .ok (.tableswitch 119 0 5 #[37, 49, 61, 72, 83, 97], 37) := by decide +kernel
theorem dX1_known_44 : decode cX1_known 44 = .ok (.aload_n 0, 1) := dk_42 (dk_at dksX1_known_2 0 rfl rfl)
theorem dX1_known_45 : decode cX1_known 45 = .ok (.getfield 41, 3) := dk_180 0 41 (dk_at dksX1_known_2 1 rfl rfl)
theorem dX1_known_48 : decode cX1_known 48 = .ok (.getfield 225, 3) := dk_180 0 225 (dk_at dksX1_known_2 4 rfl rfl)
theorem dX1_known_51 : decode cX1_known 51 = .ok (.iload_n 1, 1) := dk_27 (dk_at dksX1_known_2 7 rfl rfl)
theorem dX1_known_52 : decode cX1_known 52 = .ok (.iaload, 1) := dk_46 (dk_at dksX1_known_2 8 rfl rfl)
theorem dX1_known_53 : decode cX1_known 53 = .ok (.goto 81, 3) := dk_167 0 81 (dk_at dksX1_known_2 9 rfl rfl)
theorem dX1_known_56 : decode cX1_known 56 = .ok (.aload_n 0, 1) := dk_42 (dk_at dksX1_known_2 12 rfl rfl)
theorem dX1_known_57 : decode cX1_known 57 = .ok (.getfield 41, 3) := dk_180 0 41 (dk_at dksX1_known_2 13 rfl rfl)
theorem dX1_known_60 : decode cX1_known 60 = .ok (.getfield 228, 3) := dk_180 0 228 (dk_at dksX1_known_2 16 rfl rfl)
theorem dX1_known_63 : decode cX1_known 63 = .ok (.iload_n 1, 1) := dk_27 (dk_at dksX1_known_2 19 rfl rfl)
theorem dX1_known_64 : decode cX1_known 64 = .ok (.iaload, 1) := dk_46 (dk_at dksX1_known_2 20 rfl rfl)
theorem dX1_known_65 : decode cX1_known 65 = .ok (.goto 69, 3) := dk_167 0 69 (dk_at dksX1_known_2 21 rfl rfl)
theorem dX1_known_68 : decode cX1_known 68 = .ok (.aload_n 0, 1) := dk_42 (dk_at dksX1_known_3 0 rfl rfl)
theorem dX1_known_69 : decode cX1_known 69 = .ok (.getfield 41, 3) := dk_180 0 41 (dk_at dksX1_known_3 1 rfl rfl)
theorem dX1_known_72 : decode cX1_known 72 = .ok (.iload_n 1, 1) := dk_27 (dk_at dksX1_known_3 4 rfl rfl)
theorem dX1_known_73 : decode cX1_known 73 = .ok (.invokevirtual 231, 3) := dk_182 0 231 (dk_at dksX1_known_3 5 rfl rfl)
theorem dX1_known_76 : decode cX1_known 76 = .ok (.goto 58, 3) := dk_167 0 58 (dk_at dksX1_known_3 8 rfl rfl)
theorem dX1_known_79 : decode cX1_known 79 = .ok (.aload_n 0, 1) := dk_42 (dk_at dksX1_known_3 11 rfl rfl)
theorem dX1_known_80 : decode cX1_known 80 = .ok (.getfield 41, 3) := dk_180 0 41 (dk_at dksX1_known_3 12 rfl rfl)
theorem dX1_known_83 : decode cX1_known 83 = .ok (.iload_n 1, 1) := dk_27 (dk_at dksX1_known_3 15 rfl rfl)
theorem dX1_known_84 : decode cX1_known 84 = .ok (.invokevirtual 235, 3) := dk_182 0 235 (dk_at dksX1_known_3 16 rfl rfl)
theorem dX1_known_87 : decode cX1_known 87 = .ok (.goto 47, 3) := dk_167 0 47 (dk_at dksX1_known_3 19 rfl rfl)
theorem dX1_known_90 : decode cX1_known 90 = .ok (.aload_n 0, 1) := dk_42 (dk_at dksX1_known_3 22 rfl rfl)
theorem dX1_known_91 : decode cX1_known 91 = .ok (.getfield 41, 3) := dk_180 0 41 (dk_at dksX1_known_4 0 rfl rfl)
theorem dX1_known_94 : decode cX1_known 94 = .ok (.getfield 238, 3) := dk_180 0 238 (dk_at dksX1_known_4 3 rfl rfl)
theorem dX1_known_97 : decode cX1_known 97 = .ok (.iload_n 1, 1) := dk_27 (dk_at dksX1_known_4 6 rfl rfl)
theorem dX1_known_98 : decode cX1_known 98 = .ok (.invokevirtual 242, 3) := dk_182 0 242 (dk_at dksX1_known_4 7 rfl rfl)
theorem dX1_known_101 : decode cX1_known 101 = .ok (.goto 33, 3) := dk_167 0 33 (dk_at dksX1_known_4 10 rfl rfl)
theorem dX1_known_104 : decode cX1_known 104 = .ok (.aload_n 0, 1) := dk_42 (dk_at dksX1_known_4 13 rfl rfl)
theorem dX1_known_105 : decode cX1_known 105 = .ok (.getfield 41, 3) := dk_180 0 41 (dk_at dksX1_known_4 14 rfl rfl)
theorem dX1_known_108 : decode cX1_known 108 = .ok (.getfield 247, 3) := dk_180 0 247 (dk_at dksX1_known_4 17 rfl rfl)
theorem dX1_known_111 : decode cX1_known 111 = .ok (.iload_n 1, 1) := dk_27 (dk_at dksX1_known_4 20 rfl rfl)
theorem dX1_known_112 : decode cX1_known 112 = .ok (.invokestatic 210, 3) := dk_184 0 210 (dk_at dksX1_known_4 21 rfl rfl)
theorem dX1_known_115 : decode cX1_known 115 = .ok (.ifCond .eq 7, 3) := dk_153 0 7 (dk_at dksX1_known_5 0 rfl rfl)
theorem dX1_known_118 : decode cX1_known 118 = .ok (.iconst 1, 1) := dk_4 (dk_at dksX1_known_5 3 rfl rfl)
theorem dX1_known_119 : decode cX1_known 119 = .ok (.goto 15, 3) := dk_167 0 15 (dk_at dksX1_known_5 4 rfl rfl)
theorem dX1_known_122 : decode cX1_known 122 = .ok (.iconst 0, 1) := dk_3 (dk_at dksX1_known_5 7 rfl rfl)
theorem dX1_known_123 : decode cX1_known 123 = .ok (.goto 11, 3) := dk_167 0 11 (dk_at dksX1_known_5 8 rfl rfl)
theorem dX1_known_126 : decode cX1_known 126 = .ok (.new 3, 3) := dk_187 0 3 (dk_at dksX1_known_5 11 rfl rfl)
theorem dX1_known_129 : decode cX1_known 129 = .ok (.dup, 1) := dk_89 (dk_at dksX1_known_5 14 rfl rfl)
theorem dX1_known_130 : decode cX1_known 130 = .ok (.invokespecial 5, 3) := dk_183 0 5 (dk_at dksX1_known_5 15 rfl rfl)
theorem dX1_known_133 : decode cX1_known 133 = .ok (.athrow, 1) := dk_191 (dk_at dksX1_known_5 18 rfl rfl)
theorem dX1_known_134 : decode cX1_known 134 = .ok (.ireturn, 1) := dk_172 (dk_at dksX1_known_5 19 rfl rfl)
def dkwX1_needs_3 : List UInt8 := [167, 0, 4, 3, 128, 54, 4, 132, 5, 1, 167, 255, 205, 21, 4, 172]
abbrev dktX1_needs_3 : List UInt8 := dkwX1_needs_3 ++ []
def dkwX1_needs_2 : List UInt8 := [180, 0, 41, 180, 0, 107, 180, 0, 250, 21, 5, 46, 27, 184, 0, 210, 153, 0, 10, 4, 21, 5, 120]
abbrev dktX1_needs_2 : List UInt8 := dkwX1_needs_2 ++ dktX1_needs_3
def dkwX1_needs_1 : List UInt8 := [54, 4, 3, 54, 5, 21, 5, 42, 180, 0, 41, 180, 0, 107, 182, 0, 111, 162, 0, 42, 21, 4, 42]
abbrev dktX1_needs_1 : List UInt8 := dkwX1_needs_1 ++ dktX1_needs_2
def dkwX1_needs_0 : List UInt8 := [42, 27, 182, 0, 187, 78, 28, 154, 0, 16, 42, 180, 0, 41, 180, 0, 107, 180, 0, 250, 27, 46, 172, 3]
abbrev dktX1_needs_0 : List UInt8 := dkwX1_needs_0 ++ dktX1_needs_1
theorem dksX1_needs_0 : cX1_needs.data.toList.drop 0 = dktX1_needs_0 := by decide +kernel
theorem dksX1_needs_1 : cX1_needs.data.toList.drop 24 = dktX1_needs_1 := dk_seg dksX1_needs_0 24 rfl rfl
theorem dksX1_needs_2 : cX1_needs.data.toList.drop 47 = dktX1_needs_2 := dk_seg dksX1_needs_1 23 rfl rfl
theorem dksX1_needs_3 : cX1_needs.data.toList.drop 70 = dktX1_needs_3 := dk_seg dksX1_needs_2 23 rfl rfl
theorem dX1_needs_0 : decode cX1_needs 0 = .ok (.aload_n 0, 1) := dk_42 (dk_at dksX1_needs_0 0 rfl rfl)
theorem dX1_needs_1 : decode cX1_needs 1 = .ok (.iload_n 1, 1) := dk_27 (dk_at dksX1_needs_0 1 rfl rfl)
theorem dX1_needs_2 : decode cX1_needs 2 = .ok (.invokevirtual 187, 3) := dk_182 0 187 (dk_at dksX1_needs_0 2 rfl rfl)
theorem dX1_needs_5 : decode cX1_needs 5 = .ok (.astore_n 3, 1) := dk_78 (dk_at dksX1_needs_0 5 rfl rfl)
theorem dX1_needs_6 : decode cX1_needs 6 = .ok (.iload_n 2, 1) := dk_28 (dk_at dksX1_needs_0 6 rfl rfl)
theorem dX1_needs_7 : decode cX1_needs 7 = .ok (.ifCond .ne 16, 3) := dk_154 0 16 (dk_at dksX1_needs_0 7 rfl rfl)
theorem dX1_needs_10 : decode cX1_needs 10 = .ok (.aload_n 0, 1) := dk_42 (dk_at dksX1_needs_0 10 rfl rfl)
theorem dX1_needs_11 : decode cX1_needs 11 = .ok (.getfield 41, 3) := dk_180 0 41 (dk_at dksX1_needs_0 11 rfl rfl)
theorem dX1_needs_14 : decode cX1_needs 14 = .ok (.getfield 107, 3) := dk_180 0 107 (dk_at dksX1_needs_0 14 rfl rfl)
theorem dX1_needs_17 : decode cX1_needs 17 = .ok (.getfield 250, 3) := dk_180 0 250 (dk_at dksX1_needs_0 17 rfl rfl)
theorem dX1_needs_20 : decode cX1_needs 20 = .ok (.iload_n 1, 1) := dk_27 (dk_at dksX1_needs_0 20 rfl rfl)
theorem dX1_needs_21 : decode cX1_needs 21 = .ok (.iaload, 1) := dk_46 (dk_at dksX1_needs_0 21 rfl rfl)
theorem dX1_needs_22 : decode cX1_needs 22 = .ok (.ireturn, 1) := dk_172 (dk_at dksX1_needs_0 22 rfl rfl)
theorem dX1_needs_23 : decode cX1_needs 23 = .ok (.iconst 0, 1) := dk_3 (dk_at dksX1_needs_0 23 rfl rfl)
theorem dX1_needs_24 : decode cX1_needs 24 = .ok (.istore 4, 2) := dk_54 4 (dk_at dksX1_needs_1 0 rfl rfl)
theorem dX1_needs_26 : decode cX1_needs 26 = .ok (.iconst 0, 1) := dk_3 (dk_at dksX1_needs_1 2 rfl rfl)
theorem dX1_needs_27 : decode cX1_needs 27 = .ok (.istore 5, 2) := dk_54 5 (dk_at dksX1_needs_1 3 rfl rfl)
theorem dX1_needs_29 : decode cX1_needs 29 = .ok (.iload 5, 2) := dk_21 5 (dk_at dksX1_needs_1 5 rfl rfl)
theorem dX1_needs_31 : decode cX1_needs 31 = .ok (.aload_n 0, 1) := dk_42 (dk_at dksX1_needs_1 7 rfl rfl)
theorem dX1_needs_32 : decode cX1_needs 32 = .ok (.getfield 41, 3) := dk_180 0 41 (dk_at dksX1_needs_1 8 rfl rfl)
theorem dX1_needs_35 : decode cX1_needs 35 = .ok (.getfield 107, 3) := dk_180 0 107 (dk_at dksX1_needs_1 11 rfl rfl)
theorem dX1_needs_38 : decode cX1_needs 38 = .ok (.invokevirtual 111, 3) := dk_182 0 111 (dk_at dksX1_needs_1 14 rfl rfl)
theorem dX1_needs_41 : decode cX1_needs 41 = .ok (.if_icmp .ge 42, 3) := dk_162 0 42 (dk_at dksX1_needs_1 17 rfl rfl)
theorem dX1_needs_44 : decode cX1_needs 44 = .ok (.iload 4, 2) := dk_21 4 (dk_at dksX1_needs_1 20 rfl rfl)
theorem dX1_needs_46 : decode cX1_needs 46 = .ok (.aload_n 0, 1) := dk_42 (dk_at dksX1_needs_1 22 rfl rfl)
theorem dX1_needs_47 : decode cX1_needs 47 = .ok (.getfield 41, 3) := dk_180 0 41 (dk_at dksX1_needs_2 0 rfl rfl)
theorem dX1_needs_50 : decode cX1_needs 50 = .ok (.getfield 107, 3) := dk_180 0 107 (dk_at dksX1_needs_2 3 rfl rfl)
theorem dX1_needs_53 : decode cX1_needs 53 = .ok (.getfield 250, 3) := dk_180 0 250 (dk_at dksX1_needs_2 6 rfl rfl)
theorem dX1_needs_56 : decode cX1_needs 56 = .ok (.iload 5, 2) := dk_21 5 (dk_at dksX1_needs_2 9 rfl rfl)
theorem dX1_needs_58 : decode cX1_needs 58 = .ok (.iaload, 1) := dk_46 (dk_at dksX1_needs_2 11 rfl rfl)
theorem dX1_needs_59 : decode cX1_needs 59 = .ok (.iload_n 1, 1) := dk_27 (dk_at dksX1_needs_2 12 rfl rfl)
theorem dX1_needs_60 : decode cX1_needs 60 = .ok (.invokestatic 210, 3) := dk_184 0 210 (dk_at dksX1_needs_2 13 rfl rfl)
theorem dX1_needs_63 : decode cX1_needs 63 = .ok (.ifCond .eq 10, 3) := dk_153 0 10 (dk_at dksX1_needs_2 16 rfl rfl)
theorem dX1_needs_66 : decode cX1_needs 66 = .ok (.iconst 1, 1) := dk_4 (dk_at dksX1_needs_2 19 rfl rfl)
theorem dX1_needs_67 : decode cX1_needs 67 = .ok (.iload 5, 2) := dk_21 5 (dk_at dksX1_needs_2 20 rfl rfl)
theorem dX1_needs_69 : decode cX1_needs 69 = .ok (.ishl, 1) := dk_120 (dk_at dksX1_needs_2 22 rfl rfl)
theorem dX1_needs_70 : decode cX1_needs 70 = .ok (.goto 4, 3) := dk_167 0 4 (dk_at dksX1_needs_3 0 rfl rfl)
theorem dX1_needs_73 : decode cX1_needs 73 = .ok (.iconst 0, 1) := dk_3 (dk_at dksX1_needs_3 3 rfl rfl)
theorem dX1_needs_74 : decode cX1_needs 74 = .ok (.ior, 1) := dk_128 (dk_at dksX1_needs_3 4 rfl rfl)
theorem dX1_needs_75 : decode cX1_needs 75 = .ok (.istore 4, 2) := dk_54 4 (dk_at dksX1_needs_3 5 rfl rfl)
theorem dX1_needs_77 : decode cX1_needs 77 = .ok (.iinc 5 1, 3) := dk_132 5 1 (dk_at dksX1_needs_3 7 rfl rfl)
theorem dX1_needs_80 : decode cX1_needs 80 = .ok (.goto (-51), 3) := dk_167 255 205 (dk_at dksX1_needs_3 10 rfl rfl)
theorem dX1_needs_83 : decode cX1_needs 83 = .ok (.iload 4, 2) := dk_21 4 (dk_at dksX1_needs_3 13 rfl rfl)
theorem dX1_needs_85 : decode cX1_needs 85 = .ok (.ireturn, 1) := dk_172 (dk_at dksX1_needs_3 15 rfl rfl)
def dkwX1_outletsWith_1 : List UInt8 := [167, 0, 11, 42, 180, 0, 41, 27, 182, 1, 2, 172]
abbrev dktX1_outletsWith_1 : List UInt8 := dkwX1_outletsWith_1 ++ []
def dkwX1_outletsWith_0 : List UInt8 := [27, 133, 9, 20, 0, 253, 184, 0, 67, 184, 0, 104, 28, 153, 0, 14, 42, 180, 0, 41, 27, 182, 0, 255]
abbrev dktX1_outletsWith_0 : List UInt8 := dkwX1_outletsWith_0 ++ dktX1_outletsWith_1
theorem dksX1_outletsWith_0 : cX1_outletsWith.data.toList.drop 0 = dktX1_outletsWith_0 := by decide +kernel
theorem dksX1_outletsWith_1 : cX1_outletsWith.data.toList.drop 24 = dktX1_outletsWith_1 := dk_seg dksX1_outletsWith_0 24 rfl rfl
theorem dX1_outletsWith_0 : decode cX1_outletsWith 0 = .ok (.iload_n 1, 1) := dk_27 (dk_at dksX1_outletsWith_0 0 rfl rfl)
theorem dX1_outletsWith_1 : decode cX1_outletsWith 1 = .ok (.i2l, 1) := dk_133 (dk_at dksX1_outletsWith_0 1 rfl rfl)
theorem dX1_outletsWith_2 : decode cX1_outletsWith 2 = .ok (.lconst 0, 1) := dk_9 (dk_at dksX1_outletsWith_0 2 rfl rfl)
theorem dX1_outletsWith_3 : decode cX1_outletsWith 3 = .ok (.ldc2_w 253, 3) := dk_20 0 253 (dk_at dksX1_outletsWith_0 3 rfl rfl)
theorem dX1_outletsWith_6 : decode cX1_outletsWith 6 = .ok (.invokestatic 67, 3) := dk_184 0 67 (dk_at dksX1_outletsWith_0 6 rfl rfl)
theorem dX1_outletsWith_9 : decode cX1_outletsWith 9 = .ok (.invokestatic 104, 3) := dk_184 0 104 (dk_at dksX1_outletsWith_0 9 rfl rfl)
theorem dX1_outletsWith_12 : decode cX1_outletsWith 12 = .ok (.iload_n 2, 1) := dk_28 (dk_at dksX1_outletsWith_0 12 rfl rfl)
theorem dX1_outletsWith_13 : decode cX1_outletsWith 13 = .ok (.ifCond .eq 14, 3) := dk_153 0 14 (dk_at dksX1_outletsWith_0 13 rfl rfl)
theorem dX1_outletsWith_16 : decode cX1_outletsWith 16 = .ok (.aload_n 0, 1) := dk_42 (dk_at dksX1_outletsWith_0 16 rfl rfl)
theorem dX1_outletsWith_17 : decode cX1_outletsWith 17 = .ok (.getfield 41, 3) := dk_180 0 41 (dk_at dksX1_outletsWith_0 17 rfl rfl)
theorem dX1_outletsWith_20 : decode cX1_outletsWith 20 = .ok (.iload_n 1, 1) := dk_27 (dk_at dksX1_outletsWith_0 20 rfl rfl)
theorem dX1_outletsWith_21 : decode cX1_outletsWith 21 = .ok (.invokevirtual 255, 3) := dk_182 0 255 (dk_at dksX1_outletsWith_0 21 rfl rfl)
theorem dX1_outletsWith_24 : decode cX1_outletsWith 24 = .ok (.goto 11, 3) := dk_167 0 11 (dk_at dksX1_outletsWith_1 0 rfl rfl)
theorem dX1_outletsWith_27 : decode cX1_outletsWith 27 = .ok (.aload_n 0, 1) := dk_42 (dk_at dksX1_outletsWith_1 3 rfl rfl)
theorem dX1_outletsWith_28 : decode cX1_outletsWith 28 = .ok (.getfield 41, 3) := dk_180 0 41 (dk_at dksX1_outletsWith_1 4 rfl rfl)
theorem dX1_outletsWith_31 : decode cX1_outletsWith 31 = .ok (.iload_n 1, 1) := dk_27 (dk_at dksX1_outletsWith_1 7 rfl rfl)
theorem dX1_outletsWith_32 : decode cX1_outletsWith 32 = .ok (.invokevirtual 258, 3) := dk_182 1 2 (dk_at dksX1_outletsWith_1 8 rfl rfl)
theorem dX1_outletsWith_35 : decode cX1_outletsWith 35 = .ok (.ireturn, 1) := dk_172 (dk_at dksX1_outletsWith_1 11 rfl rfl)
def dkwX1_load_2_3 : List UInt8 := [182, 1, 14, 167, 0, 11, 187, 0, 3, 89, 183, 0, 5, 191, 172]
abbrev dktX1_load_2_3 : List UInt8 := dkwX1_load_2_3 ++ []
def dkwX1_load_2_2 : List UInt8 := [42, 180, 0, 41, 182, 1, 8, 167, 0, 31, 42, 180, 0, 41, 180, 1, 11, 167, 0, 21, 42, 180, 0, 41]
abbrev dktX1_load_2_2 : List UInt8 := dkwX1_load_2_2 ++ dktX1_load_2_3
def dkwX1_load_2_1 : List UInt8 := [170, 0, 0, 0, 0, 0, 57, 0, 0, 0, 0, 0, 0, 0, 2, 0, 0, 0, 27, 0, 0, 0, 37, 0, 0, 0, 47]
abbrev dktX1_load_2_1 : List UInt8 := dkwX1_load_2_1 ++ dktX1_load_2_2
def dkwX1_load_2_0 : List UInt8 := [27]
abbrev dktX1_load_2_0 : List UInt8 := dkwX1_load_2_0 ++ dktX1_load_2_1
theorem dksX1_load_2_0 : cX1_load_2.data.toList.drop 0 = dktX1_load_2_0 := by decide +kernel
theorem dksX1_load_2_1 : cX1_load_2.data.toList.drop 1 = dktX1_load_2_1 := dk_seg dksX1_load_2_0 1 rfl rfl
theorem dksX1_load_2_2 : cX1_load_2.data.toList.drop 28 = dktX1_load_2_2 := dk_seg dksX1_load_2_1 27 rfl rfl
theorem dksX1_load_2_3 : cX1_load_2.data.toList.drop 52 = dktX1_load_2_3 := dk_seg dksX1_load_2_2 24 rfl rfl
theorem dX1_load_2_0 : decode cX1_load_2 0 = .ok (.iload_n 1, 1) := dk_27 (dk_at dksX1_load_2_0 0 rfl rfl)
theorem dX1_load_2_1 : decode cX1_load_2 1 = .ok (.tableswitch 57 0 2 #[27, 37, 47], 27) := by decide +kernel
theorem dX1_load_2_28 : decode cX1_load_2 28 = .ok (.aload_n 0, 1) := dk_42 (dk_at dksX1_load_2_2 0 rfl rfl)
theorem dX1_load_2_29 : decode cX1_load_2 29 = .ok (.getfield 41, 3) := dk_180 0 41 (dk_at dksX1_load_2_2 1 rfl rfl)
theorem dX1_load_2_32 : decode cX1_load_2 32 = .ok (.invokevirtual 264, 3) := dk_182 1 8 (dk_at dksX1_load_2_2 4 rfl rfl)
theorem dX1_load_2_35 : decode cX1_load_2 35 = .ok (.goto 31, 3) := dk_167 0 31 (dk_at dksX1_load_2_2 7 rfl rfl)
theorem dX1_load_2_38 : decode cX1_load_2 38 = .ok (.aload_n 0, 1) := dk_42 (dk_at dksX1_load_2_2 10 rfl rfl)
theorem dX1_load_2_39 : decode cX1_load_2 39 = .ok (.getfield 41, 3) := dk_180 0 41 (dk_at dksX1_load_2_2 11 rfl rfl)
theorem dX1_load_2_42 : decode cX1_load_2 42 = .ok (.getfield 267, 3) := dk_180 1 11 (dk_at dksX1_load_2_2 14 rfl rfl)
theorem dX1_load_2_45 : decode cX1_load_2 45 = .ok (.goto 21, 3) := dk_167 0 21 (dk_at dksX1_load_2_2 17 rfl rfl)
theorem dX1_load_2_48 : decode cX1_load_2 48 = .ok (.aload_n 0, 1) := dk_42 (dk_at dksX1_load_2_2 20 rfl rfl)
theorem dX1_load_2_49 : decode cX1_load_2 49 = .ok (.getfield 41, 3) := dk_180 0 41 (dk_at dksX1_load_2_2 21 rfl rfl)
theorem dX1_load_2_52 : decode cX1_load_2 52 = .ok (.invokevirtual 270, 3) := dk_182 1 14 (dk_at dksX1_load_2_3 0 rfl rfl)
theorem dX1_load_2_55 : decode cX1_load_2 55 = .ok (.goto 11, 3) := dk_167 0 11 (dk_at dksX1_load_2_3 3 rfl rfl)
theorem dX1_load_2_58 : decode cX1_load_2 58 = .ok (.new 3, 3) := dk_187 0 3 (dk_at dksX1_load_2_3 6 rfl rfl)
theorem dX1_load_2_61 : decode cX1_load_2 61 = .ok (.dup, 1) := dk_89 (dk_at dksX1_load_2_3 9 rfl rfl)
theorem dX1_load_2_62 : decode cX1_load_2 62 = .ok (.invokespecial 5, 3) := dk_183 0 5 (dk_at dksX1_load_2_3 10 rfl rfl)
theorem dX1_load_2_65 : decode cX1_load_2 65 = .ok (.athrow, 1) := dk_191 (dk_at dksX1_load_2_3 13 rfl rfl)
theorem dX1_load_2_66 : decode cX1_load_2 66 = .ok (.ireturn, 1) := dk_172 (dk_at dksX1_load_2_3 14 rfl rfl)
def dkwX1_message_4 : List UInt8 := [167, 0, 11, 187, 0, 3, 89, 183, 0, 5, 191, 172]
abbrev dktX1_message_4 : List UInt8 := dkwX1_message_4 ++ []
def dkwX1_message_3 : List UInt8 := [29, 17, 1, 0, 108, 167, 0, 30, 29, 16, 16, 108, 16, 16, 112, 167, 0, 20, 29, 16, 16, 112, 4, 100]
abbrev dktX1_message_3 : List UInt8 := dkwX1_message_3 ++ dktX1_message_4
def dkwX1_message_2 : List UInt8 := [170, 0, 0, 0, 0, 0, 0, 55, 0, 0, 0, 0, 0, 0, 0, 2, 0, 0, 0, 28, 0, 0, 0, 36, 0, 0, 0, 46]
abbrev dktX1_message_2 : List UInt8 := dkwX1_message_2 ++ dktX1_message_3
def dkwX1_message_1 : List UInt8 := [180, 0, 41, 180, 0, 149, 180, 1, 16, 27, 46, 62, 28]
abbrev dktX1_message_1 : List UInt8 := dkwX1_message_1 ++ dktX1_message_2
def dkwX1_message_0 : List UInt8 := [27, 133, 9, 42, 180, 0, 41, 180, 0, 149, 180, 0, 153, 4, 100, 133, 184, 0, 67, 184, 0, 71, 42]
abbrev dktX1_message_0 : List UInt8 := dkwX1_message_0 ++ dktX1_message_1
theorem dksX1_message_0 : cX1_message.data.toList.drop 0 = dktX1_message_0 := by decide +kernel
theorem dksX1_message_1 : cX1_message.data.toList.drop 23 = dktX1_message_1 := dk_seg dksX1_message_0 23 rfl rfl
theorem dksX1_message_2 : cX1_message.data.toList.drop 36 = dktX1_message_2 := dk_seg dksX1_message_1 13 rfl rfl
theorem dksX1_message_3 : cX1_message.data.toList.drop 64 = dktX1_message_3 := dk_seg dksX1_message_2 28 rfl rfl
theorem dksX1_message_4 : cX1_message.data.toList.drop 88 = dktX1_message_4 := dk_seg dksX1_message_3 24 rfl rfl
theorem dX1_message_0 : decode cX1_message 0 = .ok (.iload_n 1, 1) := dk_27 (dk_at dksX1_message_0 0 rfl rfl)
theorem dX1_message_1 : decode cX1_message 1 = .ok (.i2l, 1) := dk_133 (dk_at dksX1_message_0 1 rfl rfl)
theorem dX1_message_2 : decode cX1_message 2 = .ok (.lconst 0, 1) := dk_9 (dk_at dksX1_message_0 2 rfl rfl)
theorem dX1_message_3 : decode cX1_message 3 = .ok (.aload_n 0, 1) := dk_42 (dk_at dksX1_message_0 3 rfl rfl)
theorem dX1_message_4 : decode cX1_message 4 = .ok (.getfield 41, 3) := dk_180 0 41 (dk_at dksX1_message_0 4 rfl rfl)
theorem dX1_message_7 : decode cX1_message 7 = .ok (.getfield 149, 3) := dk_180 0 149 (dk_at dksX1_message_0 7 rfl rfl)
theorem dX1_message_10 : decode cX1_message 10 = .ok (.getfield 153, 3) := dk_180 0 153 (dk_at dksX1_message_0 10 rfl rfl)
theorem dX1_message_13 : decode cX1_message 13 = .ok (.iconst 1, 1) := dk_4 (dk_at dksX1_message_0 13 rfl rfl)
theorem dX1_message_14 : decode cX1_message 14 = .ok (.isub, 1) := dk_100 (dk_at dksX1_message_0 14 rfl rfl)
theorem dX1_message_15 : decode cX1_message 15 = .ok (.i2l, 1) := dk_133 (dk_at dksX1_message_0 15 rfl rfl)
theorem dX1_message_16 : decode cX1_message 16 = .ok (.invokestatic 67, 3) := dk_184 0 67 (dk_at dksX1_message_0 16 rfl rfl)
theorem dX1_message_19 : decode cX1_message 19 = .ok (.invokestatic 71, 3) := dk_184 0 71 (dk_at dksX1_message_0 19 rfl rfl)
theorem dX1_message_22 : decode cX1_message 22 = .ok (.aload_n 0, 1) := dk_42 (dk_at dksX1_message_0 22 rfl rfl)
theorem dX1_message_23 : decode cX1_message 23 = .ok (.getfield 41, 3) := dk_180 0 41 (dk_at dksX1_message_1 0 rfl rfl)
theorem dX1_message_26 : decode cX1_message 26 = .ok (.getfield 149, 3) := dk_180 0 149 (dk_at dksX1_message_1 3 rfl rfl)
theorem dX1_message_29 : decode cX1_message 29 = .ok (.getfield 272, 3) := dk_180 1 16 (dk_at dksX1_message_1 6 rfl rfl)
theorem dX1_message_32 : decode cX1_message 32 = .ok (.iload_n 1, 1) := dk_27 (dk_at dksX1_message_1 9 rfl rfl)
theorem dX1_message_33 : decode cX1_message 33 = .ok (.iaload, 1) := dk_46 (dk_at dksX1_message_1 10 rfl rfl)
theorem dX1_message_34 : decode cX1_message 34 = .ok (.istore_n 3, 1) := dk_62 (dk_at dksX1_message_1 11 rfl rfl)
theorem dX1_message_35 : decode cX1_message 35 = .ok (.iload_n 2, 1) := dk_28 (dk_at dksX1_message_1 12 rfl rfl)
theorem dX1_message_36 : decode cX1_message 36 = .ok (.tableswitch 55 0 2 #[28, 36, 46], 28) := by decide +kernel
theorem dX1_message_64 : decode cX1_message 64 = .ok (.iload_n 3, 1) := dk_29 (dk_at dksX1_message_3 0 rfl rfl)
theorem dX1_message_65 : decode cX1_message 65 = .ok (.sipush 256, 3) := dk_17 1 0 (dk_at dksX1_message_3 1 rfl rfl)
theorem dX1_message_68 : decode cX1_message 68 = .ok (.idiv, 1) := dk_108 (dk_at dksX1_message_3 4 rfl rfl)
theorem dX1_message_69 : decode cX1_message 69 = .ok (.goto 30, 3) := dk_167 0 30 (dk_at dksX1_message_3 5 rfl rfl)
theorem dX1_message_72 : decode cX1_message 72 = .ok (.iload_n 3, 1) := dk_29 (dk_at dksX1_message_3 8 rfl rfl)
theorem dX1_message_73 : decode cX1_message 73 = .ok (.bipush 16, 2) := dk_16 16 (dk_at dksX1_message_3 9 rfl rfl)
theorem dX1_message_75 : decode cX1_message 75 = .ok (.idiv, 1) := dk_108 (dk_at dksX1_message_3 11 rfl rfl)
theorem dX1_message_76 : decode cX1_message 76 = .ok (.bipush 16, 2) := dk_16 16 (dk_at dksX1_message_3 12 rfl rfl)
theorem dX1_message_78 : decode cX1_message 78 = .ok (.irem, 1) := dk_112 (dk_at dksX1_message_3 14 rfl rfl)
theorem dX1_message_79 : decode cX1_message 79 = .ok (.goto 20, 3) := dk_167 0 20 (dk_at dksX1_message_3 15 rfl rfl)
theorem dX1_message_82 : decode cX1_message 82 = .ok (.iload_n 3, 1) := dk_29 (dk_at dksX1_message_3 18 rfl rfl)
theorem dX1_message_83 : decode cX1_message 83 = .ok (.bipush 16, 2) := dk_16 16 (dk_at dksX1_message_3 19 rfl rfl)
theorem dX1_message_85 : decode cX1_message 85 = .ok (.irem, 1) := dk_112 (dk_at dksX1_message_3 21 rfl rfl)
theorem dX1_message_86 : decode cX1_message 86 = .ok (.iconst 1, 1) := dk_4 (dk_at dksX1_message_3 22 rfl rfl)
theorem dX1_message_87 : decode cX1_message 87 = .ok (.isub, 1) := dk_100 (dk_at dksX1_message_3 23 rfl rfl)
theorem dX1_message_88 : decode cX1_message 88 = .ok (.goto 11, 3) := dk_167 0 11 (dk_at dksX1_message_4 0 rfl rfl)
theorem dX1_message_91 : decode cX1_message 91 = .ok (.new 3, 3) := dk_187 0 3 (dk_at dksX1_message_4 3 rfl rfl)
theorem dX1_message_94 : decode cX1_message 94 = .ok (.dup, 1) := dk_89 (dk_at dksX1_message_4 6 rfl rfl)
theorem dX1_message_95 : decode cX1_message 95 = .ok (.invokespecial 5, 3) := dk_183 0 5 (dk_at dksX1_message_4 7 rfl rfl)
theorem dX1_message_98 : decode cX1_message 98 = .ok (.athrow, 1) := dk_191 (dk_at dksX1_message_4 10 rfl rfl)
theorem dX1_message_99 : decode cX1_message 99 = .ok (.ireturn, 1) := dk_172 (dk_at dksX1_message_4 11 rfl rfl)
def dkwX1_traffic_1 : List UInt8 := [180, 0, 166, 27, 46, 167, 0, 15, 42, 180, 0, 41, 180, 0, 149, 180, 0, 158, 27, 46, 172]
abbrev dktX1_traffic_1 : List UInt8 := dkwX1_traffic_1 ++ []
def dkwX1_traffic_0 : List UInt8 := [27, 133, 9, 20, 1, 19, 184, 0, 67, 184, 0, 104, 28, 153, 0, 18, 42, 180, 0, 41, 180, 0, 149]
abbrev dktX1_traffic_0 : List UInt8 := dkwX1_traffic_0 ++ dktX1_traffic_1
theorem dksX1_traffic_0 : cX1_traffic.data.toList.drop 0 = dktX1_traffic_0 := by decide +kernel
theorem dksX1_traffic_1 : cX1_traffic.data.toList.drop 23 = dktX1_traffic_1 := dk_seg dksX1_traffic_0 23 rfl rfl
theorem dX1_traffic_0 : decode cX1_traffic 0 = .ok (.iload_n 1, 1) := dk_27 (dk_at dksX1_traffic_0 0 rfl rfl)
theorem dX1_traffic_1 : decode cX1_traffic 1 = .ok (.i2l, 1) := dk_133 (dk_at dksX1_traffic_0 1 rfl rfl)
theorem dX1_traffic_2 : decode cX1_traffic 2 = .ok (.lconst 0, 1) := dk_9 (dk_at dksX1_traffic_0 2 rfl rfl)
theorem dX1_traffic_3 : decode cX1_traffic 3 = .ok (.ldc2_w 275, 3) := dk_20 1 19 (dk_at dksX1_traffic_0 3 rfl rfl)
theorem dX1_traffic_6 : decode cX1_traffic 6 = .ok (.invokestatic 67, 3) := dk_184 0 67 (dk_at dksX1_traffic_0 6 rfl rfl)
theorem dX1_traffic_9 : decode cX1_traffic 9 = .ok (.invokestatic 104, 3) := dk_184 0 104 (dk_at dksX1_traffic_0 9 rfl rfl)
theorem dX1_traffic_12 : decode cX1_traffic 12 = .ok (.iload_n 2, 1) := dk_28 (dk_at dksX1_traffic_0 12 rfl rfl)
theorem dX1_traffic_13 : decode cX1_traffic 13 = .ok (.ifCond .eq 18, 3) := dk_153 0 18 (dk_at dksX1_traffic_0 13 rfl rfl)
theorem dX1_traffic_16 : decode cX1_traffic 16 = .ok (.aload_n 0, 1) := dk_42 (dk_at dksX1_traffic_0 16 rfl rfl)
theorem dX1_traffic_17 : decode cX1_traffic 17 = .ok (.getfield 41, 3) := dk_180 0 41 (dk_at dksX1_traffic_0 17 rfl rfl)
theorem dX1_traffic_20 : decode cX1_traffic 20 = .ok (.getfield 149, 3) := dk_180 0 149 (dk_at dksX1_traffic_0 20 rfl rfl)
theorem dX1_traffic_23 : decode cX1_traffic 23 = .ok (.getfield 166, 3) := dk_180 0 166 (dk_at dksX1_traffic_1 0 rfl rfl)
theorem dX1_traffic_26 : decode cX1_traffic 26 = .ok (.iload_n 1, 1) := dk_27 (dk_at dksX1_traffic_1 3 rfl rfl)
theorem dX1_traffic_27 : decode cX1_traffic 27 = .ok (.iaload, 1) := dk_46 (dk_at dksX1_traffic_1 4 rfl rfl)
theorem dX1_traffic_28 : decode cX1_traffic 28 = .ok (.goto 15, 3) := dk_167 0 15 (dk_at dksX1_traffic_1 5 rfl rfl)
theorem dX1_traffic_31 : decode cX1_traffic 31 = .ok (.aload_n 0, 1) := dk_42 (dk_at dksX1_traffic_1 8 rfl rfl)
theorem dX1_traffic_32 : decode cX1_traffic 32 = .ok (.getfield 41, 3) := dk_180 0 41 (dk_at dksX1_traffic_1 9 rfl rfl)
theorem dX1_traffic_35 : decode cX1_traffic 35 = .ok (.getfield 149, 3) := dk_180 0 149 (dk_at dksX1_traffic_1 12 rfl rfl)
theorem dX1_traffic_38 : decode cX1_traffic 38 = .ok (.getfield 158, 3) := dk_180 0 158 (dk_at dksX1_traffic_1 15 rfl rfl)
theorem dX1_traffic_41 : decode cX1_traffic 41 = .ok (.iload_n 1, 1) := dk_27 (dk_at dksX1_traffic_1 18 rfl rfl)
theorem dX1_traffic_42 : decode cX1_traffic 42 = .ok (.iaload, 1) := dk_46 (dk_at dksX1_traffic_1 19 rfl rfl)
theorem dX1_traffic_43 : decode cX1_traffic 43 = .ok (.ireturn, 1) := dk_172 (dk_at dksX1_traffic_1 20 rfl rfl)
def dkwX1_learned_1 : List UInt8 := [180, 0, 41, 180, 0, 238, 180, 1, 22, 27, 46, 172]
abbrev dktX1_learned_1 : List UInt8 := dkwX1_learned_1 ++ []
def dkwX1_learned_0 : List UInt8 := [27, 133, 9, 42, 180, 0, 41, 180, 0, 238, 180, 1, 21, 4, 100, 133, 184, 0, 67, 184, 0, 71, 42]
abbrev dktX1_learned_0 : List UInt8 := dkwX1_learned_0 ++ dktX1_learned_1
theorem dksX1_learned_0 : cX1_learned.data.toList.drop 0 = dktX1_learned_0 := by decide +kernel
theorem dksX1_learned_1 : cX1_learned.data.toList.drop 23 = dktX1_learned_1 := dk_seg dksX1_learned_0 23 rfl rfl
theorem dX1_learned_0 : decode cX1_learned 0 = .ok (.iload_n 1, 1) := dk_27 (dk_at dksX1_learned_0 0 rfl rfl)
theorem dX1_learned_1 : decode cX1_learned 1 = .ok (.i2l, 1) := dk_133 (dk_at dksX1_learned_0 1 rfl rfl)
theorem dX1_learned_2 : decode cX1_learned 2 = .ok (.lconst 0, 1) := dk_9 (dk_at dksX1_learned_0 2 rfl rfl)
theorem dX1_learned_3 : decode cX1_learned 3 = .ok (.aload_n 0, 1) := dk_42 (dk_at dksX1_learned_0 3 rfl rfl)
theorem dX1_learned_4 : decode cX1_learned 4 = .ok (.getfield 41, 3) := dk_180 0 41 (dk_at dksX1_learned_0 4 rfl rfl)
theorem dX1_learned_7 : decode cX1_learned 7 = .ok (.getfield 238, 3) := dk_180 0 238 (dk_at dksX1_learned_0 7 rfl rfl)
theorem dX1_learned_10 : decode cX1_learned 10 = .ok (.getfield 277, 3) := dk_180 1 21 (dk_at dksX1_learned_0 10 rfl rfl)
theorem dX1_learned_13 : decode cX1_learned 13 = .ok (.iconst 1, 1) := dk_4 (dk_at dksX1_learned_0 13 rfl rfl)
theorem dX1_learned_14 : decode cX1_learned 14 = .ok (.isub, 1) := dk_100 (dk_at dksX1_learned_0 14 rfl rfl)
theorem dX1_learned_15 : decode cX1_learned 15 = .ok (.i2l, 1) := dk_133 (dk_at dksX1_learned_0 15 rfl rfl)
theorem dX1_learned_16 : decode cX1_learned 16 = .ok (.invokestatic 67, 3) := dk_184 0 67 (dk_at dksX1_learned_0 16 rfl rfl)
theorem dX1_learned_19 : decode cX1_learned 19 = .ok (.invokestatic 71, 3) := dk_184 0 71 (dk_at dksX1_learned_0 19 rfl rfl)
theorem dX1_learned_22 : decode cX1_learned 22 = .ok (.aload_n 0, 1) := dk_42 (dk_at dksX1_learned_0 22 rfl rfl)
theorem dX1_learned_23 : decode cX1_learned 23 = .ok (.getfield 41, 3) := dk_180 0 41 (dk_at dksX1_learned_1 0 rfl rfl)
theorem dX1_learned_26 : decode cX1_learned 26 = .ok (.getfield 238, 3) := dk_180 0 238 (dk_at dksX1_learned_1 3 rfl rfl)
theorem dX1_learned_29 : decode cX1_learned 29 = .ok (.getfield 278, 3) := dk_180 1 22 (dk_at dksX1_learned_1 6 rfl rfl)
theorem dX1_learned_32 : decode cX1_learned 32 = .ok (.iload_n 1, 1) := dk_27 (dk_at dksX1_learned_1 9 rfl rfl)
theorem dX1_learned_33 : decode cX1_learned 33 = .ok (.iaload, 1) := dk_46 (dk_at dksX1_learned_1 10 rfl rfl)
theorem dX1_learned_34 : decode cX1_learned 34 = .ok (.ireturn, 1) := dk_172 (dk_at dksX1_learned_1 11 rfl rfl)
def dkwX1_why_5 : List UInt8 := [182, 1, 29, 27, 184, 0, 210, 153, 0, 7, 3, 167, 0, 5, 16, 7, 172]
abbrev dktX1_why_5 : List UInt8 := dkwX1_why_5 ++ []
def dkwX1_why_4 : List UInt8 := [180, 0, 41, 27, 182, 0, 231, 42, 180, 0, 41, 180, 0, 169, 164, 0, 8, 16, 6, 167, 0, 20, 42]
abbrev dktX1_why_4 : List UInt8 := dkwX1_why_4 ++ dktX1_why_5
def dkwX1_why_3 : List UInt8 := [180, 0, 250, 27, 46, 42, 180, 0, 41, 6, 182, 0, 255, 2, 130, 126, 153, 0, 5, 8, 172, 42]
abbrev dktX1_why_3 : List UInt8 := dkwX1_why_3 ++ dktX1_why_4
def dkwX1_why_2 : List UInt8 := [6, 172, 42, 180, 0, 41, 180, 0, 225, 27, 46, 4, 159, 0, 5, 7, 172, 42, 180, 0, 41, 180, 0, 107]
abbrev dktX1_why_2 : List UInt8 := dkwX1_why_2 ++ dktX1_why_3
def dkwX1_why_1 : List UInt8 := [180, 0, 41, 180, 0, 214, 27, 46, 5, 161, 0, 5, 5, 172, 42, 180, 0, 41, 182, 0, 139, 153, 0, 5]
abbrev dktX1_why_1 : List UInt8 := dkwX1_why_1 ++ dktX1_why_2
def dkwX1_why_0 : List UInt8 := [42, 27, 182, 0, 187, 77, 42, 180, 0, 41, 180, 0, 207, 27, 184, 0, 210, 154, 0, 5, 4, 172, 42]
abbrev dktX1_why_0 : List UInt8 := dkwX1_why_0 ++ dktX1_why_1
theorem dksX1_why_0 : cX1_why.data.toList.drop 0 = dktX1_why_0 := by decide +kernel
theorem dksX1_why_1 : cX1_why.data.toList.drop 23 = dktX1_why_1 := dk_seg dksX1_why_0 23 rfl rfl
theorem dksX1_why_2 : cX1_why.data.toList.drop 47 = dktX1_why_2 := dk_seg dksX1_why_1 24 rfl rfl
theorem dksX1_why_3 : cX1_why.data.toList.drop 71 = dktX1_why_3 := dk_seg dksX1_why_2 24 rfl rfl
theorem dksX1_why_4 : cX1_why.data.toList.drop 93 = dktX1_why_4 := dk_seg dksX1_why_3 22 rfl rfl
theorem dksX1_why_5 : cX1_why.data.toList.drop 116 = dktX1_why_5 := dk_seg dksX1_why_4 23 rfl rfl
theorem dX1_why_0 : decode cX1_why 0 = .ok (.aload_n 0, 1) := dk_42 (dk_at dksX1_why_0 0 rfl rfl)
theorem dX1_why_1 : decode cX1_why 1 = .ok (.iload_n 1, 1) := dk_27 (dk_at dksX1_why_0 1 rfl rfl)
theorem dX1_why_2 : decode cX1_why 2 = .ok (.invokevirtual 187, 3) := dk_182 0 187 (dk_at dksX1_why_0 2 rfl rfl)
theorem dX1_why_5 : decode cX1_why 5 = .ok (.astore_n 2, 1) := dk_77 (dk_at dksX1_why_0 5 rfl rfl)
theorem dX1_why_6 : decode cX1_why 6 = .ok (.aload_n 0, 1) := dk_42 (dk_at dksX1_why_0 6 rfl rfl)
theorem dX1_why_7 : decode cX1_why 7 = .ok (.getfield 41, 3) := dk_180 0 41 (dk_at dksX1_why_0 7 rfl rfl)
theorem dX1_why_10 : decode cX1_why 10 = .ok (.getfield 207, 3) := dk_180 0 207 (dk_at dksX1_why_0 10 rfl rfl)
theorem dX1_why_13 : decode cX1_why 13 = .ok (.iload_n 1, 1) := dk_27 (dk_at dksX1_why_0 13 rfl rfl)
theorem dX1_why_14 : decode cX1_why 14 = .ok (.invokestatic 210, 3) := dk_184 0 210 (dk_at dksX1_why_0 14 rfl rfl)
theorem dX1_why_17 : decode cX1_why 17 = .ok (.ifCond .ne 5, 3) := dk_154 0 5 (dk_at dksX1_why_0 17 rfl rfl)
theorem dX1_why_20 : decode cX1_why 20 = .ok (.iconst 1, 1) := dk_4 (dk_at dksX1_why_0 20 rfl rfl)
theorem dX1_why_21 : decode cX1_why 21 = .ok (.ireturn, 1) := dk_172 (dk_at dksX1_why_0 21 rfl rfl)
theorem dX1_why_22 : decode cX1_why 22 = .ok (.aload_n 0, 1) := dk_42 (dk_at dksX1_why_0 22 rfl rfl)
theorem dX1_why_23 : decode cX1_why 23 = .ok (.getfield 41, 3) := dk_180 0 41 (dk_at dksX1_why_1 0 rfl rfl)
theorem dX1_why_26 : decode cX1_why 26 = .ok (.getfield 214, 3) := dk_180 0 214 (dk_at dksX1_why_1 3 rfl rfl)
theorem dX1_why_29 : decode cX1_why 29 = .ok (.iload_n 1, 1) := dk_27 (dk_at dksX1_why_1 6 rfl rfl)
theorem dX1_why_30 : decode cX1_why 30 = .ok (.iaload, 1) := dk_46 (dk_at dksX1_why_1 7 rfl rfl)
theorem dX1_why_31 : decode cX1_why 31 = .ok (.iconst 2, 1) := dk_5 (dk_at dksX1_why_1 8 rfl rfl)
theorem dX1_why_32 : decode cX1_why 32 = .ok (.if_icmp .lt 5, 3) := dk_161 0 5 (dk_at dksX1_why_1 9 rfl rfl)
theorem dX1_why_35 : decode cX1_why 35 = .ok (.iconst 2, 1) := dk_5 (dk_at dksX1_why_1 12 rfl rfl)
theorem dX1_why_36 : decode cX1_why 36 = .ok (.ireturn, 1) := dk_172 (dk_at dksX1_why_1 13 rfl rfl)
theorem dX1_why_37 : decode cX1_why 37 = .ok (.aload_n 0, 1) := dk_42 (dk_at dksX1_why_1 14 rfl rfl)
theorem dX1_why_38 : decode cX1_why 38 = .ok (.getfield 41, 3) := dk_180 0 41 (dk_at dksX1_why_1 15 rfl rfl)
theorem dX1_why_41 : decode cX1_why 41 = .ok (.invokevirtual 139, 3) := dk_182 0 139 (dk_at dksX1_why_1 18 rfl rfl)
theorem dX1_why_44 : decode cX1_why 44 = .ok (.ifCond .eq 5, 3) := dk_153 0 5 (dk_at dksX1_why_1 21 rfl rfl)
theorem dX1_why_47 : decode cX1_why 47 = .ok (.iconst 3, 1) := dk_6 (dk_at dksX1_why_2 0 rfl rfl)
theorem dX1_why_48 : decode cX1_why 48 = .ok (.ireturn, 1) := dk_172 (dk_at dksX1_why_2 1 rfl rfl)
theorem dX1_why_49 : decode cX1_why 49 = .ok (.aload_n 0, 1) := dk_42 (dk_at dksX1_why_2 2 rfl rfl)
theorem dX1_why_50 : decode cX1_why 50 = .ok (.getfield 41, 3) := dk_180 0 41 (dk_at dksX1_why_2 3 rfl rfl)
theorem dX1_why_53 : decode cX1_why 53 = .ok (.getfield 225, 3) := dk_180 0 225 (dk_at dksX1_why_2 6 rfl rfl)
theorem dX1_why_56 : decode cX1_why 56 = .ok (.iload_n 1, 1) := dk_27 (dk_at dksX1_why_2 9 rfl rfl)
theorem dX1_why_57 : decode cX1_why 57 = .ok (.iaload, 1) := dk_46 (dk_at dksX1_why_2 10 rfl rfl)
theorem dX1_why_58 : decode cX1_why 58 = .ok (.iconst 1, 1) := dk_4 (dk_at dksX1_why_2 11 rfl rfl)
theorem dX1_why_59 : decode cX1_why 59 = .ok (.if_icmp .eq 5, 3) := dk_159 0 5 (dk_at dksX1_why_2 12 rfl rfl)
theorem dX1_why_62 : decode cX1_why 62 = .ok (.iconst 4, 1) := dk_7 (dk_at dksX1_why_2 15 rfl rfl)
theorem dX1_why_63 : decode cX1_why 63 = .ok (.ireturn, 1) := dk_172 (dk_at dksX1_why_2 16 rfl rfl)
theorem dX1_why_64 : decode cX1_why 64 = .ok (.aload_n 0, 1) := dk_42 (dk_at dksX1_why_2 17 rfl rfl)
theorem dX1_why_65 : decode cX1_why 65 = .ok (.getfield 41, 3) := dk_180 0 41 (dk_at dksX1_why_2 18 rfl rfl)
theorem dX1_why_68 : decode cX1_why 68 = .ok (.getfield 107, 3) := dk_180 0 107 (dk_at dksX1_why_2 21 rfl rfl)
theorem dX1_why_71 : decode cX1_why 71 = .ok (.getfield 250, 3) := dk_180 0 250 (dk_at dksX1_why_3 0 rfl rfl)
theorem dX1_why_74 : decode cX1_why 74 = .ok (.iload_n 1, 1) := dk_27 (dk_at dksX1_why_3 3 rfl rfl)
theorem dX1_why_75 : decode cX1_why 75 = .ok (.iaload, 1) := dk_46 (dk_at dksX1_why_3 4 rfl rfl)
theorem dX1_why_76 : decode cX1_why 76 = .ok (.aload_n 0, 1) := dk_42 (dk_at dksX1_why_3 5 rfl rfl)
theorem dX1_why_77 : decode cX1_why 77 = .ok (.getfield 41, 3) := dk_180 0 41 (dk_at dksX1_why_3 6 rfl rfl)
theorem dX1_why_80 : decode cX1_why 80 = .ok (.iconst 3, 1) := dk_6 (dk_at dksX1_why_3 9 rfl rfl)
theorem dX1_why_81 : decode cX1_why 81 = .ok (.invokevirtual 255, 3) := dk_182 0 255 (dk_at dksX1_why_3 10 rfl rfl)
theorem dX1_why_84 : decode cX1_why 84 = .ok (.iconst (-1), 1) := dk_2 (dk_at dksX1_why_3 13 rfl rfl)
theorem dX1_why_85 : decode cX1_why 85 = .ok (.ixor, 1) := dk_130 (dk_at dksX1_why_3 14 rfl rfl)
theorem dX1_why_86 : decode cX1_why 86 = .ok (.iand, 1) := dk_126 (dk_at dksX1_why_3 15 rfl rfl)
theorem dX1_why_87 : decode cX1_why 87 = .ok (.ifCond .eq 5, 3) := dk_153 0 5 (dk_at dksX1_why_3 16 rfl rfl)
theorem dX1_why_90 : decode cX1_why 90 = .ok (.iconst 5, 1) := dk_8 (dk_at dksX1_why_3 19 rfl rfl)
theorem dX1_why_91 : decode cX1_why 91 = .ok (.ireturn, 1) := dk_172 (dk_at dksX1_why_3 20 rfl rfl)
theorem dX1_why_92 : decode cX1_why 92 = .ok (.aload_n 0, 1) := dk_42 (dk_at dksX1_why_3 21 rfl rfl)
theorem dX1_why_93 : decode cX1_why 93 = .ok (.getfield 41, 3) := dk_180 0 41 (dk_at dksX1_why_4 0 rfl rfl)
theorem dX1_why_96 : decode cX1_why 96 = .ok (.iload_n 1, 1) := dk_27 (dk_at dksX1_why_4 3 rfl rfl)
theorem dX1_why_97 : decode cX1_why 97 = .ok (.invokevirtual 231, 3) := dk_182 0 231 (dk_at dksX1_why_4 4 rfl rfl)
theorem dX1_why_100 : decode cX1_why 100 = .ok (.aload_n 0, 1) := dk_42 (dk_at dksX1_why_4 7 rfl rfl)
theorem dX1_why_101 : decode cX1_why 101 = .ok (.getfield 41, 3) := dk_180 0 41 (dk_at dksX1_why_4 8 rfl rfl)
theorem dX1_why_104 : decode cX1_why 104 = .ok (.getfield 169, 3) := dk_180 0 169 (dk_at dksX1_why_4 11 rfl rfl)
theorem dX1_why_107 : decode cX1_why 107 = .ok (.if_icmp .le 8, 3) := dk_164 0 8 (dk_at dksX1_why_4 14 rfl rfl)
theorem dX1_why_110 : decode cX1_why 110 = .ok (.bipush 6, 2) := dk_16 6 (dk_at dksX1_why_4 17 rfl rfl)
theorem dX1_why_112 : decode cX1_why 112 = .ok (.goto 20, 3) := dk_167 0 20 (dk_at dksX1_why_4 19 rfl rfl)
theorem dX1_why_115 : decode cX1_why 115 = .ok (.aload_n 0, 1) := dk_42 (dk_at dksX1_why_4 22 rfl rfl)
theorem dX1_why_116 : decode cX1_why 116 = .ok (.invokevirtual 285, 3) := dk_182 1 29 (dk_at dksX1_why_5 0 rfl rfl)
theorem dX1_why_119 : decode cX1_why 119 = .ok (.iload_n 1, 1) := dk_27 (dk_at dksX1_why_5 3 rfl rfl)
theorem dX1_why_120 : decode cX1_why 120 = .ok (.invokestatic 210, 3) := dk_184 0 210 (dk_at dksX1_why_5 4 rfl rfl)
theorem dX1_why_123 : decode cX1_why 123 = .ok (.ifCond .eq 7, 3) := dk_153 0 7 (dk_at dksX1_why_5 7 rfl rfl)
theorem dX1_why_126 : decode cX1_why 126 = .ok (.iconst 0, 1) := dk_3 (dk_at dksX1_why_5 10 rfl rfl)
theorem dX1_why_127 : decode cX1_why 127 = .ok (.goto 5, 3) := dk_167 0 5 (dk_at dksX1_why_5 11 rfl rfl)
theorem dX1_why_130 : decode cX1_why 130 = .ok (.bipush 7, 2) := dk_16 7 (dk_at dksX1_why_5 14 rfl rfl)
theorem dX1_why_132 : decode cX1_why 132 = .ok (.ireturn, 1) := dk_172 (dk_at dksX1_why_5 16 rfl rfl)
def dkwX1_runsIn_0 : List UInt8 := [42, 27, 182, 0, 187, 77, 42, 180, 0, 41, 182, 1, 35, 4, 27, 120, 184, 1, 38, 172]
abbrev dktX1_runsIn_0 : List UInt8 := dkwX1_runsIn_0 ++ []
theorem dksX1_runsIn_0 : cX1_runsIn.data.toList.drop 0 = dktX1_runsIn_0 := by decide +kernel
theorem dX1_runsIn_0 : decode cX1_runsIn 0 = .ok (.aload_n 0, 1) := dk_42 (dk_at dksX1_runsIn_0 0 rfl rfl)
theorem dX1_runsIn_1 : decode cX1_runsIn 1 = .ok (.iload_n 1, 1) := dk_27 (dk_at dksX1_runsIn_0 1 rfl rfl)
theorem dX1_runsIn_2 : decode cX1_runsIn 2 = .ok (.invokevirtual 187, 3) := dk_182 0 187 (dk_at dksX1_runsIn_0 2 rfl rfl)
theorem dX1_runsIn_5 : decode cX1_runsIn 5 = .ok (.astore_n 2, 1) := dk_77 (dk_at dksX1_runsIn_0 5 rfl rfl)
theorem dX1_runsIn_6 : decode cX1_runsIn 6 = .ok (.aload_n 0, 1) := dk_42 (dk_at dksX1_runsIn_0 6 rfl rfl)
theorem dX1_runsIn_7 : decode cX1_runsIn 7 = .ok (.getfield 41, 3) := dk_180 0 41 (dk_at dksX1_runsIn_0 7 rfl rfl)
theorem dX1_runsIn_10 : decode cX1_runsIn 10 = .ok (.invokevirtual 291, 3) := dk_182 1 35 (dk_at dksX1_runsIn_0 10 rfl rfl)
theorem dX1_runsIn_13 : decode cX1_runsIn 13 = .ok (.iconst 1, 1) := dk_4 (dk_at dksX1_runsIn_0 13 rfl rfl)
theorem dX1_runsIn_14 : decode cX1_runsIn 14 = .ok (.iload_n 1, 1) := dk_27 (dk_at dksX1_runsIn_0 14 rfl rfl)
theorem dX1_runsIn_15 : decode cX1_runsIn 15 = .ok (.ishl, 1) := dk_120 (dk_at dksX1_runsIn_0 15 rfl rfl)
theorem dX1_runsIn_16 : decode cX1_runsIn 16 = .ok (.invokestatic 294, 3) := dk_184 1 38 (dk_at dksX1_runsIn_0 16 rfl rfl)
theorem dX1_runsIn_19 : decode cX1_runsIn 19 = .ok (.ireturn, 1) := dk_172 (dk_at dksX1_runsIn_0 19 rfl rfl)
def dkwX1_ticksTo_1 : List UInt8 := [182, 1, 32, 132, 2, 1, 167, 255, 228, 187, 0, 15, 89, 183, 0, 17, 191]
abbrev dktX1_ticksTo_1 : List UInt8 := dkwX1_ticksTo_1 ++ []
def dkwX1_ticksTo_0 : List UInt8 := [3, 61, 28, 17, 1, 244, 163, 0, 27, 27, 42, 6, 182, 1, 2, 2, 130, 126, 154, 0, 5, 28, 172, 42]
abbrev dktX1_ticksTo_0 : List UInt8 := dkwX1_ticksTo_0 ++ dktX1_ticksTo_1
theorem dksX1_ticksTo_0 : cX1_ticksTo.data.toList.drop 0 = dktX1_ticksTo_0 := by decide +kernel
theorem dksX1_ticksTo_1 : cX1_ticksTo.data.toList.drop 24 = dktX1_ticksTo_1 := dk_seg dksX1_ticksTo_0 24 rfl rfl
theorem dX1_ticksTo_0 : decode cX1_ticksTo 0 = .ok (.iconst 0, 1) := dk_3 (dk_at dksX1_ticksTo_0 0 rfl rfl)
theorem dX1_ticksTo_1 : decode cX1_ticksTo 1 = .ok (.istore_n 2, 1) := dk_61 (dk_at dksX1_ticksTo_0 1 rfl rfl)
theorem dX1_ticksTo_2 : decode cX1_ticksTo 2 = .ok (.iload_n 2, 1) := dk_28 (dk_at dksX1_ticksTo_0 2 rfl rfl)
theorem dX1_ticksTo_3 : decode cX1_ticksTo 3 = .ok (.sipush 500, 3) := dk_17 1 244 (dk_at dksX1_ticksTo_0 3 rfl rfl)
theorem dX1_ticksTo_6 : decode cX1_ticksTo 6 = .ok (.if_icmp .gt 27, 3) := dk_163 0 27 (dk_at dksX1_ticksTo_0 6 rfl rfl)
theorem dX1_ticksTo_9 : decode cX1_ticksTo 9 = .ok (.iload_n 1, 1) := dk_27 (dk_at dksX1_ticksTo_0 9 rfl rfl)
theorem dX1_ticksTo_10 : decode cX1_ticksTo 10 = .ok (.aload_n 0, 1) := dk_42 (dk_at dksX1_ticksTo_0 10 rfl rfl)
theorem dX1_ticksTo_11 : decode cX1_ticksTo 11 = .ok (.iconst 3, 1) := dk_6 (dk_at dksX1_ticksTo_0 11 rfl rfl)
theorem dX1_ticksTo_12 : decode cX1_ticksTo 12 = .ok (.invokevirtual 258, 3) := dk_182 1 2 (dk_at dksX1_ticksTo_0 12 rfl rfl)
theorem dX1_ticksTo_15 : decode cX1_ticksTo 15 = .ok (.iconst (-1), 1) := dk_2 (dk_at dksX1_ticksTo_0 15 rfl rfl)
theorem dX1_ticksTo_16 : decode cX1_ticksTo 16 = .ok (.ixor, 1) := dk_130 (dk_at dksX1_ticksTo_0 16 rfl rfl)
theorem dX1_ticksTo_17 : decode cX1_ticksTo 17 = .ok (.iand, 1) := dk_126 (dk_at dksX1_ticksTo_0 17 rfl rfl)
theorem dX1_ticksTo_18 : decode cX1_ticksTo 18 = .ok (.ifCond .ne 5, 3) := dk_154 0 5 (dk_at dksX1_ticksTo_0 18 rfl rfl)
theorem dX1_ticksTo_21 : decode cX1_ticksTo 21 = .ok (.iload_n 2, 1) := dk_28 (dk_at dksX1_ticksTo_0 21 rfl rfl)
theorem dX1_ticksTo_22 : decode cX1_ticksTo 22 = .ok (.ireturn, 1) := dk_172 (dk_at dksX1_ticksTo_0 22 rfl rfl)
theorem dX1_ticksTo_23 : decode cX1_ticksTo 23 = .ok (.aload_n 0, 1) := dk_42 (dk_at dksX1_ticksTo_0 23 rfl rfl)
theorem dX1_ticksTo_24 : decode cX1_ticksTo 24 = .ok (.invokevirtual 288, 3) := dk_182 1 32 (dk_at dksX1_ticksTo_1 0 rfl rfl)
theorem dX1_ticksTo_27 : decode cX1_ticksTo 27 = .ok (.iinc 2 1, 3) := dk_132 2 1 (dk_at dksX1_ticksTo_1 3 rfl rfl)
theorem dX1_ticksTo_30 : decode cX1_ticksTo 30 = .ok (.goto (-28), 3) := dk_167 255 228 (dk_at dksX1_ticksTo_1 6 rfl rfl)
theorem dX1_ticksTo_33 : decode cX1_ticksTo 33 = .ok (.new 15, 3) := dk_187 0 15 (dk_at dksX1_ticksTo_1 9 rfl rfl)
theorem dX1_ticksTo_36 : decode cX1_ticksTo 36 = .ok (.dup, 1) := dk_89 (dk_at dksX1_ticksTo_1 12 rfl rfl)
theorem dX1_ticksTo_37 : decode cX1_ticksTo 37 = .ok (.invokespecial 17, 3) := dk_183 0 17 (dk_at dksX1_ticksTo_1 13 rfl rfl)
theorem dX1_ticksTo_40 : decode cX1_ticksTo 40 = .ok (.athrow, 1) := dk_191 (dk_at dksX1_ticksTo_1 16 rfl rfl)
def dkwX1_allIn_3 : List UInt8 := [182, 1, 45, 62, 44, 44, 182, 1, 5, 184, 1, 38, 172]
abbrev dktX1_allIn_3 : List UInt8 := dkwX1_allIn_3 ++ []
def dkwX1_allIn_2 : List UInt8 := [180, 0, 178, 154, 0, 7, 4, 167, 0, 4, 3, 181, 0, 178, 167, 0, 13, 27, 6, 160, 0, 8, 44]
abbrev dktX1_allIn_2 : List UInt8 := dkwX1_allIn_2 ++ dktX1_allIn_3
def dkwX1_allIn_1 : List UInt8 := [160, 0, 16, 44, 180, 0, 149, 3, 188, 10, 181, 1, 42, 167, 0, 37, 27, 5, 160, 0, 22, 44, 44]
abbrev dktX1_allIn_1 : List UInt8 := dkwX1_allIn_1 ++ dktX1_allIn_2
def dkwX1_allIn_0 : List UInt8 := [27, 133, 9, 20, 0, 253, 184, 0, 67, 184, 0, 104, 42, 180, 0, 41, 182, 1, 35, 77, 27, 4]
abbrev dktX1_allIn_0 : List UInt8 := dkwX1_allIn_0 ++ dktX1_allIn_1
theorem dksX1_allIn_0 : cX1_allIn.data.toList.drop 0 = dktX1_allIn_0 := by decide +kernel
theorem dksX1_allIn_1 : cX1_allIn.data.toList.drop 22 = dktX1_allIn_1 := dk_seg dksX1_allIn_0 22 rfl rfl
theorem dksX1_allIn_2 : cX1_allIn.data.toList.drop 45 = dktX1_allIn_2 := dk_seg dksX1_allIn_1 23 rfl rfl
theorem dksX1_allIn_3 : cX1_allIn.data.toList.drop 68 = dktX1_allIn_3 := dk_seg dksX1_allIn_2 23 rfl rfl
theorem dX1_allIn_0 : decode cX1_allIn 0 = .ok (.iload_n 1, 1) := dk_27 (dk_at dksX1_allIn_0 0 rfl rfl)
theorem dX1_allIn_1 : decode cX1_allIn 1 = .ok (.i2l, 1) := dk_133 (dk_at dksX1_allIn_0 1 rfl rfl)
theorem dX1_allIn_2 : decode cX1_allIn 2 = .ok (.lconst 0, 1) := dk_9 (dk_at dksX1_allIn_0 2 rfl rfl)
theorem dX1_allIn_3 : decode cX1_allIn 3 = .ok (.ldc2_w 253, 3) := dk_20 0 253 (dk_at dksX1_allIn_0 3 rfl rfl)
theorem dX1_allIn_6 : decode cX1_allIn 6 = .ok (.invokestatic 67, 3) := dk_184 0 67 (dk_at dksX1_allIn_0 6 rfl rfl)
theorem dX1_allIn_9 : decode cX1_allIn 9 = .ok (.invokestatic 104, 3) := dk_184 0 104 (dk_at dksX1_allIn_0 9 rfl rfl)
theorem dX1_allIn_12 : decode cX1_allIn 12 = .ok (.aload_n 0, 1) := dk_42 (dk_at dksX1_allIn_0 12 rfl rfl)
theorem dX1_allIn_13 : decode cX1_allIn 13 = .ok (.getfield 41, 3) := dk_180 0 41 (dk_at dksX1_allIn_0 13 rfl rfl)
theorem dX1_allIn_16 : decode cX1_allIn 16 = .ok (.invokevirtual 291, 3) := dk_182 1 35 (dk_at dksX1_allIn_0 16 rfl rfl)
theorem dX1_allIn_19 : decode cX1_allIn 19 = .ok (.astore_n 2, 1) := dk_77 (dk_at dksX1_allIn_0 19 rfl rfl)
theorem dX1_allIn_20 : decode cX1_allIn 20 = .ok (.iload_n 1, 1) := dk_27 (dk_at dksX1_allIn_0 20 rfl rfl)
theorem dX1_allIn_21 : decode cX1_allIn 21 = .ok (.iconst 1, 1) := dk_4 (dk_at dksX1_allIn_0 21 rfl rfl)
theorem dX1_allIn_22 : decode cX1_allIn 22 = .ok (.if_icmp .ne 16, 3) := dk_160 0 16 (dk_at dksX1_allIn_1 0 rfl rfl)
theorem dX1_allIn_25 : decode cX1_allIn 25 = .ok (.aload_n 2, 1) := dk_44 (dk_at dksX1_allIn_1 3 rfl rfl)
theorem dX1_allIn_26 : decode cX1_allIn 26 = .ok (.getfield 149, 3) := dk_180 0 149 (dk_at dksX1_allIn_1 4 rfl rfl)
theorem dX1_allIn_29 : decode cX1_allIn 29 = .ok (.iconst 0, 1) := dk_3 (dk_at dksX1_allIn_1 7 rfl rfl)
theorem dX1_allIn_30 : decode cX1_allIn 30 = .ok (.newarray .int, 2) := dk_188_10 (dk_at dksX1_allIn_1 8 rfl rfl)
theorem dX1_allIn_32 : decode cX1_allIn 32 = .ok (.putfield 298, 3) := dk_181 1 42 (dk_at dksX1_allIn_1 10 rfl rfl)
theorem dX1_allIn_35 : decode cX1_allIn 35 = .ok (.goto 37, 3) := dk_167 0 37 (dk_at dksX1_allIn_1 13 rfl rfl)
theorem dX1_allIn_38 : decode cX1_allIn 38 = .ok (.iload_n 1, 1) := dk_27 (dk_at dksX1_allIn_1 16 rfl rfl)
theorem dX1_allIn_39 : decode cX1_allIn 39 = .ok (.iconst 2, 1) := dk_5 (dk_at dksX1_allIn_1 17 rfl rfl)
theorem dX1_allIn_40 : decode cX1_allIn 40 = .ok (.if_icmp .ne 22, 3) := dk_160 0 22 (dk_at dksX1_allIn_1 18 rfl rfl)
theorem dX1_allIn_43 : decode cX1_allIn 43 = .ok (.aload_n 2, 1) := dk_44 (dk_at dksX1_allIn_1 21 rfl rfl)
theorem dX1_allIn_44 : decode cX1_allIn 44 = .ok (.aload_n 2, 1) := dk_44 (dk_at dksX1_allIn_1 22 rfl rfl)
theorem dX1_allIn_45 : decode cX1_allIn 45 = .ok (.getfield 178, 3) := dk_180 0 178 (dk_at dksX1_allIn_2 0 rfl rfl)
theorem dX1_allIn_48 : decode cX1_allIn 48 = .ok (.ifCond .ne 7, 3) := dk_154 0 7 (dk_at dksX1_allIn_2 3 rfl rfl)
theorem dX1_allIn_51 : decode cX1_allIn 51 = .ok (.iconst 1, 1) := dk_4 (dk_at dksX1_allIn_2 6 rfl rfl)
theorem dX1_allIn_52 : decode cX1_allIn 52 = .ok (.goto 4, 3) := dk_167 0 4 (dk_at dksX1_allIn_2 7 rfl rfl)
theorem dX1_allIn_55 : decode cX1_allIn 55 = .ok (.iconst 0, 1) := dk_3 (dk_at dksX1_allIn_2 10 rfl rfl)
theorem dX1_allIn_56 : decode cX1_allIn 56 = .ok (.putfield 178, 3) := dk_181 0 178 (dk_at dksX1_allIn_2 11 rfl rfl)
theorem dX1_allIn_59 : decode cX1_allIn 59 = .ok (.goto 13, 3) := dk_167 0 13 (dk_at dksX1_allIn_2 14 rfl rfl)
theorem dX1_allIn_62 : decode cX1_allIn 62 = .ok (.iload_n 1, 1) := dk_27 (dk_at dksX1_allIn_2 17 rfl rfl)
theorem dX1_allIn_63 : decode cX1_allIn 63 = .ok (.iconst 3, 1) := dk_6 (dk_at dksX1_allIn_2 18 rfl rfl)
theorem dX1_allIn_64 : decode cX1_allIn 64 = .ok (.if_icmp .ne 8, 3) := dk_160 0 8 (dk_at dksX1_allIn_2 19 rfl rfl)
theorem dX1_allIn_67 : decode cX1_allIn 67 = .ok (.aload_n 2, 1) := dk_44 (dk_at dksX1_allIn_2 22 rfl rfl)
theorem dX1_allIn_68 : decode cX1_allIn 68 = .ok (.invokevirtual 301, 3) := dk_182 1 45 (dk_at dksX1_allIn_3 0 rfl rfl)
theorem dX1_allIn_71 : decode cX1_allIn 71 = .ok (.istore_n 3, 1) := dk_62 (dk_at dksX1_allIn_3 3 rfl rfl)
theorem dX1_allIn_72 : decode cX1_allIn 72 = .ok (.aload_n 2, 1) := dk_44 (dk_at dksX1_allIn_3 4 rfl rfl)
theorem dX1_allIn_73 : decode cX1_allIn 73 = .ok (.aload_n 2, 1) := dk_44 (dk_at dksX1_allIn_3 5 rfl rfl)
theorem dX1_allIn_74 : decode cX1_allIn 74 = .ok (.invokevirtual 261, 3) := dk_182 1 5 (dk_at dksX1_allIn_3 6 rfl rfl)
theorem dX1_allIn_77 : decode cX1_allIn 77 = .ok (.invokestatic 294, 3) := dk_184 1 38 (dk_at dksX1_allIn_3 9 rfl rfl)
theorem dX1_allIn_80 : decode cX1_allIn 80 = .ok (.ireturn, 1) := dk_172 (dk_at dksX1_allIn_3 12 rfl rfl)
def dkwX1_peakIn_3 : List UInt8 := [132, 5, 1, 167, 255, 232, 21, 4, 172]
abbrev dktX1_peakIn_3 : List UInt8 := dkwX1_peakIn_3 ++ []
def dkwX1_peakIn_2 : List UInt8 := [3, 54, 5, 21, 5, 27, 162, 0, 24, 45, 182, 1, 32, 21, 4, 45, 180, 1, 52, 184, 1, 55, 54, 4]
abbrev dktX1_peakIn_2 : List UInt8 := dkwX1_peakIn_2 ++ dktX1_peakIn_3
def dkwX1_peakIn_1 : List UInt8 := [4, 167, 0, 4, 3, 184, 0, 104, 42, 180, 0, 41, 182, 1, 35, 78, 45, 28, 181, 0, 169, 3, 54, 4]
abbrev dktX1_peakIn_1 : List UInt8 := dkwX1_peakIn_1 ++ dktX1_peakIn_2
def dkwX1_peakIn_0 : List UInt8 := [27, 133, 10, 20, 1, 48, 184, 0, 67, 153, 0, 19, 28, 133, 10, 20, 1, 50, 184, 0, 67, 153, 0, 7]
abbrev dktX1_peakIn_0 : List UInt8 := dkwX1_peakIn_0 ++ dktX1_peakIn_1
theorem dksX1_peakIn_0 : cX1_peakIn.data.toList.drop 0 = dktX1_peakIn_0 := by decide +kernel
theorem dksX1_peakIn_1 : cX1_peakIn.data.toList.drop 24 = dktX1_peakIn_1 := dk_seg dksX1_peakIn_0 24 rfl rfl
theorem dksX1_peakIn_2 : cX1_peakIn.data.toList.drop 48 = dktX1_peakIn_2 := dk_seg dksX1_peakIn_1 24 rfl rfl
theorem dksX1_peakIn_3 : cX1_peakIn.data.toList.drop 72 = dktX1_peakIn_3 := dk_seg dksX1_peakIn_2 24 rfl rfl
theorem dX1_peakIn_0 : decode cX1_peakIn 0 = .ok (.iload_n 1, 1) := dk_27 (dk_at dksX1_peakIn_0 0 rfl rfl)
theorem dX1_peakIn_1 : decode cX1_peakIn 1 = .ok (.i2l, 1) := dk_133 (dk_at dksX1_peakIn_0 1 rfl rfl)
theorem dX1_peakIn_2 : decode cX1_peakIn 2 = .ok (.lconst 1, 1) := dk_10 (dk_at dksX1_peakIn_0 2 rfl rfl)
theorem dX1_peakIn_3 : decode cX1_peakIn 3 = .ok (.ldc2_w 304, 3) := dk_20 1 48 (dk_at dksX1_peakIn_0 3 rfl rfl)
theorem dX1_peakIn_6 : decode cX1_peakIn 6 = .ok (.invokestatic 67, 3) := dk_184 0 67 (dk_at dksX1_peakIn_0 6 rfl rfl)
theorem dX1_peakIn_9 : decode cX1_peakIn 9 = .ok (.ifCond .eq 19, 3) := dk_153 0 19 (dk_at dksX1_peakIn_0 9 rfl rfl)
theorem dX1_peakIn_12 : decode cX1_peakIn 12 = .ok (.iload_n 2, 1) := dk_28 (dk_at dksX1_peakIn_0 12 rfl rfl)
theorem dX1_peakIn_13 : decode cX1_peakIn 13 = .ok (.i2l, 1) := dk_133 (dk_at dksX1_peakIn_0 13 rfl rfl)
theorem dX1_peakIn_14 : decode cX1_peakIn 14 = .ok (.lconst 1, 1) := dk_10 (dk_at dksX1_peakIn_0 14 rfl rfl)
theorem dX1_peakIn_15 : decode cX1_peakIn 15 = .ok (.ldc2_w 306, 3) := dk_20 1 50 (dk_at dksX1_peakIn_0 15 rfl rfl)
theorem dX1_peakIn_18 : decode cX1_peakIn 18 = .ok (.invokestatic 67, 3) := dk_184 0 67 (dk_at dksX1_peakIn_0 18 rfl rfl)
theorem dX1_peakIn_21 : decode cX1_peakIn 21 = .ok (.ifCond .eq 7, 3) := dk_153 0 7 (dk_at dksX1_peakIn_0 21 rfl rfl)
theorem dX1_peakIn_24 : decode cX1_peakIn 24 = .ok (.iconst 1, 1) := dk_4 (dk_at dksX1_peakIn_1 0 rfl rfl)
theorem dX1_peakIn_25 : decode cX1_peakIn 25 = .ok (.goto 4, 3) := dk_167 0 4 (dk_at dksX1_peakIn_1 1 rfl rfl)
theorem dX1_peakIn_28 : decode cX1_peakIn 28 = .ok (.iconst 0, 1) := dk_3 (dk_at dksX1_peakIn_1 4 rfl rfl)
theorem dX1_peakIn_29 : decode cX1_peakIn 29 = .ok (.invokestatic 104, 3) := dk_184 0 104 (dk_at dksX1_peakIn_1 5 rfl rfl)
theorem dX1_peakIn_32 : decode cX1_peakIn 32 = .ok (.aload_n 0, 1) := dk_42 (dk_at dksX1_peakIn_1 8 rfl rfl)
theorem dX1_peakIn_33 : decode cX1_peakIn 33 = .ok (.getfield 41, 3) := dk_180 0 41 (dk_at dksX1_peakIn_1 9 rfl rfl)
theorem dX1_peakIn_36 : decode cX1_peakIn 36 = .ok (.invokevirtual 291, 3) := dk_182 1 35 (dk_at dksX1_peakIn_1 12 rfl rfl)
theorem dX1_peakIn_39 : decode cX1_peakIn 39 = .ok (.astore_n 3, 1) := dk_78 (dk_at dksX1_peakIn_1 15 rfl rfl)
theorem dX1_peakIn_40 : decode cX1_peakIn 40 = .ok (.aload_n 3, 1) := dk_45 (dk_at dksX1_peakIn_1 16 rfl rfl)
theorem dX1_peakIn_41 : decode cX1_peakIn 41 = .ok (.iload_n 2, 1) := dk_28 (dk_at dksX1_peakIn_1 17 rfl rfl)
theorem dX1_peakIn_42 : decode cX1_peakIn 42 = .ok (.putfield 169, 3) := dk_181 0 169 (dk_at dksX1_peakIn_1 18 rfl rfl)
theorem dX1_peakIn_45 : decode cX1_peakIn 45 = .ok (.iconst 0, 1) := dk_3 (dk_at dksX1_peakIn_1 21 rfl rfl)
theorem dX1_peakIn_46 : decode cX1_peakIn 46 = .ok (.istore 4, 2) := dk_54 4 (dk_at dksX1_peakIn_1 22 rfl rfl)
theorem dX1_peakIn_48 : decode cX1_peakIn 48 = .ok (.iconst 0, 1) := dk_3 (dk_at dksX1_peakIn_2 0 rfl rfl)
theorem dX1_peakIn_49 : decode cX1_peakIn 49 = .ok (.istore 5, 2) := dk_54 5 (dk_at dksX1_peakIn_2 1 rfl rfl)
theorem dX1_peakIn_51 : decode cX1_peakIn 51 = .ok (.iload 5, 2) := dk_21 5 (dk_at dksX1_peakIn_2 3 rfl rfl)
theorem dX1_peakIn_53 : decode cX1_peakIn 53 = .ok (.iload_n 1, 1) := dk_27 (dk_at dksX1_peakIn_2 5 rfl rfl)
theorem dX1_peakIn_54 : decode cX1_peakIn 54 = .ok (.if_icmp .ge 24, 3) := dk_162 0 24 (dk_at dksX1_peakIn_2 6 rfl rfl)
theorem dX1_peakIn_57 : decode cX1_peakIn 57 = .ok (.aload_n 3, 1) := dk_45 (dk_at dksX1_peakIn_2 9 rfl rfl)
theorem dX1_peakIn_58 : decode cX1_peakIn 58 = .ok (.invokevirtual 288, 3) := dk_182 1 32 (dk_at dksX1_peakIn_2 10 rfl rfl)
theorem dX1_peakIn_61 : decode cX1_peakIn 61 = .ok (.iload 4, 2) := dk_21 4 (dk_at dksX1_peakIn_2 13 rfl rfl)
theorem dX1_peakIn_63 : decode cX1_peakIn 63 = .ok (.aload_n 3, 1) := dk_45 (dk_at dksX1_peakIn_2 15 rfl rfl)
theorem dX1_peakIn_64 : decode cX1_peakIn 64 = .ok (.getfield 308, 3) := dk_180 1 52 (dk_at dksX1_peakIn_2 16 rfl rfl)
theorem dX1_peakIn_67 : decode cX1_peakIn 67 = .ok (.invokestatic 311, 3) := dk_184 1 55 (dk_at dksX1_peakIn_2 19 rfl rfl)
theorem dX1_peakIn_70 : decode cX1_peakIn 70 = .ok (.istore 4, 2) := dk_54 4 (dk_at dksX1_peakIn_2 22 rfl rfl)
theorem dX1_peakIn_72 : decode cX1_peakIn 72 = .ok (.iinc 5 1, 3) := dk_132 5 1 (dk_at dksX1_peakIn_3 0 rfl rfl)
theorem dX1_peakIn_75 : decode cX1_peakIn 75 = .ok (.goto (-24), 3) := dk_167 255 232 (dk_at dksX1_peakIn_3 3 rfl rfl)
theorem dX1_peakIn_78 : decode cX1_peakIn 78 = .ok (.iload 4, 2) := dk_21 4 (dk_at dksX1_peakIn_3 6 rfl rfl)
theorem dX1_peakIn_80 : decode cX1_peakIn 80 = .ok (.ireturn, 1) := dk_172 (dk_at dksX1_peakIn_3 8 rfl rfl)
def dkwX1_sentIn_3 : List UInt8 := [184, 0, 162, 42, 180, 0, 41, 180, 0, 149, 180, 0, 158, 184, 0, 162, 100, 172]
abbrev dktX1_sentIn_3 : List UInt8 := dkwX1_sentIn_3 ++ []
def dkwX1_sentIn_2 : List UInt8 := [21, 4, 27, 162, 0, 13, 45, 182, 1, 32, 132, 4, 1, 167, 255, 243, 45, 180, 0, 149, 180, 0, 158]
abbrev dktX1_sentIn_2 : List UInt8 := dkwX1_sentIn_2 ++ dktX1_sentIn_3
def dkwX1_sentIn_1 : List UInt8 := [4, 167, 0, 4, 3, 184, 0, 104, 42, 180, 0, 41, 182, 1, 35, 78, 45, 28, 181, 0, 172, 3, 54, 4]
abbrev dktX1_sentIn_1 : List UInt8 := dkwX1_sentIn_1 ++ dktX1_sentIn_2
def dkwX1_sentIn_0 : List UInt8 := [27, 133, 10, 20, 1, 48, 184, 0, 67, 153, 0, 19, 28, 133, 10, 20, 1, 61, 184, 0, 67, 153, 0, 7]
abbrev dktX1_sentIn_0 : List UInt8 := dkwX1_sentIn_0 ++ dktX1_sentIn_1
theorem dksX1_sentIn_0 : cX1_sentIn.data.toList.drop 0 = dktX1_sentIn_0 := by decide +kernel
theorem dksX1_sentIn_1 : cX1_sentIn.data.toList.drop 24 = dktX1_sentIn_1 := dk_seg dksX1_sentIn_0 24 rfl rfl
theorem dksX1_sentIn_2 : cX1_sentIn.data.toList.drop 48 = dktX1_sentIn_2 := dk_seg dksX1_sentIn_1 24 rfl rfl
theorem dksX1_sentIn_3 : cX1_sentIn.data.toList.drop 71 = dktX1_sentIn_3 := dk_seg dksX1_sentIn_2 23 rfl rfl
theorem dX1_sentIn_0 : decode cX1_sentIn 0 = .ok (.iload_n 1, 1) := dk_27 (dk_at dksX1_sentIn_0 0 rfl rfl)
theorem dX1_sentIn_1 : decode cX1_sentIn 1 = .ok (.i2l, 1) := dk_133 (dk_at dksX1_sentIn_0 1 rfl rfl)
theorem dX1_sentIn_2 : decode cX1_sentIn 2 = .ok (.lconst 1, 1) := dk_10 (dk_at dksX1_sentIn_0 2 rfl rfl)
theorem dX1_sentIn_3 : decode cX1_sentIn 3 = .ok (.ldc2_w 304, 3) := dk_20 1 48 (dk_at dksX1_sentIn_0 3 rfl rfl)
theorem dX1_sentIn_6 : decode cX1_sentIn 6 = .ok (.invokestatic 67, 3) := dk_184 0 67 (dk_at dksX1_sentIn_0 6 rfl rfl)
theorem dX1_sentIn_9 : decode cX1_sentIn 9 = .ok (.ifCond .eq 19, 3) := dk_153 0 19 (dk_at dksX1_sentIn_0 9 rfl rfl)
theorem dX1_sentIn_12 : decode cX1_sentIn 12 = .ok (.iload_n 2, 1) := dk_28 (dk_at dksX1_sentIn_0 12 rfl rfl)
theorem dX1_sentIn_13 : decode cX1_sentIn 13 = .ok (.i2l, 1) := dk_133 (dk_at dksX1_sentIn_0 13 rfl rfl)
theorem dX1_sentIn_14 : decode cX1_sentIn 14 = .ok (.lconst 1, 1) := dk_10 (dk_at dksX1_sentIn_0 14 rfl rfl)
theorem dX1_sentIn_15 : decode cX1_sentIn 15 = .ok (.ldc2_w 317, 3) := dk_20 1 61 (dk_at dksX1_sentIn_0 15 rfl rfl)
theorem dX1_sentIn_18 : decode cX1_sentIn 18 = .ok (.invokestatic 67, 3) := dk_184 0 67 (dk_at dksX1_sentIn_0 18 rfl rfl)
theorem dX1_sentIn_21 : decode cX1_sentIn 21 = .ok (.ifCond .eq 7, 3) := dk_153 0 7 (dk_at dksX1_sentIn_0 21 rfl rfl)
theorem dX1_sentIn_24 : decode cX1_sentIn 24 = .ok (.iconst 1, 1) := dk_4 (dk_at dksX1_sentIn_1 0 rfl rfl)
theorem dX1_sentIn_25 : decode cX1_sentIn 25 = .ok (.goto 4, 3) := dk_167 0 4 (dk_at dksX1_sentIn_1 1 rfl rfl)
theorem dX1_sentIn_28 : decode cX1_sentIn 28 = .ok (.iconst 0, 1) := dk_3 (dk_at dksX1_sentIn_1 4 rfl rfl)
theorem dX1_sentIn_29 : decode cX1_sentIn 29 = .ok (.invokestatic 104, 3) := dk_184 0 104 (dk_at dksX1_sentIn_1 5 rfl rfl)
theorem dX1_sentIn_32 : decode cX1_sentIn 32 = .ok (.aload_n 0, 1) := dk_42 (dk_at dksX1_sentIn_1 8 rfl rfl)
theorem dX1_sentIn_33 : decode cX1_sentIn 33 = .ok (.getfield 41, 3) := dk_180 0 41 (dk_at dksX1_sentIn_1 9 rfl rfl)
theorem dX1_sentIn_36 : decode cX1_sentIn 36 = .ok (.invokevirtual 291, 3) := dk_182 1 35 (dk_at dksX1_sentIn_1 12 rfl rfl)
theorem dX1_sentIn_39 : decode cX1_sentIn 39 = .ok (.astore_n 3, 1) := dk_78 (dk_at dksX1_sentIn_1 15 rfl rfl)
theorem dX1_sentIn_40 : decode cX1_sentIn 40 = .ok (.aload_n 3, 1) := dk_45 (dk_at dksX1_sentIn_1 16 rfl rfl)
theorem dX1_sentIn_41 : decode cX1_sentIn 41 = .ok (.iload_n 2, 1) := dk_28 (dk_at dksX1_sentIn_1 17 rfl rfl)
theorem dX1_sentIn_42 : decode cX1_sentIn 42 = .ok (.putfield 172, 3) := dk_181 0 172 (dk_at dksX1_sentIn_1 18 rfl rfl)
theorem dX1_sentIn_45 : decode cX1_sentIn 45 = .ok (.iconst 0, 1) := dk_3 (dk_at dksX1_sentIn_1 21 rfl rfl)
theorem dX1_sentIn_46 : decode cX1_sentIn 46 = .ok (.istore 4, 2) := dk_54 4 (dk_at dksX1_sentIn_1 22 rfl rfl)
theorem dX1_sentIn_48 : decode cX1_sentIn 48 = .ok (.iload 4, 2) := dk_21 4 (dk_at dksX1_sentIn_2 0 rfl rfl)
theorem dX1_sentIn_50 : decode cX1_sentIn 50 = .ok (.iload_n 1, 1) := dk_27 (dk_at dksX1_sentIn_2 2 rfl rfl)
theorem dX1_sentIn_51 : decode cX1_sentIn 51 = .ok (.if_icmp .ge 13, 3) := dk_162 0 13 (dk_at dksX1_sentIn_2 3 rfl rfl)
theorem dX1_sentIn_54 : decode cX1_sentIn 54 = .ok (.aload_n 3, 1) := dk_45 (dk_at dksX1_sentIn_2 6 rfl rfl)
theorem dX1_sentIn_55 : decode cX1_sentIn 55 = .ok (.invokevirtual 288, 3) := dk_182 1 32 (dk_at dksX1_sentIn_2 7 rfl rfl)
theorem dX1_sentIn_58 : decode cX1_sentIn 58 = .ok (.iinc 4 1, 3) := dk_132 4 1 (dk_at dksX1_sentIn_2 10 rfl rfl)
theorem dX1_sentIn_61 : decode cX1_sentIn 61 = .ok (.goto (-13), 3) := dk_167 255 243 (dk_at dksX1_sentIn_2 13 rfl rfl)
theorem dX1_sentIn_64 : decode cX1_sentIn 64 = .ok (.aload_n 3, 1) := dk_45 (dk_at dksX1_sentIn_2 16 rfl rfl)
theorem dX1_sentIn_65 : decode cX1_sentIn 65 = .ok (.getfield 149, 3) := dk_180 0 149 (dk_at dksX1_sentIn_2 17 rfl rfl)
theorem dX1_sentIn_68 : decode cX1_sentIn 68 = .ok (.getfield 158, 3) := dk_180 0 158 (dk_at dksX1_sentIn_2 20 rfl rfl)
theorem dX1_sentIn_71 : decode cX1_sentIn 71 = .ok (.invokestatic 162, 3) := dk_184 0 162 (dk_at dksX1_sentIn_3 0 rfl rfl)
theorem dX1_sentIn_74 : decode cX1_sentIn 74 = .ok (.aload_n 0, 1) := dk_42 (dk_at dksX1_sentIn_3 3 rfl rfl)
theorem dX1_sentIn_75 : decode cX1_sentIn 75 = .ok (.getfield 41, 3) := dk_180 0 41 (dk_at dksX1_sentIn_3 4 rfl rfl)
theorem dX1_sentIn_78 : decode cX1_sentIn 78 = .ok (.getfield 149, 3) := dk_180 0 149 (dk_at dksX1_sentIn_3 7 rfl rfl)
theorem dX1_sentIn_81 : decode cX1_sentIn 81 = .ok (.getfield 158, 3) := dk_180 0 158 (dk_at dksX1_sentIn_3 10 rfl rfl)
theorem dX1_sentIn_84 : decode cX1_sentIn 84 = .ok (.invokestatic 162, 3) := dk_184 0 162 (dk_at dksX1_sentIn_3 13 rfl rfl)
theorem dX1_sentIn_87 : decode cX1_sentIn 87 = .ok (.isub, 1) := dk_100 (dk_at dksX1_sentIn_3 16 rfl rfl)
theorem dX1_sentIn_88 : decode cX1_sentIn 88 = .ok (.ireturn, 1) := dk_172 (dk_at dksX1_sentIn_3 17 rfl rfl)
def dkwX1_run_2 : List UInt8 := [182, 1, 32, 132, 3, 1, 167, 255, 244, 44, 6, 182, 1, 2, 184, 1, 76, 172]
abbrev dktX1_run_2 : List UInt8 := dkwX1_run_2 ++ []
def dkwX1_run_1 : List UInt8 := [163, 0, 7, 4, 167, 0, 4, 3, 184, 0, 59, 42, 182, 1, 73, 77, 3, 62, 29, 27, 162, 0, 13, 44]
abbrev dktX1_run_1 : List UInt8 := dkwX1_run_1 ++ dktX1_run_2
def dkwX1_run_0 : List UInt8 := [27, 133, 10, 20, 1, 71, 184, 0, 67, 184, 0, 104, 42, 180, 0, 41, 180, 0, 136, 27, 96, 17, 19, 136]
abbrev dktX1_run_0 : List UInt8 := dkwX1_run_0 ++ dktX1_run_1
theorem dksX1_run_0 : cX1_run.data.toList.drop 0 = dktX1_run_0 := by decide +kernel
theorem dksX1_run_1 : cX1_run.data.toList.drop 24 = dktX1_run_1 := dk_seg dksX1_run_0 24 rfl rfl
theorem dksX1_run_2 : cX1_run.data.toList.drop 48 = dktX1_run_2 := dk_seg dksX1_run_1 24 rfl rfl
theorem dX1_run_0 : decode cX1_run 0 = .ok (.iload_n 1, 1) := dk_27 (dk_at dksX1_run_0 0 rfl rfl)
theorem dX1_run_1 : decode cX1_run 1 = .ok (.i2l, 1) := dk_133 (dk_at dksX1_run_0 1 rfl rfl)
theorem dX1_run_2 : decode cX1_run 2 = .ok (.lconst 1, 1) := dk_10 (dk_at dksX1_run_0 2 rfl rfl)
theorem dX1_run_3 : decode cX1_run 3 = .ok (.ldc2_w 327, 3) := dk_20 1 71 (dk_at dksX1_run_0 3 rfl rfl)
theorem dX1_run_6 : decode cX1_run 6 = .ok (.invokestatic 67, 3) := dk_184 0 67 (dk_at dksX1_run_0 6 rfl rfl)
theorem dX1_run_9 : decode cX1_run 9 = .ok (.invokestatic 104, 3) := dk_184 0 104 (dk_at dksX1_run_0 9 rfl rfl)
theorem dX1_run_12 : decode cX1_run 12 = .ok (.aload_n 0, 1) := dk_42 (dk_at dksX1_run_0 12 rfl rfl)
theorem dX1_run_13 : decode cX1_run 13 = .ok (.getfield 41, 3) := dk_180 0 41 (dk_at dksX1_run_0 13 rfl rfl)
theorem dX1_run_16 : decode cX1_run 16 = .ok (.getfield 136, 3) := dk_180 0 136 (dk_at dksX1_run_0 16 rfl rfl)
theorem dX1_run_19 : decode cX1_run 19 = .ok (.iload_n 1, 1) := dk_27 (dk_at dksX1_run_0 19 rfl rfl)
theorem dX1_run_20 : decode cX1_run 20 = .ok (.iadd, 1) := dk_96 (dk_at dksX1_run_0 20 rfl rfl)
theorem dX1_run_21 : decode cX1_run 21 = .ok (.sipush 5000, 3) := dk_17 19 136 (dk_at dksX1_run_0 21 rfl rfl)
theorem dX1_run_24 : decode cX1_run 24 = .ok (.if_icmp .gt 7, 3) := dk_163 0 7 (dk_at dksX1_run_1 0 rfl rfl)
theorem dX1_run_27 : decode cX1_run 27 = .ok (.iconst 1, 1) := dk_4 (dk_at dksX1_run_1 3 rfl rfl)
theorem dX1_run_28 : decode cX1_run 28 = .ok (.goto 4, 3) := dk_167 0 4 (dk_at dksX1_run_1 4 rfl rfl)
theorem dX1_run_31 : decode cX1_run 31 = .ok (.iconst 0, 1) := dk_3 (dk_at dksX1_run_1 7 rfl rfl)
theorem dX1_run_32 : decode cX1_run 32 = .ok (.invokestatic 59, 3) := dk_184 0 59 (dk_at dksX1_run_1 8 rfl rfl)
theorem dX1_run_35 : decode cX1_run 35 = .ok (.aload_n 0, 1) := dk_42 (dk_at dksX1_run_1 11 rfl rfl)
theorem dX1_run_36 : decode cX1_run 36 = .ok (.invokevirtual 329, 3) := dk_182 1 73 (dk_at dksX1_run_1 12 rfl rfl)
theorem dX1_run_39 : decode cX1_run 39 = .ok (.astore_n 2, 1) := dk_77 (dk_at dksX1_run_1 15 rfl rfl)
theorem dX1_run_40 : decode cX1_run 40 = .ok (.iconst 0, 1) := dk_3 (dk_at dksX1_run_1 16 rfl rfl)
theorem dX1_run_41 : decode cX1_run 41 = .ok (.istore_n 3, 1) := dk_62 (dk_at dksX1_run_1 17 rfl rfl)
theorem dX1_run_42 : decode cX1_run 42 = .ok (.iload_n 3, 1) := dk_29 (dk_at dksX1_run_1 18 rfl rfl)
theorem dX1_run_43 : decode cX1_run 43 = .ok (.iload_n 1, 1) := dk_27 (dk_at dksX1_run_1 19 rfl rfl)
theorem dX1_run_44 : decode cX1_run 44 = .ok (.if_icmp .ge 13, 3) := dk_162 0 13 (dk_at dksX1_run_1 20 rfl rfl)
theorem dX1_run_47 : decode cX1_run 47 = .ok (.aload_n 2, 1) := dk_44 (dk_at dksX1_run_1 23 rfl rfl)
theorem dX1_run_48 : decode cX1_run 48 = .ok (.invokevirtual 288, 3) := dk_182 1 32 (dk_at dksX1_run_2 0 rfl rfl)
theorem dX1_run_51 : decode cX1_run 51 = .ok (.iinc 3 1, 3) := dk_132 3 1 (dk_at dksX1_run_2 3 rfl rfl)
theorem dX1_run_54 : decode cX1_run 54 = .ok (.goto (-12), 3) := dk_167 255 244 (dk_at dksX1_run_2 6 rfl rfl)
theorem dX1_run_57 : decode cX1_run 57 = .ok (.aload_n 2, 1) := dk_44 (dk_at dksX1_run_2 9 rfl rfl)
theorem dX1_run_58 : decode cX1_run 58 = .ok (.iconst 3, 1) := dk_6 (dk_at dksX1_run_2 10 rfl rfl)
theorem dX1_run_59 : decode cX1_run 59 = .ok (.invokevirtual 258, 3) := dk_182 1 2 (dk_at dksX1_run_2 11 rfl rfl)
theorem dX1_run_62 : decode cX1_run 62 = .ok (.invokestatic 332, 3) := dk_184 1 76 (dk_at dksX1_run_2 14 rfl rfl)
theorem dX1_run_65 : decode cX1_run 65 = .ok (.ireturn, 1) := dk_172 (dk_at dksX1_run_2 17 rfl rfl)
def dkwX1_blackout_1 : List UInt8 := [180, 1, 86, 172]
abbrev dktX1_blackout_1 : List UInt8 := dkwX1_blackout_1 ++ []
def dkwX1_blackout_0 : List UInt8 := [27, 133, 10, 20, 1, 81, 184, 0, 67, 184, 0, 104, 42, 182, 1, 73, 27, 182, 1, 83, 42, 180, 0, 41]
abbrev dktX1_blackout_0 : List UInt8 := dkwX1_blackout_0 ++ dktX1_blackout_1
theorem dksX1_blackout_0 : cX1_blackout.data.toList.drop 0 = dktX1_blackout_0 := by decide +kernel
theorem dksX1_blackout_1 : cX1_blackout.data.toList.drop 24 = dktX1_blackout_1 := dk_seg dksX1_blackout_0 24 rfl rfl
theorem dX1_blackout_0 : decode cX1_blackout 0 = .ok (.iload_n 1, 1) := dk_27 (dk_at dksX1_blackout_0 0 rfl rfl)
theorem dX1_blackout_1 : decode cX1_blackout 1 = .ok (.i2l, 1) := dk_133 (dk_at dksX1_blackout_0 1 rfl rfl)
theorem dX1_blackout_2 : decode cX1_blackout 2 = .ok (.lconst 1, 1) := dk_10 (dk_at dksX1_blackout_0 2 rfl rfl)
theorem dX1_blackout_3 : decode cX1_blackout 3 = .ok (.ldc2_w 337, 3) := dk_20 1 81 (dk_at dksX1_blackout_0 3 rfl rfl)
theorem dX1_blackout_6 : decode cX1_blackout 6 = .ok (.invokestatic 67, 3) := dk_184 0 67 (dk_at dksX1_blackout_0 6 rfl rfl)
theorem dX1_blackout_9 : decode cX1_blackout 9 = .ok (.invokestatic 104, 3) := dk_184 0 104 (dk_at dksX1_blackout_0 9 rfl rfl)
theorem dX1_blackout_12 : decode cX1_blackout 12 = .ok (.aload_n 0, 1) := dk_42 (dk_at dksX1_blackout_0 12 rfl rfl)
theorem dX1_blackout_13 : decode cX1_blackout 13 = .ok (.invokevirtual 329, 3) := dk_182 1 73 (dk_at dksX1_blackout_0 13 rfl rfl)
theorem dX1_blackout_16 : decode cX1_blackout 16 = .ok (.iload_n 1, 1) := dk_27 (dk_at dksX1_blackout_0 16 rfl rfl)
theorem dX1_blackout_17 : decode cX1_blackout 17 = .ok (.invokevirtual 339, 3) := dk_182 1 83 (dk_at dksX1_blackout_0 17 rfl rfl)
theorem dX1_blackout_20 : decode cX1_blackout 20 = .ok (.aload_n 0, 1) := dk_42 (dk_at dksX1_blackout_0 20 rfl rfl)
theorem dX1_blackout_21 : decode cX1_blackout 21 = .ok (.getfield 41, 3) := dk_180 0 41 (dk_at dksX1_blackout_0 21 rfl rfl)
theorem dX1_blackout_24 : decode cX1_blackout 24 = .ok (.getfield 342, 3) := dk_180 1 86 (dk_at dksX1_blackout_1 0 rfl rfl)
theorem dX1_blackout_27 : decode cX1_blackout 27 = .ok (.ireturn, 1) := dk_172 (dk_at dksX1_blackout_1 3 rfl rfl)
def dkwX1_want_1 : List UInt8 := [28, 182, 1, 89, 21, 4, 172]
abbrev dktX1_want_1 : List UInt8 := dkwX1_want_1 ++ []
def dkwX1_want_0 : List UInt8 := [42, 27, 182, 0, 187, 78, 42, 180, 0, 41, 180, 0, 207, 27, 184, 0, 210, 54, 4, 42, 182, 1, 73, 27]
abbrev dktX1_want_0 : List UInt8 := dkwX1_want_0 ++ dktX1_want_1
theorem dksX1_want_0 : cX1_want.data.toList.drop 0 = dktX1_want_0 := by decide +kernel
theorem dksX1_want_1 : cX1_want.data.toList.drop 24 = dktX1_want_1 := dk_seg dksX1_want_0 24 rfl rfl
theorem dX1_want_0 : decode cX1_want 0 = .ok (.aload_n 0, 1) := dk_42 (dk_at dksX1_want_0 0 rfl rfl)
theorem dX1_want_1 : decode cX1_want 1 = .ok (.iload_n 1, 1) := dk_27 (dk_at dksX1_want_0 1 rfl rfl)
theorem dX1_want_2 : decode cX1_want 2 = .ok (.invokevirtual 187, 3) := dk_182 0 187 (dk_at dksX1_want_0 2 rfl rfl)
theorem dX1_want_5 : decode cX1_want 5 = .ok (.astore_n 3, 1) := dk_78 (dk_at dksX1_want_0 5 rfl rfl)
theorem dX1_want_6 : decode cX1_want 6 = .ok (.aload_n 0, 1) := dk_42 (dk_at dksX1_want_0 6 rfl rfl)
theorem dX1_want_7 : decode cX1_want 7 = .ok (.getfield 41, 3) := dk_180 0 41 (dk_at dksX1_want_0 7 rfl rfl)
theorem dX1_want_10 : decode cX1_want 10 = .ok (.getfield 207, 3) := dk_180 0 207 (dk_at dksX1_want_0 10 rfl rfl)
theorem dX1_want_13 : decode cX1_want 13 = .ok (.iload_n 1, 1) := dk_27 (dk_at dksX1_want_0 13 rfl rfl)
theorem dX1_want_14 : decode cX1_want 14 = .ok (.invokestatic 210, 3) := dk_184 0 210 (dk_at dksX1_want_0 14 rfl rfl)
theorem dX1_want_17 : decode cX1_want 17 = .ok (.istore 4, 2) := dk_54 4 (dk_at dksX1_want_0 17 rfl rfl)
theorem dX1_want_19 : decode cX1_want 19 = .ok (.aload_n 0, 1) := dk_42 (dk_at dksX1_want_0 19 rfl rfl)
theorem dX1_want_20 : decode cX1_want 20 = .ok (.invokevirtual 329, 3) := dk_182 1 73 (dk_at dksX1_want_0 20 rfl rfl)
theorem dX1_want_23 : decode cX1_want 23 = .ok (.iload_n 1, 1) := dk_27 (dk_at dksX1_want_0 23 rfl rfl)
theorem dX1_want_24 : decode cX1_want 24 = .ok (.iload_n 2, 1) := dk_28 (dk_at dksX1_want_1 0 rfl rfl)
theorem dX1_want_25 : decode cX1_want 25 = .ok (.invokevirtual 345, 3) := dk_182 1 89 (dk_at dksX1_want_1 1 rfl rfl)
theorem dX1_want_28 : decode cX1_want 28 = .ok (.iload 4, 2) := dk_21 4 (dk_at dksX1_want_1 4 rfl rfl)
theorem dX1_want_30 : decode cX1_want 30 = .ok (.ireturn, 1) := dk_172 (dk_at dksX1_want_1 6 rfl rfl)
def dkwX1_setFuse_1 : List UInt8 := [27, 181, 0, 169, 28, 172]
abbrev dktX1_setFuse_1 : List UInt8 := dkwX1_setFuse_1 ++ []
def dkwX1_setFuse_0 : List UInt8 := [27, 133, 10, 20, 1, 50, 184, 0, 67, 184, 0, 104, 42, 180, 0, 41, 180, 0, 169, 61, 42, 182, 1, 73]
abbrev dktX1_setFuse_0 : List UInt8 := dkwX1_setFuse_0 ++ dktX1_setFuse_1
theorem dksX1_setFuse_0 : cX1_setFuse.data.toList.drop 0 = dktX1_setFuse_0 := by decide +kernel
theorem dksX1_setFuse_1 : cX1_setFuse.data.toList.drop 24 = dktX1_setFuse_1 := dk_seg dksX1_setFuse_0 24 rfl rfl
theorem dX1_setFuse_0 : decode cX1_setFuse 0 = .ok (.iload_n 1, 1) := dk_27 (dk_at dksX1_setFuse_0 0 rfl rfl)
theorem dX1_setFuse_1 : decode cX1_setFuse 1 = .ok (.i2l, 1) := dk_133 (dk_at dksX1_setFuse_0 1 rfl rfl)
theorem dX1_setFuse_2 : decode cX1_setFuse 2 = .ok (.lconst 1, 1) := dk_10 (dk_at dksX1_setFuse_0 2 rfl rfl)
theorem dX1_setFuse_3 : decode cX1_setFuse 3 = .ok (.ldc2_w 306, 3) := dk_20 1 50 (dk_at dksX1_setFuse_0 3 rfl rfl)
theorem dX1_setFuse_6 : decode cX1_setFuse 6 = .ok (.invokestatic 67, 3) := dk_184 0 67 (dk_at dksX1_setFuse_0 6 rfl rfl)
theorem dX1_setFuse_9 : decode cX1_setFuse 9 = .ok (.invokestatic 104, 3) := dk_184 0 104 (dk_at dksX1_setFuse_0 9 rfl rfl)
theorem dX1_setFuse_12 : decode cX1_setFuse 12 = .ok (.aload_n 0, 1) := dk_42 (dk_at dksX1_setFuse_0 12 rfl rfl)
theorem dX1_setFuse_13 : decode cX1_setFuse 13 = .ok (.getfield 41, 3) := dk_180 0 41 (dk_at dksX1_setFuse_0 13 rfl rfl)
theorem dX1_setFuse_16 : decode cX1_setFuse 16 = .ok (.getfield 169, 3) := dk_180 0 169 (dk_at dksX1_setFuse_0 16 rfl rfl)
theorem dX1_setFuse_19 : decode cX1_setFuse 19 = .ok (.istore_n 2, 1) := dk_61 (dk_at dksX1_setFuse_0 19 rfl rfl)
theorem dX1_setFuse_20 : decode cX1_setFuse 20 = .ok (.aload_n 0, 1) := dk_42 (dk_at dksX1_setFuse_0 20 rfl rfl)
theorem dX1_setFuse_21 : decode cX1_setFuse 21 = .ok (.invokevirtual 329, 3) := dk_182 1 73 (dk_at dksX1_setFuse_0 21 rfl rfl)
theorem dX1_setFuse_24 : decode cX1_setFuse 24 = .ok (.iload_n 1, 1) := dk_27 (dk_at dksX1_setFuse_1 0 rfl rfl)
theorem dX1_setFuse_25 : decode cX1_setFuse 25 = .ok (.putfield 169, 3) := dk_181 0 169 (dk_at dksX1_setFuse_1 1 rfl rfl)
theorem dX1_setFuse_28 : decode cX1_setFuse 28 = .ok (.iload_n 2, 1) := dk_28 (dk_at dksX1_setFuse_1 4 rfl rfl)
theorem dX1_setFuse_29 : decode cX1_setFuse 29 = .ok (.ireturn, 1) := dk_172 (dk_at dksX1_setFuse_1 5 rfl rfl)
def dkwX1_setPriority_1 : List UInt8 := [180, 0, 204, 27, 46, 54, 4, 42, 182, 1, 73, 180, 0, 204, 27, 28, 79, 21, 4, 172]
abbrev dktX1_setPriority_1 : List UInt8 := dkwX1_setPriority_1 ++ []
def dkwX1_setPriority_0 : List UInt8 := [42, 27, 182, 0, 187, 78, 28, 133, 9, 20, 1, 93, 184, 0, 67, 184, 0, 104, 42, 180, 0, 41]
abbrev dktX1_setPriority_0 : List UInt8 := dkwX1_setPriority_0 ++ dktX1_setPriority_1
theorem dksX1_setPriority_0 : cX1_setPriority.data.toList.drop 0 = dktX1_setPriority_0 := by decide +kernel
theorem dksX1_setPriority_1 : cX1_setPriority.data.toList.drop 22 = dktX1_setPriority_1 := dk_seg dksX1_setPriority_0 22 rfl rfl
theorem dX1_setPriority_0 : decode cX1_setPriority 0 = .ok (.aload_n 0, 1) := dk_42 (dk_at dksX1_setPriority_0 0 rfl rfl)
theorem dX1_setPriority_1 : decode cX1_setPriority 1 = .ok (.iload_n 1, 1) := dk_27 (dk_at dksX1_setPriority_0 1 rfl rfl)
theorem dX1_setPriority_2 : decode cX1_setPriority 2 = .ok (.invokevirtual 187, 3) := dk_182 0 187 (dk_at dksX1_setPriority_0 2 rfl rfl)
theorem dX1_setPriority_5 : decode cX1_setPriority 5 = .ok (.astore_n 3, 1) := dk_78 (dk_at dksX1_setPriority_0 5 rfl rfl)
theorem dX1_setPriority_6 : decode cX1_setPriority 6 = .ok (.iload_n 2, 1) := dk_28 (dk_at dksX1_setPriority_0 6 rfl rfl)
theorem dX1_setPriority_7 : decode cX1_setPriority 7 = .ok (.i2l, 1) := dk_133 (dk_at dksX1_setPriority_0 7 rfl rfl)
theorem dX1_setPriority_8 : decode cX1_setPriority 8 = .ok (.lconst 0, 1) := dk_9 (dk_at dksX1_setPriority_0 8 rfl rfl)
theorem dX1_setPriority_9 : decode cX1_setPriority 9 = .ok (.ldc2_w 349, 3) := dk_20 1 93 (dk_at dksX1_setPriority_0 9 rfl rfl)
theorem dX1_setPriority_12 : decode cX1_setPriority 12 = .ok (.invokestatic 67, 3) := dk_184 0 67 (dk_at dksX1_setPriority_0 12 rfl rfl)
theorem dX1_setPriority_15 : decode cX1_setPriority 15 = .ok (.invokestatic 104, 3) := dk_184 0 104 (dk_at dksX1_setPriority_0 15 rfl rfl)
theorem dX1_setPriority_18 : decode cX1_setPriority 18 = .ok (.aload_n 0, 1) := dk_42 (dk_at dksX1_setPriority_0 18 rfl rfl)
theorem dX1_setPriority_19 : decode cX1_setPriority 19 = .ok (.getfield 41, 3) := dk_180 0 41 (dk_at dksX1_setPriority_0 19 rfl rfl)
theorem dX1_setPriority_22 : decode cX1_setPriority 22 = .ok (.getfield 204, 3) := dk_180 0 204 (dk_at dksX1_setPriority_1 0 rfl rfl)
theorem dX1_setPriority_25 : decode cX1_setPriority 25 = .ok (.iload_n 1, 1) := dk_27 (dk_at dksX1_setPriority_1 3 rfl rfl)
theorem dX1_setPriority_26 : decode cX1_setPriority 26 = .ok (.iaload, 1) := dk_46 (dk_at dksX1_setPriority_1 4 rfl rfl)
theorem dX1_setPriority_27 : decode cX1_setPriority 27 = .ok (.istore 4, 2) := dk_54 4 (dk_at dksX1_setPriority_1 5 rfl rfl)
theorem dX1_setPriority_29 : decode cX1_setPriority 29 = .ok (.aload_n 0, 1) := dk_42 (dk_at dksX1_setPriority_1 7 rfl rfl)
theorem dX1_setPriority_30 : decode cX1_setPriority 30 = .ok (.invokevirtual 329, 3) := dk_182 1 73 (dk_at dksX1_setPriority_1 8 rfl rfl)
theorem dX1_setPriority_33 : decode cX1_setPriority 33 = .ok (.getfield 204, 3) := dk_180 0 204 (dk_at dksX1_setPriority_1 11 rfl rfl)
theorem dX1_setPriority_36 : decode cX1_setPriority 36 = .ok (.iload_n 1, 1) := dk_27 (dk_at dksX1_setPriority_1 14 rfl rfl)
theorem dX1_setPriority_37 : decode cX1_setPriority 37 = .ok (.iload_n 2, 1) := dk_28 (dk_at dksX1_setPriority_1 15 rfl rfl)
theorem dX1_setPriority_38 : decode cX1_setPriority 38 = .ok (.iastore, 1) := dk_79 (dk_at dksX1_setPriority_1 16 rfl rfl)
theorem dX1_setPriority_39 : decode cX1_setPriority 39 = .ok (.iload 4, 2) := dk_21 4 (dk_at dksX1_setPriority_1 17 rfl rfl)
theorem dX1_setPriority_41 : decode cX1_setPriority 41 = .ok (.ireturn, 1) := dk_172 (dk_at dksX1_setPriority_1 19 rfl rfl)
def dkwX1_undo_1 : List UInt8 := [182, 1, 98, 192, 0, 29, 181, 0, 41, 42, 180, 0, 48, 182, 0, 182, 172]
abbrev dktX1_undo_1 : List UInt8 := dkwX1_undo_1 ++ []
def dkwX1_undo_0 : List UInt8 := [42, 180, 0, 48, 182, 1, 95, 154, 0, 7, 4, 167, 0, 4, 3, 184, 0, 59, 42, 42, 180, 0, 48]
abbrev dktX1_undo_0 : List UInt8 := dkwX1_undo_0 ++ dktX1_undo_1
theorem dksX1_undo_0 : cX1_undo.data.toList.drop 0 = dktX1_undo_0 := by decide +kernel
theorem dksX1_undo_1 : cX1_undo.data.toList.drop 23 = dktX1_undo_1 := dk_seg dksX1_undo_0 23 rfl rfl
theorem dX1_undo_0 : decode cX1_undo 0 = .ok (.aload_n 0, 1) := dk_42 (dk_at dksX1_undo_0 0 rfl rfl)
theorem dX1_undo_1 : decode cX1_undo 1 = .ok (.getfield 48, 3) := dk_180 0 48 (dk_at dksX1_undo_0 1 rfl rfl)
theorem dX1_undo_4 : decode cX1_undo 4 = .ok (.invokevirtual 351, 3) := dk_182 1 95 (dk_at dksX1_undo_0 4 rfl rfl)
theorem dX1_undo_7 : decode cX1_undo 7 = .ok (.ifCond .ne 7, 3) := dk_154 0 7 (dk_at dksX1_undo_0 7 rfl rfl)
theorem dX1_undo_10 : decode cX1_undo 10 = .ok (.iconst 1, 1) := dk_4 (dk_at dksX1_undo_0 10 rfl rfl)
theorem dX1_undo_11 : decode cX1_undo 11 = .ok (.goto 4, 3) := dk_167 0 4 (dk_at dksX1_undo_0 11 rfl rfl)
theorem dX1_undo_14 : decode cX1_undo 14 = .ok (.iconst 0, 1) := dk_3 (dk_at dksX1_undo_0 14 rfl rfl)
theorem dX1_undo_15 : decode cX1_undo 15 = .ok (.invokestatic 59, 3) := dk_184 0 59 (dk_at dksX1_undo_0 15 rfl rfl)
theorem dX1_undo_18 : decode cX1_undo 18 = .ok (.aload_n 0, 1) := dk_42 (dk_at dksX1_undo_0 18 rfl rfl)
theorem dX1_undo_19 : decode cX1_undo 19 = .ok (.aload_n 0, 1) := dk_42 (dk_at dksX1_undo_0 19 rfl rfl)
theorem dX1_undo_20 : decode cX1_undo 20 = .ok (.getfield 48, 3) := dk_180 0 48 (dk_at dksX1_undo_0 20 rfl rfl)
theorem dX1_undo_23 : decode cX1_undo 23 = .ok (.invokevirtual 354, 3) := dk_182 1 98 (dk_at dksX1_undo_1 0 rfl rfl)
theorem dX1_undo_26 : decode cX1_undo 26 = .ok (.checkcast 29, 3) := dk_192 0 29 (dk_at dksX1_undo_1 3 rfl rfl)
theorem dX1_undo_29 : decode cX1_undo 29 = .ok (.putfield 41, 3) := dk_181 0 41 (dk_at dksX1_undo_1 6 rfl rfl)
theorem dX1_undo_32 : decode cX1_undo 32 = .ok (.aload_n 0, 1) := dk_42 (dk_at dksX1_undo_1 9 rfl rfl)
theorem dX1_undo_33 : decode cX1_undo 33 = .ok (.getfield 48, 3) := dk_180 0 48 (dk_at dksX1_undo_1 10 rfl rfl)
theorem dX1_undo_36 : decode cX1_undo 36 = .ok (.invokevirtual 182, 3) := dk_182 0 182 (dk_at dksX1_undo_1 13 rfl rfl)
theorem dX1_undo_39 : decode cX1_undo 39 = .ok (.ireturn, 1) := dk_172 (dk_at dksX1_undo_1 16 rfl rfl)
def dkwX1_save_0 : List UInt8 := [27, 184, 1, 101, 42, 180, 0, 52, 27, 42, 180, 0, 41, 182, 1, 35, 83, 177]
abbrev dktX1_save_0 : List UInt8 := dkwX1_save_0 ++ []
theorem dksX1_save_0 : cX1_save.data.toList.drop 0 = dktX1_save_0 := by decide +kernel
theorem dX1_save_0 : decode cX1_save 0 = .ok (.iload_n 1, 1) := dk_27 (dk_at dksX1_save_0 0 rfl rfl)
theorem dX1_save_1 : decode cX1_save 1 = .ok (.invokestatic 357, 3) := dk_184 1 101 (dk_at dksX1_save_0 1 rfl rfl)
theorem dX1_save_4 : decode cX1_save 4 = .ok (.aload_n 0, 1) := dk_42 (dk_at dksX1_save_0 4 rfl rfl)
theorem dX1_save_5 : decode cX1_save 5 = .ok (.getfield 52, 3) := dk_180 0 52 (dk_at dksX1_save_0 5 rfl rfl)
theorem dX1_save_8 : decode cX1_save 8 = .ok (.iload_n 1, 1) := dk_27 (dk_at dksX1_save_0 8 rfl rfl)
theorem dX1_save_9 : decode cX1_save 9 = .ok (.aload_n 0, 1) := dk_42 (dk_at dksX1_save_0 9 rfl rfl)
theorem dX1_save_10 : decode cX1_save 10 = .ok (.getfield 41, 3) := dk_180 0 41 (dk_at dksX1_save_0 10 rfl rfl)
theorem dX1_save_13 : decode cX1_save 13 = .ok (.invokevirtual 291, 3) := dk_182 1 35 (dk_at dksX1_save_0 13 rfl rfl)
theorem dX1_save_16 : decode cX1_save 16 = .ok (.aastore, 1) := dk_83 (dk_at dksX1_save_0 16 rfl rfl)
theorem dX1_save_17 : decode cX1_save 17 = .ok (.return_, 1) := dk_177 (dk_at dksX1_save_0 17 rfl rfl)
def dkwX1_checkSlot_0 : List UInt8 := [26, 133, 9, 10, 184, 0, 67, 184, 0, 71, 177]
abbrev dktX1_checkSlot_0 : List UInt8 := dkwX1_checkSlot_0 ++ []
theorem dksX1_checkSlot_0 : cX1_checkSlot.data.toList.drop 0 = dktX1_checkSlot_0 := by decide +kernel
theorem dX1_checkSlot_0 : decode cX1_checkSlot 0 = .ok (.iload_n 0, 1) := dk_26 (dk_at dksX1_checkSlot_0 0 rfl rfl)
theorem dX1_checkSlot_1 : decode cX1_checkSlot 1 = .ok (.i2l, 1) := dk_133 (dk_at dksX1_checkSlot_0 1 rfl rfl)
theorem dX1_checkSlot_2 : decode cX1_checkSlot 2 = .ok (.lconst 0, 1) := dk_9 (dk_at dksX1_checkSlot_0 2 rfl rfl)
theorem dX1_checkSlot_3 : decode cX1_checkSlot 3 = .ok (.lconst 1, 1) := dk_10 (dk_at dksX1_checkSlot_0 3 rfl rfl)
theorem dX1_checkSlot_4 : decode cX1_checkSlot 4 = .ok (.invokestatic 67, 3) := dk_184 0 67 (dk_at dksX1_checkSlot_0 4 rfl rfl)
theorem dX1_checkSlot_7 : decode cX1_checkSlot 7 = .ok (.invokestatic 71, 3) := dk_184 0 71 (dk_at dksX1_checkSlot_0 7 rfl rfl)
theorem dX1_checkSlot_10 : decode cX1_checkSlot 10 = .ok (.return_, 1) := dk_177 (dk_at dksX1_checkSlot_0 10 rfl rfl)
def dkwX1_restore_1 : List UInt8 := [180, 0, 52, 27, 50, 182, 1, 35, 181, 0, 41, 42, 180, 0, 48, 182, 0, 86, 177]
abbrev dktX1_restore_1 : List UInt8 := dkwX1_restore_1 ++ []
def dkwX1_restore_0 : List UInt8 := [27, 184, 1, 101, 42, 180, 0, 52, 27, 50, 198, 0, 7, 4, 167, 0, 4, 3, 184, 0, 130, 42, 42]
abbrev dktX1_restore_0 : List UInt8 := dkwX1_restore_0 ++ dktX1_restore_1
theorem dksX1_restore_0 : cX1_restore.data.toList.drop 0 = dktX1_restore_0 := by decide +kernel
theorem dksX1_restore_1 : cX1_restore.data.toList.drop 23 = dktX1_restore_1 := dk_seg dksX1_restore_0 23 rfl rfl
theorem dX1_restore_0 : decode cX1_restore 0 = .ok (.iload_n 1, 1) := dk_27 (dk_at dksX1_restore_0 0 rfl rfl)
theorem dX1_restore_1 : decode cX1_restore 1 = .ok (.invokestatic 357, 3) := dk_184 1 101 (dk_at dksX1_restore_0 1 rfl rfl)
theorem dX1_restore_4 : decode cX1_restore 4 = .ok (.aload_n 0, 1) := dk_42 (dk_at dksX1_restore_0 4 rfl rfl)
theorem dX1_restore_5 : decode cX1_restore 5 = .ok (.getfield 52, 3) := dk_180 0 52 (dk_at dksX1_restore_0 5 rfl rfl)
theorem dX1_restore_8 : decode cX1_restore 8 = .ok (.iload_n 1, 1) := dk_27 (dk_at dksX1_restore_0 8 rfl rfl)
theorem dX1_restore_9 : decode cX1_restore 9 = .ok (.aaload, 1) := dk_50 (dk_at dksX1_restore_0 9 rfl rfl)
theorem dX1_restore_10 : decode cX1_restore 10 = .ok (.ifnull 7, 3) := dk_198 0 7 (dk_at dksX1_restore_0 10 rfl rfl)
theorem dX1_restore_13 : decode cX1_restore 13 = .ok (.iconst 1, 1) := dk_4 (dk_at dksX1_restore_0 13 rfl rfl)
theorem dX1_restore_14 : decode cX1_restore 14 = .ok (.goto 4, 3) := dk_167 0 4 (dk_at dksX1_restore_0 14 rfl rfl)
theorem dX1_restore_17 : decode cX1_restore 17 = .ok (.iconst 0, 1) := dk_3 (dk_at dksX1_restore_0 17 rfl rfl)
theorem dX1_restore_18 : decode cX1_restore 18 = .ok (.invokestatic 130, 3) := dk_184 0 130 (dk_at dksX1_restore_0 18 rfl rfl)
theorem dX1_restore_21 : decode cX1_restore 21 = .ok (.aload_n 0, 1) := dk_42 (dk_at dksX1_restore_0 21 rfl rfl)
theorem dX1_restore_22 : decode cX1_restore 22 = .ok (.aload_n 0, 1) := dk_42 (dk_at dksX1_restore_0 22 rfl rfl)
theorem dX1_restore_23 : decode cX1_restore 23 = .ok (.getfield 52, 3) := dk_180 0 52 (dk_at dksX1_restore_1 0 rfl rfl)
theorem dX1_restore_26 : decode cX1_restore 26 = .ok (.iload_n 1, 1) := dk_27 (dk_at dksX1_restore_1 3 rfl rfl)
theorem dX1_restore_27 : decode cX1_restore 27 = .ok (.aaload, 1) := dk_50 (dk_at dksX1_restore_1 4 rfl rfl)
theorem dX1_restore_28 : decode cX1_restore 28 = .ok (.invokevirtual 291, 3) := dk_182 1 35 (dk_at dksX1_restore_1 5 rfl rfl)
theorem dX1_restore_31 : decode cX1_restore 31 = .ok (.putfield 41, 3) := dk_181 0 41 (dk_at dksX1_restore_1 8 rfl rfl)
theorem dX1_restore_34 : decode cX1_restore 34 = .ok (.aload_n 0, 1) := dk_42 (dk_at dksX1_restore_1 11 rfl rfl)
theorem dX1_restore_35 : decode cX1_restore 35 = .ok (.getfield 48, 3) := dk_180 0 48 (dk_at dksX1_restore_1 12 rfl rfl)
theorem dX1_restore_38 : decode cX1_restore 38 = .ok (.invokevirtual 86, 3) := dk_182 0 86 (dk_at dksX1_restore_1 15 rfl rfl)
theorem dX1_restore_41 : decode cX1_restore 41 = .ok (.return_, 1) := dk_177 (dk_at dksX1_restore_1 18 rfl rfl)
def dkwX2_init_5 : List UInt8 := [181, 0, 63, 177]
abbrev dktX2_init_5 : List UInt8 := dkwX2_init_5 ++ []
def dkwX2_init_4 : List UInt8 := [188, 10, 181, 0, 46, 42, 43, 181, 0, 49, 42, 187, 0, 53, 89, 43, 180, 0, 55, 183, 0, 60]
abbrev dktX2_init_4 : List UInt8 := dkwX2_init_4 ++ dktX2_init_5
def dkwX2_init_3 : List UInt8 := [187, 0, 36, 89, 183, 0, 38, 181, 0, 39, 42, 187, 0, 36, 89, 183, 0, 38, 181, 0, 43, 42, 16, 72]
abbrev dktX2_init_3 : List UInt8 := dkwX2_init_3 ++ dktX2_init_4
def dkwX2_init_2 : List UInt8 := [188, 10, 181, 0, 27, 42, 16, 12, 188, 10, 181, 0, 30, 42, 16, 12, 188, 10, 181, 0, 33, 42]
abbrev dktX2_init_2 : List UInt8 := dkwX2_init_2 ++ dktX2_init_3
def dkwX2_init_1 : List UInt8 := [188, 10, 181, 0, 18, 42, 16, 12, 188, 10, 181, 0, 21, 42, 16, 12, 188, 10, 181, 0, 24, 42, 16, 12]
abbrev dktX2_init_1 : List UInt8 := dkwX2_init_1 ++ dktX2_init_2
def dkwX2_init_0 : List UInt8 := [42, 183, 0, 3, 42, 16, 12, 188, 10, 181, 0, 9, 42, 16, 12, 188, 10, 181, 0, 15, 42, 16, 12]
abbrev dktX2_init_0 : List UInt8 := dkwX2_init_0 ++ dktX2_init_1
theorem dksX2_init_0 : cX2_init.data.toList.drop 0 = dktX2_init_0 := by decide +kernel
theorem dksX2_init_1 : cX2_init.data.toList.drop 23 = dktX2_init_1 := dk_seg dksX2_init_0 23 rfl rfl
theorem dksX2_init_2 : cX2_init.data.toList.drop 47 = dktX2_init_2 := dk_seg dksX2_init_1 24 rfl rfl
theorem dksX2_init_3 : cX2_init.data.toList.drop 69 = dktX2_init_3 := dk_seg dksX2_init_2 22 rfl rfl
theorem dksX2_init_4 : cX2_init.data.toList.drop 93 = dktX2_init_4 := dk_seg dksX2_init_3 24 rfl rfl
theorem dksX2_init_5 : cX2_init.data.toList.drop 115 = dktX2_init_5 := dk_seg dksX2_init_4 22 rfl rfl
theorem dX2_init_0 : decode cX2_init 0 = .ok (.aload_n 0, 1) := dk_42 (dk_at dksX2_init_0 0 rfl rfl)
theorem dX2_init_1 : decode cX2_init 1 = .ok (.invokespecial 3, 3) := dk_183 0 3 (dk_at dksX2_init_0 1 rfl rfl)
theorem dX2_init_4 : decode cX2_init 4 = .ok (.aload_n 0, 1) := dk_42 (dk_at dksX2_init_0 4 rfl rfl)
theorem dX2_init_5 : decode cX2_init 5 = .ok (.bipush 12, 2) := dk_16 12 (dk_at dksX2_init_0 5 rfl rfl)
theorem dX2_init_7 : decode cX2_init 7 = .ok (.newarray .int, 2) := dk_188_10 (dk_at dksX2_init_0 7 rfl rfl)
theorem dX2_init_9 : decode cX2_init 9 = .ok (.putfield 9, 3) := dk_181 0 9 (dk_at dksX2_init_0 9 rfl rfl)
theorem dX2_init_12 : decode cX2_init 12 = .ok (.aload_n 0, 1) := dk_42 (dk_at dksX2_init_0 12 rfl rfl)
theorem dX2_init_13 : decode cX2_init 13 = .ok (.bipush 12, 2) := dk_16 12 (dk_at dksX2_init_0 13 rfl rfl)
theorem dX2_init_15 : decode cX2_init 15 = .ok (.newarray .int, 2) := dk_188_10 (dk_at dksX2_init_0 15 rfl rfl)
theorem dX2_init_17 : decode cX2_init 17 = .ok (.putfield 15, 3) := dk_181 0 15 (dk_at dksX2_init_0 17 rfl rfl)
theorem dX2_init_20 : decode cX2_init 20 = .ok (.aload_n 0, 1) := dk_42 (dk_at dksX2_init_0 20 rfl rfl)
theorem dX2_init_21 : decode cX2_init 21 = .ok (.bipush 12, 2) := dk_16 12 (dk_at dksX2_init_0 21 rfl rfl)
theorem dX2_init_23 : decode cX2_init 23 = .ok (.newarray .int, 2) := dk_188_10 (dk_at dksX2_init_1 0 rfl rfl)
theorem dX2_init_25 : decode cX2_init 25 = .ok (.putfield 18, 3) := dk_181 0 18 (dk_at dksX2_init_1 2 rfl rfl)
theorem dX2_init_28 : decode cX2_init 28 = .ok (.aload_n 0, 1) := dk_42 (dk_at dksX2_init_1 5 rfl rfl)
theorem dX2_init_29 : decode cX2_init 29 = .ok (.bipush 12, 2) := dk_16 12 (dk_at dksX2_init_1 6 rfl rfl)
theorem dX2_init_31 : decode cX2_init 31 = .ok (.newarray .int, 2) := dk_188_10 (dk_at dksX2_init_1 8 rfl rfl)
theorem dX2_init_33 : decode cX2_init 33 = .ok (.putfield 21, 3) := dk_181 0 21 (dk_at dksX2_init_1 10 rfl rfl)
theorem dX2_init_36 : decode cX2_init 36 = .ok (.aload_n 0, 1) := dk_42 (dk_at dksX2_init_1 13 rfl rfl)
theorem dX2_init_37 : decode cX2_init 37 = .ok (.bipush 12, 2) := dk_16 12 (dk_at dksX2_init_1 14 rfl rfl)
theorem dX2_init_39 : decode cX2_init 39 = .ok (.newarray .int, 2) := dk_188_10 (dk_at dksX2_init_1 16 rfl rfl)
theorem dX2_init_41 : decode cX2_init 41 = .ok (.putfield 24, 3) := dk_181 0 24 (dk_at dksX2_init_1 18 rfl rfl)
theorem dX2_init_44 : decode cX2_init 44 = .ok (.aload_n 0, 1) := dk_42 (dk_at dksX2_init_1 21 rfl rfl)
theorem dX2_init_45 : decode cX2_init 45 = .ok (.bipush 12, 2) := dk_16 12 (dk_at dksX2_init_1 22 rfl rfl)
theorem dX2_init_47 : decode cX2_init 47 = .ok (.newarray .int, 2) := dk_188_10 (dk_at dksX2_init_2 0 rfl rfl)
theorem dX2_init_49 : decode cX2_init 49 = .ok (.putfield 27, 3) := dk_181 0 27 (dk_at dksX2_init_2 2 rfl rfl)
theorem dX2_init_52 : decode cX2_init 52 = .ok (.aload_n 0, 1) := dk_42 (dk_at dksX2_init_2 5 rfl rfl)
theorem dX2_init_53 : decode cX2_init 53 = .ok (.bipush 12, 2) := dk_16 12 (dk_at dksX2_init_2 6 rfl rfl)
theorem dX2_init_55 : decode cX2_init 55 = .ok (.newarray .int, 2) := dk_188_10 (dk_at dksX2_init_2 8 rfl rfl)
theorem dX2_init_57 : decode cX2_init 57 = .ok (.putfield 30, 3) := dk_181 0 30 (dk_at dksX2_init_2 10 rfl rfl)
theorem dX2_init_60 : decode cX2_init 60 = .ok (.aload_n 0, 1) := dk_42 (dk_at dksX2_init_2 13 rfl rfl)
theorem dX2_init_61 : decode cX2_init 61 = .ok (.bipush 12, 2) := dk_16 12 (dk_at dksX2_init_2 14 rfl rfl)
theorem dX2_init_63 : decode cX2_init 63 = .ok (.newarray .int, 2) := dk_188_10 (dk_at dksX2_init_2 16 rfl rfl)
theorem dX2_init_65 : decode cX2_init 65 = .ok (.putfield 33, 3) := dk_181 0 33 (dk_at dksX2_init_2 18 rfl rfl)
theorem dX2_init_68 : decode cX2_init 68 = .ok (.aload_n 0, 1) := dk_42 (dk_at dksX2_init_2 21 rfl rfl)
theorem dX2_init_69 : decode cX2_init 69 = .ok (.new 36, 3) := dk_187 0 36 (dk_at dksX2_init_3 0 rfl rfl)
theorem dX2_init_72 : decode cX2_init 72 = .ok (.dup, 1) := dk_89 (dk_at dksX2_init_3 3 rfl rfl)
theorem dX2_init_73 : decode cX2_init 73 = .ok (.invokespecial 38, 3) := dk_183 0 38 (dk_at dksX2_init_3 4 rfl rfl)
theorem dX2_init_76 : decode cX2_init 76 = .ok (.putfield 39, 3) := dk_181 0 39 (dk_at dksX2_init_3 7 rfl rfl)
theorem dX2_init_79 : decode cX2_init 79 = .ok (.aload_n 0, 1) := dk_42 (dk_at dksX2_init_3 10 rfl rfl)
theorem dX2_init_80 : decode cX2_init 80 = .ok (.new 36, 3) := dk_187 0 36 (dk_at dksX2_init_3 11 rfl rfl)
theorem dX2_init_83 : decode cX2_init 83 = .ok (.dup, 1) := dk_89 (dk_at dksX2_init_3 14 rfl rfl)
theorem dX2_init_84 : decode cX2_init 84 = .ok (.invokespecial 38, 3) := dk_183 0 38 (dk_at dksX2_init_3 15 rfl rfl)
theorem dX2_init_87 : decode cX2_init 87 = .ok (.putfield 43, 3) := dk_181 0 43 (dk_at dksX2_init_3 18 rfl rfl)
theorem dX2_init_90 : decode cX2_init 90 = .ok (.aload_n 0, 1) := dk_42 (dk_at dksX2_init_3 21 rfl rfl)
theorem dX2_init_91 : decode cX2_init 91 = .ok (.bipush 72, 2) := dk_16 72 (dk_at dksX2_init_3 22 rfl rfl)
theorem dX2_init_93 : decode cX2_init 93 = .ok (.newarray .int, 2) := dk_188_10 (dk_at dksX2_init_4 0 rfl rfl)
theorem dX2_init_95 : decode cX2_init 95 = .ok (.putfield 46, 3) := dk_181 0 46 (dk_at dksX2_init_4 2 rfl rfl)
theorem dX2_init_98 : decode cX2_init 98 = .ok (.aload_n 0, 1) := dk_42 (dk_at dksX2_init_4 5 rfl rfl)
theorem dX2_init_99 : decode cX2_init 99 = .ok (.aload_n 1, 1) := dk_43 (dk_at dksX2_init_4 6 rfl rfl)
theorem dX2_init_100 : decode cX2_init 100 = .ok (.putfield 49, 3) := dk_181 0 49 (dk_at dksX2_init_4 7 rfl rfl)
theorem dX2_init_103 : decode cX2_init 103 = .ok (.aload_n 0, 1) := dk_42 (dk_at dksX2_init_4 10 rfl rfl)
theorem dX2_init_104 : decode cX2_init 104 = .ok (.new 53, 3) := dk_187 0 53 (dk_at dksX2_init_4 11 rfl rfl)
theorem dX2_init_107 : decode cX2_init 107 = .ok (.dup, 1) := dk_89 (dk_at dksX2_init_4 14 rfl rfl)
theorem dX2_init_108 : decode cX2_init 108 = .ok (.aload_n 1, 1) := dk_43 (dk_at dksX2_init_4 15 rfl rfl)
theorem dX2_init_109 : decode cX2_init 109 = .ok (.getfield 55, 3) := dk_180 0 55 (dk_at dksX2_init_4 16 rfl rfl)
theorem dX2_init_112 : decode cX2_init 112 = .ok (.invokespecial 60, 3) := dk_183 0 60 (dk_at dksX2_init_4 19 rfl rfl)
theorem dX2_init_115 : decode cX2_init 115 = .ok (.putfield 63, 3) := dk_181 0 63 (dk_at dksX2_init_5 0 rfl rfl)
theorem dX2_init_118 : decode cX2_init 118 = .ok (.return_, 1) := dk_177 (dk_at dksX2_init_5 3 rfl rfl)
def dkwX2_begin_6 : List UInt8 := [132, 1, 1, 167, 255, 171, 42, 176]
abbrev dktX2_begin_6 : List UInt8 := dkwX2_begin_6 ++ []
def dkwX2_begin_5 : List UInt8 := [42, 180, 0, 49, 180, 0, 95, 27, 185, 0, 99, 2, 0, 192, 0, 105, 180, 0, 107, 167, 0, 4, 3, 79]
abbrev dktX2_begin_5 : List UInt8 := dkwX2_begin_5 ++ dktX2_begin_6
def dkwX2_begin_4 : List UInt8 := [79, 42, 180, 0, 24, 27, 2, 79, 42, 180, 0, 33, 27, 27, 42, 180, 0, 49, 182, 0, 81, 162, 0, 25]
abbrev dktX2_begin_4 : List UInt8 := dkwX2_begin_4 ++ dktX2_begin_5
def dkwX2_begin_3 : List UInt8 := [27, 42, 180, 0, 88, 27, 184, 0, 91, 153, 0, 7, 4, 167, 0, 4, 3, 79, 42, 180, 0, 21, 27, 2]
abbrev dktX2_begin_3 : List UInt8 := dkwX2_begin_3 ++ dktX2_begin_4
def dkwX2_begin_2 : List UInt8 := [180, 0, 49, 180, 0, 85, 2, 130, 126, 181, 0, 88, 3, 60, 27, 16, 12, 162, 0, 85, 42, 180, 0, 9]
abbrev dktX2_begin_2 : List UInt8 := dkwX2_begin_2 ++ dktX2_begin_3
def dkwX2_begin_1 : List UInt8 := [180, 0, 49, 180, 0, 76, 181, 0, 80, 42, 4, 42, 180, 0, 49, 182, 0, 81, 120, 4, 100, 42]
abbrev dktX2_begin_1 : List UInt8 := dkwX2_begin_1 ++ dktX2_begin_2
def dkwX2_begin_0 : List UInt8 := [42, 42, 180, 0, 49, 180, 0, 67, 181, 0, 71, 42, 42, 180, 0, 49, 180, 0, 72, 181, 0, 75, 42, 42]
abbrev dktX2_begin_0 : List UInt8 := dkwX2_begin_0 ++ dktX2_begin_1
theorem dksX2_begin_0 : cX2_begin.data.toList.drop 0 = dktX2_begin_0 := by decide +kernel
theorem dksX2_begin_1 : cX2_begin.data.toList.drop 24 = dktX2_begin_1 := dk_seg dksX2_begin_0 24 rfl rfl
theorem dksX2_begin_2 : cX2_begin.data.toList.drop 46 = dktX2_begin_2 := dk_seg dksX2_begin_1 22 rfl rfl
theorem dksX2_begin_3 : cX2_begin.data.toList.drop 70 = dktX2_begin_3 := dk_seg dksX2_begin_2 24 rfl rfl
theorem dksX2_begin_4 : cX2_begin.data.toList.drop 94 = dktX2_begin_4 := dk_seg dksX2_begin_3 24 rfl rfl
theorem dksX2_begin_5 : cX2_begin.data.toList.drop 118 = dktX2_begin_5 := dk_seg dksX2_begin_4 24 rfl rfl
theorem dksX2_begin_6 : cX2_begin.data.toList.drop 142 = dktX2_begin_6 := dk_seg dksX2_begin_5 24 rfl rfl
theorem dX2_begin_0 : decode cX2_begin 0 = .ok (.aload_n 0, 1) := dk_42 (dk_at dksX2_begin_0 0 rfl rfl)
theorem dX2_begin_1 : decode cX2_begin 1 = .ok (.aload_n 0, 1) := dk_42 (dk_at dksX2_begin_0 1 rfl rfl)
theorem dX2_begin_2 : decode cX2_begin 2 = .ok (.getfield 49, 3) := dk_180 0 49 (dk_at dksX2_begin_0 2 rfl rfl)
theorem dX2_begin_5 : decode cX2_begin 5 = .ok (.getfield 67, 3) := dk_180 0 67 (dk_at dksX2_begin_0 5 rfl rfl)
theorem dX2_begin_8 : decode cX2_begin 8 = .ok (.putfield 71, 3) := dk_181 0 71 (dk_at dksX2_begin_0 8 rfl rfl)
theorem dX2_begin_11 : decode cX2_begin 11 = .ok (.aload_n 0, 1) := dk_42 (dk_at dksX2_begin_0 11 rfl rfl)
theorem dX2_begin_12 : decode cX2_begin 12 = .ok (.aload_n 0, 1) := dk_42 (dk_at dksX2_begin_0 12 rfl rfl)
theorem dX2_begin_13 : decode cX2_begin 13 = .ok (.getfield 49, 3) := dk_180 0 49 (dk_at dksX2_begin_0 13 rfl rfl)
theorem dX2_begin_16 : decode cX2_begin 16 = .ok (.getfield 72, 3) := dk_180 0 72 (dk_at dksX2_begin_0 16 rfl rfl)
theorem dX2_begin_19 : decode cX2_begin 19 = .ok (.putfield 75, 3) := dk_181 0 75 (dk_at dksX2_begin_0 19 rfl rfl)
theorem dX2_begin_22 : decode cX2_begin 22 = .ok (.aload_n 0, 1) := dk_42 (dk_at dksX2_begin_0 22 rfl rfl)
theorem dX2_begin_23 : decode cX2_begin 23 = .ok (.aload_n 0, 1) := dk_42 (dk_at dksX2_begin_0 23 rfl rfl)
theorem dX2_begin_24 : decode cX2_begin 24 = .ok (.getfield 49, 3) := dk_180 0 49 (dk_at dksX2_begin_1 0 rfl rfl)
theorem dX2_begin_27 : decode cX2_begin 27 = .ok (.getfield 76, 3) := dk_180 0 76 (dk_at dksX2_begin_1 3 rfl rfl)
theorem dX2_begin_30 : decode cX2_begin 30 = .ok (.putfield 80, 3) := dk_181 0 80 (dk_at dksX2_begin_1 6 rfl rfl)
theorem dX2_begin_33 : decode cX2_begin 33 = .ok (.aload_n 0, 1) := dk_42 (dk_at dksX2_begin_1 9 rfl rfl)
theorem dX2_begin_34 : decode cX2_begin 34 = .ok (.iconst 1, 1) := dk_4 (dk_at dksX2_begin_1 10 rfl rfl)
theorem dX2_begin_35 : decode cX2_begin 35 = .ok (.aload_n 0, 1) := dk_42 (dk_at dksX2_begin_1 11 rfl rfl)
theorem dX2_begin_36 : decode cX2_begin 36 = .ok (.getfield 49, 3) := dk_180 0 49 (dk_at dksX2_begin_1 12 rfl rfl)
theorem dX2_begin_39 : decode cX2_begin 39 = .ok (.invokevirtual 81, 3) := dk_182 0 81 (dk_at dksX2_begin_1 15 rfl rfl)
theorem dX2_begin_42 : decode cX2_begin 42 = .ok (.ishl, 1) := dk_120 (dk_at dksX2_begin_1 18 rfl rfl)
theorem dX2_begin_43 : decode cX2_begin 43 = .ok (.iconst 1, 1) := dk_4 (dk_at dksX2_begin_1 19 rfl rfl)
theorem dX2_begin_44 : decode cX2_begin 44 = .ok (.isub, 1) := dk_100 (dk_at dksX2_begin_1 20 rfl rfl)
theorem dX2_begin_45 : decode cX2_begin 45 = .ok (.aload_n 0, 1) := dk_42 (dk_at dksX2_begin_1 21 rfl rfl)
theorem dX2_begin_46 : decode cX2_begin 46 = .ok (.getfield 49, 3) := dk_180 0 49 (dk_at dksX2_begin_2 0 rfl rfl)
theorem dX2_begin_49 : decode cX2_begin 49 = .ok (.getfield 85, 3) := dk_180 0 85 (dk_at dksX2_begin_2 3 rfl rfl)
theorem dX2_begin_52 : decode cX2_begin 52 = .ok (.iconst (-1), 1) := dk_2 (dk_at dksX2_begin_2 6 rfl rfl)
theorem dX2_begin_53 : decode cX2_begin 53 = .ok (.ixor, 1) := dk_130 (dk_at dksX2_begin_2 7 rfl rfl)
theorem dX2_begin_54 : decode cX2_begin 54 = .ok (.iand, 1) := dk_126 (dk_at dksX2_begin_2 8 rfl rfl)
theorem dX2_begin_55 : decode cX2_begin 55 = .ok (.putfield 88, 3) := dk_181 0 88 (dk_at dksX2_begin_2 9 rfl rfl)
theorem dX2_begin_58 : decode cX2_begin 58 = .ok (.iconst 0, 1) := dk_3 (dk_at dksX2_begin_2 12 rfl rfl)
theorem dX2_begin_59 : decode cX2_begin 59 = .ok (.istore_n 1, 1) := dk_60 (dk_at dksX2_begin_2 13 rfl rfl)
theorem dX2_begin_60 : decode cX2_begin 60 = .ok (.iload_n 1, 1) := dk_27 (dk_at dksX2_begin_2 14 rfl rfl)
theorem dX2_begin_61 : decode cX2_begin 61 = .ok (.bipush 12, 2) := dk_16 12 (dk_at dksX2_begin_2 15 rfl rfl)
theorem dX2_begin_63 : decode cX2_begin 63 = .ok (.if_icmp .ge 85, 3) := dk_162 0 85 (dk_at dksX2_begin_2 17 rfl rfl)
theorem dX2_begin_66 : decode cX2_begin 66 = .ok (.aload_n 0, 1) := dk_42 (dk_at dksX2_begin_2 20 rfl rfl)
theorem dX2_begin_67 : decode cX2_begin 67 = .ok (.getfield 9, 3) := dk_180 0 9 (dk_at dksX2_begin_2 21 rfl rfl)
theorem dX2_begin_70 : decode cX2_begin 70 = .ok (.iload_n 1, 1) := dk_27 (dk_at dksX2_begin_3 0 rfl rfl)
theorem dX2_begin_71 : decode cX2_begin 71 = .ok (.aload_n 0, 1) := dk_42 (dk_at dksX2_begin_3 1 rfl rfl)
theorem dX2_begin_72 : decode cX2_begin 72 = .ok (.getfield 88, 3) := dk_180 0 88 (dk_at dksX2_begin_3 2 rfl rfl)
theorem dX2_begin_75 : decode cX2_begin 75 = .ok (.iload_n 1, 1) := dk_27 (dk_at dksX2_begin_3 5 rfl rfl)
theorem dX2_begin_76 : decode cX2_begin 76 = .ok (.invokestatic 91, 3) := dk_184 0 91 (dk_at dksX2_begin_3 6 rfl rfl)
theorem dX2_begin_79 : decode cX2_begin 79 = .ok (.ifCond .eq 7, 3) := dk_153 0 7 (dk_at dksX2_begin_3 9 rfl rfl)
theorem dX2_begin_82 : decode cX2_begin 82 = .ok (.iconst 1, 1) := dk_4 (dk_at dksX2_begin_3 12 rfl rfl)
theorem dX2_begin_83 : decode cX2_begin 83 = .ok (.goto 4, 3) := dk_167 0 4 (dk_at dksX2_begin_3 13 rfl rfl)
theorem dX2_begin_86 : decode cX2_begin 86 = .ok (.iconst 0, 1) := dk_3 (dk_at dksX2_begin_3 16 rfl rfl)
theorem dX2_begin_87 : decode cX2_begin 87 = .ok (.iastore, 1) := dk_79 (dk_at dksX2_begin_3 17 rfl rfl)
theorem dX2_begin_88 : decode cX2_begin 88 = .ok (.aload_n 0, 1) := dk_42 (dk_at dksX2_begin_3 18 rfl rfl)
theorem dX2_begin_89 : decode cX2_begin 89 = .ok (.getfield 21, 3) := dk_180 0 21 (dk_at dksX2_begin_3 19 rfl rfl)
theorem dX2_begin_92 : decode cX2_begin 92 = .ok (.iload_n 1, 1) := dk_27 (dk_at dksX2_begin_3 22 rfl rfl)
theorem dX2_begin_93 : decode cX2_begin 93 = .ok (.iconst (-1), 1) := dk_2 (dk_at dksX2_begin_3 23 rfl rfl)
theorem dX2_begin_94 : decode cX2_begin 94 = .ok (.iastore, 1) := dk_79 (dk_at dksX2_begin_4 0 rfl rfl)
theorem dX2_begin_95 : decode cX2_begin 95 = .ok (.aload_n 0, 1) := dk_42 (dk_at dksX2_begin_4 1 rfl rfl)
theorem dX2_begin_96 : decode cX2_begin 96 = .ok (.getfield 24, 3) := dk_180 0 24 (dk_at dksX2_begin_4 2 rfl rfl)
theorem dX2_begin_99 : decode cX2_begin 99 = .ok (.iload_n 1, 1) := dk_27 (dk_at dksX2_begin_4 5 rfl rfl)
theorem dX2_begin_100 : decode cX2_begin 100 = .ok (.iconst (-1), 1) := dk_2 (dk_at dksX2_begin_4 6 rfl rfl)
theorem dX2_begin_101 : decode cX2_begin 101 = .ok (.iastore, 1) := dk_79 (dk_at dksX2_begin_4 7 rfl rfl)
theorem dX2_begin_102 : decode cX2_begin 102 = .ok (.aload_n 0, 1) := dk_42 (dk_at dksX2_begin_4 8 rfl rfl)
theorem dX2_begin_103 : decode cX2_begin 103 = .ok (.getfield 33, 3) := dk_180 0 33 (dk_at dksX2_begin_4 9 rfl rfl)
theorem dX2_begin_106 : decode cX2_begin 106 = .ok (.iload_n 1, 1) := dk_27 (dk_at dksX2_begin_4 12 rfl rfl)
theorem dX2_begin_107 : decode cX2_begin 107 = .ok (.iload_n 1, 1) := dk_27 (dk_at dksX2_begin_4 13 rfl rfl)
theorem dX2_begin_108 : decode cX2_begin 108 = .ok (.aload_n 0, 1) := dk_42 (dk_at dksX2_begin_4 14 rfl rfl)
theorem dX2_begin_109 : decode cX2_begin 109 = .ok (.getfield 49, 3) := dk_180 0 49 (dk_at dksX2_begin_4 15 rfl rfl)
theorem dX2_begin_112 : decode cX2_begin 112 = .ok (.invokevirtual 81, 3) := dk_182 0 81 (dk_at dksX2_begin_4 18 rfl rfl)
theorem dX2_begin_115 : decode cX2_begin 115 = .ok (.if_icmp .ge 25, 3) := dk_162 0 25 (dk_at dksX2_begin_4 21 rfl rfl)
theorem dX2_begin_118 : decode cX2_begin 118 = .ok (.aload_n 0, 1) := dk_42 (dk_at dksX2_begin_5 0 rfl rfl)
theorem dX2_begin_119 : decode cX2_begin 119 = .ok (.getfield 49, 3) := dk_180 0 49 (dk_at dksX2_begin_5 1 rfl rfl)
theorem dX2_begin_122 : decode cX2_begin 122 = .ok (.getfield 95, 3) := dk_180 0 95 (dk_at dksX2_begin_5 4 rfl rfl)
theorem dX2_begin_125 : decode cX2_begin 125 = .ok (.iload_n 1, 1) := dk_27 (dk_at dksX2_begin_5 7 rfl rfl)
theorem dX2_begin_126 : decode cX2_begin 126 = .ok (.invokeinterface 99 2, 5) := by decide +kernel
theorem dX2_begin_131 : decode cX2_begin 131 = .ok (.checkcast 105, 3) := dk_192 0 105 (dk_at dksX2_begin_5 13 rfl rfl)
theorem dX2_begin_134 : decode cX2_begin 134 = .ok (.getfield 107, 3) := dk_180 0 107 (dk_at dksX2_begin_5 16 rfl rfl)
theorem dX2_begin_137 : decode cX2_begin 137 = .ok (.goto 4, 3) := dk_167 0 4 (dk_at dksX2_begin_5 19 rfl rfl)
theorem dX2_begin_140 : decode cX2_begin 140 = .ok (.iconst 0, 1) := dk_3 (dk_at dksX2_begin_5 22 rfl rfl)
theorem dX2_begin_141 : decode cX2_begin 141 = .ok (.iastore, 1) := dk_79 (dk_at dksX2_begin_5 23 rfl rfl)
theorem dX2_begin_142 : decode cX2_begin 142 = .ok (.iinc 1 1, 3) := dk_132 1 1 (dk_at dksX2_begin_6 0 rfl rfl)
theorem dX2_begin_145 : decode cX2_begin 145 = .ok (.goto (-85), 3) := dk_167 255 171 (dk_at dksX2_begin_6 3 rfl rfl)
theorem dX2_begin_148 : decode cX2_begin 148 = .ok (.aload_n 0, 1) := dk_42 (dk_at dksX2_begin_6 6 rfl rfl)
theorem dX2_begin_149 : decode cX2_begin 149 = .ok (.areturn, 1) := dk_176 (dk_at dksX2_begin_6 7 rfl rfl)
def dkwX2_rights_4 : List UInt8 := [167, 255, 166, 27, 172]
abbrev dktX2_rights_4 : List UInt8 := dkwX2_rights_4 ++ []
def dkwX2_rights_3 : List UInt8 := [54, 4, 27, 21, 4, 153, 0, 9, 4, 29, 120, 167, 0, 4, 3, 128, 60, 132, 3, 1, 167, 255, 178]
abbrev dktX2_rights_3 : List UInt8 := dkwX2_rights_3 ++ dktX2_rights_4
def dkwX2_rights_2 : List UInt8 := [163, 0, 23, 42, 180, 0, 49, 180, 0, 160, 29, 46, 27, 2, 130, 126, 154, 0, 7, 4, 167, 0, 4, 3]
abbrev dktX2_rights_2 : List UInt8 := dkwX2_rights_2 ++ dktX2_rights_3
def dkwX2_rights_1 : List UInt8 := [42, 180, 0, 88, 29, 184, 0, 91, 153, 0, 38, 42, 29, 182, 0, 153, 180, 0, 157, 42, 180, 0, 71]
abbrev dktX2_rights_1 : List UInt8 := dkwX2_rights_1 ++ dktX2_rights_2
def dkwX2_rights_0 : List UInt8 := [3, 60, 2, 61, 27, 28, 159, 0, 91, 27, 61, 3, 62, 29, 42, 180, 0, 49, 182, 0, 81, 162, 0, 73]
abbrev dktX2_rights_0 : List UInt8 := dkwX2_rights_0 ++ dktX2_rights_1
theorem dksX2_rights_0 : cX2_rights.data.toList.drop 0 = dktX2_rights_0 := by decide +kernel
theorem dksX2_rights_1 : cX2_rights.data.toList.drop 24 = dktX2_rights_1 := dk_seg dksX2_rights_0 24 rfl rfl
theorem dksX2_rights_2 : cX2_rights.data.toList.drop 47 = dktX2_rights_2 := dk_seg dksX2_rights_1 23 rfl rfl
theorem dksX2_rights_3 : cX2_rights.data.toList.drop 71 = dktX2_rights_3 := dk_seg dksX2_rights_2 24 rfl rfl
theorem dksX2_rights_4 : cX2_rights.data.toList.drop 94 = dktX2_rights_4 := dk_seg dksX2_rights_3 23 rfl rfl
theorem dX2_rights_0 : decode cX2_rights 0 = .ok (.iconst 0, 1) := dk_3 (dk_at dksX2_rights_0 0 rfl rfl)
theorem dX2_rights_1 : decode cX2_rights 1 = .ok (.istore_n 1, 1) := dk_60 (dk_at dksX2_rights_0 1 rfl rfl)
theorem dX2_rights_2 : decode cX2_rights 2 = .ok (.iconst (-1), 1) := dk_2 (dk_at dksX2_rights_0 2 rfl rfl)
theorem dX2_rights_3 : decode cX2_rights 3 = .ok (.istore_n 2, 1) := dk_61 (dk_at dksX2_rights_0 3 rfl rfl)
theorem dX2_rights_4 : decode cX2_rights 4 = .ok (.iload_n 1, 1) := dk_27 (dk_at dksX2_rights_0 4 rfl rfl)
theorem dX2_rights_5 : decode cX2_rights 5 = .ok (.iload_n 2, 1) := dk_28 (dk_at dksX2_rights_0 5 rfl rfl)
theorem dX2_rights_6 : decode cX2_rights 6 = .ok (.if_icmp .eq 91, 3) := dk_159 0 91 (dk_at dksX2_rights_0 6 rfl rfl)
theorem dX2_rights_9 : decode cX2_rights 9 = .ok (.iload_n 1, 1) := dk_27 (dk_at dksX2_rights_0 9 rfl rfl)
theorem dX2_rights_10 : decode cX2_rights 10 = .ok (.istore_n 2, 1) := dk_61 (dk_at dksX2_rights_0 10 rfl rfl)
theorem dX2_rights_11 : decode cX2_rights 11 = .ok (.iconst 0, 1) := dk_3 (dk_at dksX2_rights_0 11 rfl rfl)
theorem dX2_rights_12 : decode cX2_rights 12 = .ok (.istore_n 3, 1) := dk_62 (dk_at dksX2_rights_0 12 rfl rfl)
theorem dX2_rights_13 : decode cX2_rights 13 = .ok (.iload_n 3, 1) := dk_29 (dk_at dksX2_rights_0 13 rfl rfl)
theorem dX2_rights_14 : decode cX2_rights 14 = .ok (.aload_n 0, 1) := dk_42 (dk_at dksX2_rights_0 14 rfl rfl)
theorem dX2_rights_15 : decode cX2_rights 15 = .ok (.getfield 49, 3) := dk_180 0 49 (dk_at dksX2_rights_0 15 rfl rfl)
theorem dX2_rights_18 : decode cX2_rights 18 = .ok (.invokevirtual 81, 3) := dk_182 0 81 (dk_at dksX2_rights_0 18 rfl rfl)
theorem dX2_rights_21 : decode cX2_rights 21 = .ok (.if_icmp .ge 73, 3) := dk_162 0 73 (dk_at dksX2_rights_0 21 rfl rfl)
theorem dX2_rights_24 : decode cX2_rights 24 = .ok (.aload_n 0, 1) := dk_42 (dk_at dksX2_rights_1 0 rfl rfl)
theorem dX2_rights_25 : decode cX2_rights 25 = .ok (.getfield 88, 3) := dk_180 0 88 (dk_at dksX2_rights_1 1 rfl rfl)
theorem dX2_rights_28 : decode cX2_rights 28 = .ok (.iload_n 3, 1) := dk_29 (dk_at dksX2_rights_1 4 rfl rfl)
theorem dX2_rights_29 : decode cX2_rights 29 = .ok (.invokestatic 91, 3) := dk_184 0 91 (dk_at dksX2_rights_1 5 rfl rfl)
theorem dX2_rights_32 : decode cX2_rights 32 = .ok (.ifCond .eq 38, 3) := dk_153 0 38 (dk_at dksX2_rights_1 8 rfl rfl)
theorem dX2_rights_35 : decode cX2_rights 35 = .ok (.aload_n 0, 1) := dk_42 (dk_at dksX2_rights_1 11 rfl rfl)
theorem dX2_rights_36 : decode cX2_rights 36 = .ok (.iload_n 3, 1) := dk_29 (dk_at dksX2_rights_1 12 rfl rfl)
theorem dX2_rights_37 : decode cX2_rights 37 = .ok (.invokevirtual 153, 3) := dk_182 0 153 (dk_at dksX2_rights_1 13 rfl rfl)
theorem dX2_rights_40 : decode cX2_rights 40 = .ok (.getfield 157, 3) := dk_180 0 157 (dk_at dksX2_rights_1 16 rfl rfl)
theorem dX2_rights_43 : decode cX2_rights 43 = .ok (.aload_n 0, 1) := dk_42 (dk_at dksX2_rights_1 19 rfl rfl)
theorem dX2_rights_44 : decode cX2_rights 44 = .ok (.getfield 71, 3) := dk_180 0 71 (dk_at dksX2_rights_1 20 rfl rfl)
theorem dX2_rights_47 : decode cX2_rights 47 = .ok (.if_icmp .gt 23, 3) := dk_163 0 23 (dk_at dksX2_rights_2 0 rfl rfl)
theorem dX2_rights_50 : decode cX2_rights 50 = .ok (.aload_n 0, 1) := dk_42 (dk_at dksX2_rights_2 3 rfl rfl)
theorem dX2_rights_51 : decode cX2_rights 51 = .ok (.getfield 49, 3) := dk_180 0 49 (dk_at dksX2_rights_2 4 rfl rfl)
theorem dX2_rights_54 : decode cX2_rights 54 = .ok (.getfield 160, 3) := dk_180 0 160 (dk_at dksX2_rights_2 7 rfl rfl)
theorem dX2_rights_57 : decode cX2_rights 57 = .ok (.iload_n 3, 1) := dk_29 (dk_at dksX2_rights_2 10 rfl rfl)
theorem dX2_rights_58 : decode cX2_rights 58 = .ok (.iaload, 1) := dk_46 (dk_at dksX2_rights_2 11 rfl rfl)
theorem dX2_rights_59 : decode cX2_rights 59 = .ok (.iload_n 1, 1) := dk_27 (dk_at dksX2_rights_2 12 rfl rfl)
theorem dX2_rights_60 : decode cX2_rights 60 = .ok (.iconst (-1), 1) := dk_2 (dk_at dksX2_rights_2 13 rfl rfl)
theorem dX2_rights_61 : decode cX2_rights 61 = .ok (.ixor, 1) := dk_130 (dk_at dksX2_rights_2 14 rfl rfl)
theorem dX2_rights_62 : decode cX2_rights 62 = .ok (.iand, 1) := dk_126 (dk_at dksX2_rights_2 15 rfl rfl)
theorem dX2_rights_63 : decode cX2_rights 63 = .ok (.ifCond .ne 7, 3) := dk_154 0 7 (dk_at dksX2_rights_2 16 rfl rfl)
theorem dX2_rights_66 : decode cX2_rights 66 = .ok (.iconst 1, 1) := dk_4 (dk_at dksX2_rights_2 19 rfl rfl)
theorem dX2_rights_67 : decode cX2_rights 67 = .ok (.goto 4, 3) := dk_167 0 4 (dk_at dksX2_rights_2 20 rfl rfl)
theorem dX2_rights_70 : decode cX2_rights 70 = .ok (.iconst 0, 1) := dk_3 (dk_at dksX2_rights_2 23 rfl rfl)
theorem dX2_rights_71 : decode cX2_rights 71 = .ok (.istore 4, 2) := dk_54 4 (dk_at dksX2_rights_3 0 rfl rfl)
theorem dX2_rights_73 : decode cX2_rights 73 = .ok (.iload_n 1, 1) := dk_27 (dk_at dksX2_rights_3 2 rfl rfl)
theorem dX2_rights_74 : decode cX2_rights 74 = .ok (.iload 4, 2) := dk_21 4 (dk_at dksX2_rights_3 3 rfl rfl)
theorem dX2_rights_76 : decode cX2_rights 76 = .ok (.ifCond .eq 9, 3) := dk_153 0 9 (dk_at dksX2_rights_3 5 rfl rfl)
theorem dX2_rights_79 : decode cX2_rights 79 = .ok (.iconst 1, 1) := dk_4 (dk_at dksX2_rights_3 8 rfl rfl)
theorem dX2_rights_80 : decode cX2_rights 80 = .ok (.iload_n 3, 1) := dk_29 (dk_at dksX2_rights_3 9 rfl rfl)
theorem dX2_rights_81 : decode cX2_rights 81 = .ok (.ishl, 1) := dk_120 (dk_at dksX2_rights_3 10 rfl rfl)
theorem dX2_rights_82 : decode cX2_rights 82 = .ok (.goto 4, 3) := dk_167 0 4 (dk_at dksX2_rights_3 11 rfl rfl)
theorem dX2_rights_85 : decode cX2_rights 85 = .ok (.iconst 0, 1) := dk_3 (dk_at dksX2_rights_3 14 rfl rfl)
theorem dX2_rights_86 : decode cX2_rights 86 = .ok (.ior, 1) := dk_128 (dk_at dksX2_rights_3 15 rfl rfl)
theorem dX2_rights_87 : decode cX2_rights 87 = .ok (.istore_n 1, 1) := dk_60 (dk_at dksX2_rights_3 16 rfl rfl)
theorem dX2_rights_88 : decode cX2_rights 88 = .ok (.iinc 3 1, 3) := dk_132 3 1 (dk_at dksX2_rights_3 17 rfl rfl)
theorem dX2_rights_91 : decode cX2_rights 91 = .ok (.goto (-78), 3) := dk_167 255 178 (dk_at dksX2_rights_3 20 rfl rfl)
theorem dX2_rights_94 : decode cX2_rights 94 = .ok (.goto (-90), 3) := dk_167 255 166 (dk_at dksX2_rights_4 0 rfl rfl)
theorem dX2_rights_97 : decode cX2_rights 97 = .ok (.iload_n 1, 1) := dk_27 (dk_at dksX2_rights_4 3 rfl rfl)
theorem dX2_rights_98 : decode cX2_rights 98 = .ok (.ireturn, 1) := dk_172 (dk_at dksX2_rights_4 4 rfl rfl)
def dkwX2_at_0 : List UInt8 := [42, 180, 0, 49, 180, 0, 95, 27, 185, 0, 99, 2, 0, 192, 0, 105, 176]
abbrev dktX2_at_0 : List UInt8 := dkwX2_at_0 ++ []
theorem dksX2_at_0 : cX2_at.data.toList.drop 0 = dktX2_at_0 := by decide +kernel
theorem dX2_at_0 : decode cX2_at 0 = .ok (.aload_n 0, 1) := dk_42 (dk_at dksX2_at_0 0 rfl rfl)
theorem dX2_at_1 : decode cX2_at 1 = .ok (.getfield 49, 3) := dk_180 0 49 (dk_at dksX2_at_0 1 rfl rfl)
theorem dX2_at_4 : decode cX2_at 4 = .ok (.getfield 95, 3) := dk_180 0 95 (dk_at dksX2_at_0 4 rfl rfl)
theorem dX2_at_7 : decode cX2_at 7 = .ok (.iload_n 1, 1) := dk_27 (dk_at dksX2_at_0 7 rfl rfl)
theorem dX2_at_8 : decode cX2_at 8 = .ok (.invokeinterface 99 2, 5) := by decide +kernel
theorem dX2_at_13 : decode cX2_at 13 = .ok (.checkcast 105, 3) := dk_192 0 105 (dk_at dksX2_at_0 13 rfl rfl)
theorem dX2_at_16 : decode cX2_at 16 = .ok (.areturn, 1) := dk_176 (dk_at dksX2_at_0 16 rfl rfl)
def dkwX2_granted_4 : List UInt8 := [21, 5, 182, 0, 193, 167, 0, 12, 42, 180, 0, 80, 153, 0, 5, 43, 176, 167, 255, 170, 43, 176]
abbrev dktX2_granted_4 : List UInt8 := dkwX2_granted_4 ++ []
def dkwX2_granted_3 : List UInt8 := [21, 5, 182, 0, 173, 96, 42, 180, 0, 71, 163, 0, 21, 29, 42, 21, 5, 182, 0, 173, 96, 62, 43]
abbrev dktX2_granted_3 : List UInt8 := dkwX2_granted_3 ++ dktX2_granted_4
def dkwX2_granted_2 : List UInt8 := [54, 4, 42, 180, 0, 49, 180, 0, 160, 21, 5, 46, 28, 2, 130, 126, 153, 0, 6, 167, 255, 215, 29, 42]
abbrev dktX2_granted_2 : List UInt8 := dkwX2_granted_2 ++ dktX2_granted_3
def dkwX2_granted_1 : List UInt8 := [54, 4, 21, 4, 153, 0, 87, 42, 21, 4, 182, 0, 233, 54, 5, 21, 4, 4, 21, 5, 120, 2, 130, 126]
abbrev dktX2_granted_1 : List UInt8 := dkwX2_granted_1 ++ dktX2_granted_2
def dkwX2_granted_0 : List UInt8 := [187, 0, 36, 89, 183, 0, 38, 76, 42, 6, 182, 0, 216, 61, 42, 182, 0, 231, 62, 42, 4, 182, 0, 216]
abbrev dktX2_granted_0 : List UInt8 := dkwX2_granted_0 ++ dktX2_granted_1
theorem dksX2_granted_0 : cX2_granted.data.toList.drop 0 = dktX2_granted_0 := by decide +kernel
theorem dksX2_granted_1 : cX2_granted.data.toList.drop 24 = dktX2_granted_1 := dk_seg dksX2_granted_0 24 rfl rfl
theorem dksX2_granted_2 : cX2_granted.data.toList.drop 48 = dktX2_granted_2 := dk_seg dksX2_granted_1 24 rfl rfl
theorem dksX2_granted_3 : cX2_granted.data.toList.drop 72 = dktX2_granted_3 := dk_seg dksX2_granted_2 24 rfl rfl
theorem dksX2_granted_4 : cX2_granted.data.toList.drop 95 = dktX2_granted_4 := dk_seg dksX2_granted_3 23 rfl rfl
theorem dX2_granted_0 : decode cX2_granted 0 = .ok (.new 36, 3) := dk_187 0 36 (dk_at dksX2_granted_0 0 rfl rfl)
theorem dX2_granted_3 : decode cX2_granted 3 = .ok (.dup, 1) := dk_89 (dk_at dksX2_granted_0 3 rfl rfl)
theorem dX2_granted_4 : decode cX2_granted 4 = .ok (.invokespecial 38, 3) := dk_183 0 38 (dk_at dksX2_granted_0 4 rfl rfl)
theorem dX2_granted_7 : decode cX2_granted 7 = .ok (.astore_n 1, 1) := dk_76 (dk_at dksX2_granted_0 7 rfl rfl)
theorem dX2_granted_8 : decode cX2_granted 8 = .ok (.aload_n 0, 1) := dk_42 (dk_at dksX2_granted_0 8 rfl rfl)
theorem dX2_granted_9 : decode cX2_granted 9 = .ok (.iconst 3, 1) := dk_6 (dk_at dksX2_granted_0 9 rfl rfl)
theorem dX2_granted_10 : decode cX2_granted 10 = .ok (.invokevirtual 216, 3) := dk_182 0 216 (dk_at dksX2_granted_0 10 rfl rfl)
theorem dX2_granted_13 : decode cX2_granted 13 = .ok (.istore_n 2, 1) := dk_61 (dk_at dksX2_granted_0 13 rfl rfl)
theorem dX2_granted_14 : decode cX2_granted 14 = .ok (.aload_n 0, 1) := dk_42 (dk_at dksX2_granted_0 14 rfl rfl)
theorem dX2_granted_15 : decode cX2_granted 15 = .ok (.invokevirtual 231, 3) := dk_182 0 231 (dk_at dksX2_granted_0 15 rfl rfl)
theorem dX2_granted_18 : decode cX2_granted 18 = .ok (.istore_n 3, 1) := dk_62 (dk_at dksX2_granted_0 18 rfl rfl)
theorem dX2_granted_19 : decode cX2_granted 19 = .ok (.aload_n 0, 1) := dk_42 (dk_at dksX2_granted_0 19 rfl rfl)
theorem dX2_granted_20 : decode cX2_granted 20 = .ok (.iconst 1, 1) := dk_4 (dk_at dksX2_granted_0 20 rfl rfl)
theorem dX2_granted_21 : decode cX2_granted 21 = .ok (.invokevirtual 216, 3) := dk_182 0 216 (dk_at dksX2_granted_0 21 rfl rfl)
theorem dX2_granted_24 : decode cX2_granted 24 = .ok (.istore 4, 2) := dk_54 4 (dk_at dksX2_granted_1 0 rfl rfl)
theorem dX2_granted_26 : decode cX2_granted 26 = .ok (.iload 4, 2) := dk_21 4 (dk_at dksX2_granted_1 2 rfl rfl)
theorem dX2_granted_28 : decode cX2_granted 28 = .ok (.ifCond .eq 87, 3) := dk_153 0 87 (dk_at dksX2_granted_1 4 rfl rfl)
theorem dX2_granted_31 : decode cX2_granted 31 = .ok (.aload_n 0, 1) := dk_42 (dk_at dksX2_granted_1 7 rfl rfl)
theorem dX2_granted_32 : decode cX2_granted 32 = .ok (.iload 4, 2) := dk_21 4 (dk_at dksX2_granted_1 8 rfl rfl)
theorem dX2_granted_34 : decode cX2_granted 34 = .ok (.invokevirtual 233, 3) := dk_182 0 233 (dk_at dksX2_granted_1 10 rfl rfl)
theorem dX2_granted_37 : decode cX2_granted 37 = .ok (.istore 5, 2) := dk_54 5 (dk_at dksX2_granted_1 13 rfl rfl)
theorem dX2_granted_39 : decode cX2_granted 39 = .ok (.iload 4, 2) := dk_21 4 (dk_at dksX2_granted_1 15 rfl rfl)
theorem dX2_granted_41 : decode cX2_granted 41 = .ok (.iconst 1, 1) := dk_4 (dk_at dksX2_granted_1 17 rfl rfl)
theorem dX2_granted_42 : decode cX2_granted 42 = .ok (.iload 5, 2) := dk_21 5 (dk_at dksX2_granted_1 18 rfl rfl)
theorem dX2_granted_44 : decode cX2_granted 44 = .ok (.ishl, 1) := dk_120 (dk_at dksX2_granted_1 20 rfl rfl)
theorem dX2_granted_45 : decode cX2_granted 45 = .ok (.iconst (-1), 1) := dk_2 (dk_at dksX2_granted_1 21 rfl rfl)
theorem dX2_granted_46 : decode cX2_granted 46 = .ok (.ixor, 1) := dk_130 (dk_at dksX2_granted_1 22 rfl rfl)
theorem dX2_granted_47 : decode cX2_granted 47 = .ok (.iand, 1) := dk_126 (dk_at dksX2_granted_1 23 rfl rfl)
theorem dX2_granted_48 : decode cX2_granted 48 = .ok (.istore 4, 2) := dk_54 4 (dk_at dksX2_granted_2 0 rfl rfl)
theorem dX2_granted_50 : decode cX2_granted 50 = .ok (.aload_n 0, 1) := dk_42 (dk_at dksX2_granted_2 2 rfl rfl)
theorem dX2_granted_51 : decode cX2_granted 51 = .ok (.getfield 49, 3) := dk_180 0 49 (dk_at dksX2_granted_2 3 rfl rfl)
theorem dX2_granted_54 : decode cX2_granted 54 = .ok (.getfield 160, 3) := dk_180 0 160 (dk_at dksX2_granted_2 6 rfl rfl)
theorem dX2_granted_57 : decode cX2_granted 57 = .ok (.iload 5, 2) := dk_21 5 (dk_at dksX2_granted_2 9 rfl rfl)
theorem dX2_granted_59 : decode cX2_granted 59 = .ok (.iaload, 1) := dk_46 (dk_at dksX2_granted_2 11 rfl rfl)
theorem dX2_granted_60 : decode cX2_granted 60 = .ok (.iload_n 2, 1) := dk_28 (dk_at dksX2_granted_2 12 rfl rfl)
theorem dX2_granted_61 : decode cX2_granted 61 = .ok (.iconst (-1), 1) := dk_2 (dk_at dksX2_granted_2 13 rfl rfl)
theorem dX2_granted_62 : decode cX2_granted 62 = .ok (.ixor, 1) := dk_130 (dk_at dksX2_granted_2 14 rfl rfl)
theorem dX2_granted_63 : decode cX2_granted 63 = .ok (.iand, 1) := dk_126 (dk_at dksX2_granted_2 15 rfl rfl)
theorem dX2_granted_64 : decode cX2_granted 64 = .ok (.ifCond .eq 6, 3) := dk_153 0 6 (dk_at dksX2_granted_2 16 rfl rfl)
theorem dX2_granted_67 : decode cX2_granted 67 = .ok (.goto (-41), 3) := dk_167 255 215 (dk_at dksX2_granted_2 19 rfl rfl)
theorem dX2_granted_70 : decode cX2_granted 70 = .ok (.iload_n 3, 1) := dk_29 (dk_at dksX2_granted_2 22 rfl rfl)
theorem dX2_granted_71 : decode cX2_granted 71 = .ok (.aload_n 0, 1) := dk_42 (dk_at dksX2_granted_2 23 rfl rfl)
theorem dX2_granted_72 : decode cX2_granted 72 = .ok (.iload 5, 2) := dk_21 5 (dk_at dksX2_granted_3 0 rfl rfl)
theorem dX2_granted_74 : decode cX2_granted 74 = .ok (.invokevirtual 173, 3) := dk_182 0 173 (dk_at dksX2_granted_3 2 rfl rfl)
theorem dX2_granted_77 : decode cX2_granted 77 = .ok (.iadd, 1) := dk_96 (dk_at dksX2_granted_3 5 rfl rfl)
theorem dX2_granted_78 : decode cX2_granted 78 = .ok (.aload_n 0, 1) := dk_42 (dk_at dksX2_granted_3 6 rfl rfl)
theorem dX2_granted_79 : decode cX2_granted 79 = .ok (.getfield 71, 3) := dk_180 0 71 (dk_at dksX2_granted_3 7 rfl rfl)
theorem dX2_granted_82 : decode cX2_granted 82 = .ok (.if_icmp .gt 21, 3) := dk_163 0 21 (dk_at dksX2_granted_3 10 rfl rfl)
theorem dX2_granted_85 : decode cX2_granted 85 = .ok (.iload_n 3, 1) := dk_29 (dk_at dksX2_granted_3 13 rfl rfl)
theorem dX2_granted_86 : decode cX2_granted 86 = .ok (.aload_n 0, 1) := dk_42 (dk_at dksX2_granted_3 14 rfl rfl)
theorem dX2_granted_87 : decode cX2_granted 87 = .ok (.iload 5, 2) := dk_21 5 (dk_at dksX2_granted_3 15 rfl rfl)
theorem dX2_granted_89 : decode cX2_granted 89 = .ok (.invokevirtual 173, 3) := dk_182 0 173 (dk_at dksX2_granted_3 17 rfl rfl)
theorem dX2_granted_92 : decode cX2_granted 92 = .ok (.iadd, 1) := dk_96 (dk_at dksX2_granted_3 20 rfl rfl)
theorem dX2_granted_93 : decode cX2_granted 93 = .ok (.istore_n 3, 1) := dk_62 (dk_at dksX2_granted_3 21 rfl rfl)
theorem dX2_granted_94 : decode cX2_granted 94 = .ok (.aload_n 1, 1) := dk_43 (dk_at dksX2_granted_3 22 rfl rfl)
theorem dX2_granted_95 : decode cX2_granted 95 = .ok (.iload 5, 2) := dk_21 5 (dk_at dksX2_granted_4 0 rfl rfl)
theorem dX2_granted_97 : decode cX2_granted 97 = .ok (.invokevirtual 193, 3) := dk_182 0 193 (dk_at dksX2_granted_4 2 rfl rfl)
theorem dX2_granted_100 : decode cX2_granted 100 = .ok (.goto 12, 3) := dk_167 0 12 (dk_at dksX2_granted_4 5 rfl rfl)
theorem dX2_granted_103 : decode cX2_granted 103 = .ok (.aload_n 0, 1) := dk_42 (dk_at dksX2_granted_4 8 rfl rfl)
theorem dX2_granted_104 : decode cX2_granted 104 = .ok (.getfield 80, 3) := dk_180 0 80 (dk_at dksX2_granted_4 9 rfl rfl)
theorem dX2_granted_107 : decode cX2_granted 107 = .ok (.ifCond .eq 5, 3) := dk_153 0 5 (dk_at dksX2_granted_4 12 rfl rfl)
theorem dX2_granted_110 : decode cX2_granted 110 = .ok (.aload_n 1, 1) := dk_43 (dk_at dksX2_granted_4 15 rfl rfl)
theorem dX2_granted_111 : decode cX2_granted 111 = .ok (.areturn, 1) := dk_176 (dk_at dksX2_granted_4 16 rfl rfl)
theorem dX2_granted_112 : decode cX2_granted 112 = .ok (.goto (-86), 3) := dk_167 255 170 (dk_at dksX2_granted_4 17 rfl rfl)
theorem dX2_granted_115 : decode cX2_granted 115 = .ok (.aload_n 1, 1) := dk_43 (dk_at dksX2_granted_4 20 rfl rfl)
theorem dX2_granted_116 : decode cX2_granted 116 = .ok (.areturn, 1) := dk_176 (dk_at dksX2_granted_4 21 rfl rfl)
def dkwX2_withMark_1 : List UInt8 := [160, 0, 9, 4, 29, 120, 167, 0, 4, 3, 128, 61, 132, 3, 1, 167, 255, 222, 28, 172]
abbrev dktX2_withMark_1 : List UInt8 := dkwX2_withMark_1 ++ []
def dkwX2_withMark_0 : List UInt8 := [3, 61, 3, 62, 29, 42, 180, 0, 49, 182, 0, 81, 162, 0, 29, 28, 42, 180, 0, 27, 29, 46, 27]
abbrev dktX2_withMark_0 : List UInt8 := dkwX2_withMark_0 ++ dktX2_withMark_1
theorem dksX2_withMark_0 : cX2_withMark.data.toList.drop 0 = dktX2_withMark_0 := by decide +kernel
theorem dksX2_withMark_1 : cX2_withMark.data.toList.drop 23 = dktX2_withMark_1 := dk_seg dksX2_withMark_0 23 rfl rfl
theorem dX2_withMark_0 : decode cX2_withMark 0 = .ok (.iconst 0, 1) := dk_3 (dk_at dksX2_withMark_0 0 rfl rfl)
theorem dX2_withMark_1 : decode cX2_withMark 1 = .ok (.istore_n 2, 1) := dk_61 (dk_at dksX2_withMark_0 1 rfl rfl)
theorem dX2_withMark_2 : decode cX2_withMark 2 = .ok (.iconst 0, 1) := dk_3 (dk_at dksX2_withMark_0 2 rfl rfl)
theorem dX2_withMark_3 : decode cX2_withMark 3 = .ok (.istore_n 3, 1) := dk_62 (dk_at dksX2_withMark_0 3 rfl rfl)
theorem dX2_withMark_4 : decode cX2_withMark 4 = .ok (.iload_n 3, 1) := dk_29 (dk_at dksX2_withMark_0 4 rfl rfl)
theorem dX2_withMark_5 : decode cX2_withMark 5 = .ok (.aload_n 0, 1) := dk_42 (dk_at dksX2_withMark_0 5 rfl rfl)
theorem dX2_withMark_6 : decode cX2_withMark 6 = .ok (.getfield 49, 3) := dk_180 0 49 (dk_at dksX2_withMark_0 6 rfl rfl)
theorem dX2_withMark_9 : decode cX2_withMark 9 = .ok (.invokevirtual 81, 3) := dk_182 0 81 (dk_at dksX2_withMark_0 9 rfl rfl)
theorem dX2_withMark_12 : decode cX2_withMark 12 = .ok (.if_icmp .ge 29, 3) := dk_162 0 29 (dk_at dksX2_withMark_0 12 rfl rfl)
theorem dX2_withMark_15 : decode cX2_withMark 15 = .ok (.iload_n 2, 1) := dk_28 (dk_at dksX2_withMark_0 15 rfl rfl)
theorem dX2_withMark_16 : decode cX2_withMark 16 = .ok (.aload_n 0, 1) := dk_42 (dk_at dksX2_withMark_0 16 rfl rfl)
theorem dX2_withMark_17 : decode cX2_withMark 17 = .ok (.getfield 27, 3) := dk_180 0 27 (dk_at dksX2_withMark_0 17 rfl rfl)
theorem dX2_withMark_20 : decode cX2_withMark 20 = .ok (.iload_n 3, 1) := dk_29 (dk_at dksX2_withMark_0 20 rfl rfl)
theorem dX2_withMark_21 : decode cX2_withMark 21 = .ok (.iaload, 1) := dk_46 (dk_at dksX2_withMark_0 21 rfl rfl)
theorem dX2_withMark_22 : decode cX2_withMark 22 = .ok (.iload_n 1, 1) := dk_27 (dk_at dksX2_withMark_0 22 rfl rfl)
theorem dX2_withMark_23 : decode cX2_withMark 23 = .ok (.if_icmp .ne 9, 3) := dk_160 0 9 (dk_at dksX2_withMark_1 0 rfl rfl)
theorem dX2_withMark_26 : decode cX2_withMark 26 = .ok (.iconst 1, 1) := dk_4 (dk_at dksX2_withMark_1 3 rfl rfl)
theorem dX2_withMark_27 : decode cX2_withMark 27 = .ok (.iload_n 3, 1) := dk_29 (dk_at dksX2_withMark_1 4 rfl rfl)
theorem dX2_withMark_28 : decode cX2_withMark 28 = .ok (.ishl, 1) := dk_120 (dk_at dksX2_withMark_1 5 rfl rfl)
theorem dX2_withMark_29 : decode cX2_withMark 29 = .ok (.goto 4, 3) := dk_167 0 4 (dk_at dksX2_withMark_1 6 rfl rfl)
theorem dX2_withMark_32 : decode cX2_withMark 32 = .ok (.iconst 0, 1) := dk_3 (dk_at dksX2_withMark_1 9 rfl rfl)
theorem dX2_withMark_33 : decode cX2_withMark 33 = .ok (.ior, 1) := dk_128 (dk_at dksX2_withMark_1 10 rfl rfl)
theorem dX2_withMark_34 : decode cX2_withMark 34 = .ok (.istore_n 2, 1) := dk_61 (dk_at dksX2_withMark_1 11 rfl rfl)
theorem dX2_withMark_35 : decode cX2_withMark 35 = .ok (.iinc 3 1, 3) := dk_132 3 1 (dk_at dksX2_withMark_1 12 rfl rfl)
theorem dX2_withMark_38 : decode cX2_withMark 38 = .ok (.goto (-34), 3) := dk_167 255 222 (dk_at dksX2_withMark_1 15 rfl rfl)
theorem dX2_withMark_41 : decode cX2_withMark 41 = .ok (.iload_n 2, 1) := dk_28 (dk_at dksX2_withMark_1 18 rfl rfl)
theorem dX2_withMark_42 : decode cX2_withMark 42 = .ok (.ireturn, 1) := dk_172 (dk_at dksX2_withMark_1 19 rfl rfl)
def dkwX2_reserved_1 : List UInt8 := [132, 2, 1, 167, 255, 234, 27, 172]
abbrev dktX2_reserved_1 : List UInt8 := dkwX2_reserved_1 ++ []
def dkwX2_reserved_0 : List UInt8 := [3, 60, 3, 61, 28, 42, 180, 0, 49, 182, 0, 81, 162, 0, 17, 27, 42, 28, 182, 0, 176, 96, 60]
abbrev dktX2_reserved_0 : List UInt8 := dkwX2_reserved_0 ++ dktX2_reserved_1
theorem dksX2_reserved_0 : cX2_reserved.data.toList.drop 0 = dktX2_reserved_0 := by decide +kernel
theorem dksX2_reserved_1 : cX2_reserved.data.toList.drop 23 = dktX2_reserved_1 := dk_seg dksX2_reserved_0 23 rfl rfl
theorem dX2_reserved_0 : decode cX2_reserved 0 = .ok (.iconst 0, 1) := dk_3 (dk_at dksX2_reserved_0 0 rfl rfl)
theorem dX2_reserved_1 : decode cX2_reserved 1 = .ok (.istore_n 1, 1) := dk_60 (dk_at dksX2_reserved_0 1 rfl rfl)
theorem dX2_reserved_2 : decode cX2_reserved 2 = .ok (.iconst 0, 1) := dk_3 (dk_at dksX2_reserved_0 2 rfl rfl)
theorem dX2_reserved_3 : decode cX2_reserved 3 = .ok (.istore_n 2, 1) := dk_61 (dk_at dksX2_reserved_0 3 rfl rfl)
theorem dX2_reserved_4 : decode cX2_reserved 4 = .ok (.iload_n 2, 1) := dk_28 (dk_at dksX2_reserved_0 4 rfl rfl)
theorem dX2_reserved_5 : decode cX2_reserved 5 = .ok (.aload_n 0, 1) := dk_42 (dk_at dksX2_reserved_0 5 rfl rfl)
theorem dX2_reserved_6 : decode cX2_reserved 6 = .ok (.getfield 49, 3) := dk_180 0 49 (dk_at dksX2_reserved_0 6 rfl rfl)
theorem dX2_reserved_9 : decode cX2_reserved 9 = .ok (.invokevirtual 81, 3) := dk_182 0 81 (dk_at dksX2_reserved_0 9 rfl rfl)
theorem dX2_reserved_12 : decode cX2_reserved 12 = .ok (.if_icmp .ge 17, 3) := dk_162 0 17 (dk_at dksX2_reserved_0 12 rfl rfl)
theorem dX2_reserved_15 : decode cX2_reserved 15 = .ok (.iload_n 1, 1) := dk_27 (dk_at dksX2_reserved_0 15 rfl rfl)
theorem dX2_reserved_16 : decode cX2_reserved 16 = .ok (.aload_n 0, 1) := dk_42 (dk_at dksX2_reserved_0 16 rfl rfl)
theorem dX2_reserved_17 : decode cX2_reserved 17 = .ok (.iload_n 2, 1) := dk_28 (dk_at dksX2_reserved_0 17 rfl rfl)
theorem dX2_reserved_18 : decode cX2_reserved 18 = .ok (.invokevirtual 176, 3) := dk_182 0 176 (dk_at dksX2_reserved_0 18 rfl rfl)
theorem dX2_reserved_21 : decode cX2_reserved 21 = .ok (.iadd, 1) := dk_96 (dk_at dksX2_reserved_0 21 rfl rfl)
theorem dX2_reserved_22 : decode cX2_reserved 22 = .ok (.istore_n 1, 1) := dk_60 (dk_at dksX2_reserved_0 22 rfl rfl)
theorem dX2_reserved_23 : decode cX2_reserved 23 = .ok (.iinc 2 1, 3) := dk_132 2 1 (dk_at dksX2_reserved_1 0 rfl rfl)
theorem dX2_reserved_26 : decode cX2_reserved 26 = .ok (.goto (-22), 3) := dk_167 255 234 (dk_at dksX2_reserved_1 3 rfl rfl)
theorem dX2_reserved_29 : decode cX2_reserved 29 = .ok (.iload_n 1, 1) := dk_27 (dk_at dksX2_reserved_1 6 rfl rfl)
theorem dX2_reserved_30 : decode cX2_reserved 30 = .ok (.ireturn, 1) := dk_172 (dk_at dksX2_reserved_1 7 rfl rfl)
def dkwX2_reserved_2_1 : List UInt8 := [6, 160, 0, 14, 42, 27, 182, 0, 153, 180, 0, 166, 167, 0, 4, 3, 172]
abbrev dktX2_reserved_2_1 : List UInt8 := dkwX2_reserved_2_1 ++ []
def dkwX2_reserved_2_0 : List UInt8 := [42, 180, 0, 27, 27, 46, 5, 160, 0, 11, 42, 27, 182, 0, 173, 167, 0, 25, 42, 180, 0, 27, 27, 46]
abbrev dktX2_reserved_2_0 : List UInt8 := dkwX2_reserved_2_0 ++ dktX2_reserved_2_1
theorem dksX2_reserved_2_0 : cX2_reserved_2.data.toList.drop 0 = dktX2_reserved_2_0 := by decide +kernel
theorem dksX2_reserved_2_1 : cX2_reserved_2.data.toList.drop 24 = dktX2_reserved_2_1 := dk_seg dksX2_reserved_2_0 24 rfl rfl
theorem dX2_reserved_2_0 : decode cX2_reserved_2 0 = .ok (.aload_n 0, 1) := dk_42 (dk_at dksX2_reserved_2_0 0 rfl rfl)
theorem dX2_reserved_2_1 : decode cX2_reserved_2 1 = .ok (.getfield 27, 3) := dk_180 0 27 (dk_at dksX2_reserved_2_0 1 rfl rfl)
theorem dX2_reserved_2_4 : decode cX2_reserved_2 4 = .ok (.iload_n 1, 1) := dk_27 (dk_at dksX2_reserved_2_0 4 rfl rfl)
theorem dX2_reserved_2_5 : decode cX2_reserved_2 5 = .ok (.iaload, 1) := dk_46 (dk_at dksX2_reserved_2_0 5 rfl rfl)
theorem dX2_reserved_2_6 : decode cX2_reserved_2 6 = .ok (.iconst 2, 1) := dk_5 (dk_at dksX2_reserved_2_0 6 rfl rfl)
theorem dX2_reserved_2_7 : decode cX2_reserved_2 7 = .ok (.if_icmp .ne 11, 3) := dk_160 0 11 (dk_at dksX2_reserved_2_0 7 rfl rfl)
theorem dX2_reserved_2_10 : decode cX2_reserved_2 10 = .ok (.aload_n 0, 1) := dk_42 (dk_at dksX2_reserved_2_0 10 rfl rfl)
theorem dX2_reserved_2_11 : decode cX2_reserved_2 11 = .ok (.iload_n 1, 1) := dk_27 (dk_at dksX2_reserved_2_0 11 rfl rfl)
theorem dX2_reserved_2_12 : decode cX2_reserved_2 12 = .ok (.invokevirtual 173, 3) := dk_182 0 173 (dk_at dksX2_reserved_2_0 12 rfl rfl)
theorem dX2_reserved_2_15 : decode cX2_reserved_2 15 = .ok (.goto 25, 3) := dk_167 0 25 (dk_at dksX2_reserved_2_0 15 rfl rfl)
theorem dX2_reserved_2_18 : decode cX2_reserved_2 18 = .ok (.aload_n 0, 1) := dk_42 (dk_at dksX2_reserved_2_0 18 rfl rfl)
theorem dX2_reserved_2_19 : decode cX2_reserved_2 19 = .ok (.getfield 27, 3) := dk_180 0 27 (dk_at dksX2_reserved_2_0 19 rfl rfl)
theorem dX2_reserved_2_22 : decode cX2_reserved_2 22 = .ok (.iload_n 1, 1) := dk_27 (dk_at dksX2_reserved_2_0 22 rfl rfl)
theorem dX2_reserved_2_23 : decode cX2_reserved_2 23 = .ok (.iaload, 1) := dk_46 (dk_at dksX2_reserved_2_0 23 rfl rfl)
theorem dX2_reserved_2_24 : decode cX2_reserved_2 24 = .ok (.iconst 3, 1) := dk_6 (dk_at dksX2_reserved_2_1 0 rfl rfl)
theorem dX2_reserved_2_25 : decode cX2_reserved_2 25 = .ok (.if_icmp .ne 14, 3) := dk_160 0 14 (dk_at dksX2_reserved_2_1 1 rfl rfl)
theorem dX2_reserved_2_28 : decode cX2_reserved_2 28 = .ok (.aload_n 0, 1) := dk_42 (dk_at dksX2_reserved_2_1 4 rfl rfl)
theorem dX2_reserved_2_29 : decode cX2_reserved_2 29 = .ok (.iload_n 1, 1) := dk_27 (dk_at dksX2_reserved_2_1 5 rfl rfl)
theorem dX2_reserved_2_30 : decode cX2_reserved_2 30 = .ok (.invokevirtual 153, 3) := dk_182 0 153 (dk_at dksX2_reserved_2_1 6 rfl rfl)
theorem dX2_reserved_2_33 : decode cX2_reserved_2 33 = .ok (.getfield 166, 3) := dk_180 0 166 (dk_at dksX2_reserved_2_1 9 rfl rfl)
theorem dX2_reserved_2_36 : decode cX2_reserved_2 36 = .ok (.goto 4, 3) := dk_167 0 4 (dk_at dksX2_reserved_2_1 12 rfl rfl)
theorem dX2_reserved_2_39 : decode cX2_reserved_2 39 = .ok (.iconst 0, 1) := dk_3 (dk_at dksX2_reserved_2_1 15 rfl rfl)
theorem dX2_reserved_2_40 : decode cX2_reserved_2 40 = .ok (.ireturn, 1) := dk_172 (dk_at dksX2_reserved_2_1 16 rfl rfl)
def dkwX2_expected_1 : List UInt8 := [182, 0, 153, 180, 0, 157, 172]
abbrev dktX2_expected_1 : List UInt8 := dkwX2_expected_1 ++ []
def dkwX2_expected_0 : List UInt8 := [42, 180, 0, 135, 27, 184, 0, 91, 153, 0, 14, 42, 27, 182, 0, 153, 180, 0, 163, 167, 0, 11, 42, 27]
abbrev dktX2_expected_0 : List UInt8 := dkwX2_expected_0 ++ dktX2_expected_1
theorem dksX2_expected_0 : cX2_expected.data.toList.drop 0 = dktX2_expected_0 := by decide +kernel
theorem dksX2_expected_1 : cX2_expected.data.toList.drop 24 = dktX2_expected_1 := dk_seg dksX2_expected_0 24 rfl rfl
theorem dX2_expected_0 : decode cX2_expected 0 = .ok (.aload_n 0, 1) := dk_42 (dk_at dksX2_expected_0 0 rfl rfl)
theorem dX2_expected_1 : decode cX2_expected 1 = .ok (.getfield 135, 3) := dk_180 0 135 (dk_at dksX2_expected_0 1 rfl rfl)
theorem dX2_expected_4 : decode cX2_expected 4 = .ok (.iload_n 1, 1) := dk_27 (dk_at dksX2_expected_0 4 rfl rfl)
theorem dX2_expected_5 : decode cX2_expected 5 = .ok (.invokestatic 91, 3) := dk_184 0 91 (dk_at dksX2_expected_0 5 rfl rfl)
theorem dX2_expected_8 : decode cX2_expected 8 = .ok (.ifCond .eq 14, 3) := dk_153 0 14 (dk_at dksX2_expected_0 8 rfl rfl)
theorem dX2_expected_11 : decode cX2_expected 11 = .ok (.aload_n 0, 1) := dk_42 (dk_at dksX2_expected_0 11 rfl rfl)
theorem dX2_expected_12 : decode cX2_expected 12 = .ok (.iload_n 1, 1) := dk_27 (dk_at dksX2_expected_0 12 rfl rfl)
theorem dX2_expected_13 : decode cX2_expected 13 = .ok (.invokevirtual 153, 3) := dk_182 0 153 (dk_at dksX2_expected_0 13 rfl rfl)
theorem dX2_expected_16 : decode cX2_expected 16 = .ok (.getfield 163, 3) := dk_180 0 163 (dk_at dksX2_expected_0 16 rfl rfl)
theorem dX2_expected_19 : decode cX2_expected 19 = .ok (.goto 11, 3) := dk_167 0 11 (dk_at dksX2_expected_0 19 rfl rfl)
theorem dX2_expected_22 : decode cX2_expected 22 = .ok (.aload_n 0, 1) := dk_42 (dk_at dksX2_expected_0 22 rfl rfl)
theorem dX2_expected_23 : decode cX2_expected 23 = .ok (.iload_n 1, 1) := dk_27 (dk_at dksX2_expected_0 23 rfl rfl)
theorem dX2_expected_24 : decode cX2_expected 24 = .ok (.invokevirtual 153, 3) := dk_182 0 153 (dk_at dksX2_expected_1 0 rfl rfl)
theorem dX2_expected_27 : decode cX2_expected 27 = .ok (.getfield 157, 3) := dk_180 0 157 (dk_at dksX2_expected_1 3 rfl rfl)
theorem dX2_expected_30 : decode cX2_expected 30 = .ok (.ireturn, 1) := dk_172 (dk_at dksX2_expected_1 6 rfl rfl)
def dkwX2_first_1 : List UInt8 := [2, 159, 0, 12, 42, 29, 28, 182, 0, 228, 153, 0, 5, 29, 61, 132, 3, 1, 167, 255, 218, 28, 172]
abbrev dktX2_first_1 : List UInt8 := dkwX2_first_1 ++ []
def dkwX2_first_0 : List UInt8 := [2, 61, 3, 62, 29, 42, 180, 0, 49, 182, 0, 81, 162, 0, 33, 27, 29, 184, 0, 91, 153, 0, 19, 28]
abbrev dktX2_first_0 : List UInt8 := dkwX2_first_0 ++ dktX2_first_1
theorem dksX2_first_0 : cX2_first.data.toList.drop 0 = dktX2_first_0 := by decide +kernel
theorem dksX2_first_1 : cX2_first.data.toList.drop 24 = dktX2_first_1 := dk_seg dksX2_first_0 24 rfl rfl
theorem dX2_first_0 : decode cX2_first 0 = .ok (.iconst (-1), 1) := dk_2 (dk_at dksX2_first_0 0 rfl rfl)
theorem dX2_first_1 : decode cX2_first 1 = .ok (.istore_n 2, 1) := dk_61 (dk_at dksX2_first_0 1 rfl rfl)
theorem dX2_first_2 : decode cX2_first 2 = .ok (.iconst 0, 1) := dk_3 (dk_at dksX2_first_0 2 rfl rfl)
theorem dX2_first_3 : decode cX2_first 3 = .ok (.istore_n 3, 1) := dk_62 (dk_at dksX2_first_0 3 rfl rfl)
theorem dX2_first_4 : decode cX2_first 4 = .ok (.iload_n 3, 1) := dk_29 (dk_at dksX2_first_0 4 rfl rfl)
theorem dX2_first_5 : decode cX2_first 5 = .ok (.aload_n 0, 1) := dk_42 (dk_at dksX2_first_0 5 rfl rfl)
theorem dX2_first_6 : decode cX2_first 6 = .ok (.getfield 49, 3) := dk_180 0 49 (dk_at dksX2_first_0 6 rfl rfl)
theorem dX2_first_9 : decode cX2_first 9 = .ok (.invokevirtual 81, 3) := dk_182 0 81 (dk_at dksX2_first_0 9 rfl rfl)
theorem dX2_first_12 : decode cX2_first 12 = .ok (.if_icmp .ge 33, 3) := dk_162 0 33 (dk_at dksX2_first_0 12 rfl rfl)
theorem dX2_first_15 : decode cX2_first 15 = .ok (.iload_n 1, 1) := dk_27 (dk_at dksX2_first_0 15 rfl rfl)
theorem dX2_first_16 : decode cX2_first 16 = .ok (.iload_n 3, 1) := dk_29 (dk_at dksX2_first_0 16 rfl rfl)
theorem dX2_first_17 : decode cX2_first 17 = .ok (.invokestatic 91, 3) := dk_184 0 91 (dk_at dksX2_first_0 17 rfl rfl)
theorem dX2_first_20 : decode cX2_first 20 = .ok (.ifCond .eq 19, 3) := dk_153 0 19 (dk_at dksX2_first_0 20 rfl rfl)
theorem dX2_first_23 : decode cX2_first 23 = .ok (.iload_n 2, 1) := dk_28 (dk_at dksX2_first_0 23 rfl rfl)
theorem dX2_first_24 : decode cX2_first 24 = .ok (.iconst (-1), 1) := dk_2 (dk_at dksX2_first_1 0 rfl rfl)
theorem dX2_first_25 : decode cX2_first 25 = .ok (.if_icmp .eq 12, 3) := dk_159 0 12 (dk_at dksX2_first_1 1 rfl rfl)
theorem dX2_first_28 : decode cX2_first 28 = .ok (.aload_n 0, 1) := dk_42 (dk_at dksX2_first_1 4 rfl rfl)
theorem dX2_first_29 : decode cX2_first 29 = .ok (.iload_n 3, 1) := dk_29 (dk_at dksX2_first_1 5 rfl rfl)
theorem dX2_first_30 : decode cX2_first 30 = .ok (.iload_n 2, 1) := dk_28 (dk_at dksX2_first_1 6 rfl rfl)
theorem dX2_first_31 : decode cX2_first 31 = .ok (.invokevirtual 228, 3) := dk_182 0 228 (dk_at dksX2_first_1 7 rfl rfl)
theorem dX2_first_34 : decode cX2_first 34 = .ok (.ifCond .eq 5, 3) := dk_153 0 5 (dk_at dksX2_first_1 10 rfl rfl)
theorem dX2_first_37 : decode cX2_first 37 = .ok (.iload_n 3, 1) := dk_29 (dk_at dksX2_first_1 13 rfl rfl)
theorem dX2_first_38 : decode cX2_first 38 = .ok (.istore_n 2, 1) := dk_61 (dk_at dksX2_first_1 14 rfl rfl)
theorem dX2_first_39 : decode cX2_first 39 = .ok (.iinc 3 1, 3) := dk_132 3 1 (dk_at dksX2_first_1 15 rfl rfl)
theorem dX2_first_42 : decode cX2_first 42 = .ok (.goto (-38), 3) := dk_167 255 218 (dk_at dksX2_first_1 18 rfl rfl)
theorem dX2_first_45 : decode cX2_first 45 = .ok (.iload_n 2, 1) := dk_28 (dk_at dksX2_first_1 21 rfl rfl)
theorem dX2_first_46 : decode cX2_first 46 = .ok (.ireturn, 1) := dk_172 (dk_at dksX2_first_1 22 rfl rfl)
def dkwX2_isAhead_4 : List UInt8 := [3, 172]
abbrev dktX2_isAhead_4 : List UInt8 := dkwX2_isAhead_4 ++ []
def dkwX2_isAhead_3 : List UInt8 := [159, 0, 13, 29, 21, 4, 162, 0, 7, 4, 167, 0, 4, 3, 172, 27, 28, 162, 0, 7, 4, 167, 0, 4]
abbrev dktX2_isAhead_3 : List UInt8 := dkwX2_isAhead_3 ++ dktX2_isAhead_4
def dkwX2_isAhead_2 : List UInt8 := [180, 0, 39, 28, 182, 0, 225, 54, 4, 29, 21, 4, 159, 0, 26, 21, 4, 2, 159, 0, 14, 29, 2]
abbrev dktX2_isAhead_2 : List UInt8 := dkwX2_isAhead_2 ++ dktX2_isAhead_3
def dkwX2_isAhead_1 : List UInt8 := [180, 0, 33, 28, 46, 164, 0, 7, 4, 167, 0, 4, 3, 172, 42, 180, 0, 39, 27, 182, 0, 225, 62, 42]
abbrev dktX2_isAhead_1 : List UInt8 := dkwX2_isAhead_1 ++ dktX2_isAhead_2
def dkwX2_isAhead_0 : List UInt8 := [42, 180, 0, 33, 27, 46, 42, 180, 0, 33, 28, 46, 159, 0, 24, 42, 180, 0, 33, 27, 46, 42]
abbrev dktX2_isAhead_0 : List UInt8 := dkwX2_isAhead_0 ++ dktX2_isAhead_1
theorem dksX2_isAhead_0 : cX2_isAhead.data.toList.drop 0 = dktX2_isAhead_0 := by decide +kernel
theorem dksX2_isAhead_1 : cX2_isAhead.data.toList.drop 22 = dktX2_isAhead_1 := dk_seg dksX2_isAhead_0 22 rfl rfl
theorem dksX2_isAhead_2 : cX2_isAhead.data.toList.drop 46 = dktX2_isAhead_2 := dk_seg dksX2_isAhead_1 24 rfl rfl
theorem dksX2_isAhead_3 : cX2_isAhead.data.toList.drop 69 = dktX2_isAhead_3 := dk_seg dksX2_isAhead_2 23 rfl rfl
theorem dksX2_isAhead_4 : cX2_isAhead.data.toList.drop 93 = dktX2_isAhead_4 := dk_seg dksX2_isAhead_3 24 rfl rfl
theorem dX2_isAhead_0 : decode cX2_isAhead 0 = .ok (.aload_n 0, 1) := dk_42 (dk_at dksX2_isAhead_0 0 rfl rfl)
theorem dX2_isAhead_1 : decode cX2_isAhead 1 = .ok (.getfield 33, 3) := dk_180 0 33 (dk_at dksX2_isAhead_0 1 rfl rfl)
theorem dX2_isAhead_4 : decode cX2_isAhead 4 = .ok (.iload_n 1, 1) := dk_27 (dk_at dksX2_isAhead_0 4 rfl rfl)
theorem dX2_isAhead_5 : decode cX2_isAhead 5 = .ok (.iaload, 1) := dk_46 (dk_at dksX2_isAhead_0 5 rfl rfl)
theorem dX2_isAhead_6 : decode cX2_isAhead 6 = .ok (.aload_n 0, 1) := dk_42 (dk_at dksX2_isAhead_0 6 rfl rfl)
theorem dX2_isAhead_7 : decode cX2_isAhead 7 = .ok (.getfield 33, 3) := dk_180 0 33 (dk_at dksX2_isAhead_0 7 rfl rfl)
theorem dX2_isAhead_10 : decode cX2_isAhead 10 = .ok (.iload_n 2, 1) := dk_28 (dk_at dksX2_isAhead_0 10 rfl rfl)
theorem dX2_isAhead_11 : decode cX2_isAhead 11 = .ok (.iaload, 1) := dk_46 (dk_at dksX2_isAhead_0 11 rfl rfl)
theorem dX2_isAhead_12 : decode cX2_isAhead 12 = .ok (.if_icmp .eq 24, 3) := dk_159 0 24 (dk_at dksX2_isAhead_0 12 rfl rfl)
theorem dX2_isAhead_15 : decode cX2_isAhead 15 = .ok (.aload_n 0, 1) := dk_42 (dk_at dksX2_isAhead_0 15 rfl rfl)
theorem dX2_isAhead_16 : decode cX2_isAhead 16 = .ok (.getfield 33, 3) := dk_180 0 33 (dk_at dksX2_isAhead_0 16 rfl rfl)
theorem dX2_isAhead_19 : decode cX2_isAhead 19 = .ok (.iload_n 1, 1) := dk_27 (dk_at dksX2_isAhead_0 19 rfl rfl)
theorem dX2_isAhead_20 : decode cX2_isAhead 20 = .ok (.iaload, 1) := dk_46 (dk_at dksX2_isAhead_0 20 rfl rfl)
theorem dX2_isAhead_21 : decode cX2_isAhead 21 = .ok (.aload_n 0, 1) := dk_42 (dk_at dksX2_isAhead_0 21 rfl rfl)
theorem dX2_isAhead_22 : decode cX2_isAhead 22 = .ok (.getfield 33, 3) := dk_180 0 33 (dk_at dksX2_isAhead_1 0 rfl rfl)
theorem dX2_isAhead_25 : decode cX2_isAhead 25 = .ok (.iload_n 2, 1) := dk_28 (dk_at dksX2_isAhead_1 3 rfl rfl)
theorem dX2_isAhead_26 : decode cX2_isAhead 26 = .ok (.iaload, 1) := dk_46 (dk_at dksX2_isAhead_1 4 rfl rfl)
theorem dX2_isAhead_27 : decode cX2_isAhead 27 = .ok (.if_icmp .le 7, 3) := dk_164 0 7 (dk_at dksX2_isAhead_1 5 rfl rfl)
theorem dX2_isAhead_30 : decode cX2_isAhead 30 = .ok (.iconst 1, 1) := dk_4 (dk_at dksX2_isAhead_1 8 rfl rfl)
theorem dX2_isAhead_31 : decode cX2_isAhead 31 = .ok (.goto 4, 3) := dk_167 0 4 (dk_at dksX2_isAhead_1 9 rfl rfl)
theorem dX2_isAhead_34 : decode cX2_isAhead 34 = .ok (.iconst 0, 1) := dk_3 (dk_at dksX2_isAhead_1 12 rfl rfl)
theorem dX2_isAhead_35 : decode cX2_isAhead 35 = .ok (.ireturn, 1) := dk_172 (dk_at dksX2_isAhead_1 13 rfl rfl)
theorem dX2_isAhead_36 : decode cX2_isAhead 36 = .ok (.aload_n 0, 1) := dk_42 (dk_at dksX2_isAhead_1 14 rfl rfl)
theorem dX2_isAhead_37 : decode cX2_isAhead 37 = .ok (.getfield 39, 3) := dk_180 0 39 (dk_at dksX2_isAhead_1 15 rfl rfl)
theorem dX2_isAhead_40 : decode cX2_isAhead 40 = .ok (.iload_n 1, 1) := dk_27 (dk_at dksX2_isAhead_1 18 rfl rfl)
theorem dX2_isAhead_41 : decode cX2_isAhead 41 = .ok (.invokevirtual 225, 3) := dk_182 0 225 (dk_at dksX2_isAhead_1 19 rfl rfl)
theorem dX2_isAhead_44 : decode cX2_isAhead 44 = .ok (.istore_n 3, 1) := dk_62 (dk_at dksX2_isAhead_1 22 rfl rfl)
theorem dX2_isAhead_45 : decode cX2_isAhead 45 = .ok (.aload_n 0, 1) := dk_42 (dk_at dksX2_isAhead_1 23 rfl rfl)
theorem dX2_isAhead_46 : decode cX2_isAhead 46 = .ok (.getfield 39, 3) := dk_180 0 39 (dk_at dksX2_isAhead_2 0 rfl rfl)
theorem dX2_isAhead_49 : decode cX2_isAhead 49 = .ok (.iload_n 2, 1) := dk_28 (dk_at dksX2_isAhead_2 3 rfl rfl)
theorem dX2_isAhead_50 : decode cX2_isAhead 50 = .ok (.invokevirtual 225, 3) := dk_182 0 225 (dk_at dksX2_isAhead_2 4 rfl rfl)
theorem dX2_isAhead_53 : decode cX2_isAhead 53 = .ok (.istore 4, 2) := dk_54 4 (dk_at dksX2_isAhead_2 7 rfl rfl)
theorem dX2_isAhead_55 : decode cX2_isAhead 55 = .ok (.iload_n 3, 1) := dk_29 (dk_at dksX2_isAhead_2 9 rfl rfl)
theorem dX2_isAhead_56 : decode cX2_isAhead 56 = .ok (.iload 4, 2) := dk_21 4 (dk_at dksX2_isAhead_2 10 rfl rfl)
theorem dX2_isAhead_58 : decode cX2_isAhead 58 = .ok (.if_icmp .eq 26, 3) := dk_159 0 26 (dk_at dksX2_isAhead_2 12 rfl rfl)
theorem dX2_isAhead_61 : decode cX2_isAhead 61 = .ok (.iload 4, 2) := dk_21 4 (dk_at dksX2_isAhead_2 15 rfl rfl)
theorem dX2_isAhead_63 : decode cX2_isAhead 63 = .ok (.iconst (-1), 1) := dk_2 (dk_at dksX2_isAhead_2 17 rfl rfl)
theorem dX2_isAhead_64 : decode cX2_isAhead 64 = .ok (.if_icmp .eq 14, 3) := dk_159 0 14 (dk_at dksX2_isAhead_2 18 rfl rfl)
theorem dX2_isAhead_67 : decode cX2_isAhead 67 = .ok (.iload_n 3, 1) := dk_29 (dk_at dksX2_isAhead_2 21 rfl rfl)
theorem dX2_isAhead_68 : decode cX2_isAhead 68 = .ok (.iconst (-1), 1) := dk_2 (dk_at dksX2_isAhead_2 22 rfl rfl)
theorem dX2_isAhead_69 : decode cX2_isAhead 69 = .ok (.if_icmp .eq 13, 3) := dk_159 0 13 (dk_at dksX2_isAhead_3 0 rfl rfl)
theorem dX2_isAhead_72 : decode cX2_isAhead 72 = .ok (.iload_n 3, 1) := dk_29 (dk_at dksX2_isAhead_3 3 rfl rfl)
theorem dX2_isAhead_73 : decode cX2_isAhead 73 = .ok (.iload 4, 2) := dk_21 4 (dk_at dksX2_isAhead_3 4 rfl rfl)
theorem dX2_isAhead_75 : decode cX2_isAhead 75 = .ok (.if_icmp .ge 7, 3) := dk_162 0 7 (dk_at dksX2_isAhead_3 6 rfl rfl)
theorem dX2_isAhead_78 : decode cX2_isAhead 78 = .ok (.iconst 1, 1) := dk_4 (dk_at dksX2_isAhead_3 9 rfl rfl)
theorem dX2_isAhead_79 : decode cX2_isAhead 79 = .ok (.goto 4, 3) := dk_167 0 4 (dk_at dksX2_isAhead_3 10 rfl rfl)
theorem dX2_isAhead_82 : decode cX2_isAhead 82 = .ok (.iconst 0, 1) := dk_3 (dk_at dksX2_isAhead_3 13 rfl rfl)
theorem dX2_isAhead_83 : decode cX2_isAhead 83 = .ok (.ireturn, 1) := dk_172 (dk_at dksX2_isAhead_3 14 rfl rfl)
theorem dX2_isAhead_84 : decode cX2_isAhead 84 = .ok (.iload_n 1, 1) := dk_27 (dk_at dksX2_isAhead_3 15 rfl rfl)
theorem dX2_isAhead_85 : decode cX2_isAhead 85 = .ok (.iload_n 2, 1) := dk_28 (dk_at dksX2_isAhead_3 16 rfl rfl)
theorem dX2_isAhead_86 : decode cX2_isAhead 86 = .ok (.if_icmp .ge 7, 3) := dk_162 0 7 (dk_at dksX2_isAhead_3 17 rfl rfl)
theorem dX2_isAhead_89 : decode cX2_isAhead 89 = .ok (.iconst 1, 1) := dk_4 (dk_at dksX2_isAhead_3 20 rfl rfl)
theorem dX2_isAhead_90 : decode cX2_isAhead 90 = .ok (.goto 4, 3) := dk_167 0 4 (dk_at dksX2_isAhead_3 21 rfl rfl)
theorem dX2_isAhead_93 : decode cX2_isAhead 93 = .ok (.iconst 0, 1) := dk_3 (dk_at dksX2_isAhead_4 0 rfl rfl)
theorem dX2_isAhead_94 : decode cX2_isAhead 94 = .ok (.ireturn, 1) := dk_172 (dk_at dksX2_isAhead_4 1 rfl rfl)
def dkwX2_copy_9 : List UInt8 := [180, 0, 147, 181, 0, 147, 43, 42, 180, 0, 150, 181, 0, 150, 43, 42, 180, 0, 80, 181, 0, 80, 43, 176]
abbrev dktX2_copy_9 : List UInt8 := dkwX2_copy_9 ++ []
def dkwX2_copy_8 : List UInt8 := [180, 0, 138, 181, 0, 138, 43, 42, 180, 0, 141, 181, 0, 141, 43, 42, 180, 0, 144, 181, 0, 144, 43, 42]
abbrev dktX2_copy_8 : List UInt8 := dkwX2_copy_8 ++ dktX2_copy_9
def dkwX2_copy_7 : List UInt8 := [180, 0, 135, 181, 0, 135, 43, 42, 180, 0, 71, 181, 0, 71, 43, 42, 180, 0, 75, 181, 0, 75, 43, 42]
abbrev dktX2_copy_7 : List UInt8 := dkwX2_copy_7 ++ dktX2_copy_8
def dkwX2_copy_6 : List UInt8 := [180, 0, 88, 181, 0, 88, 43, 42, 180, 0, 129, 181, 0, 129, 43, 42, 180, 0, 132, 181, 0, 132, 43, 42]
abbrev dktX2_copy_6 : List UInt8 := dkwX2_copy_6 ++ dktX2_copy_7
def dkwX2_copy_5 : List UInt8 := [180, 0, 39, 42, 180, 0, 39, 182, 0, 126, 43, 180, 0, 43, 42, 180, 0, 43, 182, 0, 126, 43, 42]
abbrev dktX2_copy_5 : List UInt8 := dkwX2_copy_5 ++ dktX2_copy_6
def dkwX2_copy_4 : List UInt8 := [180, 0, 33, 43, 180, 0, 33, 184, 0, 118, 43, 180, 0, 63, 42, 180, 0, 63, 182, 0, 122, 43]
abbrev dktX2_copy_4 : List UInt8 := dkwX2_copy_4 ++ dktX2_copy_5
def dkwX2_copy_3 : List UInt8 := [180, 0, 27, 43, 180, 0, 27, 184, 0, 118, 42, 180, 0, 30, 43, 180, 0, 30, 184, 0, 118, 42]
abbrev dktX2_copy_3 : List UInt8 := dkwX2_copy_3 ++ dktX2_copy_4
def dkwX2_copy_2 : List UInt8 := [180, 0, 21, 43, 180, 0, 21, 184, 0, 118, 42, 180, 0, 24, 43, 180, 0, 24, 184, 0, 118, 42]
abbrev dktX2_copy_2 : List UInt8 := dkwX2_copy_2 ++ dktX2_copy_3
def dkwX2_copy_1 : List UInt8 := [180, 0, 15, 43, 180, 0, 15, 184, 0, 118, 42, 180, 0, 18, 43, 180, 0, 18, 184, 0, 118, 42]
abbrev dktX2_copy_1 : List UInt8 := dkwX2_copy_1 ++ dktX2_copy_2
def dkwX2_copy_0 : List UInt8 := [187, 0, 10, 89, 42, 180, 0, 49, 183, 0, 115, 76, 42, 180, 0, 9, 43, 180, 0, 9, 184, 0, 118, 42]
abbrev dktX2_copy_0 : List UInt8 := dkwX2_copy_0 ++ dktX2_copy_1
theorem dksX2_copy_0 : cX2_copy.data.toList.drop 0 = dktX2_copy_0 := by decide +kernel
theorem dksX2_copy_1 : cX2_copy.data.toList.drop 24 = dktX2_copy_1 := dk_seg dksX2_copy_0 24 rfl rfl
theorem dksX2_copy_2 : cX2_copy.data.toList.drop 46 = dktX2_copy_2 := dk_seg dksX2_copy_1 22 rfl rfl
theorem dksX2_copy_3 : cX2_copy.data.toList.drop 68 = dktX2_copy_3 := dk_seg dksX2_copy_2 22 rfl rfl
theorem dksX2_copy_4 : cX2_copy.data.toList.drop 90 = dktX2_copy_4 := dk_seg dksX2_copy_3 22 rfl rfl
theorem dksX2_copy_5 : cX2_copy.data.toList.drop 112 = dktX2_copy_5 := dk_seg dksX2_copy_4 22 rfl rfl
theorem dksX2_copy_6 : cX2_copy.data.toList.drop 135 = dktX2_copy_6 := dk_seg dksX2_copy_5 23 rfl rfl
theorem dksX2_copy_7 : cX2_copy.data.toList.drop 159 = dktX2_copy_7 := dk_seg dksX2_copy_6 24 rfl rfl
theorem dksX2_copy_8 : cX2_copy.data.toList.drop 183 = dktX2_copy_8 := dk_seg dksX2_copy_7 24 rfl rfl
theorem dksX2_copy_9 : cX2_copy.data.toList.drop 207 = dktX2_copy_9 := dk_seg dksX2_copy_8 24 rfl rfl
theorem dX2_copy_0 : decode cX2_copy 0 = .ok (.new 10, 3) := dk_187 0 10 (dk_at dksX2_copy_0 0 rfl rfl)
theorem dX2_copy_3 : decode cX2_copy 3 = .ok (.dup, 1) := dk_89 (dk_at dksX2_copy_0 3 rfl rfl)
theorem dX2_copy_4 : decode cX2_copy 4 = .ok (.aload_n 0, 1) := dk_42 (dk_at dksX2_copy_0 4 rfl rfl)
theorem dX2_copy_5 : decode cX2_copy 5 = .ok (.getfield 49, 3) := dk_180 0 49 (dk_at dksX2_copy_0 5 rfl rfl)
theorem dX2_copy_8 : decode cX2_copy 8 = .ok (.invokespecial 115, 3) := dk_183 0 115 (dk_at dksX2_copy_0 8 rfl rfl)
theorem dX2_copy_11 : decode cX2_copy 11 = .ok (.astore_n 1, 1) := dk_76 (dk_at dksX2_copy_0 11 rfl rfl)
theorem dX2_copy_12 : decode cX2_copy 12 = .ok (.aload_n 0, 1) := dk_42 (dk_at dksX2_copy_0 12 rfl rfl)
theorem dX2_copy_13 : decode cX2_copy 13 = .ok (.getfield 9, 3) := dk_180 0 9 (dk_at dksX2_copy_0 13 rfl rfl)
theorem dX2_copy_16 : decode cX2_copy 16 = .ok (.aload_n 1, 1) := dk_43 (dk_at dksX2_copy_0 16 rfl rfl)
theorem dX2_copy_17 : decode cX2_copy 17 = .ok (.getfield 9, 3) := dk_180 0 9 (dk_at dksX2_copy_0 17 rfl rfl)
theorem dX2_copy_20 : decode cX2_copy 20 = .ok (.invokestatic 118, 3) := dk_184 0 118 (dk_at dksX2_copy_0 20 rfl rfl)
theorem dX2_copy_23 : decode cX2_copy 23 = .ok (.aload_n 0, 1) := dk_42 (dk_at dksX2_copy_0 23 rfl rfl)
theorem dX2_copy_24 : decode cX2_copy 24 = .ok (.getfield 15, 3) := dk_180 0 15 (dk_at dksX2_copy_1 0 rfl rfl)
theorem dX2_copy_27 : decode cX2_copy 27 = .ok (.aload_n 1, 1) := dk_43 (dk_at dksX2_copy_1 3 rfl rfl)
theorem dX2_copy_28 : decode cX2_copy 28 = .ok (.getfield 15, 3) := dk_180 0 15 (dk_at dksX2_copy_1 4 rfl rfl)
theorem dX2_copy_31 : decode cX2_copy 31 = .ok (.invokestatic 118, 3) := dk_184 0 118 (dk_at dksX2_copy_1 7 rfl rfl)
theorem dX2_copy_34 : decode cX2_copy 34 = .ok (.aload_n 0, 1) := dk_42 (dk_at dksX2_copy_1 10 rfl rfl)
theorem dX2_copy_35 : decode cX2_copy 35 = .ok (.getfield 18, 3) := dk_180 0 18 (dk_at dksX2_copy_1 11 rfl rfl)
theorem dX2_copy_38 : decode cX2_copy 38 = .ok (.aload_n 1, 1) := dk_43 (dk_at dksX2_copy_1 14 rfl rfl)
theorem dX2_copy_39 : decode cX2_copy 39 = .ok (.getfield 18, 3) := dk_180 0 18 (dk_at dksX2_copy_1 15 rfl rfl)
theorem dX2_copy_42 : decode cX2_copy 42 = .ok (.invokestatic 118, 3) := dk_184 0 118 (dk_at dksX2_copy_1 18 rfl rfl)
theorem dX2_copy_45 : decode cX2_copy 45 = .ok (.aload_n 0, 1) := dk_42 (dk_at dksX2_copy_1 21 rfl rfl)
theorem dX2_copy_46 : decode cX2_copy 46 = .ok (.getfield 21, 3) := dk_180 0 21 (dk_at dksX2_copy_2 0 rfl rfl)
theorem dX2_copy_49 : decode cX2_copy 49 = .ok (.aload_n 1, 1) := dk_43 (dk_at dksX2_copy_2 3 rfl rfl)
theorem dX2_copy_50 : decode cX2_copy 50 = .ok (.getfield 21, 3) := dk_180 0 21 (dk_at dksX2_copy_2 4 rfl rfl)
theorem dX2_copy_53 : decode cX2_copy 53 = .ok (.invokestatic 118, 3) := dk_184 0 118 (dk_at dksX2_copy_2 7 rfl rfl)
theorem dX2_copy_56 : decode cX2_copy 56 = .ok (.aload_n 0, 1) := dk_42 (dk_at dksX2_copy_2 10 rfl rfl)
theorem dX2_copy_57 : decode cX2_copy 57 = .ok (.getfield 24, 3) := dk_180 0 24 (dk_at dksX2_copy_2 11 rfl rfl)
theorem dX2_copy_60 : decode cX2_copy 60 = .ok (.aload_n 1, 1) := dk_43 (dk_at dksX2_copy_2 14 rfl rfl)
theorem dX2_copy_61 : decode cX2_copy 61 = .ok (.getfield 24, 3) := dk_180 0 24 (dk_at dksX2_copy_2 15 rfl rfl)
theorem dX2_copy_64 : decode cX2_copy 64 = .ok (.invokestatic 118, 3) := dk_184 0 118 (dk_at dksX2_copy_2 18 rfl rfl)
theorem dX2_copy_67 : decode cX2_copy 67 = .ok (.aload_n 0, 1) := dk_42 (dk_at dksX2_copy_2 21 rfl rfl)
theorem dX2_copy_68 : decode cX2_copy 68 = .ok (.getfield 27, 3) := dk_180 0 27 (dk_at dksX2_copy_3 0 rfl rfl)
theorem dX2_copy_71 : decode cX2_copy 71 = .ok (.aload_n 1, 1) := dk_43 (dk_at dksX2_copy_3 3 rfl rfl)
theorem dX2_copy_72 : decode cX2_copy 72 = .ok (.getfield 27, 3) := dk_180 0 27 (dk_at dksX2_copy_3 4 rfl rfl)
theorem dX2_copy_75 : decode cX2_copy 75 = .ok (.invokestatic 118, 3) := dk_184 0 118 (dk_at dksX2_copy_3 7 rfl rfl)
theorem dX2_copy_78 : decode cX2_copy 78 = .ok (.aload_n 0, 1) := dk_42 (dk_at dksX2_copy_3 10 rfl rfl)
theorem dX2_copy_79 : decode cX2_copy 79 = .ok (.getfield 30, 3) := dk_180 0 30 (dk_at dksX2_copy_3 11 rfl rfl)
theorem dX2_copy_82 : decode cX2_copy 82 = .ok (.aload_n 1, 1) := dk_43 (dk_at dksX2_copy_3 14 rfl rfl)
theorem dX2_copy_83 : decode cX2_copy 83 = .ok (.getfield 30, 3) := dk_180 0 30 (dk_at dksX2_copy_3 15 rfl rfl)
theorem dX2_copy_86 : decode cX2_copy 86 = .ok (.invokestatic 118, 3) := dk_184 0 118 (dk_at dksX2_copy_3 18 rfl rfl)
theorem dX2_copy_89 : decode cX2_copy 89 = .ok (.aload_n 0, 1) := dk_42 (dk_at dksX2_copy_3 21 rfl rfl)
theorem dX2_copy_90 : decode cX2_copy 90 = .ok (.getfield 33, 3) := dk_180 0 33 (dk_at dksX2_copy_4 0 rfl rfl)
theorem dX2_copy_93 : decode cX2_copy 93 = .ok (.aload_n 1, 1) := dk_43 (dk_at dksX2_copy_4 3 rfl rfl)
theorem dX2_copy_94 : decode cX2_copy 94 = .ok (.getfield 33, 3) := dk_180 0 33 (dk_at dksX2_copy_4 4 rfl rfl)
theorem dX2_copy_97 : decode cX2_copy 97 = .ok (.invokestatic 118, 3) := dk_184 0 118 (dk_at dksX2_copy_4 7 rfl rfl)
theorem dX2_copy_100 : decode cX2_copy 100 = .ok (.aload_n 1, 1) := dk_43 (dk_at dksX2_copy_4 10 rfl rfl)
theorem dX2_copy_101 : decode cX2_copy 101 = .ok (.getfield 63, 3) := dk_180 0 63 (dk_at dksX2_copy_4 11 rfl rfl)
theorem dX2_copy_104 : decode cX2_copy 104 = .ok (.aload_n 0, 1) := dk_42 (dk_at dksX2_copy_4 14 rfl rfl)
theorem dX2_copy_105 : decode cX2_copy 105 = .ok (.getfield 63, 3) := dk_180 0 63 (dk_at dksX2_copy_4 15 rfl rfl)
theorem dX2_copy_108 : decode cX2_copy 108 = .ok (.invokevirtual 122, 3) := dk_182 0 122 (dk_at dksX2_copy_4 18 rfl rfl)
theorem dX2_copy_111 : decode cX2_copy 111 = .ok (.aload_n 1, 1) := dk_43 (dk_at dksX2_copy_4 21 rfl rfl)
theorem dX2_copy_112 : decode cX2_copy 112 = .ok (.getfield 39, 3) := dk_180 0 39 (dk_at dksX2_copy_5 0 rfl rfl)
theorem dX2_copy_115 : decode cX2_copy 115 = .ok (.aload_n 0, 1) := dk_42 (dk_at dksX2_copy_5 3 rfl rfl)
theorem dX2_copy_116 : decode cX2_copy 116 = .ok (.getfield 39, 3) := dk_180 0 39 (dk_at dksX2_copy_5 4 rfl rfl)
theorem dX2_copy_119 : decode cX2_copy 119 = .ok (.invokevirtual 126, 3) := dk_182 0 126 (dk_at dksX2_copy_5 7 rfl rfl)
theorem dX2_copy_122 : decode cX2_copy 122 = .ok (.aload_n 1, 1) := dk_43 (dk_at dksX2_copy_5 10 rfl rfl)
theorem dX2_copy_123 : decode cX2_copy 123 = .ok (.getfield 43, 3) := dk_180 0 43 (dk_at dksX2_copy_5 11 rfl rfl)
theorem dX2_copy_126 : decode cX2_copy 126 = .ok (.aload_n 0, 1) := dk_42 (dk_at dksX2_copy_5 14 rfl rfl)
theorem dX2_copy_127 : decode cX2_copy 127 = .ok (.getfield 43, 3) := dk_180 0 43 (dk_at dksX2_copy_5 15 rfl rfl)
theorem dX2_copy_130 : decode cX2_copy 130 = .ok (.invokevirtual 126, 3) := dk_182 0 126 (dk_at dksX2_copy_5 18 rfl rfl)
theorem dX2_copy_133 : decode cX2_copy 133 = .ok (.aload_n 1, 1) := dk_43 (dk_at dksX2_copy_5 21 rfl rfl)
theorem dX2_copy_134 : decode cX2_copy 134 = .ok (.aload_n 0, 1) := dk_42 (dk_at dksX2_copy_5 22 rfl rfl)
theorem dX2_copy_135 : decode cX2_copy 135 = .ok (.getfield 88, 3) := dk_180 0 88 (dk_at dksX2_copy_6 0 rfl rfl)
theorem dX2_copy_138 : decode cX2_copy 138 = .ok (.putfield 88, 3) := dk_181 0 88 (dk_at dksX2_copy_6 3 rfl rfl)
theorem dX2_copy_141 : decode cX2_copy 141 = .ok (.aload_n 1, 1) := dk_43 (dk_at dksX2_copy_6 6 rfl rfl)
theorem dX2_copy_142 : decode cX2_copy 142 = .ok (.aload_n 0, 1) := dk_42 (dk_at dksX2_copy_6 7 rfl rfl)
theorem dX2_copy_143 : decode cX2_copy 143 = .ok (.getfield 129, 3) := dk_180 0 129 (dk_at dksX2_copy_6 8 rfl rfl)
theorem dX2_copy_146 : decode cX2_copy 146 = .ok (.putfield 129, 3) := dk_181 0 129 (dk_at dksX2_copy_6 11 rfl rfl)
theorem dX2_copy_149 : decode cX2_copy 149 = .ok (.aload_n 1, 1) := dk_43 (dk_at dksX2_copy_6 14 rfl rfl)
theorem dX2_copy_150 : decode cX2_copy 150 = .ok (.aload_n 0, 1) := dk_42 (dk_at dksX2_copy_6 15 rfl rfl)
theorem dX2_copy_151 : decode cX2_copy 151 = .ok (.getfield 132, 3) := dk_180 0 132 (dk_at dksX2_copy_6 16 rfl rfl)
theorem dX2_copy_154 : decode cX2_copy 154 = .ok (.putfield 132, 3) := dk_181 0 132 (dk_at dksX2_copy_6 19 rfl rfl)
theorem dX2_copy_157 : decode cX2_copy 157 = .ok (.aload_n 1, 1) := dk_43 (dk_at dksX2_copy_6 22 rfl rfl)
theorem dX2_copy_158 : decode cX2_copy 158 = .ok (.aload_n 0, 1) := dk_42 (dk_at dksX2_copy_6 23 rfl rfl)
theorem dX2_copy_159 : decode cX2_copy 159 = .ok (.getfield 135, 3) := dk_180 0 135 (dk_at dksX2_copy_7 0 rfl rfl)
theorem dX2_copy_162 : decode cX2_copy 162 = .ok (.putfield 135, 3) := dk_181 0 135 (dk_at dksX2_copy_7 3 rfl rfl)
theorem dX2_copy_165 : decode cX2_copy 165 = .ok (.aload_n 1, 1) := dk_43 (dk_at dksX2_copy_7 6 rfl rfl)
theorem dX2_copy_166 : decode cX2_copy 166 = .ok (.aload_n 0, 1) := dk_42 (dk_at dksX2_copy_7 7 rfl rfl)
theorem dX2_copy_167 : decode cX2_copy 167 = .ok (.getfield 71, 3) := dk_180 0 71 (dk_at dksX2_copy_7 8 rfl rfl)
theorem dX2_copy_170 : decode cX2_copy 170 = .ok (.putfield 71, 3) := dk_181 0 71 (dk_at dksX2_copy_7 11 rfl rfl)
theorem dX2_copy_173 : decode cX2_copy 173 = .ok (.aload_n 1, 1) := dk_43 (dk_at dksX2_copy_7 14 rfl rfl)
theorem dX2_copy_174 : decode cX2_copy 174 = .ok (.aload_n 0, 1) := dk_42 (dk_at dksX2_copy_7 15 rfl rfl)
theorem dX2_copy_175 : decode cX2_copy 175 = .ok (.getfield 75, 3) := dk_180 0 75 (dk_at dksX2_copy_7 16 rfl rfl)
theorem dX2_copy_178 : decode cX2_copy 178 = .ok (.putfield 75, 3) := dk_181 0 75 (dk_at dksX2_copy_7 19 rfl rfl)
theorem dX2_copy_181 : decode cX2_copy 181 = .ok (.aload_n 1, 1) := dk_43 (dk_at dksX2_copy_7 22 rfl rfl)
theorem dX2_copy_182 : decode cX2_copy 182 = .ok (.aload_n 0, 1) := dk_42 (dk_at dksX2_copy_7 23 rfl rfl)
theorem dX2_copy_183 : decode cX2_copy 183 = .ok (.getfield 138, 3) := dk_180 0 138 (dk_at dksX2_copy_8 0 rfl rfl)
theorem dX2_copy_186 : decode cX2_copy 186 = .ok (.putfield 138, 3) := dk_181 0 138 (dk_at dksX2_copy_8 3 rfl rfl)
theorem dX2_copy_189 : decode cX2_copy 189 = .ok (.aload_n 1, 1) := dk_43 (dk_at dksX2_copy_8 6 rfl rfl)
theorem dX2_copy_190 : decode cX2_copy 190 = .ok (.aload_n 0, 1) := dk_42 (dk_at dksX2_copy_8 7 rfl rfl)
theorem dX2_copy_191 : decode cX2_copy 191 = .ok (.getfield 141, 3) := dk_180 0 141 (dk_at dksX2_copy_8 8 rfl rfl)
theorem dX2_copy_194 : decode cX2_copy 194 = .ok (.putfield 141, 3) := dk_181 0 141 (dk_at dksX2_copy_8 11 rfl rfl)
theorem dX2_copy_197 : decode cX2_copy 197 = .ok (.aload_n 1, 1) := dk_43 (dk_at dksX2_copy_8 14 rfl rfl)
theorem dX2_copy_198 : decode cX2_copy 198 = .ok (.aload_n 0, 1) := dk_42 (dk_at dksX2_copy_8 15 rfl rfl)
theorem dX2_copy_199 : decode cX2_copy 199 = .ok (.getfield 144, 3) := dk_180 0 144 (dk_at dksX2_copy_8 16 rfl rfl)
theorem dX2_copy_202 : decode cX2_copy 202 = .ok (.putfield 144, 3) := dk_181 0 144 (dk_at dksX2_copy_8 19 rfl rfl)
theorem dX2_copy_205 : decode cX2_copy 205 = .ok (.aload_n 1, 1) := dk_43 (dk_at dksX2_copy_8 22 rfl rfl)
theorem dX2_copy_206 : decode cX2_copy 206 = .ok (.aload_n 0, 1) := dk_42 (dk_at dksX2_copy_8 23 rfl rfl)
theorem dX2_copy_207 : decode cX2_copy 207 = .ok (.getfield 147, 3) := dk_180 0 147 (dk_at dksX2_copy_9 0 rfl rfl)
theorem dX2_copy_210 : decode cX2_copy 210 = .ok (.putfield 147, 3) := dk_181 0 147 (dk_at dksX2_copy_9 3 rfl rfl)
theorem dX2_copy_213 : decode cX2_copy 213 = .ok (.aload_n 1, 1) := dk_43 (dk_at dksX2_copy_9 6 rfl rfl)
theorem dX2_copy_214 : decode cX2_copy 214 = .ok (.aload_n 0, 1) := dk_42 (dk_at dksX2_copy_9 7 rfl rfl)
theorem dX2_copy_215 : decode cX2_copy 215 = .ok (.getfield 150, 3) := dk_180 0 150 (dk_at dksX2_copy_9 8 rfl rfl)
theorem dX2_copy_218 : decode cX2_copy 218 = .ok (.putfield 150, 3) := dk_181 0 150 (dk_at dksX2_copy_9 11 rfl rfl)
theorem dX2_copy_221 : decode cX2_copy 221 = .ok (.aload_n 1, 1) := dk_43 (dk_at dksX2_copy_9 14 rfl rfl)
theorem dX2_copy_222 : decode cX2_copy 222 = .ok (.aload_n 0, 1) := dk_42 (dk_at dksX2_copy_9 15 rfl rfl)
theorem dX2_copy_223 : decode cX2_copy 223 = .ok (.getfield 80, 3) := dk_180 0 80 (dk_at dksX2_copy_9 16 rfl rfl)
theorem dX2_copy_226 : decode cX2_copy 226 = .ok (.putfield 80, 3) := dk_181 0 80 (dk_at dksX2_copy_9 19 rfl rfl)
theorem dX2_copy_229 : decode cX2_copy 229 = .ok (.aload_n 1, 1) := dk_43 (dk_at dksX2_copy_9 22 rfl rfl)
theorem dX2_copy_230 : decode cX2_copy 230 = .ok (.areturn, 1) := dk_176 (dk_at dksX2_copy_9 23 rfl rfl)
def dkwX2_copy_2_0 : List UInt8 := [42, 3, 43, 3, 42, 190, 184, 0, 109, 177]
abbrev dktX2_copy_2_0 : List UInt8 := dkwX2_copy_2_0 ++ []
theorem dksX2_copy_2_0 : cX2_copy_2.data.toList.drop 0 = dktX2_copy_2_0 := by decide +kernel
theorem dX2_copy_2_0 : decode cX2_copy_2 0 = .ok (.aload_n 0, 1) := dk_42 (dk_at dksX2_copy_2_0 0 rfl rfl)
theorem dX2_copy_2_1 : decode cX2_copy_2 1 = .ok (.iconst 0, 1) := dk_3 (dk_at dksX2_copy_2_0 1 rfl rfl)
theorem dX2_copy_2_2 : decode cX2_copy_2 2 = .ok (.aload_n 1, 1) := dk_43 (dk_at dksX2_copy_2_0 2 rfl rfl)
theorem dX2_copy_2_3 : decode cX2_copy_2 3 = .ok (.iconst 0, 1) := dk_3 (dk_at dksX2_copy_2_0 3 rfl rfl)
theorem dX2_copy_2_4 : decode cX2_copy_2 4 = .ok (.aload_n 0, 1) := dk_42 (dk_at dksX2_copy_2_0 4 rfl rfl)
theorem dX2_copy_2_5 : decode cX2_copy_2 5 = .ok (.arraylength, 1) := dk_190 (dk_at dksX2_copy_2_0 5 rfl rfl)
theorem dX2_copy_2_6 : decode cX2_copy_2 6 = .ok (.invokestatic 109, 3) := dk_184 0 109 (dk_at dksX2_copy_2_0 6 rfl rfl)
theorem dX2_copy_2_9 : decode cX2_copy_2 9 = .ok (.return_, 1) := dk_177 (dk_at dksX2_copy_2_0 9 rfl rfl)
def dkwX2_forget_0 : List UInt8 := [42, 180, 0, 135, 184, 1, 38, 60, 42, 3, 181, 0, 135, 42, 180, 0, 39, 3, 181, 0, 192, 27, 172]
abbrev dktX2_forget_0 : List UInt8 := dkwX2_forget_0 ++ []
theorem dksX2_forget_0 : cX2_forget.data.toList.drop 0 = dktX2_forget_0 := by decide +kernel
theorem dX2_forget_0 : decode cX2_forget 0 = .ok (.aload_n 0, 1) := dk_42 (dk_at dksX2_forget_0 0 rfl rfl)
theorem dX2_forget_1 : decode cX2_forget 1 = .ok (.getfield 135, 3) := dk_180 0 135 (dk_at dksX2_forget_0 1 rfl rfl)
theorem dX2_forget_4 : decode cX2_forget 4 = .ok (.invokestatic 294, 3) := dk_184 1 38 (dk_at dksX2_forget_0 4 rfl rfl)
theorem dX2_forget_7 : decode cX2_forget 7 = .ok (.istore_n 1, 1) := dk_60 (dk_at dksX2_forget_0 7 rfl rfl)
theorem dX2_forget_8 : decode cX2_forget 8 = .ok (.aload_n 0, 1) := dk_42 (dk_at dksX2_forget_0 8 rfl rfl)
theorem dX2_forget_9 : decode cX2_forget 9 = .ok (.iconst 0, 1) := dk_3 (dk_at dksX2_forget_0 9 rfl rfl)
theorem dX2_forget_10 : decode cX2_forget 10 = .ok (.putfield 135, 3) := dk_181 0 135 (dk_at dksX2_forget_0 10 rfl rfl)
theorem dX2_forget_13 : decode cX2_forget 13 = .ok (.aload_n 0, 1) := dk_42 (dk_at dksX2_forget_0 13 rfl rfl)
theorem dX2_forget_14 : decode cX2_forget 14 = .ok (.getfield 39, 3) := dk_180 0 39 (dk_at dksX2_forget_0 14 rfl rfl)
theorem dX2_forget_17 : decode cX2_forget 17 = .ok (.iconst 0, 1) := dk_3 (dk_at dksX2_forget_0 17 rfl rfl)
theorem dX2_forget_18 : decode cX2_forget 18 = .ok (.putfield 192, 3) := dk_181 0 192 (dk_at dksX2_forget_0 18 rfl rfl)
theorem dX2_forget_21 : decode cX2_forget 21 = .ok (.iload_n 1, 1) := dk_27 (dk_at dksX2_forget_0 21 rfl rfl)
theorem dX2_forget_22 : decode cX2_forget 22 = .ok (.ireturn, 1) := dk_172 (dk_at dksX2_forget_0 22 rfl rfl)
def dkwX2_isDark_0 : List UInt8 := [42, 180, 0, 138, 42, 180, 0, 141, 162, 0, 7, 4, 167, 0, 4, 3, 172]
abbrev dktX2_isDark_0 : List UInt8 := dkwX2_isDark_0 ++ []
theorem dksX2_isDark_0 : cX2_isDark.data.toList.drop 0 = dktX2_isDark_0 := by decide +kernel
theorem dX2_isDark_0 : decode cX2_isDark 0 = .ok (.aload_n 0, 1) := dk_42 (dk_at dksX2_isDark_0 0 rfl rfl)
theorem dX2_isDark_1 : decode cX2_isDark 1 = .ok (.getfield 138, 3) := dk_180 0 138 (dk_at dksX2_isDark_0 1 rfl rfl)
theorem dX2_isDark_4 : decode cX2_isDark 4 = .ok (.aload_n 0, 1) := dk_42 (dk_at dksX2_isDark_0 4 rfl rfl)
theorem dX2_isDark_5 : decode cX2_isDark 5 = .ok (.getfield 141, 3) := dk_180 0 141 (dk_at dksX2_isDark_0 5 rfl rfl)
theorem dX2_isDark_8 : decode cX2_isDark 8 = .ok (.if_icmp .ge 7, 3) := dk_162 0 7 (dk_at dksX2_isDark_0 8 rfl rfl)
theorem dX2_isDark_11 : decode cX2_isDark 11 = .ok (.iconst 1, 1) := dk_4 (dk_at dksX2_isDark_0 11 rfl rfl)
theorem dX2_isDark_12 : decode cX2_isDark 12 = .ok (.goto 4, 3) := dk_167 0 4 (dk_at dksX2_isDark_0 12 rfl rfl)
theorem dX2_isDark_15 : decode cX2_isDark 15 = .ok (.iconst 0, 1) := dk_3 (dk_at dksX2_isDark_0 15 rfl rfl)
theorem dX2_isDark_16 : decode cX2_isDark 16 = .ok (.ireturn, 1) := dk_172 (dk_at dksX2_isDark_0 16 rfl rfl)
def dkwX2_inState_1 : List UInt8 := [160, 0, 9, 4, 29, 120, 167, 0, 4, 3, 128, 61, 132, 3, 1, 167, 255, 222, 28, 172]
abbrev dktX2_inState_1 : List UInt8 := dkwX2_inState_1 ++ []
def dkwX2_inState_0 : List UInt8 := [3, 61, 3, 62, 29, 42, 180, 0, 49, 182, 0, 81, 162, 0, 29, 28, 42, 180, 0, 9, 29, 46, 27]
abbrev dktX2_inState_0 : List UInt8 := dkwX2_inState_0 ++ dktX2_inState_1
theorem dksX2_inState_0 : cX2_inState.data.toList.drop 0 = dktX2_inState_0 := by decide +kernel
theorem dksX2_inState_1 : cX2_inState.data.toList.drop 23 = dktX2_inState_1 := dk_seg dksX2_inState_0 23 rfl rfl
theorem dX2_inState_0 : decode cX2_inState 0 = .ok (.iconst 0, 1) := dk_3 (dk_at dksX2_inState_0 0 rfl rfl)
theorem dX2_inState_1 : decode cX2_inState 1 = .ok (.istore_n 2, 1) := dk_61 (dk_at dksX2_inState_0 1 rfl rfl)
theorem dX2_inState_2 : decode cX2_inState 2 = .ok (.iconst 0, 1) := dk_3 (dk_at dksX2_inState_0 2 rfl rfl)
theorem dX2_inState_3 : decode cX2_inState 3 = .ok (.istore_n 3, 1) := dk_62 (dk_at dksX2_inState_0 3 rfl rfl)
theorem dX2_inState_4 : decode cX2_inState 4 = .ok (.iload_n 3, 1) := dk_29 (dk_at dksX2_inState_0 4 rfl rfl)
theorem dX2_inState_5 : decode cX2_inState 5 = .ok (.aload_n 0, 1) := dk_42 (dk_at dksX2_inState_0 5 rfl rfl)
theorem dX2_inState_6 : decode cX2_inState 6 = .ok (.getfield 49, 3) := dk_180 0 49 (dk_at dksX2_inState_0 6 rfl rfl)
theorem dX2_inState_9 : decode cX2_inState 9 = .ok (.invokevirtual 81, 3) := dk_182 0 81 (dk_at dksX2_inState_0 9 rfl rfl)
theorem dX2_inState_12 : decode cX2_inState 12 = .ok (.if_icmp .ge 29, 3) := dk_162 0 29 (dk_at dksX2_inState_0 12 rfl rfl)
theorem dX2_inState_15 : decode cX2_inState 15 = .ok (.iload_n 2, 1) := dk_28 (dk_at dksX2_inState_0 15 rfl rfl)
theorem dX2_inState_16 : decode cX2_inState 16 = .ok (.aload_n 0, 1) := dk_42 (dk_at dksX2_inState_0 16 rfl rfl)
theorem dX2_inState_17 : decode cX2_inState 17 = .ok (.getfield 9, 3) := dk_180 0 9 (dk_at dksX2_inState_0 17 rfl rfl)
theorem dX2_inState_20 : decode cX2_inState 20 = .ok (.iload_n 3, 1) := dk_29 (dk_at dksX2_inState_0 20 rfl rfl)
theorem dX2_inState_21 : decode cX2_inState 21 = .ok (.iaload, 1) := dk_46 (dk_at dksX2_inState_0 21 rfl rfl)
theorem dX2_inState_22 : decode cX2_inState 22 = .ok (.iload_n 1, 1) := dk_27 (dk_at dksX2_inState_0 22 rfl rfl)
theorem dX2_inState_23 : decode cX2_inState 23 = .ok (.if_icmp .ne 9, 3) := dk_160 0 9 (dk_at dksX2_inState_1 0 rfl rfl)
theorem dX2_inState_26 : decode cX2_inState 26 = .ok (.iconst 1, 1) := dk_4 (dk_at dksX2_inState_1 3 rfl rfl)
theorem dX2_inState_27 : decode cX2_inState 27 = .ok (.iload_n 3, 1) := dk_29 (dk_at dksX2_inState_1 4 rfl rfl)
theorem dX2_inState_28 : decode cX2_inState 28 = .ok (.ishl, 1) := dk_120 (dk_at dksX2_inState_1 5 rfl rfl)
theorem dX2_inState_29 : decode cX2_inState 29 = .ok (.goto 4, 3) := dk_167 0 4 (dk_at dksX2_inState_1 6 rfl rfl)
theorem dX2_inState_32 : decode cX2_inState 32 = .ok (.iconst 0, 1) := dk_3 (dk_at dksX2_inState_1 9 rfl rfl)
theorem dX2_inState_33 : decode cX2_inState 33 = .ok (.ior, 1) := dk_128 (dk_at dksX2_inState_1 10 rfl rfl)
theorem dX2_inState_34 : decode cX2_inState 34 = .ok (.istore_n 2, 1) := dk_61 (dk_at dksX2_inState_1 11 rfl rfl)
theorem dX2_inState_35 : decode cX2_inState 35 = .ok (.iinc 3 1, 3) := dk_132 3 1 (dk_at dksX2_inState_1 12 rfl rfl)
theorem dX2_inState_38 : decode cX2_inState 38 = .ok (.goto (-34), 3) := dk_167 255 222 (dk_at dksX2_inState_1 15 rfl rfl)
theorem dX2_inState_41 : decode cX2_inState 41 = .ok (.iload_n 2, 1) := dk_28 (dk_at dksX2_inState_1 18 rfl rfl)
theorem dX2_inState_42 : decode cX2_inState 42 = .ok (.ireturn, 1) := dk_172 (dk_at dksX2_inState_1 19 rfl rfl)
def dkwX2_load_1 : List UInt8 := [132, 2, 1, 167, 255, 234, 27, 172]
abbrev dktX2_load_1 : List UInt8 := dkwX2_load_1 ++ []
def dkwX2_load_0 : List UInt8 := [3, 60, 3, 61, 28, 42, 180, 0, 49, 182, 0, 81, 162, 0, 17, 27, 42, 28, 182, 0, 169, 96, 60]
abbrev dktX2_load_0 : List UInt8 := dkwX2_load_0 ++ dktX2_load_1
theorem dksX2_load_0 : cX2_load.data.toList.drop 0 = dktX2_load_0 := by decide +kernel
theorem dksX2_load_1 : cX2_load.data.toList.drop 23 = dktX2_load_1 := dk_seg dksX2_load_0 23 rfl rfl
theorem dX2_load_0 : decode cX2_load 0 = .ok (.iconst 0, 1) := dk_3 (dk_at dksX2_load_0 0 rfl rfl)
theorem dX2_load_1 : decode cX2_load 1 = .ok (.istore_n 1, 1) := dk_60 (dk_at dksX2_load_0 1 rfl rfl)
theorem dX2_load_2 : decode cX2_load 2 = .ok (.iconst 0, 1) := dk_3 (dk_at dksX2_load_0 2 rfl rfl)
theorem dX2_load_3 : decode cX2_load 3 = .ok (.istore_n 2, 1) := dk_61 (dk_at dksX2_load_0 3 rfl rfl)
theorem dX2_load_4 : decode cX2_load 4 = .ok (.iload_n 2, 1) := dk_28 (dk_at dksX2_load_0 4 rfl rfl)
theorem dX2_load_5 : decode cX2_load 5 = .ok (.aload_n 0, 1) := dk_42 (dk_at dksX2_load_0 5 rfl rfl)
theorem dX2_load_6 : decode cX2_load 6 = .ok (.getfield 49, 3) := dk_180 0 49 (dk_at dksX2_load_0 6 rfl rfl)
theorem dX2_load_9 : decode cX2_load 9 = .ok (.invokevirtual 81, 3) := dk_182 0 81 (dk_at dksX2_load_0 9 rfl rfl)
theorem dX2_load_12 : decode cX2_load 12 = .ok (.if_icmp .ge 17, 3) := dk_162 0 17 (dk_at dksX2_load_0 12 rfl rfl)
theorem dX2_load_15 : decode cX2_load 15 = .ok (.iload_n 1, 1) := dk_27 (dk_at dksX2_load_0 15 rfl rfl)
theorem dX2_load_16 : decode cX2_load 16 = .ok (.aload_n 0, 1) := dk_42 (dk_at dksX2_load_0 16 rfl rfl)
theorem dX2_load_17 : decode cX2_load 17 = .ok (.iload_n 2, 1) := dk_28 (dk_at dksX2_load_0 17 rfl rfl)
theorem dX2_load_18 : decode cX2_load 18 = .ok (.invokevirtual 169, 3) := dk_182 0 169 (dk_at dksX2_load_0 18 rfl rfl)
theorem dX2_load_21 : decode cX2_load 21 = .ok (.iadd, 1) := dk_96 (dk_at dksX2_load_0 21 rfl rfl)
theorem dX2_load_22 : decode cX2_load 22 = .ok (.istore_n 1, 1) := dk_60 (dk_at dksX2_load_0 22 rfl rfl)
theorem dX2_load_23 : decode cX2_load 23 = .ok (.iinc 2 1, 3) := dk_132 2 1 (dk_at dksX2_load_1 0 rfl rfl)
theorem dX2_load_26 : decode cX2_load 26 = .ok (.goto (-22), 3) := dk_167 255 234 (dk_at dksX2_load_1 3 rfl rfl)
theorem dX2_load_29 : decode cX2_load 29 = .ok (.iload_n 1, 1) := dk_27 (dk_at dksX2_load_1 6 rfl rfl)
theorem dX2_load_30 : decode cX2_load 30 = .ok (.ireturn, 1) := dk_172 (dk_at dksX2_load_1 7 rfl rfl)
def dkwX2_draw_1 : List UInt8 := [180, 0, 9, 27, 46, 6, 160, 0, 14, 42, 27, 182, 0, 153, 180, 0, 166, 167, 0, 4, 3, 172]
abbrev dktX2_draw_1 : List UInt8 := dkwX2_draw_1 ++ []
def dkwX2_draw_0 : List UInt8 := [42, 180, 0, 9, 27, 46, 5, 160, 0, 14, 42, 27, 182, 0, 153, 180, 0, 163, 167, 0, 25, 42]
abbrev dktX2_draw_0 : List UInt8 := dkwX2_draw_0 ++ dktX2_draw_1
theorem dksX2_draw_0 : cX2_draw.data.toList.drop 0 = dktX2_draw_0 := by decide +kernel
theorem dksX2_draw_1 : cX2_draw.data.toList.drop 22 = dktX2_draw_1 := dk_seg dksX2_draw_0 22 rfl rfl
theorem dX2_draw_0 : decode cX2_draw 0 = .ok (.aload_n 0, 1) := dk_42 (dk_at dksX2_draw_0 0 rfl rfl)
theorem dX2_draw_1 : decode cX2_draw 1 = .ok (.getfield 9, 3) := dk_180 0 9 (dk_at dksX2_draw_0 1 rfl rfl)
theorem dX2_draw_4 : decode cX2_draw 4 = .ok (.iload_n 1, 1) := dk_27 (dk_at dksX2_draw_0 4 rfl rfl)
theorem dX2_draw_5 : decode cX2_draw 5 = .ok (.iaload, 1) := dk_46 (dk_at dksX2_draw_0 5 rfl rfl)
theorem dX2_draw_6 : decode cX2_draw 6 = .ok (.iconst 2, 1) := dk_5 (dk_at dksX2_draw_0 6 rfl rfl)
theorem dX2_draw_7 : decode cX2_draw 7 = .ok (.if_icmp .ne 14, 3) := dk_160 0 14 (dk_at dksX2_draw_0 7 rfl rfl)
theorem dX2_draw_10 : decode cX2_draw 10 = .ok (.aload_n 0, 1) := dk_42 (dk_at dksX2_draw_0 10 rfl rfl)
theorem dX2_draw_11 : decode cX2_draw 11 = .ok (.iload_n 1, 1) := dk_27 (dk_at dksX2_draw_0 11 rfl rfl)
theorem dX2_draw_12 : decode cX2_draw 12 = .ok (.invokevirtual 153, 3) := dk_182 0 153 (dk_at dksX2_draw_0 12 rfl rfl)
theorem dX2_draw_15 : decode cX2_draw 15 = .ok (.getfield 163, 3) := dk_180 0 163 (dk_at dksX2_draw_0 15 rfl rfl)
theorem dX2_draw_18 : decode cX2_draw 18 = .ok (.goto 25, 3) := dk_167 0 25 (dk_at dksX2_draw_0 18 rfl rfl)
theorem dX2_draw_21 : decode cX2_draw 21 = .ok (.aload_n 0, 1) := dk_42 (dk_at dksX2_draw_0 21 rfl rfl)
theorem dX2_draw_22 : decode cX2_draw 22 = .ok (.getfield 9, 3) := dk_180 0 9 (dk_at dksX2_draw_1 0 rfl rfl)
theorem dX2_draw_25 : decode cX2_draw 25 = .ok (.iload_n 1, 1) := dk_27 (dk_at dksX2_draw_1 3 rfl rfl)
theorem dX2_draw_26 : decode cX2_draw 26 = .ok (.iaload, 1) := dk_46 (dk_at dksX2_draw_1 4 rfl rfl)
theorem dX2_draw_27 : decode cX2_draw 27 = .ok (.iconst 3, 1) := dk_6 (dk_at dksX2_draw_1 5 rfl rfl)
theorem dX2_draw_28 : decode cX2_draw 28 = .ok (.if_icmp .ne 14, 3) := dk_160 0 14 (dk_at dksX2_draw_1 6 rfl rfl)
theorem dX2_draw_31 : decode cX2_draw 31 = .ok (.aload_n 0, 1) := dk_42 (dk_at dksX2_draw_1 9 rfl rfl)
theorem dX2_draw_32 : decode cX2_draw 32 = .ok (.iload_n 1, 1) := dk_27 (dk_at dksX2_draw_1 10 rfl rfl)
theorem dX2_draw_33 : decode cX2_draw 33 = .ok (.invokevirtual 153, 3) := dk_182 0 153 (dk_at dksX2_draw_1 11 rfl rfl)
theorem dX2_draw_36 : decode cX2_draw 36 = .ok (.getfield 166, 3) := dk_180 0 166 (dk_at dksX2_draw_1 14 rfl rfl)
theorem dX2_draw_39 : decode cX2_draw 39 = .ok (.goto 4, 3) := dk_167 0 4 (dk_at dksX2_draw_1 17 rfl rfl)
theorem dX2_draw_42 : decode cX2_draw 42 = .ok (.iconst 0, 1) := dk_3 (dk_at dksX2_draw_1 20 rfl rfl)
theorem dX2_draw_43 : decode cX2_draw 43 = .ok (.ireturn, 1) := dk_172 (dk_at dksX2_draw_1 21 rfl rfl)
def dkwX2_passes_5 : List UInt8 := [182, 1, 35, 177]
abbrev dktX2_passes_5 : List UInt8 := dkwX2_passes_5 ++ []
def dkwX2_passes_4 : List UInt8 := [162, 0, 14, 42, 27, 182, 1, 26, 132, 1, 1, 167, 255, 237, 42, 182, 1, 29, 42, 182, 1, 32, 42]
abbrev dktX2_passes_4 : List UInt8 := dkwX2_passes_4 ++ dktX2_passes_5
def dkwX2_passes_3 : List UInt8 := [180, 0, 138, 4, 96, 181, 0, 138, 177, 42, 182, 1, 23, 3, 60, 27, 42, 180, 0, 49, 182, 0, 81]
abbrev dktX2_passes_3 : List UInt8 := dkwX2_passes_3 ++ dktX2_passes_4
def dkwX2_passes_2 : List UInt8 := [182, 1, 17, 182, 0, 249, 167, 255, 218, 42, 182, 1, 20, 153, 0, 19, 42, 3, 181, 0, 246, 42, 89]
abbrev dktX2_passes_2 : List UInt8 := dkwX2_passes_2 ++ dktX2_passes_3
def dkwX2_passes_1 : List UInt8 := [185, 1, 9, 1, 0, 192, 1, 13, 77, 44, 182, 1, 15, 42, 180, 0, 138, 160, 0, 11, 42, 44]
abbrev dktX2_passes_1 : List UInt8 := dkwX2_passes_1 ++ dktX2_passes_2
def dkwX2_passes_0 : List UInt8 := [42, 180, 0, 49, 180, 0, 252, 185, 0, 255, 1, 0, 76, 43, 185, 1, 3, 1, 0, 153, 0, 35, 43]
abbrev dktX2_passes_0 : List UInt8 := dkwX2_passes_0 ++ dktX2_passes_1
theorem dksX2_passes_0 : cX2_passes.data.toList.drop 0 = dktX2_passes_0 := by decide +kernel
theorem dksX2_passes_1 : cX2_passes.data.toList.drop 23 = dktX2_passes_1 := dk_seg dksX2_passes_0 23 rfl rfl
theorem dksX2_passes_2 : cX2_passes.data.toList.drop 45 = dktX2_passes_2 := dk_seg dksX2_passes_1 22 rfl rfl
theorem dksX2_passes_3 : cX2_passes.data.toList.drop 68 = dktX2_passes_3 := dk_seg dksX2_passes_2 23 rfl rfl
theorem dksX2_passes_4 : cX2_passes.data.toList.drop 91 = dktX2_passes_4 := dk_seg dksX2_passes_3 23 rfl rfl
theorem dksX2_passes_5 : cX2_passes.data.toList.drop 114 = dktX2_passes_5 := dk_seg dksX2_passes_4 23 rfl rfl
theorem dX2_passes_0 : decode cX2_passes 0 = .ok (.aload_n 0, 1) := dk_42 (dk_at dksX2_passes_0 0 rfl rfl)
theorem dX2_passes_1 : decode cX2_passes 1 = .ok (.getfield 49, 3) := dk_180 0 49 (dk_at dksX2_passes_0 1 rfl rfl)
theorem dX2_passes_4 : decode cX2_passes 4 = .ok (.getfield 252, 3) := dk_180 0 252 (dk_at dksX2_passes_0 4 rfl rfl)
theorem dX2_passes_7 : decode cX2_passes 7 = .ok (.invokeinterface 255 1, 5) := by decide +kernel
theorem dX2_passes_12 : decode cX2_passes 12 = .ok (.astore_n 1, 1) := dk_76 (dk_at dksX2_passes_0 12 rfl rfl)
theorem dX2_passes_13 : decode cX2_passes 13 = .ok (.aload_n 1, 1) := dk_43 (dk_at dksX2_passes_0 13 rfl rfl)
theorem dX2_passes_14 : decode cX2_passes 14 = .ok (.invokeinterface 259 1, 5) := by decide +kernel
theorem dX2_passes_19 : decode cX2_passes 19 = .ok (.ifCond .eq 35, 3) := dk_153 0 35 (dk_at dksX2_passes_0 19 rfl rfl)
theorem dX2_passes_22 : decode cX2_passes 22 = .ok (.aload_n 1, 1) := dk_43 (dk_at dksX2_passes_0 22 rfl rfl)
theorem dX2_passes_23 : decode cX2_passes 23 = .ok (.invokeinterface 265 1, 5) := by decide +kernel
theorem dX2_passes_28 : decode cX2_passes 28 = .ok (.checkcast 269, 3) := dk_192 1 13 (dk_at dksX2_passes_1 5 rfl rfl)
theorem dX2_passes_31 : decode cX2_passes 31 = .ok (.astore_n 2, 1) := dk_77 (dk_at dksX2_passes_1 8 rfl rfl)
theorem dX2_passes_32 : decode cX2_passes 32 = .ok (.aload_n 2, 1) := dk_44 (dk_at dksX2_passes_1 9 rfl rfl)
theorem dX2_passes_33 : decode cX2_passes 33 = .ok (.invokevirtual 271, 3) := dk_182 1 15 (dk_at dksX2_passes_1 10 rfl rfl)
theorem dX2_passes_36 : decode cX2_passes 36 = .ok (.aload_n 0, 1) := dk_42 (dk_at dksX2_passes_1 13 rfl rfl)
theorem dX2_passes_37 : decode cX2_passes 37 = .ok (.getfield 138, 3) := dk_180 0 138 (dk_at dksX2_passes_1 14 rfl rfl)
theorem dX2_passes_40 : decode cX2_passes 40 = .ok (.if_icmp .ne 11, 3) := dk_160 0 11 (dk_at dksX2_passes_1 17 rfl rfl)
theorem dX2_passes_43 : decode cX2_passes 43 = .ok (.aload_n 0, 1) := dk_42 (dk_at dksX2_passes_1 20 rfl rfl)
theorem dX2_passes_44 : decode cX2_passes 44 = .ok (.aload_n 2, 1) := dk_44 (dk_at dksX2_passes_1 21 rfl rfl)
theorem dX2_passes_45 : decode cX2_passes 45 = .ok (.invokevirtual 273, 3) := dk_182 1 17 (dk_at dksX2_passes_2 0 rfl rfl)
theorem dX2_passes_48 : decode cX2_passes 48 = .ok (.invokevirtual 249, 3) := dk_182 0 249 (dk_at dksX2_passes_2 3 rfl rfl)
theorem dX2_passes_51 : decode cX2_passes 51 = .ok (.goto (-38), 3) := dk_167 255 218 (dk_at dksX2_passes_2 6 rfl rfl)
theorem dX2_passes_54 : decode cX2_passes 54 = .ok (.aload_n 0, 1) := dk_42 (dk_at dksX2_passes_2 9 rfl rfl)
theorem dX2_passes_55 : decode cX2_passes 55 = .ok (.invokevirtual 276, 3) := dk_182 1 20 (dk_at dksX2_passes_2 10 rfl rfl)
theorem dX2_passes_58 : decode cX2_passes 58 = .ok (.ifCond .eq 19, 3) := dk_153 0 19 (dk_at dksX2_passes_2 13 rfl rfl)
theorem dX2_passes_61 : decode cX2_passes 61 = .ok (.aload_n 0, 1) := dk_42 (dk_at dksX2_passes_2 16 rfl rfl)
theorem dX2_passes_62 : decode cX2_passes 62 = .ok (.iconst 0, 1) := dk_3 (dk_at dksX2_passes_2 17 rfl rfl)
theorem dX2_passes_63 : decode cX2_passes 63 = .ok (.putfield 246, 3) := dk_181 0 246 (dk_at dksX2_passes_2 18 rfl rfl)
theorem dX2_passes_66 : decode cX2_passes 66 = .ok (.aload_n 0, 1) := dk_42 (dk_at dksX2_passes_2 21 rfl rfl)
theorem dX2_passes_67 : decode cX2_passes 67 = .ok (.dup, 1) := dk_89 (dk_at dksX2_passes_2 22 rfl rfl)
theorem dX2_passes_68 : decode cX2_passes 68 = .ok (.getfield 138, 3) := dk_180 0 138 (dk_at dksX2_passes_3 0 rfl rfl)
theorem dX2_passes_71 : decode cX2_passes 71 = .ok (.iconst 1, 1) := dk_4 (dk_at dksX2_passes_3 3 rfl rfl)
theorem dX2_passes_72 : decode cX2_passes 72 = .ok (.iadd, 1) := dk_96 (dk_at dksX2_passes_3 4 rfl rfl)
theorem dX2_passes_73 : decode cX2_passes 73 = .ok (.putfield 138, 3) := dk_181 0 138 (dk_at dksX2_passes_3 5 rfl rfl)
theorem dX2_passes_76 : decode cX2_passes 76 = .ok (.return_, 1) := dk_177 (dk_at dksX2_passes_3 8 rfl rfl)
theorem dX2_passes_77 : decode cX2_passes 77 = .ok (.aload_n 0, 1) := dk_42 (dk_at dksX2_passes_3 9 rfl rfl)
theorem dX2_passes_78 : decode cX2_passes 78 = .ok (.invokevirtual 279, 3) := dk_182 1 23 (dk_at dksX2_passes_3 10 rfl rfl)
theorem dX2_passes_81 : decode cX2_passes 81 = .ok (.iconst 0, 1) := dk_3 (dk_at dksX2_passes_3 13 rfl rfl)
theorem dX2_passes_82 : decode cX2_passes 82 = .ok (.istore_n 1, 1) := dk_60 (dk_at dksX2_passes_3 14 rfl rfl)
theorem dX2_passes_83 : decode cX2_passes 83 = .ok (.iload_n 1, 1) := dk_27 (dk_at dksX2_passes_3 15 rfl rfl)
theorem dX2_passes_84 : decode cX2_passes 84 = .ok (.aload_n 0, 1) := dk_42 (dk_at dksX2_passes_3 16 rfl rfl)
theorem dX2_passes_85 : decode cX2_passes 85 = .ok (.getfield 49, 3) := dk_180 0 49 (dk_at dksX2_passes_3 17 rfl rfl)
theorem dX2_passes_88 : decode cX2_passes 88 = .ok (.invokevirtual 81, 3) := dk_182 0 81 (dk_at dksX2_passes_3 20 rfl rfl)
theorem dX2_passes_91 : decode cX2_passes 91 = .ok (.if_icmp .ge 14, 3) := dk_162 0 14 (dk_at dksX2_passes_4 0 rfl rfl)
theorem dX2_passes_94 : decode cX2_passes 94 = .ok (.aload_n 0, 1) := dk_42 (dk_at dksX2_passes_4 3 rfl rfl)
theorem dX2_passes_95 : decode cX2_passes 95 = .ok (.iload_n 1, 1) := dk_27 (dk_at dksX2_passes_4 4 rfl rfl)
theorem dX2_passes_96 : decode cX2_passes 96 = .ok (.invokevirtual 282, 3) := dk_182 1 26 (dk_at dksX2_passes_4 5 rfl rfl)
theorem dX2_passes_99 : decode cX2_passes 99 = .ok (.iinc 1 1, 3) := dk_132 1 1 (dk_at dksX2_passes_4 8 rfl rfl)
theorem dX2_passes_102 : decode cX2_passes 102 = .ok (.goto (-19), 3) := dk_167 255 237 (dk_at dksX2_passes_4 11 rfl rfl)
theorem dX2_passes_105 : decode cX2_passes 105 = .ok (.aload_n 0, 1) := dk_42 (dk_at dksX2_passes_4 14 rfl rfl)
theorem dX2_passes_106 : decode cX2_passes 106 = .ok (.invokevirtual 285, 3) := dk_182 1 29 (dk_at dksX2_passes_4 15 rfl rfl)
theorem dX2_passes_109 : decode cX2_passes 109 = .ok (.aload_n 0, 1) := dk_42 (dk_at dksX2_passes_4 18 rfl rfl)
theorem dX2_passes_110 : decode cX2_passes 110 = .ok (.invokevirtual 288, 3) := dk_182 1 32 (dk_at dksX2_passes_4 19 rfl rfl)
theorem dX2_passes_113 : decode cX2_passes 113 = .ok (.aload_n 0, 1) := dk_42 (dk_at dksX2_passes_4 22 rfl rfl)
theorem dX2_passes_114 : decode cX2_passes 114 = .ok (.invokevirtual 291, 3) := dk_182 1 35 (dk_at dksX2_passes_5 0 rfl rfl)
theorem dX2_passes_117 : decode cX2_passes 117 = .ok (.return_, 1) := dk_177 (dk_at dksX2_passes_5 3 rfl rfl)
def dkwX2_blackout_4 : List UInt8 := [181, 0, 192, 177]
abbrev dktX2_blackout_4 : List UInt8 := dkwX2_blackout_4 ++ []
def dkwX2_blackout_3 : List UInt8 := [180, 0, 63, 3, 181, 0, 189, 42, 3, 181, 0, 129, 42, 3, 181, 0, 132, 42, 180, 0, 43, 3]
abbrev dktX2_blackout_3 : List UInt8 := dkwX2_blackout_3 ++ dktX2_blackout_4
def dkwX2_blackout_2 : List UInt8 := [180, 0, 27, 28, 3, 79, 42, 180, 0, 30, 28, 42, 180, 0, 138, 79, 132, 2, 1, 167, 255, 220, 42]
abbrev dktX2_blackout_2 : List UInt8 := dkwX2_blackout_2 ++ dktX2_blackout_3
def dkwX2_blackout_1 : List UInt8 := [181, 0, 141, 3, 61, 28, 42, 180, 0, 49, 182, 0, 81, 162, 0, 31, 42, 28, 182, 0, 185, 42]
abbrev dktX2_blackout_1 : List UInt8 := dkwX2_blackout_1 ++ dktX2_blackout_2
def dkwX2_blackout_0 : List UInt8 := [42, 89, 180, 0, 144, 4, 96, 181, 0, 144, 42, 42, 180, 0, 141, 42, 180, 0, 138, 27, 96, 184, 0, 179]
abbrev dktX2_blackout_0 : List UInt8 := dkwX2_blackout_0 ++ dktX2_blackout_1
theorem dksX2_blackout_0 : cX2_blackout.data.toList.drop 0 = dktX2_blackout_0 := by decide +kernel
theorem dksX2_blackout_1 : cX2_blackout.data.toList.drop 24 = dktX2_blackout_1 := dk_seg dksX2_blackout_0 24 rfl rfl
theorem dksX2_blackout_2 : cX2_blackout.data.toList.drop 46 = dktX2_blackout_2 := dk_seg dksX2_blackout_1 22 rfl rfl
theorem dksX2_blackout_3 : cX2_blackout.data.toList.drop 69 = dktX2_blackout_3 := dk_seg dksX2_blackout_2 23 rfl rfl
theorem dksX2_blackout_4 : cX2_blackout.data.toList.drop 91 = dktX2_blackout_4 := dk_seg dksX2_blackout_3 22 rfl rfl
theorem dX2_blackout_0 : decode cX2_blackout 0 = .ok (.aload_n 0, 1) := dk_42 (dk_at dksX2_blackout_0 0 rfl rfl)
theorem dX2_blackout_1 : decode cX2_blackout 1 = .ok (.dup, 1) := dk_89 (dk_at dksX2_blackout_0 1 rfl rfl)
theorem dX2_blackout_2 : decode cX2_blackout 2 = .ok (.getfield 144, 3) := dk_180 0 144 (dk_at dksX2_blackout_0 2 rfl rfl)
theorem dX2_blackout_5 : decode cX2_blackout 5 = .ok (.iconst 1, 1) := dk_4 (dk_at dksX2_blackout_0 5 rfl rfl)
theorem dX2_blackout_6 : decode cX2_blackout 6 = .ok (.iadd, 1) := dk_96 (dk_at dksX2_blackout_0 6 rfl rfl)
theorem dX2_blackout_7 : decode cX2_blackout 7 = .ok (.putfield 144, 3) := dk_181 0 144 (dk_at dksX2_blackout_0 7 rfl rfl)
theorem dX2_blackout_10 : decode cX2_blackout 10 = .ok (.aload_n 0, 1) := dk_42 (dk_at dksX2_blackout_0 10 rfl rfl)
theorem dX2_blackout_11 : decode cX2_blackout 11 = .ok (.aload_n 0, 1) := dk_42 (dk_at dksX2_blackout_0 11 rfl rfl)
theorem dX2_blackout_12 : decode cX2_blackout 12 = .ok (.getfield 141, 3) := dk_180 0 141 (dk_at dksX2_blackout_0 12 rfl rfl)
theorem dX2_blackout_15 : decode cX2_blackout 15 = .ok (.aload_n 0, 1) := dk_42 (dk_at dksX2_blackout_0 15 rfl rfl)
theorem dX2_blackout_16 : decode cX2_blackout 16 = .ok (.getfield 138, 3) := dk_180 0 138 (dk_at dksX2_blackout_0 16 rfl rfl)
theorem dX2_blackout_19 : decode cX2_blackout 19 = .ok (.iload_n 1, 1) := dk_27 (dk_at dksX2_blackout_0 19 rfl rfl)
theorem dX2_blackout_20 : decode cX2_blackout 20 = .ok (.iadd, 1) := dk_96 (dk_at dksX2_blackout_0 20 rfl rfl)
theorem dX2_blackout_21 : decode cX2_blackout 21 = .ok (.invokestatic 179, 3) := dk_184 0 179 (dk_at dksX2_blackout_0 21 rfl rfl)
theorem dX2_blackout_24 : decode cX2_blackout 24 = .ok (.putfield 141, 3) := dk_181 0 141 (dk_at dksX2_blackout_1 0 rfl rfl)
theorem dX2_blackout_27 : decode cX2_blackout 27 = .ok (.iconst 0, 1) := dk_3 (dk_at dksX2_blackout_1 3 rfl rfl)
theorem dX2_blackout_28 : decode cX2_blackout 28 = .ok (.istore_n 2, 1) := dk_61 (dk_at dksX2_blackout_1 4 rfl rfl)
theorem dX2_blackout_29 : decode cX2_blackout 29 = .ok (.iload_n 2, 1) := dk_28 (dk_at dksX2_blackout_1 5 rfl rfl)
theorem dX2_blackout_30 : decode cX2_blackout 30 = .ok (.aload_n 0, 1) := dk_42 (dk_at dksX2_blackout_1 6 rfl rfl)
theorem dX2_blackout_31 : decode cX2_blackout 31 = .ok (.getfield 49, 3) := dk_180 0 49 (dk_at dksX2_blackout_1 7 rfl rfl)
theorem dX2_blackout_34 : decode cX2_blackout 34 = .ok (.invokevirtual 81, 3) := dk_182 0 81 (dk_at dksX2_blackout_1 10 rfl rfl)
theorem dX2_blackout_37 : decode cX2_blackout 37 = .ok (.if_icmp .ge 31, 3) := dk_162 0 31 (dk_at dksX2_blackout_1 13 rfl rfl)
theorem dX2_blackout_40 : decode cX2_blackout 40 = .ok (.aload_n 0, 1) := dk_42 (dk_at dksX2_blackout_1 16 rfl rfl)
theorem dX2_blackout_41 : decode cX2_blackout 41 = .ok (.iload_n 2, 1) := dk_28 (dk_at dksX2_blackout_1 17 rfl rfl)
theorem dX2_blackout_42 : decode cX2_blackout 42 = .ok (.invokevirtual 185, 3) := dk_182 0 185 (dk_at dksX2_blackout_1 18 rfl rfl)
theorem dX2_blackout_45 : decode cX2_blackout 45 = .ok (.aload_n 0, 1) := dk_42 (dk_at dksX2_blackout_1 21 rfl rfl)
theorem dX2_blackout_46 : decode cX2_blackout 46 = .ok (.getfield 27, 3) := dk_180 0 27 (dk_at dksX2_blackout_2 0 rfl rfl)
theorem dX2_blackout_49 : decode cX2_blackout 49 = .ok (.iload_n 2, 1) := dk_28 (dk_at dksX2_blackout_2 3 rfl rfl)
theorem dX2_blackout_50 : decode cX2_blackout 50 = .ok (.iconst 0, 1) := dk_3 (dk_at dksX2_blackout_2 4 rfl rfl)
theorem dX2_blackout_51 : decode cX2_blackout 51 = .ok (.iastore, 1) := dk_79 (dk_at dksX2_blackout_2 5 rfl rfl)
theorem dX2_blackout_52 : decode cX2_blackout 52 = .ok (.aload_n 0, 1) := dk_42 (dk_at dksX2_blackout_2 6 rfl rfl)
theorem dX2_blackout_53 : decode cX2_blackout 53 = .ok (.getfield 30, 3) := dk_180 0 30 (dk_at dksX2_blackout_2 7 rfl rfl)
theorem dX2_blackout_56 : decode cX2_blackout 56 = .ok (.iload_n 2, 1) := dk_28 (dk_at dksX2_blackout_2 10 rfl rfl)
theorem dX2_blackout_57 : decode cX2_blackout 57 = .ok (.aload_n 0, 1) := dk_42 (dk_at dksX2_blackout_2 11 rfl rfl)
theorem dX2_blackout_58 : decode cX2_blackout 58 = .ok (.getfield 138, 3) := dk_180 0 138 (dk_at dksX2_blackout_2 12 rfl rfl)
theorem dX2_blackout_61 : decode cX2_blackout 61 = .ok (.iastore, 1) := dk_79 (dk_at dksX2_blackout_2 15 rfl rfl)
theorem dX2_blackout_62 : decode cX2_blackout 62 = .ok (.iinc 2 1, 3) := dk_132 2 1 (dk_at dksX2_blackout_2 16 rfl rfl)
theorem dX2_blackout_65 : decode cX2_blackout 65 = .ok (.goto (-36), 3) := dk_167 255 220 (dk_at dksX2_blackout_2 19 rfl rfl)
theorem dX2_blackout_68 : decode cX2_blackout 68 = .ok (.aload_n 0, 1) := dk_42 (dk_at dksX2_blackout_2 22 rfl rfl)
theorem dX2_blackout_69 : decode cX2_blackout 69 = .ok (.getfield 63, 3) := dk_180 0 63 (dk_at dksX2_blackout_3 0 rfl rfl)
theorem dX2_blackout_72 : decode cX2_blackout 72 = .ok (.iconst 0, 1) := dk_3 (dk_at dksX2_blackout_3 3 rfl rfl)
theorem dX2_blackout_73 : decode cX2_blackout 73 = .ok (.putfield 189, 3) := dk_181 0 189 (dk_at dksX2_blackout_3 4 rfl rfl)
theorem dX2_blackout_76 : decode cX2_blackout 76 = .ok (.aload_n 0, 1) := dk_42 (dk_at dksX2_blackout_3 7 rfl rfl)
theorem dX2_blackout_77 : decode cX2_blackout 77 = .ok (.iconst 0, 1) := dk_3 (dk_at dksX2_blackout_3 8 rfl rfl)
theorem dX2_blackout_78 : decode cX2_blackout 78 = .ok (.putfield 129, 3) := dk_181 0 129 (dk_at dksX2_blackout_3 9 rfl rfl)
theorem dX2_blackout_81 : decode cX2_blackout 81 = .ok (.aload_n 0, 1) := dk_42 (dk_at dksX2_blackout_3 12 rfl rfl)
theorem dX2_blackout_82 : decode cX2_blackout 82 = .ok (.iconst 0, 1) := dk_3 (dk_at dksX2_blackout_3 13 rfl rfl)
theorem dX2_blackout_83 : decode cX2_blackout 83 = .ok (.putfield 132, 3) := dk_181 0 132 (dk_at dksX2_blackout_3 14 rfl rfl)
theorem dX2_blackout_86 : decode cX2_blackout 86 = .ok (.aload_n 0, 1) := dk_42 (dk_at dksX2_blackout_3 17 rfl rfl)
theorem dX2_blackout_87 : decode cX2_blackout 87 = .ok (.getfield 43, 3) := dk_180 0 43 (dk_at dksX2_blackout_3 18 rfl rfl)
theorem dX2_blackout_90 : decode cX2_blackout 90 = .ok (.iconst 0, 1) := dk_3 (dk_at dksX2_blackout_3 21 rfl rfl)
theorem dX2_blackout_91 : decode cX2_blackout 91 = .ok (.putfield 192, 3) := dk_181 0 192 (dk_at dksX2_blackout_4 0 rfl rfl)
theorem dX2_blackout_94 : decode cX2_blackout 94 = .ok (.return_, 1) := dk_177 (dk_at dksX2_blackout_4 3 rfl rfl)
def dkwX2_waits_1 : List UInt8 := [180, 0, 15, 27, 3, 79, 42, 180, 0, 24, 27, 2, 79, 177]
abbrev dktX2_waits_1 : List UInt8 := dkwX2_waits_1 ++ []
def dkwX2_waits_0 : List UInt8 := [42, 180, 0, 9, 27, 42, 180, 0, 88, 27, 184, 0, 91, 153, 0, 7, 4, 167, 0, 4, 3, 79, 42]
abbrev dktX2_waits_0 : List UInt8 := dkwX2_waits_0 ++ dktX2_waits_1
theorem dksX2_waits_0 : cX2_waits.data.toList.drop 0 = dktX2_waits_0 := by decide +kernel
theorem dksX2_waits_1 : cX2_waits.data.toList.drop 23 = dktX2_waits_1 := dk_seg dksX2_waits_0 23 rfl rfl
theorem dX2_waits_0 : decode cX2_waits 0 = .ok (.aload_n 0, 1) := dk_42 (dk_at dksX2_waits_0 0 rfl rfl)
theorem dX2_waits_1 : decode cX2_waits 1 = .ok (.getfield 9, 3) := dk_180 0 9 (dk_at dksX2_waits_0 1 rfl rfl)
theorem dX2_waits_4 : decode cX2_waits 4 = .ok (.iload_n 1, 1) := dk_27 (dk_at dksX2_waits_0 4 rfl rfl)
theorem dX2_waits_5 : decode cX2_waits 5 = .ok (.aload_n 0, 1) := dk_42 (dk_at dksX2_waits_0 5 rfl rfl)
theorem dX2_waits_6 : decode cX2_waits 6 = .ok (.getfield 88, 3) := dk_180 0 88 (dk_at dksX2_waits_0 6 rfl rfl)
theorem dX2_waits_9 : decode cX2_waits 9 = .ok (.iload_n 1, 1) := dk_27 (dk_at dksX2_waits_0 9 rfl rfl)
theorem dX2_waits_10 : decode cX2_waits 10 = .ok (.invokestatic 91, 3) := dk_184 0 91 (dk_at dksX2_waits_0 10 rfl rfl)
theorem dX2_waits_13 : decode cX2_waits 13 = .ok (.ifCond .eq 7, 3) := dk_153 0 7 (dk_at dksX2_waits_0 13 rfl rfl)
theorem dX2_waits_16 : decode cX2_waits 16 = .ok (.iconst 1, 1) := dk_4 (dk_at dksX2_waits_0 16 rfl rfl)
theorem dX2_waits_17 : decode cX2_waits 17 = .ok (.goto 4, 3) := dk_167 0 4 (dk_at dksX2_waits_0 17 rfl rfl)
theorem dX2_waits_20 : decode cX2_waits 20 = .ok (.iconst 0, 1) := dk_3 (dk_at dksX2_waits_0 20 rfl rfl)
theorem dX2_waits_21 : decode cX2_waits 21 = .ok (.iastore, 1) := dk_79 (dk_at dksX2_waits_0 21 rfl rfl)
theorem dX2_waits_22 : decode cX2_waits 22 = .ok (.aload_n 0, 1) := dk_42 (dk_at dksX2_waits_0 22 rfl rfl)
theorem dX2_waits_23 : decode cX2_waits 23 = .ok (.getfield 15, 3) := dk_180 0 15 (dk_at dksX2_waits_1 0 rfl rfl)
theorem dX2_waits_26 : decode cX2_waits 26 = .ok (.iload_n 1, 1) := dk_27 (dk_at dksX2_waits_1 3 rfl rfl)
theorem dX2_waits_27 : decode cX2_waits 27 = .ok (.iconst 0, 1) := dk_3 (dk_at dksX2_waits_1 4 rfl rfl)
theorem dX2_waits_28 : decode cX2_waits 28 = .ok (.iastore, 1) := dk_79 (dk_at dksX2_waits_1 5 rfl rfl)
theorem dX2_waits_29 : decode cX2_waits 29 = .ok (.aload_n 0, 1) := dk_42 (dk_at dksX2_waits_1 6 rfl rfl)
theorem dX2_waits_30 : decode cX2_waits 30 = .ok (.getfield 24, 3) := dk_180 0 24 (dk_at dksX2_waits_1 7 rfl rfl)
theorem dX2_waits_33 : decode cX2_waits 33 = .ok (.iload_n 1, 1) := dk_27 (dk_at dksX2_waits_1 10 rfl rfl)
theorem dX2_waits_34 : decode cX2_waits 34 = .ok (.iconst (-1), 1) := dk_2 (dk_at dksX2_waits_1 11 rfl rfl)
theorem dX2_waits_35 : decode cX2_waits 35 = .ok (.iastore, 1) := dk_79 (dk_at dksX2_waits_1 12 rfl rfl)
theorem dX2_waits_36 : decode cX2_waits 36 = .ok (.return_, 1) := dk_177 (dk_at dksX2_waits_1 13 rfl rfl)
def dkwX2_receives_4 : List UInt8 := [42, 6, 182, 0, 216, 2, 130, 126, 154, 0, 14, 42, 180, 0, 39, 42, 180, 0, 43, 182, 0, 126, 177]
abbrev dktX2_receives_4 : List UInt8 := dkwX2_receives_4 ++ []
def dkwX2_receives_3 : List UInt8 := [16, 16, 112, 4, 100, 182, 0, 209, 132, 2, 1, 167, 255, 211, 42, 182, 0, 213, 61, 28, 153, 0, 26, 28]
abbrev dktX2_receives_3 : List UInt8 := dkwX2_receives_3 ++ dktX2_receives_4
def dkwX2_receives_2 : List UInt8 := [46, 17, 1, 0, 108, 42, 180, 0, 46, 28, 46, 16, 16, 108, 16, 16, 112, 42, 180, 0, 46, 28, 46]
abbrev dktX2_receives_2 : List UInt8 := dkwX2_receives_2 ++ dktX2_receives_3
def dkwX2_receives_1 : List UInt8 := [184, 0, 109, 42, 180, 0, 63, 3, 181, 0, 189, 3, 61, 28, 27, 162, 0, 46, 42, 42, 180, 0, 46, 28]
abbrev dktX2_receives_1 : List UInt8 := dkwX2_receives_1 ++ dktX2_receives_2
def dkwX2_receives_0 : List UInt8 := [42, 180, 0, 63, 180, 0, 189, 60, 42, 180, 0, 63, 180, 0, 206, 3, 42, 180, 0, 46, 3, 27]
abbrev dktX2_receives_0 : List UInt8 := dkwX2_receives_0 ++ dktX2_receives_1
theorem dksX2_receives_0 : cX2_receives.data.toList.drop 0 = dktX2_receives_0 := by decide +kernel
theorem dksX2_receives_1 : cX2_receives.data.toList.drop 22 = dktX2_receives_1 := dk_seg dksX2_receives_0 22 rfl rfl
theorem dksX2_receives_2 : cX2_receives.data.toList.drop 46 = dktX2_receives_2 := dk_seg dksX2_receives_1 24 rfl rfl
theorem dksX2_receives_3 : cX2_receives.data.toList.drop 69 = dktX2_receives_3 := dk_seg dksX2_receives_2 23 rfl rfl
theorem dksX2_receives_4 : cX2_receives.data.toList.drop 93 = dktX2_receives_4 := dk_seg dksX2_receives_3 24 rfl rfl
theorem dX2_receives_0 : decode cX2_receives 0 = .ok (.aload_n 0, 1) := dk_42 (dk_at dksX2_receives_0 0 rfl rfl)
theorem dX2_receives_1 : decode cX2_receives 1 = .ok (.getfield 63, 3) := dk_180 0 63 (dk_at dksX2_receives_0 1 rfl rfl)
theorem dX2_receives_4 : decode cX2_receives 4 = .ok (.getfield 189, 3) := dk_180 0 189 (dk_at dksX2_receives_0 4 rfl rfl)
theorem dX2_receives_7 : decode cX2_receives 7 = .ok (.istore_n 1, 1) := dk_60 (dk_at dksX2_receives_0 7 rfl rfl)
theorem dX2_receives_8 : decode cX2_receives 8 = .ok (.aload_n 0, 1) := dk_42 (dk_at dksX2_receives_0 8 rfl rfl)
theorem dX2_receives_9 : decode cX2_receives 9 = .ok (.getfield 63, 3) := dk_180 0 63 (dk_at dksX2_receives_0 9 rfl rfl)
theorem dX2_receives_12 : decode cX2_receives 12 = .ok (.getfield 206, 3) := dk_180 0 206 (dk_at dksX2_receives_0 12 rfl rfl)
theorem dX2_receives_15 : decode cX2_receives 15 = .ok (.iconst 0, 1) := dk_3 (dk_at dksX2_receives_0 15 rfl rfl)
theorem dX2_receives_16 : decode cX2_receives 16 = .ok (.aload_n 0, 1) := dk_42 (dk_at dksX2_receives_0 16 rfl rfl)
theorem dX2_receives_17 : decode cX2_receives 17 = .ok (.getfield 46, 3) := dk_180 0 46 (dk_at dksX2_receives_0 17 rfl rfl)
theorem dX2_receives_20 : decode cX2_receives 20 = .ok (.iconst 0, 1) := dk_3 (dk_at dksX2_receives_0 20 rfl rfl)
theorem dX2_receives_21 : decode cX2_receives 21 = .ok (.iload_n 1, 1) := dk_27 (dk_at dksX2_receives_0 21 rfl rfl)
theorem dX2_receives_22 : decode cX2_receives 22 = .ok (.invokestatic 109, 3) := dk_184 0 109 (dk_at dksX2_receives_1 0 rfl rfl)
theorem dX2_receives_25 : decode cX2_receives 25 = .ok (.aload_n 0, 1) := dk_42 (dk_at dksX2_receives_1 3 rfl rfl)
theorem dX2_receives_26 : decode cX2_receives 26 = .ok (.getfield 63, 3) := dk_180 0 63 (dk_at dksX2_receives_1 4 rfl rfl)
theorem dX2_receives_29 : decode cX2_receives 29 = .ok (.iconst 0, 1) := dk_3 (dk_at dksX2_receives_1 7 rfl rfl)
theorem dX2_receives_30 : decode cX2_receives 30 = .ok (.putfield 189, 3) := dk_181 0 189 (dk_at dksX2_receives_1 8 rfl rfl)
theorem dX2_receives_33 : decode cX2_receives 33 = .ok (.iconst 0, 1) := dk_3 (dk_at dksX2_receives_1 11 rfl rfl)
theorem dX2_receives_34 : decode cX2_receives 34 = .ok (.istore_n 2, 1) := dk_61 (dk_at dksX2_receives_1 12 rfl rfl)
theorem dX2_receives_35 : decode cX2_receives 35 = .ok (.iload_n 2, 1) := dk_28 (dk_at dksX2_receives_1 13 rfl rfl)
theorem dX2_receives_36 : decode cX2_receives 36 = .ok (.iload_n 1, 1) := dk_27 (dk_at dksX2_receives_1 14 rfl rfl)
theorem dX2_receives_37 : decode cX2_receives 37 = .ok (.if_icmp .ge 46, 3) := dk_162 0 46 (dk_at dksX2_receives_1 15 rfl rfl)
theorem dX2_receives_40 : decode cX2_receives 40 = .ok (.aload_n 0, 1) := dk_42 (dk_at dksX2_receives_1 18 rfl rfl)
theorem dX2_receives_41 : decode cX2_receives 41 = .ok (.aload_n 0, 1) := dk_42 (dk_at dksX2_receives_1 19 rfl rfl)
theorem dX2_receives_42 : decode cX2_receives 42 = .ok (.getfield 46, 3) := dk_180 0 46 (dk_at dksX2_receives_1 20 rfl rfl)
theorem dX2_receives_45 : decode cX2_receives 45 = .ok (.iload_n 2, 1) := dk_28 (dk_at dksX2_receives_1 23 rfl rfl)
theorem dX2_receives_46 : decode cX2_receives 46 = .ok (.iaload, 1) := dk_46 (dk_at dksX2_receives_2 0 rfl rfl)
theorem dX2_receives_47 : decode cX2_receives 47 = .ok (.sipush 256, 3) := dk_17 1 0 (dk_at dksX2_receives_2 1 rfl rfl)
theorem dX2_receives_50 : decode cX2_receives 50 = .ok (.idiv, 1) := dk_108 (dk_at dksX2_receives_2 4 rfl rfl)
theorem dX2_receives_51 : decode cX2_receives 51 = .ok (.aload_n 0, 1) := dk_42 (dk_at dksX2_receives_2 5 rfl rfl)
theorem dX2_receives_52 : decode cX2_receives 52 = .ok (.getfield 46, 3) := dk_180 0 46 (dk_at dksX2_receives_2 6 rfl rfl)
theorem dX2_receives_55 : decode cX2_receives 55 = .ok (.iload_n 2, 1) := dk_28 (dk_at dksX2_receives_2 9 rfl rfl)
theorem dX2_receives_56 : decode cX2_receives 56 = .ok (.iaload, 1) := dk_46 (dk_at dksX2_receives_2 10 rfl rfl)
theorem dX2_receives_57 : decode cX2_receives 57 = .ok (.bipush 16, 2) := dk_16 16 (dk_at dksX2_receives_2 11 rfl rfl)
theorem dX2_receives_59 : decode cX2_receives 59 = .ok (.idiv, 1) := dk_108 (dk_at dksX2_receives_2 13 rfl rfl)
theorem dX2_receives_60 : decode cX2_receives 60 = .ok (.bipush 16, 2) := dk_16 16 (dk_at dksX2_receives_2 14 rfl rfl)
theorem dX2_receives_62 : decode cX2_receives 62 = .ok (.irem, 1) := dk_112 (dk_at dksX2_receives_2 16 rfl rfl)
theorem dX2_receives_63 : decode cX2_receives 63 = .ok (.aload_n 0, 1) := dk_42 (dk_at dksX2_receives_2 17 rfl rfl)
theorem dX2_receives_64 : decode cX2_receives 64 = .ok (.getfield 46, 3) := dk_180 0 46 (dk_at dksX2_receives_2 18 rfl rfl)
theorem dX2_receives_67 : decode cX2_receives 67 = .ok (.iload_n 2, 1) := dk_28 (dk_at dksX2_receives_2 21 rfl rfl)
theorem dX2_receives_68 : decode cX2_receives 68 = .ok (.iaload, 1) := dk_46 (dk_at dksX2_receives_2 22 rfl rfl)
theorem dX2_receives_69 : decode cX2_receives 69 = .ok (.bipush 16, 2) := dk_16 16 (dk_at dksX2_receives_3 0 rfl rfl)
theorem dX2_receives_71 : decode cX2_receives 71 = .ok (.irem, 1) := dk_112 (dk_at dksX2_receives_3 2 rfl rfl)
theorem dX2_receives_72 : decode cX2_receives 72 = .ok (.iconst 1, 1) := dk_4 (dk_at dksX2_receives_3 3 rfl rfl)
theorem dX2_receives_73 : decode cX2_receives 73 = .ok (.isub, 1) := dk_100 (dk_at dksX2_receives_3 4 rfl rfl)
theorem dX2_receives_74 : decode cX2_receives 74 = .ok (.invokevirtual 209, 3) := dk_182 0 209 (dk_at dksX2_receives_3 5 rfl rfl)
theorem dX2_receives_77 : decode cX2_receives 77 = .ok (.iinc 2 1, 3) := dk_132 2 1 (dk_at dksX2_receives_3 8 rfl rfl)
theorem dX2_receives_80 : decode cX2_receives 80 = .ok (.goto (-45), 3) := dk_167 255 211 (dk_at dksX2_receives_3 11 rfl rfl)
theorem dX2_receives_83 : decode cX2_receives 83 = .ok (.aload_n 0, 1) := dk_42 (dk_at dksX2_receives_3 14 rfl rfl)
theorem dX2_receives_84 : decode cX2_receives 84 = .ok (.invokevirtual 213, 3) := dk_182 0 213 (dk_at dksX2_receives_3 15 rfl rfl)
theorem dX2_receives_87 : decode cX2_receives 87 = .ok (.istore_n 2, 1) := dk_61 (dk_at dksX2_receives_3 18 rfl rfl)
theorem dX2_receives_88 : decode cX2_receives 88 = .ok (.iload_n 2, 1) := dk_28 (dk_at dksX2_receives_3 19 rfl rfl)
theorem dX2_receives_89 : decode cX2_receives 89 = .ok (.ifCond .eq 26, 3) := dk_153 0 26 (dk_at dksX2_receives_3 20 rfl rfl)
theorem dX2_receives_92 : decode cX2_receives 92 = .ok (.iload_n 2, 1) := dk_28 (dk_at dksX2_receives_3 23 rfl rfl)
theorem dX2_receives_93 : decode cX2_receives 93 = .ok (.aload_n 0, 1) := dk_42 (dk_at dksX2_receives_4 0 rfl rfl)
theorem dX2_receives_94 : decode cX2_receives 94 = .ok (.iconst 3, 1) := dk_6 (dk_at dksX2_receives_4 1 rfl rfl)
theorem dX2_receives_95 : decode cX2_receives 95 = .ok (.invokevirtual 216, 3) := dk_182 0 216 (dk_at dksX2_receives_4 2 rfl rfl)
theorem dX2_receives_98 : decode cX2_receives 98 = .ok (.iconst (-1), 1) := dk_2 (dk_at dksX2_receives_4 5 rfl rfl)
theorem dX2_receives_99 : decode cX2_receives 99 = .ok (.ixor, 1) := dk_130 (dk_at dksX2_receives_4 6 rfl rfl)
theorem dX2_receives_100 : decode cX2_receives 100 = .ok (.iand, 1) := dk_126 (dk_at dksX2_receives_4 7 rfl rfl)
theorem dX2_receives_101 : decode cX2_receives 101 = .ok (.ifCond .ne 14, 3) := dk_154 0 14 (dk_at dksX2_receives_4 8 rfl rfl)
theorem dX2_receives_104 : decode cX2_receives 104 = .ok (.aload_n 0, 1) := dk_42 (dk_at dksX2_receives_4 11 rfl rfl)
theorem dX2_receives_105 : decode cX2_receives 105 = .ok (.getfield 39, 3) := dk_180 0 39 (dk_at dksX2_receives_4 12 rfl rfl)
theorem dX2_receives_108 : decode cX2_receives 108 = .ok (.aload_n 0, 1) := dk_42 (dk_at dksX2_receives_4 15 rfl rfl)
theorem dX2_receives_109 : decode cX2_receives 109 = .ok (.getfield 43, 3) := dk_180 0 43 (dk_at dksX2_receives_4 16 rfl rfl)
theorem dX2_receives_112 : decode cX2_receives 112 = .ok (.invokevirtual 126, 3) := dk_182 0 126 (dk_at dksX2_receives_4 19 rfl rfl)
theorem dX2_receives_115 : decode cX2_receives 115 = .ok (.return_, 1) := dk_177 (dk_at dksX2_receives_4 22 rfl rfl)
def dkwX2_comes_6 : List UInt8 := [96, 79, 167, 0, 15, 42, 89, 180, 0, 129, 4, 28, 120, 128, 181, 0, 129, 177]
abbrev dktX2_comes_6 : List UInt8 := dkwX2_comes_6 ++ []
def dkwX2_comes_5 : List UInt8 := [5, 79, 42, 180, 0, 15, 28, 42, 28, 182, 0, 153, 180, 0, 203, 79, 42, 180, 0, 18, 28, 92, 46, 4]
abbrev dktX2_comes_5 : List UInt8 := dkwX2_comes_5 ++ dktX2_comes_6
def dkwX2_comes_4 : List UInt8 := [42, 28, 29, 182, 0, 200, 167, 0, 59, 42, 180, 0, 9, 28, 46, 4, 160, 0, 49, 42, 180, 0, 9, 28]
abbrev dktX2_comes_4 : List UInt8 := dkwX2_comes_4 ++ dktX2_comes_5
def dkwX2_comes_3 : List UInt8 := [182, 0, 196, 167, 0, 86, 42, 28, 6, 182, 0, 196, 167, 0, 77, 42, 28, 3, 182, 0, 196, 167, 0, 68]
abbrev dktX2_comes_3 : List UInt8 := dkwX2_comes_3 ++ dktX2_comes_4
def dkwX2_comes_2 : List UInt8 := [42, 180, 0, 27, 28, 46, 153, 0, 13, 42, 180, 0, 27, 28, 46, 6, 160, 0, 95, 42, 28, 4]
abbrev dktX2_comes_2 : List UInt8 := dkwX2_comes_2 ++ dktX2_comes_3
def dkwX2_comes_1 : List UInt8 := [170, 0, 0, 0, 0, 0, 134, 0, 0, 0, 0, 0, 0, 0, 4, 0, 0, 0, 35, 0, 0, 0, 63, 0, 0, 0, 72, 0, 0, 0, 81, 0, 0, 0, 90]
abbrev dktX2_comes_1 : List UInt8 := dkwX2_comes_1 ++ dktX2_comes_2
def dkwX2_comes_0 : List UInt8 := [27]
abbrev dktX2_comes_0 : List UInt8 := dkwX2_comes_0 ++ dktX2_comes_1
theorem dksX2_comes_0 : cX2_comes.data.toList.drop 0 = dktX2_comes_0 := by decide +kernel
theorem dksX2_comes_1 : cX2_comes.data.toList.drop 1 = dktX2_comes_1 := dk_seg dksX2_comes_0 1 rfl rfl
theorem dksX2_comes_2 : cX2_comes.data.toList.drop 36 = dktX2_comes_2 := dk_seg dksX2_comes_1 35 rfl rfl
theorem dksX2_comes_3 : cX2_comes.data.toList.drop 58 = dktX2_comes_3 := dk_seg dksX2_comes_2 22 rfl rfl
theorem dksX2_comes_4 : cX2_comes.data.toList.drop 82 = dktX2_comes_4 := dk_seg dksX2_comes_3 24 rfl rfl
theorem dksX2_comes_5 : cX2_comes.data.toList.drop 106 = dktX2_comes_5 := dk_seg dksX2_comes_4 24 rfl rfl
theorem dksX2_comes_6 : cX2_comes.data.toList.drop 130 = dktX2_comes_6 := dk_seg dksX2_comes_5 24 rfl rfl
theorem dX2_comes_0 : decode cX2_comes 0 = .ok (.iload_n 1, 1) := dk_27 (dk_at dksX2_comes_0 0 rfl rfl)
theorem dX2_comes_1 : decode cX2_comes 1 = .ok (.tableswitch 134 0 4 #[35, 63, 72, 81, 90], 35) := by decide +kernel
theorem dX2_comes_36 : decode cX2_comes 36 = .ok (.aload_n 0, 1) := dk_42 (dk_at dksX2_comes_2 0 rfl rfl)
theorem dX2_comes_37 : decode cX2_comes 37 = .ok (.getfield 27, 3) := dk_180 0 27 (dk_at dksX2_comes_2 1 rfl rfl)
theorem dX2_comes_40 : decode cX2_comes 40 = .ok (.iload_n 2, 1) := dk_28 (dk_at dksX2_comes_2 4 rfl rfl)
theorem dX2_comes_41 : decode cX2_comes 41 = .ok (.iaload, 1) := dk_46 (dk_at dksX2_comes_2 5 rfl rfl)
theorem dX2_comes_42 : decode cX2_comes 42 = .ok (.ifCond .eq 13, 3) := dk_153 0 13 (dk_at dksX2_comes_2 6 rfl rfl)
theorem dX2_comes_45 : decode cX2_comes 45 = .ok (.aload_n 0, 1) := dk_42 (dk_at dksX2_comes_2 9 rfl rfl)
theorem dX2_comes_46 : decode cX2_comes 46 = .ok (.getfield 27, 3) := dk_180 0 27 (dk_at dksX2_comes_2 10 rfl rfl)
theorem dX2_comes_49 : decode cX2_comes 49 = .ok (.iload_n 2, 1) := dk_28 (dk_at dksX2_comes_2 13 rfl rfl)
theorem dX2_comes_50 : decode cX2_comes 50 = .ok (.iaload, 1) := dk_46 (dk_at dksX2_comes_2 14 rfl rfl)
theorem dX2_comes_51 : decode cX2_comes 51 = .ok (.iconst 3, 1) := dk_6 (dk_at dksX2_comes_2 15 rfl rfl)
theorem dX2_comes_52 : decode cX2_comes 52 = .ok (.if_icmp .ne 95, 3) := dk_160 0 95 (dk_at dksX2_comes_2 16 rfl rfl)
theorem dX2_comes_55 : decode cX2_comes 55 = .ok (.aload_n 0, 1) := dk_42 (dk_at dksX2_comes_2 19 rfl rfl)
theorem dX2_comes_56 : decode cX2_comes 56 = .ok (.iload_n 2, 1) := dk_28 (dk_at dksX2_comes_2 20 rfl rfl)
theorem dX2_comes_57 : decode cX2_comes 57 = .ok (.iconst 1, 1) := dk_4 (dk_at dksX2_comes_2 21 rfl rfl)
theorem dX2_comes_58 : decode cX2_comes 58 = .ok (.invokevirtual 196, 3) := dk_182 0 196 (dk_at dksX2_comes_3 0 rfl rfl)
theorem dX2_comes_61 : decode cX2_comes 61 = .ok (.goto 86, 3) := dk_167 0 86 (dk_at dksX2_comes_3 3 rfl rfl)
theorem dX2_comes_64 : decode cX2_comes 64 = .ok (.aload_n 0, 1) := dk_42 (dk_at dksX2_comes_3 6 rfl rfl)
theorem dX2_comes_65 : decode cX2_comes 65 = .ok (.iload_n 2, 1) := dk_28 (dk_at dksX2_comes_3 7 rfl rfl)
theorem dX2_comes_66 : decode cX2_comes 66 = .ok (.iconst 3, 1) := dk_6 (dk_at dksX2_comes_3 8 rfl rfl)
theorem dX2_comes_67 : decode cX2_comes 67 = .ok (.invokevirtual 196, 3) := dk_182 0 196 (dk_at dksX2_comes_3 9 rfl rfl)
theorem dX2_comes_70 : decode cX2_comes 70 = .ok (.goto 77, 3) := dk_167 0 77 (dk_at dksX2_comes_3 12 rfl rfl)
theorem dX2_comes_73 : decode cX2_comes 73 = .ok (.aload_n 0, 1) := dk_42 (dk_at dksX2_comes_3 15 rfl rfl)
theorem dX2_comes_74 : decode cX2_comes 74 = .ok (.iload_n 2, 1) := dk_28 (dk_at dksX2_comes_3 16 rfl rfl)
theorem dX2_comes_75 : decode cX2_comes 75 = .ok (.iconst 0, 1) := dk_3 (dk_at dksX2_comes_3 17 rfl rfl)
theorem dX2_comes_76 : decode cX2_comes 76 = .ok (.invokevirtual 196, 3) := dk_182 0 196 (dk_at dksX2_comes_3 18 rfl rfl)
theorem dX2_comes_79 : decode cX2_comes 79 = .ok (.goto 68, 3) := dk_167 0 68 (dk_at dksX2_comes_3 21 rfl rfl)
theorem dX2_comes_82 : decode cX2_comes 82 = .ok (.aload_n 0, 1) := dk_42 (dk_at dksX2_comes_4 0 rfl rfl)
theorem dX2_comes_83 : decode cX2_comes 83 = .ok (.iload_n 2, 1) := dk_28 (dk_at dksX2_comes_4 1 rfl rfl)
theorem dX2_comes_84 : decode cX2_comes 84 = .ok (.iload_n 3, 1) := dk_29 (dk_at dksX2_comes_4 2 rfl rfl)
theorem dX2_comes_85 : decode cX2_comes 85 = .ok (.invokevirtual 200, 3) := dk_182 0 200 (dk_at dksX2_comes_4 3 rfl rfl)
theorem dX2_comes_88 : decode cX2_comes 88 = .ok (.goto 59, 3) := dk_167 0 59 (dk_at dksX2_comes_4 6 rfl rfl)
theorem dX2_comes_91 : decode cX2_comes 91 = .ok (.aload_n 0, 1) := dk_42 (dk_at dksX2_comes_4 9 rfl rfl)
theorem dX2_comes_92 : decode cX2_comes 92 = .ok (.getfield 9, 3) := dk_180 0 9 (dk_at dksX2_comes_4 10 rfl rfl)
theorem dX2_comes_95 : decode cX2_comes 95 = .ok (.iload_n 2, 1) := dk_28 (dk_at dksX2_comes_4 13 rfl rfl)
theorem dX2_comes_96 : decode cX2_comes 96 = .ok (.iaload, 1) := dk_46 (dk_at dksX2_comes_4 14 rfl rfl)
theorem dX2_comes_97 : decode cX2_comes 97 = .ok (.iconst 1, 1) := dk_4 (dk_at dksX2_comes_4 15 rfl rfl)
theorem dX2_comes_98 : decode cX2_comes 98 = .ok (.if_icmp .ne 49, 3) := dk_160 0 49 (dk_at dksX2_comes_4 16 rfl rfl)
theorem dX2_comes_101 : decode cX2_comes 101 = .ok (.aload_n 0, 1) := dk_42 (dk_at dksX2_comes_4 19 rfl rfl)
theorem dX2_comes_102 : decode cX2_comes 102 = .ok (.getfield 9, 3) := dk_180 0 9 (dk_at dksX2_comes_4 20 rfl rfl)
theorem dX2_comes_105 : decode cX2_comes 105 = .ok (.iload_n 2, 1) := dk_28 (dk_at dksX2_comes_4 23 rfl rfl)
theorem dX2_comes_106 : decode cX2_comes 106 = .ok (.iconst 2, 1) := dk_5 (dk_at dksX2_comes_5 0 rfl rfl)
theorem dX2_comes_107 : decode cX2_comes 107 = .ok (.iastore, 1) := dk_79 (dk_at dksX2_comes_5 1 rfl rfl)
theorem dX2_comes_108 : decode cX2_comes 108 = .ok (.aload_n 0, 1) := dk_42 (dk_at dksX2_comes_5 2 rfl rfl)
theorem dX2_comes_109 : decode cX2_comes 109 = .ok (.getfield 15, 3) := dk_180 0 15 (dk_at dksX2_comes_5 3 rfl rfl)
theorem dX2_comes_112 : decode cX2_comes 112 = .ok (.iload_n 2, 1) := dk_28 (dk_at dksX2_comes_5 6 rfl rfl)
theorem dX2_comes_113 : decode cX2_comes 113 = .ok (.aload_n 0, 1) := dk_42 (dk_at dksX2_comes_5 7 rfl rfl)
theorem dX2_comes_114 : decode cX2_comes 114 = .ok (.iload_n 2, 1) := dk_28 (dk_at dksX2_comes_5 8 rfl rfl)
theorem dX2_comes_115 : decode cX2_comes 115 = .ok (.invokevirtual 153, 3) := dk_182 0 153 (dk_at dksX2_comes_5 9 rfl rfl)
theorem dX2_comes_118 : decode cX2_comes 118 = .ok (.getfield 203, 3) := dk_180 0 203 (dk_at dksX2_comes_5 12 rfl rfl)
theorem dX2_comes_121 : decode cX2_comes 121 = .ok (.iastore, 1) := dk_79 (dk_at dksX2_comes_5 15 rfl rfl)
theorem dX2_comes_122 : decode cX2_comes 122 = .ok (.aload_n 0, 1) := dk_42 (dk_at dksX2_comes_5 16 rfl rfl)
theorem dX2_comes_123 : decode cX2_comes 123 = .ok (.getfield 18, 3) := dk_180 0 18 (dk_at dksX2_comes_5 17 rfl rfl)
theorem dX2_comes_126 : decode cX2_comes 126 = .ok (.iload_n 2, 1) := dk_28 (dk_at dksX2_comes_5 20 rfl rfl)
theorem dX2_comes_127 : decode cX2_comes 127 = .ok (.dup2, 1) := dk_92 (dk_at dksX2_comes_5 21 rfl rfl)
theorem dX2_comes_128 : decode cX2_comes 128 = .ok (.iaload, 1) := dk_46 (dk_at dksX2_comes_5 22 rfl rfl)
theorem dX2_comes_129 : decode cX2_comes 129 = .ok (.iconst 1, 1) := dk_4 (dk_at dksX2_comes_5 23 rfl rfl)
theorem dX2_comes_130 : decode cX2_comes 130 = .ok (.iadd, 1) := dk_96 (dk_at dksX2_comes_6 0 rfl rfl)
theorem dX2_comes_131 : decode cX2_comes 131 = .ok (.iastore, 1) := dk_79 (dk_at dksX2_comes_6 1 rfl rfl)
theorem dX2_comes_132 : decode cX2_comes 132 = .ok (.goto 15, 3) := dk_167 0 15 (dk_at dksX2_comes_6 2 rfl rfl)
theorem dX2_comes_135 : decode cX2_comes 135 = .ok (.aload_n 0, 1) := dk_42 (dk_at dksX2_comes_6 5 rfl rfl)
theorem dX2_comes_136 : decode cX2_comes 136 = .ok (.dup, 1) := dk_89 (dk_at dksX2_comes_6 6 rfl rfl)
theorem dX2_comes_137 : decode cX2_comes 137 = .ok (.getfield 129, 3) := dk_180 0 129 (dk_at dksX2_comes_6 7 rfl rfl)
theorem dX2_comes_140 : decode cX2_comes 140 = .ok (.iconst 1, 1) := dk_4 (dk_at dksX2_comes_6 10 rfl rfl)
theorem dX2_comes_141 : decode cX2_comes 141 = .ok (.iload_n 2, 1) := dk_28 (dk_at dksX2_comes_6 11 rfl rfl)
theorem dX2_comes_142 : decode cX2_comes 142 = .ok (.ishl, 1) := dk_120 (dk_at dksX2_comes_6 12 rfl rfl)
theorem dX2_comes_143 : decode cX2_comes 143 = .ok (.ior, 1) := dk_128 (dk_at dksX2_comes_6 13 rfl rfl)
theorem dX2_comes_144 : decode cX2_comes 144 = .ok (.putfield 129, 3) := dk_181 0 129 (dk_at dksX2_comes_6 14 rfl rfl)
theorem dX2_comes_147 : decode cX2_comes 147 = .ok (.return_, 1) := dk_177 (dk_at dksX2_comes_6 17 rfl rfl)
def dkwX2_marks_1 : List UInt8 := [180, 0, 135, 4, 27, 120, 128, 181, 0, 135, 42, 180, 0, 43, 27, 182, 0, 193, 177]
abbrev dktX2_marks_1 : List UInt8 := dkwX2_marks_1 ++ []
def dkwX2_marks_0 : List UInt8 := [42, 180, 0, 27, 27, 28, 79, 42, 180, 0, 30, 27, 42, 180, 0, 138, 79, 28, 6, 160, 0, 23, 42, 89]
abbrev dktX2_marks_0 : List UInt8 := dkwX2_marks_0 ++ dktX2_marks_1
theorem dksX2_marks_0 : cX2_marks.data.toList.drop 0 = dktX2_marks_0 := by decide +kernel
theorem dksX2_marks_1 : cX2_marks.data.toList.drop 24 = dktX2_marks_1 := dk_seg dksX2_marks_0 24 rfl rfl
theorem dX2_marks_0 : decode cX2_marks 0 = .ok (.aload_n 0, 1) := dk_42 (dk_at dksX2_marks_0 0 rfl rfl)
theorem dX2_marks_1 : decode cX2_marks 1 = .ok (.getfield 27, 3) := dk_180 0 27 (dk_at dksX2_marks_0 1 rfl rfl)
theorem dX2_marks_4 : decode cX2_marks 4 = .ok (.iload_n 1, 1) := dk_27 (dk_at dksX2_marks_0 4 rfl rfl)
theorem dX2_marks_5 : decode cX2_marks 5 = .ok (.iload_n 2, 1) := dk_28 (dk_at dksX2_marks_0 5 rfl rfl)
theorem dX2_marks_6 : decode cX2_marks 6 = .ok (.iastore, 1) := dk_79 (dk_at dksX2_marks_0 6 rfl rfl)
theorem dX2_marks_7 : decode cX2_marks 7 = .ok (.aload_n 0, 1) := dk_42 (dk_at dksX2_marks_0 7 rfl rfl)
theorem dX2_marks_8 : decode cX2_marks 8 = .ok (.getfield 30, 3) := dk_180 0 30 (dk_at dksX2_marks_0 8 rfl rfl)
theorem dX2_marks_11 : decode cX2_marks 11 = .ok (.iload_n 1, 1) := dk_27 (dk_at dksX2_marks_0 11 rfl rfl)
theorem dX2_marks_12 : decode cX2_marks 12 = .ok (.aload_n 0, 1) := dk_42 (dk_at dksX2_marks_0 12 rfl rfl)
theorem dX2_marks_13 : decode cX2_marks 13 = .ok (.getfield 138, 3) := dk_180 0 138 (dk_at dksX2_marks_0 13 rfl rfl)
theorem dX2_marks_16 : decode cX2_marks 16 = .ok (.iastore, 1) := dk_79 (dk_at dksX2_marks_0 16 rfl rfl)
theorem dX2_marks_17 : decode cX2_marks 17 = .ok (.iload_n 2, 1) := dk_28 (dk_at dksX2_marks_0 17 rfl rfl)
theorem dX2_marks_18 : decode cX2_marks 18 = .ok (.iconst 3, 1) := dk_6 (dk_at dksX2_marks_0 18 rfl rfl)
theorem dX2_marks_19 : decode cX2_marks 19 = .ok (.if_icmp .ne 23, 3) := dk_160 0 23 (dk_at dksX2_marks_0 19 rfl rfl)
theorem dX2_marks_22 : decode cX2_marks 22 = .ok (.aload_n 0, 1) := dk_42 (dk_at dksX2_marks_0 22 rfl rfl)
theorem dX2_marks_23 : decode cX2_marks 23 = .ok (.dup, 1) := dk_89 (dk_at dksX2_marks_0 23 rfl rfl)
theorem dX2_marks_24 : decode cX2_marks 24 = .ok (.getfield 135, 3) := dk_180 0 135 (dk_at dksX2_marks_1 0 rfl rfl)
theorem dX2_marks_27 : decode cX2_marks 27 = .ok (.iconst 1, 1) := dk_4 (dk_at dksX2_marks_1 3 rfl rfl)
theorem dX2_marks_28 : decode cX2_marks 28 = .ok (.iload_n 1, 1) := dk_27 (dk_at dksX2_marks_1 4 rfl rfl)
theorem dX2_marks_29 : decode cX2_marks 29 = .ok (.ishl, 1) := dk_120 (dk_at dksX2_marks_1 5 rfl rfl)
theorem dX2_marks_30 : decode cX2_marks 30 = .ok (.ior, 1) := dk_128 (dk_at dksX2_marks_1 6 rfl rfl)
theorem dX2_marks_31 : decode cX2_marks 31 = .ok (.putfield 135, 3) := dk_181 0 135 (dk_at dksX2_marks_1 7 rfl rfl)
theorem dX2_marks_34 : decode cX2_marks 34 = .ok (.aload_n 0, 1) := dk_42 (dk_at dksX2_marks_1 10 rfl rfl)
theorem dX2_marks_35 : decode cX2_marks 35 = .ok (.getfield 43, 3) := dk_180 0 43 (dk_at dksX2_marks_1 11 rfl rfl)
theorem dX2_marks_38 : decode cX2_marks 38 = .ok (.iload_n 1, 1) := dk_27 (dk_at dksX2_marks_1 14 rfl rfl)
theorem dX2_marks_39 : decode cX2_marks 39 = .ok (.invokevirtual 193, 3) := dk_182 0 193 (dk_at dksX2_marks_1 15 rfl rfl)
theorem dX2_marks_42 : decode cX2_marks 42 = .ok (.return_, 1) := dk_177 (dk_at dksX2_marks_1 18 rfl rfl)
def dkwX2_answers_2 : List UInt8 := [160, 0, 7, 6, 167, 0, 4, 28, 182, 0, 196, 177]
abbrev dktX2_answers_2 : List UInt8 := dkwX2_answers_2 ++ []
def dkwX2_answers_1 : List UInt8 := [160, 0, 4, 177, 42, 27, 28, 5, 160, 0, 12, 42, 180, 0, 27, 27, 46, 167, 0, 13, 28, 6]
abbrev dktX2_answers_1 : List UInt8 := dkwX2_answers_1 ++ dktX2_answers_2
def dkwX2_answers_0 : List UInt8 := [42, 180, 0, 27, 27, 46, 5, 160, 0, 19, 42, 180, 0, 30, 27, 46, 42, 180, 0, 138, 4, 100]
abbrev dktX2_answers_0 : List UInt8 := dkwX2_answers_0 ++ dktX2_answers_1
theorem dksX2_answers_0 : cX2_answers.data.toList.drop 0 = dktX2_answers_0 := by decide +kernel
theorem dksX2_answers_1 : cX2_answers.data.toList.drop 22 = dktX2_answers_1 := dk_seg dksX2_answers_0 22 rfl rfl
theorem dksX2_answers_2 : cX2_answers.data.toList.drop 44 = dktX2_answers_2 := dk_seg dksX2_answers_1 22 rfl rfl
theorem dX2_answers_0 : decode cX2_answers 0 = .ok (.aload_n 0, 1) := dk_42 (dk_at dksX2_answers_0 0 rfl rfl)
theorem dX2_answers_1 : decode cX2_answers 1 = .ok (.getfield 27, 3) := dk_180 0 27 (dk_at dksX2_answers_0 1 rfl rfl)
theorem dX2_answers_4 : decode cX2_answers 4 = .ok (.iload_n 1, 1) := dk_27 (dk_at dksX2_answers_0 4 rfl rfl)
theorem dX2_answers_5 : decode cX2_answers 5 = .ok (.iaload, 1) := dk_46 (dk_at dksX2_answers_0 5 rfl rfl)
theorem dX2_answers_6 : decode cX2_answers 6 = .ok (.iconst 2, 1) := dk_5 (dk_at dksX2_answers_0 6 rfl rfl)
theorem dX2_answers_7 : decode cX2_answers 7 = .ok (.if_icmp .ne 19, 3) := dk_160 0 19 (dk_at dksX2_answers_0 7 rfl rfl)
theorem dX2_answers_10 : decode cX2_answers 10 = .ok (.aload_n 0, 1) := dk_42 (dk_at dksX2_answers_0 10 rfl rfl)
theorem dX2_answers_11 : decode cX2_answers 11 = .ok (.getfield 30, 3) := dk_180 0 30 (dk_at dksX2_answers_0 11 rfl rfl)
theorem dX2_answers_14 : decode cX2_answers 14 = .ok (.iload_n 1, 1) := dk_27 (dk_at dksX2_answers_0 14 rfl rfl)
theorem dX2_answers_15 : decode cX2_answers 15 = .ok (.iaload, 1) := dk_46 (dk_at dksX2_answers_0 15 rfl rfl)
theorem dX2_answers_16 : decode cX2_answers 16 = .ok (.aload_n 0, 1) := dk_42 (dk_at dksX2_answers_0 16 rfl rfl)
theorem dX2_answers_17 : decode cX2_answers 17 = .ok (.getfield 138, 3) := dk_180 0 138 (dk_at dksX2_answers_0 17 rfl rfl)
theorem dX2_answers_20 : decode cX2_answers 20 = .ok (.iconst 1, 1) := dk_4 (dk_at dksX2_answers_0 20 rfl rfl)
theorem dX2_answers_21 : decode cX2_answers 21 = .ok (.isub, 1) := dk_100 (dk_at dksX2_answers_0 21 rfl rfl)
theorem dX2_answers_22 : decode cX2_answers 22 = .ok (.if_icmp .ne 4, 3) := dk_160 0 4 (dk_at dksX2_answers_1 0 rfl rfl)
theorem dX2_answers_25 : decode cX2_answers 25 = .ok (.return_, 1) := dk_177 (dk_at dksX2_answers_1 3 rfl rfl)
theorem dX2_answers_26 : decode cX2_answers 26 = .ok (.aload_n 0, 1) := dk_42 (dk_at dksX2_answers_1 4 rfl rfl)
theorem dX2_answers_27 : decode cX2_answers 27 = .ok (.iload_n 1, 1) := dk_27 (dk_at dksX2_answers_1 5 rfl rfl)
theorem dX2_answers_28 : decode cX2_answers 28 = .ok (.iload_n 2, 1) := dk_28 (dk_at dksX2_answers_1 6 rfl rfl)
theorem dX2_answers_29 : decode cX2_answers 29 = .ok (.iconst 2, 1) := dk_5 (dk_at dksX2_answers_1 7 rfl rfl)
theorem dX2_answers_30 : decode cX2_answers 30 = .ok (.if_icmp .ne 12, 3) := dk_160 0 12 (dk_at dksX2_answers_1 8 rfl rfl)
theorem dX2_answers_33 : decode cX2_answers 33 = .ok (.aload_n 0, 1) := dk_42 (dk_at dksX2_answers_1 11 rfl rfl)
theorem dX2_answers_34 : decode cX2_answers 34 = .ok (.getfield 27, 3) := dk_180 0 27 (dk_at dksX2_answers_1 12 rfl rfl)
theorem dX2_answers_37 : decode cX2_answers 37 = .ok (.iload_n 1, 1) := dk_27 (dk_at dksX2_answers_1 15 rfl rfl)
theorem dX2_answers_38 : decode cX2_answers 38 = .ok (.iaload, 1) := dk_46 (dk_at dksX2_answers_1 16 rfl rfl)
theorem dX2_answers_39 : decode cX2_answers 39 = .ok (.goto 13, 3) := dk_167 0 13 (dk_at dksX2_answers_1 17 rfl rfl)
theorem dX2_answers_42 : decode cX2_answers 42 = .ok (.iload_n 2, 1) := dk_28 (dk_at dksX2_answers_1 20 rfl rfl)
theorem dX2_answers_43 : decode cX2_answers 43 = .ok (.iconst 3, 1) := dk_6 (dk_at dksX2_answers_1 21 rfl rfl)
theorem dX2_answers_44 : decode cX2_answers 44 = .ok (.if_icmp .ne 7, 3) := dk_160 0 7 (dk_at dksX2_answers_2 0 rfl rfl)
theorem dX2_answers_47 : decode cX2_answers 47 = .ok (.iconst 3, 1) := dk_6 (dk_at dksX2_answers_2 3 rfl rfl)
theorem dX2_answers_48 : decode cX2_answers 48 = .ok (.goto 4, 3) := dk_167 0 4 (dk_at dksX2_answers_2 4 rfl rfl)
theorem dX2_answers_51 : decode cX2_answers 51 = .ok (.iload_n 2, 1) := dk_28 (dk_at dksX2_answers_2 7 rfl rfl)
theorem dX2_answers_52 : decode cX2_answers 52 = .ok (.invokevirtual 196, 3) := dk_182 0 196 (dk_at dksX2_answers_2 8 rfl rfl)
theorem dX2_answers_55 : decode cX2_answers 55 = .ok (.return_, 1) := dk_177 (dk_at dksX2_answers_2 11 rfl rfl)
def dkwX2_acts_7 : List UInt8 := [180, 0, 138, 79, 42, 180, 0, 63, 3, 27, 2, 182, 0, 219, 177]
abbrev dktX2_acts_7 : List UInt8 := dkwX2_acts_7 ++ []
def dkwX2_acts_6 : List UInt8 := [180, 0, 138, 42, 180, 0, 24, 27, 46, 100, 42, 180, 0, 75, 161, 0, 23, 42, 180, 0, 24, 27, 42]
abbrev dktX2_acts_6 : List UInt8 := dkwX2_acts_6 ++ dktX2_acts_7
def dkwX2_acts_5 : List UInt8 := [182, 0, 219, 42, 180, 0, 9, 27, 46, 4, 160, 0, 51, 42, 180, 0, 24, 27, 46, 2, 159, 0, 21, 42]
abbrev dktX2_acts_5 : List UInt8 := dkwX2_acts_5 ++ dktX2_acts_6
def dkwX2_acts_4 : List UInt8 := [180, 0, 129, 4, 27, 120, 2, 130, 126, 181, 0, 129, 42, 180, 0, 63, 6, 27, 42, 180, 0, 9, 27, 46]
abbrev dktX2_acts_4 : List UInt8 := dkwX2_acts_4 ++ dktX2_acts_5
def dkwX2_acts_3 : List UInt8 := [42, 180, 0, 63, 5, 27, 2, 182, 0, 219, 42, 180, 0, 129, 27, 184, 0, 91, 153, 0, 32, 42, 89]
abbrev dktX2_acts_3 : List UInt8 := dkwX2_acts_3 ++ dktX2_acts_4
def dkwX2_acts_2 : List UInt8 := [180, 0, 132, 27, 184, 0, 91, 153, 0, 27, 42, 89, 180, 0, 132, 4, 27, 120, 2, 130, 126, 181, 0, 132]
abbrev dktX2_acts_2 : List UInt8 := dkwX2_acts_2 ++ dktX2_acts_3
def dkwX2_acts_1 : List UInt8 := [6, 79, 42, 180, 0, 21, 27, 42, 180, 0, 138, 79, 42, 180, 0, 63, 4, 27, 2, 182, 0, 219, 42]
abbrev dktX2_acts_1 : List UInt8 := dkwX2_acts_1 ++ dktX2_acts_2
def dkwX2_acts_0 : List UInt8 := [42, 180, 0, 9, 27, 46, 5, 160, 0, 39, 42, 180, 0, 15, 27, 46, 154, 0, 30, 42, 180, 0, 9, 27]
abbrev dktX2_acts_0 : List UInt8 := dkwX2_acts_0 ++ dktX2_acts_1
theorem dksX2_acts_0 : cX2_acts.data.toList.drop 0 = dktX2_acts_0 := by decide +kernel
theorem dksX2_acts_1 : cX2_acts.data.toList.drop 24 = dktX2_acts_1 := dk_seg dksX2_acts_0 24 rfl rfl
theorem dksX2_acts_2 : cX2_acts.data.toList.drop 47 = dktX2_acts_2 := dk_seg dksX2_acts_1 23 rfl rfl
theorem dksX2_acts_3 : cX2_acts.data.toList.drop 71 = dktX2_acts_3 := dk_seg dksX2_acts_2 24 rfl rfl
theorem dksX2_acts_4 : cX2_acts.data.toList.drop 94 = dktX2_acts_4 := dk_seg dksX2_acts_3 23 rfl rfl
theorem dksX2_acts_5 : cX2_acts.data.toList.drop 118 = dktX2_acts_5 := dk_seg dksX2_acts_4 24 rfl rfl
theorem dksX2_acts_6 : cX2_acts.data.toList.drop 142 = dktX2_acts_6 := dk_seg dksX2_acts_5 24 rfl rfl
theorem dksX2_acts_7 : cX2_acts.data.toList.drop 165 = dktX2_acts_7 := dk_seg dksX2_acts_6 23 rfl rfl
theorem dX2_acts_0 : decode cX2_acts 0 = .ok (.aload_n 0, 1) := dk_42 (dk_at dksX2_acts_0 0 rfl rfl)
theorem dX2_acts_1 : decode cX2_acts 1 = .ok (.getfield 9, 3) := dk_180 0 9 (dk_at dksX2_acts_0 1 rfl rfl)
theorem dX2_acts_4 : decode cX2_acts 4 = .ok (.iload_n 1, 1) := dk_27 (dk_at dksX2_acts_0 4 rfl rfl)
theorem dX2_acts_5 : decode cX2_acts 5 = .ok (.iaload, 1) := dk_46 (dk_at dksX2_acts_0 5 rfl rfl)
theorem dX2_acts_6 : decode cX2_acts 6 = .ok (.iconst 2, 1) := dk_5 (dk_at dksX2_acts_0 6 rfl rfl)
theorem dX2_acts_7 : decode cX2_acts 7 = .ok (.if_icmp .ne 39, 3) := dk_160 0 39 (dk_at dksX2_acts_0 7 rfl rfl)
theorem dX2_acts_10 : decode cX2_acts 10 = .ok (.aload_n 0, 1) := dk_42 (dk_at dksX2_acts_0 10 rfl rfl)
theorem dX2_acts_11 : decode cX2_acts 11 = .ok (.getfield 15, 3) := dk_180 0 15 (dk_at dksX2_acts_0 11 rfl rfl)
theorem dX2_acts_14 : decode cX2_acts 14 = .ok (.iload_n 1, 1) := dk_27 (dk_at dksX2_acts_0 14 rfl rfl)
theorem dX2_acts_15 : decode cX2_acts 15 = .ok (.iaload, 1) := dk_46 (dk_at dksX2_acts_0 15 rfl rfl)
theorem dX2_acts_16 : decode cX2_acts 16 = .ok (.ifCond .ne 30, 3) := dk_154 0 30 (dk_at dksX2_acts_0 16 rfl rfl)
theorem dX2_acts_19 : decode cX2_acts 19 = .ok (.aload_n 0, 1) := dk_42 (dk_at dksX2_acts_0 19 rfl rfl)
theorem dX2_acts_20 : decode cX2_acts 20 = .ok (.getfield 9, 3) := dk_180 0 9 (dk_at dksX2_acts_0 20 rfl rfl)
theorem dX2_acts_23 : decode cX2_acts 23 = .ok (.iload_n 1, 1) := dk_27 (dk_at dksX2_acts_0 23 rfl rfl)
theorem dX2_acts_24 : decode cX2_acts 24 = .ok (.iconst 3, 1) := dk_6 (dk_at dksX2_acts_1 0 rfl rfl)
theorem dX2_acts_25 : decode cX2_acts 25 = .ok (.iastore, 1) := dk_79 (dk_at dksX2_acts_1 1 rfl rfl)
theorem dX2_acts_26 : decode cX2_acts 26 = .ok (.aload_n 0, 1) := dk_42 (dk_at dksX2_acts_1 2 rfl rfl)
theorem dX2_acts_27 : decode cX2_acts 27 = .ok (.getfield 21, 3) := dk_180 0 21 (dk_at dksX2_acts_1 3 rfl rfl)
theorem dX2_acts_30 : decode cX2_acts 30 = .ok (.iload_n 1, 1) := dk_27 (dk_at dksX2_acts_1 6 rfl rfl)
theorem dX2_acts_31 : decode cX2_acts 31 = .ok (.aload_n 0, 1) := dk_42 (dk_at dksX2_acts_1 7 rfl rfl)
theorem dX2_acts_32 : decode cX2_acts 32 = .ok (.getfield 138, 3) := dk_180 0 138 (dk_at dksX2_acts_1 8 rfl rfl)
theorem dX2_acts_35 : decode cX2_acts 35 = .ok (.iastore, 1) := dk_79 (dk_at dksX2_acts_1 11 rfl rfl)
theorem dX2_acts_36 : decode cX2_acts 36 = .ok (.aload_n 0, 1) := dk_42 (dk_at dksX2_acts_1 12 rfl rfl)
theorem dX2_acts_37 : decode cX2_acts 37 = .ok (.getfield 63, 3) := dk_180 0 63 (dk_at dksX2_acts_1 13 rfl rfl)
theorem dX2_acts_40 : decode cX2_acts 40 = .ok (.iconst 1, 1) := dk_4 (dk_at dksX2_acts_1 16 rfl rfl)
theorem dX2_acts_41 : decode cX2_acts 41 = .ok (.iload_n 1, 1) := dk_27 (dk_at dksX2_acts_1 17 rfl rfl)
theorem dX2_acts_42 : decode cX2_acts 42 = .ok (.iconst (-1), 1) := dk_2 (dk_at dksX2_acts_1 18 rfl rfl)
theorem dX2_acts_43 : decode cX2_acts 43 = .ok (.invokevirtual 219, 3) := dk_182 0 219 (dk_at dksX2_acts_1 19 rfl rfl)
theorem dX2_acts_46 : decode cX2_acts 46 = .ok (.aload_n 0, 1) := dk_42 (dk_at dksX2_acts_1 22 rfl rfl)
theorem dX2_acts_47 : decode cX2_acts 47 = .ok (.getfield 132, 3) := dk_180 0 132 (dk_at dksX2_acts_2 0 rfl rfl)
theorem dX2_acts_50 : decode cX2_acts 50 = .ok (.iload_n 1, 1) := dk_27 (dk_at dksX2_acts_2 3 rfl rfl)
theorem dX2_acts_51 : decode cX2_acts 51 = .ok (.invokestatic 91, 3) := dk_184 0 91 (dk_at dksX2_acts_2 4 rfl rfl)
theorem dX2_acts_54 : decode cX2_acts 54 = .ok (.ifCond .eq 27, 3) := dk_153 0 27 (dk_at dksX2_acts_2 7 rfl rfl)
theorem dX2_acts_57 : decode cX2_acts 57 = .ok (.aload_n 0, 1) := dk_42 (dk_at dksX2_acts_2 10 rfl rfl)
theorem dX2_acts_58 : decode cX2_acts 58 = .ok (.dup, 1) := dk_89 (dk_at dksX2_acts_2 11 rfl rfl)
theorem dX2_acts_59 : decode cX2_acts 59 = .ok (.getfield 132, 3) := dk_180 0 132 (dk_at dksX2_acts_2 12 rfl rfl)
theorem dX2_acts_62 : decode cX2_acts 62 = .ok (.iconst 1, 1) := dk_4 (dk_at dksX2_acts_2 15 rfl rfl)
theorem dX2_acts_63 : decode cX2_acts 63 = .ok (.iload_n 1, 1) := dk_27 (dk_at dksX2_acts_2 16 rfl rfl)
theorem dX2_acts_64 : decode cX2_acts 64 = .ok (.ishl, 1) := dk_120 (dk_at dksX2_acts_2 17 rfl rfl)
theorem dX2_acts_65 : decode cX2_acts 65 = .ok (.iconst (-1), 1) := dk_2 (dk_at dksX2_acts_2 18 rfl rfl)
theorem dX2_acts_66 : decode cX2_acts 66 = .ok (.ixor, 1) := dk_130 (dk_at dksX2_acts_2 19 rfl rfl)
theorem dX2_acts_67 : decode cX2_acts 67 = .ok (.iand, 1) := dk_126 (dk_at dksX2_acts_2 20 rfl rfl)
theorem dX2_acts_68 : decode cX2_acts 68 = .ok (.putfield 132, 3) := dk_181 0 132 (dk_at dksX2_acts_2 21 rfl rfl)
theorem dX2_acts_71 : decode cX2_acts 71 = .ok (.aload_n 0, 1) := dk_42 (dk_at dksX2_acts_3 0 rfl rfl)
theorem dX2_acts_72 : decode cX2_acts 72 = .ok (.getfield 63, 3) := dk_180 0 63 (dk_at dksX2_acts_3 1 rfl rfl)
theorem dX2_acts_75 : decode cX2_acts 75 = .ok (.iconst 2, 1) := dk_5 (dk_at dksX2_acts_3 4 rfl rfl)
theorem dX2_acts_76 : decode cX2_acts 76 = .ok (.iload_n 1, 1) := dk_27 (dk_at dksX2_acts_3 5 rfl rfl)
theorem dX2_acts_77 : decode cX2_acts 77 = .ok (.iconst (-1), 1) := dk_2 (dk_at dksX2_acts_3 6 rfl rfl)
theorem dX2_acts_78 : decode cX2_acts 78 = .ok (.invokevirtual 219, 3) := dk_182 0 219 (dk_at dksX2_acts_3 7 rfl rfl)
theorem dX2_acts_81 : decode cX2_acts 81 = .ok (.aload_n 0, 1) := dk_42 (dk_at dksX2_acts_3 10 rfl rfl)
theorem dX2_acts_82 : decode cX2_acts 82 = .ok (.getfield 129, 3) := dk_180 0 129 (dk_at dksX2_acts_3 11 rfl rfl)
theorem dX2_acts_85 : decode cX2_acts 85 = .ok (.iload_n 1, 1) := dk_27 (dk_at dksX2_acts_3 14 rfl rfl)
theorem dX2_acts_86 : decode cX2_acts 86 = .ok (.invokestatic 91, 3) := dk_184 0 91 (dk_at dksX2_acts_3 15 rfl rfl)
theorem dX2_acts_89 : decode cX2_acts 89 = .ok (.ifCond .eq 32, 3) := dk_153 0 32 (dk_at dksX2_acts_3 18 rfl rfl)
theorem dX2_acts_92 : decode cX2_acts 92 = .ok (.aload_n 0, 1) := dk_42 (dk_at dksX2_acts_3 21 rfl rfl)
theorem dX2_acts_93 : decode cX2_acts 93 = .ok (.dup, 1) := dk_89 (dk_at dksX2_acts_3 22 rfl rfl)
theorem dX2_acts_94 : decode cX2_acts 94 = .ok (.getfield 129, 3) := dk_180 0 129 (dk_at dksX2_acts_4 0 rfl rfl)
theorem dX2_acts_97 : decode cX2_acts 97 = .ok (.iconst 1, 1) := dk_4 (dk_at dksX2_acts_4 3 rfl rfl)
theorem dX2_acts_98 : decode cX2_acts 98 = .ok (.iload_n 1, 1) := dk_27 (dk_at dksX2_acts_4 4 rfl rfl)
theorem dX2_acts_99 : decode cX2_acts 99 = .ok (.ishl, 1) := dk_120 (dk_at dksX2_acts_4 5 rfl rfl)
theorem dX2_acts_100 : decode cX2_acts 100 = .ok (.iconst (-1), 1) := dk_2 (dk_at dksX2_acts_4 6 rfl rfl)
theorem dX2_acts_101 : decode cX2_acts 101 = .ok (.ixor, 1) := dk_130 (dk_at dksX2_acts_4 7 rfl rfl)
theorem dX2_acts_102 : decode cX2_acts 102 = .ok (.iand, 1) := dk_126 (dk_at dksX2_acts_4 8 rfl rfl)
theorem dX2_acts_103 : decode cX2_acts 103 = .ok (.putfield 129, 3) := dk_181 0 129 (dk_at dksX2_acts_4 9 rfl rfl)
theorem dX2_acts_106 : decode cX2_acts 106 = .ok (.aload_n 0, 1) := dk_42 (dk_at dksX2_acts_4 12 rfl rfl)
theorem dX2_acts_107 : decode cX2_acts 107 = .ok (.getfield 63, 3) := dk_180 0 63 (dk_at dksX2_acts_4 13 rfl rfl)
theorem dX2_acts_110 : decode cX2_acts 110 = .ok (.iconst 3, 1) := dk_6 (dk_at dksX2_acts_4 16 rfl rfl)
theorem dX2_acts_111 : decode cX2_acts 111 = .ok (.iload_n 1, 1) := dk_27 (dk_at dksX2_acts_4 17 rfl rfl)
theorem dX2_acts_112 : decode cX2_acts 112 = .ok (.aload_n 0, 1) := dk_42 (dk_at dksX2_acts_4 18 rfl rfl)
theorem dX2_acts_113 : decode cX2_acts 113 = .ok (.getfield 9, 3) := dk_180 0 9 (dk_at dksX2_acts_4 19 rfl rfl)
theorem dX2_acts_116 : decode cX2_acts 116 = .ok (.iload_n 1, 1) := dk_27 (dk_at dksX2_acts_4 22 rfl rfl)
theorem dX2_acts_117 : decode cX2_acts 117 = .ok (.iaload, 1) := dk_46 (dk_at dksX2_acts_4 23 rfl rfl)
theorem dX2_acts_118 : decode cX2_acts 118 = .ok (.invokevirtual 219, 3) := dk_182 0 219 (dk_at dksX2_acts_5 0 rfl rfl)
theorem dX2_acts_121 : decode cX2_acts 121 = .ok (.aload_n 0, 1) := dk_42 (dk_at dksX2_acts_5 3 rfl rfl)
theorem dX2_acts_122 : decode cX2_acts 122 = .ok (.getfield 9, 3) := dk_180 0 9 (dk_at dksX2_acts_5 4 rfl rfl)
theorem dX2_acts_125 : decode cX2_acts 125 = .ok (.iload_n 1, 1) := dk_27 (dk_at dksX2_acts_5 7 rfl rfl)
theorem dX2_acts_126 : decode cX2_acts 126 = .ok (.iaload, 1) := dk_46 (dk_at dksX2_acts_5 8 rfl rfl)
theorem dX2_acts_127 : decode cX2_acts 127 = .ok (.iconst 1, 1) := dk_4 (dk_at dksX2_acts_5 9 rfl rfl)
theorem dX2_acts_128 : decode cX2_acts 128 = .ok (.if_icmp .ne 51, 3) := dk_160 0 51 (dk_at dksX2_acts_5 10 rfl rfl)
theorem dX2_acts_131 : decode cX2_acts 131 = .ok (.aload_n 0, 1) := dk_42 (dk_at dksX2_acts_5 13 rfl rfl)
theorem dX2_acts_132 : decode cX2_acts 132 = .ok (.getfield 24, 3) := dk_180 0 24 (dk_at dksX2_acts_5 14 rfl rfl)
theorem dX2_acts_135 : decode cX2_acts 135 = .ok (.iload_n 1, 1) := dk_27 (dk_at dksX2_acts_5 17 rfl rfl)
theorem dX2_acts_136 : decode cX2_acts 136 = .ok (.iaload, 1) := dk_46 (dk_at dksX2_acts_5 18 rfl rfl)
theorem dX2_acts_137 : decode cX2_acts 137 = .ok (.iconst (-1), 1) := dk_2 (dk_at dksX2_acts_5 19 rfl rfl)
theorem dX2_acts_138 : decode cX2_acts 138 = .ok (.if_icmp .eq 21, 3) := dk_159 0 21 (dk_at dksX2_acts_5 20 rfl rfl)
theorem dX2_acts_141 : decode cX2_acts 141 = .ok (.aload_n 0, 1) := dk_42 (dk_at dksX2_acts_5 23 rfl rfl)
theorem dX2_acts_142 : decode cX2_acts 142 = .ok (.getfield 138, 3) := dk_180 0 138 (dk_at dksX2_acts_6 0 rfl rfl)
theorem dX2_acts_145 : decode cX2_acts 145 = .ok (.aload_n 0, 1) := dk_42 (dk_at dksX2_acts_6 3 rfl rfl)
theorem dX2_acts_146 : decode cX2_acts 146 = .ok (.getfield 24, 3) := dk_180 0 24 (dk_at dksX2_acts_6 4 rfl rfl)
theorem dX2_acts_149 : decode cX2_acts 149 = .ok (.iload_n 1, 1) := dk_27 (dk_at dksX2_acts_6 7 rfl rfl)
theorem dX2_acts_150 : decode cX2_acts 150 = .ok (.iaload, 1) := dk_46 (dk_at dksX2_acts_6 8 rfl rfl)
theorem dX2_acts_151 : decode cX2_acts 151 = .ok (.isub, 1) := dk_100 (dk_at dksX2_acts_6 9 rfl rfl)
theorem dX2_acts_152 : decode cX2_acts 152 = .ok (.aload_n 0, 1) := dk_42 (dk_at dksX2_acts_6 10 rfl rfl)
theorem dX2_acts_153 : decode cX2_acts 153 = .ok (.getfield 75, 3) := dk_180 0 75 (dk_at dksX2_acts_6 11 rfl rfl)
theorem dX2_acts_156 : decode cX2_acts 156 = .ok (.if_icmp .lt 23, 3) := dk_161 0 23 (dk_at dksX2_acts_6 14 rfl rfl)
theorem dX2_acts_159 : decode cX2_acts 159 = .ok (.aload_n 0, 1) := dk_42 (dk_at dksX2_acts_6 17 rfl rfl)
theorem dX2_acts_160 : decode cX2_acts 160 = .ok (.getfield 24, 3) := dk_180 0 24 (dk_at dksX2_acts_6 18 rfl rfl)
theorem dX2_acts_163 : decode cX2_acts 163 = .ok (.iload_n 1, 1) := dk_27 (dk_at dksX2_acts_6 21 rfl rfl)
theorem dX2_acts_164 : decode cX2_acts 164 = .ok (.aload_n 0, 1) := dk_42 (dk_at dksX2_acts_6 22 rfl rfl)
theorem dX2_acts_165 : decode cX2_acts 165 = .ok (.getfield 138, 3) := dk_180 0 138 (dk_at dksX2_acts_7 0 rfl rfl)
theorem dX2_acts_168 : decode cX2_acts 168 = .ok (.iastore, 1) := dk_79 (dk_at dksX2_acts_7 3 rfl rfl)
theorem dX2_acts_169 : decode cX2_acts 169 = .ok (.aload_n 0, 1) := dk_42 (dk_at dksX2_acts_7 4 rfl rfl)
theorem dX2_acts_170 : decode cX2_acts 170 = .ok (.getfield 63, 3) := dk_180 0 63 (dk_at dksX2_acts_7 5 rfl rfl)
theorem dX2_acts_173 : decode cX2_acts 173 = .ok (.iconst 0, 1) := dk_3 (dk_at dksX2_acts_7 8 rfl rfl)
theorem dX2_acts_174 : decode cX2_acts 174 = .ok (.iload_n 1, 1) := dk_27 (dk_at dksX2_acts_7 9 rfl rfl)
theorem dX2_acts_175 : decode cX2_acts 175 = .ok (.iconst (-1), 1) := dk_2 (dk_at dksX2_acts_7 10 rfl rfl)
theorem dX2_acts_176 : decode cX2_acts 176 = .ok (.invokevirtual 219, 3) := dk_182 0 219 (dk_at dksX2_acts_7 11 rfl rfl)
theorem dX2_acts_179 : decode cX2_acts 179 = .ok (.return_, 1) := dk_177 (dk_at dksX2_acts_7 14 rfl rfl)
def dkwX2_polls_4 : List UInt8 := [167, 255, 166, 177]
abbrev dktX2_polls_4 : List UInt8 := dkwX2_polls_4 ++ []
def dkwX2_polls_3 : List UInt8 := [180, 0, 63, 8, 27, 2, 182, 0, 219, 42, 180, 0, 30, 27, 42, 180, 0, 138, 79, 132, 1, 1]
abbrev dktX2_polls_3 : List UInt8 := dkwX2_polls_3 ++ dktX2_polls_4
def dkwX2_polls_2 : List UInt8 := [180, 0, 27, 27, 46, 6, 160, 0, 36, 28, 8, 42, 180, 0, 49, 180, 0, 222, 104, 161, 0, 23, 42]
abbrev dktX2_polls_2 : List UInt8 := dkwX2_polls_2 ++ dktX2_polls_3
def dkwX2_polls_1 : List UInt8 := [61, 42, 180, 0, 27, 27, 46, 5, 160, 0, 14, 28, 42, 180, 0, 49, 180, 0, 222, 162, 0, 26, 42]
abbrev dktX2_polls_1 : List UInt8 := dkwX2_polls_1 ++ dktX2_polls_2
def dkwX2_polls_0 : List UInt8 := [3, 60, 27, 42, 180, 0, 49, 182, 0, 81, 162, 0, 85, 42, 180, 0, 138, 42, 180, 0, 30, 27, 46, 100]
abbrev dktX2_polls_0 : List UInt8 := dkwX2_polls_0 ++ dktX2_polls_1
theorem dksX2_polls_0 : cX2_polls.data.toList.drop 0 = dktX2_polls_0 := by decide +kernel
theorem dksX2_polls_1 : cX2_polls.data.toList.drop 24 = dktX2_polls_1 := dk_seg dksX2_polls_0 24 rfl rfl
theorem dksX2_polls_2 : cX2_polls.data.toList.drop 47 = dktX2_polls_2 := dk_seg dksX2_polls_1 23 rfl rfl
theorem dksX2_polls_3 : cX2_polls.data.toList.drop 70 = dktX2_polls_3 := dk_seg dksX2_polls_2 23 rfl rfl
theorem dksX2_polls_4 : cX2_polls.data.toList.drop 92 = dktX2_polls_4 := dk_seg dksX2_polls_3 22 rfl rfl
theorem dX2_polls_0 : decode cX2_polls 0 = .ok (.iconst 0, 1) := dk_3 (dk_at dksX2_polls_0 0 rfl rfl)
theorem dX2_polls_1 : decode cX2_polls 1 = .ok (.istore_n 1, 1) := dk_60 (dk_at dksX2_polls_0 1 rfl rfl)
theorem dX2_polls_2 : decode cX2_polls 2 = .ok (.iload_n 1, 1) := dk_27 (dk_at dksX2_polls_0 2 rfl rfl)
theorem dX2_polls_3 : decode cX2_polls 3 = .ok (.aload_n 0, 1) := dk_42 (dk_at dksX2_polls_0 3 rfl rfl)
theorem dX2_polls_4 : decode cX2_polls 4 = .ok (.getfield 49, 3) := dk_180 0 49 (dk_at dksX2_polls_0 4 rfl rfl)
theorem dX2_polls_7 : decode cX2_polls 7 = .ok (.invokevirtual 81, 3) := dk_182 0 81 (dk_at dksX2_polls_0 7 rfl rfl)
theorem dX2_polls_10 : decode cX2_polls 10 = .ok (.if_icmp .ge 85, 3) := dk_162 0 85 (dk_at dksX2_polls_0 10 rfl rfl)
theorem dX2_polls_13 : decode cX2_polls 13 = .ok (.aload_n 0, 1) := dk_42 (dk_at dksX2_polls_0 13 rfl rfl)
theorem dX2_polls_14 : decode cX2_polls 14 = .ok (.getfield 138, 3) := dk_180 0 138 (dk_at dksX2_polls_0 14 rfl rfl)
theorem dX2_polls_17 : decode cX2_polls 17 = .ok (.aload_n 0, 1) := dk_42 (dk_at dksX2_polls_0 17 rfl rfl)
theorem dX2_polls_18 : decode cX2_polls 18 = .ok (.getfield 30, 3) := dk_180 0 30 (dk_at dksX2_polls_0 18 rfl rfl)
theorem dX2_polls_21 : decode cX2_polls 21 = .ok (.iload_n 1, 1) := dk_27 (dk_at dksX2_polls_0 21 rfl rfl)
theorem dX2_polls_22 : decode cX2_polls 22 = .ok (.iaload, 1) := dk_46 (dk_at dksX2_polls_0 22 rfl rfl)
theorem dX2_polls_23 : decode cX2_polls 23 = .ok (.isub, 1) := dk_100 (dk_at dksX2_polls_0 23 rfl rfl)
theorem dX2_polls_24 : decode cX2_polls 24 = .ok (.istore_n 2, 1) := dk_61 (dk_at dksX2_polls_1 0 rfl rfl)
theorem dX2_polls_25 : decode cX2_polls 25 = .ok (.aload_n 0, 1) := dk_42 (dk_at dksX2_polls_1 1 rfl rfl)
theorem dX2_polls_26 : decode cX2_polls 26 = .ok (.getfield 27, 3) := dk_180 0 27 (dk_at dksX2_polls_1 2 rfl rfl)
theorem dX2_polls_29 : decode cX2_polls 29 = .ok (.iload_n 1, 1) := dk_27 (dk_at dksX2_polls_1 5 rfl rfl)
theorem dX2_polls_30 : decode cX2_polls 30 = .ok (.iaload, 1) := dk_46 (dk_at dksX2_polls_1 6 rfl rfl)
theorem dX2_polls_31 : decode cX2_polls 31 = .ok (.iconst 2, 1) := dk_5 (dk_at dksX2_polls_1 7 rfl rfl)
theorem dX2_polls_32 : decode cX2_polls 32 = .ok (.if_icmp .ne 14, 3) := dk_160 0 14 (dk_at dksX2_polls_1 8 rfl rfl)
theorem dX2_polls_35 : decode cX2_polls 35 = .ok (.iload_n 2, 1) := dk_28 (dk_at dksX2_polls_1 11 rfl rfl)
theorem dX2_polls_36 : decode cX2_polls 36 = .ok (.aload_n 0, 1) := dk_42 (dk_at dksX2_polls_1 12 rfl rfl)
theorem dX2_polls_37 : decode cX2_polls 37 = .ok (.getfield 49, 3) := dk_180 0 49 (dk_at dksX2_polls_1 13 rfl rfl)
theorem dX2_polls_40 : decode cX2_polls 40 = .ok (.getfield 222, 3) := dk_180 0 222 (dk_at dksX2_polls_1 16 rfl rfl)
theorem dX2_polls_43 : decode cX2_polls 43 = .ok (.if_icmp .ge 26, 3) := dk_162 0 26 (dk_at dksX2_polls_1 19 rfl rfl)
theorem dX2_polls_46 : decode cX2_polls 46 = .ok (.aload_n 0, 1) := dk_42 (dk_at dksX2_polls_1 22 rfl rfl)
theorem dX2_polls_47 : decode cX2_polls 47 = .ok (.getfield 27, 3) := dk_180 0 27 (dk_at dksX2_polls_2 0 rfl rfl)
theorem dX2_polls_50 : decode cX2_polls 50 = .ok (.iload_n 1, 1) := dk_27 (dk_at dksX2_polls_2 3 rfl rfl)
theorem dX2_polls_51 : decode cX2_polls 51 = .ok (.iaload, 1) := dk_46 (dk_at dksX2_polls_2 4 rfl rfl)
theorem dX2_polls_52 : decode cX2_polls 52 = .ok (.iconst 3, 1) := dk_6 (dk_at dksX2_polls_2 5 rfl rfl)
theorem dX2_polls_53 : decode cX2_polls 53 = .ok (.if_icmp .ne 36, 3) := dk_160 0 36 (dk_at dksX2_polls_2 6 rfl rfl)
theorem dX2_polls_56 : decode cX2_polls 56 = .ok (.iload_n 2, 1) := dk_28 (dk_at dksX2_polls_2 9 rfl rfl)
theorem dX2_polls_57 : decode cX2_polls 57 = .ok (.iconst 5, 1) := dk_8 (dk_at dksX2_polls_2 10 rfl rfl)
theorem dX2_polls_58 : decode cX2_polls 58 = .ok (.aload_n 0, 1) := dk_42 (dk_at dksX2_polls_2 11 rfl rfl)
theorem dX2_polls_59 : decode cX2_polls 59 = .ok (.getfield 49, 3) := dk_180 0 49 (dk_at dksX2_polls_2 12 rfl rfl)
theorem dX2_polls_62 : decode cX2_polls 62 = .ok (.getfield 222, 3) := dk_180 0 222 (dk_at dksX2_polls_2 15 rfl rfl)
theorem dX2_polls_65 : decode cX2_polls 65 = .ok (.imul, 1) := dk_104 (dk_at dksX2_polls_2 18 rfl rfl)
theorem dX2_polls_66 : decode cX2_polls 66 = .ok (.if_icmp .lt 23, 3) := dk_161 0 23 (dk_at dksX2_polls_2 19 rfl rfl)
theorem dX2_polls_69 : decode cX2_polls 69 = .ok (.aload_n 0, 1) := dk_42 (dk_at dksX2_polls_2 22 rfl rfl)
theorem dX2_polls_70 : decode cX2_polls 70 = .ok (.getfield 63, 3) := dk_180 0 63 (dk_at dksX2_polls_3 0 rfl rfl)
theorem dX2_polls_73 : decode cX2_polls 73 = .ok (.iconst 5, 1) := dk_8 (dk_at dksX2_polls_3 3 rfl rfl)
theorem dX2_polls_74 : decode cX2_polls 74 = .ok (.iload_n 1, 1) := dk_27 (dk_at dksX2_polls_3 4 rfl rfl)
theorem dX2_polls_75 : decode cX2_polls 75 = .ok (.iconst (-1), 1) := dk_2 (dk_at dksX2_polls_3 5 rfl rfl)
theorem dX2_polls_76 : decode cX2_polls 76 = .ok (.invokevirtual 219, 3) := dk_182 0 219 (dk_at dksX2_polls_3 6 rfl rfl)
theorem dX2_polls_79 : decode cX2_polls 79 = .ok (.aload_n 0, 1) := dk_42 (dk_at dksX2_polls_3 9 rfl rfl)
theorem dX2_polls_80 : decode cX2_polls 80 = .ok (.getfield 30, 3) := dk_180 0 30 (dk_at dksX2_polls_3 10 rfl rfl)
theorem dX2_polls_83 : decode cX2_polls 83 = .ok (.iload_n 1, 1) := dk_27 (dk_at dksX2_polls_3 13 rfl rfl)
theorem dX2_polls_84 : decode cX2_polls 84 = .ok (.aload_n 0, 1) := dk_42 (dk_at dksX2_polls_3 14 rfl rfl)
theorem dX2_polls_85 : decode cX2_polls 85 = .ok (.getfield 138, 3) := dk_180 0 138 (dk_at dksX2_polls_3 15 rfl rfl)
theorem dX2_polls_88 : decode cX2_polls 88 = .ok (.iastore, 1) := dk_79 (dk_at dksX2_polls_3 18 rfl rfl)
theorem dX2_polls_89 : decode cX2_polls 89 = .ok (.iinc 1 1, 3) := dk_132 1 1 (dk_at dksX2_polls_3 19 rfl rfl)
theorem dX2_polls_92 : decode cX2_polls 92 = .ok (.goto (-90), 3) := dk_167 255 166 (dk_at dksX2_polls_4 0 rfl rfl)
theorem dX2_polls_95 : decode cX2_polls 95 = .ok (.return_, 1) := dk_177 (dk_at dksX2_polls_4 3 rfl rfl)
def dkwX2_grants_2 : List UInt8 := [182, 0, 196, 132, 2, 1, 167, 255, 219, 177]
abbrev dktX2_grants_2 : List UInt8 := dkwX2_grants_2 ++ []
def dkwX2_grants_1 : List UInt8 := [42, 180, 0, 63, 7, 43, 180, 0, 240, 28, 46, 2, 182, 0, 219, 42, 43, 180, 0, 240, 28, 46, 5]
abbrev dktX2_grants_1 : List UInt8 := dkwX2_grants_1 ++ dktX2_grants_2
def dkwX2_grants_0 : List UInt8 := [42, 4, 182, 0, 216, 154, 0, 4, 177, 42, 182, 0, 236, 76, 3, 61, 28, 43, 180, 0, 192, 162, 0, 35]
abbrev dktX2_grants_0 : List UInt8 := dkwX2_grants_0 ++ dktX2_grants_1
theorem dksX2_grants_0 : cX2_grants.data.toList.drop 0 = dktX2_grants_0 := by decide +kernel
theorem dksX2_grants_1 : cX2_grants.data.toList.drop 24 = dktX2_grants_1 := dk_seg dksX2_grants_0 24 rfl rfl
theorem dksX2_grants_2 : cX2_grants.data.toList.drop 47 = dktX2_grants_2 := dk_seg dksX2_grants_1 23 rfl rfl
theorem dX2_grants_0 : decode cX2_grants 0 = .ok (.aload_n 0, 1) := dk_42 (dk_at dksX2_grants_0 0 rfl rfl)
theorem dX2_grants_1 : decode cX2_grants 1 = .ok (.iconst 1, 1) := dk_4 (dk_at dksX2_grants_0 1 rfl rfl)
theorem dX2_grants_2 : decode cX2_grants 2 = .ok (.invokevirtual 216, 3) := dk_182 0 216 (dk_at dksX2_grants_0 2 rfl rfl)
theorem dX2_grants_5 : decode cX2_grants 5 = .ok (.ifCond .ne 4, 3) := dk_154 0 4 (dk_at dksX2_grants_0 5 rfl rfl)
theorem dX2_grants_8 : decode cX2_grants 8 = .ok (.return_, 1) := dk_177 (dk_at dksX2_grants_0 8 rfl rfl)
theorem dX2_grants_9 : decode cX2_grants 9 = .ok (.aload_n 0, 1) := dk_42 (dk_at dksX2_grants_0 9 rfl rfl)
theorem dX2_grants_10 : decode cX2_grants 10 = .ok (.invokevirtual 236, 3) := dk_182 0 236 (dk_at dksX2_grants_0 10 rfl rfl)
theorem dX2_grants_13 : decode cX2_grants 13 = .ok (.astore_n 1, 1) := dk_76 (dk_at dksX2_grants_0 13 rfl rfl)
theorem dX2_grants_14 : decode cX2_grants 14 = .ok (.iconst 0, 1) := dk_3 (dk_at dksX2_grants_0 14 rfl rfl)
theorem dX2_grants_15 : decode cX2_grants 15 = .ok (.istore_n 2, 1) := dk_61 (dk_at dksX2_grants_0 15 rfl rfl)
theorem dX2_grants_16 : decode cX2_grants 16 = .ok (.iload_n 2, 1) := dk_28 (dk_at dksX2_grants_0 16 rfl rfl)
theorem dX2_grants_17 : decode cX2_grants 17 = .ok (.aload_n 1, 1) := dk_43 (dk_at dksX2_grants_0 17 rfl rfl)
theorem dX2_grants_18 : decode cX2_grants 18 = .ok (.getfield 192, 3) := dk_180 0 192 (dk_at dksX2_grants_0 18 rfl rfl)
theorem dX2_grants_21 : decode cX2_grants 21 = .ok (.if_icmp .ge 35, 3) := dk_162 0 35 (dk_at dksX2_grants_0 21 rfl rfl)
theorem dX2_grants_24 : decode cX2_grants 24 = .ok (.aload_n 0, 1) := dk_42 (dk_at dksX2_grants_1 0 rfl rfl)
theorem dX2_grants_25 : decode cX2_grants 25 = .ok (.getfield 63, 3) := dk_180 0 63 (dk_at dksX2_grants_1 1 rfl rfl)
theorem dX2_grants_28 : decode cX2_grants 28 = .ok (.iconst 4, 1) := dk_7 (dk_at dksX2_grants_1 4 rfl rfl)
theorem dX2_grants_29 : decode cX2_grants 29 = .ok (.aload_n 1, 1) := dk_43 (dk_at dksX2_grants_1 5 rfl rfl)
theorem dX2_grants_30 : decode cX2_grants 30 = .ok (.getfield 240, 3) := dk_180 0 240 (dk_at dksX2_grants_1 6 rfl rfl)
theorem dX2_grants_33 : decode cX2_grants 33 = .ok (.iload_n 2, 1) := dk_28 (dk_at dksX2_grants_1 9 rfl rfl)
theorem dX2_grants_34 : decode cX2_grants 34 = .ok (.iaload, 1) := dk_46 (dk_at dksX2_grants_1 10 rfl rfl)
theorem dX2_grants_35 : decode cX2_grants 35 = .ok (.iconst (-1), 1) := dk_2 (dk_at dksX2_grants_1 11 rfl rfl)
theorem dX2_grants_36 : decode cX2_grants 36 = .ok (.invokevirtual 219, 3) := dk_182 0 219 (dk_at dksX2_grants_1 12 rfl rfl)
theorem dX2_grants_39 : decode cX2_grants 39 = .ok (.aload_n 0, 1) := dk_42 (dk_at dksX2_grants_1 15 rfl rfl)
theorem dX2_grants_40 : decode cX2_grants 40 = .ok (.aload_n 1, 1) := dk_43 (dk_at dksX2_grants_1 16 rfl rfl)
theorem dX2_grants_41 : decode cX2_grants 41 = .ok (.getfield 240, 3) := dk_180 0 240 (dk_at dksX2_grants_1 17 rfl rfl)
theorem dX2_grants_44 : decode cX2_grants 44 = .ok (.iload_n 2, 1) := dk_28 (dk_at dksX2_grants_1 20 rfl rfl)
theorem dX2_grants_45 : decode cX2_grants 45 = .ok (.iaload, 1) := dk_46 (dk_at dksX2_grants_1 21 rfl rfl)
theorem dX2_grants_46 : decode cX2_grants 46 = .ok (.iconst 2, 1) := dk_5 (dk_at dksX2_grants_1 22 rfl rfl)
theorem dX2_grants_47 : decode cX2_grants 47 = .ok (.invokevirtual 196, 3) := dk_182 0 196 (dk_at dksX2_grants_2 0 rfl rfl)
theorem dX2_grants_50 : decode cX2_grants 50 = .ok (.iinc 2 1, 3) := dk_132 2 1 (dk_at dksX2_grants_2 3 rfl rfl)
theorem dX2_grants_53 : decode cX2_grants 53 = .ok (.goto (-37), 3) := dk_167 255 219 (dk_at dksX2_grants_2 6 rfl rfl)
theorem dX2_grants_56 : decode cX2_grants 56 = .ok (.return_, 1) := dk_177 (dk_at dksX2_grants_2 9 rfl rfl)
def dkwX2_measures_4 : List UInt8 := [181, 0, 147, 42, 8, 182, 0, 249, 177]
abbrev dktX2_measures_4 : List UInt8 := dkwX2_measures_4 ++ []
def dkwX2_measures_3 : List UInt8 := [96, 181, 0, 138, 42, 180, 0, 246, 42, 180, 0, 71, 164, 0, 18, 42, 89, 180, 0, 147, 4, 96]
abbrev dktX2_measures_3 : List UInt8 := dkwX2_measures_3 ++ dktX2_measures_4
def dkwX2_measures_2 : List UInt8 := [46, 5, 160, 0, 7, 4, 167, 0, 4, 3, 100, 79, 132, 1, 1, 167, 255, 218, 42, 89, 180, 0, 138, 4]
abbrev dktX2_measures_2 : List UInt8 := dkwX2_measures_2 ++ dktX2_measures_3
def dkwX2_measures_1 : List UInt8 := [60, 27, 42, 180, 0, 49, 182, 0, 81, 162, 0, 33, 42, 180, 0, 15, 27, 92, 46, 42, 180, 0, 9, 27]
abbrev dktX2_measures_1 : List UInt8 := dkwX2_measures_1 ++ dktX2_measures_2
def dkwX2_measures_0 : List UInt8 := [42, 42, 182, 0, 243, 181, 0, 246, 42, 42, 180, 0, 150, 42, 180, 0, 246, 184, 0, 179, 181, 0, 150, 3]
abbrev dktX2_measures_0 : List UInt8 := dkwX2_measures_0 ++ dktX2_measures_1
theorem dksX2_measures_0 : cX2_measures.data.toList.drop 0 = dktX2_measures_0 := by decide +kernel
theorem dksX2_measures_1 : cX2_measures.data.toList.drop 24 = dktX2_measures_1 := dk_seg dksX2_measures_0 24 rfl rfl
theorem dksX2_measures_2 : cX2_measures.data.toList.drop 48 = dktX2_measures_2 := dk_seg dksX2_measures_1 24 rfl rfl
theorem dksX2_measures_3 : cX2_measures.data.toList.drop 72 = dktX2_measures_3 := dk_seg dksX2_measures_2 24 rfl rfl
theorem dksX2_measures_4 : cX2_measures.data.toList.drop 94 = dktX2_measures_4 := dk_seg dksX2_measures_3 22 rfl rfl
theorem dX2_measures_0 : decode cX2_measures 0 = .ok (.aload_n 0, 1) := dk_42 (dk_at dksX2_measures_0 0 rfl rfl)
theorem dX2_measures_1 : decode cX2_measures 1 = .ok (.aload_n 0, 1) := dk_42 (dk_at dksX2_measures_0 1 rfl rfl)
theorem dX2_measures_2 : decode cX2_measures 2 = .ok (.invokevirtual 243, 3) := dk_182 0 243 (dk_at dksX2_measures_0 2 rfl rfl)
theorem dX2_measures_5 : decode cX2_measures 5 = .ok (.putfield 246, 3) := dk_181 0 246 (dk_at dksX2_measures_0 5 rfl rfl)
theorem dX2_measures_8 : decode cX2_measures 8 = .ok (.aload_n 0, 1) := dk_42 (dk_at dksX2_measures_0 8 rfl rfl)
theorem dX2_measures_9 : decode cX2_measures 9 = .ok (.aload_n 0, 1) := dk_42 (dk_at dksX2_measures_0 9 rfl rfl)
theorem dX2_measures_10 : decode cX2_measures 10 = .ok (.getfield 150, 3) := dk_180 0 150 (dk_at dksX2_measures_0 10 rfl rfl)
theorem dX2_measures_13 : decode cX2_measures 13 = .ok (.aload_n 0, 1) := dk_42 (dk_at dksX2_measures_0 13 rfl rfl)
theorem dX2_measures_14 : decode cX2_measures 14 = .ok (.getfield 246, 3) := dk_180 0 246 (dk_at dksX2_measures_0 14 rfl rfl)
theorem dX2_measures_17 : decode cX2_measures 17 = .ok (.invokestatic 179, 3) := dk_184 0 179 (dk_at dksX2_measures_0 17 rfl rfl)
theorem dX2_measures_20 : decode cX2_measures 20 = .ok (.putfield 150, 3) := dk_181 0 150 (dk_at dksX2_measures_0 20 rfl rfl)
theorem dX2_measures_23 : decode cX2_measures 23 = .ok (.iconst 0, 1) := dk_3 (dk_at dksX2_measures_0 23 rfl rfl)
theorem dX2_measures_24 : decode cX2_measures 24 = .ok (.istore_n 1, 1) := dk_60 (dk_at dksX2_measures_1 0 rfl rfl)
theorem dX2_measures_25 : decode cX2_measures 25 = .ok (.iload_n 1, 1) := dk_27 (dk_at dksX2_measures_1 1 rfl rfl)
theorem dX2_measures_26 : decode cX2_measures 26 = .ok (.aload_n 0, 1) := dk_42 (dk_at dksX2_measures_1 2 rfl rfl)
theorem dX2_measures_27 : decode cX2_measures 27 = .ok (.getfield 49, 3) := dk_180 0 49 (dk_at dksX2_measures_1 3 rfl rfl)
theorem dX2_measures_30 : decode cX2_measures 30 = .ok (.invokevirtual 81, 3) := dk_182 0 81 (dk_at dksX2_measures_1 6 rfl rfl)
theorem dX2_measures_33 : decode cX2_measures 33 = .ok (.if_icmp .ge 33, 3) := dk_162 0 33 (dk_at dksX2_measures_1 9 rfl rfl)
theorem dX2_measures_36 : decode cX2_measures 36 = .ok (.aload_n 0, 1) := dk_42 (dk_at dksX2_measures_1 12 rfl rfl)
theorem dX2_measures_37 : decode cX2_measures 37 = .ok (.getfield 15, 3) := dk_180 0 15 (dk_at dksX2_measures_1 13 rfl rfl)
theorem dX2_measures_40 : decode cX2_measures 40 = .ok (.iload_n 1, 1) := dk_27 (dk_at dksX2_measures_1 16 rfl rfl)
theorem dX2_measures_41 : decode cX2_measures 41 = .ok (.dup2, 1) := dk_92 (dk_at dksX2_measures_1 17 rfl rfl)
theorem dX2_measures_42 : decode cX2_measures 42 = .ok (.iaload, 1) := dk_46 (dk_at dksX2_measures_1 18 rfl rfl)
theorem dX2_measures_43 : decode cX2_measures 43 = .ok (.aload_n 0, 1) := dk_42 (dk_at dksX2_measures_1 19 rfl rfl)
theorem dX2_measures_44 : decode cX2_measures 44 = .ok (.getfield 9, 3) := dk_180 0 9 (dk_at dksX2_measures_1 20 rfl rfl)
theorem dX2_measures_47 : decode cX2_measures 47 = .ok (.iload_n 1, 1) := dk_27 (dk_at dksX2_measures_1 23 rfl rfl)
theorem dX2_measures_48 : decode cX2_measures 48 = .ok (.iaload, 1) := dk_46 (dk_at dksX2_measures_2 0 rfl rfl)
theorem dX2_measures_49 : decode cX2_measures 49 = .ok (.iconst 2, 1) := dk_5 (dk_at dksX2_measures_2 1 rfl rfl)
theorem dX2_measures_50 : decode cX2_measures 50 = .ok (.if_icmp .ne 7, 3) := dk_160 0 7 (dk_at dksX2_measures_2 2 rfl rfl)
theorem dX2_measures_53 : decode cX2_measures 53 = .ok (.iconst 1, 1) := dk_4 (dk_at dksX2_measures_2 5 rfl rfl)
theorem dX2_measures_54 : decode cX2_measures 54 = .ok (.goto 4, 3) := dk_167 0 4 (dk_at dksX2_measures_2 6 rfl rfl)
theorem dX2_measures_57 : decode cX2_measures 57 = .ok (.iconst 0, 1) := dk_3 (dk_at dksX2_measures_2 9 rfl rfl)
theorem dX2_measures_58 : decode cX2_measures 58 = .ok (.isub, 1) := dk_100 (dk_at dksX2_measures_2 10 rfl rfl)
theorem dX2_measures_59 : decode cX2_measures 59 = .ok (.iastore, 1) := dk_79 (dk_at dksX2_measures_2 11 rfl rfl)
theorem dX2_measures_60 : decode cX2_measures 60 = .ok (.iinc 1 1, 3) := dk_132 1 1 (dk_at dksX2_measures_2 12 rfl rfl)
theorem dX2_measures_63 : decode cX2_measures 63 = .ok (.goto (-38), 3) := dk_167 255 218 (dk_at dksX2_measures_2 15 rfl rfl)
theorem dX2_measures_66 : decode cX2_measures 66 = .ok (.aload_n 0, 1) := dk_42 (dk_at dksX2_measures_2 18 rfl rfl)
theorem dX2_measures_67 : decode cX2_measures 67 = .ok (.dup, 1) := dk_89 (dk_at dksX2_measures_2 19 rfl rfl)
theorem dX2_measures_68 : decode cX2_measures 68 = .ok (.getfield 138, 3) := dk_180 0 138 (dk_at dksX2_measures_2 20 rfl rfl)
theorem dX2_measures_71 : decode cX2_measures 71 = .ok (.iconst 1, 1) := dk_4 (dk_at dksX2_measures_2 23 rfl rfl)
theorem dX2_measures_72 : decode cX2_measures 72 = .ok (.iadd, 1) := dk_96 (dk_at dksX2_measures_3 0 rfl rfl)
theorem dX2_measures_73 : decode cX2_measures 73 = .ok (.putfield 138, 3) := dk_181 0 138 (dk_at dksX2_measures_3 1 rfl rfl)
theorem dX2_measures_76 : decode cX2_measures 76 = .ok (.aload_n 0, 1) := dk_42 (dk_at dksX2_measures_3 4 rfl rfl)
theorem dX2_measures_77 : decode cX2_measures 77 = .ok (.getfield 246, 3) := dk_180 0 246 (dk_at dksX2_measures_3 5 rfl rfl)
theorem dX2_measures_80 : decode cX2_measures 80 = .ok (.aload_n 0, 1) := dk_42 (dk_at dksX2_measures_3 8 rfl rfl)
theorem dX2_measures_81 : decode cX2_measures 81 = .ok (.getfield 71, 3) := dk_180 0 71 (dk_at dksX2_measures_3 9 rfl rfl)
theorem dX2_measures_84 : decode cX2_measures 84 = .ok (.if_icmp .le 18, 3) := dk_164 0 18 (dk_at dksX2_measures_3 12 rfl rfl)
theorem dX2_measures_87 : decode cX2_measures 87 = .ok (.aload_n 0, 1) := dk_42 (dk_at dksX2_measures_3 15 rfl rfl)
theorem dX2_measures_88 : decode cX2_measures 88 = .ok (.dup, 1) := dk_89 (dk_at dksX2_measures_3 16 rfl rfl)
theorem dX2_measures_89 : decode cX2_measures 89 = .ok (.getfield 147, 3) := dk_180 0 147 (dk_at dksX2_measures_3 17 rfl rfl)
theorem dX2_measures_92 : decode cX2_measures 92 = .ok (.iconst 1, 1) := dk_4 (dk_at dksX2_measures_3 20 rfl rfl)
theorem dX2_measures_93 : decode cX2_measures 93 = .ok (.iadd, 1) := dk_96 (dk_at dksX2_measures_3 21 rfl rfl)
theorem dX2_measures_94 : decode cX2_measures 94 = .ok (.putfield 147, 3) := dk_181 0 147 (dk_at dksX2_measures_4 0 rfl rfl)
theorem dX2_measures_97 : decode cX2_measures 97 = .ok (.aload_n 0, 1) := dk_42 (dk_at dksX2_measures_4 3 rfl rfl)
theorem dX2_measures_98 : decode cX2_measures 98 = .ok (.iconst 5, 1) := dk_8 (dk_at dksX2_measures_4 4 rfl rfl)
theorem dX2_measures_99 : decode cX2_measures 99 = .ok (.invokevirtual 249, 3) := dk_182 0 249 (dk_at dksX2_measures_4 5 rfl rfl)
theorem dX2_measures_102 : decode cX2_measures 102 = .ok (.return_, 1) := dk_177 (dk_at dksX2_measures_4 8 rfl rfl)
def dkwX2_want_2 : List UInt8 := [3, 128, 181, 0, 132, 42, 27, 182, 0, 185, 177]
abbrev dktX2_want_2 : List UInt8 := dkwX2_want_2 ++ []
def dkwX2_want_1 : List UInt8 := [181, 0, 88, 42, 89, 180, 0, 132, 42, 180, 0, 9, 27, 46, 5, 161, 0, 9, 4, 27, 120, 167, 0, 4]
abbrev dktX2_want_1 : List UInt8 := dkwX2_want_1 ++ dktX2_want_2
def dkwX2_want_0 : List UInt8 := [42, 180, 0, 88, 27, 184, 0, 91, 28, 160, 0, 4, 177, 42, 89, 180, 0, 88, 4, 27, 120, 130]
abbrev dktX2_want_0 : List UInt8 := dkwX2_want_0 ++ dktX2_want_1
theorem dksX2_want_0 : cX2_want.data.toList.drop 0 = dktX2_want_0 := by decide +kernel
theorem dksX2_want_1 : cX2_want.data.toList.drop 22 = dktX2_want_1 := dk_seg dksX2_want_0 22 rfl rfl
theorem dksX2_want_2 : cX2_want.data.toList.drop 46 = dktX2_want_2 := dk_seg dksX2_want_1 24 rfl rfl
theorem dX2_want_0 : decode cX2_want 0 = .ok (.aload_n 0, 1) := dk_42 (dk_at dksX2_want_0 0 rfl rfl)
theorem dX2_want_1 : decode cX2_want 1 = .ok (.getfield 88, 3) := dk_180 0 88 (dk_at dksX2_want_0 1 rfl rfl)
theorem dX2_want_4 : decode cX2_want 4 = .ok (.iload_n 1, 1) := dk_27 (dk_at dksX2_want_0 4 rfl rfl)
theorem dX2_want_5 : decode cX2_want 5 = .ok (.invokestatic 91, 3) := dk_184 0 91 (dk_at dksX2_want_0 5 rfl rfl)
theorem dX2_want_8 : decode cX2_want 8 = .ok (.iload_n 2, 1) := dk_28 (dk_at dksX2_want_0 8 rfl rfl)
theorem dX2_want_9 : decode cX2_want 9 = .ok (.if_icmp .ne 4, 3) := dk_160 0 4 (dk_at dksX2_want_0 9 rfl rfl)
theorem dX2_want_12 : decode cX2_want 12 = .ok (.return_, 1) := dk_177 (dk_at dksX2_want_0 12 rfl rfl)
theorem dX2_want_13 : decode cX2_want 13 = .ok (.aload_n 0, 1) := dk_42 (dk_at dksX2_want_0 13 rfl rfl)
theorem dX2_want_14 : decode cX2_want 14 = .ok (.dup, 1) := dk_89 (dk_at dksX2_want_0 14 rfl rfl)
theorem dX2_want_15 : decode cX2_want 15 = .ok (.getfield 88, 3) := dk_180 0 88 (dk_at dksX2_want_0 15 rfl rfl)
theorem dX2_want_18 : decode cX2_want 18 = .ok (.iconst 1, 1) := dk_4 (dk_at dksX2_want_0 18 rfl rfl)
theorem dX2_want_19 : decode cX2_want 19 = .ok (.iload_n 1, 1) := dk_27 (dk_at dksX2_want_0 19 rfl rfl)
theorem dX2_want_20 : decode cX2_want 20 = .ok (.ishl, 1) := dk_120 (dk_at dksX2_want_0 20 rfl rfl)
theorem dX2_want_21 : decode cX2_want 21 = .ok (.ixor, 1) := dk_130 (dk_at dksX2_want_0 21 rfl rfl)
theorem dX2_want_22 : decode cX2_want 22 = .ok (.putfield 88, 3) := dk_181 0 88 (dk_at dksX2_want_1 0 rfl rfl)
theorem dX2_want_25 : decode cX2_want 25 = .ok (.aload_n 0, 1) := dk_42 (dk_at dksX2_want_1 3 rfl rfl)
theorem dX2_want_26 : decode cX2_want 26 = .ok (.dup, 1) := dk_89 (dk_at dksX2_want_1 4 rfl rfl)
theorem dX2_want_27 : decode cX2_want 27 = .ok (.getfield 132, 3) := dk_180 0 132 (dk_at dksX2_want_1 5 rfl rfl)
theorem dX2_want_30 : decode cX2_want 30 = .ok (.aload_n 0, 1) := dk_42 (dk_at dksX2_want_1 8 rfl rfl)
theorem dX2_want_31 : decode cX2_want 31 = .ok (.getfield 9, 3) := dk_180 0 9 (dk_at dksX2_want_1 9 rfl rfl)
theorem dX2_want_34 : decode cX2_want 34 = .ok (.iload_n 1, 1) := dk_27 (dk_at dksX2_want_1 12 rfl rfl)
theorem dX2_want_35 : decode cX2_want 35 = .ok (.iaload, 1) := dk_46 (dk_at dksX2_want_1 13 rfl rfl)
theorem dX2_want_36 : decode cX2_want 36 = .ok (.iconst 2, 1) := dk_5 (dk_at dksX2_want_1 14 rfl rfl)
theorem dX2_want_37 : decode cX2_want 37 = .ok (.if_icmp .lt 9, 3) := dk_161 0 9 (dk_at dksX2_want_1 15 rfl rfl)
theorem dX2_want_40 : decode cX2_want 40 = .ok (.iconst 1, 1) := dk_4 (dk_at dksX2_want_1 18 rfl rfl)
theorem dX2_want_41 : decode cX2_want 41 = .ok (.iload_n 1, 1) := dk_27 (dk_at dksX2_want_1 19 rfl rfl)
theorem dX2_want_42 : decode cX2_want 42 = .ok (.ishl, 1) := dk_120 (dk_at dksX2_want_1 20 rfl rfl)
theorem dX2_want_43 : decode cX2_want 43 = .ok (.goto 4, 3) := dk_167 0 4 (dk_at dksX2_want_1 21 rfl rfl)
theorem dX2_want_46 : decode cX2_want 46 = .ok (.iconst 0, 1) := dk_3 (dk_at dksX2_want_2 0 rfl rfl)
theorem dX2_want_47 : decode cX2_want 47 = .ok (.ior, 1) := dk_128 (dk_at dksX2_want_2 1 rfl rfl)
theorem dX2_want_48 : decode cX2_want 48 = .ok (.putfield 132, 3) := dk_181 0 132 (dk_at dksX2_want_2 2 rfl rfl)
theorem dX2_want_51 : decode cX2_want 51 = .ok (.aload_n 0, 1) := dk_42 (dk_at dksX2_want_2 5 rfl rfl)
theorem dX2_want_52 : decode cX2_want 52 = .ok (.iload_n 1, 1) := dk_27 (dk_at dksX2_want_2 6 rfl rfl)
theorem dX2_want_53 : decode cX2_want 53 = .ok (.invokevirtual 185, 3) := dk_182 0 185 (dk_at dksX2_want_2 7 rfl rfl)
theorem dX2_want_56 : decode cX2_want 56 = .ok (.return_, 1) := dk_177 (dk_at dksX2_want_2 10 rfl rfl)
def dkwX3_init_2 : List UInt8 := [181, 0, 30, 42, 6, 181, 0, 34, 42, 16, 100, 181, 0, 37, 177]
abbrev dktX3_init_2 : List UInt8 := dkwX3_init_2 ++ []
def dkwX3_init_1 : List UInt8 := [183, 0, 11, 181, 0, 20, 42, 16, 12, 188, 10, 181, 0, 23, 42, 3, 188, 10, 181, 0, 27, 42, 7]
abbrev dktX3_init_1 : List UInt8 := dkwX3_init_1 ++ dktX3_init_2
def dkwX3_init_0 : List UInt8 := [42, 183, 0, 3, 42, 187, 0, 9, 89, 7, 183, 0, 11, 181, 0, 14, 42, 187, 0, 9, 89, 5]
abbrev dktX3_init_0 : List UInt8 := dkwX3_init_0 ++ dktX3_init_1
theorem dksX3_init_0 : cX3_init.data.toList.drop 0 = dktX3_init_0 := by decide +kernel
theorem dksX3_init_1 : cX3_init.data.toList.drop 22 = dktX3_init_1 := dk_seg dksX3_init_0 22 rfl rfl
theorem dksX3_init_2 : cX3_init.data.toList.drop 45 = dktX3_init_2 := dk_seg dksX3_init_1 23 rfl rfl
theorem dX3_init_0 : decode cX3_init 0 = .ok (.aload_n 0, 1) := dk_42 (dk_at dksX3_init_0 0 rfl rfl)
theorem dX3_init_1 : decode cX3_init 1 = .ok (.invokespecial 3, 3) := dk_183 0 3 (dk_at dksX3_init_0 1 rfl rfl)
theorem dX3_init_4 : decode cX3_init 4 = .ok (.aload_n 0, 1) := dk_42 (dk_at dksX3_init_0 4 rfl rfl)
theorem dX3_init_5 : decode cX3_init 5 = .ok (.new 9, 3) := dk_187 0 9 (dk_at dksX3_init_0 5 rfl rfl)
theorem dX3_init_8 : decode cX3_init 8 = .ok (.dup, 1) := dk_89 (dk_at dksX3_init_0 8 rfl rfl)
theorem dX3_init_9 : decode cX3_init 9 = .ok (.iconst 4, 1) := dk_7 (dk_at dksX3_init_0 9 rfl rfl)
theorem dX3_init_10 : decode cX3_init 10 = .ok (.invokespecial 11, 3) := dk_183 0 11 (dk_at dksX3_init_0 10 rfl rfl)
theorem dX3_init_13 : decode cX3_init 13 = .ok (.putfield 14, 3) := dk_181 0 14 (dk_at dksX3_init_0 13 rfl rfl)
theorem dX3_init_16 : decode cX3_init 16 = .ok (.aload_n 0, 1) := dk_42 (dk_at dksX3_init_0 16 rfl rfl)
theorem dX3_init_17 : decode cX3_init 17 = .ok (.new 9, 3) := dk_187 0 9 (dk_at dksX3_init_0 17 rfl rfl)
theorem dX3_init_20 : decode cX3_init 20 = .ok (.dup, 1) := dk_89 (dk_at dksX3_init_0 20 rfl rfl)
theorem dX3_init_21 : decode cX3_init 21 = .ok (.iconst 2, 1) := dk_5 (dk_at dksX3_init_0 21 rfl rfl)
theorem dX3_init_22 : decode cX3_init 22 = .ok (.invokespecial 11, 3) := dk_183 0 11 (dk_at dksX3_init_1 0 rfl rfl)
theorem dX3_init_25 : decode cX3_init 25 = .ok (.putfield 20, 3) := dk_181 0 20 (dk_at dksX3_init_1 3 rfl rfl)
theorem dX3_init_28 : decode cX3_init 28 = .ok (.aload_n 0, 1) := dk_42 (dk_at dksX3_init_1 6 rfl rfl)
theorem dX3_init_29 : decode cX3_init 29 = .ok (.bipush 12, 2) := dk_16 12 (dk_at dksX3_init_1 7 rfl rfl)
theorem dX3_init_31 : decode cX3_init 31 = .ok (.newarray .int, 2) := dk_188_10 (dk_at dksX3_init_1 9 rfl rfl)
theorem dX3_init_33 : decode cX3_init 33 = .ok (.putfield 23, 3) := dk_181 0 23 (dk_at dksX3_init_1 11 rfl rfl)
theorem dX3_init_36 : decode cX3_init 36 = .ok (.aload_n 0, 1) := dk_42 (dk_at dksX3_init_1 14 rfl rfl)
theorem dX3_init_37 : decode cX3_init 37 = .ok (.iconst 0, 1) := dk_3 (dk_at dksX3_init_1 15 rfl rfl)
theorem dX3_init_38 : decode cX3_init 38 = .ok (.newarray .int, 2) := dk_188_10 (dk_at dksX3_init_1 16 rfl rfl)
theorem dX3_init_40 : decode cX3_init 40 = .ok (.putfield 27, 3) := dk_181 0 27 (dk_at dksX3_init_1 18 rfl rfl)
theorem dX3_init_43 : decode cX3_init 43 = .ok (.aload_n 0, 1) := dk_42 (dk_at dksX3_init_1 21 rfl rfl)
theorem dX3_init_44 : decode cX3_init 44 = .ok (.iconst 4, 1) := dk_7 (dk_at dksX3_init_1 22 rfl rfl)
theorem dX3_init_45 : decode cX3_init 45 = .ok (.putfield 30, 3) := dk_181 0 30 (dk_at dksX3_init_2 0 rfl rfl)
theorem dX3_init_48 : decode cX3_init 48 = .ok (.aload_n 0, 1) := dk_42 (dk_at dksX3_init_2 3 rfl rfl)
theorem dX3_init_49 : decode cX3_init 49 = .ok (.iconst 3, 1) := dk_6 (dk_at dksX3_init_2 4 rfl rfl)
theorem dX3_init_50 : decode cX3_init 50 = .ok (.putfield 34, 3) := dk_181 0 34 (dk_at dksX3_init_2 5 rfl rfl)
theorem dX3_init_53 : decode cX3_init 53 = .ok (.aload_n 0, 1) := dk_42 (dk_at dksX3_init_2 8 rfl rfl)
theorem dX3_init_54 : decode cX3_init 54 = .ok (.bipush 100, 2) := dk_16 100 (dk_at dksX3_init_2 9 rfl rfl)
theorem dX3_init_56 : decode cX3_init 56 = .ok (.putfield 37, 3) := dk_181 0 37 (dk_at dksX3_init_2 11 rfl rfl)
theorem dX3_init_59 : decode cX3_init 59 = .ok (.return_, 1) := dk_177 (dk_at dksX3_init_2 14 rfl rfl)
def dkwX3_size_0 : List UInt8 := [42, 180, 0, 14, 185, 0, 40, 1, 0, 172]
abbrev dktX3_size_0 : List UInt8 := dkwX3_size_0 ++ []
theorem dksX3_size_0 : cX3_size.data.toList.drop 0 = dktX3_size_0 := by decide +kernel
theorem dX3_size_0 : decode cX3_size 0 = .ok (.aload_n 0, 1) := dk_42 (dk_at dksX3_size_0 0 rfl rfl)
theorem dX3_size_1 : decode cX3_size 1 = .ok (.getfield 14, 3) := dk_180 0 14 (dk_at dksX3_size_0 1 rfl rfl)
theorem dX3_size_4 : decode cX3_size 4 = .ok (.invokeinterface 40 1, 5) := by decide +kernel
theorem dX3_size_9 : decode cX3_size 9 = .ok (.ireturn, 1) := dk_172 (dk_at dksX3_size_0 9 rfl rfl)
def dkwX3_find_1 : List UInt8 := [180, 0, 53, 43, 182, 0, 57, 153, 0, 5, 28, 172, 132, 2, 1, 167, 255, 220, 2, 172]
abbrev dktX3_find_1 : List UInt8 := dkwX3_find_1 ++ []
def dkwX3_find_0 : List UInt8 := [3, 61, 28, 42, 182, 0, 46, 162, 0, 34, 42, 180, 0, 14, 28, 185, 0, 47, 2, 0, 192, 0, 51]
abbrev dktX3_find_0 : List UInt8 := dkwX3_find_0 ++ dktX3_find_1
theorem dksX3_find_0 : cX3_find.data.toList.drop 0 = dktX3_find_0 := by decide +kernel
theorem dksX3_find_1 : cX3_find.data.toList.drop 23 = dktX3_find_1 := dk_seg dksX3_find_0 23 rfl rfl
theorem dX3_find_0 : decode cX3_find 0 = .ok (.iconst 0, 1) := dk_3 (dk_at dksX3_find_0 0 rfl rfl)
theorem dX3_find_1 : decode cX3_find 1 = .ok (.istore_n 2, 1) := dk_61 (dk_at dksX3_find_0 1 rfl rfl)
theorem dX3_find_2 : decode cX3_find 2 = .ok (.iload_n 2, 1) := dk_28 (dk_at dksX3_find_0 2 rfl rfl)
theorem dX3_find_3 : decode cX3_find 3 = .ok (.aload_n 0, 1) := dk_42 (dk_at dksX3_find_0 3 rfl rfl)
theorem dX3_find_4 : decode cX3_find 4 = .ok (.invokevirtual 46, 3) := dk_182 0 46 (dk_at dksX3_find_0 4 rfl rfl)
theorem dX3_find_7 : decode cX3_find 7 = .ok (.if_icmp .ge 34, 3) := dk_162 0 34 (dk_at dksX3_find_0 7 rfl rfl)
theorem dX3_find_10 : decode cX3_find 10 = .ok (.aload_n 0, 1) := dk_42 (dk_at dksX3_find_0 10 rfl rfl)
theorem dX3_find_11 : decode cX3_find 11 = .ok (.getfield 14, 3) := dk_180 0 14 (dk_at dksX3_find_0 11 rfl rfl)
theorem dX3_find_14 : decode cX3_find 14 = .ok (.iload_n 2, 1) := dk_28 (dk_at dksX3_find_0 14 rfl rfl)
theorem dX3_find_15 : decode cX3_find 15 = .ok (.invokeinterface 47 2, 5) := by decide +kernel
theorem dX3_find_20 : decode cX3_find 20 = .ok (.checkcast 51, 3) := dk_192 0 51 (dk_at dksX3_find_0 20 rfl rfl)
theorem dX3_find_23 : decode cX3_find 23 = .ok (.getfield 53, 3) := dk_180 0 53 (dk_at dksX3_find_1 0 rfl rfl)
theorem dX3_find_26 : decode cX3_find 26 = .ok (.aload_n 1, 1) := dk_43 (dk_at dksX3_find_1 3 rfl rfl)
theorem dX3_find_27 : decode cX3_find 27 = .ok (.invokevirtual 57, 3) := dk_182 0 57 (dk_at dksX3_find_1 4 rfl rfl)
theorem dX3_find_30 : decode cX3_find 30 = .ok (.ifCond .eq 5, 3) := dk_153 0 5 (dk_at dksX3_find_1 7 rfl rfl)
theorem dX3_find_33 : decode cX3_find 33 = .ok (.iload_n 2, 1) := dk_28 (dk_at dksX3_find_1 10 rfl rfl)
theorem dX3_find_34 : decode cX3_find 34 = .ok (.ireturn, 1) := dk_172 (dk_at dksX3_find_1 11 rfl rfl)
theorem dX3_find_35 : decode cX3_find 35 = .ok (.iinc 2 1, 3) := dk_132 2 1 (dk_at dksX3_find_1 12 rfl rfl)
theorem dX3_find_38 : decode cX3_find 38 = .ok (.goto (-36), 3) := dk_167 255 220 (dk_at dksX3_find_1 15 rfl rfl)
theorem dX3_find_41 : decode cX3_find 41 = .ok (.iconst (-1), 1) := dk_2 (dk_at dksX3_find_1 18 rfl rfl)
theorem dX3_find_42 : decode cX3_find 42 = .ok (.ireturn, 1) := dk_172 (dk_at dksX3_find_1 19 rfl rfl)
def dkwX4_init_0 : List UInt8 := [42, 183, 0, 3, 42, 16, 12, 188, 10, 181, 0, 9, 177]
abbrev dktX4_init_0 : List UInt8 := dkwX4_init_0 ++ []
theorem dksX4_init_0 : cX4_init.data.toList.drop 0 = dktX4_init_0 := by decide +kernel
theorem dX4_init_0 : decode cX4_init 0 = .ok (.aload_n 0, 1) := dk_42 (dk_at dksX4_init_0 0 rfl rfl)
theorem dX4_init_1 : decode cX4_init 1 = .ok (.invokespecial 3, 3) := dk_183 0 3 (dk_at dksX4_init_0 1 rfl rfl)
theorem dX4_init_4 : decode cX4_init 4 = .ok (.aload_n 0, 1) := dk_42 (dk_at dksX4_init_0 4 rfl rfl)
theorem dX4_init_5 : decode cX4_init 5 = .ok (.bipush 12, 2) := dk_16 12 (dk_at dksX4_init_0 5 rfl rfl)
theorem dX4_init_7 : decode cX4_init 7 = .ok (.newarray .int, 2) := dk_188_10 (dk_at dksX4_init_0 7 rfl rfl)
theorem dX4_init_9 : decode cX4_init 9 = .ok (.putfield 9, 3) := dk_181 0 9 (dk_at dksX4_init_0 9 rfl rfl)
theorem dX4_init_12 : decode cX4_init 12 = .ok (.return_, 1) := dk_177 (dk_at dksX4_init_0 12 rfl rfl)
def dkwX4_placeOf_1 : List UInt8 := [132, 2, 1, 167, 255, 233, 2, 172]
abbrev dktX4_placeOf_1 : List UInt8 := dkwX4_placeOf_1 ++ []
def dkwX4_placeOf_0 : List UInt8 := [3, 61, 28, 42, 180, 0, 15, 162, 0, 21, 42, 180, 0, 9, 28, 46, 27, 160, 0, 5, 28, 172]
abbrev dktX4_placeOf_0 : List UInt8 := dkwX4_placeOf_0 ++ dktX4_placeOf_1
theorem dksX4_placeOf_0 : cX4_placeOf.data.toList.drop 0 = dktX4_placeOf_0 := by decide +kernel
theorem dksX4_placeOf_1 : cX4_placeOf.data.toList.drop 22 = dktX4_placeOf_1 := dk_seg dksX4_placeOf_0 22 rfl rfl
theorem dX4_placeOf_0 : decode cX4_placeOf 0 = .ok (.iconst 0, 1) := dk_3 (dk_at dksX4_placeOf_0 0 rfl rfl)
theorem dX4_placeOf_1 : decode cX4_placeOf 1 = .ok (.istore_n 2, 1) := dk_61 (dk_at dksX4_placeOf_0 1 rfl rfl)
theorem dX4_placeOf_2 : decode cX4_placeOf 2 = .ok (.iload_n 2, 1) := dk_28 (dk_at dksX4_placeOf_0 2 rfl rfl)
theorem dX4_placeOf_3 : decode cX4_placeOf 3 = .ok (.aload_n 0, 1) := dk_42 (dk_at dksX4_placeOf_0 3 rfl rfl)
theorem dX4_placeOf_4 : decode cX4_placeOf 4 = .ok (.getfield 15, 3) := dk_180 0 15 (dk_at dksX4_placeOf_0 4 rfl rfl)
theorem dX4_placeOf_7 : decode cX4_placeOf 7 = .ok (.if_icmp .ge 21, 3) := dk_162 0 21 (dk_at dksX4_placeOf_0 7 rfl rfl)
theorem dX4_placeOf_10 : decode cX4_placeOf 10 = .ok (.aload_n 0, 1) := dk_42 (dk_at dksX4_placeOf_0 10 rfl rfl)
theorem dX4_placeOf_11 : decode cX4_placeOf 11 = .ok (.getfield 9, 3) := dk_180 0 9 (dk_at dksX4_placeOf_0 11 rfl rfl)
theorem dX4_placeOf_14 : decode cX4_placeOf 14 = .ok (.iload_n 2, 1) := dk_28 (dk_at dksX4_placeOf_0 14 rfl rfl)
theorem dX4_placeOf_15 : decode cX4_placeOf 15 = .ok (.iaload, 1) := dk_46 (dk_at dksX4_placeOf_0 15 rfl rfl)
theorem dX4_placeOf_16 : decode cX4_placeOf 16 = .ok (.iload_n 1, 1) := dk_27 (dk_at dksX4_placeOf_0 16 rfl rfl)
theorem dX4_placeOf_17 : decode cX4_placeOf 17 = .ok (.if_icmp .ne 5, 3) := dk_160 0 5 (dk_at dksX4_placeOf_0 17 rfl rfl)
theorem dX4_placeOf_20 : decode cX4_placeOf 20 = .ok (.iload_n 2, 1) := dk_28 (dk_at dksX4_placeOf_0 20 rfl rfl)
theorem dX4_placeOf_21 : decode cX4_placeOf 21 = .ok (.ireturn, 1) := dk_172 (dk_at dksX4_placeOf_0 21 rfl rfl)
theorem dX4_placeOf_22 : decode cX4_placeOf 22 = .ok (.iinc 2 1, 3) := dk_132 2 1 (dk_at dksX4_placeOf_1 0 rfl rfl)
theorem dX4_placeOf_25 : decode cX4_placeOf 25 = .ok (.goto (-23), 3) := dk_167 255 233 (dk_at dksX4_placeOf_1 3 rfl rfl)
theorem dX4_placeOf_28 : decode cX4_placeOf 28 = .ok (.iconst (-1), 1) := dk_2 (dk_at dksX4_placeOf_1 6 rfl rfl)
theorem dX4_placeOf_29 : decode cX4_placeOf 29 = .ok (.ireturn, 1) := dk_172 (dk_at dksX4_placeOf_1 7 rfl rfl)
def dkwX4_add_1 : List UInt8 := [4, 96, 181, 0, 15, 177]
abbrev dktX4_add_1 : List UInt8 := dkwX4_add_1 ++ []
def dkwX4_add_0 : List UInt8 := [42, 27, 182, 0, 25, 2, 160, 0, 23, 42, 180, 0, 9, 42, 180, 0, 15, 27, 79, 42, 89, 180, 0, 15]
abbrev dktX4_add_0 : List UInt8 := dkwX4_add_0 ++ dktX4_add_1
theorem dksX4_add_0 : cX4_add.data.toList.drop 0 = dktX4_add_0 := by decide +kernel
theorem dksX4_add_1 : cX4_add.data.toList.drop 24 = dktX4_add_1 := dk_seg dksX4_add_0 24 rfl rfl
theorem dX4_add_0 : decode cX4_add 0 = .ok (.aload_n 0, 1) := dk_42 (dk_at dksX4_add_0 0 rfl rfl)
theorem dX4_add_1 : decode cX4_add 1 = .ok (.iload_n 1, 1) := dk_27 (dk_at dksX4_add_0 1 rfl rfl)
theorem dX4_add_2 : decode cX4_add 2 = .ok (.invokevirtual 25, 3) := dk_182 0 25 (dk_at dksX4_add_0 2 rfl rfl)
theorem dX4_add_5 : decode cX4_add 5 = .ok (.iconst (-1), 1) := dk_2 (dk_at dksX4_add_0 5 rfl rfl)
theorem dX4_add_6 : decode cX4_add 6 = .ok (.if_icmp .ne 23, 3) := dk_160 0 23 (dk_at dksX4_add_0 6 rfl rfl)
theorem dX4_add_9 : decode cX4_add 9 = .ok (.aload_n 0, 1) := dk_42 (dk_at dksX4_add_0 9 rfl rfl)
theorem dX4_add_10 : decode cX4_add 10 = .ok (.getfield 9, 3) := dk_180 0 9 (dk_at dksX4_add_0 10 rfl rfl)
theorem dX4_add_13 : decode cX4_add 13 = .ok (.aload_n 0, 1) := dk_42 (dk_at dksX4_add_0 13 rfl rfl)
theorem dX4_add_14 : decode cX4_add 14 = .ok (.getfield 15, 3) := dk_180 0 15 (dk_at dksX4_add_0 14 rfl rfl)
theorem dX4_add_17 : decode cX4_add 17 = .ok (.iload_n 1, 1) := dk_27 (dk_at dksX4_add_0 17 rfl rfl)
theorem dX4_add_18 : decode cX4_add 18 = .ok (.iastore, 1) := dk_79 (dk_at dksX4_add_0 18 rfl rfl)
theorem dX4_add_19 : decode cX4_add 19 = .ok (.aload_n 0, 1) := dk_42 (dk_at dksX4_add_0 19 rfl rfl)
theorem dX4_add_20 : decode cX4_add 20 = .ok (.dup, 1) := dk_89 (dk_at dksX4_add_0 20 rfl rfl)
theorem dX4_add_21 : decode cX4_add 21 = .ok (.getfield 15, 3) := dk_180 0 15 (dk_at dksX4_add_0 21 rfl rfl)
theorem dX4_add_24 : decode cX4_add 24 = .ok (.iconst 1, 1) := dk_4 (dk_at dksX4_add_1 0 rfl rfl)
theorem dX4_add_25 : decode cX4_add 25 = .ok (.iadd, 1) := dk_96 (dk_at dksX4_add_1 1 rfl rfl)
theorem dX4_add_26 : decode cX4_add 26 = .ok (.putfield 15, 3) := dk_181 0 15 (dk_at dksX4_add_1 2 rfl rfl)
theorem dX4_add_29 : decode cX4_add 29 = .ok (.return_, 1) := dk_177 (dk_at dksX4_add_1 5 rfl rfl)
def dkwX4_become_0 : List UInt8 := [42, 43, 180, 0, 15, 181, 0, 15, 43, 180, 0, 9, 3, 42, 180, 0, 9, 3, 16, 12, 184, 0, 19, 177]
abbrev dktX4_become_0 : List UInt8 := dkwX4_become_0 ++ []
theorem dksX4_become_0 : cX4_become.data.toList.drop 0 = dktX4_become_0 := by decide +kernel
theorem dX4_become_0 : decode cX4_become 0 = .ok (.aload_n 0, 1) := dk_42 (dk_at dksX4_become_0 0 rfl rfl)
theorem dX4_become_1 : decode cX4_become 1 = .ok (.aload_n 1, 1) := dk_43 (dk_at dksX4_become_0 1 rfl rfl)
theorem dX4_become_2 : decode cX4_become 2 = .ok (.getfield 15, 3) := dk_180 0 15 (dk_at dksX4_become_0 2 rfl rfl)
theorem dX4_become_5 : decode cX4_become 5 = .ok (.putfield 15, 3) := dk_181 0 15 (dk_at dksX4_become_0 5 rfl rfl)
theorem dX4_become_8 : decode cX4_become 8 = .ok (.aload_n 1, 1) := dk_43 (dk_at dksX4_become_0 8 rfl rfl)
theorem dX4_become_9 : decode cX4_become 9 = .ok (.getfield 9, 3) := dk_180 0 9 (dk_at dksX4_become_0 9 rfl rfl)
theorem dX4_become_12 : decode cX4_become 12 = .ok (.iconst 0, 1) := dk_3 (dk_at dksX4_become_0 12 rfl rfl)
theorem dX4_become_13 : decode cX4_become 13 = .ok (.aload_n 0, 1) := dk_42 (dk_at dksX4_become_0 13 rfl rfl)
theorem dX4_become_14 : decode cX4_become 14 = .ok (.getfield 9, 3) := dk_180 0 9 (dk_at dksX4_become_0 14 rfl rfl)
theorem dX4_become_17 : decode cX4_become 17 = .ok (.iconst 0, 1) := dk_3 (dk_at dksX4_become_0 17 rfl rfl)
theorem dX4_become_18 : decode cX4_become 18 = .ok (.bipush 12, 2) := dk_16 12 (dk_at dksX4_become_0 18 rfl rfl)
theorem dX4_become_20 : decode cX4_become 20 = .ok (.invokestatic 19, 3) := dk_184 0 19 (dk_at dksX4_become_0 20 rfl rfl)
theorem dX4_become_23 : decode cX4_become 23 = .ok (.return_, 1) := dk_177 (dk_at dksX4_become_0 23 rfl rfl)
def dkwX5_init_1 : List UInt8 := [188, 10, 181, 0, 18, 42, 43, 181, 0, 21, 177]
abbrev dktX5_init_1 : List UInt8 := dkwX5_init_1 ++ []
def dkwX5_init_0 : List UInt8 := [42, 183, 0, 3, 42, 16, 72, 188, 10, 181, 0, 9, 42, 16, 6, 188, 10, 181, 0, 15, 42, 16, 6]
abbrev dktX5_init_0 : List UInt8 := dkwX5_init_0 ++ dktX5_init_1
theorem dksX5_init_0 : cX5_init.data.toList.drop 0 = dktX5_init_0 := by decide +kernel
theorem dksX5_init_1 : cX5_init.data.toList.drop 23 = dktX5_init_1 := dk_seg dksX5_init_0 23 rfl rfl
theorem dX5_init_0 : decode cX5_init 0 = .ok (.aload_n 0, 1) := dk_42 (dk_at dksX5_init_0 0 rfl rfl)
theorem dX5_init_1 : decode cX5_init 1 = .ok (.invokespecial 3, 3) := dk_183 0 3 (dk_at dksX5_init_0 1 rfl rfl)
theorem dX5_init_4 : decode cX5_init 4 = .ok (.aload_n 0, 1) := dk_42 (dk_at dksX5_init_0 4 rfl rfl)
theorem dX5_init_5 : decode cX5_init 5 = .ok (.bipush 72, 2) := dk_16 72 (dk_at dksX5_init_0 5 rfl rfl)
theorem dX5_init_7 : decode cX5_init 7 = .ok (.newarray .int, 2) := dk_188_10 (dk_at dksX5_init_0 7 rfl rfl)
theorem dX5_init_9 : decode cX5_init 9 = .ok (.putfield 9, 3) := dk_181 0 9 (dk_at dksX5_init_0 9 rfl rfl)
theorem dX5_init_12 : decode cX5_init 12 = .ok (.aload_n 0, 1) := dk_42 (dk_at dksX5_init_0 12 rfl rfl)
theorem dX5_init_13 : decode cX5_init 13 = .ok (.bipush 6, 2) := dk_16 6 (dk_at dksX5_init_0 13 rfl rfl)
theorem dX5_init_15 : decode cX5_init 15 = .ok (.newarray .int, 2) := dk_188_10 (dk_at dksX5_init_0 15 rfl rfl)
theorem dX5_init_17 : decode cX5_init 17 = .ok (.putfield 15, 3) := dk_181 0 15 (dk_at dksX5_init_0 17 rfl rfl)
theorem dX5_init_20 : decode cX5_init 20 = .ok (.aload_n 0, 1) := dk_42 (dk_at dksX5_init_0 20 rfl rfl)
theorem dX5_init_21 : decode cX5_init 21 = .ok (.bipush 6, 2) := dk_16 6 (dk_at dksX5_init_0 21 rfl rfl)
theorem dX5_init_23 : decode cX5_init 23 = .ok (.newarray .int, 2) := dk_188_10 (dk_at dksX5_init_1 0 rfl rfl)
theorem dX5_init_25 : decode cX5_init 25 = .ok (.putfield 18, 3) := dk_181 0 18 (dk_at dksX5_init_1 2 rfl rfl)
theorem dX5_init_28 : decode cX5_init 28 = .ok (.aload_n 0, 1) := dk_42 (dk_at dksX5_init_1 5 rfl rfl)
theorem dX5_init_29 : decode cX5_init 29 = .ok (.aload_n 1, 1) := dk_43 (dk_at dksX5_init_1 6 rfl rfl)
theorem dX5_init_30 : decode cX5_init 30 = .ok (.putfield 21, 3) := dk_181 0 21 (dk_at dksX5_init_1 7 rfl rfl)
theorem dX5_init_33 : decode cX5_init 33 = .ok (.return_, 1) := dk_177 (dk_at dksX5_init_1 10 rfl rfl)
def dkwX5_become_2 : List UInt8 := [43, 180, 0, 18, 3, 42, 180, 0, 18, 3, 16, 6, 184, 0, 28, 177]
abbrev dktX5_become_2 : List UInt8 := dkwX5_become_2 ++ []
def dkwX5_become_1 : List UInt8 := [180, 0, 9, 3, 16, 72, 184, 0, 28, 43, 180, 0, 15, 3, 42, 180, 0, 15, 3, 16, 6, 184, 0, 28]
abbrev dktX5_become_1 : List UInt8 := dkwX5_become_1 ++ dktX5_become_2
def dkwX5_become_0 : List UInt8 := [42, 43, 180, 0, 24, 181, 0, 24, 42, 43, 180, 0, 21, 181, 0, 21, 43, 180, 0, 9, 3, 42]
abbrev dktX5_become_0 : List UInt8 := dkwX5_become_0 ++ dktX5_become_1
theorem dksX5_become_0 : cX5_become.data.toList.drop 0 = dktX5_become_0 := by decide +kernel
theorem dksX5_become_1 : cX5_become.data.toList.drop 22 = dktX5_become_1 := dk_seg dksX5_become_0 22 rfl rfl
theorem dksX5_become_2 : cX5_become.data.toList.drop 46 = dktX5_become_2 := dk_seg dksX5_become_1 24 rfl rfl
theorem dX5_become_0 : decode cX5_become 0 = .ok (.aload_n 0, 1) := dk_42 (dk_at dksX5_become_0 0 rfl rfl)
theorem dX5_become_1 : decode cX5_become 1 = .ok (.aload_n 1, 1) := dk_43 (dk_at dksX5_become_0 1 rfl rfl)
theorem dX5_become_2 : decode cX5_become 2 = .ok (.getfield 24, 3) := dk_180 0 24 (dk_at dksX5_become_0 2 rfl rfl)
theorem dX5_become_5 : decode cX5_become 5 = .ok (.putfield 24, 3) := dk_181 0 24 (dk_at dksX5_become_0 5 rfl rfl)
theorem dX5_become_8 : decode cX5_become 8 = .ok (.aload_n 0, 1) := dk_42 (dk_at dksX5_become_0 8 rfl rfl)
theorem dX5_become_9 : decode cX5_become 9 = .ok (.aload_n 1, 1) := dk_43 (dk_at dksX5_become_0 9 rfl rfl)
theorem dX5_become_10 : decode cX5_become 10 = .ok (.getfield 21, 3) := dk_180 0 21 (dk_at dksX5_become_0 10 rfl rfl)
theorem dX5_become_13 : decode cX5_become 13 = .ok (.putfield 21, 3) := dk_181 0 21 (dk_at dksX5_become_0 13 rfl rfl)
theorem dX5_become_16 : decode cX5_become 16 = .ok (.aload_n 1, 1) := dk_43 (dk_at dksX5_become_0 16 rfl rfl)
theorem dX5_become_17 : decode cX5_become 17 = .ok (.getfield 9, 3) := dk_180 0 9 (dk_at dksX5_become_0 17 rfl rfl)
theorem dX5_become_20 : decode cX5_become 20 = .ok (.iconst 0, 1) := dk_3 (dk_at dksX5_become_0 20 rfl rfl)
theorem dX5_become_21 : decode cX5_become 21 = .ok (.aload_n 0, 1) := dk_42 (dk_at dksX5_become_0 21 rfl rfl)
theorem dX5_become_22 : decode cX5_become 22 = .ok (.getfield 9, 3) := dk_180 0 9 (dk_at dksX5_become_1 0 rfl rfl)
theorem dX5_become_25 : decode cX5_become 25 = .ok (.iconst 0, 1) := dk_3 (dk_at dksX5_become_1 3 rfl rfl)
theorem dX5_become_26 : decode cX5_become 26 = .ok (.bipush 72, 2) := dk_16 72 (dk_at dksX5_become_1 4 rfl rfl)
theorem dX5_become_28 : decode cX5_become 28 = .ok (.invokestatic 28, 3) := dk_184 0 28 (dk_at dksX5_become_1 6 rfl rfl)
theorem dX5_become_31 : decode cX5_become 31 = .ok (.aload_n 1, 1) := dk_43 (dk_at dksX5_become_1 9 rfl rfl)
theorem dX5_become_32 : decode cX5_become 32 = .ok (.getfield 15, 3) := dk_180 0 15 (dk_at dksX5_become_1 10 rfl rfl)
theorem dX5_become_35 : decode cX5_become 35 = .ok (.iconst 0, 1) := dk_3 (dk_at dksX5_become_1 13 rfl rfl)
theorem dX5_become_36 : decode cX5_become 36 = .ok (.aload_n 0, 1) := dk_42 (dk_at dksX5_become_1 14 rfl rfl)
theorem dX5_become_37 : decode cX5_become 37 = .ok (.getfield 15, 3) := dk_180 0 15 (dk_at dksX5_become_1 15 rfl rfl)
theorem dX5_become_40 : decode cX5_become 40 = .ok (.iconst 0, 1) := dk_3 (dk_at dksX5_become_1 18 rfl rfl)
theorem dX5_become_41 : decode cX5_become 41 = .ok (.bipush 6, 2) := dk_16 6 (dk_at dksX5_become_1 19 rfl rfl)
theorem dX5_become_43 : decode cX5_become 43 = .ok (.invokestatic 28, 3) := dk_184 0 28 (dk_at dksX5_become_1 21 rfl rfl)
theorem dX5_become_46 : decode cX5_become 46 = .ok (.aload_n 1, 1) := dk_43 (dk_at dksX5_become_2 0 rfl rfl)
theorem dX5_become_47 : decode cX5_become 47 = .ok (.getfield 18, 3) := dk_180 0 18 (dk_at dksX5_become_2 1 rfl rfl)
theorem dX5_become_50 : decode cX5_become 50 = .ok (.iconst 0, 1) := dk_3 (dk_at dksX5_become_2 4 rfl rfl)
theorem dX5_become_51 : decode cX5_become 51 = .ok (.aload_n 0, 1) := dk_42 (dk_at dksX5_become_2 5 rfl rfl)
theorem dX5_become_52 : decode cX5_become 52 = .ok (.getfield 18, 3) := dk_180 0 18 (dk_at dksX5_become_2 6 rfl rfl)
theorem dX5_become_55 : decode cX5_become 55 = .ok (.iconst 0, 1) := dk_3 (dk_at dksX5_become_2 9 rfl rfl)
theorem dX5_become_56 : decode cX5_become 56 = .ok (.bipush 6, 2) := dk_16 6 (dk_at dksX5_become_2 10 rfl rfl)
theorem dX5_become_58 : decode cX5_become 58 = .ok (.invokestatic 28, 3) := dk_184 0 28 (dk_at dksX5_become_2 12 rfl rfl)
theorem dX5_become_61 : decode cX5_become 61 = .ok (.return_, 1) := dk_177 (dk_at dksX5_become_2 15 rfl rfl)
def dkwX5_sum_1 : List UInt8 := [21, 5, 96, 60, 132, 4, 1, 167, 255, 236, 27, 172]
abbrev dktX5_sum_1 : List UInt8 := dkwX5_sum_1 ++ []
def dkwX5_sum_0 : List UInt8 := [3, 60, 42, 77, 44, 190, 62, 3, 54, 4, 21, 4, 29, 162, 0, 20, 44, 21, 4, 46, 54, 5, 27]
abbrev dktX5_sum_0 : List UInt8 := dkwX5_sum_0 ++ dktX5_sum_1
theorem dksX5_sum_0 : cX5_sum.data.toList.drop 0 = dktX5_sum_0 := by decide +kernel
theorem dksX5_sum_1 : cX5_sum.data.toList.drop 23 = dktX5_sum_1 := dk_seg dksX5_sum_0 23 rfl rfl
theorem dX5_sum_0 : decode cX5_sum 0 = .ok (.iconst 0, 1) := dk_3 (dk_at dksX5_sum_0 0 rfl rfl)
theorem dX5_sum_1 : decode cX5_sum 1 = .ok (.istore_n 1, 1) := dk_60 (dk_at dksX5_sum_0 1 rfl rfl)
theorem dX5_sum_2 : decode cX5_sum 2 = .ok (.aload_n 0, 1) := dk_42 (dk_at dksX5_sum_0 2 rfl rfl)
theorem dX5_sum_3 : decode cX5_sum 3 = .ok (.astore_n 2, 1) := dk_77 (dk_at dksX5_sum_0 3 rfl rfl)
theorem dX5_sum_4 : decode cX5_sum 4 = .ok (.aload_n 2, 1) := dk_44 (dk_at dksX5_sum_0 4 rfl rfl)
theorem dX5_sum_5 : decode cX5_sum 5 = .ok (.arraylength, 1) := dk_190 (dk_at dksX5_sum_0 5 rfl rfl)
theorem dX5_sum_6 : decode cX5_sum 6 = .ok (.istore_n 3, 1) := dk_62 (dk_at dksX5_sum_0 6 rfl rfl)
theorem dX5_sum_7 : decode cX5_sum 7 = .ok (.iconst 0, 1) := dk_3 (dk_at dksX5_sum_0 7 rfl rfl)
theorem dX5_sum_8 : decode cX5_sum 8 = .ok (.istore 4, 2) := dk_54 4 (dk_at dksX5_sum_0 8 rfl rfl)
theorem dX5_sum_10 : decode cX5_sum 10 = .ok (.iload 4, 2) := dk_21 4 (dk_at dksX5_sum_0 10 rfl rfl)
theorem dX5_sum_12 : decode cX5_sum 12 = .ok (.iload_n 3, 1) := dk_29 (dk_at dksX5_sum_0 12 rfl rfl)
theorem dX5_sum_13 : decode cX5_sum 13 = .ok (.if_icmp .ge 20, 3) := dk_162 0 20 (dk_at dksX5_sum_0 13 rfl rfl)
theorem dX5_sum_16 : decode cX5_sum 16 = .ok (.aload_n 2, 1) := dk_44 (dk_at dksX5_sum_0 16 rfl rfl)
theorem dX5_sum_17 : decode cX5_sum 17 = .ok (.iload 4, 2) := dk_21 4 (dk_at dksX5_sum_0 17 rfl rfl)
theorem dX5_sum_19 : decode cX5_sum 19 = .ok (.iaload, 1) := dk_46 (dk_at dksX5_sum_0 19 rfl rfl)
theorem dX5_sum_20 : decode cX5_sum 20 = .ok (.istore 5, 2) := dk_54 5 (dk_at dksX5_sum_0 20 rfl rfl)
theorem dX5_sum_22 : decode cX5_sum 22 = .ok (.iload_n 1, 1) := dk_27 (dk_at dksX5_sum_0 22 rfl rfl)
theorem dX5_sum_23 : decode cX5_sum 23 = .ok (.iload 5, 2) := dk_21 5 (dk_at dksX5_sum_1 0 rfl rfl)
theorem dX5_sum_25 : decode cX5_sum 25 = .ok (.iadd, 1) := dk_96 (dk_at dksX5_sum_1 2 rfl rfl)
theorem dX5_sum_26 : decode cX5_sum 26 = .ok (.istore_n 1, 1) := dk_60 (dk_at dksX5_sum_1 3 rfl rfl)
theorem dX5_sum_27 : decode cX5_sum 27 = .ok (.iinc 4 1, 3) := dk_132 4 1 (dk_at dksX5_sum_1 4 rfl rfl)
theorem dX5_sum_30 : decode cX5_sum 30 = .ok (.goto (-20), 3) := dk_167 255 236 (dk_at dksX5_sum_1 7 rfl rfl)
theorem dX5_sum_33 : decode cX5_sum 33 = .ok (.iload_n 1, 1) := dk_27 (dk_at dksX5_sum_1 10 rfl rfl)
theorem dX5_sum_34 : decode cX5_sum 34 = .ok (.ireturn, 1) := dk_172 (dk_at dksX5_sum_1 11 rfl rfl)
def dkwX5_send_3 : List UInt8 := [96, 29, 96, 4, 96, 79, 42, 89, 180, 0, 24, 4, 96, 181, 0, 24, 177]
abbrev dktX5_send_3 : List UInt8 := dkwX5_send_3 ++ []
def dkwX5_send_2 : List UInt8 := [27, 92, 46, 4, 96, 79, 177, 42, 180, 0, 9, 42, 180, 0, 24, 17, 1, 0, 27, 104, 16, 16, 28, 104]
abbrev dktX5_send_2 : List UInt8 := dkwX5_send_2 ++ dktX5_send_3
def dkwX5_send_1 : List UInt8 := [158, 0, 31, 42, 180, 0, 21, 21, 4, 42, 180, 0, 21, 190, 112, 46, 4, 160, 0, 14, 42, 180, 0, 18]
abbrev dktX5_send_1 : List UInt8 := dkwX5_send_1 ++ dktX5_send_2
def dkwX5_send_0 : List UInt8 := [42, 180, 0, 15, 184, 0, 34, 54, 4, 42, 180, 0, 15, 27, 92, 46, 4, 96, 79, 42, 180, 0, 21, 190]
abbrev dktX5_send_0 : List UInt8 := dkwX5_send_0 ++ dktX5_send_1
theorem dksX5_send_0 : cX5_send.data.toList.drop 0 = dktX5_send_0 := by decide +kernel
theorem dksX5_send_1 : cX5_send.data.toList.drop 24 = dktX5_send_1 := dk_seg dksX5_send_0 24 rfl rfl
theorem dksX5_send_2 : cX5_send.data.toList.drop 48 = dktX5_send_2 := dk_seg dksX5_send_1 24 rfl rfl
theorem dksX5_send_3 : cX5_send.data.toList.drop 72 = dktX5_send_3 := dk_seg dksX5_send_2 24 rfl rfl
theorem dX5_send_0 : decode cX5_send 0 = .ok (.aload_n 0, 1) := dk_42 (dk_at dksX5_send_0 0 rfl rfl)
theorem dX5_send_1 : decode cX5_send 1 = .ok (.getfield 15, 3) := dk_180 0 15 (dk_at dksX5_send_0 1 rfl rfl)
theorem dX5_send_4 : decode cX5_send 4 = .ok (.invokestatic 34, 3) := dk_184 0 34 (dk_at dksX5_send_0 4 rfl rfl)
theorem dX5_send_7 : decode cX5_send 7 = .ok (.istore 4, 2) := dk_54 4 (dk_at dksX5_send_0 7 rfl rfl)
theorem dX5_send_9 : decode cX5_send 9 = .ok (.aload_n 0, 1) := dk_42 (dk_at dksX5_send_0 9 rfl rfl)
theorem dX5_send_10 : decode cX5_send 10 = .ok (.getfield 15, 3) := dk_180 0 15 (dk_at dksX5_send_0 10 rfl rfl)
theorem dX5_send_13 : decode cX5_send 13 = .ok (.iload_n 1, 1) := dk_27 (dk_at dksX5_send_0 13 rfl rfl)
theorem dX5_send_14 : decode cX5_send 14 = .ok (.dup2, 1) := dk_92 (dk_at dksX5_send_0 14 rfl rfl)
theorem dX5_send_15 : decode cX5_send 15 = .ok (.iaload, 1) := dk_46 (dk_at dksX5_send_0 15 rfl rfl)
theorem dX5_send_16 : decode cX5_send 16 = .ok (.iconst 1, 1) := dk_4 (dk_at dksX5_send_0 16 rfl rfl)
theorem dX5_send_17 : decode cX5_send 17 = .ok (.iadd, 1) := dk_96 (dk_at dksX5_send_0 17 rfl rfl)
theorem dX5_send_18 : decode cX5_send 18 = .ok (.iastore, 1) := dk_79 (dk_at dksX5_send_0 18 rfl rfl)
theorem dX5_send_19 : decode cX5_send 19 = .ok (.aload_n 0, 1) := dk_42 (dk_at dksX5_send_0 19 rfl rfl)
theorem dX5_send_20 : decode cX5_send 20 = .ok (.getfield 21, 3) := dk_180 0 21 (dk_at dksX5_send_0 20 rfl rfl)
theorem dX5_send_23 : decode cX5_send 23 = .ok (.arraylength, 1) := dk_190 (dk_at dksX5_send_0 23 rfl rfl)
theorem dX5_send_24 : decode cX5_send 24 = .ok (.ifCond .le 31, 3) := dk_158 0 31 (dk_at dksX5_send_1 0 rfl rfl)
theorem dX5_send_27 : decode cX5_send 27 = .ok (.aload_n 0, 1) := dk_42 (dk_at dksX5_send_1 3 rfl rfl)
theorem dX5_send_28 : decode cX5_send 28 = .ok (.getfield 21, 3) := dk_180 0 21 (dk_at dksX5_send_1 4 rfl rfl)
theorem dX5_send_31 : decode cX5_send 31 = .ok (.iload 4, 2) := dk_21 4 (dk_at dksX5_send_1 7 rfl rfl)
theorem dX5_send_33 : decode cX5_send 33 = .ok (.aload_n 0, 1) := dk_42 (dk_at dksX5_send_1 9 rfl rfl)
theorem dX5_send_34 : decode cX5_send 34 = .ok (.getfield 21, 3) := dk_180 0 21 (dk_at dksX5_send_1 10 rfl rfl)
theorem dX5_send_37 : decode cX5_send 37 = .ok (.arraylength, 1) := dk_190 (dk_at dksX5_send_1 13 rfl rfl)
theorem dX5_send_38 : decode cX5_send 38 = .ok (.irem, 1) := dk_112 (dk_at dksX5_send_1 14 rfl rfl)
theorem dX5_send_39 : decode cX5_send 39 = .ok (.iaload, 1) := dk_46 (dk_at dksX5_send_1 15 rfl rfl)
theorem dX5_send_40 : decode cX5_send 40 = .ok (.iconst 1, 1) := dk_4 (dk_at dksX5_send_1 16 rfl rfl)
theorem dX5_send_41 : decode cX5_send 41 = .ok (.if_icmp .ne 14, 3) := dk_160 0 14 (dk_at dksX5_send_1 17 rfl rfl)
theorem dX5_send_44 : decode cX5_send 44 = .ok (.aload_n 0, 1) := dk_42 (dk_at dksX5_send_1 20 rfl rfl)
theorem dX5_send_45 : decode cX5_send 45 = .ok (.getfield 18, 3) := dk_180 0 18 (dk_at dksX5_send_1 21 rfl rfl)
theorem dX5_send_48 : decode cX5_send 48 = .ok (.iload_n 1, 1) := dk_27 (dk_at dksX5_send_2 0 rfl rfl)
theorem dX5_send_49 : decode cX5_send 49 = .ok (.dup2, 1) := dk_92 (dk_at dksX5_send_2 1 rfl rfl)
theorem dX5_send_50 : decode cX5_send 50 = .ok (.iaload, 1) := dk_46 (dk_at dksX5_send_2 2 rfl rfl)
theorem dX5_send_51 : decode cX5_send 51 = .ok (.iconst 1, 1) := dk_4 (dk_at dksX5_send_2 3 rfl rfl)
theorem dX5_send_52 : decode cX5_send 52 = .ok (.iadd, 1) := dk_96 (dk_at dksX5_send_2 4 rfl rfl)
theorem dX5_send_53 : decode cX5_send 53 = .ok (.iastore, 1) := dk_79 (dk_at dksX5_send_2 5 rfl rfl)
theorem dX5_send_54 : decode cX5_send 54 = .ok (.return_, 1) := dk_177 (dk_at dksX5_send_2 6 rfl rfl)
theorem dX5_send_55 : decode cX5_send 55 = .ok (.aload_n 0, 1) := dk_42 (dk_at dksX5_send_2 7 rfl rfl)
theorem dX5_send_56 : decode cX5_send 56 = .ok (.getfield 9, 3) := dk_180 0 9 (dk_at dksX5_send_2 8 rfl rfl)
theorem dX5_send_59 : decode cX5_send 59 = .ok (.aload_n 0, 1) := dk_42 (dk_at dksX5_send_2 11 rfl rfl)
theorem dX5_send_60 : decode cX5_send 60 = .ok (.getfield 24, 3) := dk_180 0 24 (dk_at dksX5_send_2 12 rfl rfl)
theorem dX5_send_63 : decode cX5_send 63 = .ok (.sipush 256, 3) := dk_17 1 0 (dk_at dksX5_send_2 15 rfl rfl)
theorem dX5_send_66 : decode cX5_send 66 = .ok (.iload_n 1, 1) := dk_27 (dk_at dksX5_send_2 18 rfl rfl)
theorem dX5_send_67 : decode cX5_send 67 = .ok (.imul, 1) := dk_104 (dk_at dksX5_send_2 19 rfl rfl)
theorem dX5_send_68 : decode cX5_send 68 = .ok (.bipush 16, 2) := dk_16 16 (dk_at dksX5_send_2 20 rfl rfl)
theorem dX5_send_70 : decode cX5_send 70 = .ok (.iload_n 2, 1) := dk_28 (dk_at dksX5_send_2 22 rfl rfl)
theorem dX5_send_71 : decode cX5_send 71 = .ok (.imul, 1) := dk_104 (dk_at dksX5_send_2 23 rfl rfl)
theorem dX5_send_72 : decode cX5_send 72 = .ok (.iadd, 1) := dk_96 (dk_at dksX5_send_3 0 rfl rfl)
theorem dX5_send_73 : decode cX5_send 73 = .ok (.iload_n 3, 1) := dk_29 (dk_at dksX5_send_3 1 rfl rfl)
theorem dX5_send_74 : decode cX5_send 74 = .ok (.iadd, 1) := dk_96 (dk_at dksX5_send_3 2 rfl rfl)
theorem dX5_send_75 : decode cX5_send 75 = .ok (.iconst 1, 1) := dk_4 (dk_at dksX5_send_3 3 rfl rfl)
theorem dX5_send_76 : decode cX5_send 76 = .ok (.iadd, 1) := dk_96 (dk_at dksX5_send_3 4 rfl rfl)
theorem dX5_send_77 : decode cX5_send 77 = .ok (.iastore, 1) := dk_79 (dk_at dksX5_send_3 5 rfl rfl)
theorem dX5_send_78 : decode cX5_send 78 = .ok (.aload_n 0, 1) := dk_42 (dk_at dksX5_send_3 6 rfl rfl)
theorem dX5_send_79 : decode cX5_send 79 = .ok (.dup, 1) := dk_89 (dk_at dksX5_send_3 7 rfl rfl)
theorem dX5_send_80 : decode cX5_send 80 = .ok (.getfield 24, 3) := dk_180 0 24 (dk_at dksX5_send_3 8 rfl rfl)
theorem dX5_send_83 : decode cX5_send 83 = .ok (.iconst 1, 1) := dk_4 (dk_at dksX5_send_3 11 rfl rfl)
theorem dX5_send_84 : decode cX5_send 84 = .ok (.iadd, 1) := dk_96 (dk_at dksX5_send_3 12 rfl rfl)
theorem dX5_send_85 : decode cX5_send 85 = .ok (.putfield 24, 3) := dk_181 0 24 (dk_at dksX5_send_3 13 rfl rfl)
theorem dX5_send_88 : decode cX5_send 88 = .ok (.return_, 1) := dk_177 (dk_at dksX5_send_3 16 rfl rfl)
def dkwX7_init_0 : List UInt8 := [42, 43, 181, 0, 3, 42, 183, 0, 9, 42, 187, 0, 15, 89, 183, 0, 17, 181, 0, 18, 177]
abbrev dktX7_init_0 : List UInt8 := dkwX7_init_0 ++ []
theorem dksX7_init_0 : cX7_init.data.toList.drop 0 = dktX7_init_0 := by decide +kernel
theorem dX7_init_0 : decode cX7_init 0 = .ok (.aload_n 0, 1) := dk_42 (dk_at dksX7_init_0 0 rfl rfl)
theorem dX7_init_1 : decode cX7_init 1 = .ok (.aload_n 1, 1) := dk_43 (dk_at dksX7_init_0 1 rfl rfl)
theorem dX7_init_2 : decode cX7_init 2 = .ok (.putfield 3, 3) := dk_181 0 3 (dk_at dksX7_init_0 2 rfl rfl)
theorem dX7_init_5 : decode cX7_init 5 = .ok (.aload_n 0, 1) := dk_42 (dk_at dksX7_init_0 5 rfl rfl)
theorem dX7_init_6 : decode cX7_init 6 = .ok (.invokespecial 9, 3) := dk_183 0 9 (dk_at dksX7_init_0 6 rfl rfl)
theorem dX7_init_9 : decode cX7_init 9 = .ok (.aload_n 0, 1) := dk_42 (dk_at dksX7_init_0 9 rfl rfl)
theorem dX7_init_10 : decode cX7_init 10 = .ok (.new 15, 3) := dk_187 0 15 (dk_at dksX7_init_0 10 rfl rfl)
theorem dX7_init_13 : decode cX7_init 13 = .ok (.dup, 1) := dk_89 (dk_at dksX7_init_0 13 rfl rfl)
theorem dX7_init_14 : decode cX7_init 14 = .ok (.invokespecial 17, 3) := dk_183 0 17 (dk_at dksX7_init_0 14 rfl rfl)
theorem dX7_init_17 : decode cX7_init 17 = .ok (.putfield 18, 3) := dk_181 0 18 (dk_at dksX7_init_0 17 rfl rfl)
theorem dX7_init_20 : decode cX7_init 20 = .ok (.return_, 1) := dk_177 (dk_at dksX7_init_0 20 rfl rfl)
def dkwX7_parse_0 : List UInt8 := [42, 182, 0, 221, 42, 180, 0, 18, 176, 76, 187, 0, 224, 89, 43, 183, 0, 226, 191]
abbrev dktX7_parse_0 : List UInt8 := dkwX7_parse_0 ++ []
theorem dksX7_parse_0 : cX7_parse.data.toList.drop 0 = dktX7_parse_0 := by decide +kernel
theorem dX7_parse_0 : decode cX7_parse 0 = .ok (.aload_n 0, 1) := dk_42 (dk_at dksX7_parse_0 0 rfl rfl)
theorem dX7_parse_1 : decode cX7_parse 1 = .ok (.invokevirtual 221, 3) := dk_182 0 221 (dk_at dksX7_parse_0 1 rfl rfl)
theorem dX7_parse_4 : decode cX7_parse 4 = .ok (.aload_n 0, 1) := dk_42 (dk_at dksX7_parse_0 4 rfl rfl)
theorem dX7_parse_5 : decode cX7_parse 5 = .ok (.getfield 18, 3) := dk_180 0 18 (dk_at dksX7_parse_0 5 rfl rfl)
theorem dX7_parse_8 : decode cX7_parse 8 = .ok (.areturn, 1) := dk_176 (dk_at dksX7_parse_0 8 rfl rfl)
theorem dX7_parse_9 : decode cX7_parse 9 = .ok (.astore_n 1, 1) := dk_76 (dk_at dksX7_parse_0 9 rfl rfl)
theorem dX7_parse_10 : decode cX7_parse 10 = .ok (.new 224, 3) := dk_187 0 224 (dk_at dksX7_parse_0 10 rfl rfl)
theorem dX7_parse_13 : decode cX7_parse 13 = .ok (.dup, 1) := dk_89 (dk_at dksX7_parse_0 13 rfl rfl)
theorem dX7_parse_14 : decode cX7_parse 14 = .ok (.aload_n 1, 1) := dk_43 (dk_at dksX7_parse_0 14 rfl rfl)
theorem dX7_parse_15 : decode cX7_parse 15 = .ok (.invokespecial 226, 3) := dk_183 0 226 (dk_at dksX7_parse_0 15 rfl rfl)
theorem dX7_parse_18 : decode cX7_parse 18 = .ok (.athrow, 1) := dk_191 (dk_at dksX7_parse_0 18 rfl rfl)
def dkwX7_all_5 : List UInt8 := [160, 0, 7, 4, 167, 0, 4, 3, 182, 0, 81, 177]
abbrev dktX7_all_5 : List UInt8 := dkwX7_all_5 ++ []
def dkwX7_all_4 : List UInt8 := [42, 182, 0, 69, 182, 0, 218, 153, 0, 10, 42, 182, 0, 206, 167, 255, 241, 42, 42, 182, 0, 46, 2]
abbrev dktX7_all_4 : List UInt8 := dkwX7_all_4 ++ dktX7_all_5
def dkwX7_all_3 : List UInt8 := [182, 0, 72, 153, 0, 20, 42, 44, 182, 0, 216, 42, 182, 0, 206, 42, 182, 0, 69, 77, 167, 255, 233, 42]
abbrev dktX7_all_3 : List UInt8 := dkwX7_all_3 ++ dktX7_all_4
def dkwX7_all_2 : List UInt8 := [182, 0, 211, 42, 182, 0, 206, 42, 182, 0, 69, 77, 167, 255, 233, 42, 182, 0, 69, 77, 44, 18, 214]
abbrev dktX7_all_2 : List UInt8 := dkwX7_all_2 ++ dktX7_all_3
def dkwX7_all_1 : List UInt8 := [181, 0, 204, 42, 182, 0, 206, 42, 182, 0, 69, 77, 44, 18, 209, 182, 0, 72, 153, 0, 20, 42, 44]
abbrev dktX7_all_1 : List UInt8 := dkwX7_all_1 ++ dktX7_all_2
def dkwX7_all_0 : List UInt8 := [42, 18, 198, 182, 0, 200, 60, 42, 27, 182, 0, 81, 42, 180, 0, 18, 42, 4, 17, 39, 15, 182, 0, 120]
abbrev dktX7_all_0 : List UInt8 := dkwX7_all_0 ++ dktX7_all_1
theorem dksX7_all_0 : cX7_all.data.toList.drop 0 = dktX7_all_0 := by decide +kernel
theorem dksX7_all_1 : cX7_all.data.toList.drop 24 = dktX7_all_1 := dk_seg dksX7_all_0 24 rfl rfl
theorem dksX7_all_2 : cX7_all.data.toList.drop 47 = dktX7_all_2 := dk_seg dksX7_all_1 23 rfl rfl
theorem dksX7_all_3 : cX7_all.data.toList.drop 70 = dktX7_all_3 := dk_seg dksX7_all_2 23 rfl rfl
theorem dksX7_all_4 : cX7_all.data.toList.drop 94 = dktX7_all_4 := dk_seg dksX7_all_3 24 rfl rfl
theorem dksX7_all_5 : cX7_all.data.toList.drop 117 = dktX7_all_5 := dk_seg dksX7_all_4 23 rfl rfl
theorem dX7_all_0 : decode cX7_all 0 = .ok (.aload_n 0, 1) := dk_42 (dk_at dksX7_all_0 0 rfl rfl)
theorem dX7_all_1 : decode cX7_all 1 = .ok (.ldc 198, 2) := dk_18 198 (dk_at dksX7_all_0 1 rfl rfl)
theorem dX7_all_3 : decode cX7_all 3 = .ok (.invokevirtual 200, 3) := dk_182 0 200 (dk_at dksX7_all_0 3 rfl rfl)
theorem dX7_all_6 : decode cX7_all 6 = .ok (.istore_n 1, 1) := dk_60 (dk_at dksX7_all_0 6 rfl rfl)
theorem dX7_all_7 : decode cX7_all 7 = .ok (.aload_n 0, 1) := dk_42 (dk_at dksX7_all_0 7 rfl rfl)
theorem dX7_all_8 : decode cX7_all 8 = .ok (.iload_n 1, 1) := dk_27 (dk_at dksX7_all_0 8 rfl rfl)
theorem dX7_all_9 : decode cX7_all 9 = .ok (.invokevirtual 81, 3) := dk_182 0 81 (dk_at dksX7_all_0 9 rfl rfl)
theorem dX7_all_12 : decode cX7_all 12 = .ok (.aload_n 0, 1) := dk_42 (dk_at dksX7_all_0 12 rfl rfl)
theorem dX7_all_13 : decode cX7_all 13 = .ok (.getfield 18, 3) := dk_180 0 18 (dk_at dksX7_all_0 13 rfl rfl)
theorem dX7_all_16 : decode cX7_all 16 = .ok (.aload_n 0, 1) := dk_42 (dk_at dksX7_all_0 16 rfl rfl)
theorem dX7_all_17 : decode cX7_all 17 = .ok (.iconst 1, 1) := dk_4 (dk_at dksX7_all_0 17 rfl rfl)
theorem dX7_all_18 : decode cX7_all 18 = .ok (.sipush 9999, 3) := dk_17 39 15 (dk_at dksX7_all_0 18 rfl rfl)
theorem dX7_all_21 : decode cX7_all 21 = .ok (.invokevirtual 120, 3) := dk_182 0 120 (dk_at dksX7_all_0 21 rfl rfl)
theorem dX7_all_24 : decode cX7_all 24 = .ok (.putfield 204, 3) := dk_181 0 204 (dk_at dksX7_all_1 0 rfl rfl)
theorem dX7_all_27 : decode cX7_all 27 = .ok (.aload_n 0, 1) := dk_42 (dk_at dksX7_all_1 3 rfl rfl)
theorem dX7_all_28 : decode cX7_all 28 = .ok (.invokevirtual 206, 3) := dk_182 0 206 (dk_at dksX7_all_1 4 rfl rfl)
theorem dX7_all_31 : decode cX7_all 31 = .ok (.aload_n 0, 1) := dk_42 (dk_at dksX7_all_1 7 rfl rfl)
theorem dX7_all_32 : decode cX7_all 32 = .ok (.invokevirtual 69, 3) := dk_182 0 69 (dk_at dksX7_all_1 8 rfl rfl)
theorem dX7_all_35 : decode cX7_all 35 = .ok (.astore_n 2, 1) := dk_77 (dk_at dksX7_all_1 11 rfl rfl)
theorem dX7_all_36 : decode cX7_all 36 = .ok (.aload_n 2, 1) := dk_44 (dk_at dksX7_all_1 12 rfl rfl)
theorem dX7_all_37 : decode cX7_all 37 = .ok (.ldc 209, 2) := dk_18 209 (dk_at dksX7_all_1 13 rfl rfl)
theorem dX7_all_39 : decode cX7_all 39 = .ok (.invokevirtual 72, 3) := dk_182 0 72 (dk_at dksX7_all_1 15 rfl rfl)
theorem dX7_all_42 : decode cX7_all 42 = .ok (.ifCond .eq 20, 3) := dk_153 0 20 (dk_at dksX7_all_1 18 rfl rfl)
theorem dX7_all_45 : decode cX7_all 45 = .ok (.aload_n 0, 1) := dk_42 (dk_at dksX7_all_1 21 rfl rfl)
theorem dX7_all_46 : decode cX7_all 46 = .ok (.aload_n 2, 1) := dk_44 (dk_at dksX7_all_1 22 rfl rfl)
theorem dX7_all_47 : decode cX7_all 47 = .ok (.invokevirtual 211, 3) := dk_182 0 211 (dk_at dksX7_all_2 0 rfl rfl)
theorem dX7_all_50 : decode cX7_all 50 = .ok (.aload_n 0, 1) := dk_42 (dk_at dksX7_all_2 3 rfl rfl)
theorem dX7_all_51 : decode cX7_all 51 = .ok (.invokevirtual 206, 3) := dk_182 0 206 (dk_at dksX7_all_2 4 rfl rfl)
theorem dX7_all_54 : decode cX7_all 54 = .ok (.aload_n 0, 1) := dk_42 (dk_at dksX7_all_2 7 rfl rfl)
theorem dX7_all_55 : decode cX7_all 55 = .ok (.invokevirtual 69, 3) := dk_182 0 69 (dk_at dksX7_all_2 8 rfl rfl)
theorem dX7_all_58 : decode cX7_all 58 = .ok (.astore_n 2, 1) := dk_77 (dk_at dksX7_all_2 11 rfl rfl)
theorem dX7_all_59 : decode cX7_all 59 = .ok (.goto (-23), 3) := dk_167 255 233 (dk_at dksX7_all_2 12 rfl rfl)
theorem dX7_all_62 : decode cX7_all 62 = .ok (.aload_n 0, 1) := dk_42 (dk_at dksX7_all_2 15 rfl rfl)
theorem dX7_all_63 : decode cX7_all 63 = .ok (.invokevirtual 69, 3) := dk_182 0 69 (dk_at dksX7_all_2 16 rfl rfl)
theorem dX7_all_66 : decode cX7_all 66 = .ok (.astore_n 2, 1) := dk_77 (dk_at dksX7_all_2 19 rfl rfl)
theorem dX7_all_67 : decode cX7_all 67 = .ok (.aload_n 2, 1) := dk_44 (dk_at dksX7_all_2 20 rfl rfl)
theorem dX7_all_68 : decode cX7_all 68 = .ok (.ldc 214, 2) := dk_18 214 (dk_at dksX7_all_2 21 rfl rfl)
theorem dX7_all_70 : decode cX7_all 70 = .ok (.invokevirtual 72, 3) := dk_182 0 72 (dk_at dksX7_all_3 0 rfl rfl)
theorem dX7_all_73 : decode cX7_all 73 = .ok (.ifCond .eq 20, 3) := dk_153 0 20 (dk_at dksX7_all_3 3 rfl rfl)
theorem dX7_all_76 : decode cX7_all 76 = .ok (.aload_n 0, 1) := dk_42 (dk_at dksX7_all_3 6 rfl rfl)
theorem dX7_all_77 : decode cX7_all 77 = .ok (.aload_n 2, 1) := dk_44 (dk_at dksX7_all_3 7 rfl rfl)
theorem dX7_all_78 : decode cX7_all 78 = .ok (.invokevirtual 216, 3) := dk_182 0 216 (dk_at dksX7_all_3 8 rfl rfl)
theorem dX7_all_81 : decode cX7_all 81 = .ok (.aload_n 0, 1) := dk_42 (dk_at dksX7_all_3 11 rfl rfl)
theorem dX7_all_82 : decode cX7_all 82 = .ok (.invokevirtual 206, 3) := dk_182 0 206 (dk_at dksX7_all_3 12 rfl rfl)
theorem dX7_all_85 : decode cX7_all 85 = .ok (.aload_n 0, 1) := dk_42 (dk_at dksX7_all_3 15 rfl rfl)
theorem dX7_all_86 : decode cX7_all 86 = .ok (.invokevirtual 69, 3) := dk_182 0 69 (dk_at dksX7_all_3 16 rfl rfl)
theorem dX7_all_89 : decode cX7_all 89 = .ok (.astore_n 2, 1) := dk_77 (dk_at dksX7_all_3 19 rfl rfl)
theorem dX7_all_90 : decode cX7_all 90 = .ok (.goto (-23), 3) := dk_167 255 233 (dk_at dksX7_all_3 20 rfl rfl)
theorem dX7_all_93 : decode cX7_all 93 = .ok (.aload_n 0, 1) := dk_42 (dk_at dksX7_all_3 23 rfl rfl)
theorem dX7_all_94 : decode cX7_all 94 = .ok (.aload_n 0, 1) := dk_42 (dk_at dksX7_all_4 0 rfl rfl)
theorem dX7_all_95 : decode cX7_all 95 = .ok (.invokevirtual 69, 3) := dk_182 0 69 (dk_at dksX7_all_4 1 rfl rfl)
theorem dX7_all_98 : decode cX7_all 98 = .ok (.invokevirtual 218, 3) := dk_182 0 218 (dk_at dksX7_all_4 4 rfl rfl)
theorem dX7_all_101 : decode cX7_all 101 = .ok (.ifCond .eq 10, 3) := dk_153 0 10 (dk_at dksX7_all_4 7 rfl rfl)
theorem dX7_all_104 : decode cX7_all 104 = .ok (.aload_n 0, 1) := dk_42 (dk_at dksX7_all_4 10 rfl rfl)
theorem dX7_all_105 : decode cX7_all 105 = .ok (.invokevirtual 206, 3) := dk_182 0 206 (dk_at dksX7_all_4 11 rfl rfl)
theorem dX7_all_108 : decode cX7_all 108 = .ok (.goto (-15), 3) := dk_167 255 241 (dk_at dksX7_all_4 14 rfl rfl)
theorem dX7_all_111 : decode cX7_all 111 = .ok (.aload_n 0, 1) := dk_42 (dk_at dksX7_all_4 17 rfl rfl)
theorem dX7_all_112 : decode cX7_all 112 = .ok (.aload_n 0, 1) := dk_42 (dk_at dksX7_all_4 18 rfl rfl)
theorem dX7_all_113 : decode cX7_all 113 = .ok (.invokevirtual 46, 3) := dk_182 0 46 (dk_at dksX7_all_4 19 rfl rfl)
theorem dX7_all_116 : decode cX7_all 116 = .ok (.iconst (-1), 1) := dk_2 (dk_at dksX7_all_4 22 rfl rfl)
theorem dX7_all_117 : decode cX7_all 117 = .ok (.if_icmp .ne 7, 3) := dk_160 0 7 (dk_at dksX7_all_5 0 rfl rfl)
theorem dX7_all_120 : decode cX7_all 120 = .ok (.iconst 1, 1) := dk_4 (dk_at dksX7_all_5 3 rfl rfl)
theorem dX7_all_121 : decode cX7_all 121 = .ok (.goto 4, 3) := dk_167 0 4 (dk_at dksX7_all_5 4 rfl rfl)
theorem dX7_all_124 : decode cX7_all 124 = .ok (.iconst 0, 1) := dk_3 (dk_at dksX7_all_5 7 rfl rfl)
theorem dX7_all_125 : decode cX7_all 125 = .ok (.invokevirtual 81, 3) := dk_182 0 81 (dk_at dksX7_all_5 8 rfl rfl)
theorem dX7_all_128 : decode cX7_all 128 = .ok (.return_, 1) := dk_177 (dk_at dksX7_all_5 11 rfl rfl)
def dkwX7_takes_1 : List UInt8 := [167, 0, 4, 3, 96, 181, 0, 22, 28, 172]
abbrev dktX7_takes_1 : List UInt8 := dkwX7_takes_1 ++ []
def dkwX7_takes_0 : List UInt8 := [42, 182, 0, 69, 43, 182, 0, 72, 61, 42, 89, 180, 0, 22, 28, 153, 0, 10, 43, 182, 0, 78]
abbrev dktX7_takes_0 : List UInt8 := dkwX7_takes_0 ++ dktX7_takes_1
theorem dksX7_takes_0 : cX7_takes.data.toList.drop 0 = dktX7_takes_0 := by decide +kernel
theorem dksX7_takes_1 : cX7_takes.data.toList.drop 22 = dktX7_takes_1 := dk_seg dksX7_takes_0 22 rfl rfl
theorem dX7_takes_0 : decode cX7_takes 0 = .ok (.aload_n 0, 1) := dk_42 (dk_at dksX7_takes_0 0 rfl rfl)
theorem dX7_takes_1 : decode cX7_takes 1 = .ok (.invokevirtual 69, 3) := dk_182 0 69 (dk_at dksX7_takes_0 1 rfl rfl)
theorem dX7_takes_4 : decode cX7_takes 4 = .ok (.aload_n 1, 1) := dk_43 (dk_at dksX7_takes_0 4 rfl rfl)
theorem dX7_takes_5 : decode cX7_takes 5 = .ok (.invokevirtual 72, 3) := dk_182 0 72 (dk_at dksX7_takes_0 5 rfl rfl)
theorem dX7_takes_8 : decode cX7_takes 8 = .ok (.istore_n 2, 1) := dk_61 (dk_at dksX7_takes_0 8 rfl rfl)
theorem dX7_takes_9 : decode cX7_takes 9 = .ok (.aload_n 0, 1) := dk_42 (dk_at dksX7_takes_0 9 rfl rfl)
theorem dX7_takes_10 : decode cX7_takes 10 = .ok (.dup, 1) := dk_89 (dk_at dksX7_takes_0 10 rfl rfl)
theorem dX7_takes_11 : decode cX7_takes 11 = .ok (.getfield 22, 3) := dk_180 0 22 (dk_at dksX7_takes_0 11 rfl rfl)
theorem dX7_takes_14 : decode cX7_takes 14 = .ok (.iload_n 2, 1) := dk_28 (dk_at dksX7_takes_0 14 rfl rfl)
theorem dX7_takes_15 : decode cX7_takes 15 = .ok (.ifCond .eq 10, 3) := dk_153 0 10 (dk_at dksX7_takes_0 15 rfl rfl)
theorem dX7_takes_18 : decode cX7_takes 18 = .ok (.aload_n 1, 1) := dk_43 (dk_at dksX7_takes_0 18 rfl rfl)
theorem dX7_takes_19 : decode cX7_takes 19 = .ok (.invokevirtual 78, 3) := dk_182 0 78 (dk_at dksX7_takes_0 19 rfl rfl)
theorem dX7_takes_22 : decode cX7_takes 22 = .ok (.goto 4, 3) := dk_167 0 4 (dk_at dksX7_takes_1 0 rfl rfl)
theorem dX7_takes_25 : decode cX7_takes 25 = .ok (.iconst 0, 1) := dk_3 (dk_at dksX7_takes_1 3 rfl rfl)
theorem dX7_takes_26 : decode cX7_takes 26 = .ok (.iadd, 1) := dk_96 (dk_at dksX7_takes_1 4 rfl rfl)
theorem dX7_takes_27 : decode cX7_takes 27 = .ok (.putfield 22, 3) := dk_181 0 22 (dk_at dksX7_takes_1 5 rfl rfl)
theorem dX7_takes_30 : decode cX7_takes 30 = .ok (.iload_n 2, 1) := dk_28 (dk_at dksX7_takes_1 8 rfl rfl)
theorem dX7_takes_31 : decode cX7_takes 31 = .ok (.ireturn, 1) := dk_172 (dk_at dksX7_takes_1 9 rfl rfl)
def dkwX7_word_3 : List UInt8 := [132, 3, 1, 167, 255, 205, 44, 182, 0, 65, 176]
abbrev dktX7_word_3 : List UInt8 := dkwX7_word_3 ++ []
def dkwX7_word_2 : List UInt8 := [20, 0, 55, 184, 0, 57, 153, 0, 24, 44, 42, 180, 0, 3, 180, 0, 29, 29, 51, 146, 182, 0, 61, 87]
abbrev dktX7_word_2 : List UInt8 := dkwX7_word_2 ++ dktX7_word_3
def dkwX7_word_1 : List UInt8 := [180, 0, 3, 180, 0, 26, 162, 0, 46, 42, 180, 0, 3, 180, 0, 29, 29, 51, 133, 20, 0, 53]
abbrev dktX7_word_1 : List UInt8 := dkwX7_word_1 ++ dktX7_word_2
def dkwX7_word_0 : List UInt8 := [42, 182, 0, 46, 60, 187, 0, 50, 89, 16, 8, 183, 0, 52, 77, 42, 180, 0, 22, 62, 29, 42]
abbrev dktX7_word_0 : List UInt8 := dkwX7_word_0 ++ dktX7_word_1
theorem dksX7_word_0 : cX7_word.data.toList.drop 0 = dktX7_word_0 := by decide +kernel
theorem dksX7_word_1 : cX7_word.data.toList.drop 22 = dktX7_word_1 := dk_seg dksX7_word_0 22 rfl rfl
theorem dksX7_word_2 : cX7_word.data.toList.drop 44 = dktX7_word_2 := dk_seg dksX7_word_1 22 rfl rfl
theorem dksX7_word_3 : cX7_word.data.toList.drop 68 = dktX7_word_3 := dk_seg dksX7_word_2 24 rfl rfl
theorem dX7_word_0 : decode cX7_word 0 = .ok (.aload_n 0, 1) := dk_42 (dk_at dksX7_word_0 0 rfl rfl)
theorem dX7_word_1 : decode cX7_word 1 = .ok (.invokevirtual 46, 3) := dk_182 0 46 (dk_at dksX7_word_0 1 rfl rfl)
theorem dX7_word_4 : decode cX7_word 4 = .ok (.istore_n 1, 1) := dk_60 (dk_at dksX7_word_0 4 rfl rfl)
theorem dX7_word_5 : decode cX7_word 5 = .ok (.new 50, 3) := dk_187 0 50 (dk_at dksX7_word_0 5 rfl rfl)
theorem dX7_word_8 : decode cX7_word 8 = .ok (.dup, 1) := dk_89 (dk_at dksX7_word_0 8 rfl rfl)
theorem dX7_word_9 : decode cX7_word 9 = .ok (.bipush 8, 2) := dk_16 8 (dk_at dksX7_word_0 9 rfl rfl)
theorem dX7_word_11 : decode cX7_word 11 = .ok (.invokespecial 52, 3) := dk_183 0 52 (dk_at dksX7_word_0 11 rfl rfl)
theorem dX7_word_14 : decode cX7_word 14 = .ok (.astore_n 2, 1) := dk_77 (dk_at dksX7_word_0 14 rfl rfl)
theorem dX7_word_15 : decode cX7_word 15 = .ok (.aload_n 0, 1) := dk_42 (dk_at dksX7_word_0 15 rfl rfl)
theorem dX7_word_16 : decode cX7_word 16 = .ok (.getfield 22, 3) := dk_180 0 22 (dk_at dksX7_word_0 16 rfl rfl)
theorem dX7_word_19 : decode cX7_word 19 = .ok (.istore_n 3, 1) := dk_62 (dk_at dksX7_word_0 19 rfl rfl)
theorem dX7_word_20 : decode cX7_word 20 = .ok (.iload_n 3, 1) := dk_29 (dk_at dksX7_word_0 20 rfl rfl)
theorem dX7_word_21 : decode cX7_word 21 = .ok (.aload_n 0, 1) := dk_42 (dk_at dksX7_word_0 21 rfl rfl)
theorem dX7_word_22 : decode cX7_word 22 = .ok (.getfield 3, 3) := dk_180 0 3 (dk_at dksX7_word_1 0 rfl rfl)
theorem dX7_word_25 : decode cX7_word 25 = .ok (.getfield 26, 3) := dk_180 0 26 (dk_at dksX7_word_1 3 rfl rfl)
theorem dX7_word_28 : decode cX7_word 28 = .ok (.if_icmp .ge 46, 3) := dk_162 0 46 (dk_at dksX7_word_1 6 rfl rfl)
theorem dX7_word_31 : decode cX7_word 31 = .ok (.aload_n 0, 1) := dk_42 (dk_at dksX7_word_1 9 rfl rfl)
theorem dX7_word_32 : decode cX7_word 32 = .ok (.getfield 3, 3) := dk_180 0 3 (dk_at dksX7_word_1 10 rfl rfl)
theorem dX7_word_35 : decode cX7_word 35 = .ok (.getfield 29, 3) := dk_180 0 29 (dk_at dksX7_word_1 13 rfl rfl)
theorem dX7_word_38 : decode cX7_word 38 = .ok (.iload_n 3, 1) := dk_29 (dk_at dksX7_word_1 16 rfl rfl)
theorem dX7_word_39 : decode cX7_word 39 = .ok (.baload, 1) := dk_51 (dk_at dksX7_word_1 17 rfl rfl)
theorem dX7_word_40 : decode cX7_word 40 = .ok (.i2l, 1) := dk_133 (dk_at dksX7_word_1 18 rfl rfl)
theorem dX7_word_41 : decode cX7_word 41 = .ok (.ldc2_w 53, 3) := dk_20 0 53 (dk_at dksX7_word_1 19 rfl rfl)
theorem dX7_word_44 : decode cX7_word 44 = .ok (.ldc2_w 55, 3) := dk_20 0 55 (dk_at dksX7_word_2 0 rfl rfl)
theorem dX7_word_47 : decode cX7_word 47 = .ok (.invokestatic 57, 3) := dk_184 0 57 (dk_at dksX7_word_2 3 rfl rfl)
theorem dX7_word_50 : decode cX7_word 50 = .ok (.ifCond .eq 24, 3) := dk_153 0 24 (dk_at dksX7_word_2 6 rfl rfl)
theorem dX7_word_53 : decode cX7_word 53 = .ok (.aload_n 2, 1) := dk_44 (dk_at dksX7_word_2 9 rfl rfl)
theorem dX7_word_54 : decode cX7_word 54 = .ok (.aload_n 0, 1) := dk_42 (dk_at dksX7_word_2 10 rfl rfl)
theorem dX7_word_55 : decode cX7_word 55 = .ok (.getfield 3, 3) := dk_180 0 3 (dk_at dksX7_word_2 11 rfl rfl)
theorem dX7_word_58 : decode cX7_word 58 = .ok (.getfield 29, 3) := dk_180 0 29 (dk_at dksX7_word_2 14 rfl rfl)
theorem dX7_word_61 : decode cX7_word 61 = .ok (.iload_n 3, 1) := dk_29 (dk_at dksX7_word_2 17 rfl rfl)
theorem dX7_word_62 : decode cX7_word 62 = .ok (.baload, 1) := dk_51 (dk_at dksX7_word_2 18 rfl rfl)
theorem dX7_word_63 : decode cX7_word 63 = .ok (.i2c, 1) := dk_146 (dk_at dksX7_word_2 19 rfl rfl)
theorem dX7_word_64 : decode cX7_word 64 = .ok (.invokevirtual 61, 3) := dk_182 0 61 (dk_at dksX7_word_2 20 rfl rfl)
theorem dX7_word_67 : decode cX7_word 67 = .ok (.pop, 1) := dk_87 (dk_at dksX7_word_2 23 rfl rfl)
theorem dX7_word_68 : decode cX7_word 68 = .ok (.iinc 3 1, 3) := dk_132 3 1 (dk_at dksX7_word_3 0 rfl rfl)
theorem dX7_word_71 : decode cX7_word 71 = .ok (.goto (-51), 3) := dk_167 255 205 (dk_at dksX7_word_3 3 rfl rfl)
theorem dX7_word_74 : decode cX7_word 74 = .ok (.aload_n 2, 1) := dk_44 (dk_at dksX7_word_3 6 rfl rfl)
theorem dX7_word_75 : decode cX7_word 75 = .ok (.invokevirtual 65, 3) := dk_182 0 65 (dk_at dksX7_word_3 7 rfl rfl)
theorem dX7_word_78 : decode cX7_word 78 = .ok (.areturn, 1) := dk_176 (dk_at dksX7_word_3 10 rfl rfl)
def dkwX7_peek_4 : List UInt8 := [180, 0, 22, 51, 17, 0, 255, 126, 167, 0, 4, 2, 172]
abbrev dktX7_peek_4 : List UInt8 := dkwX7_peek_4 ++ []
def dkwX7_peek_3 : List UInt8 := [42, 180, 0, 22, 42, 180, 0, 3, 180, 0, 26, 162, 0, 22, 42, 180, 0, 3, 180, 0, 29, 42]
abbrev dktX7_peek_3 : List UInt8 := dkwX7_peek_3 ++ dktX7_peek_4
def dkwX7_peek_2 : List UInt8 := [160, 0, 16, 42, 89, 180, 0, 22, 4, 96, 181, 0, 22, 167, 255, 198, 42, 42, 180, 0, 22, 181, 0, 33]
abbrev dktX7_peek_2 : List UInt8 := dkwX7_peek_2 ++ dktX7_peek_3
def dkwX7_peek_1 : List UInt8 := [180, 0, 22, 51, 16, 32, 159, 0, 20, 42, 180, 0, 3, 180, 0, 29, 42, 180, 0, 22, 51, 16, 10]
abbrev dktX7_peek_1 : List UInt8 := dkwX7_peek_1 ++ dktX7_peek_2
def dkwX7_peek_0 : List UInt8 := [42, 180, 0, 22, 42, 180, 0, 3, 180, 0, 26, 162, 0, 50, 42, 180, 0, 3, 180, 0, 29, 42]
abbrev dktX7_peek_0 : List UInt8 := dkwX7_peek_0 ++ dktX7_peek_1
theorem dksX7_peek_0 : cX7_peek.data.toList.drop 0 = dktX7_peek_0 := by decide +kernel
theorem dksX7_peek_1 : cX7_peek.data.toList.drop 22 = dktX7_peek_1 := dk_seg dksX7_peek_0 22 rfl rfl
theorem dksX7_peek_2 : cX7_peek.data.toList.drop 45 = dktX7_peek_2 := dk_seg dksX7_peek_1 23 rfl rfl
theorem dksX7_peek_3 : cX7_peek.data.toList.drop 69 = dktX7_peek_3 := dk_seg dksX7_peek_2 24 rfl rfl
theorem dksX7_peek_4 : cX7_peek.data.toList.drop 91 = dktX7_peek_4 := dk_seg dksX7_peek_3 22 rfl rfl
theorem dX7_peek_0 : decode cX7_peek 0 = .ok (.aload_n 0, 1) := dk_42 (dk_at dksX7_peek_0 0 rfl rfl)
theorem dX7_peek_1 : decode cX7_peek 1 = .ok (.getfield 22, 3) := dk_180 0 22 (dk_at dksX7_peek_0 1 rfl rfl)
theorem dX7_peek_4 : decode cX7_peek 4 = .ok (.aload_n 0, 1) := dk_42 (dk_at dksX7_peek_0 4 rfl rfl)
theorem dX7_peek_5 : decode cX7_peek 5 = .ok (.getfield 3, 3) := dk_180 0 3 (dk_at dksX7_peek_0 5 rfl rfl)
theorem dX7_peek_8 : decode cX7_peek 8 = .ok (.getfield 26, 3) := dk_180 0 26 (dk_at dksX7_peek_0 8 rfl rfl)
theorem dX7_peek_11 : decode cX7_peek 11 = .ok (.if_icmp .ge 50, 3) := dk_162 0 50 (dk_at dksX7_peek_0 11 rfl rfl)
theorem dX7_peek_14 : decode cX7_peek 14 = .ok (.aload_n 0, 1) := dk_42 (dk_at dksX7_peek_0 14 rfl rfl)
theorem dX7_peek_15 : decode cX7_peek 15 = .ok (.getfield 3, 3) := dk_180 0 3 (dk_at dksX7_peek_0 15 rfl rfl)
theorem dX7_peek_18 : decode cX7_peek 18 = .ok (.getfield 29, 3) := dk_180 0 29 (dk_at dksX7_peek_0 18 rfl rfl)
theorem dX7_peek_21 : decode cX7_peek 21 = .ok (.aload_n 0, 1) := dk_42 (dk_at dksX7_peek_0 21 rfl rfl)
theorem dX7_peek_22 : decode cX7_peek 22 = .ok (.getfield 22, 3) := dk_180 0 22 (dk_at dksX7_peek_1 0 rfl rfl)
theorem dX7_peek_25 : decode cX7_peek 25 = .ok (.baload, 1) := dk_51 (dk_at dksX7_peek_1 3 rfl rfl)
theorem dX7_peek_26 : decode cX7_peek 26 = .ok (.bipush 32, 2) := dk_16 32 (dk_at dksX7_peek_1 4 rfl rfl)
theorem dX7_peek_28 : decode cX7_peek 28 = .ok (.if_icmp .eq 20, 3) := dk_159 0 20 (dk_at dksX7_peek_1 6 rfl rfl)
theorem dX7_peek_31 : decode cX7_peek 31 = .ok (.aload_n 0, 1) := dk_42 (dk_at dksX7_peek_1 9 rfl rfl)
theorem dX7_peek_32 : decode cX7_peek 32 = .ok (.getfield 3, 3) := dk_180 0 3 (dk_at dksX7_peek_1 10 rfl rfl)
theorem dX7_peek_35 : decode cX7_peek 35 = .ok (.getfield 29, 3) := dk_180 0 29 (dk_at dksX7_peek_1 13 rfl rfl)
theorem dX7_peek_38 : decode cX7_peek 38 = .ok (.aload_n 0, 1) := dk_42 (dk_at dksX7_peek_1 16 rfl rfl)
theorem dX7_peek_39 : decode cX7_peek 39 = .ok (.getfield 22, 3) := dk_180 0 22 (dk_at dksX7_peek_1 17 rfl rfl)
theorem dX7_peek_42 : decode cX7_peek 42 = .ok (.baload, 1) := dk_51 (dk_at dksX7_peek_1 20 rfl rfl)
theorem dX7_peek_43 : decode cX7_peek 43 = .ok (.bipush 10, 2) := dk_16 10 (dk_at dksX7_peek_1 21 rfl rfl)
theorem dX7_peek_45 : decode cX7_peek 45 = .ok (.if_icmp .ne 16, 3) := dk_160 0 16 (dk_at dksX7_peek_2 0 rfl rfl)
theorem dX7_peek_48 : decode cX7_peek 48 = .ok (.aload_n 0, 1) := dk_42 (dk_at dksX7_peek_2 3 rfl rfl)
theorem dX7_peek_49 : decode cX7_peek 49 = .ok (.dup, 1) := dk_89 (dk_at dksX7_peek_2 4 rfl rfl)
theorem dX7_peek_50 : decode cX7_peek 50 = .ok (.getfield 22, 3) := dk_180 0 22 (dk_at dksX7_peek_2 5 rfl rfl)
theorem dX7_peek_53 : decode cX7_peek 53 = .ok (.iconst 1, 1) := dk_4 (dk_at dksX7_peek_2 8 rfl rfl)
theorem dX7_peek_54 : decode cX7_peek 54 = .ok (.iadd, 1) := dk_96 (dk_at dksX7_peek_2 9 rfl rfl)
theorem dX7_peek_55 : decode cX7_peek 55 = .ok (.putfield 22, 3) := dk_181 0 22 (dk_at dksX7_peek_2 10 rfl rfl)
theorem dX7_peek_58 : decode cX7_peek 58 = .ok (.goto (-58), 3) := dk_167 255 198 (dk_at dksX7_peek_2 13 rfl rfl)
theorem dX7_peek_61 : decode cX7_peek 61 = .ok (.aload_n 0, 1) := dk_42 (dk_at dksX7_peek_2 16 rfl rfl)
theorem dX7_peek_62 : decode cX7_peek 62 = .ok (.aload_n 0, 1) := dk_42 (dk_at dksX7_peek_2 17 rfl rfl)
theorem dX7_peek_63 : decode cX7_peek 63 = .ok (.getfield 22, 3) := dk_180 0 22 (dk_at dksX7_peek_2 18 rfl rfl)
theorem dX7_peek_66 : decode cX7_peek 66 = .ok (.putfield 33, 3) := dk_181 0 33 (dk_at dksX7_peek_2 21 rfl rfl)
theorem dX7_peek_69 : decode cX7_peek 69 = .ok (.aload_n 0, 1) := dk_42 (dk_at dksX7_peek_3 0 rfl rfl)
theorem dX7_peek_70 : decode cX7_peek 70 = .ok (.getfield 22, 3) := dk_180 0 22 (dk_at dksX7_peek_3 1 rfl rfl)
theorem dX7_peek_73 : decode cX7_peek 73 = .ok (.aload_n 0, 1) := dk_42 (dk_at dksX7_peek_3 4 rfl rfl)
theorem dX7_peek_74 : decode cX7_peek 74 = .ok (.getfield 3, 3) := dk_180 0 3 (dk_at dksX7_peek_3 5 rfl rfl)
theorem dX7_peek_77 : decode cX7_peek 77 = .ok (.getfield 26, 3) := dk_180 0 26 (dk_at dksX7_peek_3 8 rfl rfl)
theorem dX7_peek_80 : decode cX7_peek 80 = .ok (.if_icmp .ge 22, 3) := dk_162 0 22 (dk_at dksX7_peek_3 11 rfl rfl)
theorem dX7_peek_83 : decode cX7_peek 83 = .ok (.aload_n 0, 1) := dk_42 (dk_at dksX7_peek_3 14 rfl rfl)
theorem dX7_peek_84 : decode cX7_peek 84 = .ok (.getfield 3, 3) := dk_180 0 3 (dk_at dksX7_peek_3 15 rfl rfl)
theorem dX7_peek_87 : decode cX7_peek 87 = .ok (.getfield 29, 3) := dk_180 0 29 (dk_at dksX7_peek_3 18 rfl rfl)
theorem dX7_peek_90 : decode cX7_peek 90 = .ok (.aload_n 0, 1) := dk_42 (dk_at dksX7_peek_3 21 rfl rfl)
theorem dX7_peek_91 : decode cX7_peek 91 = .ok (.getfield 22, 3) := dk_180 0 22 (dk_at dksX7_peek_4 0 rfl rfl)
theorem dX7_peek_94 : decode cX7_peek 94 = .ok (.baload, 1) := dk_51 (dk_at dksX7_peek_4 3 rfl rfl)
theorem dX7_peek_95 : decode cX7_peek 95 = .ok (.sipush 255, 3) := dk_17 0 255 (dk_at dksX7_peek_4 4 rfl rfl)
theorem dX7_peek_98 : decode cX7_peek 98 = .ok (.iand, 1) := dk_126 (dk_at dksX7_peek_4 7 rfl rfl)
theorem dX7_peek_99 : decode cX7_peek 99 = .ok (.goto 4, 3) := dk_167 0 4 (dk_at dksX7_peek_4 8 rfl rfl)
theorem dX7_peek_102 : decode cX7_peek 102 = .ok (.iconst (-1), 1) := dk_2 (dk_at dksX7_peek_4 11 rfl rfl)
theorem dX7_peek_103 : decode cX7_peek 103 = .ok (.ireturn, 1) := dk_172 (dk_at dksX7_peek_4 12 rfl rfl)
def dkwX7_expect_0 : List UInt8 := [27, 154, 0, 15, 187, 0, 36, 89, 42, 180, 0, 33, 183, 0, 38, 191, 177]
abbrev dktX7_expect_0 : List UInt8 := dkwX7_expect_0 ++ []
theorem dksX7_expect_0 : cX7_expect.data.toList.drop 0 = dktX7_expect_0 := by decide +kernel
theorem dX7_expect_0 : decode cX7_expect 0 = .ok (.iload_n 1, 1) := dk_27 (dk_at dksX7_expect_0 0 rfl rfl)
theorem dX7_expect_1 : decode cX7_expect 1 = .ok (.ifCond .ne 15, 3) := dk_154 0 15 (dk_at dksX7_expect_0 1 rfl rfl)
theorem dX7_expect_4 : decode cX7_expect 4 = .ok (.new 36, 3) := dk_187 0 36 (dk_at dksX7_expect_0 4 rfl rfl)
theorem dX7_expect_7 : decode cX7_expect 7 = .ok (.dup, 1) := dk_89 (dk_at dksX7_expect_0 7 rfl rfl)
theorem dX7_expect_8 : decode cX7_expect 8 = .ok (.aload_n 0, 1) := dk_42 (dk_at dksX7_expect_0 8 rfl rfl)
theorem dX7_expect_9 : decode cX7_expect 9 = .ok (.getfield 33, 3) := dk_180 0 33 (dk_at dksX7_expect_0 9 rfl rfl)
theorem dX7_expect_12 : decode cX7_expect 12 = .ok (.invokespecial 38, 3) := dk_183 0 38 (dk_at dksX7_expect_0 12 rfl rfl)
theorem dX7_expect_15 : decode cX7_expect 15 = .ok (.athrow, 1) := dk_191 (dk_at dksX7_expect_0 15 rfl rfl)
theorem dX7_expect_16 : decode cX7_expect 16 = .ok (.return_, 1) := dk_177 (dk_at dksX7_expect_0 16 rfl rfl)
def dkwX7_number_6 : List UInt8 := [184, 0, 57, 5, 182, 0, 89, 29, 172]
abbrev dktX7_number_6 : List UInt8 := dkwX7_number_6 ++ []
def dkwX7_number_5 : List UInt8 := [180, 0, 33, 100, 7, 163, 0, 7, 4, 167, 0, 4, 3, 182, 0, 81, 42, 29, 133, 27, 133, 28, 133]
abbrev dktX7_number_5 : List UInt8 := dkwX7_number_5 ++ dktX7_number_6
def dkwX7_number_4 : List UInt8 := [167, 0, 4, 29, 62, 42, 89, 180, 0, 22, 4, 96, 181, 0, 22, 167, 255, 169, 42, 42, 180, 0, 22, 42]
abbrev dktX7_number_4 : List UInt8 := dkwX7_number_4 ++ dktX7_number_5
def dkwX7_number_3 : List UInt8 := [162, 0, 26, 16, 10, 29, 104, 42, 180, 0, 3, 180, 0, 29, 42, 180, 0, 22, 51, 96, 16, 48, 100]
abbrev dktX7_number_3 : List UInt8 := dkwX7_number_3 ++ dktX7_number_4
def dkwX7_number_2 : List UInt8 := [20, 0, 85, 20, 0, 87, 184, 0, 57, 153, 0, 54, 42, 180, 0, 22, 42, 180, 0, 33, 100, 7]
abbrev dktX7_number_2 : List UInt8 := dkwX7_number_2 ++ dktX7_number_3
def dkwX7_number_1 : List UInt8 := [42, 180, 0, 3, 180, 0, 26, 162, 0, 79, 42, 180, 0, 3, 180, 0, 29, 42, 180, 0, 22, 51, 133]
abbrev dktX7_number_1 : List UInt8 := dkwX7_number_1 ++ dktX7_number_2
def dkwX7_number_0 : List UInt8 := [42, 42, 182, 0, 46, 133, 20, 0, 85, 20, 0, 87, 184, 0, 57, 182, 0, 81, 3, 62, 42, 180, 0, 22]
abbrev dktX7_number_0 : List UInt8 := dkwX7_number_0 ++ dktX7_number_1
theorem dksX7_number_0 : cX7_number.data.toList.drop 0 = dktX7_number_0 := by decide +kernel
theorem dksX7_number_1 : cX7_number.data.toList.drop 24 = dktX7_number_1 := dk_seg dksX7_number_0 24 rfl rfl
theorem dksX7_number_2 : cX7_number.data.toList.drop 47 = dktX7_number_2 := dk_seg dksX7_number_1 23 rfl rfl
theorem dksX7_number_3 : cX7_number.data.toList.drop 69 = dktX7_number_3 := dk_seg dksX7_number_2 22 rfl rfl
theorem dksX7_number_4 : cX7_number.data.toList.drop 92 = dktX7_number_4 := dk_seg dksX7_number_3 23 rfl rfl
theorem dksX7_number_5 : cX7_number.data.toList.drop 116 = dktX7_number_5 := dk_seg dksX7_number_4 24 rfl rfl
theorem dksX7_number_6 : cX7_number.data.toList.drop 139 = dktX7_number_6 := dk_seg dksX7_number_5 23 rfl rfl
theorem dX7_number_0 : decode cX7_number 0 = .ok (.aload_n 0, 1) := dk_42 (dk_at dksX7_number_0 0 rfl rfl)
theorem dX7_number_1 : decode cX7_number 1 = .ok (.aload_n 0, 1) := dk_42 (dk_at dksX7_number_0 1 rfl rfl)
theorem dX7_number_2 : decode cX7_number 2 = .ok (.invokevirtual 46, 3) := dk_182 0 46 (dk_at dksX7_number_0 2 rfl rfl)
theorem dX7_number_5 : decode cX7_number 5 = .ok (.i2l, 1) := dk_133 (dk_at dksX7_number_0 5 rfl rfl)
theorem dX7_number_6 : decode cX7_number 6 = .ok (.ldc2_w 85, 3) := dk_20 0 85 (dk_at dksX7_number_0 6 rfl rfl)
theorem dX7_number_9 : decode cX7_number 9 = .ok (.ldc2_w 87, 3) := dk_20 0 87 (dk_at dksX7_number_0 9 rfl rfl)
theorem dX7_number_12 : decode cX7_number 12 = .ok (.invokestatic 57, 3) := dk_184 0 57 (dk_at dksX7_number_0 12 rfl rfl)
theorem dX7_number_15 : decode cX7_number 15 = .ok (.invokevirtual 81, 3) := dk_182 0 81 (dk_at dksX7_number_0 15 rfl rfl)
theorem dX7_number_18 : decode cX7_number 18 = .ok (.iconst 0, 1) := dk_3 (dk_at dksX7_number_0 18 rfl rfl)
theorem dX7_number_19 : decode cX7_number 19 = .ok (.istore_n 3, 1) := dk_62 (dk_at dksX7_number_0 19 rfl rfl)
theorem dX7_number_20 : decode cX7_number 20 = .ok (.aload_n 0, 1) := dk_42 (dk_at dksX7_number_0 20 rfl rfl)
theorem dX7_number_21 : decode cX7_number 21 = .ok (.getfield 22, 3) := dk_180 0 22 (dk_at dksX7_number_0 21 rfl rfl)
theorem dX7_number_24 : decode cX7_number 24 = .ok (.aload_n 0, 1) := dk_42 (dk_at dksX7_number_1 0 rfl rfl)
theorem dX7_number_25 : decode cX7_number 25 = .ok (.getfield 3, 3) := dk_180 0 3 (dk_at dksX7_number_1 1 rfl rfl)
theorem dX7_number_28 : decode cX7_number 28 = .ok (.getfield 26, 3) := dk_180 0 26 (dk_at dksX7_number_1 4 rfl rfl)
theorem dX7_number_31 : decode cX7_number 31 = .ok (.if_icmp .ge 79, 3) := dk_162 0 79 (dk_at dksX7_number_1 7 rfl rfl)
theorem dX7_number_34 : decode cX7_number 34 = .ok (.aload_n 0, 1) := dk_42 (dk_at dksX7_number_1 10 rfl rfl)
theorem dX7_number_35 : decode cX7_number 35 = .ok (.getfield 3, 3) := dk_180 0 3 (dk_at dksX7_number_1 11 rfl rfl)
theorem dX7_number_38 : decode cX7_number 38 = .ok (.getfield 29, 3) := dk_180 0 29 (dk_at dksX7_number_1 14 rfl rfl)
theorem dX7_number_41 : decode cX7_number 41 = .ok (.aload_n 0, 1) := dk_42 (dk_at dksX7_number_1 17 rfl rfl)
theorem dX7_number_42 : decode cX7_number 42 = .ok (.getfield 22, 3) := dk_180 0 22 (dk_at dksX7_number_1 18 rfl rfl)
theorem dX7_number_45 : decode cX7_number 45 = .ok (.baload, 1) := dk_51 (dk_at dksX7_number_1 21 rfl rfl)
theorem dX7_number_46 : decode cX7_number 46 = .ok (.i2l, 1) := dk_133 (dk_at dksX7_number_1 22 rfl rfl)
theorem dX7_number_47 : decode cX7_number 47 = .ok (.ldc2_w 85, 3) := dk_20 0 85 (dk_at dksX7_number_2 0 rfl rfl)
theorem dX7_number_50 : decode cX7_number 50 = .ok (.ldc2_w 87, 3) := dk_20 0 87 (dk_at dksX7_number_2 3 rfl rfl)
theorem dX7_number_53 : decode cX7_number 53 = .ok (.invokestatic 57, 3) := dk_184 0 57 (dk_at dksX7_number_2 6 rfl rfl)
theorem dX7_number_56 : decode cX7_number 56 = .ok (.ifCond .eq 54, 3) := dk_153 0 54 (dk_at dksX7_number_2 9 rfl rfl)
theorem dX7_number_59 : decode cX7_number 59 = .ok (.aload_n 0, 1) := dk_42 (dk_at dksX7_number_2 12 rfl rfl)
theorem dX7_number_60 : decode cX7_number 60 = .ok (.getfield 22, 3) := dk_180 0 22 (dk_at dksX7_number_2 13 rfl rfl)
theorem dX7_number_63 : decode cX7_number 63 = .ok (.aload_n 0, 1) := dk_42 (dk_at dksX7_number_2 16 rfl rfl)
theorem dX7_number_64 : decode cX7_number 64 = .ok (.getfield 33, 3) := dk_180 0 33 (dk_at dksX7_number_2 17 rfl rfl)
theorem dX7_number_67 : decode cX7_number 67 = .ok (.isub, 1) := dk_100 (dk_at dksX7_number_2 20 rfl rfl)
theorem dX7_number_68 : decode cX7_number 68 = .ok (.iconst 4, 1) := dk_7 (dk_at dksX7_number_2 21 rfl rfl)
theorem dX7_number_69 : decode cX7_number 69 = .ok (.if_icmp .ge 26, 3) := dk_162 0 26 (dk_at dksX7_number_3 0 rfl rfl)
theorem dX7_number_72 : decode cX7_number 72 = .ok (.bipush 10, 2) := dk_16 10 (dk_at dksX7_number_3 3 rfl rfl)
theorem dX7_number_74 : decode cX7_number 74 = .ok (.iload_n 3, 1) := dk_29 (dk_at dksX7_number_3 5 rfl rfl)
theorem dX7_number_75 : decode cX7_number 75 = .ok (.imul, 1) := dk_104 (dk_at dksX7_number_3 6 rfl rfl)
theorem dX7_number_76 : decode cX7_number 76 = .ok (.aload_n 0, 1) := dk_42 (dk_at dksX7_number_3 7 rfl rfl)
theorem dX7_number_77 : decode cX7_number 77 = .ok (.getfield 3, 3) := dk_180 0 3 (dk_at dksX7_number_3 8 rfl rfl)
theorem dX7_number_80 : decode cX7_number 80 = .ok (.getfield 29, 3) := dk_180 0 29 (dk_at dksX7_number_3 11 rfl rfl)
theorem dX7_number_83 : decode cX7_number 83 = .ok (.aload_n 0, 1) := dk_42 (dk_at dksX7_number_3 14 rfl rfl)
theorem dX7_number_84 : decode cX7_number 84 = .ok (.getfield 22, 3) := dk_180 0 22 (dk_at dksX7_number_3 15 rfl rfl)
theorem dX7_number_87 : decode cX7_number 87 = .ok (.baload, 1) := dk_51 (dk_at dksX7_number_3 18 rfl rfl)
theorem dX7_number_88 : decode cX7_number 88 = .ok (.iadd, 1) := dk_96 (dk_at dksX7_number_3 19 rfl rfl)
theorem dX7_number_89 : decode cX7_number 89 = .ok (.bipush 48, 2) := dk_16 48 (dk_at dksX7_number_3 20 rfl rfl)
theorem dX7_number_91 : decode cX7_number 91 = .ok (.isub, 1) := dk_100 (dk_at dksX7_number_3 22 rfl rfl)
theorem dX7_number_92 : decode cX7_number 92 = .ok (.goto 4, 3) := dk_167 0 4 (dk_at dksX7_number_4 0 rfl rfl)
theorem dX7_number_95 : decode cX7_number 95 = .ok (.iload_n 3, 1) := dk_29 (dk_at dksX7_number_4 3 rfl rfl)
theorem dX7_number_96 : decode cX7_number 96 = .ok (.istore_n 3, 1) := dk_62 (dk_at dksX7_number_4 4 rfl rfl)
theorem dX7_number_97 : decode cX7_number 97 = .ok (.aload_n 0, 1) := dk_42 (dk_at dksX7_number_4 5 rfl rfl)
theorem dX7_number_98 : decode cX7_number 98 = .ok (.dup, 1) := dk_89 (dk_at dksX7_number_4 6 rfl rfl)
theorem dX7_number_99 : decode cX7_number 99 = .ok (.getfield 22, 3) := dk_180 0 22 (dk_at dksX7_number_4 7 rfl rfl)
theorem dX7_number_102 : decode cX7_number 102 = .ok (.iconst 1, 1) := dk_4 (dk_at dksX7_number_4 10 rfl rfl)
theorem dX7_number_103 : decode cX7_number 103 = .ok (.iadd, 1) := dk_96 (dk_at dksX7_number_4 11 rfl rfl)
theorem dX7_number_104 : decode cX7_number 104 = .ok (.putfield 22, 3) := dk_181 0 22 (dk_at dksX7_number_4 12 rfl rfl)
theorem dX7_number_107 : decode cX7_number 107 = .ok (.goto (-87), 3) := dk_167 255 169 (dk_at dksX7_number_4 15 rfl rfl)
theorem dX7_number_110 : decode cX7_number 110 = .ok (.aload_n 0, 1) := dk_42 (dk_at dksX7_number_4 18 rfl rfl)
theorem dX7_number_111 : decode cX7_number 111 = .ok (.aload_n 0, 1) := dk_42 (dk_at dksX7_number_4 19 rfl rfl)
theorem dX7_number_112 : decode cX7_number 112 = .ok (.getfield 22, 3) := dk_180 0 22 (dk_at dksX7_number_4 20 rfl rfl)
theorem dX7_number_115 : decode cX7_number 115 = .ok (.aload_n 0, 1) := dk_42 (dk_at dksX7_number_4 23 rfl rfl)
theorem dX7_number_116 : decode cX7_number 116 = .ok (.getfield 33, 3) := dk_180 0 33 (dk_at dksX7_number_5 0 rfl rfl)
theorem dX7_number_119 : decode cX7_number 119 = .ok (.isub, 1) := dk_100 (dk_at dksX7_number_5 3 rfl rfl)
theorem dX7_number_120 : decode cX7_number 120 = .ok (.iconst 4, 1) := dk_7 (dk_at dksX7_number_5 4 rfl rfl)
theorem dX7_number_121 : decode cX7_number 121 = .ok (.if_icmp .gt 7, 3) := dk_163 0 7 (dk_at dksX7_number_5 5 rfl rfl)
theorem dX7_number_124 : decode cX7_number 124 = .ok (.iconst 1, 1) := dk_4 (dk_at dksX7_number_5 8 rfl rfl)
theorem dX7_number_125 : decode cX7_number 125 = .ok (.goto 4, 3) := dk_167 0 4 (dk_at dksX7_number_5 9 rfl rfl)
theorem dX7_number_128 : decode cX7_number 128 = .ok (.iconst 0, 1) := dk_3 (dk_at dksX7_number_5 12 rfl rfl)
theorem dX7_number_129 : decode cX7_number 129 = .ok (.invokevirtual 81, 3) := dk_182 0 81 (dk_at dksX7_number_5 13 rfl rfl)
theorem dX7_number_132 : decode cX7_number 132 = .ok (.aload_n 0, 1) := dk_42 (dk_at dksX7_number_5 16 rfl rfl)
theorem dX7_number_133 : decode cX7_number 133 = .ok (.iload_n 3, 1) := dk_29 (dk_at dksX7_number_5 17 rfl rfl)
theorem dX7_number_134 : decode cX7_number 134 = .ok (.i2l, 1) := dk_133 (dk_at dksX7_number_5 18 rfl rfl)
theorem dX7_number_135 : decode cX7_number 135 = .ok (.iload_n 1, 1) := dk_27 (dk_at dksX7_number_5 19 rfl rfl)
theorem dX7_number_136 : decode cX7_number 136 = .ok (.i2l, 1) := dk_133 (dk_at dksX7_number_5 20 rfl rfl)
theorem dX7_number_137 : decode cX7_number 137 = .ok (.iload_n 2, 1) := dk_28 (dk_at dksX7_number_5 21 rfl rfl)
theorem dX7_number_138 : decode cX7_number 138 = .ok (.i2l, 1) := dk_133 (dk_at dksX7_number_5 22 rfl rfl)
theorem dX7_number_139 : decode cX7_number 139 = .ok (.invokestatic 57, 3) := dk_184 0 57 (dk_at dksX7_number_6 0 rfl rfl)
theorem dX7_number_142 : decode cX7_number 142 = .ok (.iconst 2, 1) := dk_5 (dk_at dksX7_number_6 3 rfl rfl)
theorem dX7_number_143 : decode cX7_number 143 = .ok (.invokevirtual 89, 3) := dk_182 0 89 (dk_at dksX7_number_6 4 rfl rfl)
theorem dX7_number_146 : decode cX7_number 146 = .ok (.iload_n 3, 1) := dk_29 (dk_at dksX7_number_6 7 rfl rfl)
theorem dX7_number_147 : decode cX7_number 147 = .ok (.ireturn, 1) := dk_172 (dk_at dksX7_number_6 8 rfl rfl)
def dkwX7_require_0 : List UInt8 := [27, 154, 0, 16, 187, 0, 41, 89, 28, 42, 180, 0, 33, 183, 0, 43, 191, 177]
abbrev dktX7_require_0 : List UInt8 := dkwX7_require_0 ++ []
theorem dksX7_require_0 : cX7_require.data.toList.drop 0 = dktX7_require_0 := by decide +kernel
theorem dX7_require_0 : decode cX7_require 0 = .ok (.iload_n 1, 1) := dk_27 (dk_at dksX7_require_0 0 rfl rfl)
theorem dX7_require_1 : decode cX7_require 1 = .ok (.ifCond .ne 16, 3) := dk_154 0 16 (dk_at dksX7_require_0 1 rfl rfl)
theorem dX7_require_4 : decode cX7_require 4 = .ok (.new 41, 3) := dk_187 0 41 (dk_at dksX7_require_0 4 rfl rfl)
theorem dX7_require_7 : decode cX7_require 7 = .ok (.dup, 1) := dk_89 (dk_at dksX7_require_0 7 rfl rfl)
theorem dX7_require_8 : decode cX7_require 8 = .ok (.iload_n 2, 1) := dk_28 (dk_at dksX7_require_0 8 rfl rfl)
theorem dX7_require_9 : decode cX7_require 9 = .ok (.aload_n 0, 1) := dk_42 (dk_at dksX7_require_0 9 rfl rfl)
theorem dX7_require_10 : decode cX7_require 10 = .ok (.getfield 33, 3) := dk_180 0 33 (dk_at dksX7_require_0 10 rfl rfl)
theorem dX7_require_13 : decode cX7_require 13 = .ok (.invokespecial 43, 3) := dk_183 0 43 (dk_at dksX7_require_0 13 rfl rfl)
theorem dX7_require_16 : decode cX7_require 16 = .ok (.athrow, 1) := dk_191 (dk_at dksX7_require_0 16 rfl rfl)
theorem dX7_require_17 : decode cX7_require 17 = .ok (.return_, 1) := dk_177 (dk_at dksX7_require_0 17 rfl rfl)
def dkwX7_end_1 : List UInt8 := [96, 181, 0, 22, 177]
abbrev dktX7_end_1 : List UInt8 := dkwX7_end_1 ++ []
def dkwX7_end_0 : List UInt8 := [42, 42, 182, 0, 46, 16, 59, 160, 0, 7, 4, 167, 0, 4, 3, 182, 0, 81, 42, 89, 180, 0, 22, 4]
abbrev dktX7_end_0 : List UInt8 := dkwX7_end_0 ++ dktX7_end_1
theorem dksX7_end_0 : cX7_end.data.toList.drop 0 = dktX7_end_0 := by decide +kernel
theorem dksX7_end_1 : cX7_end.data.toList.drop 24 = dktX7_end_1 := dk_seg dksX7_end_0 24 rfl rfl
theorem dX7_end_0 : decode cX7_end 0 = .ok (.aload_n 0, 1) := dk_42 (dk_at dksX7_end_0 0 rfl rfl)
theorem dX7_end_1 : decode cX7_end 1 = .ok (.aload_n 0, 1) := dk_42 (dk_at dksX7_end_0 1 rfl rfl)
theorem dX7_end_2 : decode cX7_end 2 = .ok (.invokevirtual 46, 3) := dk_182 0 46 (dk_at dksX7_end_0 2 rfl rfl)
theorem dX7_end_5 : decode cX7_end 5 = .ok (.bipush 59, 2) := dk_16 59 (dk_at dksX7_end_0 5 rfl rfl)
theorem dX7_end_7 : decode cX7_end 7 = .ok (.if_icmp .ne 7, 3) := dk_160 0 7 (dk_at dksX7_end_0 7 rfl rfl)
theorem dX7_end_10 : decode cX7_end 10 = .ok (.iconst 1, 1) := dk_4 (dk_at dksX7_end_0 10 rfl rfl)
theorem dX7_end_11 : decode cX7_end 11 = .ok (.goto 4, 3) := dk_167 0 4 (dk_at dksX7_end_0 11 rfl rfl)
theorem dX7_end_14 : decode cX7_end 14 = .ok (.iconst 0, 1) := dk_3 (dk_at dksX7_end_0 14 rfl rfl)
theorem dX7_end_15 : decode cX7_end 15 = .ok (.invokevirtual 81, 3) := dk_182 0 81 (dk_at dksX7_end_0 15 rfl rfl)
theorem dX7_end_18 : decode cX7_end 18 = .ok (.aload_n 0, 1) := dk_42 (dk_at dksX7_end_0 18 rfl rfl)
theorem dX7_end_19 : decode cX7_end 19 = .ok (.dup, 1) := dk_89 (dk_at dksX7_end_0 19 rfl rfl)
theorem dX7_end_20 : decode cX7_end 20 = .ok (.getfield 22, 3) := dk_180 0 22 (dk_at dksX7_end_0 20 rfl rfl)
theorem dX7_end_23 : decode cX7_end 23 = .ok (.iconst 1, 1) := dk_4 (dk_at dksX7_end_0 23 rfl rfl)
theorem dX7_end_24 : decode cX7_end 24 = .ok (.iadd, 1) := dk_96 (dk_at dksX7_end_1 0 rfl rfl)
theorem dX7_end_25 : decode cX7_end 25 = .ok (.putfield 22, 3) := dk_181 0 22 (dk_at dksX7_end_1 1 rfl rfl)
theorem dX7_end_28 : decode cX7_end 28 = .ok (.return_, 1) := dk_177 (dk_at dksX7_end_1 4 rfl rfl)
def dkwX7_outlet_6 : List UInt8 := [183, 0, 124, 185, 0, 127, 2, 0, 87, 177]
abbrev dktX7_outlet_6 : List UInt8 := dkwX7_outlet_6 ++ []
def dkwX7_outlet_5 : List UInt8 := [180, 0, 102, 187, 0, 112, 89, 44, 29, 21, 4, 21, 5, 21, 6, 42, 3, 16, 9, 182, 0, 120]
abbrev dktX7_outlet_5 : List UInt8 := dkwX7_outlet_5 ++ dktX7_outlet_6
def dkwX7_outlet_4 : List UInt8 := [54, 4, 42, 29, 21, 4, 182, 0, 120, 54, 5, 42, 4, 16, 20, 182, 0, 120, 54, 6, 42, 180, 0, 18]
abbrev dktX7_outlet_4 : List UInt8 := dkwX7_outlet_4 ++ dktX7_outlet_5
def dkwX7_outlet_3 : List UInt8 := [182, 0, 78, 96, 181, 0, 22, 42, 3, 17, 3, 231, 182, 0, 120, 62, 42, 29, 17, 7, 207, 182, 0, 120]
abbrev dktX7_outlet_3 : List UInt8 := dkwX7_outlet_3 ++ dktX7_outlet_4
def dkwX7_outlet_2 : List UInt8 := [182, 0, 98, 2, 160, 0, 7, 4, 167, 0, 4, 3, 6, 182, 0, 89, 42, 89, 180, 0, 22, 44]
abbrev dktX7_outlet_2 : List UInt8 := dkwX7_outlet_2 ++ dktX7_outlet_3
def dkwX7_outlet_1 : List UInt8 := [180, 0, 22, 43, 182, 0, 78, 96, 181, 0, 22, 42, 182, 0, 95, 77, 42, 42, 180, 0, 18, 44]
abbrev dktX7_outlet_1 : List UInt8 := dkwX7_outlet_1 ++ dktX7_outlet_2
def dkwX7_outlet_0 : List UInt8 := [42, 42, 180, 0, 18, 182, 0, 117, 16, 12, 162, 0, 7, 4, 167, 0, 4, 3, 8, 182, 0, 89, 42, 89]
abbrev dktX7_outlet_0 : List UInt8 := dkwX7_outlet_0 ++ dktX7_outlet_1
theorem dksX7_outlet_0 : cX7_outlet.data.toList.drop 0 = dktX7_outlet_0 := by decide +kernel
theorem dksX7_outlet_1 : cX7_outlet.data.toList.drop 24 = dktX7_outlet_1 := dk_seg dksX7_outlet_0 24 rfl rfl
theorem dksX7_outlet_2 : cX7_outlet.data.toList.drop 46 = dktX7_outlet_2 := dk_seg dksX7_outlet_1 22 rfl rfl
theorem dksX7_outlet_3 : cX7_outlet.data.toList.drop 68 = dktX7_outlet_3 := dk_seg dksX7_outlet_2 22 rfl rfl
theorem dksX7_outlet_4 : cX7_outlet.data.toList.drop 92 = dktX7_outlet_4 := dk_seg dksX7_outlet_3 24 rfl rfl
theorem dksX7_outlet_5 : cX7_outlet.data.toList.drop 116 = dktX7_outlet_5 := dk_seg dksX7_outlet_4 24 rfl rfl
theorem dksX7_outlet_6 : cX7_outlet.data.toList.drop 138 = dktX7_outlet_6 := dk_seg dksX7_outlet_5 22 rfl rfl
theorem dX7_outlet_0 : decode cX7_outlet 0 = .ok (.aload_n 0, 1) := dk_42 (dk_at dksX7_outlet_0 0 rfl rfl)
theorem dX7_outlet_1 : decode cX7_outlet 1 = .ok (.aload_n 0, 1) := dk_42 (dk_at dksX7_outlet_0 1 rfl rfl)
theorem dX7_outlet_2 : decode cX7_outlet 2 = .ok (.getfield 18, 3) := dk_180 0 18 (dk_at dksX7_outlet_0 2 rfl rfl)
theorem dX7_outlet_5 : decode cX7_outlet 5 = .ok (.invokevirtual 117, 3) := dk_182 0 117 (dk_at dksX7_outlet_0 5 rfl rfl)
theorem dX7_outlet_8 : decode cX7_outlet 8 = .ok (.bipush 12, 2) := dk_16 12 (dk_at dksX7_outlet_0 8 rfl rfl)
theorem dX7_outlet_10 : decode cX7_outlet 10 = .ok (.if_icmp .ge 7, 3) := dk_162 0 7 (dk_at dksX7_outlet_0 10 rfl rfl)
theorem dX7_outlet_13 : decode cX7_outlet 13 = .ok (.iconst 1, 1) := dk_4 (dk_at dksX7_outlet_0 13 rfl rfl)
theorem dX7_outlet_14 : decode cX7_outlet 14 = .ok (.goto 4, 3) := dk_167 0 4 (dk_at dksX7_outlet_0 14 rfl rfl)
theorem dX7_outlet_17 : decode cX7_outlet 17 = .ok (.iconst 0, 1) := dk_3 (dk_at dksX7_outlet_0 17 rfl rfl)
theorem dX7_outlet_18 : decode cX7_outlet 18 = .ok (.iconst 5, 1) := dk_8 (dk_at dksX7_outlet_0 18 rfl rfl)
theorem dX7_outlet_19 : decode cX7_outlet 19 = .ok (.invokevirtual 89, 3) := dk_182 0 89 (dk_at dksX7_outlet_0 19 rfl rfl)
theorem dX7_outlet_22 : decode cX7_outlet 22 = .ok (.aload_n 0, 1) := dk_42 (dk_at dksX7_outlet_0 22 rfl rfl)
theorem dX7_outlet_23 : decode cX7_outlet 23 = .ok (.dup, 1) := dk_89 (dk_at dksX7_outlet_0 23 rfl rfl)
theorem dX7_outlet_24 : decode cX7_outlet 24 = .ok (.getfield 22, 3) := dk_180 0 22 (dk_at dksX7_outlet_1 0 rfl rfl)
theorem dX7_outlet_27 : decode cX7_outlet 27 = .ok (.aload_n 1, 1) := dk_43 (dk_at dksX7_outlet_1 3 rfl rfl)
theorem dX7_outlet_28 : decode cX7_outlet 28 = .ok (.invokevirtual 78, 3) := dk_182 0 78 (dk_at dksX7_outlet_1 4 rfl rfl)
theorem dX7_outlet_31 : decode cX7_outlet 31 = .ok (.iadd, 1) := dk_96 (dk_at dksX7_outlet_1 7 rfl rfl)
theorem dX7_outlet_32 : decode cX7_outlet 32 = .ok (.putfield 22, 3) := dk_181 0 22 (dk_at dksX7_outlet_1 8 rfl rfl)
theorem dX7_outlet_35 : decode cX7_outlet 35 = .ok (.aload_n 0, 1) := dk_42 (dk_at dksX7_outlet_1 11 rfl rfl)
theorem dX7_outlet_36 : decode cX7_outlet 36 = .ok (.invokevirtual 95, 3) := dk_182 0 95 (dk_at dksX7_outlet_1 12 rfl rfl)
theorem dX7_outlet_39 : decode cX7_outlet 39 = .ok (.astore_n 2, 1) := dk_77 (dk_at dksX7_outlet_1 15 rfl rfl)
theorem dX7_outlet_40 : decode cX7_outlet 40 = .ok (.aload_n 0, 1) := dk_42 (dk_at dksX7_outlet_1 16 rfl rfl)
theorem dX7_outlet_41 : decode cX7_outlet 41 = .ok (.aload_n 0, 1) := dk_42 (dk_at dksX7_outlet_1 17 rfl rfl)
theorem dX7_outlet_42 : decode cX7_outlet 42 = .ok (.getfield 18, 3) := dk_180 0 18 (dk_at dksX7_outlet_1 18 rfl rfl)
theorem dX7_outlet_45 : decode cX7_outlet 45 = .ok (.aload_n 2, 1) := dk_44 (dk_at dksX7_outlet_1 21 rfl rfl)
theorem dX7_outlet_46 : decode cX7_outlet 46 = .ok (.invokevirtual 98, 3) := dk_182 0 98 (dk_at dksX7_outlet_2 0 rfl rfl)
theorem dX7_outlet_49 : decode cX7_outlet 49 = .ok (.iconst (-1), 1) := dk_2 (dk_at dksX7_outlet_2 3 rfl rfl)
theorem dX7_outlet_50 : decode cX7_outlet 50 = .ok (.if_icmp .ne 7, 3) := dk_160 0 7 (dk_at dksX7_outlet_2 4 rfl rfl)
theorem dX7_outlet_53 : decode cX7_outlet 53 = .ok (.iconst 1, 1) := dk_4 (dk_at dksX7_outlet_2 7 rfl rfl)
theorem dX7_outlet_54 : decode cX7_outlet 54 = .ok (.goto 4, 3) := dk_167 0 4 (dk_at dksX7_outlet_2 8 rfl rfl)
theorem dX7_outlet_57 : decode cX7_outlet 57 = .ok (.iconst 0, 1) := dk_3 (dk_at dksX7_outlet_2 11 rfl rfl)
theorem dX7_outlet_58 : decode cX7_outlet 58 = .ok (.iconst 3, 1) := dk_6 (dk_at dksX7_outlet_2 12 rfl rfl)
theorem dX7_outlet_59 : decode cX7_outlet 59 = .ok (.invokevirtual 89, 3) := dk_182 0 89 (dk_at dksX7_outlet_2 13 rfl rfl)
theorem dX7_outlet_62 : decode cX7_outlet 62 = .ok (.aload_n 0, 1) := dk_42 (dk_at dksX7_outlet_2 16 rfl rfl)
theorem dX7_outlet_63 : decode cX7_outlet 63 = .ok (.dup, 1) := dk_89 (dk_at dksX7_outlet_2 17 rfl rfl)
theorem dX7_outlet_64 : decode cX7_outlet 64 = .ok (.getfield 22, 3) := dk_180 0 22 (dk_at dksX7_outlet_2 18 rfl rfl)
theorem dX7_outlet_67 : decode cX7_outlet 67 = .ok (.aload_n 2, 1) := dk_44 (dk_at dksX7_outlet_2 21 rfl rfl)
theorem dX7_outlet_68 : decode cX7_outlet 68 = .ok (.invokevirtual 78, 3) := dk_182 0 78 (dk_at dksX7_outlet_3 0 rfl rfl)
theorem dX7_outlet_71 : decode cX7_outlet 71 = .ok (.iadd, 1) := dk_96 (dk_at dksX7_outlet_3 3 rfl rfl)
theorem dX7_outlet_72 : decode cX7_outlet 72 = .ok (.putfield 22, 3) := dk_181 0 22 (dk_at dksX7_outlet_3 4 rfl rfl)
theorem dX7_outlet_75 : decode cX7_outlet 75 = .ok (.aload_n 0, 1) := dk_42 (dk_at dksX7_outlet_3 7 rfl rfl)
theorem dX7_outlet_76 : decode cX7_outlet 76 = .ok (.iconst 0, 1) := dk_3 (dk_at dksX7_outlet_3 8 rfl rfl)
theorem dX7_outlet_77 : decode cX7_outlet 77 = .ok (.sipush 999, 3) := dk_17 3 231 (dk_at dksX7_outlet_3 9 rfl rfl)
theorem dX7_outlet_80 : decode cX7_outlet 80 = .ok (.invokevirtual 120, 3) := dk_182 0 120 (dk_at dksX7_outlet_3 12 rfl rfl)
theorem dX7_outlet_83 : decode cX7_outlet 83 = .ok (.istore_n 3, 1) := dk_62 (dk_at dksX7_outlet_3 15 rfl rfl)
theorem dX7_outlet_84 : decode cX7_outlet 84 = .ok (.aload_n 0, 1) := dk_42 (dk_at dksX7_outlet_3 16 rfl rfl)
theorem dX7_outlet_85 : decode cX7_outlet 85 = .ok (.iload_n 3, 1) := dk_29 (dk_at dksX7_outlet_3 17 rfl rfl)
theorem dX7_outlet_86 : decode cX7_outlet 86 = .ok (.sipush 1999, 3) := dk_17 7 207 (dk_at dksX7_outlet_3 18 rfl rfl)
theorem dX7_outlet_89 : decode cX7_outlet 89 = .ok (.invokevirtual 120, 3) := dk_182 0 120 (dk_at dksX7_outlet_3 21 rfl rfl)
theorem dX7_outlet_92 : decode cX7_outlet 92 = .ok (.istore 4, 2) := dk_54 4 (dk_at dksX7_outlet_4 0 rfl rfl)
theorem dX7_outlet_94 : decode cX7_outlet 94 = .ok (.aload_n 0, 1) := dk_42 (dk_at dksX7_outlet_4 2 rfl rfl)
theorem dX7_outlet_95 : decode cX7_outlet 95 = .ok (.iload_n 3, 1) := dk_29 (dk_at dksX7_outlet_4 3 rfl rfl)
theorem dX7_outlet_96 : decode cX7_outlet 96 = .ok (.iload 4, 2) := dk_21 4 (dk_at dksX7_outlet_4 4 rfl rfl)
theorem dX7_outlet_98 : decode cX7_outlet 98 = .ok (.invokevirtual 120, 3) := dk_182 0 120 (dk_at dksX7_outlet_4 6 rfl rfl)
theorem dX7_outlet_101 : decode cX7_outlet 101 = .ok (.istore 5, 2) := dk_54 5 (dk_at dksX7_outlet_4 9 rfl rfl)
theorem dX7_outlet_103 : decode cX7_outlet 103 = .ok (.aload_n 0, 1) := dk_42 (dk_at dksX7_outlet_4 11 rfl rfl)
theorem dX7_outlet_104 : decode cX7_outlet 104 = .ok (.iconst 1, 1) := dk_4 (dk_at dksX7_outlet_4 12 rfl rfl)
theorem dX7_outlet_105 : decode cX7_outlet 105 = .ok (.bipush 20, 2) := dk_16 20 (dk_at dksX7_outlet_4 13 rfl rfl)
theorem dX7_outlet_107 : decode cX7_outlet 107 = .ok (.invokevirtual 120, 3) := dk_182 0 120 (dk_at dksX7_outlet_4 15 rfl rfl)
theorem dX7_outlet_110 : decode cX7_outlet 110 = .ok (.istore 6, 2) := dk_54 6 (dk_at dksX7_outlet_4 18 rfl rfl)
theorem dX7_outlet_112 : decode cX7_outlet 112 = .ok (.aload_n 0, 1) := dk_42 (dk_at dksX7_outlet_4 20 rfl rfl)
theorem dX7_outlet_113 : decode cX7_outlet 113 = .ok (.getfield 18, 3) := dk_180 0 18 (dk_at dksX7_outlet_4 21 rfl rfl)
theorem dX7_outlet_116 : decode cX7_outlet 116 = .ok (.getfield 102, 3) := dk_180 0 102 (dk_at dksX7_outlet_5 0 rfl rfl)
theorem dX7_outlet_119 : decode cX7_outlet 119 = .ok (.new 112, 3) := dk_187 0 112 (dk_at dksX7_outlet_5 3 rfl rfl)
theorem dX7_outlet_122 : decode cX7_outlet 122 = .ok (.dup, 1) := dk_89 (dk_at dksX7_outlet_5 6 rfl rfl)
theorem dX7_outlet_123 : decode cX7_outlet 123 = .ok (.aload_n 2, 1) := dk_44 (dk_at dksX7_outlet_5 7 rfl rfl)
theorem dX7_outlet_124 : decode cX7_outlet 124 = .ok (.iload_n 3, 1) := dk_29 (dk_at dksX7_outlet_5 8 rfl rfl)
theorem dX7_outlet_125 : decode cX7_outlet 125 = .ok (.iload 4, 2) := dk_21 4 (dk_at dksX7_outlet_5 9 rfl rfl)
theorem dX7_outlet_127 : decode cX7_outlet 127 = .ok (.iload 5, 2) := dk_21 5 (dk_at dksX7_outlet_5 11 rfl rfl)
theorem dX7_outlet_129 : decode cX7_outlet 129 = .ok (.iload 6, 2) := dk_21 6 (dk_at dksX7_outlet_5 13 rfl rfl)
theorem dX7_outlet_131 : decode cX7_outlet 131 = .ok (.aload_n 0, 1) := dk_42 (dk_at dksX7_outlet_5 15 rfl rfl)
theorem dX7_outlet_132 : decode cX7_outlet 132 = .ok (.iconst 0, 1) := dk_3 (dk_at dksX7_outlet_5 16 rfl rfl)
theorem dX7_outlet_133 : decode cX7_outlet 133 = .ok (.bipush 9, 2) := dk_16 9 (dk_at dksX7_outlet_5 17 rfl rfl)
theorem dX7_outlet_135 : decode cX7_outlet 135 = .ok (.invokevirtual 120, 3) := dk_182 0 120 (dk_at dksX7_outlet_5 19 rfl rfl)
theorem dX7_outlet_138 : decode cX7_outlet 138 = .ok (.invokespecial 124, 3) := dk_183 0 124 (dk_at dksX7_outlet_6 0 rfl rfl)
theorem dX7_outlet_141 : decode cX7_outlet 141 = .ok (.invokeinterface 127 2, 5) := by decide +kernel
theorem dX7_outlet_146 : decode cX7_outlet 146 = .ok (.pop, 1) := dk_87 (dk_at dksX7_outlet_6 8 rfl rfl)
theorem dX7_outlet_147 : decode cX7_outlet 147 = .ok (.return_, 1) := dk_177 (dk_at dksX7_outlet_6 9 rfl rfl)
def dkwX7_name_0 : List UInt8 := [42, 182, 0, 69, 76, 42, 43, 182, 0, 78, 133, 10, 20, 0, 93, 184, 0, 57, 182, 0, 81, 43, 176]
abbrev dktX7_name_0 : List UInt8 := dkwX7_name_0 ++ []
theorem dksX7_name_0 : cX7_name.data.toList.drop 0 = dktX7_name_0 := by decide +kernel
theorem dX7_name_0 : decode cX7_name 0 = .ok (.aload_n 0, 1) := dk_42 (dk_at dksX7_name_0 0 rfl rfl)
theorem dX7_name_1 : decode cX7_name 1 = .ok (.invokevirtual 69, 3) := dk_182 0 69 (dk_at dksX7_name_0 1 rfl rfl)
theorem dX7_name_4 : decode cX7_name 4 = .ok (.astore_n 1, 1) := dk_76 (dk_at dksX7_name_0 4 rfl rfl)
theorem dX7_name_5 : decode cX7_name 5 = .ok (.aload_n 0, 1) := dk_42 (dk_at dksX7_name_0 5 rfl rfl)
theorem dX7_name_6 : decode cX7_name 6 = .ok (.aload_n 1, 1) := dk_43 (dk_at dksX7_name_0 6 rfl rfl)
theorem dX7_name_7 : decode cX7_name 7 = .ok (.invokevirtual 78, 3) := dk_182 0 78 (dk_at dksX7_name_0 7 rfl rfl)
theorem dX7_name_10 : decode cX7_name 10 = .ok (.i2l, 1) := dk_133 (dk_at dksX7_name_0 10 rfl rfl)
theorem dX7_name_11 : decode cX7_name 11 = .ok (.lconst 1, 1) := dk_10 (dk_at dksX7_name_0 11 rfl rfl)
theorem dX7_name_12 : decode cX7_name 12 = .ok (.ldc2_w 93, 3) := dk_20 0 93 (dk_at dksX7_name_0 12 rfl rfl)
theorem dX7_name_15 : decode cX7_name 15 = .ok (.invokestatic 57, 3) := dk_184 0 57 (dk_at dksX7_name_0 15 rfl rfl)
theorem dX7_name_18 : decode cX7_name 18 = .ok (.invokevirtual 81, 3) := dk_182 0 81 (dk_at dksX7_name_0 18 rfl rfl)
theorem dX7_name_21 : decode cX7_name 21 = .ok (.aload_n 1, 1) := dk_43 (dk_at dksX7_name_0 21 rfl rfl)
theorem dX7_name_22 : decode cX7_name 22 = .ok (.areturn, 1) := dk_176 (dk_at dksX7_name_0 22 rfl rfl)
def dkwX7_need_4 : List UInt8 := [120, 128, 79, 42, 180, 0, 18, 89, 180, 0, 130, 4, 96, 181, 0, 130, 177]
abbrev dktX7_need_4 : List UInt8 := dkwX7_need_4 ++ []
def dkwX7_need_3 : List UInt8 := [167, 0, 4, 3, 6, 182, 0, 89, 42, 180, 0, 18, 180, 0, 140, 28, 92, 46, 4, 42, 29, 182, 0, 136]
abbrev dktX7_need_3 : List UInt8 := dkwX7_need_3 ++ dktX7_need_4
def dkwX7_need_2 : List UInt8 := [62, 42, 29, 28, 159, 0, 23, 42, 180, 0, 18, 180, 0, 140, 28, 46, 29, 184, 0, 144, 154, 0, 7, 4]
abbrev dktX7_need_2 : List UInt8 := dkwX7_need_2 ++ dktX7_need_3
def dkwX7_need_1 : List UInt8 := [180, 0, 22, 43, 182, 0, 78, 96, 181, 0, 22, 42, 42, 182, 0, 133, 182, 0, 136, 61, 42, 182, 0, 133]
abbrev dktX7_need_1 : List UInt8 := dkwX7_need_1 ++ dktX7_need_2
def dkwX7_need_0 : List UInt8 := [42, 42, 180, 0, 18, 180, 0, 130, 16, 16, 162, 0, 7, 4, 167, 0, 4, 3, 8, 182, 0, 89, 42, 89]
abbrev dktX7_need_0 : List UInt8 := dkwX7_need_0 ++ dktX7_need_1
theorem dksX7_need_0 : cX7_need.data.toList.drop 0 = dktX7_need_0 := by decide +kernel
theorem dksX7_need_1 : cX7_need.data.toList.drop 24 = dktX7_need_1 := dk_seg dksX7_need_0 24 rfl rfl
theorem dksX7_need_2 : cX7_need.data.toList.drop 48 = dktX7_need_2 := dk_seg dksX7_need_1 24 rfl rfl
theorem dksX7_need_3 : cX7_need.data.toList.drop 72 = dktX7_need_3 := dk_seg dksX7_need_2 24 rfl rfl
theorem dksX7_need_4 : cX7_need.data.toList.drop 96 = dktX7_need_4 := dk_seg dksX7_need_3 24 rfl rfl
theorem dX7_need_0 : decode cX7_need 0 = .ok (.aload_n 0, 1) := dk_42 (dk_at dksX7_need_0 0 rfl rfl)
theorem dX7_need_1 : decode cX7_need 1 = .ok (.aload_n 0, 1) := dk_42 (dk_at dksX7_need_0 1 rfl rfl)
theorem dX7_need_2 : decode cX7_need 2 = .ok (.getfield 18, 3) := dk_180 0 18 (dk_at dksX7_need_0 2 rfl rfl)
theorem dX7_need_5 : decode cX7_need 5 = .ok (.getfield 130, 3) := dk_180 0 130 (dk_at dksX7_need_0 5 rfl rfl)
theorem dX7_need_8 : decode cX7_need 8 = .ok (.bipush 16, 2) := dk_16 16 (dk_at dksX7_need_0 8 rfl rfl)
theorem dX7_need_10 : decode cX7_need 10 = .ok (.if_icmp .ge 7, 3) := dk_162 0 7 (dk_at dksX7_need_0 10 rfl rfl)
theorem dX7_need_13 : decode cX7_need 13 = .ok (.iconst 1, 1) := dk_4 (dk_at dksX7_need_0 13 rfl rfl)
theorem dX7_need_14 : decode cX7_need 14 = .ok (.goto 4, 3) := dk_167 0 4 (dk_at dksX7_need_0 14 rfl rfl)
theorem dX7_need_17 : decode cX7_need 17 = .ok (.iconst 0, 1) := dk_3 (dk_at dksX7_need_0 17 rfl rfl)
theorem dX7_need_18 : decode cX7_need 18 = .ok (.iconst 5, 1) := dk_8 (dk_at dksX7_need_0 18 rfl rfl)
theorem dX7_need_19 : decode cX7_need 19 = .ok (.invokevirtual 89, 3) := dk_182 0 89 (dk_at dksX7_need_0 19 rfl rfl)
theorem dX7_need_22 : decode cX7_need 22 = .ok (.aload_n 0, 1) := dk_42 (dk_at dksX7_need_0 22 rfl rfl)
theorem dX7_need_23 : decode cX7_need 23 = .ok (.dup, 1) := dk_89 (dk_at dksX7_need_0 23 rfl rfl)
theorem dX7_need_24 : decode cX7_need 24 = .ok (.getfield 22, 3) := dk_180 0 22 (dk_at dksX7_need_1 0 rfl rfl)
theorem dX7_need_27 : decode cX7_need 27 = .ok (.aload_n 1, 1) := dk_43 (dk_at dksX7_need_1 3 rfl rfl)
theorem dX7_need_28 : decode cX7_need 28 = .ok (.invokevirtual 78, 3) := dk_182 0 78 (dk_at dksX7_need_1 4 rfl rfl)
theorem dX7_need_31 : decode cX7_need 31 = .ok (.iadd, 1) := dk_96 (dk_at dksX7_need_1 7 rfl rfl)
theorem dX7_need_32 : decode cX7_need 32 = .ok (.putfield 22, 3) := dk_181 0 22 (dk_at dksX7_need_1 8 rfl rfl)
theorem dX7_need_35 : decode cX7_need 35 = .ok (.aload_n 0, 1) := dk_42 (dk_at dksX7_need_1 11 rfl rfl)
theorem dX7_need_36 : decode cX7_need 36 = .ok (.aload_n 0, 1) := dk_42 (dk_at dksX7_need_1 12 rfl rfl)
theorem dX7_need_37 : decode cX7_need 37 = .ok (.invokevirtual 133, 3) := dk_182 0 133 (dk_at dksX7_need_1 13 rfl rfl)
theorem dX7_need_40 : decode cX7_need 40 = .ok (.invokevirtual 136, 3) := dk_182 0 136 (dk_at dksX7_need_1 16 rfl rfl)
theorem dX7_need_43 : decode cX7_need 43 = .ok (.istore_n 2, 1) := dk_61 (dk_at dksX7_need_1 19 rfl rfl)
theorem dX7_need_44 : decode cX7_need 44 = .ok (.aload_n 0, 1) := dk_42 (dk_at dksX7_need_1 20 rfl rfl)
theorem dX7_need_45 : decode cX7_need 45 = .ok (.invokevirtual 133, 3) := dk_182 0 133 (dk_at dksX7_need_1 21 rfl rfl)
theorem dX7_need_48 : decode cX7_need 48 = .ok (.istore_n 3, 1) := dk_62 (dk_at dksX7_need_2 0 rfl rfl)
theorem dX7_need_49 : decode cX7_need 49 = .ok (.aload_n 0, 1) := dk_42 (dk_at dksX7_need_2 1 rfl rfl)
theorem dX7_need_50 : decode cX7_need 50 = .ok (.iload_n 3, 1) := dk_29 (dk_at dksX7_need_2 2 rfl rfl)
theorem dX7_need_51 : decode cX7_need 51 = .ok (.iload_n 2, 1) := dk_28 (dk_at dksX7_need_2 3 rfl rfl)
theorem dX7_need_52 : decode cX7_need 52 = .ok (.if_icmp .eq 23, 3) := dk_159 0 23 (dk_at dksX7_need_2 4 rfl rfl)
theorem dX7_need_55 : decode cX7_need 55 = .ok (.aload_n 0, 1) := dk_42 (dk_at dksX7_need_2 7 rfl rfl)
theorem dX7_need_56 : decode cX7_need 56 = .ok (.getfield 18, 3) := dk_180 0 18 (dk_at dksX7_need_2 8 rfl rfl)
theorem dX7_need_59 : decode cX7_need 59 = .ok (.getfield 140, 3) := dk_180 0 140 (dk_at dksX7_need_2 11 rfl rfl)
theorem dX7_need_62 : decode cX7_need 62 = .ok (.iload_n 2, 1) := dk_28 (dk_at dksX7_need_2 14 rfl rfl)
theorem dX7_need_63 : decode cX7_need 63 = .ok (.iaload, 1) := dk_46 (dk_at dksX7_need_2 15 rfl rfl)
theorem dX7_need_64 : decode cX7_need 64 = .ok (.iload_n 3, 1) := dk_29 (dk_at dksX7_need_2 16 rfl rfl)
theorem dX7_need_65 : decode cX7_need 65 = .ok (.invokestatic 144, 3) := dk_184 0 144 (dk_at dksX7_need_2 17 rfl rfl)
theorem dX7_need_68 : decode cX7_need 68 = .ok (.ifCond .ne 7, 3) := dk_154 0 7 (dk_at dksX7_need_2 20 rfl rfl)
theorem dX7_need_71 : decode cX7_need 71 = .ok (.iconst 1, 1) := dk_4 (dk_at dksX7_need_2 23 rfl rfl)
theorem dX7_need_72 : decode cX7_need 72 = .ok (.goto 4, 3) := dk_167 0 4 (dk_at dksX7_need_3 0 rfl rfl)
theorem dX7_need_75 : decode cX7_need 75 = .ok (.iconst 0, 1) := dk_3 (dk_at dksX7_need_3 3 rfl rfl)
theorem dX7_need_76 : decode cX7_need 76 = .ok (.iconst 3, 1) := dk_6 (dk_at dksX7_need_3 4 rfl rfl)
theorem dX7_need_77 : decode cX7_need 77 = .ok (.invokevirtual 89, 3) := dk_182 0 89 (dk_at dksX7_need_3 5 rfl rfl)
theorem dX7_need_80 : decode cX7_need 80 = .ok (.aload_n 0, 1) := dk_42 (dk_at dksX7_need_3 8 rfl rfl)
theorem dX7_need_81 : decode cX7_need 81 = .ok (.getfield 18, 3) := dk_180 0 18 (dk_at dksX7_need_3 9 rfl rfl)
theorem dX7_need_84 : decode cX7_need 84 = .ok (.getfield 140, 3) := dk_180 0 140 (dk_at dksX7_need_3 12 rfl rfl)
theorem dX7_need_87 : decode cX7_need 87 = .ok (.iload_n 2, 1) := dk_28 (dk_at dksX7_need_3 15 rfl rfl)
theorem dX7_need_88 : decode cX7_need 88 = .ok (.dup2, 1) := dk_92 (dk_at dksX7_need_3 16 rfl rfl)
theorem dX7_need_89 : decode cX7_need 89 = .ok (.iaload, 1) := dk_46 (dk_at dksX7_need_3 17 rfl rfl)
theorem dX7_need_90 : decode cX7_need 90 = .ok (.iconst 1, 1) := dk_4 (dk_at dksX7_need_3 18 rfl rfl)
theorem dX7_need_91 : decode cX7_need 91 = .ok (.aload_n 0, 1) := dk_42 (dk_at dksX7_need_3 19 rfl rfl)
theorem dX7_need_92 : decode cX7_need 92 = .ok (.iload_n 3, 1) := dk_29 (dk_at dksX7_need_3 20 rfl rfl)
theorem dX7_need_93 : decode cX7_need 93 = .ok (.invokevirtual 136, 3) := dk_182 0 136 (dk_at dksX7_need_3 21 rfl rfl)
theorem dX7_need_96 : decode cX7_need 96 = .ok (.ishl, 1) := dk_120 (dk_at dksX7_need_4 0 rfl rfl)
theorem dX7_need_97 : decode cX7_need 97 = .ok (.ior, 1) := dk_128 (dk_at dksX7_need_4 1 rfl rfl)
theorem dX7_need_98 : decode cX7_need 98 = .ok (.iastore, 1) := dk_79 (dk_at dksX7_need_4 2 rfl rfl)
theorem dX7_need_99 : decode cX7_need 99 = .ok (.aload_n 0, 1) := dk_42 (dk_at dksX7_need_4 3 rfl rfl)
theorem dX7_need_100 : decode cX7_need 100 = .ok (.getfield 18, 3) := dk_180 0 18 (dk_at dksX7_need_4 4 rfl rfl)
theorem dX7_need_103 : decode cX7_need 103 = .ok (.dup, 1) := dk_89 (dk_at dksX7_need_4 7 rfl rfl)
theorem dX7_need_104 : decode cX7_need 104 = .ok (.getfield 130, 3) := dk_180 0 130 (dk_at dksX7_need_4 8 rfl rfl)
theorem dX7_need_107 : decode cX7_need 107 = .ok (.iconst 1, 1) := dk_4 (dk_at dksX7_need_4 11 rfl rfl)
theorem dX7_need_108 : decode cX7_need 108 = .ok (.iadd, 1) := dk_96 (dk_at dksX7_need_4 12 rfl rfl)
theorem dX7_need_109 : decode cX7_need 109 = .ok (.putfield 130, 3) := dk_181 0 130 (dk_at dksX7_need_4 13 rfl rfl)
theorem dX7_need_112 : decode cX7_need 112 = .ok (.return_, 1) := dk_177 (dk_at dksX7_need_4 16 rfl rfl)
def dkwX7_known_1 : List UInt8 := [3, 7, 182, 0, 89, 28, 172]
abbrev dktX7_known_1 : List UInt8 := dkwX7_known_1 ++ []
def dkwX7_known_0 : List UInt8 := [42, 182, 0, 95, 76, 42, 180, 0, 18, 43, 182, 0, 98, 61, 42, 28, 2, 159, 0, 7, 4, 167, 0, 4]
abbrev dktX7_known_0 : List UInt8 := dkwX7_known_0 ++ dktX7_known_1
theorem dksX7_known_0 : cX7_known.data.toList.drop 0 = dktX7_known_0 := by decide +kernel
theorem dksX7_known_1 : cX7_known.data.toList.drop 24 = dktX7_known_1 := dk_seg dksX7_known_0 24 rfl rfl
theorem dX7_known_0 : decode cX7_known 0 = .ok (.aload_n 0, 1) := dk_42 (dk_at dksX7_known_0 0 rfl rfl)
theorem dX7_known_1 : decode cX7_known 1 = .ok (.invokevirtual 95, 3) := dk_182 0 95 (dk_at dksX7_known_0 1 rfl rfl)
theorem dX7_known_4 : decode cX7_known 4 = .ok (.astore_n 1, 1) := dk_76 (dk_at dksX7_known_0 4 rfl rfl)
theorem dX7_known_5 : decode cX7_known 5 = .ok (.aload_n 0, 1) := dk_42 (dk_at dksX7_known_0 5 rfl rfl)
theorem dX7_known_6 : decode cX7_known 6 = .ok (.getfield 18, 3) := dk_180 0 18 (dk_at dksX7_known_0 6 rfl rfl)
theorem dX7_known_9 : decode cX7_known 9 = .ok (.aload_n 1, 1) := dk_43 (dk_at dksX7_known_0 9 rfl rfl)
theorem dX7_known_10 : decode cX7_known 10 = .ok (.invokevirtual 98, 3) := dk_182 0 98 (dk_at dksX7_known_0 10 rfl rfl)
theorem dX7_known_13 : decode cX7_known 13 = .ok (.istore_n 2, 1) := dk_61 (dk_at dksX7_known_0 13 rfl rfl)
theorem dX7_known_14 : decode cX7_known 14 = .ok (.aload_n 0, 1) := dk_42 (dk_at dksX7_known_0 14 rfl rfl)
theorem dX7_known_15 : decode cX7_known 15 = .ok (.iload_n 2, 1) := dk_28 (dk_at dksX7_known_0 15 rfl rfl)
theorem dX7_known_16 : decode cX7_known 16 = .ok (.iconst (-1), 1) := dk_2 (dk_at dksX7_known_0 16 rfl rfl)
theorem dX7_known_17 : decode cX7_known 17 = .ok (.if_icmp .eq 7, 3) := dk_159 0 7 (dk_at dksX7_known_0 17 rfl rfl)
theorem dX7_known_20 : decode cX7_known 20 = .ok (.iconst 1, 1) := dk_4 (dk_at dksX7_known_0 20 rfl rfl)
theorem dX7_known_21 : decode cX7_known 21 = .ok (.goto 4, 3) := dk_167 0 4 (dk_at dksX7_known_0 21 rfl rfl)
theorem dX7_known_24 : decode cX7_known 24 = .ok (.iconst 0, 1) := dk_3 (dk_at dksX7_known_1 0 rfl rfl)
theorem dX7_known_25 : decode cX7_known 25 = .ok (.iconst 4, 1) := dk_7 (dk_at dksX7_known_1 1 rfl rfl)
theorem dX7_known_26 : decode cX7_known 26 = .ok (.invokevirtual 89, 3) := dk_182 0 89 (dk_at dksX7_known_1 2 rfl rfl)
theorem dX7_known_29 : decode cX7_known 29 = .ok (.iload_n 2, 1) := dk_28 (dk_at dksX7_known_1 5 rfl rfl)
theorem dX7_known_30 : decode cX7_known 30 = .ok (.ireturn, 1) := dk_172 (dk_at dksX7_known_1 6 rfl rfl)
def dkwX7_passed_1 : List UInt8 := [182, 0, 78, 96, 181, 0, 22, 27, 172]
abbrev dktX7_passed_1 : List UInt8 := dkwX7_passed_1 ++ []
def dkwX7_passed_0 : List UInt8 := [42, 89, 180, 0, 22, 42, 180, 0, 18, 180, 0, 102, 27, 185, 0, 106, 2, 0, 192, 0, 112, 180, 0, 114]
abbrev dktX7_passed_0 : List UInt8 := dkwX7_passed_0 ++ dktX7_passed_1
theorem dksX7_passed_0 : cX7_passed.data.toList.drop 0 = dktX7_passed_0 := by decide +kernel
theorem dksX7_passed_1 : cX7_passed.data.toList.drop 24 = dktX7_passed_1 := dk_seg dksX7_passed_0 24 rfl rfl
theorem dX7_passed_0 : decode cX7_passed 0 = .ok (.aload_n 0, 1) := dk_42 (dk_at dksX7_passed_0 0 rfl rfl)
theorem dX7_passed_1 : decode cX7_passed 1 = .ok (.dup, 1) := dk_89 (dk_at dksX7_passed_0 1 rfl rfl)
theorem dX7_passed_2 : decode cX7_passed 2 = .ok (.getfield 22, 3) := dk_180 0 22 (dk_at dksX7_passed_0 2 rfl rfl)
theorem dX7_passed_5 : decode cX7_passed 5 = .ok (.aload_n 0, 1) := dk_42 (dk_at dksX7_passed_0 5 rfl rfl)
theorem dX7_passed_6 : decode cX7_passed 6 = .ok (.getfield 18, 3) := dk_180 0 18 (dk_at dksX7_passed_0 6 rfl rfl)
theorem dX7_passed_9 : decode cX7_passed 9 = .ok (.getfield 102, 3) := dk_180 0 102 (dk_at dksX7_passed_0 9 rfl rfl)
theorem dX7_passed_12 : decode cX7_passed 12 = .ok (.iload_n 1, 1) := dk_27 (dk_at dksX7_passed_0 12 rfl rfl)
theorem dX7_passed_13 : decode cX7_passed 13 = .ok (.invokeinterface 106 2, 5) := by decide +kernel
theorem dX7_passed_18 : decode cX7_passed 18 = .ok (.checkcast 112, 3) := dk_192 0 112 (dk_at dksX7_passed_0 18 rfl rfl)
theorem dX7_passed_21 : decode cX7_passed 21 = .ok (.getfield 114, 3) := dk_180 0 114 (dk_at dksX7_passed_0 21 rfl rfl)
theorem dX7_passed_24 : decode cX7_passed 24 = .ok (.invokevirtual 78, 3) := dk_182 0 78 (dk_at dksX7_passed_1 0 rfl rfl)
theorem dX7_passed_27 : decode cX7_passed 27 = .ok (.iadd, 1) := dk_96 (dk_at dksX7_passed_1 3 rfl rfl)
theorem dX7_passed_28 : decode cX7_passed 28 = .ok (.putfield 22, 3) := dk_181 0 22 (dk_at dksX7_passed_1 4 rfl rfl)
theorem dX7_passed_31 : decode cX7_passed 31 = .ok (.iload_n 1, 1) := dk_27 (dk_at dksX7_passed_1 7 rfl rfl)
theorem dX7_passed_32 : decode cX7_passed 32 = .ok (.ireturn, 1) := dk_172 (dk_at dksX7_passed_1 8 rfl rfl)
def dkwX7_rule_19 : List UInt8 := [167, 0, 5, 3, 172, 4, 172]
abbrev dktX7_rule_19 : List UInt8 := dkwX7_rule_19 ++ []
def dkwX7_rule_18 : List UInt8 := [187, 0, 195, 89, 21, 4, 42, 4, 16, 50, 182, 0, 120, 183, 0, 197, 185, 0, 127, 2, 0, 87]
abbrev dktX7_rule_18 : List UInt8 := dkwX7_rule_18 ++ dktX7_rule_19
def dkwX7_rule_17 : List UInt8 := [182, 0, 78, 96, 181, 0, 22, 42, 4, 17, 3, 231, 182, 0, 120, 54, 4, 42, 180, 0, 18, 180, 0, 191]
abbrev dktX7_rule_17 : List UInt8 := dkwX7_rule_17 ++ dktX7_rule_18
def dkwX7_rule_16 : List UInt8 := [185, 0, 194, 1, 0, 7, 162, 0, 7, 4, 167, 0, 4, 3, 8, 182, 0, 89, 42, 89, 180, 0, 22, 43]
abbrev dktX7_rule_16 : List UInt8 := dkwX7_rule_16 ++ dktX7_rule_17
def dkwX7_rule_15 : List UInt8 := [182, 0, 133, 182, 0, 136, 120, 128, 181, 0, 189, 167, 0, 86, 42, 42, 180, 0, 18, 180, 0, 191]
abbrev dktX7_rule_15 : List UInt8 := dkwX7_rule_15 ++ dktX7_rule_16
def dkwX7_rule_14 : List UInt8 := [89, 180, 0, 22, 43, 182, 0, 78, 96, 181, 0, 22, 42, 180, 0, 18, 89, 180, 0, 189, 4, 42, 42]
abbrev dktX7_rule_14 : List UInt8 := dkwX7_rule_14 ++ dktX7_rule_15
def dkwX7_rule_13 : List UInt8 := [180, 0, 18, 4, 181, 0, 186, 42, 89, 180, 0, 22, 43, 182, 0, 78, 96, 181, 0, 22, 167, 0, 124, 42]
abbrev dktX7_rule_13 : List UInt8 := dkwX7_rule_13 ++ dktX7_rule_14
def dkwX7_rule_12 : List UInt8 := [16, 20, 182, 0, 120, 181, 0, 184, 167, 0, 159, 42, 42, 180, 0, 18, 180, 0, 186, 182, 0, 167, 42]
abbrev dktX7_rule_12 : List UInt8 := dkwX7_rule_12 ++ dktX7_rule_13
def dkwX7_rule_11 : List UInt8 := [42, 4, 181, 0, 181, 42, 89, 180, 0, 22, 43, 182, 0, 78, 96, 181, 0, 22, 42, 180, 0, 18, 42, 5]
abbrev dktX7_rule_11 : List UInt8 := dkwX7_rule_11 ++ dktX7_rule_12
def dkwX7_rule_10 : List UInt8 := [180, 0, 18, 42, 4, 16, 20, 182, 0, 120, 181, 0, 179, 167, 0, 202, 42, 42, 180, 0, 181, 182, 0, 167]
abbrev dktX7_rule_10 : List UInt8 := dkwX7_rule_10 ++ dktX7_rule_11
def dkwX7_rule_9 : List UInt8 := [182, 0, 167, 42, 4, 181, 0, 176, 42, 89, 180, 0, 22, 43, 182, 0, 78, 96, 181, 0, 22, 42]
abbrev dktX7_rule_9 : List UInt8 := dkwX7_rule_9 ++ dktX7_rule_10
def dkwX7_rule_8 : List UInt8 := [181, 0, 22, 42, 180, 0, 18, 42, 182, 0, 170, 181, 0, 174, 167, 0, 245, 42, 42, 180, 0, 176]
abbrev dktX7_rule_8 : List UInt8 := dkwX7_rule_8 ++ dktX7_rule_9
def dkwX7_rule_7 : List UInt8 := [42, 42, 180, 0, 163, 182, 0, 167, 42, 4, 181, 0, 163, 42, 89, 180, 0, 22, 43, 182, 0, 78, 96]
abbrev dktX7_rule_7 : List UInt8 := dkwX7_rule_7 ++ dktX7_rule_8
def dkwX7_rule_6 : List UInt8 := [170, 0, 0, 0, 1, 62, 0, 0, 0, 0, 0, 0, 0, 5, 0, 0, 0, 38, 0, 0, 0, 78, 0, 0, 0, 121, 0, 0, 0, 164, 0, 0, 0, 199, 0, 0, 0, 237]
abbrev dktX7_rule_6 : List UInt8 := dkwX7_rule_6 ++ dktX7_rule_7
def dkwX7_rule_5 : List UInt8 := [18, 161, 182, 0, 72, 153, 0, 5, 8, 62, 29]
abbrev dktX7_rule_5 : List UInt8 := dkwX7_rule_5 ++ dktX7_rule_6
def dkwX7_rule_4 : List UInt8 := [153, 0, 33, 6, 62, 167, 0, 28, 44, 18, 159, 182, 0, 72, 153, 0, 19, 7, 62, 167, 0, 14, 44]
abbrev dktX7_rule_4 : List UInt8 := dkwX7_rule_4 ++ dktX7_rule_5
def dkwX7_rule_3 : List UInt8 := [62, 167, 0, 56, 44, 18, 155, 182, 0, 72, 153, 0, 47, 5, 62, 167, 0, 42, 44, 18, 157, 182, 0, 72]
abbrev dktX7_rule_3 : List UInt8 := dkwX7_rule_3 ++ dktX7_rule_4
def dkwX7_rule_2 : List UInt8 := [44, 18, 151, 182, 0, 72, 153, 0, 75, 3, 62, 167, 0, 70, 44, 18, 153, 182, 0, 72, 153, 0, 61, 4]
abbrev dktX7_rule_2 : List UInt8 := dkwX7_rule_2 ++ dktX7_rule_3
def dkwX7_rule_1 : List UInt8 := [171, 0, 0, 0, 0, 0, 0, 141, 0, 0, 0, 6, 202, 213, 94, 201, 0, 0, 0, 102, 0, 1, 173, 111, 0, 0, 0, 116, 0, 46, 239, 118, 0, 0, 0, 130, 0, 50, 199, 35, 0, 0, 0, 60, 6, 118, 34, 168, 0, 0, 0, 74, 73, 169, 115, 241, 0, 0, 0, 88]
abbrev dktX7_rule_1 : List UInt8 := dkwX7_rule_1 ++ dktX7_rule_2
def dkwX7_rule_0 : List UInt8 := [43, 77, 2, 62, 44, 182, 0, 148]
abbrev dktX7_rule_0 : List UInt8 := dkwX7_rule_0 ++ dktX7_rule_1
theorem dksX7_rule_0 : cX7_rule.data.toList.drop 0 = dktX7_rule_0 := by decide +kernel
theorem dksX7_rule_1 : cX7_rule.data.toList.drop 8 = dktX7_rule_1 := dk_seg dksX7_rule_0 8 rfl rfl
theorem dksX7_rule_2 : cX7_rule.data.toList.drop 68 = dktX7_rule_2 := dk_seg dksX7_rule_1 60 rfl rfl
theorem dksX7_rule_3 : cX7_rule.data.toList.drop 92 = dktX7_rule_3 := dk_seg dksX7_rule_2 24 rfl rfl
theorem dksX7_rule_4 : cX7_rule.data.toList.drop 116 = dktX7_rule_4 := dk_seg dksX7_rule_3 24 rfl rfl
theorem dksX7_rule_5 : cX7_rule.data.toList.drop 139 = dktX7_rule_5 := dk_seg dksX7_rule_4 23 rfl rfl
theorem dksX7_rule_6 : cX7_rule.data.toList.drop 150 = dktX7_rule_6 := dk_seg dksX7_rule_5 11 rfl rfl
theorem dksX7_rule_7 : cX7_rule.data.toList.drop 188 = dktX7_rule_7 := dk_seg dksX7_rule_6 38 rfl rfl
theorem dksX7_rule_8 : cX7_rule.data.toList.drop 211 = dktX7_rule_8 := dk_seg dksX7_rule_7 23 rfl rfl
theorem dksX7_rule_9 : cX7_rule.data.toList.drop 233 = dktX7_rule_9 := dk_seg dksX7_rule_8 22 rfl rfl
theorem dksX7_rule_10 : cX7_rule.data.toList.drop 255 = dktX7_rule_10 := dk_seg dksX7_rule_9 22 rfl rfl
theorem dksX7_rule_11 : cX7_rule.data.toList.drop 279 = dktX7_rule_11 := dk_seg dksX7_rule_10 24 rfl rfl
theorem dksX7_rule_12 : cX7_rule.data.toList.drop 303 = dktX7_rule_12 := dk_seg dksX7_rule_11 24 rfl rfl
theorem dksX7_rule_13 : cX7_rule.data.toList.drop 326 = dktX7_rule_13 := dk_seg dksX7_rule_12 23 rfl rfl
theorem dksX7_rule_14 : cX7_rule.data.toList.drop 350 = dktX7_rule_14 := dk_seg dksX7_rule_13 24 rfl rfl
theorem dksX7_rule_15 : cX7_rule.data.toList.drop 373 = dktX7_rule_15 := dk_seg dksX7_rule_14 23 rfl rfl
theorem dksX7_rule_16 : cX7_rule.data.toList.drop 395 = dktX7_rule_16 := dk_seg dksX7_rule_15 22 rfl rfl
theorem dksX7_rule_17 : cX7_rule.data.toList.drop 419 = dktX7_rule_17 := dk_seg dksX7_rule_16 24 rfl rfl
theorem dksX7_rule_18 : cX7_rule.data.toList.drop 443 = dktX7_rule_18 := dk_seg dksX7_rule_17 24 rfl rfl
theorem dksX7_rule_19 : cX7_rule.data.toList.drop 465 = dktX7_rule_19 := dk_seg dksX7_rule_18 22 rfl rfl
theorem dX7_rule_0 : decode cX7_rule 0 = .ok (.aload_n 1, 1) := dk_43 (dk_at dksX7_rule_0 0 rfl rfl)
theorem dX7_rule_1 : decode cX7_rule 1 = .ok (.astore_n 2, 1) := dk_77 (dk_at dksX7_rule_0 1 rfl rfl)
theorem dX7_rule_2 : decode cX7_rule 2 = .ok (.iconst (-1), 1) := dk_2 (dk_at dksX7_rule_0 2 rfl rfl)
theorem dX7_rule_3 : decode cX7_rule 3 = .ok (.istore_n 3, 1) := dk_62 (dk_at dksX7_rule_0 3 rfl rfl)
theorem dX7_rule_4 : decode cX7_rule 4 = .ok (.aload_n 2, 1) := dk_44 (dk_at dksX7_rule_0 4 rfl rfl)
theorem dX7_rule_5 : decode cX7_rule 5 = .ok (.invokevirtual 148, 3) := dk_182 0 148 (dk_at dksX7_rule_0 5 rfl rfl)
theorem dX7_rule_8 : decode cX7_rule 8 = .ok (.lookupswitch 141 #[(-891986231, 102), (109935, 116), (3075958, 130), (3327779, 60), (108405416, 74), (1235842033, 88)], 60) := by decide +kernel
theorem dX7_rule_68 : decode cX7_rule 68 = .ok (.aload_n 2, 1) := dk_44 (dk_at dksX7_rule_2 0 rfl rfl)
theorem dX7_rule_69 : decode cX7_rule 69 = .ok (.ldc 151, 2) := dk_18 151 (dk_at dksX7_rule_2 1 rfl rfl)
theorem dX7_rule_71 : decode cX7_rule 71 = .ok (.invokevirtual 72, 3) := dk_182 0 72 (dk_at dksX7_rule_2 3 rfl rfl)
theorem dX7_rule_74 : decode cX7_rule 74 = .ok (.ifCond .eq 75, 3) := dk_153 0 75 (dk_at dksX7_rule_2 6 rfl rfl)
theorem dX7_rule_77 : decode cX7_rule 77 = .ok (.iconst 0, 1) := dk_3 (dk_at dksX7_rule_2 9 rfl rfl)
theorem dX7_rule_78 : decode cX7_rule 78 = .ok (.istore_n 3, 1) := dk_62 (dk_at dksX7_rule_2 10 rfl rfl)
theorem dX7_rule_79 : decode cX7_rule 79 = .ok (.goto 70, 3) := dk_167 0 70 (dk_at dksX7_rule_2 11 rfl rfl)
theorem dX7_rule_82 : decode cX7_rule 82 = .ok (.aload_n 2, 1) := dk_44 (dk_at dksX7_rule_2 14 rfl rfl)
theorem dX7_rule_83 : decode cX7_rule 83 = .ok (.ldc 153, 2) := dk_18 153 (dk_at dksX7_rule_2 15 rfl rfl)
theorem dX7_rule_85 : decode cX7_rule 85 = .ok (.invokevirtual 72, 3) := dk_182 0 72 (dk_at dksX7_rule_2 17 rfl rfl)
theorem dX7_rule_88 : decode cX7_rule 88 = .ok (.ifCond .eq 61, 3) := dk_153 0 61 (dk_at dksX7_rule_2 20 rfl rfl)
theorem dX7_rule_91 : decode cX7_rule 91 = .ok (.iconst 1, 1) := dk_4 (dk_at dksX7_rule_2 23 rfl rfl)
theorem dX7_rule_92 : decode cX7_rule 92 = .ok (.istore_n 3, 1) := dk_62 (dk_at dksX7_rule_3 0 rfl rfl)
theorem dX7_rule_93 : decode cX7_rule 93 = .ok (.goto 56, 3) := dk_167 0 56 (dk_at dksX7_rule_3 1 rfl rfl)
theorem dX7_rule_96 : decode cX7_rule 96 = .ok (.aload_n 2, 1) := dk_44 (dk_at dksX7_rule_3 4 rfl rfl)
theorem dX7_rule_97 : decode cX7_rule 97 = .ok (.ldc 155, 2) := dk_18 155 (dk_at dksX7_rule_3 5 rfl rfl)
theorem dX7_rule_99 : decode cX7_rule 99 = .ok (.invokevirtual 72, 3) := dk_182 0 72 (dk_at dksX7_rule_3 7 rfl rfl)
theorem dX7_rule_102 : decode cX7_rule 102 = .ok (.ifCond .eq 47, 3) := dk_153 0 47 (dk_at dksX7_rule_3 10 rfl rfl)
theorem dX7_rule_105 : decode cX7_rule 105 = .ok (.iconst 2, 1) := dk_5 (dk_at dksX7_rule_3 13 rfl rfl)
theorem dX7_rule_106 : decode cX7_rule 106 = .ok (.istore_n 3, 1) := dk_62 (dk_at dksX7_rule_3 14 rfl rfl)
theorem dX7_rule_107 : decode cX7_rule 107 = .ok (.goto 42, 3) := dk_167 0 42 (dk_at dksX7_rule_3 15 rfl rfl)
theorem dX7_rule_110 : decode cX7_rule 110 = .ok (.aload_n 2, 1) := dk_44 (dk_at dksX7_rule_3 18 rfl rfl)
theorem dX7_rule_111 : decode cX7_rule 111 = .ok (.ldc 157, 2) := dk_18 157 (dk_at dksX7_rule_3 19 rfl rfl)
theorem dX7_rule_113 : decode cX7_rule 113 = .ok (.invokevirtual 72, 3) := dk_182 0 72 (dk_at dksX7_rule_3 21 rfl rfl)
theorem dX7_rule_116 : decode cX7_rule 116 = .ok (.ifCond .eq 33, 3) := dk_153 0 33 (dk_at dksX7_rule_4 0 rfl rfl)
theorem dX7_rule_119 : decode cX7_rule 119 = .ok (.iconst 3, 1) := dk_6 (dk_at dksX7_rule_4 3 rfl rfl)
theorem dX7_rule_120 : decode cX7_rule 120 = .ok (.istore_n 3, 1) := dk_62 (dk_at dksX7_rule_4 4 rfl rfl)
theorem dX7_rule_121 : decode cX7_rule 121 = .ok (.goto 28, 3) := dk_167 0 28 (dk_at dksX7_rule_4 5 rfl rfl)
theorem dX7_rule_124 : decode cX7_rule 124 = .ok (.aload_n 2, 1) := dk_44 (dk_at dksX7_rule_4 8 rfl rfl)
theorem dX7_rule_125 : decode cX7_rule 125 = .ok (.ldc 159, 2) := dk_18 159 (dk_at dksX7_rule_4 9 rfl rfl)
theorem dX7_rule_127 : decode cX7_rule 127 = .ok (.invokevirtual 72, 3) := dk_182 0 72 (dk_at dksX7_rule_4 11 rfl rfl)
theorem dX7_rule_130 : decode cX7_rule 130 = .ok (.ifCond .eq 19, 3) := dk_153 0 19 (dk_at dksX7_rule_4 14 rfl rfl)
theorem dX7_rule_133 : decode cX7_rule 133 = .ok (.iconst 4, 1) := dk_7 (dk_at dksX7_rule_4 17 rfl rfl)
theorem dX7_rule_134 : decode cX7_rule 134 = .ok (.istore_n 3, 1) := dk_62 (dk_at dksX7_rule_4 18 rfl rfl)
theorem dX7_rule_135 : decode cX7_rule 135 = .ok (.goto 14, 3) := dk_167 0 14 (dk_at dksX7_rule_4 19 rfl rfl)
theorem dX7_rule_138 : decode cX7_rule 138 = .ok (.aload_n 2, 1) := dk_44 (dk_at dksX7_rule_4 22 rfl rfl)
theorem dX7_rule_139 : decode cX7_rule 139 = .ok (.ldc 161, 2) := dk_18 161 (dk_at dksX7_rule_5 0 rfl rfl)
theorem dX7_rule_141 : decode cX7_rule 141 = .ok (.invokevirtual 72, 3) := dk_182 0 72 (dk_at dksX7_rule_5 2 rfl rfl)
theorem dX7_rule_144 : decode cX7_rule 144 = .ok (.ifCond .eq 5, 3) := dk_153 0 5 (dk_at dksX7_rule_5 5 rfl rfl)
theorem dX7_rule_147 : decode cX7_rule 147 = .ok (.iconst 5, 1) := dk_8 (dk_at dksX7_rule_5 8 rfl rfl)
theorem dX7_rule_148 : decode cX7_rule 148 = .ok (.istore_n 3, 1) := dk_62 (dk_at dksX7_rule_5 9 rfl rfl)
theorem dX7_rule_149 : decode cX7_rule 149 = .ok (.iload_n 3, 1) := dk_29 (dk_at dksX7_rule_5 10 rfl rfl)
theorem dX7_rule_150 : decode cX7_rule 150 = .ok (.tableswitch 318 0 5 #[38, 78, 121, 164, 199, 237], 38) := by decide +kernel
theorem dX7_rule_188 : decode cX7_rule 188 = .ok (.aload_n 0, 1) := dk_42 (dk_at dksX7_rule_7 0 rfl rfl)
theorem dX7_rule_189 : decode cX7_rule 189 = .ok (.aload_n 0, 1) := dk_42 (dk_at dksX7_rule_7 1 rfl rfl)
theorem dX7_rule_190 : decode cX7_rule 190 = .ok (.getfield 163, 3) := dk_180 0 163 (dk_at dksX7_rule_7 2 rfl rfl)
theorem dX7_rule_193 : decode cX7_rule 193 = .ok (.invokevirtual 167, 3) := dk_182 0 167 (dk_at dksX7_rule_7 5 rfl rfl)
theorem dX7_rule_196 : decode cX7_rule 196 = .ok (.aload_n 0, 1) := dk_42 (dk_at dksX7_rule_7 8 rfl rfl)
theorem dX7_rule_197 : decode cX7_rule 197 = .ok (.iconst 1, 1) := dk_4 (dk_at dksX7_rule_7 9 rfl rfl)
theorem dX7_rule_198 : decode cX7_rule 198 = .ok (.putfield 163, 3) := dk_181 0 163 (dk_at dksX7_rule_7 10 rfl rfl)
theorem dX7_rule_201 : decode cX7_rule 201 = .ok (.aload_n 0, 1) := dk_42 (dk_at dksX7_rule_7 13 rfl rfl)
theorem dX7_rule_202 : decode cX7_rule 202 = .ok (.dup, 1) := dk_89 (dk_at dksX7_rule_7 14 rfl rfl)
theorem dX7_rule_203 : decode cX7_rule 203 = .ok (.getfield 22, 3) := dk_180 0 22 (dk_at dksX7_rule_7 15 rfl rfl)
theorem dX7_rule_206 : decode cX7_rule 206 = .ok (.aload_n 1, 1) := dk_43 (dk_at dksX7_rule_7 18 rfl rfl)
theorem dX7_rule_207 : decode cX7_rule 207 = .ok (.invokevirtual 78, 3) := dk_182 0 78 (dk_at dksX7_rule_7 19 rfl rfl)
theorem dX7_rule_210 : decode cX7_rule 210 = .ok (.iadd, 1) := dk_96 (dk_at dksX7_rule_7 22 rfl rfl)
theorem dX7_rule_211 : decode cX7_rule 211 = .ok (.putfield 22, 3) := dk_181 0 22 (dk_at dksX7_rule_8 0 rfl rfl)
theorem dX7_rule_214 : decode cX7_rule 214 = .ok (.aload_n 0, 1) := dk_42 (dk_at dksX7_rule_8 3 rfl rfl)
theorem dX7_rule_215 : decode cX7_rule 215 = .ok (.getfield 18, 3) := dk_180 0 18 (dk_at dksX7_rule_8 4 rfl rfl)
theorem dX7_rule_218 : decode cX7_rule 218 = .ok (.aload_n 0, 1) := dk_42 (dk_at dksX7_rule_8 7 rfl rfl)
theorem dX7_rule_219 : decode cX7_rule 219 = .ok (.invokevirtual 170, 3) := dk_182 0 170 (dk_at dksX7_rule_8 8 rfl rfl)
theorem dX7_rule_222 : decode cX7_rule 222 = .ok (.putfield 174, 3) := dk_181 0 174 (dk_at dksX7_rule_8 11 rfl rfl)
theorem dX7_rule_225 : decode cX7_rule 225 = .ok (.goto 245, 3) := dk_167 0 245 (dk_at dksX7_rule_8 14 rfl rfl)
theorem dX7_rule_228 : decode cX7_rule 228 = .ok (.aload_n 0, 1) := dk_42 (dk_at dksX7_rule_8 17 rfl rfl)
theorem dX7_rule_229 : decode cX7_rule 229 = .ok (.aload_n 0, 1) := dk_42 (dk_at dksX7_rule_8 18 rfl rfl)
theorem dX7_rule_230 : decode cX7_rule 230 = .ok (.getfield 176, 3) := dk_180 0 176 (dk_at dksX7_rule_8 19 rfl rfl)
theorem dX7_rule_233 : decode cX7_rule 233 = .ok (.invokevirtual 167, 3) := dk_182 0 167 (dk_at dksX7_rule_9 0 rfl rfl)
theorem dX7_rule_236 : decode cX7_rule 236 = .ok (.aload_n 0, 1) := dk_42 (dk_at dksX7_rule_9 3 rfl rfl)
theorem dX7_rule_237 : decode cX7_rule 237 = .ok (.iconst 1, 1) := dk_4 (dk_at dksX7_rule_9 4 rfl rfl)
theorem dX7_rule_238 : decode cX7_rule 238 = .ok (.putfield 176, 3) := dk_181 0 176 (dk_at dksX7_rule_9 5 rfl rfl)
theorem dX7_rule_241 : decode cX7_rule 241 = .ok (.aload_n 0, 1) := dk_42 (dk_at dksX7_rule_9 8 rfl rfl)
theorem dX7_rule_242 : decode cX7_rule 242 = .ok (.dup, 1) := dk_89 (dk_at dksX7_rule_9 9 rfl rfl)
theorem dX7_rule_243 : decode cX7_rule 243 = .ok (.getfield 22, 3) := dk_180 0 22 (dk_at dksX7_rule_9 10 rfl rfl)
theorem dX7_rule_246 : decode cX7_rule 246 = .ok (.aload_n 1, 1) := dk_43 (dk_at dksX7_rule_9 13 rfl rfl)
theorem dX7_rule_247 : decode cX7_rule 247 = .ok (.invokevirtual 78, 3) := dk_182 0 78 (dk_at dksX7_rule_9 14 rfl rfl)
theorem dX7_rule_250 : decode cX7_rule 250 = .ok (.iadd, 1) := dk_96 (dk_at dksX7_rule_9 17 rfl rfl)
theorem dX7_rule_251 : decode cX7_rule 251 = .ok (.putfield 22, 3) := dk_181 0 22 (dk_at dksX7_rule_9 18 rfl rfl)
theorem dX7_rule_254 : decode cX7_rule 254 = .ok (.aload_n 0, 1) := dk_42 (dk_at dksX7_rule_9 21 rfl rfl)
theorem dX7_rule_255 : decode cX7_rule 255 = .ok (.getfield 18, 3) := dk_180 0 18 (dk_at dksX7_rule_10 0 rfl rfl)
theorem dX7_rule_258 : decode cX7_rule 258 = .ok (.aload_n 0, 1) := dk_42 (dk_at dksX7_rule_10 3 rfl rfl)
theorem dX7_rule_259 : decode cX7_rule 259 = .ok (.iconst 1, 1) := dk_4 (dk_at dksX7_rule_10 4 rfl rfl)
theorem dX7_rule_260 : decode cX7_rule 260 = .ok (.bipush 20, 2) := dk_16 20 (dk_at dksX7_rule_10 5 rfl rfl)
theorem dX7_rule_262 : decode cX7_rule 262 = .ok (.invokevirtual 120, 3) := dk_182 0 120 (dk_at dksX7_rule_10 7 rfl rfl)
theorem dX7_rule_265 : decode cX7_rule 265 = .ok (.putfield 179, 3) := dk_181 0 179 (dk_at dksX7_rule_10 10 rfl rfl)
theorem dX7_rule_268 : decode cX7_rule 268 = .ok (.goto 202, 3) := dk_167 0 202 (dk_at dksX7_rule_10 13 rfl rfl)
theorem dX7_rule_271 : decode cX7_rule 271 = .ok (.aload_n 0, 1) := dk_42 (dk_at dksX7_rule_10 16 rfl rfl)
theorem dX7_rule_272 : decode cX7_rule 272 = .ok (.aload_n 0, 1) := dk_42 (dk_at dksX7_rule_10 17 rfl rfl)
theorem dX7_rule_273 : decode cX7_rule 273 = .ok (.getfield 181, 3) := dk_180 0 181 (dk_at dksX7_rule_10 18 rfl rfl)
theorem dX7_rule_276 : decode cX7_rule 276 = .ok (.invokevirtual 167, 3) := dk_182 0 167 (dk_at dksX7_rule_10 21 rfl rfl)
theorem dX7_rule_279 : decode cX7_rule 279 = .ok (.aload_n 0, 1) := dk_42 (dk_at dksX7_rule_11 0 rfl rfl)
theorem dX7_rule_280 : decode cX7_rule 280 = .ok (.iconst 1, 1) := dk_4 (dk_at dksX7_rule_11 1 rfl rfl)
theorem dX7_rule_281 : decode cX7_rule 281 = .ok (.putfield 181, 3) := dk_181 0 181 (dk_at dksX7_rule_11 2 rfl rfl)
theorem dX7_rule_284 : decode cX7_rule 284 = .ok (.aload_n 0, 1) := dk_42 (dk_at dksX7_rule_11 5 rfl rfl)
theorem dX7_rule_285 : decode cX7_rule 285 = .ok (.dup, 1) := dk_89 (dk_at dksX7_rule_11 6 rfl rfl)
theorem dX7_rule_286 : decode cX7_rule 286 = .ok (.getfield 22, 3) := dk_180 0 22 (dk_at dksX7_rule_11 7 rfl rfl)
theorem dX7_rule_289 : decode cX7_rule 289 = .ok (.aload_n 1, 1) := dk_43 (dk_at dksX7_rule_11 10 rfl rfl)
theorem dX7_rule_290 : decode cX7_rule 290 = .ok (.invokevirtual 78, 3) := dk_182 0 78 (dk_at dksX7_rule_11 11 rfl rfl)
theorem dX7_rule_293 : decode cX7_rule 293 = .ok (.iadd, 1) := dk_96 (dk_at dksX7_rule_11 14 rfl rfl)
theorem dX7_rule_294 : decode cX7_rule 294 = .ok (.putfield 22, 3) := dk_181 0 22 (dk_at dksX7_rule_11 15 rfl rfl)
theorem dX7_rule_297 : decode cX7_rule 297 = .ok (.aload_n 0, 1) := dk_42 (dk_at dksX7_rule_11 18 rfl rfl)
theorem dX7_rule_298 : decode cX7_rule 298 = .ok (.getfield 18, 3) := dk_180 0 18 (dk_at dksX7_rule_11 19 rfl rfl)
theorem dX7_rule_301 : decode cX7_rule 301 = .ok (.aload_n 0, 1) := dk_42 (dk_at dksX7_rule_11 22 rfl rfl)
theorem dX7_rule_302 : decode cX7_rule 302 = .ok (.iconst 2, 1) := dk_5 (dk_at dksX7_rule_11 23 rfl rfl)
theorem dX7_rule_303 : decode cX7_rule 303 = .ok (.bipush 20, 2) := dk_16 20 (dk_at dksX7_rule_12 0 rfl rfl)
theorem dX7_rule_305 : decode cX7_rule 305 = .ok (.invokevirtual 120, 3) := dk_182 0 120 (dk_at dksX7_rule_12 2 rfl rfl)
theorem dX7_rule_308 : decode cX7_rule 308 = .ok (.putfield 184, 3) := dk_181 0 184 (dk_at dksX7_rule_12 5 rfl rfl)
theorem dX7_rule_311 : decode cX7_rule 311 = .ok (.goto 159, 3) := dk_167 0 159 (dk_at dksX7_rule_12 8 rfl rfl)
theorem dX7_rule_314 : decode cX7_rule 314 = .ok (.aload_n 0, 1) := dk_42 (dk_at dksX7_rule_12 11 rfl rfl)
theorem dX7_rule_315 : decode cX7_rule 315 = .ok (.aload_n 0, 1) := dk_42 (dk_at dksX7_rule_12 12 rfl rfl)
theorem dX7_rule_316 : decode cX7_rule 316 = .ok (.getfield 18, 3) := dk_180 0 18 (dk_at dksX7_rule_12 13 rfl rfl)
theorem dX7_rule_319 : decode cX7_rule 319 = .ok (.getfield 186, 3) := dk_180 0 186 (dk_at dksX7_rule_12 16 rfl rfl)
theorem dX7_rule_322 : decode cX7_rule 322 = .ok (.invokevirtual 167, 3) := dk_182 0 167 (dk_at dksX7_rule_12 19 rfl rfl)
theorem dX7_rule_325 : decode cX7_rule 325 = .ok (.aload_n 0, 1) := dk_42 (dk_at dksX7_rule_12 22 rfl rfl)
theorem dX7_rule_326 : decode cX7_rule 326 = .ok (.getfield 18, 3) := dk_180 0 18 (dk_at dksX7_rule_13 0 rfl rfl)
theorem dX7_rule_329 : decode cX7_rule 329 = .ok (.iconst 1, 1) := dk_4 (dk_at dksX7_rule_13 3 rfl rfl)
theorem dX7_rule_330 : decode cX7_rule 330 = .ok (.putfield 186, 3) := dk_181 0 186 (dk_at dksX7_rule_13 4 rfl rfl)
theorem dX7_rule_333 : decode cX7_rule 333 = .ok (.aload_n 0, 1) := dk_42 (dk_at dksX7_rule_13 7 rfl rfl)
theorem dX7_rule_334 : decode cX7_rule 334 = .ok (.dup, 1) := dk_89 (dk_at dksX7_rule_13 8 rfl rfl)
theorem dX7_rule_335 : decode cX7_rule 335 = .ok (.getfield 22, 3) := dk_180 0 22 (dk_at dksX7_rule_13 9 rfl rfl)
theorem dX7_rule_338 : decode cX7_rule 338 = .ok (.aload_n 1, 1) := dk_43 (dk_at dksX7_rule_13 12 rfl rfl)
theorem dX7_rule_339 : decode cX7_rule 339 = .ok (.invokevirtual 78, 3) := dk_182 0 78 (dk_at dksX7_rule_13 13 rfl rfl)
theorem dX7_rule_342 : decode cX7_rule 342 = .ok (.iadd, 1) := dk_96 (dk_at dksX7_rule_13 16 rfl rfl)
theorem dX7_rule_343 : decode cX7_rule 343 = .ok (.putfield 22, 3) := dk_181 0 22 (dk_at dksX7_rule_13 17 rfl rfl)
theorem dX7_rule_346 : decode cX7_rule 346 = .ok (.goto 124, 3) := dk_167 0 124 (dk_at dksX7_rule_13 20 rfl rfl)
theorem dX7_rule_349 : decode cX7_rule 349 = .ok (.aload_n 0, 1) := dk_42 (dk_at dksX7_rule_13 23 rfl rfl)
theorem dX7_rule_350 : decode cX7_rule 350 = .ok (.dup, 1) := dk_89 (dk_at dksX7_rule_14 0 rfl rfl)
theorem dX7_rule_351 : decode cX7_rule 351 = .ok (.getfield 22, 3) := dk_180 0 22 (dk_at dksX7_rule_14 1 rfl rfl)
theorem dX7_rule_354 : decode cX7_rule 354 = .ok (.aload_n 1, 1) := dk_43 (dk_at dksX7_rule_14 4 rfl rfl)
theorem dX7_rule_355 : decode cX7_rule 355 = .ok (.invokevirtual 78, 3) := dk_182 0 78 (dk_at dksX7_rule_14 5 rfl rfl)
theorem dX7_rule_358 : decode cX7_rule 358 = .ok (.iadd, 1) := dk_96 (dk_at dksX7_rule_14 8 rfl rfl)
theorem dX7_rule_359 : decode cX7_rule 359 = .ok (.putfield 22, 3) := dk_181 0 22 (dk_at dksX7_rule_14 9 rfl rfl)
theorem dX7_rule_362 : decode cX7_rule 362 = .ok (.aload_n 0, 1) := dk_42 (dk_at dksX7_rule_14 12 rfl rfl)
theorem dX7_rule_363 : decode cX7_rule 363 = .ok (.getfield 18, 3) := dk_180 0 18 (dk_at dksX7_rule_14 13 rfl rfl)
theorem dX7_rule_366 : decode cX7_rule 366 = .ok (.dup, 1) := dk_89 (dk_at dksX7_rule_14 16 rfl rfl)
theorem dX7_rule_367 : decode cX7_rule 367 = .ok (.getfield 189, 3) := dk_180 0 189 (dk_at dksX7_rule_14 17 rfl rfl)
theorem dX7_rule_370 : decode cX7_rule 370 = .ok (.iconst 1, 1) := dk_4 (dk_at dksX7_rule_14 20 rfl rfl)
theorem dX7_rule_371 : decode cX7_rule 371 = .ok (.aload_n 0, 1) := dk_42 (dk_at dksX7_rule_14 21 rfl rfl)
theorem dX7_rule_372 : decode cX7_rule 372 = .ok (.aload_n 0, 1) := dk_42 (dk_at dksX7_rule_14 22 rfl rfl)
theorem dX7_rule_373 : decode cX7_rule 373 = .ok (.invokevirtual 133, 3) := dk_182 0 133 (dk_at dksX7_rule_15 0 rfl rfl)
theorem dX7_rule_376 : decode cX7_rule 376 = .ok (.invokevirtual 136, 3) := dk_182 0 136 (dk_at dksX7_rule_15 3 rfl rfl)
theorem dX7_rule_379 : decode cX7_rule 379 = .ok (.ishl, 1) := dk_120 (dk_at dksX7_rule_15 6 rfl rfl)
theorem dX7_rule_380 : decode cX7_rule 380 = .ok (.ior, 1) := dk_128 (dk_at dksX7_rule_15 7 rfl rfl)
theorem dX7_rule_381 : decode cX7_rule 381 = .ok (.putfield 189, 3) := dk_181 0 189 (dk_at dksX7_rule_15 8 rfl rfl)
theorem dX7_rule_384 : decode cX7_rule 384 = .ok (.goto 86, 3) := dk_167 0 86 (dk_at dksX7_rule_15 11 rfl rfl)
theorem dX7_rule_387 : decode cX7_rule 387 = .ok (.aload_n 0, 1) := dk_42 (dk_at dksX7_rule_15 14 rfl rfl)
theorem dX7_rule_388 : decode cX7_rule 388 = .ok (.aload_n 0, 1) := dk_42 (dk_at dksX7_rule_15 15 rfl rfl)
theorem dX7_rule_389 : decode cX7_rule 389 = .ok (.getfield 18, 3) := dk_180 0 18 (dk_at dksX7_rule_15 16 rfl rfl)
theorem dX7_rule_392 : decode cX7_rule 392 = .ok (.getfield 191, 3) := dk_180 0 191 (dk_at dksX7_rule_15 19 rfl rfl)
theorem dX7_rule_395 : decode cX7_rule 395 = .ok (.invokeinterface 194 1, 5) := by decide +kernel
theorem dX7_rule_400 : decode cX7_rule 400 = .ok (.iconst 4, 1) := dk_7 (dk_at dksX7_rule_16 5 rfl rfl)
theorem dX7_rule_401 : decode cX7_rule 401 = .ok (.if_icmp .ge 7, 3) := dk_162 0 7 (dk_at dksX7_rule_16 6 rfl rfl)
theorem dX7_rule_404 : decode cX7_rule 404 = .ok (.iconst 1, 1) := dk_4 (dk_at dksX7_rule_16 9 rfl rfl)
theorem dX7_rule_405 : decode cX7_rule 405 = .ok (.goto 4, 3) := dk_167 0 4 (dk_at dksX7_rule_16 10 rfl rfl)
theorem dX7_rule_408 : decode cX7_rule 408 = .ok (.iconst 0, 1) := dk_3 (dk_at dksX7_rule_16 13 rfl rfl)
theorem dX7_rule_409 : decode cX7_rule 409 = .ok (.iconst 5, 1) := dk_8 (dk_at dksX7_rule_16 14 rfl rfl)
theorem dX7_rule_410 : decode cX7_rule 410 = .ok (.invokevirtual 89, 3) := dk_182 0 89 (dk_at dksX7_rule_16 15 rfl rfl)
theorem dX7_rule_413 : decode cX7_rule 413 = .ok (.aload_n 0, 1) := dk_42 (dk_at dksX7_rule_16 18 rfl rfl)
theorem dX7_rule_414 : decode cX7_rule 414 = .ok (.dup, 1) := dk_89 (dk_at dksX7_rule_16 19 rfl rfl)
theorem dX7_rule_415 : decode cX7_rule 415 = .ok (.getfield 22, 3) := dk_180 0 22 (dk_at dksX7_rule_16 20 rfl rfl)
theorem dX7_rule_418 : decode cX7_rule 418 = .ok (.aload_n 1, 1) := dk_43 (dk_at dksX7_rule_16 23 rfl rfl)
theorem dX7_rule_419 : decode cX7_rule 419 = .ok (.invokevirtual 78, 3) := dk_182 0 78 (dk_at dksX7_rule_17 0 rfl rfl)
theorem dX7_rule_422 : decode cX7_rule 422 = .ok (.iadd, 1) := dk_96 (dk_at dksX7_rule_17 3 rfl rfl)
theorem dX7_rule_423 : decode cX7_rule 423 = .ok (.putfield 22, 3) := dk_181 0 22 (dk_at dksX7_rule_17 4 rfl rfl)
theorem dX7_rule_426 : decode cX7_rule 426 = .ok (.aload_n 0, 1) := dk_42 (dk_at dksX7_rule_17 7 rfl rfl)
theorem dX7_rule_427 : decode cX7_rule 427 = .ok (.iconst 1, 1) := dk_4 (dk_at dksX7_rule_17 8 rfl rfl)
theorem dX7_rule_428 : decode cX7_rule 428 = .ok (.sipush 999, 3) := dk_17 3 231 (dk_at dksX7_rule_17 9 rfl rfl)
theorem dX7_rule_431 : decode cX7_rule 431 = .ok (.invokevirtual 120, 3) := dk_182 0 120 (dk_at dksX7_rule_17 12 rfl rfl)
theorem dX7_rule_434 : decode cX7_rule 434 = .ok (.istore 4, 2) := dk_54 4 (dk_at dksX7_rule_17 15 rfl rfl)
theorem dX7_rule_436 : decode cX7_rule 436 = .ok (.aload_n 0, 1) := dk_42 (dk_at dksX7_rule_17 17 rfl rfl)
theorem dX7_rule_437 : decode cX7_rule 437 = .ok (.getfield 18, 3) := dk_180 0 18 (dk_at dksX7_rule_17 18 rfl rfl)
theorem dX7_rule_440 : decode cX7_rule 440 = .ok (.getfield 191, 3) := dk_180 0 191 (dk_at dksX7_rule_17 21 rfl rfl)
theorem dX7_rule_443 : decode cX7_rule 443 = .ok (.new 195, 3) := dk_187 0 195 (dk_at dksX7_rule_18 0 rfl rfl)
theorem dX7_rule_446 : decode cX7_rule 446 = .ok (.dup, 1) := dk_89 (dk_at dksX7_rule_18 3 rfl rfl)
theorem dX7_rule_447 : decode cX7_rule 447 = .ok (.iload 4, 2) := dk_21 4 (dk_at dksX7_rule_18 4 rfl rfl)
theorem dX7_rule_449 : decode cX7_rule 449 = .ok (.aload_n 0, 1) := dk_42 (dk_at dksX7_rule_18 6 rfl rfl)
theorem dX7_rule_450 : decode cX7_rule 450 = .ok (.iconst 1, 1) := dk_4 (dk_at dksX7_rule_18 7 rfl rfl)
theorem dX7_rule_451 : decode cX7_rule 451 = .ok (.bipush 50, 2) := dk_16 50 (dk_at dksX7_rule_18 8 rfl rfl)
theorem dX7_rule_453 : decode cX7_rule 453 = .ok (.invokevirtual 120, 3) := dk_182 0 120 (dk_at dksX7_rule_18 10 rfl rfl)
theorem dX7_rule_456 : decode cX7_rule 456 = .ok (.invokespecial 197, 3) := dk_183 0 197 (dk_at dksX7_rule_18 13 rfl rfl)
theorem dX7_rule_459 : decode cX7_rule 459 = .ok (.invokeinterface 127 2, 5) := by decide +kernel
theorem dX7_rule_464 : decode cX7_rule 464 = .ok (.pop, 1) := dk_87 (dk_at dksX7_rule_18 21 rfl rfl)
theorem dX7_rule_465 : decode cX7_rule 465 = .ok (.goto 5, 3) := dk_167 0 5 (dk_at dksX7_rule_19 0 rfl rfl)
theorem dX7_rule_468 : decode cX7_rule 468 = .ok (.iconst 0, 1) := dk_3 (dk_at dksX7_rule_19 3 rfl rfl)
theorem dX7_rule_469 : decode cX7_rule 469 = .ok (.ireturn, 1) := dk_172 (dk_at dksX7_rule_19 4 rfl rfl)
theorem dX7_rule_470 : decode cX7_rule 470 = .ok (.iconst 1, 1) := dk_4 (dk_at dksX7_rule_19 5 rfl rfl)
theorem dX7_rule_471 : decode cX7_rule 471 = .ok (.ireturn, 1) := dk_172 (dk_at dksX7_rule_19 6 rfl rfl)
def dkwX7_once_0 : List UInt8 := [42, 27, 154, 0, 7, 4, 167, 0, 4, 3, 8, 182, 0, 89, 177]
abbrev dktX7_once_0 : List UInt8 := dkwX7_once_0 ++ []
theorem dksX7_once_0 : cX7_once.data.toList.drop 0 = dktX7_once_0 := by decide +kernel
theorem dX7_once_0 : decode cX7_once 0 = .ok (.aload_n 0, 1) := dk_42 (dk_at dksX7_once_0 0 rfl rfl)
theorem dX7_once_1 : decode cX7_once 1 = .ok (.iload_n 1, 1) := dk_27 (dk_at dksX7_once_0 1 rfl rfl)
theorem dX7_once_2 : decode cX7_once 2 = .ok (.ifCond .ne 7, 3) := dk_154 0 7 (dk_at dksX7_once_0 2 rfl rfl)
theorem dX7_once_5 : decode cX7_once 5 = .ok (.iconst 1, 1) := dk_4 (dk_at dksX7_once_0 5 rfl rfl)
theorem dX7_once_6 : decode cX7_once 6 = .ok (.goto 4, 3) := dk_167 0 4 (dk_at dksX7_once_0 6 rfl rfl)
theorem dX7_once_9 : decode cX7_once 9 = .ok (.iconst 0, 1) := dk_3 (dk_at dksX7_once_0 9 rfl rfl)
theorem dX7_once_10 : decode cX7_once 10 = .ok (.iconst 5, 1) := dk_8 (dk_at dksX7_once_0 10 rfl rfl)
theorem dX7_once_11 : decode cX7_once 11 = .ok (.invokevirtual 89, 3) := dk_182 0 89 (dk_at dksX7_once_0 11 rfl rfl)
theorem dX7_once_14 : decode cX7_once 14 = .ok (.return_, 1) := dk_177 (dk_at dksX7_once_0 14 rfl rfl)
def dkwX7_script_7 : List UInt8 := [132, 3, 1, 167, 255, 227, 44, 176]
abbrev dktX7_script_7 : List UInt8 := dkwX7_script_7 ++ []
def dkwX7_script_6 : List UInt8 := [162, 0, 29, 44, 29, 42, 180, 0, 3, 180, 0, 29, 42, 180, 0, 33, 29, 96, 51, 16, 48, 100, 79]
abbrev dktX7_script_6 : List UInt8 := dkwX7_script_6 ++ dktX7_script_7
def dkwX7_script_5 : List UInt8 := [167, 0, 4, 3, 182, 0, 81, 42, 180, 0, 22, 42, 180, 0, 33, 100, 188, 10, 77, 3, 62, 29, 44, 190]
abbrev dktX7_script_5 : List UInt8 := dkwX7_script_5 ++ dktX7_script_6
def dkwX7_script_4 : List UInt8 := [167, 255, 182, 42, 27, 153, 0, 21, 42, 180, 0, 22, 42, 180, 0, 33, 100, 16, 24, 163, 0, 7, 4]
abbrev dktX7_script_4 : List UInt8 := dkwX7_script_4 ++ dktX7_script_5
def dkwX7_script_3 : List UInt8 := [51, 16, 49, 163, 0, 7, 4, 167, 0, 4, 3, 126, 60, 42, 89, 180, 0, 22, 4, 96, 181, 0, 22]
abbrev dktX7_script_3 : List UInt8 := dkwX7_script_3 ++ dktX7_script_4
def dkwX7_script_2 : List UInt8 := [20, 0, 85, 20, 0, 87, 184, 0, 57, 153, 0, 41, 27, 42, 180, 0, 3, 180, 0, 29, 42, 180, 0, 22]
abbrev dktX7_script_2 : List UInt8 := dkwX7_script_2 ++ dktX7_script_3
def dkwX7_script_1 : List UInt8 := [42, 180, 0, 3, 180, 0, 26, 162, 0, 66, 42, 180, 0, 3, 180, 0, 29, 42, 180, 0, 22, 51, 133]
abbrev dktX7_script_1 : List UInt8 := dkwX7_script_1 ++ dktX7_script_2
def dkwX7_script_0 : List UInt8 := [42, 42, 182, 0, 46, 133, 20, 0, 85, 20, 0, 87, 184, 0, 57, 182, 0, 81, 4, 60, 42, 180, 0, 22]
abbrev dktX7_script_0 : List UInt8 := dkwX7_script_0 ++ dktX7_script_1
theorem dksX7_script_0 : cX7_script.data.toList.drop 0 = dktX7_script_0 := by decide +kernel
theorem dksX7_script_1 : cX7_script.data.toList.drop 24 = dktX7_script_1 := dk_seg dksX7_script_0 24 rfl rfl
theorem dksX7_script_2 : cX7_script.data.toList.drop 47 = dktX7_script_2 := dk_seg dksX7_script_1 23 rfl rfl
theorem dksX7_script_3 : cX7_script.data.toList.drop 71 = dktX7_script_3 := dk_seg dksX7_script_2 24 rfl rfl
theorem dksX7_script_4 : cX7_script.data.toList.drop 94 = dktX7_script_4 := dk_seg dksX7_script_3 23 rfl rfl
theorem dksX7_script_5 : cX7_script.data.toList.drop 117 = dktX7_script_5 := dk_seg dksX7_script_4 23 rfl rfl
theorem dksX7_script_6 : cX7_script.data.toList.drop 141 = dktX7_script_6 := dk_seg dksX7_script_5 24 rfl rfl
theorem dksX7_script_7 : cX7_script.data.toList.drop 164 = dktX7_script_7 := dk_seg dksX7_script_6 23 rfl rfl
theorem dX7_script_0 : decode cX7_script 0 = .ok (.aload_n 0, 1) := dk_42 (dk_at dksX7_script_0 0 rfl rfl)
theorem dX7_script_1 : decode cX7_script 1 = .ok (.aload_n 0, 1) := dk_42 (dk_at dksX7_script_0 1 rfl rfl)
theorem dX7_script_2 : decode cX7_script 2 = .ok (.invokevirtual 46, 3) := dk_182 0 46 (dk_at dksX7_script_0 2 rfl rfl)
theorem dX7_script_5 : decode cX7_script 5 = .ok (.i2l, 1) := dk_133 (dk_at dksX7_script_0 5 rfl rfl)
theorem dX7_script_6 : decode cX7_script 6 = .ok (.ldc2_w 85, 3) := dk_20 0 85 (dk_at dksX7_script_0 6 rfl rfl)
theorem dX7_script_9 : decode cX7_script 9 = .ok (.ldc2_w 87, 3) := dk_20 0 87 (dk_at dksX7_script_0 9 rfl rfl)
theorem dX7_script_12 : decode cX7_script 12 = .ok (.invokestatic 57, 3) := dk_184 0 57 (dk_at dksX7_script_0 12 rfl rfl)
theorem dX7_script_15 : decode cX7_script 15 = .ok (.invokevirtual 81, 3) := dk_182 0 81 (dk_at dksX7_script_0 15 rfl rfl)
theorem dX7_script_18 : decode cX7_script 18 = .ok (.iconst 1, 1) := dk_4 (dk_at dksX7_script_0 18 rfl rfl)
theorem dX7_script_19 : decode cX7_script 19 = .ok (.istore_n 1, 1) := dk_60 (dk_at dksX7_script_0 19 rfl rfl)
theorem dX7_script_20 : decode cX7_script 20 = .ok (.aload_n 0, 1) := dk_42 (dk_at dksX7_script_0 20 rfl rfl)
theorem dX7_script_21 : decode cX7_script 21 = .ok (.getfield 22, 3) := dk_180 0 22 (dk_at dksX7_script_0 21 rfl rfl)
theorem dX7_script_24 : decode cX7_script 24 = .ok (.aload_n 0, 1) := dk_42 (dk_at dksX7_script_1 0 rfl rfl)
theorem dX7_script_25 : decode cX7_script 25 = .ok (.getfield 3, 3) := dk_180 0 3 (dk_at dksX7_script_1 1 rfl rfl)
theorem dX7_script_28 : decode cX7_script 28 = .ok (.getfield 26, 3) := dk_180 0 26 (dk_at dksX7_script_1 4 rfl rfl)
theorem dX7_script_31 : decode cX7_script 31 = .ok (.if_icmp .ge 66, 3) := dk_162 0 66 (dk_at dksX7_script_1 7 rfl rfl)
theorem dX7_script_34 : decode cX7_script 34 = .ok (.aload_n 0, 1) := dk_42 (dk_at dksX7_script_1 10 rfl rfl)
theorem dX7_script_35 : decode cX7_script 35 = .ok (.getfield 3, 3) := dk_180 0 3 (dk_at dksX7_script_1 11 rfl rfl)
theorem dX7_script_38 : decode cX7_script 38 = .ok (.getfield 29, 3) := dk_180 0 29 (dk_at dksX7_script_1 14 rfl rfl)
theorem dX7_script_41 : decode cX7_script 41 = .ok (.aload_n 0, 1) := dk_42 (dk_at dksX7_script_1 17 rfl rfl)
theorem dX7_script_42 : decode cX7_script 42 = .ok (.getfield 22, 3) := dk_180 0 22 (dk_at dksX7_script_1 18 rfl rfl)
theorem dX7_script_45 : decode cX7_script 45 = .ok (.baload, 1) := dk_51 (dk_at dksX7_script_1 21 rfl rfl)
theorem dX7_script_46 : decode cX7_script 46 = .ok (.i2l, 1) := dk_133 (dk_at dksX7_script_1 22 rfl rfl)
theorem dX7_script_47 : decode cX7_script 47 = .ok (.ldc2_w 85, 3) := dk_20 0 85 (dk_at dksX7_script_2 0 rfl rfl)
theorem dX7_script_50 : decode cX7_script 50 = .ok (.ldc2_w 87, 3) := dk_20 0 87 (dk_at dksX7_script_2 3 rfl rfl)
theorem dX7_script_53 : decode cX7_script 53 = .ok (.invokestatic 57, 3) := dk_184 0 57 (dk_at dksX7_script_2 6 rfl rfl)
theorem dX7_script_56 : decode cX7_script 56 = .ok (.ifCond .eq 41, 3) := dk_153 0 41 (dk_at dksX7_script_2 9 rfl rfl)
theorem dX7_script_59 : decode cX7_script 59 = .ok (.iload_n 1, 1) := dk_27 (dk_at dksX7_script_2 12 rfl rfl)
theorem dX7_script_60 : decode cX7_script 60 = .ok (.aload_n 0, 1) := dk_42 (dk_at dksX7_script_2 13 rfl rfl)
theorem dX7_script_61 : decode cX7_script 61 = .ok (.getfield 3, 3) := dk_180 0 3 (dk_at dksX7_script_2 14 rfl rfl)
theorem dX7_script_64 : decode cX7_script 64 = .ok (.getfield 29, 3) := dk_180 0 29 (dk_at dksX7_script_2 17 rfl rfl)
theorem dX7_script_67 : decode cX7_script 67 = .ok (.aload_n 0, 1) := dk_42 (dk_at dksX7_script_2 20 rfl rfl)
theorem dX7_script_68 : decode cX7_script 68 = .ok (.getfield 22, 3) := dk_180 0 22 (dk_at dksX7_script_2 21 rfl rfl)
theorem dX7_script_71 : decode cX7_script 71 = .ok (.baload, 1) := dk_51 (dk_at dksX7_script_3 0 rfl rfl)
theorem dX7_script_72 : decode cX7_script 72 = .ok (.bipush 49, 2) := dk_16 49 (dk_at dksX7_script_3 1 rfl rfl)
theorem dX7_script_74 : decode cX7_script 74 = .ok (.if_icmp .gt 7, 3) := dk_163 0 7 (dk_at dksX7_script_3 3 rfl rfl)
theorem dX7_script_77 : decode cX7_script 77 = .ok (.iconst 1, 1) := dk_4 (dk_at dksX7_script_3 6 rfl rfl)
theorem dX7_script_78 : decode cX7_script 78 = .ok (.goto 4, 3) := dk_167 0 4 (dk_at dksX7_script_3 7 rfl rfl)
theorem dX7_script_81 : decode cX7_script 81 = .ok (.iconst 0, 1) := dk_3 (dk_at dksX7_script_3 10 rfl rfl)
theorem dX7_script_82 : decode cX7_script 82 = .ok (.iand, 1) := dk_126 (dk_at dksX7_script_3 11 rfl rfl)
theorem dX7_script_83 : decode cX7_script 83 = .ok (.istore_n 1, 1) := dk_60 (dk_at dksX7_script_3 12 rfl rfl)
theorem dX7_script_84 : decode cX7_script 84 = .ok (.aload_n 0, 1) := dk_42 (dk_at dksX7_script_3 13 rfl rfl)
theorem dX7_script_85 : decode cX7_script 85 = .ok (.dup, 1) := dk_89 (dk_at dksX7_script_3 14 rfl rfl)
theorem dX7_script_86 : decode cX7_script 86 = .ok (.getfield 22, 3) := dk_180 0 22 (dk_at dksX7_script_3 15 rfl rfl)
theorem dX7_script_89 : decode cX7_script 89 = .ok (.iconst 1, 1) := dk_4 (dk_at dksX7_script_3 18 rfl rfl)
theorem dX7_script_90 : decode cX7_script 90 = .ok (.iadd, 1) := dk_96 (dk_at dksX7_script_3 19 rfl rfl)
theorem dX7_script_91 : decode cX7_script 91 = .ok (.putfield 22, 3) := dk_181 0 22 (dk_at dksX7_script_3 20 rfl rfl)
theorem dX7_script_94 : decode cX7_script 94 = .ok (.goto (-74), 3) := dk_167 255 182 (dk_at dksX7_script_4 0 rfl rfl)
theorem dX7_script_97 : decode cX7_script 97 = .ok (.aload_n 0, 1) := dk_42 (dk_at dksX7_script_4 3 rfl rfl)
theorem dX7_script_98 : decode cX7_script 98 = .ok (.iload_n 1, 1) := dk_27 (dk_at dksX7_script_4 4 rfl rfl)
theorem dX7_script_99 : decode cX7_script 99 = .ok (.ifCond .eq 21, 3) := dk_153 0 21 (dk_at dksX7_script_4 5 rfl rfl)
theorem dX7_script_102 : decode cX7_script 102 = .ok (.aload_n 0, 1) := dk_42 (dk_at dksX7_script_4 8 rfl rfl)
theorem dX7_script_103 : decode cX7_script 103 = .ok (.getfield 22, 3) := dk_180 0 22 (dk_at dksX7_script_4 9 rfl rfl)
theorem dX7_script_106 : decode cX7_script 106 = .ok (.aload_n 0, 1) := dk_42 (dk_at dksX7_script_4 12 rfl rfl)
theorem dX7_script_107 : decode cX7_script 107 = .ok (.getfield 33, 3) := dk_180 0 33 (dk_at dksX7_script_4 13 rfl rfl)
theorem dX7_script_110 : decode cX7_script 110 = .ok (.isub, 1) := dk_100 (dk_at dksX7_script_4 16 rfl rfl)
theorem dX7_script_111 : decode cX7_script 111 = .ok (.bipush 24, 2) := dk_16 24 (dk_at dksX7_script_4 17 rfl rfl)
theorem dX7_script_113 : decode cX7_script 113 = .ok (.if_icmp .gt 7, 3) := dk_163 0 7 (dk_at dksX7_script_4 19 rfl rfl)
theorem dX7_script_116 : decode cX7_script 116 = .ok (.iconst 1, 1) := dk_4 (dk_at dksX7_script_4 22 rfl rfl)
theorem dX7_script_117 : decode cX7_script 117 = .ok (.goto 4, 3) := dk_167 0 4 (dk_at dksX7_script_5 0 rfl rfl)
theorem dX7_script_120 : decode cX7_script 120 = .ok (.iconst 0, 1) := dk_3 (dk_at dksX7_script_5 3 rfl rfl)
theorem dX7_script_121 : decode cX7_script 121 = .ok (.invokevirtual 81, 3) := dk_182 0 81 (dk_at dksX7_script_5 4 rfl rfl)
theorem dX7_script_124 : decode cX7_script 124 = .ok (.aload_n 0, 1) := dk_42 (dk_at dksX7_script_5 7 rfl rfl)
theorem dX7_script_125 : decode cX7_script 125 = .ok (.getfield 22, 3) := dk_180 0 22 (dk_at dksX7_script_5 8 rfl rfl)
theorem dX7_script_128 : decode cX7_script 128 = .ok (.aload_n 0, 1) := dk_42 (dk_at dksX7_script_5 11 rfl rfl)
theorem dX7_script_129 : decode cX7_script 129 = .ok (.getfield 33, 3) := dk_180 0 33 (dk_at dksX7_script_5 12 rfl rfl)
theorem dX7_script_132 : decode cX7_script 132 = .ok (.isub, 1) := dk_100 (dk_at dksX7_script_5 15 rfl rfl)
theorem dX7_script_133 : decode cX7_script 133 = .ok (.newarray .int, 2) := dk_188_10 (dk_at dksX7_script_5 16 rfl rfl)
theorem dX7_script_135 : decode cX7_script 135 = .ok (.astore_n 2, 1) := dk_77 (dk_at dksX7_script_5 18 rfl rfl)
theorem dX7_script_136 : decode cX7_script 136 = .ok (.iconst 0, 1) := dk_3 (dk_at dksX7_script_5 19 rfl rfl)
theorem dX7_script_137 : decode cX7_script 137 = .ok (.istore_n 3, 1) := dk_62 (dk_at dksX7_script_5 20 rfl rfl)
theorem dX7_script_138 : decode cX7_script 138 = .ok (.iload_n 3, 1) := dk_29 (dk_at dksX7_script_5 21 rfl rfl)
theorem dX7_script_139 : decode cX7_script 139 = .ok (.aload_n 2, 1) := dk_44 (dk_at dksX7_script_5 22 rfl rfl)
theorem dX7_script_140 : decode cX7_script 140 = .ok (.arraylength, 1) := dk_190 (dk_at dksX7_script_5 23 rfl rfl)
theorem dX7_script_141 : decode cX7_script 141 = .ok (.if_icmp .ge 29, 3) := dk_162 0 29 (dk_at dksX7_script_6 0 rfl rfl)
theorem dX7_script_144 : decode cX7_script 144 = .ok (.aload_n 2, 1) := dk_44 (dk_at dksX7_script_6 3 rfl rfl)
theorem dX7_script_145 : decode cX7_script 145 = .ok (.iload_n 3, 1) := dk_29 (dk_at dksX7_script_6 4 rfl rfl)
theorem dX7_script_146 : decode cX7_script 146 = .ok (.aload_n 0, 1) := dk_42 (dk_at dksX7_script_6 5 rfl rfl)
theorem dX7_script_147 : decode cX7_script 147 = .ok (.getfield 3, 3) := dk_180 0 3 (dk_at dksX7_script_6 6 rfl rfl)
theorem dX7_script_150 : decode cX7_script 150 = .ok (.getfield 29, 3) := dk_180 0 29 (dk_at dksX7_script_6 9 rfl rfl)
theorem dX7_script_153 : decode cX7_script 153 = .ok (.aload_n 0, 1) := dk_42 (dk_at dksX7_script_6 12 rfl rfl)
theorem dX7_script_154 : decode cX7_script 154 = .ok (.getfield 33, 3) := dk_180 0 33 (dk_at dksX7_script_6 13 rfl rfl)
theorem dX7_script_157 : decode cX7_script 157 = .ok (.iload_n 3, 1) := dk_29 (dk_at dksX7_script_6 16 rfl rfl)
theorem dX7_script_158 : decode cX7_script 158 = .ok (.iadd, 1) := dk_96 (dk_at dksX7_script_6 17 rfl rfl)
theorem dX7_script_159 : decode cX7_script 159 = .ok (.baload, 1) := dk_51 (dk_at dksX7_script_6 18 rfl rfl)
theorem dX7_script_160 : decode cX7_script 160 = .ok (.bipush 48, 2) := dk_16 48 (dk_at dksX7_script_6 19 rfl rfl)
theorem dX7_script_162 : decode cX7_script 162 = .ok (.isub, 1) := dk_100 (dk_at dksX7_script_6 21 rfl rfl)
theorem dX7_script_163 : decode cX7_script 163 = .ok (.iastore, 1) := dk_79 (dk_at dksX7_script_6 22 rfl rfl)
theorem dX7_script_164 : decode cX7_script 164 = .ok (.iinc 3 1, 3) := dk_132 3 1 (dk_at dksX7_script_7 0 rfl rfl)
theorem dX7_script_167 : decode cX7_script 167 = .ok (.goto (-29), 3) := dk_167 255 227 (dk_at dksX7_script_7 3 rfl rfl)
theorem dX7_script_170 : decode cX7_script 170 = .ok (.aload_n 2, 1) := dk_44 (dk_at dksX7_script_7 6 rfl rfl)
theorem dX7_script_171 : decode cX7_script 171 = .ok (.areturn, 1) := dk_176 (dk_at dksX7_script_7 7 rfl rfl)
def dkwX8_init_0 : List UInt8 := [42, 1, 1, 3, 3, 183, 0, 1, 42, 27, 181, 0, 7, 42, 28, 181, 0, 13, 177]
abbrev dktX8_init_0 : List UInt8 := dkwX8_init_0 ++ []
theorem dksX8_init_0 : cX8_init.data.toList.drop 0 = dktX8_init_0 := by decide +kernel
theorem dX8_init_0 : decode cX8_init 0 = .ok (.aload_n 0, 1) := dk_42 (dk_at dksX8_init_0 0 rfl rfl)
theorem dX8_init_1 : decode cX8_init 1 = .ok (.aconst_null, 1) := dk_1 (dk_at dksX8_init_0 1 rfl rfl)
theorem dX8_init_2 : decode cX8_init 2 = .ok (.aconst_null, 1) := dk_1 (dk_at dksX8_init_0 2 rfl rfl)
theorem dX8_init_3 : decode cX8_init 3 = .ok (.iconst 0, 1) := dk_3 (dk_at dksX8_init_0 3 rfl rfl)
theorem dX8_init_4 : decode cX8_init 4 = .ok (.iconst 0, 1) := dk_3 (dk_at dksX8_init_0 4 rfl rfl)
theorem dX8_init_5 : decode cX8_init 5 = .ok (.invokespecial 1, 3) := dk_183 0 1 (dk_at dksX8_init_0 5 rfl rfl)
theorem dX8_init_8 : decode cX8_init 8 = .ok (.aload_n 0, 1) := dk_42 (dk_at dksX8_init_0 8 rfl rfl)
theorem dX8_init_9 : decode cX8_init 9 = .ok (.iload_n 1, 1) := dk_27 (dk_at dksX8_init_0 9 rfl rfl)
theorem dX8_init_10 : decode cX8_init 10 = .ok (.putfield 7, 3) := dk_181 0 7 (dk_at dksX8_init_0 10 rfl rfl)
theorem dX8_init_13 : decode cX8_init 13 = .ok (.aload_n 0, 1) := dk_42 (dk_at dksX8_init_0 13 rfl rfl)
theorem dX8_init_14 : decode cX8_init 14 = .ok (.iload_n 2, 1) := dk_28 (dk_at dksX8_init_0 14 rfl rfl)
theorem dX8_init_15 : decode cX8_init 15 = .ok (.putfield 13, 3) := dk_181 0 13 (dk_at dksX8_init_0 15 rfl rfl)
theorem dX8_init_18 : decode cX8_init 18 = .ok (.return_, 1) := dk_177 (dk_at dksX8_init_0 18 rfl rfl)
theorem dX8_code_0 : decode cX8_code 0 = .ok (.aload_n 0, 1) := by decide +kernel
theorem dX8_code_1 : decode cX8_code 1 = .ok (.getfield 7, 3) := by decide +kernel
theorem dX8_code_4 : decode cX8_code 4 = .ok (.ireturn, 1) := by decide +kernel
theorem dX8_position_0 : decode cX8_position 0 = .ok (.aload_n 0, 1) := by decide +kernel
theorem dX8_position_1 : decode cX8_position 1 = .ok (.getfield 13, 3) := by decide +kernel
theorem dX8_position_4 : decode cX8_position 4 = .ok (.ireturn, 1) := by decide +kernel
def dkwX9_init_0 : List UInt8 := [42, 4, 27, 183, 0, 1, 177]
abbrev dktX9_init_0 : List UInt8 := dkwX9_init_0 ++ []
theorem dksX9_init_0 : cX9_init.data.toList.drop 0 = dktX9_init_0 := by decide +kernel
theorem dX9_init_0 : decode cX9_init 0 = .ok (.aload_n 0, 1) := dk_42 (dk_at dksX9_init_0 0 rfl rfl)
theorem dX9_init_1 : decode cX9_init 1 = .ok (.iconst 1, 1) := dk_4 (dk_at dksX9_init_0 1 rfl rfl)
theorem dX9_init_2 : decode cX9_init 2 = .ok (.iload_n 1, 1) := dk_27 (dk_at dksX9_init_0 2 rfl rfl)
theorem dX9_init_3 : decode cX9_init 3 = .ok (.invokespecial 1, 3) := dk_183 0 1 (dk_at dksX9_init_0 3 rfl rfl)
theorem dX9_init_6 : decode cX9_init 6 = .ok (.return_, 1) := dk_177 (dk_at dksX9_init_0 6 rfl rfl)
def dkwX10_init_0 : List UInt8 := [42, 27, 28, 183, 0, 1, 177]
abbrev dktX10_init_0 : List UInt8 := dkwX10_init_0 ++ []
theorem dksX10_init_0 : cX10_init.data.toList.drop 0 = dktX10_init_0 := by decide +kernel
theorem dX10_init_0 : decode cX10_init 0 = .ok (.aload_n 0, 1) := dk_42 (dk_at dksX10_init_0 0 rfl rfl)
theorem dX10_init_1 : decode cX10_init 1 = .ok (.iload_n 1, 1) := dk_27 (dk_at dksX10_init_0 1 rfl rfl)
theorem dX10_init_2 : decode cX10_init 2 = .ok (.iload_n 2, 1) := dk_28 (dk_at dksX10_init_0 2 rfl rfl)
theorem dX10_init_3 : decode cX10_init 3 = .ok (.invokespecial 1, 3) := dk_183 0 1 (dk_at dksX10_init_0 3 rfl rfl)
theorem dX10_init_6 : decode cX10_init 6 = .ok (.return_, 1) := dk_177 (dk_at dksX10_init_0 6 rfl rfl)
def dkwX11_init_1 : List UInt8 := [181, 0, 20, 42, 21, 5, 181, 0, 23, 42, 21, 6, 181, 0, 26, 177]
abbrev dktX11_init_1 : List UInt8 := dkwX11_init_1 ++ []
def dkwX11_init_0 : List UInt8 := [42, 183, 0, 1, 42, 43, 181, 0, 7, 42, 28, 181, 0, 13, 42, 29, 181, 0, 17, 42, 21, 4]
abbrev dktX11_init_0 : List UInt8 := dkwX11_init_0 ++ dktX11_init_1
theorem dksX11_init_0 : cX11_init.data.toList.drop 0 = dktX11_init_0 := by decide +kernel
theorem dksX11_init_1 : cX11_init.data.toList.drop 22 = dktX11_init_1 := dk_seg dksX11_init_0 22 rfl rfl
theorem dX11_init_0 : decode cX11_init 0 = .ok (.aload_n 0, 1) := dk_42 (dk_at dksX11_init_0 0 rfl rfl)
theorem dX11_init_1 : decode cX11_init 1 = .ok (.invokespecial 1, 3) := dk_183 0 1 (dk_at dksX11_init_0 1 rfl rfl)
theorem dX11_init_4 : decode cX11_init 4 = .ok (.aload_n 0, 1) := dk_42 (dk_at dksX11_init_0 4 rfl rfl)
theorem dX11_init_5 : decode cX11_init 5 = .ok (.aload_n 1, 1) := dk_43 (dk_at dksX11_init_0 5 rfl rfl)
theorem dX11_init_6 : decode cX11_init 6 = .ok (.putfield 7, 3) := dk_181 0 7 (dk_at dksX11_init_0 6 rfl rfl)
theorem dX11_init_9 : decode cX11_init 9 = .ok (.aload_n 0, 1) := dk_42 (dk_at dksX11_init_0 9 rfl rfl)
theorem dX11_init_10 : decode cX11_init 10 = .ok (.iload_n 2, 1) := dk_28 (dk_at dksX11_init_0 10 rfl rfl)
theorem dX11_init_11 : decode cX11_init 11 = .ok (.putfield 13, 3) := dk_181 0 13 (dk_at dksX11_init_0 11 rfl rfl)
theorem dX11_init_14 : decode cX11_init 14 = .ok (.aload_n 0, 1) := dk_42 (dk_at dksX11_init_0 14 rfl rfl)
theorem dX11_init_15 : decode cX11_init 15 = .ok (.iload_n 3, 1) := dk_29 (dk_at dksX11_init_0 15 rfl rfl)
theorem dX11_init_16 : decode cX11_init 16 = .ok (.putfield 17, 3) := dk_181 0 17 (dk_at dksX11_init_0 16 rfl rfl)
theorem dX11_init_19 : decode cX11_init 19 = .ok (.aload_n 0, 1) := dk_42 (dk_at dksX11_init_0 19 rfl rfl)
theorem dX11_init_20 : decode cX11_init 20 = .ok (.iload 4, 2) := dk_21 4 (dk_at dksX11_init_0 20 rfl rfl)
theorem dX11_init_22 : decode cX11_init 22 = .ok (.putfield 20, 3) := dk_181 0 20 (dk_at dksX11_init_1 0 rfl rfl)
theorem dX11_init_25 : decode cX11_init 25 = .ok (.aload_n 0, 1) := dk_42 (dk_at dksX11_init_1 3 rfl rfl)
theorem dX11_init_26 : decode cX11_init 26 = .ok (.iload 5, 2) := dk_21 5 (dk_at dksX11_init_1 4 rfl rfl)
theorem dX11_init_28 : decode cX11_init 28 = .ok (.putfield 23, 3) := dk_181 0 23 (dk_at dksX11_init_1 6 rfl rfl)
theorem dX11_init_31 : decode cX11_init 31 = .ok (.aload_n 0, 1) := dk_42 (dk_at dksX11_init_1 9 rfl rfl)
theorem dX11_init_32 : decode cX11_init 32 = .ok (.iload 6, 2) := dk_21 6 (dk_at dksX11_init_1 10 rfl rfl)
theorem dX11_init_34 : decode cX11_init 34 = .ok (.putfield 26, 3) := dk_181 0 26 (dk_at dksX11_init_1 12 rfl rfl)
theorem dX11_init_37 : decode cX11_init 37 = .ok (.return_, 1) := dk_177 (dk_at dksX11_init_1 15 rfl rfl)
def dkwX12_init_0 : List UInt8 := [42, 183, 0, 1, 42, 27, 181, 0, 7, 42, 28, 181, 0, 13, 177]
abbrev dktX12_init_0 : List UInt8 := dkwX12_init_0 ++ []
theorem dksX12_init_0 : cX12_init.data.toList.drop 0 = dktX12_init_0 := by decide +kernel
theorem dX12_init_0 : decode cX12_init 0 = .ok (.aload_n 0, 1) := dk_42 (dk_at dksX12_init_0 0 rfl rfl)
theorem dX12_init_1 : decode cX12_init 1 = .ok (.invokespecial 1, 3) := dk_183 0 1 (dk_at dksX12_init_0 1 rfl rfl)
theorem dX12_init_4 : decode cX12_init 4 = .ok (.aload_n 0, 1) := dk_42 (dk_at dksX12_init_0 4 rfl rfl)
theorem dX12_init_5 : decode cX12_init 5 = .ok (.iload_n 1, 1) := dk_27 (dk_at dksX12_init_0 5 rfl rfl)
theorem dX12_init_6 : decode cX12_init 6 = .ok (.putfield 7, 3) := dk_181 0 7 (dk_at dksX12_init_0 6 rfl rfl)
theorem dX12_init_9 : decode cX12_init 9 = .ok (.aload_n 0, 1) := dk_42 (dk_at dksX12_init_0 9 rfl rfl)
theorem dX12_init_10 : decode cX12_init 10 = .ok (.iload_n 2, 1) := dk_28 (dk_at dksX12_init_0 10 rfl rfl)
theorem dX12_init_11 : decode cX12_init 11 = .ok (.putfield 13, 3) := dk_181 0 13 (dk_at dksX12_init_0 11 rfl rfl)
theorem dX12_init_14 : decode cX12_init 14 = .ok (.return_, 1) := dk_177 (dk_at dksX12_init_0 14 rfl rfl)
theorem dX12_tick_0 : decode cX12_tick 0 = .ok (.aload_n 0, 1) := by decide +kernel
theorem dX12_tick_1 : decode cX12_tick 1 = .ok (.getfield 7, 3) := by decide +kernel
theorem dX12_tick_4 : decode cX12_tick 4 = .ok (.ireturn, 1) := by decide +kernel
theorem dX12_duration_0 : decode cX12_duration 0 = .ok (.aload_n 0, 1) := by decide +kernel
theorem dX12_duration_1 : decode cX12_duration 1 = .ok (.getfield 13, 3) := by decide +kernel
theorem dX12_duration_4 : decode cX12_duration 4 = .ok (.ireturn, 1) := by decide +kernel
def dkwX13_init_0 : List UInt8 := [42, 1, 43, 183, 0, 1, 177]
abbrev dktX13_init_0 : List UInt8 := dkwX13_init_0 ++ []
theorem dksX13_init_0 : cX13_init.data.toList.drop 0 = dktX13_init_0 := by decide +kernel
theorem dX13_init_0 : decode cX13_init 0 = .ok (.aload_n 0, 1) := dk_42 (dk_at dksX13_init_0 0 rfl rfl)
theorem dX13_init_1 : decode cX13_init 1 = .ok (.aconst_null, 1) := dk_1 (dk_at dksX13_init_0 1 rfl rfl)
theorem dX13_init_2 : decode cX13_init 2 = .ok (.aload_n 1, 1) := dk_43 (dk_at dksX13_init_0 2 rfl rfl)
theorem dX13_init_3 : decode cX13_init 3 = .ok (.invokespecial 1, 3) := dk_183 0 1 (dk_at dksX13_init_0 3 rfl rfl)
theorem dX13_init_6 : decode cX13_init 6 = .ok (.return_, 1) := dk_177 (dk_at dksX13_init_0 6 rfl rfl)
