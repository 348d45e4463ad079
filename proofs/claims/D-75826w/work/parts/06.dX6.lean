set_option maxRecDepth 100000
def dkwX6_init_7 : List UInt8 := [79, 42, 182, 0, 69, 177]
abbrev dktX6_init_7 : List UInt8 := dkwX6_init_7 ++ []
def dkwX6_init_6 : List UInt8 := [16, 96, 188, 10, 181, 0, 59, 42, 2, 181, 0, 62, 42, 182, 0, 66, 42, 180, 0, 44, 16, 6, 16, 100]
abbrev dktX6_init_6 : List UInt8 := dkwX6_init_6 ++ dktX6_init_7
def dkwX6_init_5 : List UInt8 := [16, 12, 188, 10, 181, 0, 50, 42, 16, 24, 188, 10, 181, 0, 53, 42, 16, 8, 188, 10, 181, 0, 56, 42]
abbrev dktX6_init_5 : List UInt8 := dkwX6_init_5 ++ dktX6_init_6
def dkwX6_init_4 : List UInt8 := [188, 10, 181, 0, 41, 42, 17, 1, 155, 188, 10, 181, 0, 44, 42, 16, 48, 188, 10, 181, 0, 47, 42]
abbrev dktX6_init_4 : List UInt8 := dkwX6_init_4 ++ dktX6_init_5
def dkwX6_init_3 : List UInt8 := [181, 0, 31, 42, 17, 3, 54, 188, 10, 181, 0, 34, 42, 5, 188, 4, 181, 0, 37, 42, 17, 3, 132]
abbrev dktX6_init_3 : List UInt8 := dkwX6_init_3 ++ dktX6_init_4
def dkwX6_init_2 : List UInt8 := [17, 1, 155, 188, 10, 181, 0, 25, 42, 17, 1, 155, 188, 10, 181, 0, 28, 42, 17, 12, 216, 188, 10]
abbrev dktX6_init_2 : List UInt8 := dkwX6_init_2 ++ dktX6_init_3
def dkwX6_init_1 : List UInt8 := [188, 10, 181, 0, 16, 42, 16, 8, 188, 10, 181, 0, 19, 42, 16, 96, 188, 10, 181, 0, 22, 42]
abbrev dktX6_init_1 : List UInt8 := dkwX6_init_1 ++ dktX6_init_2
def dkwX6_init_0 : List UInt8 := [42, 183, 0, 1, 42, 16, 48, 188, 10, 181, 0, 7, 42, 16, 12, 188, 10, 181, 0, 13, 42, 16, 24]
abbrev dktX6_init_0 : List UInt8 := dkwX6_init_0 ++ dktX6_init_1
theorem dksX6_init_0 : cX6_init.data.toList.drop 0 = dktX6_init_0 := by decide +kernel
theorem dksX6_init_1 : cX6_init.data.toList.drop 23 = dktX6_init_1 := dk_seg dksX6_init_0 23 rfl rfl
theorem dksX6_init_2 : cX6_init.data.toList.drop 45 = dktX6_init_2 := dk_seg dksX6_init_1 22 rfl rfl
theorem dksX6_init_3 : cX6_init.data.toList.drop 68 = dktX6_init_3 := dk_seg dksX6_init_2 23 rfl rfl
theorem dksX6_init_4 : cX6_init.data.toList.drop 91 = dktX6_init_4 := dk_seg dksX6_init_3 23 rfl rfl
theorem dksX6_init_5 : cX6_init.data.toList.drop 114 = dktX6_init_5 := dk_seg dksX6_init_4 23 rfl rfl
theorem dksX6_init_6 : cX6_init.data.toList.drop 138 = dktX6_init_6 := dk_seg dksX6_init_5 24 rfl rfl
theorem dksX6_init_7 : cX6_init.data.toList.drop 162 = dktX6_init_7 := dk_seg dksX6_init_6 24 rfl rfl
theorem dX6_init_0 : decode cX6_init 0 = .ok (.aload_n 0, 1) := dk_42 (dk_at dksX6_init_0 0 rfl rfl)
theorem dX6_init_1 : decode cX6_init 1 = .ok (.invokespecial 1, 3) := dk_183 0 1 (dk_at dksX6_init_0 1 rfl rfl)
theorem dX6_init_4 : decode cX6_init 4 = .ok (.aload_n 0, 1) := dk_42 (dk_at dksX6_init_0 4 rfl rfl)
theorem dX6_init_5 : decode cX6_init 5 = .ok (.bipush 48, 2) := dk_16 48 (dk_at dksX6_init_0 5 rfl rfl)
theorem dX6_init_7 : decode cX6_init 7 = .ok (.newarray .int, 2) := dk_188_10 (dk_at dksX6_init_0 7 rfl rfl)
theorem dX6_init_9 : decode cX6_init 9 = .ok (.putfield 7, 3) := dk_181 0 7 (dk_at dksX6_init_0 9 rfl rfl)
theorem dX6_init_12 : decode cX6_init 12 = .ok (.aload_n 0, 1) := dk_42 (dk_at dksX6_init_0 12 rfl rfl)
theorem dX6_init_13 : decode cX6_init 13 = .ok (.bipush 12, 2) := dk_16 12 (dk_at dksX6_init_0 13 rfl rfl)
theorem dX6_init_15 : decode cX6_init 15 = .ok (.newarray .int, 2) := dk_188_10 (dk_at dksX6_init_0 15 rfl rfl)
theorem dX6_init_17 : decode cX6_init 17 = .ok (.putfield 13, 3) := dk_181 0 13 (dk_at dksX6_init_0 17 rfl rfl)
theorem dX6_init_20 : decode cX6_init 20 = .ok (.aload_n 0, 1) := dk_42 (dk_at dksX6_init_0 20 rfl rfl)
theorem dX6_init_21 : decode cX6_init 21 = .ok (.bipush 24, 2) := dk_16 24 (dk_at dksX6_init_0 21 rfl rfl)
theorem dX6_init_23 : decode cX6_init 23 = .ok (.newarray .int, 2) := dk_188_10 (dk_at dksX6_init_1 0 rfl rfl)
theorem dX6_init_25 : decode cX6_init 25 = .ok (.putfield 16, 3) := dk_181 0 16 (dk_at dksX6_init_1 2 rfl rfl)
theorem dX6_init_28 : decode cX6_init 28 = .ok (.aload_n 0, 1) := dk_42 (dk_at dksX6_init_1 5 rfl rfl)
theorem dX6_init_29 : decode cX6_init 29 = .ok (.bipush 8, 2) := dk_16 8 (dk_at dksX6_init_1 6 rfl rfl)
theorem dX6_init_31 : decode cX6_init 31 = .ok (.newarray .int, 2) := dk_188_10 (dk_at dksX6_init_1 8 rfl rfl)
theorem dX6_init_33 : decode cX6_init 33 = .ok (.putfield 19, 3) := dk_181 0 19 (dk_at dksX6_init_1 10 rfl rfl)
theorem dX6_init_36 : decode cX6_init 36 = .ok (.aload_n 0, 1) := dk_42 (dk_at dksX6_init_1 13 rfl rfl)
theorem dX6_init_37 : decode cX6_init 37 = .ok (.bipush 96, 2) := dk_16 96 (dk_at dksX6_init_1 14 rfl rfl)
theorem dX6_init_39 : decode cX6_init 39 = .ok (.newarray .int, 2) := dk_188_10 (dk_at dksX6_init_1 16 rfl rfl)
theorem dX6_init_41 : decode cX6_init 41 = .ok (.putfield 22, 3) := dk_181 0 22 (dk_at dksX6_init_1 18 rfl rfl)
theorem dX6_init_44 : decode cX6_init 44 = .ok (.aload_n 0, 1) := dk_42 (dk_at dksX6_init_1 21 rfl rfl)
theorem dX6_init_45 : decode cX6_init 45 = .ok (.sipush 411, 3) := dk_17 1 155 (dk_at dksX6_init_2 0 rfl rfl)
theorem dX6_init_48 : decode cX6_init 48 = .ok (.newarray .int, 2) := dk_188_10 (dk_at dksX6_init_2 3 rfl rfl)
theorem dX6_init_50 : decode cX6_init 50 = .ok (.putfield 25, 3) := dk_181 0 25 (dk_at dksX6_init_2 5 rfl rfl)
theorem dX6_init_53 : decode cX6_init 53 = .ok (.aload_n 0, 1) := dk_42 (dk_at dksX6_init_2 8 rfl rfl)
theorem dX6_init_54 : decode cX6_init 54 = .ok (.sipush 411, 3) := dk_17 1 155 (dk_at dksX6_init_2 9 rfl rfl)
theorem dX6_init_57 : decode cX6_init 57 = .ok (.newarray .int, 2) := dk_188_10 (dk_at dksX6_init_2 12 rfl rfl)
theorem dX6_init_59 : decode cX6_init 59 = .ok (.putfield 28, 3) := dk_181 0 28 (dk_at dksX6_init_2 14 rfl rfl)
theorem dX6_init_62 : decode cX6_init 62 = .ok (.aload_n 0, 1) := dk_42 (dk_at dksX6_init_2 17 rfl rfl)
theorem dX6_init_63 : decode cX6_init 63 = .ok (.sipush 3288, 3) := dk_17 12 216 (dk_at dksX6_init_2 18 rfl rfl)
theorem dX6_init_66 : decode cX6_init 66 = .ok (.newarray .int, 2) := dk_188_10 (dk_at dksX6_init_2 21 rfl rfl)
theorem dX6_init_68 : decode cX6_init 68 = .ok (.putfield 31, 3) := dk_181 0 31 (dk_at dksX6_init_3 0 rfl rfl)
theorem dX6_init_71 : decode cX6_init 71 = .ok (.aload_n 0, 1) := dk_42 (dk_at dksX6_init_3 3 rfl rfl)
theorem dX6_init_72 : decode cX6_init 72 = .ok (.sipush 822, 3) := dk_17 3 54 (dk_at dksX6_init_3 4 rfl rfl)
theorem dX6_init_75 : decode cX6_init 75 = .ok (.newarray .int, 2) := dk_188_10 (dk_at dksX6_init_3 7 rfl rfl)
theorem dX6_init_77 : decode cX6_init 77 = .ok (.putfield 34, 3) := dk_181 0 34 (dk_at dksX6_init_3 9 rfl rfl)
theorem dX6_init_80 : decode cX6_init 80 = .ok (.aload_n 0, 1) := dk_42 (dk_at dksX6_init_3 12 rfl rfl)
theorem dX6_init_81 : decode cX6_init 81 = .ok (.iconst 2, 1) := dk_5 (dk_at dksX6_init_3 13 rfl rfl)
theorem dX6_init_82 : decode cX6_init 82 = .ok (.newarray .boolean, 2) := dk_188_4 (dk_at dksX6_init_3 14 rfl rfl)
theorem dX6_init_84 : decode cX6_init 84 = .ok (.putfield 37, 3) := dk_181 0 37 (dk_at dksX6_init_3 16 rfl rfl)
theorem dX6_init_87 : decode cX6_init 87 = .ok (.aload_n 0, 1) := dk_42 (dk_at dksX6_init_3 19 rfl rfl)
theorem dX6_init_88 : decode cX6_init 88 = .ok (.sipush 900, 3) := dk_17 3 132 (dk_at dksX6_init_3 20 rfl rfl)
theorem dX6_init_91 : decode cX6_init 91 = .ok (.newarray .int, 2) := dk_188_10 (dk_at dksX6_init_4 0 rfl rfl)
theorem dX6_init_93 : decode cX6_init 93 = .ok (.putfield 41, 3) := dk_181 0 41 (dk_at dksX6_init_4 2 rfl rfl)
theorem dX6_init_96 : decode cX6_init 96 = .ok (.aload_n 0, 1) := dk_42 (dk_at dksX6_init_4 5 rfl rfl)
theorem dX6_init_97 : decode cX6_init 97 = .ok (.sipush 411, 3) := dk_17 1 155 (dk_at dksX6_init_4 6 rfl rfl)
theorem dX6_init_100 : decode cX6_init 100 = .ok (.newarray .int, 2) := dk_188_10 (dk_at dksX6_init_4 9 rfl rfl)
theorem dX6_init_102 : decode cX6_init 102 = .ok (.putfield 44, 3) := dk_181 0 44 (dk_at dksX6_init_4 11 rfl rfl)
theorem dX6_init_105 : decode cX6_init 105 = .ok (.aload_n 0, 1) := dk_42 (dk_at dksX6_init_4 14 rfl rfl)
theorem dX6_init_106 : decode cX6_init 106 = .ok (.bipush 48, 2) := dk_16 48 (dk_at dksX6_init_4 15 rfl rfl)
theorem dX6_init_108 : decode cX6_init 108 = .ok (.newarray .int, 2) := dk_188_10 (dk_at dksX6_init_4 17 rfl rfl)
theorem dX6_init_110 : decode cX6_init 110 = .ok (.putfield 47, 3) := dk_181 0 47 (dk_at dksX6_init_4 19 rfl rfl)
theorem dX6_init_113 : decode cX6_init 113 = .ok (.aload_n 0, 1) := dk_42 (dk_at dksX6_init_4 22 rfl rfl)
theorem dX6_init_114 : decode cX6_init 114 = .ok (.bipush 12, 2) := dk_16 12 (dk_at dksX6_init_5 0 rfl rfl)
theorem dX6_init_116 : decode cX6_init 116 = .ok (.newarray .int, 2) := dk_188_10 (dk_at dksX6_init_5 2 rfl rfl)
theorem dX6_init_118 : decode cX6_init 118 = .ok (.putfield 50, 3) := dk_181 0 50 (dk_at dksX6_init_5 4 rfl rfl)
theorem dX6_init_121 : decode cX6_init 121 = .ok (.aload_n 0, 1) := dk_42 (dk_at dksX6_init_5 7 rfl rfl)
theorem dX6_init_122 : decode cX6_init 122 = .ok (.bipush 24, 2) := dk_16 24 (dk_at dksX6_init_5 8 rfl rfl)
theorem dX6_init_124 : decode cX6_init 124 = .ok (.newarray .int, 2) := dk_188_10 (dk_at dksX6_init_5 10 rfl rfl)
theorem dX6_init_126 : decode cX6_init 126 = .ok (.putfield 53, 3) := dk_181 0 53 (dk_at dksX6_init_5 12 rfl rfl)
theorem dX6_init_129 : decode cX6_init 129 = .ok (.aload_n 0, 1) := dk_42 (dk_at dksX6_init_5 15 rfl rfl)
theorem dX6_init_130 : decode cX6_init 130 = .ok (.bipush 8, 2) := dk_16 8 (dk_at dksX6_init_5 16 rfl rfl)
theorem dX6_init_132 : decode cX6_init 132 = .ok (.newarray .int, 2) := dk_188_10 (dk_at dksX6_init_5 18 rfl rfl)
theorem dX6_init_134 : decode cX6_init 134 = .ok (.putfield 56, 3) := dk_181 0 56 (dk_at dksX6_init_5 20 rfl rfl)
theorem dX6_init_137 : decode cX6_init 137 = .ok (.aload_n 0, 1) := dk_42 (dk_at dksX6_init_5 23 rfl rfl)
theorem dX6_init_138 : decode cX6_init 138 = .ok (.bipush 96, 2) := dk_16 96 (dk_at dksX6_init_6 0 rfl rfl)
theorem dX6_init_140 : decode cX6_init 140 = .ok (.newarray .int, 2) := dk_188_10 (dk_at dksX6_init_6 2 rfl rfl)
theorem dX6_init_142 : decode cX6_init 142 = .ok (.putfield 59, 3) := dk_181 0 59 (dk_at dksX6_init_6 4 rfl rfl)
theorem dX6_init_145 : decode cX6_init 145 = .ok (.aload_n 0, 1) := dk_42 (dk_at dksX6_init_6 7 rfl rfl)
theorem dX6_init_146 : decode cX6_init 146 = .ok (.iconst (-1), 1) := dk_2 (dk_at dksX6_init_6 8 rfl rfl)
theorem dX6_init_147 : decode cX6_init 147 = .ok (.putfield 62, 3) := dk_181 0 62 (dk_at dksX6_init_6 9 rfl rfl)
theorem dX6_init_150 : decode cX6_init 150 = .ok (.aload_n 0, 1) := dk_42 (dk_at dksX6_init_6 12 rfl rfl)
theorem dX6_init_151 : decode cX6_init 151 = .ok (.invokevirtual 66, 3) := dk_182 0 66 (dk_at dksX6_init_6 13 rfl rfl)
theorem dX6_init_154 : decode cX6_init 154 = .ok (.aload_n 0, 1) := dk_42 (dk_at dksX6_init_6 16 rfl rfl)
theorem dX6_init_155 : decode cX6_init 155 = .ok (.getfield 44, 3) := dk_180 0 44 (dk_at dksX6_init_6 17 rfl rfl)
theorem dX6_init_158 : decode cX6_init 158 = .ok (.bipush 6, 2) := dk_16 6 (dk_at dksX6_init_6 20 rfl rfl)
theorem dX6_init_160 : decode cX6_init 160 = .ok (.bipush 100, 2) := dk_16 100 (dk_at dksX6_init_6 22 rfl rfl)
theorem dX6_init_162 : decode cX6_init 162 = .ok (.iastore, 1) := dk_79 (dk_at dksX6_init_7 0 rfl rfl)
theorem dX6_init_163 : decode cX6_init 163 = .ok (.aload_n 0, 1) := dk_42 (dk_at dksX6_init_7 1 rfl rfl)
theorem dX6_init_164 : decode cX6_init 164 = .ok (.invokevirtual 69, 3) := dk_182 0 69 (dk_at dksX6_init_7 2 rfl rfl)
theorem dX6_init_167 : decode cX6_init 167 = .ok (.return_, 1) := dk_177 (dk_at dksX6_init_7 5 rfl rfl)
def dkwX6_clearsTold_2 : List UInt8 := [181, 0, 163, 42, 3, 181, 0, 166, 42, 3, 181, 0, 190, 42, 3, 181, 0, 147, 177]
abbrev dktX6_clearsTold_2 : List UInt8 := dkwX6_clearsTold_2 ++ []
def dkwX6_clearsTold_1 : List UInt8 := [180, 0, 44, 16, 7, 6, 79, 42, 180, 0, 44, 16, 8, 7, 79, 42, 3, 181, 0, 140, 42, 3]
abbrev dktX6_clearsTold_1 : List UInt8 := dkwX6_clearsTold_1 ++ dktX6_clearsTold_2
def dkwX6_clearsTold_0 : List UInt8 := [3, 60, 27, 17, 1, 155, 162, 0, 16, 42, 180, 0, 44, 27, 3, 79, 132, 1, 1, 167, 255, 239, 42]
abbrev dktX6_clearsTold_0 : List UInt8 := dkwX6_clearsTold_0 ++ dktX6_clearsTold_1
theorem dksX6_clearsTold_0 : cX6_clearsTold.data.toList.drop 0 = dktX6_clearsTold_0 := by decide +kernel
theorem dksX6_clearsTold_1 : cX6_clearsTold.data.toList.drop 23 = dktX6_clearsTold_1 := dk_seg dksX6_clearsTold_0 23 rfl rfl
theorem dksX6_clearsTold_2 : cX6_clearsTold.data.toList.drop 45 = dktX6_clearsTold_2 := dk_seg dksX6_clearsTold_1 22 rfl rfl
theorem dX6_clearsTold_0 : decode cX6_clearsTold 0 = .ok (.iconst 0, 1) := dk_3 (dk_at dksX6_clearsTold_0 0 rfl rfl)
theorem dX6_clearsTold_1 : decode cX6_clearsTold 1 = .ok (.istore_n 1, 1) := dk_60 (dk_at dksX6_clearsTold_0 1 rfl rfl)
theorem dX6_clearsTold_2 : decode cX6_clearsTold 2 = .ok (.iload_n 1, 1) := dk_27 (dk_at dksX6_clearsTold_0 2 rfl rfl)
theorem dX6_clearsTold_3 : decode cX6_clearsTold 3 = .ok (.sipush 411, 3) := dk_17 1 155 (dk_at dksX6_clearsTold_0 3 rfl rfl)
theorem dX6_clearsTold_6 : decode cX6_clearsTold 6 = .ok (.if_icmp .ge 16, 3) := dk_162 0 16 (dk_at dksX6_clearsTold_0 6 rfl rfl)
theorem dX6_clearsTold_9 : decode cX6_clearsTold 9 = .ok (.aload_n 0, 1) := dk_42 (dk_at dksX6_clearsTold_0 9 rfl rfl)
theorem dX6_clearsTold_10 : decode cX6_clearsTold 10 = .ok (.getfield 44, 3) := dk_180 0 44 (dk_at dksX6_clearsTold_0 10 rfl rfl)
theorem dX6_clearsTold_13 : decode cX6_clearsTold 13 = .ok (.iload_n 1, 1) := dk_27 (dk_at dksX6_clearsTold_0 13 rfl rfl)
theorem dX6_clearsTold_14 : decode cX6_clearsTold 14 = .ok (.iconst 0, 1) := dk_3 (dk_at dksX6_clearsTold_0 14 rfl rfl)
theorem dX6_clearsTold_15 : decode cX6_clearsTold 15 = .ok (.iastore, 1) := dk_79 (dk_at dksX6_clearsTold_0 15 rfl rfl)
theorem dX6_clearsTold_16 : decode cX6_clearsTold 16 = .ok (.iinc 1 1, 3) := dk_132 1 1 (dk_at dksX6_clearsTold_0 16 rfl rfl)
theorem dX6_clearsTold_19 : decode cX6_clearsTold 19 = .ok (.goto (-17), 3) := dk_167 255 239 (dk_at dksX6_clearsTold_0 19 rfl rfl)
theorem dX6_clearsTold_22 : decode cX6_clearsTold 22 = .ok (.aload_n 0, 1) := dk_42 (dk_at dksX6_clearsTold_0 22 rfl rfl)
theorem dX6_clearsTold_23 : decode cX6_clearsTold 23 = .ok (.getfield 44, 3) := dk_180 0 44 (dk_at dksX6_clearsTold_1 0 rfl rfl)
theorem dX6_clearsTold_26 : decode cX6_clearsTold 26 = .ok (.bipush 7, 2) := dk_16 7 (dk_at dksX6_clearsTold_1 3 rfl rfl)
theorem dX6_clearsTold_28 : decode cX6_clearsTold 28 = .ok (.iconst 3, 1) := dk_6 (dk_at dksX6_clearsTold_1 5 rfl rfl)
theorem dX6_clearsTold_29 : decode cX6_clearsTold 29 = .ok (.iastore, 1) := dk_79 (dk_at dksX6_clearsTold_1 6 rfl rfl)
theorem dX6_clearsTold_30 : decode cX6_clearsTold 30 = .ok (.aload_n 0, 1) := dk_42 (dk_at dksX6_clearsTold_1 7 rfl rfl)
theorem dX6_clearsTold_31 : decode cX6_clearsTold 31 = .ok (.getfield 44, 3) := dk_180 0 44 (dk_at dksX6_clearsTold_1 8 rfl rfl)
theorem dX6_clearsTold_34 : decode cX6_clearsTold 34 = .ok (.bipush 8, 2) := dk_16 8 (dk_at dksX6_clearsTold_1 11 rfl rfl)
theorem dX6_clearsTold_36 : decode cX6_clearsTold 36 = .ok (.iconst 4, 1) := dk_7 (dk_at dksX6_clearsTold_1 13 rfl rfl)
theorem dX6_clearsTold_37 : decode cX6_clearsTold 37 = .ok (.iastore, 1) := dk_79 (dk_at dksX6_clearsTold_1 14 rfl rfl)
theorem dX6_clearsTold_38 : decode cX6_clearsTold 38 = .ok (.aload_n 0, 1) := dk_42 (dk_at dksX6_clearsTold_1 15 rfl rfl)
theorem dX6_clearsTold_39 : decode cX6_clearsTold 39 = .ok (.iconst 0, 1) := dk_3 (dk_at dksX6_clearsTold_1 16 rfl rfl)
theorem dX6_clearsTold_40 : decode cX6_clearsTold 40 = .ok (.putfield 140, 3) := dk_181 0 140 (dk_at dksX6_clearsTold_1 17 rfl rfl)
theorem dX6_clearsTold_43 : decode cX6_clearsTold 43 = .ok (.aload_n 0, 1) := dk_42 (dk_at dksX6_clearsTold_1 20 rfl rfl)
theorem dX6_clearsTold_44 : decode cX6_clearsTold 44 = .ok (.iconst 0, 1) := dk_3 (dk_at dksX6_clearsTold_1 21 rfl rfl)
theorem dX6_clearsTold_45 : decode cX6_clearsTold 45 = .ok (.putfield 163, 3) := dk_181 0 163 (dk_at dksX6_clearsTold_2 0 rfl rfl)
theorem dX6_clearsTold_48 : decode cX6_clearsTold 48 = .ok (.aload_n 0, 1) := dk_42 (dk_at dksX6_clearsTold_2 3 rfl rfl)
theorem dX6_clearsTold_49 : decode cX6_clearsTold 49 = .ok (.iconst 0, 1) := dk_3 (dk_at dksX6_clearsTold_2 4 rfl rfl)
theorem dX6_clearsTold_50 : decode cX6_clearsTold 50 = .ok (.putfield 166, 3) := dk_181 0 166 (dk_at dksX6_clearsTold_2 5 rfl rfl)
theorem dX6_clearsTold_53 : decode cX6_clearsTold 53 = .ok (.aload_n 0, 1) := dk_42 (dk_at dksX6_clearsTold_2 8 rfl rfl)
theorem dX6_clearsTold_54 : decode cX6_clearsTold 54 = .ok (.iconst 0, 1) := dk_3 (dk_at dksX6_clearsTold_2 9 rfl rfl)
theorem dX6_clearsTold_55 : decode cX6_clearsTold 55 = .ok (.putfield 190, 3) := dk_181 0 190 (dk_at dksX6_clearsTold_2 10 rfl rfl)
theorem dX6_clearsTold_58 : decode cX6_clearsTold 58 = .ok (.aload_n 0, 1) := dk_42 (dk_at dksX6_clearsTold_2 13 rfl rfl)
theorem dX6_clearsTold_59 : decode cX6_clearsTold 59 = .ok (.iconst 0, 1) := dk_3 (dk_at dksX6_clearsTold_2 14 rfl rfl)
theorem dX6_clearsTold_60 : decode cX6_clearsTold 60 = .ok (.putfield 147, 3) := dk_181 0 147 (dk_at dksX6_clearsTold_2 15 rfl rfl)
theorem dX6_clearsTold_63 : decode cX6_clearsTold 63 = .ok (.return_, 1) := dk_177 (dk_at dksX6_clearsTold_2 18 rfl rfl)
def dkwX6_begins_11 : List UInt8 := [180, 0, 37, 3, 3, 84, 42, 180, 0, 37, 4, 3, 84, 177]
abbrev dktX6_begins_11 : List UInt8 := dkwX6_begins_11 ++ []
def dkwX6_begins_10 : List UInt8 := [180, 0, 25, 27, 16, 6, 184, 0, 157, 2, 79, 132, 1, 1, 167, 255, 202, 42, 3, 181, 0, 219, 42]
abbrev dktX6_begins_10 : List UInt8 := dkwX6_begins_10 ++ dktX6_begins_11
def dkwX6_begins_9 : List UInt8 := [180, 0, 25, 27, 4, 184, 0, 157, 46, 79, 42, 180, 0, 25, 27, 8, 184, 0, 157, 2, 79, 42]
abbrev dktX6_begins_9 : List UInt8 := dkwX6_begins_9 ++ dktX6_begins_10
def dkwX6_begins_8 : List UInt8 := [167, 255, 234, 3, 60, 27, 42, 180, 0, 207, 162, 0, 52, 42, 180, 0, 25, 27, 5, 184, 0, 157, 42]
abbrev dktX6_begins_8 : List UInt8 := dkwX6_begins_8 ++ dktX6_begins_9
def dkwX6_begins_7 : List UInt8 := [60, 27, 17, 1, 155, 162, 0, 21, 42, 180, 0, 25, 27, 42, 180, 0, 44, 27, 46, 79, 132, 1, 1]
abbrev dktX6_begins_7 : List UInt8 := dkwX6_begins_7 ++ dktX6_begins_8
def dkwX6_begins_6 : List UInt8 := [16, 96, 162, 0, 21, 42, 180, 0, 22, 27, 42, 180, 0, 59, 27, 46, 79, 132, 1, 1, 167, 255, 235, 3]
abbrev dktX6_begins_6 : List UInt8 := dkwX6_begins_6 ++ dktX6_begins_7
def dkwX6_begins_5 : List UInt8 := [162, 0, 21, 42, 180, 0, 19, 27, 42, 180, 0, 56, 27, 46, 79, 132, 1, 1, 167, 255, 235, 3, 60, 27]
abbrev dktX6_begins_5 : List UInt8 := dkwX6_begins_5 ++ dktX6_begins_6
def dkwX6_begins_4 : List UInt8 := [180, 0, 16, 27, 42, 180, 0, 53, 27, 46, 79, 132, 1, 1, 167, 255, 235, 3, 60, 27, 16, 8]
abbrev dktX6_begins_4 : List UInt8 := dkwX6_begins_4 ++ dktX6_begins_5
def dkwX6_begins_3 : List UInt8 := [27, 42, 180, 0, 50, 27, 46, 79, 132, 1, 1, 167, 255, 235, 3, 60, 27, 16, 24, 162, 0, 21, 42]
abbrev dktX6_begins_3 : List UInt8 := dkwX6_begins_3 ++ dktX6_begins_4
def dkwX6_begins_2 : List UInt8 := [180, 0, 47, 27, 46, 79, 132, 1, 1, 167, 255, 235, 3, 60, 27, 16, 12, 162, 0, 21, 42, 180, 0, 13]
abbrev dktX6_begins_2 : List UInt8 := dkwX6_begins_2 ++ dktX6_begins_3
def dkwX6_begins_1 : List UInt8 := [42, 42, 180, 0, 190, 181, 0, 216, 3, 60, 27, 16, 48, 162, 0, 21, 42, 180, 0, 7, 27, 42]
abbrev dktX6_begins_1 : List UInt8 := dkwX6_begins_1 ++ dktX6_begins_2
def dkwX6_begins_0 : List UInt8 := [42, 42, 180, 0, 140, 181, 0, 207, 42, 42, 180, 0, 163, 181, 0, 210, 42, 42, 180, 0, 166, 181, 0, 213]
abbrev dktX6_begins_0 : List UInt8 := dkwX6_begins_0 ++ dktX6_begins_1
theorem dksX6_begins_0 : cX6_begins.data.toList.drop 0 = dktX6_begins_0 := by decide +kernel
theorem dksX6_begins_1 : cX6_begins.data.toList.drop 24 = dktX6_begins_1 := dk_seg dksX6_begins_0 24 rfl rfl
theorem dksX6_begins_2 : cX6_begins.data.toList.drop 46 = dktX6_begins_2 := dk_seg dksX6_begins_1 22 rfl rfl
theorem dksX6_begins_3 : cX6_begins.data.toList.drop 70 = dktX6_begins_3 := dk_seg dksX6_begins_2 24 rfl rfl
theorem dksX6_begins_4 : cX6_begins.data.toList.drop 93 = dktX6_begins_4 := dk_seg dksX6_begins_3 23 rfl rfl
theorem dksX6_begins_5 : cX6_begins.data.toList.drop 115 = dktX6_begins_5 := dk_seg dksX6_begins_4 22 rfl rfl
theorem dksX6_begins_6 : cX6_begins.data.toList.drop 139 = dktX6_begins_6 := dk_seg dksX6_begins_5 24 rfl rfl
theorem dksX6_begins_7 : cX6_begins.data.toList.drop 163 = dktX6_begins_7 := dk_seg dksX6_begins_6 24 rfl rfl
theorem dksX6_begins_8 : cX6_begins.data.toList.drop 186 = dktX6_begins_8 := dk_seg dksX6_begins_7 23 rfl rfl
theorem dksX6_begins_9 : cX6_begins.data.toList.drop 209 = dktX6_begins_9 := dk_seg dksX6_begins_8 23 rfl rfl
theorem dksX6_begins_10 : cX6_begins.data.toList.drop 231 = dktX6_begins_10 := dk_seg dksX6_begins_9 22 rfl rfl
theorem dksX6_begins_11 : cX6_begins.data.toList.drop 254 = dktX6_begins_11 := dk_seg dksX6_begins_10 23 rfl rfl
theorem dX6_begins_0 : decode cX6_begins 0 = .ok (.aload_n 0, 1) := dk_42 (dk_at dksX6_begins_0 0 rfl rfl)
theorem dX6_begins_1 : decode cX6_begins 1 = .ok (.aload_n 0, 1) := dk_42 (dk_at dksX6_begins_0 1 rfl rfl)
theorem dX6_begins_2 : decode cX6_begins 2 = .ok (.getfield 140, 3) := dk_180 0 140 (dk_at dksX6_begins_0 2 rfl rfl)
theorem dX6_begins_5 : decode cX6_begins 5 = .ok (.putfield 207, 3) := dk_181 0 207 (dk_at dksX6_begins_0 5 rfl rfl)
theorem dX6_begins_8 : decode cX6_begins 8 = .ok (.aload_n 0, 1) := dk_42 (dk_at dksX6_begins_0 8 rfl rfl)
theorem dX6_begins_9 : decode cX6_begins 9 = .ok (.aload_n 0, 1) := dk_42 (dk_at dksX6_begins_0 9 rfl rfl)
theorem dX6_begins_10 : decode cX6_begins 10 = .ok (.getfield 163, 3) := dk_180 0 163 (dk_at dksX6_begins_0 10 rfl rfl)
theorem dX6_begins_13 : decode cX6_begins 13 = .ok (.putfield 210, 3) := dk_181 0 210 (dk_at dksX6_begins_0 13 rfl rfl)
theorem dX6_begins_16 : decode cX6_begins 16 = .ok (.aload_n 0, 1) := dk_42 (dk_at dksX6_begins_0 16 rfl rfl)
theorem dX6_begins_17 : decode cX6_begins 17 = .ok (.aload_n 0, 1) := dk_42 (dk_at dksX6_begins_0 17 rfl rfl)
theorem dX6_begins_18 : decode cX6_begins 18 = .ok (.getfield 166, 3) := dk_180 0 166 (dk_at dksX6_begins_0 18 rfl rfl)
theorem dX6_begins_21 : decode cX6_begins 21 = .ok (.putfield 213, 3) := dk_181 0 213 (dk_at dksX6_begins_0 21 rfl rfl)
theorem dX6_begins_24 : decode cX6_begins 24 = .ok (.aload_n 0, 1) := dk_42 (dk_at dksX6_begins_1 0 rfl rfl)
theorem dX6_begins_25 : decode cX6_begins 25 = .ok (.aload_n 0, 1) := dk_42 (dk_at dksX6_begins_1 1 rfl rfl)
theorem dX6_begins_26 : decode cX6_begins 26 = .ok (.getfield 190, 3) := dk_180 0 190 (dk_at dksX6_begins_1 2 rfl rfl)
theorem dX6_begins_29 : decode cX6_begins 29 = .ok (.putfield 216, 3) := dk_181 0 216 (dk_at dksX6_begins_1 5 rfl rfl)
theorem dX6_begins_32 : decode cX6_begins 32 = .ok (.iconst 0, 1) := dk_3 (dk_at dksX6_begins_1 8 rfl rfl)
theorem dX6_begins_33 : decode cX6_begins 33 = .ok (.istore_n 1, 1) := dk_60 (dk_at dksX6_begins_1 9 rfl rfl)
theorem dX6_begins_34 : decode cX6_begins 34 = .ok (.iload_n 1, 1) := dk_27 (dk_at dksX6_begins_1 10 rfl rfl)
theorem dX6_begins_35 : decode cX6_begins 35 = .ok (.bipush 48, 2) := dk_16 48 (dk_at dksX6_begins_1 11 rfl rfl)
theorem dX6_begins_37 : decode cX6_begins 37 = .ok (.if_icmp .ge 21, 3) := dk_162 0 21 (dk_at dksX6_begins_1 13 rfl rfl)
theorem dX6_begins_40 : decode cX6_begins 40 = .ok (.aload_n 0, 1) := dk_42 (dk_at dksX6_begins_1 16 rfl rfl)
theorem dX6_begins_41 : decode cX6_begins 41 = .ok (.getfield 7, 3) := dk_180 0 7 (dk_at dksX6_begins_1 17 rfl rfl)
theorem dX6_begins_44 : decode cX6_begins 44 = .ok (.iload_n 1, 1) := dk_27 (dk_at dksX6_begins_1 20 rfl rfl)
theorem dX6_begins_45 : decode cX6_begins 45 = .ok (.aload_n 0, 1) := dk_42 (dk_at dksX6_begins_1 21 rfl rfl)
theorem dX6_begins_46 : decode cX6_begins 46 = .ok (.getfield 47, 3) := dk_180 0 47 (dk_at dksX6_begins_2 0 rfl rfl)
theorem dX6_begins_49 : decode cX6_begins 49 = .ok (.iload_n 1, 1) := dk_27 (dk_at dksX6_begins_2 3 rfl rfl)
theorem dX6_begins_50 : decode cX6_begins 50 = .ok (.iaload, 1) := dk_46 (dk_at dksX6_begins_2 4 rfl rfl)
theorem dX6_begins_51 : decode cX6_begins 51 = .ok (.iastore, 1) := dk_79 (dk_at dksX6_begins_2 5 rfl rfl)
theorem dX6_begins_52 : decode cX6_begins 52 = .ok (.iinc 1 1, 3) := dk_132 1 1 (dk_at dksX6_begins_2 6 rfl rfl)
theorem dX6_begins_55 : decode cX6_begins 55 = .ok (.goto (-21), 3) := dk_167 255 235 (dk_at dksX6_begins_2 9 rfl rfl)
theorem dX6_begins_58 : decode cX6_begins 58 = .ok (.iconst 0, 1) := dk_3 (dk_at dksX6_begins_2 12 rfl rfl)
theorem dX6_begins_59 : decode cX6_begins 59 = .ok (.istore_n 1, 1) := dk_60 (dk_at dksX6_begins_2 13 rfl rfl)
theorem dX6_begins_60 : decode cX6_begins 60 = .ok (.iload_n 1, 1) := dk_27 (dk_at dksX6_begins_2 14 rfl rfl)
theorem dX6_begins_61 : decode cX6_begins 61 = .ok (.bipush 12, 2) := dk_16 12 (dk_at dksX6_begins_2 15 rfl rfl)
theorem dX6_begins_63 : decode cX6_begins 63 = .ok (.if_icmp .ge 21, 3) := dk_162 0 21 (dk_at dksX6_begins_2 17 rfl rfl)
theorem dX6_begins_66 : decode cX6_begins 66 = .ok (.aload_n 0, 1) := dk_42 (dk_at dksX6_begins_2 20 rfl rfl)
theorem dX6_begins_67 : decode cX6_begins 67 = .ok (.getfield 13, 3) := dk_180 0 13 (dk_at dksX6_begins_2 21 rfl rfl)
theorem dX6_begins_70 : decode cX6_begins 70 = .ok (.iload_n 1, 1) := dk_27 (dk_at dksX6_begins_3 0 rfl rfl)
theorem dX6_begins_71 : decode cX6_begins 71 = .ok (.aload_n 0, 1) := dk_42 (dk_at dksX6_begins_3 1 rfl rfl)
theorem dX6_begins_72 : decode cX6_begins 72 = .ok (.getfield 50, 3) := dk_180 0 50 (dk_at dksX6_begins_3 2 rfl rfl)
theorem dX6_begins_75 : decode cX6_begins 75 = .ok (.iload_n 1, 1) := dk_27 (dk_at dksX6_begins_3 5 rfl rfl)
theorem dX6_begins_76 : decode cX6_begins 76 = .ok (.iaload, 1) := dk_46 (dk_at dksX6_begins_3 6 rfl rfl)
theorem dX6_begins_77 : decode cX6_begins 77 = .ok (.iastore, 1) := dk_79 (dk_at dksX6_begins_3 7 rfl rfl)
theorem dX6_begins_78 : decode cX6_begins 78 = .ok (.iinc 1 1, 3) := dk_132 1 1 (dk_at dksX6_begins_3 8 rfl rfl)
theorem dX6_begins_81 : decode cX6_begins 81 = .ok (.goto (-21), 3) := dk_167 255 235 (dk_at dksX6_begins_3 11 rfl rfl)
theorem dX6_begins_84 : decode cX6_begins 84 = .ok (.iconst 0, 1) := dk_3 (dk_at dksX6_begins_3 14 rfl rfl)
theorem dX6_begins_85 : decode cX6_begins 85 = .ok (.istore_n 1, 1) := dk_60 (dk_at dksX6_begins_3 15 rfl rfl)
theorem dX6_begins_86 : decode cX6_begins 86 = .ok (.iload_n 1, 1) := dk_27 (dk_at dksX6_begins_3 16 rfl rfl)
theorem dX6_begins_87 : decode cX6_begins 87 = .ok (.bipush 24, 2) := dk_16 24 (dk_at dksX6_begins_3 17 rfl rfl)
theorem dX6_begins_89 : decode cX6_begins 89 = .ok (.if_icmp .ge 21, 3) := dk_162 0 21 (dk_at dksX6_begins_3 19 rfl rfl)
theorem dX6_begins_92 : decode cX6_begins 92 = .ok (.aload_n 0, 1) := dk_42 (dk_at dksX6_begins_3 22 rfl rfl)
theorem dX6_begins_93 : decode cX6_begins 93 = .ok (.getfield 16, 3) := dk_180 0 16 (dk_at dksX6_begins_4 0 rfl rfl)
theorem dX6_begins_96 : decode cX6_begins 96 = .ok (.iload_n 1, 1) := dk_27 (dk_at dksX6_begins_4 3 rfl rfl)
theorem dX6_begins_97 : decode cX6_begins 97 = .ok (.aload_n 0, 1) := dk_42 (dk_at dksX6_begins_4 4 rfl rfl)
theorem dX6_begins_98 : decode cX6_begins 98 = .ok (.getfield 53, 3) := dk_180 0 53 (dk_at dksX6_begins_4 5 rfl rfl)
theorem dX6_begins_101 : decode cX6_begins 101 = .ok (.iload_n 1, 1) := dk_27 (dk_at dksX6_begins_4 8 rfl rfl)
theorem dX6_begins_102 : decode cX6_begins 102 = .ok (.iaload, 1) := dk_46 (dk_at dksX6_begins_4 9 rfl rfl)
theorem dX6_begins_103 : decode cX6_begins 103 = .ok (.iastore, 1) := dk_79 (dk_at dksX6_begins_4 10 rfl rfl)
theorem dX6_begins_104 : decode cX6_begins 104 = .ok (.iinc 1 1, 3) := dk_132 1 1 (dk_at dksX6_begins_4 11 rfl rfl)
theorem dX6_begins_107 : decode cX6_begins 107 = .ok (.goto (-21), 3) := dk_167 255 235 (dk_at dksX6_begins_4 14 rfl rfl)
theorem dX6_begins_110 : decode cX6_begins 110 = .ok (.iconst 0, 1) := dk_3 (dk_at dksX6_begins_4 17 rfl rfl)
theorem dX6_begins_111 : decode cX6_begins 111 = .ok (.istore_n 1, 1) := dk_60 (dk_at dksX6_begins_4 18 rfl rfl)
theorem dX6_begins_112 : decode cX6_begins 112 = .ok (.iload_n 1, 1) := dk_27 (dk_at dksX6_begins_4 19 rfl rfl)
theorem dX6_begins_113 : decode cX6_begins 113 = .ok (.bipush 8, 2) := dk_16 8 (dk_at dksX6_begins_4 20 rfl rfl)
theorem dX6_begins_115 : decode cX6_begins 115 = .ok (.if_icmp .ge 21, 3) := dk_162 0 21 (dk_at dksX6_begins_5 0 rfl rfl)
theorem dX6_begins_118 : decode cX6_begins 118 = .ok (.aload_n 0, 1) := dk_42 (dk_at dksX6_begins_5 3 rfl rfl)
theorem dX6_begins_119 : decode cX6_begins 119 = .ok (.getfield 19, 3) := dk_180 0 19 (dk_at dksX6_begins_5 4 rfl rfl)
theorem dX6_begins_122 : decode cX6_begins 122 = .ok (.iload_n 1, 1) := dk_27 (dk_at dksX6_begins_5 7 rfl rfl)
theorem dX6_begins_123 : decode cX6_begins 123 = .ok (.aload_n 0, 1) := dk_42 (dk_at dksX6_begins_5 8 rfl rfl)
theorem dX6_begins_124 : decode cX6_begins 124 = .ok (.getfield 56, 3) := dk_180 0 56 (dk_at dksX6_begins_5 9 rfl rfl)
theorem dX6_begins_127 : decode cX6_begins 127 = .ok (.iload_n 1, 1) := dk_27 (dk_at dksX6_begins_5 12 rfl rfl)
theorem dX6_begins_128 : decode cX6_begins 128 = .ok (.iaload, 1) := dk_46 (dk_at dksX6_begins_5 13 rfl rfl)
theorem dX6_begins_129 : decode cX6_begins 129 = .ok (.iastore, 1) := dk_79 (dk_at dksX6_begins_5 14 rfl rfl)
theorem dX6_begins_130 : decode cX6_begins 130 = .ok (.iinc 1 1, 3) := dk_132 1 1 (dk_at dksX6_begins_5 15 rfl rfl)
theorem dX6_begins_133 : decode cX6_begins 133 = .ok (.goto (-21), 3) := dk_167 255 235 (dk_at dksX6_begins_5 18 rfl rfl)
theorem dX6_begins_136 : decode cX6_begins 136 = .ok (.iconst 0, 1) := dk_3 (dk_at dksX6_begins_5 21 rfl rfl)
theorem dX6_begins_137 : decode cX6_begins 137 = .ok (.istore_n 1, 1) := dk_60 (dk_at dksX6_begins_5 22 rfl rfl)
theorem dX6_begins_138 : decode cX6_begins 138 = .ok (.iload_n 1, 1) := dk_27 (dk_at dksX6_begins_5 23 rfl rfl)
theorem dX6_begins_139 : decode cX6_begins 139 = .ok (.bipush 96, 2) := dk_16 96 (dk_at dksX6_begins_6 0 rfl rfl)
theorem dX6_begins_141 : decode cX6_begins 141 = .ok (.if_icmp .ge 21, 3) := dk_162 0 21 (dk_at dksX6_begins_6 2 rfl rfl)
theorem dX6_begins_144 : decode cX6_begins 144 = .ok (.aload_n 0, 1) := dk_42 (dk_at dksX6_begins_6 5 rfl rfl)
theorem dX6_begins_145 : decode cX6_begins 145 = .ok (.getfield 22, 3) := dk_180 0 22 (dk_at dksX6_begins_6 6 rfl rfl)
theorem dX6_begins_148 : decode cX6_begins 148 = .ok (.iload_n 1, 1) := dk_27 (dk_at dksX6_begins_6 9 rfl rfl)
theorem dX6_begins_149 : decode cX6_begins 149 = .ok (.aload_n 0, 1) := dk_42 (dk_at dksX6_begins_6 10 rfl rfl)
theorem dX6_begins_150 : decode cX6_begins 150 = .ok (.getfield 59, 3) := dk_180 0 59 (dk_at dksX6_begins_6 11 rfl rfl)
theorem dX6_begins_153 : decode cX6_begins 153 = .ok (.iload_n 1, 1) := dk_27 (dk_at dksX6_begins_6 14 rfl rfl)
theorem dX6_begins_154 : decode cX6_begins 154 = .ok (.iaload, 1) := dk_46 (dk_at dksX6_begins_6 15 rfl rfl)
theorem dX6_begins_155 : decode cX6_begins 155 = .ok (.iastore, 1) := dk_79 (dk_at dksX6_begins_6 16 rfl rfl)
theorem dX6_begins_156 : decode cX6_begins 156 = .ok (.iinc 1 1, 3) := dk_132 1 1 (dk_at dksX6_begins_6 17 rfl rfl)
theorem dX6_begins_159 : decode cX6_begins 159 = .ok (.goto (-21), 3) := dk_167 255 235 (dk_at dksX6_begins_6 20 rfl rfl)
theorem dX6_begins_162 : decode cX6_begins 162 = .ok (.iconst 0, 1) := dk_3 (dk_at dksX6_begins_6 23 rfl rfl)
theorem dX6_begins_163 : decode cX6_begins 163 = .ok (.istore_n 1, 1) := dk_60 (dk_at dksX6_begins_7 0 rfl rfl)
theorem dX6_begins_164 : decode cX6_begins 164 = .ok (.iload_n 1, 1) := dk_27 (dk_at dksX6_begins_7 1 rfl rfl)
theorem dX6_begins_165 : decode cX6_begins 165 = .ok (.sipush 411, 3) := dk_17 1 155 (dk_at dksX6_begins_7 2 rfl rfl)
theorem dX6_begins_168 : decode cX6_begins 168 = .ok (.if_icmp .ge 21, 3) := dk_162 0 21 (dk_at dksX6_begins_7 5 rfl rfl)
theorem dX6_begins_171 : decode cX6_begins 171 = .ok (.aload_n 0, 1) := dk_42 (dk_at dksX6_begins_7 8 rfl rfl)
theorem dX6_begins_172 : decode cX6_begins 172 = .ok (.getfield 25, 3) := dk_180 0 25 (dk_at dksX6_begins_7 9 rfl rfl)
theorem dX6_begins_175 : decode cX6_begins 175 = .ok (.iload_n 1, 1) := dk_27 (dk_at dksX6_begins_7 12 rfl rfl)
theorem dX6_begins_176 : decode cX6_begins 176 = .ok (.aload_n 0, 1) := dk_42 (dk_at dksX6_begins_7 13 rfl rfl)
theorem dX6_begins_177 : decode cX6_begins 177 = .ok (.getfield 44, 3) := dk_180 0 44 (dk_at dksX6_begins_7 14 rfl rfl)
theorem dX6_begins_180 : decode cX6_begins 180 = .ok (.iload_n 1, 1) := dk_27 (dk_at dksX6_begins_7 17 rfl rfl)
theorem dX6_begins_181 : decode cX6_begins 181 = .ok (.iaload, 1) := dk_46 (dk_at dksX6_begins_7 18 rfl rfl)
theorem dX6_begins_182 : decode cX6_begins 182 = .ok (.iastore, 1) := dk_79 (dk_at dksX6_begins_7 19 rfl rfl)
theorem dX6_begins_183 : decode cX6_begins 183 = .ok (.iinc 1 1, 3) := dk_132 1 1 (dk_at dksX6_begins_7 20 rfl rfl)
theorem dX6_begins_186 : decode cX6_begins 186 = .ok (.goto (-22), 3) := dk_167 255 234 (dk_at dksX6_begins_8 0 rfl rfl)
theorem dX6_begins_189 : decode cX6_begins 189 = .ok (.iconst 0, 1) := dk_3 (dk_at dksX6_begins_8 3 rfl rfl)
theorem dX6_begins_190 : decode cX6_begins 190 = .ok (.istore_n 1, 1) := dk_60 (dk_at dksX6_begins_8 4 rfl rfl)
theorem dX6_begins_191 : decode cX6_begins 191 = .ok (.iload_n 1, 1) := dk_27 (dk_at dksX6_begins_8 5 rfl rfl)
theorem dX6_begins_192 : decode cX6_begins 192 = .ok (.aload_n 0, 1) := dk_42 (dk_at dksX6_begins_8 6 rfl rfl)
theorem dX6_begins_193 : decode cX6_begins 193 = .ok (.getfield 207, 3) := dk_180 0 207 (dk_at dksX6_begins_8 7 rfl rfl)
theorem dX6_begins_196 : decode cX6_begins 196 = .ok (.if_icmp .ge 52, 3) := dk_162 0 52 (dk_at dksX6_begins_8 10 rfl rfl)
theorem dX6_begins_199 : decode cX6_begins 199 = .ok (.aload_n 0, 1) := dk_42 (dk_at dksX6_begins_8 13 rfl rfl)
theorem dX6_begins_200 : decode cX6_begins 200 = .ok (.getfield 25, 3) := dk_180 0 25 (dk_at dksX6_begins_8 14 rfl rfl)
theorem dX6_begins_203 : decode cX6_begins 203 = .ok (.iload_n 1, 1) := dk_27 (dk_at dksX6_begins_8 17 rfl rfl)
theorem dX6_begins_204 : decode cX6_begins 204 = .ok (.iconst 2, 1) := dk_5 (dk_at dksX6_begins_8 18 rfl rfl)
theorem dX6_begins_205 : decode cX6_begins 205 = .ok (.invokestatic 157, 3) := dk_184 0 157 (dk_at dksX6_begins_8 19 rfl rfl)
theorem dX6_begins_208 : decode cX6_begins 208 = .ok (.aload_n 0, 1) := dk_42 (dk_at dksX6_begins_8 22 rfl rfl)
theorem dX6_begins_209 : decode cX6_begins 209 = .ok (.getfield 25, 3) := dk_180 0 25 (dk_at dksX6_begins_9 0 rfl rfl)
theorem dX6_begins_212 : decode cX6_begins 212 = .ok (.iload_n 1, 1) := dk_27 (dk_at dksX6_begins_9 3 rfl rfl)
theorem dX6_begins_213 : decode cX6_begins 213 = .ok (.iconst 1, 1) := dk_4 (dk_at dksX6_begins_9 4 rfl rfl)
theorem dX6_begins_214 : decode cX6_begins 214 = .ok (.invokestatic 157, 3) := dk_184 0 157 (dk_at dksX6_begins_9 5 rfl rfl)
theorem dX6_begins_217 : decode cX6_begins 217 = .ok (.iaload, 1) := dk_46 (dk_at dksX6_begins_9 8 rfl rfl)
theorem dX6_begins_218 : decode cX6_begins 218 = .ok (.iastore, 1) := dk_79 (dk_at dksX6_begins_9 9 rfl rfl)
theorem dX6_begins_219 : decode cX6_begins 219 = .ok (.aload_n 0, 1) := dk_42 (dk_at dksX6_begins_9 10 rfl rfl)
theorem dX6_begins_220 : decode cX6_begins 220 = .ok (.getfield 25, 3) := dk_180 0 25 (dk_at dksX6_begins_9 11 rfl rfl)
theorem dX6_begins_223 : decode cX6_begins 223 = .ok (.iload_n 1, 1) := dk_27 (dk_at dksX6_begins_9 14 rfl rfl)
theorem dX6_begins_224 : decode cX6_begins 224 = .ok (.iconst 5, 1) := dk_8 (dk_at dksX6_begins_9 15 rfl rfl)
theorem dX6_begins_225 : decode cX6_begins 225 = .ok (.invokestatic 157, 3) := dk_184 0 157 (dk_at dksX6_begins_9 16 rfl rfl)
theorem dX6_begins_228 : decode cX6_begins 228 = .ok (.iconst (-1), 1) := dk_2 (dk_at dksX6_begins_9 19 rfl rfl)
theorem dX6_begins_229 : decode cX6_begins 229 = .ok (.iastore, 1) := dk_79 (dk_at dksX6_begins_9 20 rfl rfl)
theorem dX6_begins_230 : decode cX6_begins 230 = .ok (.aload_n 0, 1) := dk_42 (dk_at dksX6_begins_9 21 rfl rfl)
theorem dX6_begins_231 : decode cX6_begins 231 = .ok (.getfield 25, 3) := dk_180 0 25 (dk_at dksX6_begins_10 0 rfl rfl)
theorem dX6_begins_234 : decode cX6_begins 234 = .ok (.iload_n 1, 1) := dk_27 (dk_at dksX6_begins_10 3 rfl rfl)
theorem dX6_begins_235 : decode cX6_begins 235 = .ok (.bipush 6, 2) := dk_16 6 (dk_at dksX6_begins_10 4 rfl rfl)
theorem dX6_begins_237 : decode cX6_begins 237 = .ok (.invokestatic 157, 3) := dk_184 0 157 (dk_at dksX6_begins_10 6 rfl rfl)
theorem dX6_begins_240 : decode cX6_begins 240 = .ok (.iconst (-1), 1) := dk_2 (dk_at dksX6_begins_10 9 rfl rfl)
theorem dX6_begins_241 : decode cX6_begins 241 = .ok (.iastore, 1) := dk_79 (dk_at dksX6_begins_10 10 rfl rfl)
theorem dX6_begins_242 : decode cX6_begins 242 = .ok (.iinc 1 1, 3) := dk_132 1 1 (dk_at dksX6_begins_10 11 rfl rfl)
theorem dX6_begins_245 : decode cX6_begins 245 = .ok (.goto (-54), 3) := dk_167 255 202 (dk_at dksX6_begins_10 14 rfl rfl)
theorem dX6_begins_248 : decode cX6_begins 248 = .ok (.aload_n 0, 1) := dk_42 (dk_at dksX6_begins_10 17 rfl rfl)
theorem dX6_begins_249 : decode cX6_begins 249 = .ok (.iconst 0, 1) := dk_3 (dk_at dksX6_begins_10 18 rfl rfl)
theorem dX6_begins_250 : decode cX6_begins 250 = .ok (.putfield 219, 3) := dk_181 0 219 (dk_at dksX6_begins_10 19 rfl rfl)
theorem dX6_begins_253 : decode cX6_begins 253 = .ok (.aload_n 0, 1) := dk_42 (dk_at dksX6_begins_10 22 rfl rfl)
theorem dX6_begins_254 : decode cX6_begins 254 = .ok (.getfield 37, 3) := dk_180 0 37 (dk_at dksX6_begins_11 0 rfl rfl)
theorem dX6_begins_257 : decode cX6_begins 257 = .ok (.iconst 0, 1) := dk_3 (dk_at dksX6_begins_11 3 rfl rfl)
theorem dX6_begins_258 : decode cX6_begins 258 = .ok (.iconst 0, 1) := dk_3 (dk_at dksX6_begins_11 4 rfl rfl)
theorem dX6_begins_259 : decode cX6_begins 259 = .ok (.bastore, 1) := dk_84 (dk_at dksX6_begins_11 5 rfl rfl)
theorem dX6_begins_260 : decode cX6_begins 260 = .ok (.aload_n 0, 1) := dk_42 (dk_at dksX6_begins_11 6 rfl rfl)
theorem dX6_begins_261 : decode cX6_begins 261 = .ok (.getfield 37, 3) := dk_180 0 37 (dk_at dksX6_begins_11 7 rfl rfl)
theorem dX6_begins_264 : decode cX6_begins 264 = .ok (.iconst 1, 1) := dk_4 (dk_at dksX6_begins_11 10 rfl rfl)
theorem dX6_begins_265 : decode cX6_begins 265 = .ok (.iconst 0, 1) := dk_3 (dk_at dksX6_begins_11 11 rfl rfl)
theorem dX6_begins_266 : decode cX6_begins 266 = .ok (.bastore, 1) := dk_84 (dk_at dksX6_begins_11 12 rfl rfl)
theorem dX6_begins_267 : decode cX6_begins 267 = .ok (.return_, 1) := dk_177 (dk_at dksX6_begins_11 13 rfl rfl)
def dkwX6_at_0 : List UInt8 := [16, 51, 16, 12, 26, 104, 96, 27, 96, 172]
abbrev dktX6_at_0 : List UInt8 := dkwX6_at_0 ++ []
theorem dksX6_at_0 : cX6_at.data.toList.drop 0 = dktX6_at_0 := by decide +kernel
theorem dX6_at_0 : decode cX6_at 0 = .ok (.bipush 51, 2) := dk_16 51 (dk_at dksX6_at_0 0 rfl rfl)
theorem dX6_at_2 : decode cX6_at 2 = .ok (.bipush 12, 2) := dk_16 12 (dk_at dksX6_at_0 2 rfl rfl)
theorem dX6_at_4 : decode cX6_at 4 = .ok (.iload_n 0, 1) := dk_26 (dk_at dksX6_at_0 4 rfl rfl)
theorem dX6_at_5 : decode cX6_at 5 = .ok (.imul, 1) := dk_104 (dk_at dksX6_at_0 5 rfl rfl)
theorem dX6_at_6 : decode cX6_at 6 = .ok (.iadd, 1) := dk_96 (dk_at dksX6_at_0 6 rfl rfl)
theorem dX6_at_7 : decode cX6_at 7 = .ok (.iload_n 1, 1) := dk_27 (dk_at dksX6_at_0 7 rfl rfl)
theorem dX6_at_8 : decode cX6_at 8 = .ok (.iadd, 1) := dk_96 (dk_at dksX6_at_0 8 rfl rfl)
theorem dX6_at_9 : decode cX6_at 9 = .ok (.ireturn, 1) := dk_172 (dk_at dksX6_at_0 9 rfl rfl)
theorem dX6_thrown_0 : decode cX6_thrown 0 = .ok (.aload_n 0, 1) := by decide +kernel
theorem dX6_thrown_1 : decode cX6_thrown 1 = .ok (.getfield 72, 3) := by decide +kernel
theorem dX6_thrown_4 : decode cX6_thrown 4 = .ok (.ireturn, 1) := by decide +kernel
def dkwX6_append_6 : List UInt8 := [180, 0, 75, 172]
abbrev dktX6_append_6 : List UInt8 := dkwX6_append_6 ++ []
def dkwX6_append_5 : List UInt8 := [17, 0, 255, 126, 79, 132, 6, 1, 167, 255, 169, 42, 89, 180, 0, 75, 16, 20, 96, 181, 0, 75, 42]
abbrev dktX6_append_5 : List UInt8 := dkwX6_append_5 ++ dktX6_append_6
def dkwX6_append_4 : List UInt8 := [180, 0, 41, 42, 180, 0, 75, 21, 6, 96, 21, 7, 16, 24, 16, 8, 21, 6, 7, 112, 104, 100, 122]
abbrev dktX6_append_4 : List UInt8 := dkwX6_append_4 ++ dktX6_append_5
def dkwX6_append_3 : List UInt8 := [162, 0, 7, 29, 167, 0, 17, 21, 6, 16, 16, 162, 0, 8, 21, 4, 167, 0, 5, 21, 5, 54, 7, 42]
abbrev dktX6_append_3 : List UInt8 := dkwX6_append_3 ++ dktX6_append_4
def dkwX6_append_2 : List UInt8 := [162, 0, 7, 27, 167, 0, 39, 21, 6, 16, 8, 162, 0, 7, 28, 167, 0, 28, 21, 6, 16, 12]
abbrev dktX6_append_2 : List UInt8 := dkwX6_append_2 ++ dktX6_append_3
def dkwX6_append_1 : List UInt8 := [4, 182, 0, 78, 154, 0, 5, 3, 172, 3, 54, 6, 21, 6, 16, 20, 162, 0, 86, 21, 6, 7]
abbrev dktX6_append_1 : List UInt8 := dkwX6_append_1 ++ dktX6_append_2
def dkwX6_append_0 : List UInt8 := [42, 3, 181, 0, 72, 42, 42, 180, 0, 75, 16, 20, 96, 17, 3, 132, 163, 0, 7, 4, 167, 0, 4, 3]
abbrev dktX6_append_0 : List UInt8 := dkwX6_append_0 ++ dktX6_append_1
theorem dksX6_append_0 : cX6_append.data.toList.drop 0 = dktX6_append_0 := by decide +kernel
theorem dksX6_append_1 : cX6_append.data.toList.drop 24 = dktX6_append_1 := dk_seg dksX6_append_0 24 rfl rfl
theorem dksX6_append_2 : cX6_append.data.toList.drop 46 = dktX6_append_2 := dk_seg dksX6_append_1 22 rfl rfl
theorem dksX6_append_3 : cX6_append.data.toList.drop 68 = dktX6_append_3 := dk_seg dksX6_append_2 22 rfl rfl
theorem dksX6_append_4 : cX6_append.data.toList.drop 92 = dktX6_append_4 := dk_seg dksX6_append_3 24 rfl rfl
theorem dksX6_append_5 : cX6_append.data.toList.drop 115 = dktX6_append_5 := dk_seg dksX6_append_4 23 rfl rfl
theorem dksX6_append_6 : cX6_append.data.toList.drop 138 = dktX6_append_6 := dk_seg dksX6_append_5 23 rfl rfl
theorem dX6_append_0 : decode cX6_append 0 = .ok (.aload_n 0, 1) := dk_42 (dk_at dksX6_append_0 0 rfl rfl)
theorem dX6_append_1 : decode cX6_append 1 = .ok (.iconst 0, 1) := dk_3 (dk_at dksX6_append_0 1 rfl rfl)
theorem dX6_append_2 : decode cX6_append 2 = .ok (.putfield 72, 3) := dk_181 0 72 (dk_at dksX6_append_0 2 rfl rfl)
theorem dX6_append_5 : decode cX6_append 5 = .ok (.aload_n 0, 1) := dk_42 (dk_at dksX6_append_0 5 rfl rfl)
theorem dX6_append_6 : decode cX6_append 6 = .ok (.aload_n 0, 1) := dk_42 (dk_at dksX6_append_0 6 rfl rfl)
theorem dX6_append_7 : decode cX6_append 7 = .ok (.getfield 75, 3) := dk_180 0 75 (dk_at dksX6_append_0 7 rfl rfl)
theorem dX6_append_10 : decode cX6_append 10 = .ok (.bipush 20, 2) := dk_16 20 (dk_at dksX6_append_0 10 rfl rfl)
theorem dX6_append_12 : decode cX6_append 12 = .ok (.iadd, 1) := dk_96 (dk_at dksX6_append_0 12 rfl rfl)
theorem dX6_append_13 : decode cX6_append 13 = .ok (.sipush 900, 3) := dk_17 3 132 (dk_at dksX6_append_0 13 rfl rfl)
theorem dX6_append_16 : decode cX6_append 16 = .ok (.if_icmp .gt 7, 3) := dk_163 0 7 (dk_at dksX6_append_0 16 rfl rfl)
theorem dX6_append_19 : decode cX6_append 19 = .ok (.iconst 1, 1) := dk_4 (dk_at dksX6_append_0 19 rfl rfl)
theorem dX6_append_20 : decode cX6_append 20 = .ok (.goto 4, 3) := dk_167 0 4 (dk_at dksX6_append_0 20 rfl rfl)
theorem dX6_append_23 : decode cX6_append 23 = .ok (.iconst 0, 1) := dk_3 (dk_at dksX6_append_0 23 rfl rfl)
theorem dX6_append_24 : decode cX6_append 24 = .ok (.iconst 1, 1) := dk_4 (dk_at dksX6_append_1 0 rfl rfl)
theorem dX6_append_25 : decode cX6_append 25 = .ok (.invokevirtual 78, 3) := dk_182 0 78 (dk_at dksX6_append_1 1 rfl rfl)
theorem dX6_append_28 : decode cX6_append 28 = .ok (.ifCond .ne 5, 3) := dk_154 0 5 (dk_at dksX6_append_1 4 rfl rfl)
theorem dX6_append_31 : decode cX6_append 31 = .ok (.iconst 0, 1) := dk_3 (dk_at dksX6_append_1 7 rfl rfl)
theorem dX6_append_32 : decode cX6_append 32 = .ok (.ireturn, 1) := dk_172 (dk_at dksX6_append_1 8 rfl rfl)
theorem dX6_append_33 : decode cX6_append 33 = .ok (.iconst 0, 1) := dk_3 (dk_at dksX6_append_1 9 rfl rfl)
theorem dX6_append_34 : decode cX6_append 34 = .ok (.istore 6, 2) := dk_54 6 (dk_at dksX6_append_1 10 rfl rfl)
theorem dX6_append_36 : decode cX6_append 36 = .ok (.iload 6, 2) := dk_21 6 (dk_at dksX6_append_1 12 rfl rfl)
theorem dX6_append_38 : decode cX6_append 38 = .ok (.bipush 20, 2) := dk_16 20 (dk_at dksX6_append_1 14 rfl rfl)
theorem dX6_append_40 : decode cX6_append 40 = .ok (.if_icmp .ge 86, 3) := dk_162 0 86 (dk_at dksX6_append_1 16 rfl rfl)
theorem dX6_append_43 : decode cX6_append 43 = .ok (.iload 6, 2) := dk_21 6 (dk_at dksX6_append_1 19 rfl rfl)
theorem dX6_append_45 : decode cX6_append 45 = .ok (.iconst 4, 1) := dk_7 (dk_at dksX6_append_1 21 rfl rfl)
theorem dX6_append_46 : decode cX6_append 46 = .ok (.if_icmp .ge 7, 3) := dk_162 0 7 (dk_at dksX6_append_2 0 rfl rfl)
theorem dX6_append_49 : decode cX6_append 49 = .ok (.iload_n 1, 1) := dk_27 (dk_at dksX6_append_2 3 rfl rfl)
theorem dX6_append_50 : decode cX6_append 50 = .ok (.goto 39, 3) := dk_167 0 39 (dk_at dksX6_append_2 4 rfl rfl)
theorem dX6_append_53 : decode cX6_append 53 = .ok (.iload 6, 2) := dk_21 6 (dk_at dksX6_append_2 7 rfl rfl)
theorem dX6_append_55 : decode cX6_append 55 = .ok (.bipush 8, 2) := dk_16 8 (dk_at dksX6_append_2 9 rfl rfl)
theorem dX6_append_57 : decode cX6_append 57 = .ok (.if_icmp .ge 7, 3) := dk_162 0 7 (dk_at dksX6_append_2 11 rfl rfl)
theorem dX6_append_60 : decode cX6_append 60 = .ok (.iload_n 2, 1) := dk_28 (dk_at dksX6_append_2 14 rfl rfl)
theorem dX6_append_61 : decode cX6_append 61 = .ok (.goto 28, 3) := dk_167 0 28 (dk_at dksX6_append_2 15 rfl rfl)
theorem dX6_append_64 : decode cX6_append 64 = .ok (.iload 6, 2) := dk_21 6 (dk_at dksX6_append_2 18 rfl rfl)
theorem dX6_append_66 : decode cX6_append 66 = .ok (.bipush 12, 2) := dk_16 12 (dk_at dksX6_append_2 20 rfl rfl)
theorem dX6_append_68 : decode cX6_append 68 = .ok (.if_icmp .ge 7, 3) := dk_162 0 7 (dk_at dksX6_append_3 0 rfl rfl)
theorem dX6_append_71 : decode cX6_append 71 = .ok (.iload_n 3, 1) := dk_29 (dk_at dksX6_append_3 3 rfl rfl)
theorem dX6_append_72 : decode cX6_append 72 = .ok (.goto 17, 3) := dk_167 0 17 (dk_at dksX6_append_3 4 rfl rfl)
theorem dX6_append_75 : decode cX6_append 75 = .ok (.iload 6, 2) := dk_21 6 (dk_at dksX6_append_3 7 rfl rfl)
theorem dX6_append_77 : decode cX6_append 77 = .ok (.bipush 16, 2) := dk_16 16 (dk_at dksX6_append_3 9 rfl rfl)
theorem dX6_append_79 : decode cX6_append 79 = .ok (.if_icmp .ge 8, 3) := dk_162 0 8 (dk_at dksX6_append_3 11 rfl rfl)
theorem dX6_append_82 : decode cX6_append 82 = .ok (.iload 4, 2) := dk_21 4 (dk_at dksX6_append_3 14 rfl rfl)
theorem dX6_append_84 : decode cX6_append 84 = .ok (.goto 5, 3) := dk_167 0 5 (dk_at dksX6_append_3 16 rfl rfl)
theorem dX6_append_87 : decode cX6_append 87 = .ok (.iload 5, 2) := dk_21 5 (dk_at dksX6_append_3 19 rfl rfl)
theorem dX6_append_89 : decode cX6_append 89 = .ok (.istore 7, 2) := dk_54 7 (dk_at dksX6_append_3 21 rfl rfl)
theorem dX6_append_91 : decode cX6_append 91 = .ok (.aload_n 0, 1) := dk_42 (dk_at dksX6_append_3 23 rfl rfl)
theorem dX6_append_92 : decode cX6_append 92 = .ok (.getfield 41, 3) := dk_180 0 41 (dk_at dksX6_append_4 0 rfl rfl)
theorem dX6_append_95 : decode cX6_append 95 = .ok (.aload_n 0, 1) := dk_42 (dk_at dksX6_append_4 3 rfl rfl)
theorem dX6_append_96 : decode cX6_append 96 = .ok (.getfield 75, 3) := dk_180 0 75 (dk_at dksX6_append_4 4 rfl rfl)
theorem dX6_append_99 : decode cX6_append 99 = .ok (.iload 6, 2) := dk_21 6 (dk_at dksX6_append_4 7 rfl rfl)
theorem dX6_append_101 : decode cX6_append 101 = .ok (.iadd, 1) := dk_96 (dk_at dksX6_append_4 9 rfl rfl)
theorem dX6_append_102 : decode cX6_append 102 = .ok (.iload 7, 2) := dk_21 7 (dk_at dksX6_append_4 10 rfl rfl)
theorem dX6_append_104 : decode cX6_append 104 = .ok (.bipush 24, 2) := dk_16 24 (dk_at dksX6_append_4 12 rfl rfl)
theorem dX6_append_106 : decode cX6_append 106 = .ok (.bipush 8, 2) := dk_16 8 (dk_at dksX6_append_4 14 rfl rfl)
theorem dX6_append_108 : decode cX6_append 108 = .ok (.iload 6, 2) := dk_21 6 (dk_at dksX6_append_4 16 rfl rfl)
theorem dX6_append_110 : decode cX6_append 110 = .ok (.iconst 4, 1) := dk_7 (dk_at dksX6_append_4 18 rfl rfl)
theorem dX6_append_111 : decode cX6_append 111 = .ok (.irem, 1) := dk_112 (dk_at dksX6_append_4 19 rfl rfl)
theorem dX6_append_112 : decode cX6_append 112 = .ok (.imul, 1) := dk_104 (dk_at dksX6_append_4 20 rfl rfl)
theorem dX6_append_113 : decode cX6_append 113 = .ok (.isub, 1) := dk_100 (dk_at dksX6_append_4 21 rfl rfl)
theorem dX6_append_114 : decode cX6_append 114 = .ok (.ishr, 1) := dk_122 (dk_at dksX6_append_4 22 rfl rfl)
theorem dX6_append_115 : decode cX6_append 115 = .ok (.sipush 255, 3) := dk_17 0 255 (dk_at dksX6_append_5 0 rfl rfl)
theorem dX6_append_118 : decode cX6_append 118 = .ok (.iand, 1) := dk_126 (dk_at dksX6_append_5 3 rfl rfl)
theorem dX6_append_119 : decode cX6_append 119 = .ok (.iastore, 1) := dk_79 (dk_at dksX6_append_5 4 rfl rfl)
theorem dX6_append_120 : decode cX6_append 120 = .ok (.iinc 6 1, 3) := dk_132 6 1 (dk_at dksX6_append_5 5 rfl rfl)
theorem dX6_append_123 : decode cX6_append 123 = .ok (.goto (-87), 3) := dk_167 255 169 (dk_at dksX6_append_5 8 rfl rfl)
theorem dX6_append_126 : decode cX6_append 126 = .ok (.aload_n 0, 1) := dk_42 (dk_at dksX6_append_5 11 rfl rfl)
theorem dX6_append_127 : decode cX6_append 127 = .ok (.dup, 1) := dk_89 (dk_at dksX6_append_5 12 rfl rfl)
theorem dX6_append_128 : decode cX6_append 128 = .ok (.getfield 75, 3) := dk_180 0 75 (dk_at dksX6_append_5 13 rfl rfl)
theorem dX6_append_131 : decode cX6_append 131 = .ok (.bipush 20, 2) := dk_16 20 (dk_at dksX6_append_5 16 rfl rfl)
theorem dX6_append_133 : decode cX6_append 133 = .ok (.iadd, 1) := dk_96 (dk_at dksX6_append_5 18 rfl rfl)
theorem dX6_append_134 : decode cX6_append 134 = .ok (.putfield 75, 3) := dk_181 0 75 (dk_at dksX6_append_5 19 rfl rfl)
theorem dX6_append_137 : decode cX6_append 137 = .ok (.aload_n 0, 1) := dk_42 (dk_at dksX6_append_5 22 rfl rfl)
theorem dX6_append_138 : decode cX6_append 138 = .ok (.getfield 75, 3) := dk_180 0 75 (dk_at dksX6_append_6 0 rfl rfl)
theorem dX6_append_141 : decode cX6_append 141 = .ok (.ireturn, 1) := dk_172 (dk_at dksX6_append_6 3 rfl rfl)
def dkwX6_may_1 : List UInt8 := [167, 0, 4, 3, 172]
abbrev dktX6_may_1 : List UInt8 := dkwX6_may_1 ++ []
def dkwX6_may_0 : List UInt8 := [27, 154, 0, 15, 42, 180, 0, 72, 154, 0, 8, 42, 28, 181, 0, 72, 42, 180, 0, 72, 154, 0, 7, 4]
abbrev dktX6_may_0 : List UInt8 := dkwX6_may_0 ++ dktX6_may_1
theorem dksX6_may_0 : cX6_may.data.toList.drop 0 = dktX6_may_0 := by decide +kernel
theorem dksX6_may_1 : cX6_may.data.toList.drop 24 = dktX6_may_1 := dk_seg dksX6_may_0 24 rfl rfl
theorem dX6_may_0 : decode cX6_may 0 = .ok (.iload_n 1, 1) := dk_27 (dk_at dksX6_may_0 0 rfl rfl)
theorem dX6_may_1 : decode cX6_may 1 = .ok (.ifCond .ne 15, 3) := dk_154 0 15 (dk_at dksX6_may_0 1 rfl rfl)
theorem dX6_may_4 : decode cX6_may 4 = .ok (.aload_n 0, 1) := dk_42 (dk_at dksX6_may_0 4 rfl rfl)
theorem dX6_may_5 : decode cX6_may 5 = .ok (.getfield 72, 3) := dk_180 0 72 (dk_at dksX6_may_0 5 rfl rfl)
theorem dX6_may_8 : decode cX6_may 8 = .ok (.ifCond .ne 8, 3) := dk_154 0 8 (dk_at dksX6_may_0 8 rfl rfl)
theorem dX6_may_11 : decode cX6_may 11 = .ok (.aload_n 0, 1) := dk_42 (dk_at dksX6_may_0 11 rfl rfl)
theorem dX6_may_12 : decode cX6_may 12 = .ok (.iload_n 2, 1) := dk_28 (dk_at dksX6_may_0 12 rfl rfl)
theorem dX6_may_13 : decode cX6_may 13 = .ok (.putfield 72, 3) := dk_181 0 72 (dk_at dksX6_may_0 13 rfl rfl)
theorem dX6_may_16 : decode cX6_may 16 = .ok (.aload_n 0, 1) := dk_42 (dk_at dksX6_may_0 16 rfl rfl)
theorem dX6_may_17 : decode cX6_may 17 = .ok (.getfield 72, 3) := dk_180 0 72 (dk_at dksX6_may_0 17 rfl rfl)
theorem dX6_may_20 : decode cX6_may 20 = .ok (.ifCond .ne 7, 3) := dk_154 0 7 (dk_at dksX6_may_0 20 rfl rfl)
theorem dX6_may_23 : decode cX6_may 23 = .ok (.iconst 1, 1) := dk_4 (dk_at dksX6_may_0 23 rfl rfl)
theorem dX6_may_24 : decode cX6_may 24 = .ok (.goto 4, 3) := dk_167 0 4 (dk_at dksX6_may_1 0 rfl rfl)
theorem dX6_may_27 : decode cX6_may 27 = .ok (.iconst 0, 1) := dk_3 (dk_at dksX6_may_1 3 rfl rfl)
theorem dX6_may_28 : decode cX6_may 28 = .ok (.ireturn, 1) := dk_172 (dk_at dksX6_may_1 4 rfl rfl)
def dkwX6_truncate_1 : List UInt8 := [3, 172, 42, 27, 181, 0, 75, 27, 172]
abbrev dktX6_truncate_1 : List UInt8 := dkwX6_truncate_1 ++ []
def dkwX6_truncate_0 : List UInt8 := [42, 3, 181, 0, 72, 42, 27, 133, 9, 42, 180, 0, 75, 133, 184, 0, 82, 4, 182, 0, 78, 154, 0, 5]
abbrev dktX6_truncate_0 : List UInt8 := dkwX6_truncate_0 ++ dktX6_truncate_1
theorem dksX6_truncate_0 : cX6_truncate.data.toList.drop 0 = dktX6_truncate_0 := by decide +kernel
theorem dksX6_truncate_1 : cX6_truncate.data.toList.drop 24 = dktX6_truncate_1 := dk_seg dksX6_truncate_0 24 rfl rfl
theorem dX6_truncate_0 : decode cX6_truncate 0 = .ok (.aload_n 0, 1) := dk_42 (dk_at dksX6_truncate_0 0 rfl rfl)
theorem dX6_truncate_1 : decode cX6_truncate 1 = .ok (.iconst 0, 1) := dk_3 (dk_at dksX6_truncate_0 1 rfl rfl)
theorem dX6_truncate_2 : decode cX6_truncate 2 = .ok (.putfield 72, 3) := dk_181 0 72 (dk_at dksX6_truncate_0 2 rfl rfl)
theorem dX6_truncate_5 : decode cX6_truncate 5 = .ok (.aload_n 0, 1) := dk_42 (dk_at dksX6_truncate_0 5 rfl rfl)
theorem dX6_truncate_6 : decode cX6_truncate 6 = .ok (.iload_n 1, 1) := dk_27 (dk_at dksX6_truncate_0 6 rfl rfl)
theorem dX6_truncate_7 : decode cX6_truncate 7 = .ok (.i2l, 1) := dk_133 (dk_at dksX6_truncate_0 7 rfl rfl)
theorem dX6_truncate_8 : decode cX6_truncate 8 = .ok (.lconst 0, 1) := dk_9 (dk_at dksX6_truncate_0 8 rfl rfl)
theorem dX6_truncate_9 : decode cX6_truncate 9 = .ok (.aload_n 0, 1) := dk_42 (dk_at dksX6_truncate_0 9 rfl rfl)
theorem dX6_truncate_10 : decode cX6_truncate 10 = .ok (.getfield 75, 3) := dk_180 0 75 (dk_at dksX6_truncate_0 10 rfl rfl)
theorem dX6_truncate_13 : decode cX6_truncate 13 = .ok (.i2l, 1) := dk_133 (dk_at dksX6_truncate_0 13 rfl rfl)
theorem dX6_truncate_14 : decode cX6_truncate 14 = .ok (.invokestatic 82, 3) := dk_184 0 82 (dk_at dksX6_truncate_0 14 rfl rfl)
theorem dX6_truncate_17 : decode cX6_truncate 17 = .ok (.iconst 1, 1) := dk_4 (dk_at dksX6_truncate_0 17 rfl rfl)
theorem dX6_truncate_18 : decode cX6_truncate 18 = .ok (.invokevirtual 78, 3) := dk_182 0 78 (dk_at dksX6_truncate_0 18 rfl rfl)
theorem dX6_truncate_21 : decode cX6_truncate 21 = .ok (.ifCond .ne 5, 3) := dk_154 0 5 (dk_at dksX6_truncate_0 21 rfl rfl)
theorem dX6_truncate_24 : decode cX6_truncate 24 = .ok (.iconst 0, 1) := dk_3 (dk_at dksX6_truncate_1 0 rfl rfl)
theorem dX6_truncate_25 : decode cX6_truncate 25 = .ok (.ireturn, 1) := dk_172 (dk_at dksX6_truncate_1 1 rfl rfl)
theorem dX6_truncate_26 : decode cX6_truncate 26 = .ok (.aload_n 0, 1) := dk_42 (dk_at dksX6_truncate_1 2 rfl rfl)
theorem dX6_truncate_27 : decode cX6_truncate 27 = .ok (.iload_n 1, 1) := dk_27 (dk_at dksX6_truncate_1 3 rfl rfl)
theorem dX6_truncate_28 : decode cX6_truncate 28 = .ok (.putfield 75, 3) := dk_181 0 75 (dk_at dksX6_truncate_1 4 rfl rfl)
theorem dX6_truncate_31 : decode cX6_truncate 31 = .ok (.iload_n 1, 1) := dk_27 (dk_at dksX6_truncate_1 7 rfl rfl)
theorem dX6_truncate_32 : decode cX6_truncate 32 = .ok (.ireturn, 1) := dk_172 (dk_at dksX6_truncate_1 8 rfl rfl)
def dkwX6_isIn_0 : List UInt8 := [30, 32, 148, 155, 0, 14, 30, 22, 4, 148, 157, 0, 7, 4, 167, 0, 4, 3, 172]
abbrev dktX6_isIn_0 : List UInt8 := dkwX6_isIn_0 ++ []
theorem dksX6_isIn_0 : cX6_isIn.data.toList.drop 0 = dktX6_isIn_0 := by decide +kernel
theorem dX6_isIn_0 : decode cX6_isIn 0 = .ok (.lload_n 0, 1) := dk_30 (dk_at dksX6_isIn_0 0 rfl rfl)
theorem dX6_isIn_1 : decode cX6_isIn 1 = .ok (.lload_n 2, 1) := dk_32 (dk_at dksX6_isIn_0 1 rfl rfl)
theorem dX6_isIn_2 : decode cX6_isIn 2 = .ok (.lcmp, 1) := dk_148 (dk_at dksX6_isIn_0 2 rfl rfl)
theorem dX6_isIn_3 : decode cX6_isIn 3 = .ok (.ifCond .lt 14, 3) := dk_155 0 14 (dk_at dksX6_isIn_0 3 rfl rfl)
theorem dX6_isIn_6 : decode cX6_isIn 6 = .ok (.lload_n 0, 1) := dk_30 (dk_at dksX6_isIn_0 6 rfl rfl)
theorem dX6_isIn_7 : decode cX6_isIn 7 = .ok (.lload 4, 2) := dk_22 4 (dk_at dksX6_isIn_0 7 rfl rfl)
theorem dX6_isIn_9 : decode cX6_isIn 9 = .ok (.lcmp, 1) := dk_148 (dk_at dksX6_isIn_0 9 rfl rfl)
theorem dX6_isIn_10 : decode cX6_isIn 10 = .ok (.ifCond .gt 7, 3) := dk_157 0 7 (dk_at dksX6_isIn_0 10 rfl rfl)
theorem dX6_isIn_13 : decode cX6_isIn 13 = .ok (.iconst 1, 1) := dk_4 (dk_at dksX6_isIn_0 13 rfl rfl)
theorem dX6_isIn_14 : decode cX6_isIn 14 = .ok (.goto 4, 3) := dk_167 0 4 (dk_at dksX6_isIn_0 14 rfl rfl)
theorem dX6_isIn_17 : decode cX6_isIn 17 = .ok (.iconst 0, 1) := dk_3 (dk_at dksX6_isIn_0 17 rfl rfl)
theorem dX6_isIn_18 : decode cX6_isIn 18 = .ok (.ireturn, 1) := dk_172 (dk_at dksX6_isIn_0 18 rfl rfl)
def dkwX6_load_6 : List UInt8 := [154, 0, 5, 3, 172, 42, 182, 0, 69, 42, 180, 0, 207, 172]
abbrev dktX6_load_6 : List UInt8 := dkwX6_load_6 ++ []
def dkwX6_load_5 : List UInt8 := [182, 0, 204, 167, 255, 238, 42, 42, 182, 0, 112, 154, 0, 7, 4, 167, 0, 4, 3, 4, 182, 0, 78]
abbrev dktX6_load_5 : List UInt8 := dkwX6_load_5 ++ dktX6_load_6
def dkwX6_load_4 : List UInt8 := [42, 182, 0, 201, 167, 255, 243, 42, 182, 0, 112, 154, 0, 17, 42, 180, 0, 99, 153, 0, 10, 42]
abbrev dktX6_load_4 : List UInt8 := dkwX6_load_4 ++ dktX6_load_5
def dkwX6_load_3 : List UInt8 := [18, 195, 182, 0, 171, 153, 0, 10, 42, 182, 0, 197, 167, 255, 243, 42, 18, 200, 182, 0, 171, 153, 0, 10]
abbrev dktX6_load_3 : List UInt8 := dkwX6_load_3 ++ dktX6_load_4
def dkwX6_load_2 : List UInt8 := [182, 0, 133, 42, 180, 0, 44, 16, 6, 42, 4, 17, 39, 15, 182, 0, 153, 79, 42, 182, 0, 160, 42]
abbrev dktX6_load_2 : List UInt8 := dkwX6_load_2 ++ dktX6_load_3
def dkwX6_load_1 : List UInt8 := [3, 181, 0, 109, 42, 2, 181, 0, 62, 42, 182, 0, 66, 42, 182, 0, 130, 42, 42, 18, 193, 182, 0, 171]
abbrev dktX6_load_1 : List UInt8 := dkwX6_load_1 ++ dktX6_load_2
def dkwX6_load_0 : List UInt8 := [42, 3, 181, 0, 72, 42, 42, 180, 0, 75, 181, 0, 86, 42, 3, 181, 0, 75, 42, 3, 181, 0, 89, 42]
abbrev dktX6_load_0 : List UInt8 := dkwX6_load_0 ++ dktX6_load_1
theorem dksX6_load_0 : cX6_load.data.toList.drop 0 = dktX6_load_0 := by decide +kernel
theorem dksX6_load_1 : cX6_load.data.toList.drop 24 = dktX6_load_1 := dk_seg dksX6_load_0 24 rfl rfl
theorem dksX6_load_2 : cX6_load.data.toList.drop 48 = dktX6_load_2 := dk_seg dksX6_load_1 24 rfl rfl
theorem dksX6_load_3 : cX6_load.data.toList.drop 71 = dktX6_load_3 := dk_seg dksX6_load_2 23 rfl rfl
theorem dksX6_load_4 : cX6_load.data.toList.drop 95 = dktX6_load_4 := dk_seg dksX6_load_3 24 rfl rfl
theorem dksX6_load_5 : cX6_load.data.toList.drop 117 = dktX6_load_5 := dk_seg dksX6_load_4 22 rfl rfl
theorem dksX6_load_6 : cX6_load.data.toList.drop 140 = dktX6_load_6 := dk_seg dksX6_load_5 23 rfl rfl
theorem dX6_load_0 : decode cX6_load 0 = .ok (.aload_n 0, 1) := dk_42 (dk_at dksX6_load_0 0 rfl rfl)
theorem dX6_load_1 : decode cX6_load 1 = .ok (.iconst 0, 1) := dk_3 (dk_at dksX6_load_0 1 rfl rfl)
theorem dX6_load_2 : decode cX6_load 2 = .ok (.putfield 72, 3) := dk_181 0 72 (dk_at dksX6_load_0 2 rfl rfl)
theorem dX6_load_5 : decode cX6_load 5 = .ok (.aload_n 0, 1) := dk_42 (dk_at dksX6_load_0 5 rfl rfl)
theorem dX6_load_6 : decode cX6_load 6 = .ok (.aload_n 0, 1) := dk_42 (dk_at dksX6_load_0 6 rfl rfl)
theorem dX6_load_7 : decode cX6_load 7 = .ok (.getfield 75, 3) := dk_180 0 75 (dk_at dksX6_load_0 7 rfl rfl)
theorem dX6_load_10 : decode cX6_load 10 = .ok (.putfield 86, 3) := dk_181 0 86 (dk_at dksX6_load_0 10 rfl rfl)
theorem dX6_load_13 : decode cX6_load 13 = .ok (.aload_n 0, 1) := dk_42 (dk_at dksX6_load_0 13 rfl rfl)
theorem dX6_load_14 : decode cX6_load 14 = .ok (.iconst 0, 1) := dk_3 (dk_at dksX6_load_0 14 rfl rfl)
theorem dX6_load_15 : decode cX6_load 15 = .ok (.putfield 75, 3) := dk_181 0 75 (dk_at dksX6_load_0 15 rfl rfl)
theorem dX6_load_18 : decode cX6_load 18 = .ok (.aload_n 0, 1) := dk_42 (dk_at dksX6_load_0 18 rfl rfl)
theorem dX6_load_19 : decode cX6_load 19 = .ok (.iconst 0, 1) := dk_3 (dk_at dksX6_load_0 19 rfl rfl)
theorem dX6_load_20 : decode cX6_load 20 = .ok (.putfield 89, 3) := dk_181 0 89 (dk_at dksX6_load_0 20 rfl rfl)
theorem dX6_load_23 : decode cX6_load 23 = .ok (.aload_n 0, 1) := dk_42 (dk_at dksX6_load_0 23 rfl rfl)
theorem dX6_load_24 : decode cX6_load 24 = .ok (.iconst 0, 1) := dk_3 (dk_at dksX6_load_1 0 rfl rfl)
theorem dX6_load_25 : decode cX6_load 25 = .ok (.putfield 109, 3) := dk_181 0 109 (dk_at dksX6_load_1 1 rfl rfl)
theorem dX6_load_28 : decode cX6_load 28 = .ok (.aload_n 0, 1) := dk_42 (dk_at dksX6_load_1 4 rfl rfl)
theorem dX6_load_29 : decode cX6_load 29 = .ok (.iconst (-1), 1) := dk_2 (dk_at dksX6_load_1 5 rfl rfl)
theorem dX6_load_30 : decode cX6_load 30 = .ok (.putfield 62, 3) := dk_181 0 62 (dk_at dksX6_load_1 6 rfl rfl)
theorem dX6_load_33 : decode cX6_load 33 = .ok (.aload_n 0, 1) := dk_42 (dk_at dksX6_load_1 9 rfl rfl)
theorem dX6_load_34 : decode cX6_load 34 = .ok (.invokevirtual 66, 3) := dk_182 0 66 (dk_at dksX6_load_1 10 rfl rfl)
theorem dX6_load_37 : decode cX6_load 37 = .ok (.aload_n 0, 1) := dk_42 (dk_at dksX6_load_1 13 rfl rfl)
theorem dX6_load_38 : decode cX6_load 38 = .ok (.invokevirtual 130, 3) := dk_182 0 130 (dk_at dksX6_load_1 14 rfl rfl)
theorem dX6_load_41 : decode cX6_load 41 = .ok (.aload_n 0, 1) := dk_42 (dk_at dksX6_load_1 17 rfl rfl)
theorem dX6_load_42 : decode cX6_load 42 = .ok (.aload_n 0, 1) := dk_42 (dk_at dksX6_load_1 18 rfl rfl)
theorem dX6_load_43 : decode cX6_load 43 = .ok (.ldc 193, 2) := dk_18 193 (dk_at dksX6_load_1 19 rfl rfl)
theorem dX6_load_45 : decode cX6_load 45 = .ok (.invokevirtual 171, 3) := dk_182 0 171 (dk_at dksX6_load_1 21 rfl rfl)
theorem dX6_load_48 : decode cX6_load 48 = .ok (.invokevirtual 133, 3) := dk_182 0 133 (dk_at dksX6_load_2 0 rfl rfl)
theorem dX6_load_51 : decode cX6_load 51 = .ok (.aload_n 0, 1) := dk_42 (dk_at dksX6_load_2 3 rfl rfl)
theorem dX6_load_52 : decode cX6_load 52 = .ok (.getfield 44, 3) := dk_180 0 44 (dk_at dksX6_load_2 4 rfl rfl)
theorem dX6_load_55 : decode cX6_load 55 = .ok (.bipush 6, 2) := dk_16 6 (dk_at dksX6_load_2 7 rfl rfl)
theorem dX6_load_57 : decode cX6_load 57 = .ok (.aload_n 0, 1) := dk_42 (dk_at dksX6_load_2 9 rfl rfl)
theorem dX6_load_58 : decode cX6_load 58 = .ok (.iconst 1, 1) := dk_4 (dk_at dksX6_load_2 10 rfl rfl)
theorem dX6_load_59 : decode cX6_load 59 = .ok (.sipush 9999, 3) := dk_17 39 15 (dk_at dksX6_load_2 11 rfl rfl)
theorem dX6_load_62 : decode cX6_load 62 = .ok (.invokevirtual 153, 3) := dk_182 0 153 (dk_at dksX6_load_2 14 rfl rfl)
theorem dX6_load_65 : decode cX6_load 65 = .ok (.iastore, 1) := dk_79 (dk_at dksX6_load_2 17 rfl rfl)
theorem dX6_load_66 : decode cX6_load 66 = .ok (.aload_n 0, 1) := dk_42 (dk_at dksX6_load_2 18 rfl rfl)
theorem dX6_load_67 : decode cX6_load 67 = .ok (.invokevirtual 160, 3) := dk_182 0 160 (dk_at dksX6_load_2 19 rfl rfl)
theorem dX6_load_70 : decode cX6_load 70 = .ok (.aload_n 0, 1) := dk_42 (dk_at dksX6_load_2 22 rfl rfl)
theorem dX6_load_71 : decode cX6_load 71 = .ok (.ldc 195, 2) := dk_18 195 (dk_at dksX6_load_3 0 rfl rfl)
theorem dX6_load_73 : decode cX6_load 73 = .ok (.invokevirtual 171, 3) := dk_182 0 171 (dk_at dksX6_load_3 2 rfl rfl)
theorem dX6_load_76 : decode cX6_load 76 = .ok (.ifCond .eq 10, 3) := dk_153 0 10 (dk_at dksX6_load_3 5 rfl rfl)
theorem dX6_load_79 : decode cX6_load 79 = .ok (.aload_n 0, 1) := dk_42 (dk_at dksX6_load_3 8 rfl rfl)
theorem dX6_load_80 : decode cX6_load 80 = .ok (.invokevirtual 197, 3) := dk_182 0 197 (dk_at dksX6_load_3 9 rfl rfl)
theorem dX6_load_83 : decode cX6_load 83 = .ok (.goto (-13), 3) := dk_167 255 243 (dk_at dksX6_load_3 12 rfl rfl)
theorem dX6_load_86 : decode cX6_load 86 = .ok (.aload_n 0, 1) := dk_42 (dk_at dksX6_load_3 15 rfl rfl)
theorem dX6_load_87 : decode cX6_load 87 = .ok (.ldc 200, 2) := dk_18 200 (dk_at dksX6_load_3 16 rfl rfl)
theorem dX6_load_89 : decode cX6_load 89 = .ok (.invokevirtual 171, 3) := dk_182 0 171 (dk_at dksX6_load_3 18 rfl rfl)
theorem dX6_load_92 : decode cX6_load 92 = .ok (.ifCond .eq 10, 3) := dk_153 0 10 (dk_at dksX6_load_3 21 rfl rfl)
theorem dX6_load_95 : decode cX6_load 95 = .ok (.aload_n 0, 1) := dk_42 (dk_at dksX6_load_4 0 rfl rfl)
theorem dX6_load_96 : decode cX6_load 96 = .ok (.invokevirtual 201, 3) := dk_182 0 201 (dk_at dksX6_load_4 1 rfl rfl)
theorem dX6_load_99 : decode cX6_load 99 = .ok (.goto (-13), 3) := dk_167 255 243 (dk_at dksX6_load_4 4 rfl rfl)
theorem dX6_load_102 : decode cX6_load 102 = .ok (.aload_n 0, 1) := dk_42 (dk_at dksX6_load_4 7 rfl rfl)
theorem dX6_load_103 : decode cX6_load 103 = .ok (.invokevirtual 112, 3) := dk_182 0 112 (dk_at dksX6_load_4 8 rfl rfl)
theorem dX6_load_106 : decode cX6_load 106 = .ok (.ifCond .ne 17, 3) := dk_154 0 17 (dk_at dksX6_load_4 11 rfl rfl)
theorem dX6_load_109 : decode cX6_load 109 = .ok (.aload_n 0, 1) := dk_42 (dk_at dksX6_load_4 14 rfl rfl)
theorem dX6_load_110 : decode cX6_load 110 = .ok (.getfield 99, 3) := dk_180 0 99 (dk_at dksX6_load_4 15 rfl rfl)
theorem dX6_load_113 : decode cX6_load 113 = .ok (.ifCond .eq 10, 3) := dk_153 0 10 (dk_at dksX6_load_4 18 rfl rfl)
theorem dX6_load_116 : decode cX6_load 116 = .ok (.aload_n 0, 1) := dk_42 (dk_at dksX6_load_4 21 rfl rfl)
theorem dX6_load_117 : decode cX6_load 117 = .ok (.invokevirtual 204, 3) := dk_182 0 204 (dk_at dksX6_load_5 0 rfl rfl)
theorem dX6_load_120 : decode cX6_load 120 = .ok (.goto (-18), 3) := dk_167 255 238 (dk_at dksX6_load_5 3 rfl rfl)
theorem dX6_load_123 : decode cX6_load 123 = .ok (.aload_n 0, 1) := dk_42 (dk_at dksX6_load_5 6 rfl rfl)
theorem dX6_load_124 : decode cX6_load 124 = .ok (.aload_n 0, 1) := dk_42 (dk_at dksX6_load_5 7 rfl rfl)
theorem dX6_load_125 : decode cX6_load 125 = .ok (.invokevirtual 112, 3) := dk_182 0 112 (dk_at dksX6_load_5 8 rfl rfl)
theorem dX6_load_128 : decode cX6_load 128 = .ok (.ifCond .ne 7, 3) := dk_154 0 7 (dk_at dksX6_load_5 11 rfl rfl)
theorem dX6_load_131 : decode cX6_load 131 = .ok (.iconst 1, 1) := dk_4 (dk_at dksX6_load_5 14 rfl rfl)
theorem dX6_load_132 : decode cX6_load 132 = .ok (.goto 4, 3) := dk_167 0 4 (dk_at dksX6_load_5 15 rfl rfl)
theorem dX6_load_135 : decode cX6_load 135 = .ok (.iconst 0, 1) := dk_3 (dk_at dksX6_load_5 18 rfl rfl)
theorem dX6_load_136 : decode cX6_load 136 = .ok (.iconst 1, 1) := dk_4 (dk_at dksX6_load_5 19 rfl rfl)
theorem dX6_load_137 : decode cX6_load 137 = .ok (.invokevirtual 78, 3) := dk_182 0 78 (dk_at dksX6_load_5 20 rfl rfl)
theorem dX6_load_140 : decode cX6_load 140 = .ok (.ifCond .ne 5, 3) := dk_154 0 5 (dk_at dksX6_load_6 0 rfl rfl)
theorem dX6_load_143 : decode cX6_load 143 = .ok (.iconst 0, 1) := dk_3 (dk_at dksX6_load_6 3 rfl rfl)
theorem dX6_load_144 : decode cX6_load 144 = .ok (.ireturn, 1) := dk_172 (dk_at dksX6_load_6 4 rfl rfl)
theorem dX6_load_145 : decode cX6_load 145 = .ok (.aload_n 0, 1) := dk_42 (dk_at dksX6_load_6 5 rfl rfl)
theorem dX6_load_146 : decode cX6_load 146 = .ok (.invokevirtual 69, 3) := dk_182 0 69 (dk_at dksX6_load_6 6 rfl rfl)
theorem dX6_load_149 : decode cX6_load 149 = .ok (.aload_n 0, 1) := dk_42 (dk_at dksX6_load_6 9 rfl rfl)
theorem dX6_load_150 : decode cX6_load 150 = .ok (.getfield 207, 3) := dk_180 0 207 (dk_at dksX6_load_6 10 rfl rfl)
theorem dX6_load_153 : decode cX6_load 153 = .ok (.ireturn, 1) := dk_172 (dk_at dksX6_load_6 13 rfl rfl)
def dkwX6_token_7 : List UInt8 := [42, 27, 16, 59, 160, 0, 7, 6, 167, 0, 4, 7, 181, 0, 99, 177]
abbrev dktX6_token_7 : List UInt8 := dkwX6_token_7 ++ []
def dkwX6_token_6 : List UInt8 := [181, 0, 89, 167, 255, 232, 42, 5, 181, 0, 99, 167, 0, 28, 42, 89, 180, 0, 89, 4, 96, 181, 0, 89]
abbrev dktX6_token_6 : List UInt8 := dkwX6_token_6 ++ dktX6_token_7
def dkwX6_token_5 : List UInt8 := [153, 0, 38, 42, 42, 180, 0, 89, 182, 0, 92, 184, 0, 106, 153, 0, 16, 42, 89, 180, 0, 89, 4, 96]
abbrev dktX6_token_5 : List UInt8 := dkwX6_token_5 ++ dktX6_token_6
def dkwX6_token_4 : List UInt8 := [180, 0, 89, 4, 96, 181, 0, 89, 167, 255, 232, 42, 4, 181, 0, 99, 167, 0, 70, 27, 184, 0, 106]
abbrev dktX6_token_4 : List UInt8 := dkwX6_token_4 ++ dktX6_token_5
def dkwX6_token_3 : List UInt8 := [184, 0, 102, 153, 0, 38, 42, 42, 180, 0, 89, 182, 0, 92, 184, 0, 102, 153, 0, 16, 42, 89]
abbrev dktX6_token_3 : List UInt8 := dkwX6_token_3 ++ dktX6_token_4
def dkwX6_token_2 : List UInt8 := [42, 42, 180, 0, 89, 182, 0, 92, 60, 27, 2, 160, 0, 11, 42, 3, 181, 0, 99, 167, 0, 112, 27]
abbrev dktX6_token_2 : List UInt8 := dkwX6_token_2 ++ dktX6_token_3
def dkwX6_token_1 : List UInt8 := [160, 0, 16, 42, 89, 180, 0, 89, 4, 96, 181, 0, 89, 167, 255, 220, 42, 42, 180, 0, 89, 181, 0, 96]
abbrev dktX6_token_1 : List UInt8 := dkwX6_token_1 ++ dktX6_token_2
def dkwX6_token_0 : List UInt8 := [42, 42, 180, 0, 89, 182, 0, 92, 16, 10, 159, 0, 16, 42, 42, 180, 0, 89, 182, 0, 92, 16, 32]
abbrev dktX6_token_0 : List UInt8 := dkwX6_token_0 ++ dktX6_token_1
theorem dksX6_token_0 : cX6_token.data.toList.drop 0 = dktX6_token_0 := by decide +kernel
theorem dksX6_token_1 : cX6_token.data.toList.drop 23 = dktX6_token_1 := dk_seg dksX6_token_0 23 rfl rfl
theorem dksX6_token_2 : cX6_token.data.toList.drop 47 = dktX6_token_2 := dk_seg dksX6_token_1 24 rfl rfl
theorem dksX6_token_3 : cX6_token.data.toList.drop 70 = dktX6_token_3 := dk_seg dksX6_token_2 23 rfl rfl
theorem dksX6_token_4 : cX6_token.data.toList.drop 92 = dktX6_token_4 := dk_seg dksX6_token_3 22 rfl rfl
theorem dksX6_token_5 : cX6_token.data.toList.drop 115 = dktX6_token_5 := dk_seg dksX6_token_4 23 rfl rfl
theorem dksX6_token_6 : cX6_token.data.toList.drop 139 = dktX6_token_6 := dk_seg dksX6_token_5 24 rfl rfl
theorem dksX6_token_7 : cX6_token.data.toList.drop 163 = dktX6_token_7 := dk_seg dksX6_token_6 24 rfl rfl
theorem dX6_token_0 : decode cX6_token 0 = .ok (.aload_n 0, 1) := dk_42 (dk_at dksX6_token_0 0 rfl rfl)
theorem dX6_token_1 : decode cX6_token 1 = .ok (.aload_n 0, 1) := dk_42 (dk_at dksX6_token_0 1 rfl rfl)
theorem dX6_token_2 : decode cX6_token 2 = .ok (.getfield 89, 3) := dk_180 0 89 (dk_at dksX6_token_0 2 rfl rfl)
theorem dX6_token_5 : decode cX6_token 5 = .ok (.invokevirtual 92, 3) := dk_182 0 92 (dk_at dksX6_token_0 5 rfl rfl)
theorem dX6_token_8 : decode cX6_token 8 = .ok (.bipush 10, 2) := dk_16 10 (dk_at dksX6_token_0 8 rfl rfl)
theorem dX6_token_10 : decode cX6_token 10 = .ok (.if_icmp .eq 16, 3) := dk_159 0 16 (dk_at dksX6_token_0 10 rfl rfl)
theorem dX6_token_13 : decode cX6_token 13 = .ok (.aload_n 0, 1) := dk_42 (dk_at dksX6_token_0 13 rfl rfl)
theorem dX6_token_14 : decode cX6_token 14 = .ok (.aload_n 0, 1) := dk_42 (dk_at dksX6_token_0 14 rfl rfl)
theorem dX6_token_15 : decode cX6_token 15 = .ok (.getfield 89, 3) := dk_180 0 89 (dk_at dksX6_token_0 15 rfl rfl)
theorem dX6_token_18 : decode cX6_token 18 = .ok (.invokevirtual 92, 3) := dk_182 0 92 (dk_at dksX6_token_0 18 rfl rfl)
theorem dX6_token_21 : decode cX6_token 21 = .ok (.bipush 32, 2) := dk_16 32 (dk_at dksX6_token_0 21 rfl rfl)
theorem dX6_token_23 : decode cX6_token 23 = .ok (.if_icmp .ne 16, 3) := dk_160 0 16 (dk_at dksX6_token_1 0 rfl rfl)
theorem dX6_token_26 : decode cX6_token 26 = .ok (.aload_n 0, 1) := dk_42 (dk_at dksX6_token_1 3 rfl rfl)
theorem dX6_token_27 : decode cX6_token 27 = .ok (.dup, 1) := dk_89 (dk_at dksX6_token_1 4 rfl rfl)
theorem dX6_token_28 : decode cX6_token 28 = .ok (.getfield 89, 3) := dk_180 0 89 (dk_at dksX6_token_1 5 rfl rfl)
theorem dX6_token_31 : decode cX6_token 31 = .ok (.iconst 1, 1) := dk_4 (dk_at dksX6_token_1 8 rfl rfl)
theorem dX6_token_32 : decode cX6_token 32 = .ok (.iadd, 1) := dk_96 (dk_at dksX6_token_1 9 rfl rfl)
theorem dX6_token_33 : decode cX6_token 33 = .ok (.putfield 89, 3) := dk_181 0 89 (dk_at dksX6_token_1 10 rfl rfl)
theorem dX6_token_36 : decode cX6_token 36 = .ok (.goto (-36), 3) := dk_167 255 220 (dk_at dksX6_token_1 13 rfl rfl)
theorem dX6_token_39 : decode cX6_token 39 = .ok (.aload_n 0, 1) := dk_42 (dk_at dksX6_token_1 16 rfl rfl)
theorem dX6_token_40 : decode cX6_token 40 = .ok (.aload_n 0, 1) := dk_42 (dk_at dksX6_token_1 17 rfl rfl)
theorem dX6_token_41 : decode cX6_token 41 = .ok (.getfield 89, 3) := dk_180 0 89 (dk_at dksX6_token_1 18 rfl rfl)
theorem dX6_token_44 : decode cX6_token 44 = .ok (.putfield 96, 3) := dk_181 0 96 (dk_at dksX6_token_1 21 rfl rfl)
theorem dX6_token_47 : decode cX6_token 47 = .ok (.aload_n 0, 1) := dk_42 (dk_at dksX6_token_2 0 rfl rfl)
theorem dX6_token_48 : decode cX6_token 48 = .ok (.aload_n 0, 1) := dk_42 (dk_at dksX6_token_2 1 rfl rfl)
theorem dX6_token_49 : decode cX6_token 49 = .ok (.getfield 89, 3) := dk_180 0 89 (dk_at dksX6_token_2 2 rfl rfl)
theorem dX6_token_52 : decode cX6_token 52 = .ok (.invokevirtual 92, 3) := dk_182 0 92 (dk_at dksX6_token_2 5 rfl rfl)
theorem dX6_token_55 : decode cX6_token 55 = .ok (.istore_n 1, 1) := dk_60 (dk_at dksX6_token_2 8 rfl rfl)
theorem dX6_token_56 : decode cX6_token 56 = .ok (.iload_n 1, 1) := dk_27 (dk_at dksX6_token_2 9 rfl rfl)
theorem dX6_token_57 : decode cX6_token 57 = .ok (.iconst (-1), 1) := dk_2 (dk_at dksX6_token_2 10 rfl rfl)
theorem dX6_token_58 : decode cX6_token 58 = .ok (.if_icmp .ne 11, 3) := dk_160 0 11 (dk_at dksX6_token_2 11 rfl rfl)
theorem dX6_token_61 : decode cX6_token 61 = .ok (.aload_n 0, 1) := dk_42 (dk_at dksX6_token_2 14 rfl rfl)
theorem dX6_token_62 : decode cX6_token 62 = .ok (.iconst 0, 1) := dk_3 (dk_at dksX6_token_2 15 rfl rfl)
theorem dX6_token_63 : decode cX6_token 63 = .ok (.putfield 99, 3) := dk_181 0 99 (dk_at dksX6_token_2 16 rfl rfl)
theorem dX6_token_66 : decode cX6_token 66 = .ok (.goto 112, 3) := dk_167 0 112 (dk_at dksX6_token_2 19 rfl rfl)
theorem dX6_token_69 : decode cX6_token 69 = .ok (.iload_n 1, 1) := dk_27 (dk_at dksX6_token_2 22 rfl rfl)
theorem dX6_token_70 : decode cX6_token 70 = .ok (.invokestatic 102, 3) := dk_184 0 102 (dk_at dksX6_token_3 0 rfl rfl)
theorem dX6_token_73 : decode cX6_token 73 = .ok (.ifCond .eq 38, 3) := dk_153 0 38 (dk_at dksX6_token_3 3 rfl rfl)
theorem dX6_token_76 : decode cX6_token 76 = .ok (.aload_n 0, 1) := dk_42 (dk_at dksX6_token_3 6 rfl rfl)
theorem dX6_token_77 : decode cX6_token 77 = .ok (.aload_n 0, 1) := dk_42 (dk_at dksX6_token_3 7 rfl rfl)
theorem dX6_token_78 : decode cX6_token 78 = .ok (.getfield 89, 3) := dk_180 0 89 (dk_at dksX6_token_3 8 rfl rfl)
theorem dX6_token_81 : decode cX6_token 81 = .ok (.invokevirtual 92, 3) := dk_182 0 92 (dk_at dksX6_token_3 11 rfl rfl)
theorem dX6_token_84 : decode cX6_token 84 = .ok (.invokestatic 102, 3) := dk_184 0 102 (dk_at dksX6_token_3 14 rfl rfl)
theorem dX6_token_87 : decode cX6_token 87 = .ok (.ifCond .eq 16, 3) := dk_153 0 16 (dk_at dksX6_token_3 17 rfl rfl)
theorem dX6_token_90 : decode cX6_token 90 = .ok (.aload_n 0, 1) := dk_42 (dk_at dksX6_token_3 20 rfl rfl)
theorem dX6_token_91 : decode cX6_token 91 = .ok (.dup, 1) := dk_89 (dk_at dksX6_token_3 21 rfl rfl)
theorem dX6_token_92 : decode cX6_token 92 = .ok (.getfield 89, 3) := dk_180 0 89 (dk_at dksX6_token_4 0 rfl rfl)
theorem dX6_token_95 : decode cX6_token 95 = .ok (.iconst 1, 1) := dk_4 (dk_at dksX6_token_4 3 rfl rfl)
theorem dX6_token_96 : decode cX6_token 96 = .ok (.iadd, 1) := dk_96 (dk_at dksX6_token_4 4 rfl rfl)
theorem dX6_token_97 : decode cX6_token 97 = .ok (.putfield 89, 3) := dk_181 0 89 (dk_at dksX6_token_4 5 rfl rfl)
theorem dX6_token_100 : decode cX6_token 100 = .ok (.goto (-24), 3) := dk_167 255 232 (dk_at dksX6_token_4 8 rfl rfl)
theorem dX6_token_103 : decode cX6_token 103 = .ok (.aload_n 0, 1) := dk_42 (dk_at dksX6_token_4 11 rfl rfl)
theorem dX6_token_104 : decode cX6_token 104 = .ok (.iconst 1, 1) := dk_4 (dk_at dksX6_token_4 12 rfl rfl)
theorem dX6_token_105 : decode cX6_token 105 = .ok (.putfield 99, 3) := dk_181 0 99 (dk_at dksX6_token_4 13 rfl rfl)
theorem dX6_token_108 : decode cX6_token 108 = .ok (.goto 70, 3) := dk_167 0 70 (dk_at dksX6_token_4 16 rfl rfl)
theorem dX6_token_111 : decode cX6_token 111 = .ok (.iload_n 1, 1) := dk_27 (dk_at dksX6_token_4 19 rfl rfl)
theorem dX6_token_112 : decode cX6_token 112 = .ok (.invokestatic 106, 3) := dk_184 0 106 (dk_at dksX6_token_4 20 rfl rfl)
theorem dX6_token_115 : decode cX6_token 115 = .ok (.ifCond .eq 38, 3) := dk_153 0 38 (dk_at dksX6_token_5 0 rfl rfl)
theorem dX6_token_118 : decode cX6_token 118 = .ok (.aload_n 0, 1) := dk_42 (dk_at dksX6_token_5 3 rfl rfl)
theorem dX6_token_119 : decode cX6_token 119 = .ok (.aload_n 0, 1) := dk_42 (dk_at dksX6_token_5 4 rfl rfl)
theorem dX6_token_120 : decode cX6_token 120 = .ok (.getfield 89, 3) := dk_180 0 89 (dk_at dksX6_token_5 5 rfl rfl)
theorem dX6_token_123 : decode cX6_token 123 = .ok (.invokevirtual 92, 3) := dk_182 0 92 (dk_at dksX6_token_5 8 rfl rfl)
theorem dX6_token_126 : decode cX6_token 126 = .ok (.invokestatic 106, 3) := dk_184 0 106 (dk_at dksX6_token_5 11 rfl rfl)
theorem dX6_token_129 : decode cX6_token 129 = .ok (.ifCond .eq 16, 3) := dk_153 0 16 (dk_at dksX6_token_5 14 rfl rfl)
theorem dX6_token_132 : decode cX6_token 132 = .ok (.aload_n 0, 1) := dk_42 (dk_at dksX6_token_5 17 rfl rfl)
theorem dX6_token_133 : decode cX6_token 133 = .ok (.dup, 1) := dk_89 (dk_at dksX6_token_5 18 rfl rfl)
theorem dX6_token_134 : decode cX6_token 134 = .ok (.getfield 89, 3) := dk_180 0 89 (dk_at dksX6_token_5 19 rfl rfl)
theorem dX6_token_137 : decode cX6_token 137 = .ok (.iconst 1, 1) := dk_4 (dk_at dksX6_token_5 22 rfl rfl)
theorem dX6_token_138 : decode cX6_token 138 = .ok (.iadd, 1) := dk_96 (dk_at dksX6_token_5 23 rfl rfl)
theorem dX6_token_139 : decode cX6_token 139 = .ok (.putfield 89, 3) := dk_181 0 89 (dk_at dksX6_token_6 0 rfl rfl)
theorem dX6_token_142 : decode cX6_token 142 = .ok (.goto (-24), 3) := dk_167 255 232 (dk_at dksX6_token_6 3 rfl rfl)
theorem dX6_token_145 : decode cX6_token 145 = .ok (.aload_n 0, 1) := dk_42 (dk_at dksX6_token_6 6 rfl rfl)
theorem dX6_token_146 : decode cX6_token 146 = .ok (.iconst 2, 1) := dk_5 (dk_at dksX6_token_6 7 rfl rfl)
theorem dX6_token_147 : decode cX6_token 147 = .ok (.putfield 99, 3) := dk_181 0 99 (dk_at dksX6_token_6 8 rfl rfl)
theorem dX6_token_150 : decode cX6_token 150 = .ok (.goto 28, 3) := dk_167 0 28 (dk_at dksX6_token_6 11 rfl rfl)
theorem dX6_token_153 : decode cX6_token 153 = .ok (.aload_n 0, 1) := dk_42 (dk_at dksX6_token_6 14 rfl rfl)
theorem dX6_token_154 : decode cX6_token 154 = .ok (.dup, 1) := dk_89 (dk_at dksX6_token_6 15 rfl rfl)
theorem dX6_token_155 : decode cX6_token 155 = .ok (.getfield 89, 3) := dk_180 0 89 (dk_at dksX6_token_6 16 rfl rfl)
theorem dX6_token_158 : decode cX6_token 158 = .ok (.iconst 1, 1) := dk_4 (dk_at dksX6_token_6 19 rfl rfl)
theorem dX6_token_159 : decode cX6_token 159 = .ok (.iadd, 1) := dk_96 (dk_at dksX6_token_6 20 rfl rfl)
theorem dX6_token_160 : decode cX6_token 160 = .ok (.putfield 89, 3) := dk_181 0 89 (dk_at dksX6_token_6 21 rfl rfl)
theorem dX6_token_163 : decode cX6_token 163 = .ok (.aload_n 0, 1) := dk_42 (dk_at dksX6_token_7 0 rfl rfl)
theorem dX6_token_164 : decode cX6_token 164 = .ok (.iload_n 1, 1) := dk_27 (dk_at dksX6_token_7 1 rfl rfl)
theorem dX6_token_165 : decode cX6_token 165 = .ok (.bipush 59, 2) := dk_16 59 (dk_at dksX6_token_7 2 rfl rfl)
theorem dX6_token_167 : decode cX6_token 167 = .ok (.if_icmp .ne 7, 3) := dk_160 0 7 (dk_at dksX6_token_7 4 rfl rfl)
theorem dX6_token_170 : decode cX6_token 170 = .ok (.iconst 3, 1) := dk_6 (dk_at dksX6_token_7 7 rfl rfl)
theorem dX6_token_171 : decode cX6_token 171 = .ok (.goto 4, 3) := dk_167 0 4 (dk_at dksX6_token_7 8 rfl rfl)
theorem dX6_token_174 : decode cX6_token 174 = .ok (.iconst 4, 1) := dk_7 (dk_at dksX6_token_7 11 rfl rfl)
theorem dX6_token_175 : decode cX6_token 175 = .ok (.putfield 99, 3) := dk_181 0 99 (dk_at dksX6_token_7 12 rfl rfl)
theorem dX6_token_178 : decode cX6_token 178 = .ok (.return_, 1) := dk_177 (dk_at dksX6_token_7 15 rfl rfl)
def dkwX6_byteAt_0 : List UInt8 := [27, 42, 180, 0, 86, 162, 0, 12, 42, 180, 0, 41, 27, 46, 167, 0, 4, 2, 172]
abbrev dktX6_byteAt_0 : List UInt8 := dkwX6_byteAt_0 ++ []
theorem dksX6_byteAt_0 : cX6_byteAt.data.toList.drop 0 = dktX6_byteAt_0 := by decide +kernel
theorem dX6_byteAt_0 : decode cX6_byteAt 0 = .ok (.iload_n 1, 1) := dk_27 (dk_at dksX6_byteAt_0 0 rfl rfl)
theorem dX6_byteAt_1 : decode cX6_byteAt 1 = .ok (.aload_n 0, 1) := dk_42 (dk_at dksX6_byteAt_0 1 rfl rfl)
theorem dX6_byteAt_2 : decode cX6_byteAt 2 = .ok (.getfield 86, 3) := dk_180 0 86 (dk_at dksX6_byteAt_0 2 rfl rfl)
theorem dX6_byteAt_5 : decode cX6_byteAt 5 = .ok (.if_icmp .ge 12, 3) := dk_162 0 12 (dk_at dksX6_byteAt_0 5 rfl rfl)
theorem dX6_byteAt_8 : decode cX6_byteAt 8 = .ok (.aload_n 0, 1) := dk_42 (dk_at dksX6_byteAt_0 8 rfl rfl)
theorem dX6_byteAt_9 : decode cX6_byteAt 9 = .ok (.getfield 41, 3) := dk_180 0 41 (dk_at dksX6_byteAt_0 9 rfl rfl)
theorem dX6_byteAt_12 : decode cX6_byteAt 12 = .ok (.iload_n 1, 1) := dk_27 (dk_at dksX6_byteAt_0 12 rfl rfl)
theorem dX6_byteAt_13 : decode cX6_byteAt 13 = .ok (.iaload, 1) := dk_46 (dk_at dksX6_byteAt_0 13 rfl rfl)
theorem dX6_byteAt_14 : decode cX6_byteAt 14 = .ok (.goto 4, 3) := dk_167 0 4 (dk_at dksX6_byteAt_0 14 rfl rfl)
theorem dX6_byteAt_17 : decode cX6_byteAt 17 = .ok (.iconst (-1), 1) := dk_2 (dk_at dksX6_byteAt_0 17 rfl rfl)
theorem dX6_byteAt_18 : decode cX6_byteAt 18 = .ok (.ireturn, 1) := dk_172 (dk_at dksX6_byteAt_0 18 rfl rfl)
def dkwX6_isLetter_0 : List UInt8 := [26, 16, 97, 161, 0, 13, 26, 16, 122, 163, 0, 7, 4, 167, 0, 4, 3, 172]
abbrev dktX6_isLetter_0 : List UInt8 := dkwX6_isLetter_0 ++ []
theorem dksX6_isLetter_0 : cX6_isLetter.data.toList.drop 0 = dktX6_isLetter_0 := by decide +kernel
theorem dX6_isLetter_0 : decode cX6_isLetter 0 = .ok (.iload_n 0, 1) := dk_26 (dk_at dksX6_isLetter_0 0 rfl rfl)
theorem dX6_isLetter_1 : decode cX6_isLetter 1 = .ok (.bipush 97, 2) := dk_16 97 (dk_at dksX6_isLetter_0 1 rfl rfl)
theorem dX6_isLetter_3 : decode cX6_isLetter 3 = .ok (.if_icmp .lt 13, 3) := dk_161 0 13 (dk_at dksX6_isLetter_0 3 rfl rfl)
theorem dX6_isLetter_6 : decode cX6_isLetter 6 = .ok (.iload_n 0, 1) := dk_26 (dk_at dksX6_isLetter_0 6 rfl rfl)
theorem dX6_isLetter_7 : decode cX6_isLetter 7 = .ok (.bipush 122, 2) := dk_16 122 (dk_at dksX6_isLetter_0 7 rfl rfl)
theorem dX6_isLetter_9 : decode cX6_isLetter 9 = .ok (.if_icmp .gt 7, 3) := dk_163 0 7 (dk_at dksX6_isLetter_0 9 rfl rfl)
theorem dX6_isLetter_12 : decode cX6_isLetter 12 = .ok (.iconst 1, 1) := dk_4 (dk_at dksX6_isLetter_0 12 rfl rfl)
theorem dX6_isLetter_13 : decode cX6_isLetter 13 = .ok (.goto 4, 3) := dk_167 0 4 (dk_at dksX6_isLetter_0 13 rfl rfl)
theorem dX6_isLetter_16 : decode cX6_isLetter 16 = .ok (.iconst 0, 1) := dk_3 (dk_at dksX6_isLetter_0 16 rfl rfl)
theorem dX6_isLetter_17 : decode cX6_isLetter 17 = .ok (.ireturn, 1) := dk_172 (dk_at dksX6_isLetter_0 17 rfl rfl)
def dkwX6_isDigit_0 : List UInt8 := [26, 16, 48, 161, 0, 13, 26, 16, 57, 163, 0, 7, 4, 167, 0, 4, 3, 172]
abbrev dktX6_isDigit_0 : List UInt8 := dkwX6_isDigit_0 ++ []
theorem dksX6_isDigit_0 : cX6_isDigit.data.toList.drop 0 = dktX6_isDigit_0 := by decide +kernel
theorem dX6_isDigit_0 : decode cX6_isDigit 0 = .ok (.iload_n 0, 1) := dk_26 (dk_at dksX6_isDigit_0 0 rfl rfl)
theorem dX6_isDigit_1 : decode cX6_isDigit 1 = .ok (.bipush 48, 2) := dk_16 48 (dk_at dksX6_isDigit_0 1 rfl rfl)
theorem dX6_isDigit_3 : decode cX6_isDigit 3 = .ok (.if_icmp .lt 13, 3) := dk_161 0 13 (dk_at dksX6_isDigit_0 3 rfl rfl)
theorem dX6_isDigit_6 : decode cX6_isDigit 6 = .ok (.iload_n 0, 1) := dk_26 (dk_at dksX6_isDigit_0 6 rfl rfl)
theorem dX6_isDigit_7 : decode cX6_isDigit 7 = .ok (.bipush 57, 2) := dk_16 57 (dk_at dksX6_isDigit_0 7 rfl rfl)
theorem dX6_isDigit_9 : decode cX6_isDigit 9 = .ok (.if_icmp .gt 7, 3) := dk_163 0 7 (dk_at dksX6_isDigit_0 9 rfl rfl)
theorem dX6_isDigit_12 : decode cX6_isDigit 12 = .ok (.iconst 1, 1) := dk_4 (dk_at dksX6_isDigit_0 12 rfl rfl)
theorem dX6_isDigit_13 : decode cX6_isDigit 13 = .ok (.goto 4, 3) := dk_167 0 4 (dk_at dksX6_isDigit_0 13 rfl rfl)
theorem dX6_isDigit_16 : decode cX6_isDigit 16 = .ok (.iconst 0, 1) := dk_3 (dk_at dksX6_isDigit_0 16 rfl rfl)
theorem dX6_isDigit_17 : decode cX6_isDigit 17 = .ok (.ireturn, 1) := dk_172 (dk_at dksX6_isDigit_0 17 rfl rfl)
def dkwX6_isWord_2 : List UInt8 := [28, 96, 182, 0, 92, 43, 28, 182, 0, 122, 159, 0, 5, 3, 172, 132, 2, 1, 167, 255, 225, 4, 172]
abbrev dktX6_isWord_2 : List UInt8 := dkwX6_isWord_2 ++ []
def dkwX6_isWord_1 : List UInt8 := [43, 182, 0, 116, 159, 0, 5, 3, 172, 3, 61, 28, 43, 182, 0, 116, 162, 0, 29, 42, 42, 180, 0, 96]
abbrev dktX6_isWord_1 : List UInt8 := dkwX6_isWord_1 ++ dktX6_isWord_2
def dkwX6_isWord_0 : List UInt8 := [42, 182, 0, 112, 154, 0, 27, 42, 180, 0, 99, 4, 160, 0, 19, 42, 180, 0, 89, 42, 180, 0, 96, 100]
abbrev dktX6_isWord_0 : List UInt8 := dkwX6_isWord_0 ++ dktX6_isWord_1
theorem dksX6_isWord_0 : cX6_isWord.data.toList.drop 0 = dktX6_isWord_0 := by decide +kernel
theorem dksX6_isWord_1 : cX6_isWord.data.toList.drop 24 = dktX6_isWord_1 := dk_seg dksX6_isWord_0 24 rfl rfl
theorem dksX6_isWord_2 : cX6_isWord.data.toList.drop 48 = dktX6_isWord_2 := dk_seg dksX6_isWord_1 24 rfl rfl
theorem dX6_isWord_0 : decode cX6_isWord 0 = .ok (.aload_n 0, 1) := dk_42 (dk_at dksX6_isWord_0 0 rfl rfl)
theorem dX6_isWord_1 : decode cX6_isWord 1 = .ok (.invokevirtual 112, 3) := dk_182 0 112 (dk_at dksX6_isWord_0 1 rfl rfl)
theorem dX6_isWord_4 : decode cX6_isWord 4 = .ok (.ifCond .ne 27, 3) := dk_154 0 27 (dk_at dksX6_isWord_0 4 rfl rfl)
theorem dX6_isWord_7 : decode cX6_isWord 7 = .ok (.aload_n 0, 1) := dk_42 (dk_at dksX6_isWord_0 7 rfl rfl)
theorem dX6_isWord_8 : decode cX6_isWord 8 = .ok (.getfield 99, 3) := dk_180 0 99 (dk_at dksX6_isWord_0 8 rfl rfl)
theorem dX6_isWord_11 : decode cX6_isWord 11 = .ok (.iconst 1, 1) := dk_4 (dk_at dksX6_isWord_0 11 rfl rfl)
theorem dX6_isWord_12 : decode cX6_isWord 12 = .ok (.if_icmp .ne 19, 3) := dk_160 0 19 (dk_at dksX6_isWord_0 12 rfl rfl)
theorem dX6_isWord_15 : decode cX6_isWord 15 = .ok (.aload_n 0, 1) := dk_42 (dk_at dksX6_isWord_0 15 rfl rfl)
theorem dX6_isWord_16 : decode cX6_isWord 16 = .ok (.getfield 89, 3) := dk_180 0 89 (dk_at dksX6_isWord_0 16 rfl rfl)
theorem dX6_isWord_19 : decode cX6_isWord 19 = .ok (.aload_n 0, 1) := dk_42 (dk_at dksX6_isWord_0 19 rfl rfl)
theorem dX6_isWord_20 : decode cX6_isWord 20 = .ok (.getfield 96, 3) := dk_180 0 96 (dk_at dksX6_isWord_0 20 rfl rfl)
theorem dX6_isWord_23 : decode cX6_isWord 23 = .ok (.isub, 1) := dk_100 (dk_at dksX6_isWord_0 23 rfl rfl)
theorem dX6_isWord_24 : decode cX6_isWord 24 = .ok (.aload_n 1, 1) := dk_43 (dk_at dksX6_isWord_1 0 rfl rfl)
theorem dX6_isWord_25 : decode cX6_isWord 25 = .ok (.invokevirtual 116, 3) := dk_182 0 116 (dk_at dksX6_isWord_1 1 rfl rfl)
theorem dX6_isWord_28 : decode cX6_isWord 28 = .ok (.if_icmp .eq 5, 3) := dk_159 0 5 (dk_at dksX6_isWord_1 4 rfl rfl)
theorem dX6_isWord_31 : decode cX6_isWord 31 = .ok (.iconst 0, 1) := dk_3 (dk_at dksX6_isWord_1 7 rfl rfl)
theorem dX6_isWord_32 : decode cX6_isWord 32 = .ok (.ireturn, 1) := dk_172 (dk_at dksX6_isWord_1 8 rfl rfl)
theorem dX6_isWord_33 : decode cX6_isWord 33 = .ok (.iconst 0, 1) := dk_3 (dk_at dksX6_isWord_1 9 rfl rfl)
theorem dX6_isWord_34 : decode cX6_isWord 34 = .ok (.istore_n 2, 1) := dk_61 (dk_at dksX6_isWord_1 10 rfl rfl)
theorem dX6_isWord_35 : decode cX6_isWord 35 = .ok (.iload_n 2, 1) := dk_28 (dk_at dksX6_isWord_1 11 rfl rfl)
theorem dX6_isWord_36 : decode cX6_isWord 36 = .ok (.aload_n 1, 1) := dk_43 (dk_at dksX6_isWord_1 12 rfl rfl)
theorem dX6_isWord_37 : decode cX6_isWord 37 = .ok (.invokevirtual 116, 3) := dk_182 0 116 (dk_at dksX6_isWord_1 13 rfl rfl)
theorem dX6_isWord_40 : decode cX6_isWord 40 = .ok (.if_icmp .ge 29, 3) := dk_162 0 29 (dk_at dksX6_isWord_1 16 rfl rfl)
theorem dX6_isWord_43 : decode cX6_isWord 43 = .ok (.aload_n 0, 1) := dk_42 (dk_at dksX6_isWord_1 19 rfl rfl)
theorem dX6_isWord_44 : decode cX6_isWord 44 = .ok (.aload_n 0, 1) := dk_42 (dk_at dksX6_isWord_1 20 rfl rfl)
theorem dX6_isWord_45 : decode cX6_isWord 45 = .ok (.getfield 96, 3) := dk_180 0 96 (dk_at dksX6_isWord_1 21 rfl rfl)
theorem dX6_isWord_48 : decode cX6_isWord 48 = .ok (.iload_n 2, 1) := dk_28 (dk_at dksX6_isWord_2 0 rfl rfl)
theorem dX6_isWord_49 : decode cX6_isWord 49 = .ok (.iadd, 1) := dk_96 (dk_at dksX6_isWord_2 1 rfl rfl)
theorem dX6_isWord_50 : decode cX6_isWord 50 = .ok (.invokevirtual 92, 3) := dk_182 0 92 (dk_at dksX6_isWord_2 2 rfl rfl)
theorem dX6_isWord_53 : decode cX6_isWord 53 = .ok (.aload_n 1, 1) := dk_43 (dk_at dksX6_isWord_2 5 rfl rfl)
theorem dX6_isWord_54 : decode cX6_isWord 54 = .ok (.iload_n 2, 1) := dk_28 (dk_at dksX6_isWord_2 6 rfl rfl)
theorem dX6_isWord_55 : decode cX6_isWord 55 = .ok (.invokevirtual 122, 3) := dk_182 0 122 (dk_at dksX6_isWord_2 7 rfl rfl)
theorem dX6_isWord_58 : decode cX6_isWord 58 = .ok (.if_icmp .eq 5, 3) := dk_159 0 5 (dk_at dksX6_isWord_2 10 rfl rfl)
theorem dX6_isWord_61 : decode cX6_isWord 61 = .ok (.iconst 0, 1) := dk_3 (dk_at dksX6_isWord_2 13 rfl rfl)
theorem dX6_isWord_62 : decode cX6_isWord 62 = .ok (.ireturn, 1) := dk_172 (dk_at dksX6_isWord_2 14 rfl rfl)
theorem dX6_isWord_63 : decode cX6_isWord 63 = .ok (.iinc 2 1, 3) := dk_132 2 1 (dk_at dksX6_isWord_2 15 rfl rfl)
theorem dX6_isWord_66 : decode cX6_isWord 66 = .ok (.goto (-31), 3) := dk_167 255 225 (dk_at dksX6_isWord_2 18 rfl rfl)
theorem dX6_isWord_69 : decode cX6_isWord 69 = .ok (.iconst 1, 1) := dk_4 (dk_at dksX6_isWord_2 21 rfl rfl)
theorem dX6_isWord_70 : decode cX6_isWord 70 = .ok (.ireturn, 1) := dk_172 (dk_at dksX6_isWord_2 22 rfl rfl)
def dkwX6_isWrong_0 : List UInt8 := [42, 180, 0, 109, 153, 0, 7, 4, 167, 0, 4, 3, 172]
abbrev dktX6_isWrong_0 : List UInt8 := dkwX6_isWrong_0 ++ []
theorem dksX6_isWrong_0 : cX6_isWrong.data.toList.drop 0 = dktX6_isWrong_0 := by decide +kernel
theorem dX6_isWrong_0 : decode cX6_isWrong 0 = .ok (.aload_n 0, 1) := dk_42 (dk_at dksX6_isWrong_0 0 rfl rfl)
theorem dX6_isWrong_1 : decode cX6_isWrong 1 = .ok (.getfield 109, 3) := dk_180 0 109 (dk_at dksX6_isWrong_0 1 rfl rfl)
theorem dX6_isWrong_4 : decode cX6_isWrong 4 = .ok (.ifCond .eq 7, 3) := dk_153 0 7 (dk_at dksX6_isWrong_0 4 rfl rfl)
theorem dX6_isWrong_7 : decode cX6_isWrong 7 = .ok (.iconst 1, 1) := dk_4 (dk_at dksX6_isWrong_0 7 rfl rfl)
theorem dX6_isWrong_8 : decode cX6_isWrong 8 = .ok (.goto 4, 3) := dk_167 0 4 (dk_at dksX6_isWrong_0 8 rfl rfl)
theorem dX6_isWrong_11 : decode cX6_isWrong 11 = .ok (.iconst 0, 1) := dk_3 (dk_at dksX6_isWrong_0 11 rfl rfl)
theorem dX6_isWrong_12 : decode cX6_isWrong 12 = .ok (.ireturn, 1) := dk_172 (dk_at dksX6_isWrong_0 12 rfl rfl)
def dkwX6_passes_0 : List UInt8 := [27, 154, 0, 8, 42, 4, 182, 0, 126, 42, 182, 0, 112, 154, 0, 7, 42, 182, 0, 130, 177]
abbrev dktX6_passes_0 : List UInt8 := dkwX6_passes_0 ++ []
theorem dksX6_passes_0 : cX6_passes.data.toList.drop 0 = dktX6_passes_0 := by decide +kernel
theorem dX6_passes_0 : decode cX6_passes 0 = .ok (.iload_n 1, 1) := dk_27 (dk_at dksX6_passes_0 0 rfl rfl)
theorem dX6_passes_1 : decode cX6_passes 1 = .ok (.ifCond .ne 8, 3) := dk_154 0 8 (dk_at dksX6_passes_0 1 rfl rfl)
theorem dX6_passes_4 : decode cX6_passes 4 = .ok (.aload_n 0, 1) := dk_42 (dk_at dksX6_passes_0 4 rfl rfl)
theorem dX6_passes_5 : decode cX6_passes 5 = .ok (.iconst 1, 1) := dk_4 (dk_at dksX6_passes_0 5 rfl rfl)
theorem dX6_passes_6 : decode cX6_passes 6 = .ok (.invokevirtual 126, 3) := dk_182 0 126 (dk_at dksX6_passes_0 6 rfl rfl)
theorem dX6_passes_9 : decode cX6_passes 9 = .ok (.aload_n 0, 1) := dk_42 (dk_at dksX6_passes_0 9 rfl rfl)
theorem dX6_passes_10 : decode cX6_passes 10 = .ok (.invokevirtual 112, 3) := dk_182 0 112 (dk_at dksX6_passes_0 10 rfl rfl)
theorem dX6_passes_13 : decode cX6_passes 13 = .ok (.ifCond .ne 7, 3) := dk_154 0 7 (dk_at dksX6_passes_0 13 rfl rfl)
theorem dX6_passes_16 : decode cX6_passes 16 = .ok (.aload_n 0, 1) := dk_42 (dk_at dksX6_passes_0 16 rfl rfl)
theorem dX6_passes_17 : decode cX6_passes 17 = .ok (.invokevirtual 130, 3) := dk_182 0 130 (dk_at dksX6_passes_0 17 rfl rfl)
theorem dX6_passes_20 : decode cX6_passes 20 = .ok (.return_, 1) := dk_177 (dk_at dksX6_passes_0 20 rfl rfl)
def dkwX6_fails_0 : List UInt8 := [42, 182, 0, 112, 153, 0, 4, 177, 42, 27, 181, 0, 109, 42, 42, 180, 0, 96, 181, 0, 62, 177]
abbrev dktX6_fails_0 : List UInt8 := dkwX6_fails_0 ++ []
theorem dksX6_fails_0 : cX6_fails.data.toList.drop 0 = dktX6_fails_0 := by decide +kernel
theorem dX6_fails_0 : decode cX6_fails 0 = .ok (.aload_n 0, 1) := dk_42 (dk_at dksX6_fails_0 0 rfl rfl)
theorem dX6_fails_1 : decode cX6_fails 1 = .ok (.invokevirtual 112, 3) := dk_182 0 112 (dk_at dksX6_fails_0 1 rfl rfl)
theorem dX6_fails_4 : decode cX6_fails 4 = .ok (.ifCond .eq 4, 3) := dk_153 0 4 (dk_at dksX6_fails_0 4 rfl rfl)
theorem dX6_fails_7 : decode cX6_fails 7 = .ok (.return_, 1) := dk_177 (dk_at dksX6_fails_0 7 rfl rfl)
theorem dX6_fails_8 : decode cX6_fails 8 = .ok (.aload_n 0, 1) := dk_42 (dk_at dksX6_fails_0 8 rfl rfl)
theorem dX6_fails_9 : decode cX6_fails 9 = .ok (.iload_n 1, 1) := dk_27 (dk_at dksX6_fails_0 9 rfl rfl)
theorem dX6_fails_10 : decode cX6_fails 10 = .ok (.putfield 109, 3) := dk_181 0 109 (dk_at dksX6_fails_0 10 rfl rfl)
theorem dX6_fails_13 : decode cX6_fails 13 = .ok (.aload_n 0, 1) := dk_42 (dk_at dksX6_fails_0 13 rfl rfl)
theorem dX6_fails_14 : decode cX6_fails 14 = .ok (.aload_n 0, 1) := dk_42 (dk_at dksX6_fails_0 14 rfl rfl)
theorem dX6_fails_15 : decode cX6_fails 15 = .ok (.getfield 96, 3) := dk_180 0 96 (dk_at dksX6_fails_0 15 rfl rfl)
theorem dX6_fails_18 : decode cX6_fails 18 = .ok (.putfield 62, 3) := dk_181 0 62 (dk_at dksX6_fails_0 18 rfl rfl)
theorem dX6_fails_21 : decode cX6_fails 21 = .ok (.return_, 1) := dk_177 (dk_at dksX6_fails_0 21 rfl rfl)
def dkwX6_figure_4 : List UInt8 := [154, 0, 8, 42, 5, 182, 0, 126, 42, 182, 0, 112, 154, 0, 7, 42, 182, 0, 130, 29, 172]
abbrev dktX6_figure_4 : List UInt8 := dkwX6_figure_4 ++ []
def dkwX6_figure_3 : List UInt8 := [182, 0, 92, 96, 16, 48, 100, 62, 132, 4, 1, 167, 255, 229, 29, 133, 27, 133, 28, 133, 184, 0, 82]
abbrev dktX6_figure_3 : List UInt8 := dkwX6_figure_3 ++ dktX6_figure_4
def dkwX6_figure_2 : List UInt8 := [42, 180, 0, 96, 54, 4, 21, 4, 42, 180, 0, 89, 162, 0, 24, 16, 10, 29, 104, 42, 21, 4]
abbrev dktX6_figure_2 : List UInt8 := dkwX6_figure_2 ++ dktX6_figure_3
def dkwX6_figure_1 : List UInt8 := [180, 0, 96, 100, 7, 164, 0, 8, 42, 4, 182, 0, 126, 42, 182, 0, 112, 153, 0, 5, 27, 172, 3, 62]
abbrev dktX6_figure_1 : List UInt8 := dkwX6_figure_1 ++ dktX6_figure_2
def dkwX6_figure_0 : List UInt8 := [42, 182, 0, 112, 153, 0, 5, 27, 172, 42, 180, 0, 99, 5, 160, 0, 16, 42, 180, 0, 89, 42]
abbrev dktX6_figure_0 : List UInt8 := dkwX6_figure_0 ++ dktX6_figure_1
theorem dksX6_figure_0 : cX6_figure.data.toList.drop 0 = dktX6_figure_0 := by decide +kernel
theorem dksX6_figure_1 : cX6_figure.data.toList.drop 22 = dktX6_figure_1 := dk_seg dksX6_figure_0 22 rfl rfl
theorem dksX6_figure_2 : cX6_figure.data.toList.drop 46 = dktX6_figure_2 := dk_seg dksX6_figure_1 24 rfl rfl
theorem dksX6_figure_3 : cX6_figure.data.toList.drop 68 = dktX6_figure_3 := dk_seg dksX6_figure_2 22 rfl rfl
theorem dksX6_figure_4 : cX6_figure.data.toList.drop 91 = dktX6_figure_4 := dk_seg dksX6_figure_3 23 rfl rfl
theorem dX6_figure_0 : decode cX6_figure 0 = .ok (.aload_n 0, 1) := dk_42 (dk_at dksX6_figure_0 0 rfl rfl)
theorem dX6_figure_1 : decode cX6_figure 1 = .ok (.invokevirtual 112, 3) := dk_182 0 112 (dk_at dksX6_figure_0 1 rfl rfl)
theorem dX6_figure_4 : decode cX6_figure 4 = .ok (.ifCond .eq 5, 3) := dk_153 0 5 (dk_at dksX6_figure_0 4 rfl rfl)
theorem dX6_figure_7 : decode cX6_figure 7 = .ok (.iload_n 1, 1) := dk_27 (dk_at dksX6_figure_0 7 rfl rfl)
theorem dX6_figure_8 : decode cX6_figure 8 = .ok (.ireturn, 1) := dk_172 (dk_at dksX6_figure_0 8 rfl rfl)
theorem dX6_figure_9 : decode cX6_figure 9 = .ok (.aload_n 0, 1) := dk_42 (dk_at dksX6_figure_0 9 rfl rfl)
theorem dX6_figure_10 : decode cX6_figure 10 = .ok (.getfield 99, 3) := dk_180 0 99 (dk_at dksX6_figure_0 10 rfl rfl)
theorem dX6_figure_13 : decode cX6_figure 13 = .ok (.iconst 2, 1) := dk_5 (dk_at dksX6_figure_0 13 rfl rfl)
theorem dX6_figure_14 : decode cX6_figure 14 = .ok (.if_icmp .ne 16, 3) := dk_160 0 16 (dk_at dksX6_figure_0 14 rfl rfl)
theorem dX6_figure_17 : decode cX6_figure 17 = .ok (.aload_n 0, 1) := dk_42 (dk_at dksX6_figure_0 17 rfl rfl)
theorem dX6_figure_18 : decode cX6_figure 18 = .ok (.getfield 89, 3) := dk_180 0 89 (dk_at dksX6_figure_0 18 rfl rfl)
theorem dX6_figure_21 : decode cX6_figure 21 = .ok (.aload_n 0, 1) := dk_42 (dk_at dksX6_figure_0 21 rfl rfl)
theorem dX6_figure_22 : decode cX6_figure 22 = .ok (.getfield 96, 3) := dk_180 0 96 (dk_at dksX6_figure_1 0 rfl rfl)
theorem dX6_figure_25 : decode cX6_figure 25 = .ok (.isub, 1) := dk_100 (dk_at dksX6_figure_1 3 rfl rfl)
theorem dX6_figure_26 : decode cX6_figure 26 = .ok (.iconst 4, 1) := dk_7 (dk_at dksX6_figure_1 4 rfl rfl)
theorem dX6_figure_27 : decode cX6_figure 27 = .ok (.if_icmp .le 8, 3) := dk_164 0 8 (dk_at dksX6_figure_1 5 rfl rfl)
theorem dX6_figure_30 : decode cX6_figure 30 = .ok (.aload_n 0, 1) := dk_42 (dk_at dksX6_figure_1 8 rfl rfl)
theorem dX6_figure_31 : decode cX6_figure 31 = .ok (.iconst 1, 1) := dk_4 (dk_at dksX6_figure_1 9 rfl rfl)
theorem dX6_figure_32 : decode cX6_figure 32 = .ok (.invokevirtual 126, 3) := dk_182 0 126 (dk_at dksX6_figure_1 10 rfl rfl)
theorem dX6_figure_35 : decode cX6_figure 35 = .ok (.aload_n 0, 1) := dk_42 (dk_at dksX6_figure_1 13 rfl rfl)
theorem dX6_figure_36 : decode cX6_figure 36 = .ok (.invokevirtual 112, 3) := dk_182 0 112 (dk_at dksX6_figure_1 14 rfl rfl)
theorem dX6_figure_39 : decode cX6_figure 39 = .ok (.ifCond .eq 5, 3) := dk_153 0 5 (dk_at dksX6_figure_1 17 rfl rfl)
theorem dX6_figure_42 : decode cX6_figure 42 = .ok (.iload_n 1, 1) := dk_27 (dk_at dksX6_figure_1 20 rfl rfl)
theorem dX6_figure_43 : decode cX6_figure 43 = .ok (.ireturn, 1) := dk_172 (dk_at dksX6_figure_1 21 rfl rfl)
theorem dX6_figure_44 : decode cX6_figure 44 = .ok (.iconst 0, 1) := dk_3 (dk_at dksX6_figure_1 22 rfl rfl)
theorem dX6_figure_45 : decode cX6_figure 45 = .ok (.istore_n 3, 1) := dk_62 (dk_at dksX6_figure_1 23 rfl rfl)
theorem dX6_figure_46 : decode cX6_figure 46 = .ok (.aload_n 0, 1) := dk_42 (dk_at dksX6_figure_2 0 rfl rfl)
theorem dX6_figure_47 : decode cX6_figure 47 = .ok (.getfield 96, 3) := dk_180 0 96 (dk_at dksX6_figure_2 1 rfl rfl)
theorem dX6_figure_50 : decode cX6_figure 50 = .ok (.istore 4, 2) := dk_54 4 (dk_at dksX6_figure_2 4 rfl rfl)
theorem dX6_figure_52 : decode cX6_figure 52 = .ok (.iload 4, 2) := dk_21 4 (dk_at dksX6_figure_2 6 rfl rfl)
theorem dX6_figure_54 : decode cX6_figure 54 = .ok (.aload_n 0, 1) := dk_42 (dk_at dksX6_figure_2 8 rfl rfl)
theorem dX6_figure_55 : decode cX6_figure 55 = .ok (.getfield 89, 3) := dk_180 0 89 (dk_at dksX6_figure_2 9 rfl rfl)
theorem dX6_figure_58 : decode cX6_figure 58 = .ok (.if_icmp .ge 24, 3) := dk_162 0 24 (dk_at dksX6_figure_2 12 rfl rfl)
theorem dX6_figure_61 : decode cX6_figure 61 = .ok (.bipush 10, 2) := dk_16 10 (dk_at dksX6_figure_2 15 rfl rfl)
theorem dX6_figure_63 : decode cX6_figure 63 = .ok (.iload_n 3, 1) := dk_29 (dk_at dksX6_figure_2 17 rfl rfl)
theorem dX6_figure_64 : decode cX6_figure 64 = .ok (.imul, 1) := dk_104 (dk_at dksX6_figure_2 18 rfl rfl)
theorem dX6_figure_65 : decode cX6_figure 65 = .ok (.aload_n 0, 1) := dk_42 (dk_at dksX6_figure_2 19 rfl rfl)
theorem dX6_figure_66 : decode cX6_figure 66 = .ok (.iload 4, 2) := dk_21 4 (dk_at dksX6_figure_2 20 rfl rfl)
theorem dX6_figure_68 : decode cX6_figure 68 = .ok (.invokevirtual 92, 3) := dk_182 0 92 (dk_at dksX6_figure_3 0 rfl rfl)
theorem dX6_figure_71 : decode cX6_figure 71 = .ok (.iadd, 1) := dk_96 (dk_at dksX6_figure_3 3 rfl rfl)
theorem dX6_figure_72 : decode cX6_figure 72 = .ok (.bipush 48, 2) := dk_16 48 (dk_at dksX6_figure_3 4 rfl rfl)
theorem dX6_figure_74 : decode cX6_figure 74 = .ok (.isub, 1) := dk_100 (dk_at dksX6_figure_3 6 rfl rfl)
theorem dX6_figure_75 : decode cX6_figure 75 = .ok (.istore_n 3, 1) := dk_62 (dk_at dksX6_figure_3 7 rfl rfl)
theorem dX6_figure_76 : decode cX6_figure 76 = .ok (.iinc 4 1, 3) := dk_132 4 1 (dk_at dksX6_figure_3 8 rfl rfl)
theorem dX6_figure_79 : decode cX6_figure 79 = .ok (.goto (-27), 3) := dk_167 255 229 (dk_at dksX6_figure_3 11 rfl rfl)
theorem dX6_figure_82 : decode cX6_figure 82 = .ok (.iload_n 3, 1) := dk_29 (dk_at dksX6_figure_3 14 rfl rfl)
theorem dX6_figure_83 : decode cX6_figure 83 = .ok (.i2l, 1) := dk_133 (dk_at dksX6_figure_3 15 rfl rfl)
theorem dX6_figure_84 : decode cX6_figure 84 = .ok (.iload_n 1, 1) := dk_27 (dk_at dksX6_figure_3 16 rfl rfl)
theorem dX6_figure_85 : decode cX6_figure 85 = .ok (.i2l, 1) := dk_133 (dk_at dksX6_figure_3 17 rfl rfl)
theorem dX6_figure_86 : decode cX6_figure 86 = .ok (.iload_n 2, 1) := dk_28 (dk_at dksX6_figure_3 18 rfl rfl)
theorem dX6_figure_87 : decode cX6_figure 87 = .ok (.i2l, 1) := dk_133 (dk_at dksX6_figure_3 19 rfl rfl)
theorem dX6_figure_88 : decode cX6_figure 88 = .ok (.invokestatic 82, 3) := dk_184 0 82 (dk_at dksX6_figure_3 20 rfl rfl)
theorem dX6_figure_91 : decode cX6_figure 91 = .ok (.ifCond .ne 8, 3) := dk_154 0 8 (dk_at dksX6_figure_4 0 rfl rfl)
theorem dX6_figure_94 : decode cX6_figure 94 = .ok (.aload_n 0, 1) := dk_42 (dk_at dksX6_figure_4 3 rfl rfl)
theorem dX6_figure_95 : decode cX6_figure 95 = .ok (.iconst 2, 1) := dk_5 (dk_at dksX6_figure_4 4 rfl rfl)
theorem dX6_figure_96 : decode cX6_figure 96 = .ok (.invokevirtual 126, 3) := dk_182 0 126 (dk_at dksX6_figure_4 5 rfl rfl)
theorem dX6_figure_99 : decode cX6_figure 99 = .ok (.aload_n 0, 1) := dk_42 (dk_at dksX6_figure_4 8 rfl rfl)
theorem dX6_figure_100 : decode cX6_figure 100 = .ok (.invokevirtual 112, 3) := dk_182 0 112 (dk_at dksX6_figure_4 9 rfl rfl)
theorem dX6_figure_103 : decode cX6_figure 103 = .ok (.ifCond .ne 7, 3) := dk_154 0 7 (dk_at dksX6_figure_4 12 rfl rfl)
theorem dX6_figure_106 : decode cX6_figure 106 = .ok (.aload_n 0, 1) := dk_42 (dk_at dksX6_figure_4 15 rfl rfl)
theorem dX6_figure_107 : decode cX6_figure 107 = .ok (.invokevirtual 130, 3) := dk_182 0 130 (dk_at dksX6_figure_4 16 rfl rfl)
theorem dX6_figure_110 : decode cX6_figure 110 = .ok (.iload_n 3, 1) := dk_29 (dk_at dksX6_figure_4 19 rfl rfl)
theorem dX6_figure_111 : decode cX6_figure 111 = .ok (.ireturn, 1) := dk_172 (dk_at dksX6_figure_4 20 rfl rfl)
def dkwX6_semicolon_0 : List UInt8 := [42, 42, 180, 0, 99, 6, 160, 0, 7, 4, 167, 0, 4, 3, 182, 0, 133, 177]
abbrev dktX6_semicolon_0 : List UInt8 := dkwX6_semicolon_0 ++ []
theorem dksX6_semicolon_0 : cX6_semicolon.data.toList.drop 0 = dktX6_semicolon_0 := by decide +kernel
theorem dX6_semicolon_0 : decode cX6_semicolon 0 = .ok (.aload_n 0, 1) := dk_42 (dk_at dksX6_semicolon_0 0 rfl rfl)
theorem dX6_semicolon_1 : decode cX6_semicolon 1 = .ok (.aload_n 0, 1) := dk_42 (dk_at dksX6_semicolon_0 1 rfl rfl)
theorem dX6_semicolon_2 : decode cX6_semicolon 2 = .ok (.getfield 99, 3) := dk_180 0 99 (dk_at dksX6_semicolon_0 2 rfl rfl)
theorem dX6_semicolon_5 : decode cX6_semicolon 5 = .ok (.iconst 3, 1) := dk_6 (dk_at dksX6_semicolon_0 5 rfl rfl)
theorem dX6_semicolon_6 : decode cX6_semicolon 6 = .ok (.if_icmp .ne 7, 3) := dk_160 0 7 (dk_at dksX6_semicolon_0 6 rfl rfl)
theorem dX6_semicolon_9 : decode cX6_semicolon 9 = .ok (.iconst 1, 1) := dk_4 (dk_at dksX6_semicolon_0 9 rfl rfl)
theorem dX6_semicolon_10 : decode cX6_semicolon 10 = .ok (.goto 4, 3) := dk_167 0 4 (dk_at dksX6_semicolon_0 10 rfl rfl)
theorem dX6_semicolon_13 : decode cX6_semicolon 13 = .ok (.iconst 0, 1) := dk_3 (dk_at dksX6_semicolon_0 13 rfl rfl)
theorem dX6_semicolon_14 : decode cX6_semicolon 14 = .ok (.invokevirtual 133, 3) := dk_182 0 133 (dk_at dksX6_semicolon_0 14 rfl rfl)
theorem dX6_semicolon_17 : decode cX6_semicolon 17 = .ok (.return_, 1) := dk_177 (dk_at dksX6_semicolon_0 17 rfl rfl)
def dkwX6_outletLine_11 : List UInt8 := [181, 0, 140, 177]
abbrev dktX6_outletLine_11 : List UInt8 := dkwX6_outletLine_11 ++ []
def dkwX6_outletLine_10 : List UInt8 := [4, 184, 0, 157, 4, 79, 42, 180, 0, 50, 42, 180, 0, 140, 3, 79, 42, 89, 180, 0, 140, 4, 96]
abbrev dktX6_outletLine_10 : List UInt8 := dkwX6_outletLine_10 ++ dktX6_outletLine_11
def dkwX6_outletLine_9 : List UInt8 := [3, 184, 0, 157, 42, 3, 16, 9, 182, 0, 153, 79, 42, 182, 0, 160, 42, 180, 0, 44, 42, 180, 0, 140]
abbrev dktX6_outletLine_9 : List UInt8 := dkwX6_outletLine_9 ++ dktX6_outletLine_10
def dkwX6_outletLine_8 : List UInt8 := [79, 42, 180, 0, 47, 28, 6, 96, 42, 4, 16, 20, 182, 0, 153, 79, 42, 180, 0, 44, 42, 180, 0, 140]
abbrev dktX6_outletLine_8 : List UInt8 := dkwX6_outletLine_8 ++ dktX6_outletLine_9
def dkwX6_outletLine_7 : List UInt8 := [180, 0, 47, 28, 5, 96, 42, 42, 180, 0, 47, 28, 46, 42, 180, 0, 47, 28, 4, 96, 46, 182, 0, 153]
abbrev dktX6_outletLine_7 : List UInt8 := dkwX6_outletLine_7 ++ dktX6_outletLine_8
def dkwX6_outletLine_6 : List UInt8 := [42, 180, 0, 47, 28, 4, 96, 42, 42, 180, 0, 47, 28, 46, 17, 7, 207, 182, 0, 153, 79, 42]
abbrev dktX6_outletLine_6 : List UInt8 := dkwX6_outletLine_6 ++ dktX6_outletLine_7
def dkwX6_outletLine_5 : List UInt8 := [182, 0, 130, 7, 42, 180, 0, 140, 104, 61, 42, 180, 0, 47, 28, 42, 3, 17, 3, 231, 182, 0, 153, 79]
abbrev dktX6_outletLine_5 : List UInt8 := dkwX6_outletLine_5 ++ dktX6_outletLine_6
def dkwX6_outletLine_4 : List UInt8 := [180, 0, 41, 42, 180, 0, 96, 28, 96, 46, 167, 0, 4, 3, 79, 132, 2, 1, 167, 255, 205, 42]
abbrev dktX6_outletLine_4 : List UInt8 := dkwX6_outletLine_4 ++ dktX6_outletLine_5
def dkwX6_outletLine_3 : List UInt8 := [16, 8, 42, 180, 0, 140, 104, 28, 96, 42, 180, 0, 96, 28, 96, 42, 180, 0, 89, 162, 0, 17, 42]
abbrev dktX6_outletLine_3 : List UInt8 := dkwX6_outletLine_3 ++ dktX6_outletLine_4
def dkwX6_outletLine_2 : List UInt8 := [182, 0, 126, 42, 182, 0, 112, 153, 0, 4, 177, 3, 61, 28, 16, 8, 162, 0, 51, 42, 180, 0, 59]
abbrev dktX6_outletLine_2 : List UInt8 := dkwX6_outletLine_2 ++ dktX6_outletLine_3
def dkwX6_outletLine_1 : List UInt8 := [182, 0, 130, 42, 182, 0, 150, 60, 42, 182, 0, 112, 154, 0, 13, 27, 2, 159, 0, 8, 42, 6]
abbrev dktX6_outletLine_1 : List UInt8 := dkwX6_outletLine_1 ++ dktX6_outletLine_2
def dkwX6_outletLine_0 : List UInt8 := [42, 180, 0, 140, 16, 12, 160, 0, 8, 42, 8, 182, 0, 126, 42, 182, 0, 112, 153, 0, 4, 177, 42]
abbrev dktX6_outletLine_0 : List UInt8 := dkwX6_outletLine_0 ++ dktX6_outletLine_1
theorem dksX6_outletLine_0 : cX6_outletLine.data.toList.drop 0 = dktX6_outletLine_0 := by decide +kernel
theorem dksX6_outletLine_1 : cX6_outletLine.data.toList.drop 23 = dktX6_outletLine_1 := dk_seg dksX6_outletLine_0 23 rfl rfl
theorem dksX6_outletLine_2 : cX6_outletLine.data.toList.drop 45 = dktX6_outletLine_2 := dk_seg dksX6_outletLine_1 22 rfl rfl
theorem dksX6_outletLine_3 : cX6_outletLine.data.toList.drop 68 = dktX6_outletLine_3 := dk_seg dksX6_outletLine_2 23 rfl rfl
theorem dksX6_outletLine_4 : cX6_outletLine.data.toList.drop 91 = dktX6_outletLine_4 := dk_seg dksX6_outletLine_3 23 rfl rfl
theorem dksX6_outletLine_5 : cX6_outletLine.data.toList.drop 113 = dktX6_outletLine_5 := dk_seg dksX6_outletLine_4 22 rfl rfl
theorem dksX6_outletLine_6 : cX6_outletLine.data.toList.drop 137 = dktX6_outletLine_6 := dk_seg dksX6_outletLine_5 24 rfl rfl
theorem dksX6_outletLine_7 : cX6_outletLine.data.toList.drop 159 = dktX6_outletLine_7 := dk_seg dksX6_outletLine_6 22 rfl rfl
theorem dksX6_outletLine_8 : cX6_outletLine.data.toList.drop 183 = dktX6_outletLine_8 := dk_seg dksX6_outletLine_7 24 rfl rfl
theorem dksX6_outletLine_9 : cX6_outletLine.data.toList.drop 207 = dktX6_outletLine_9 := dk_seg dksX6_outletLine_8 24 rfl rfl
theorem dksX6_outletLine_10 : cX6_outletLine.data.toList.drop 231 = dktX6_outletLine_10 := dk_seg dksX6_outletLine_9 24 rfl rfl
theorem dksX6_outletLine_11 : cX6_outletLine.data.toList.drop 254 = dktX6_outletLine_11 := dk_seg dksX6_outletLine_10 23 rfl rfl
theorem dX6_outletLine_0 : decode cX6_outletLine 0 = .ok (.aload_n 0, 1) := dk_42 (dk_at dksX6_outletLine_0 0 rfl rfl)
theorem dX6_outletLine_1 : decode cX6_outletLine 1 = .ok (.getfield 140, 3) := dk_180 0 140 (dk_at dksX6_outletLine_0 1 rfl rfl)
theorem dX6_outletLine_4 : decode cX6_outletLine 4 = .ok (.bipush 12, 2) := dk_16 12 (dk_at dksX6_outletLine_0 4 rfl rfl)
theorem dX6_outletLine_6 : decode cX6_outletLine 6 = .ok (.if_icmp .ne 8, 3) := dk_160 0 8 (dk_at dksX6_outletLine_0 6 rfl rfl)
theorem dX6_outletLine_9 : decode cX6_outletLine 9 = .ok (.aload_n 0, 1) := dk_42 (dk_at dksX6_outletLine_0 9 rfl rfl)
theorem dX6_outletLine_10 : decode cX6_outletLine 10 = .ok (.iconst 5, 1) := dk_8 (dk_at dksX6_outletLine_0 10 rfl rfl)
theorem dX6_outletLine_11 : decode cX6_outletLine 11 = .ok (.invokevirtual 126, 3) := dk_182 0 126 (dk_at dksX6_outletLine_0 11 rfl rfl)
theorem dX6_outletLine_14 : decode cX6_outletLine 14 = .ok (.aload_n 0, 1) := dk_42 (dk_at dksX6_outletLine_0 14 rfl rfl)
theorem dX6_outletLine_15 : decode cX6_outletLine 15 = .ok (.invokevirtual 112, 3) := dk_182 0 112 (dk_at dksX6_outletLine_0 15 rfl rfl)
theorem dX6_outletLine_18 : decode cX6_outletLine 18 = .ok (.ifCond .eq 4, 3) := dk_153 0 4 (dk_at dksX6_outletLine_0 18 rfl rfl)
theorem dX6_outletLine_21 : decode cX6_outletLine 21 = .ok (.return_, 1) := dk_177 (dk_at dksX6_outletLine_0 21 rfl rfl)
theorem dX6_outletLine_22 : decode cX6_outletLine 22 = .ok (.aload_n 0, 1) := dk_42 (dk_at dksX6_outletLine_0 22 rfl rfl)
theorem dX6_outletLine_23 : decode cX6_outletLine 23 = .ok (.invokevirtual 130, 3) := dk_182 0 130 (dk_at dksX6_outletLine_1 0 rfl rfl)
theorem dX6_outletLine_26 : decode cX6_outletLine 26 = .ok (.aload_n 0, 1) := dk_42 (dk_at dksX6_outletLine_1 3 rfl rfl)
theorem dX6_outletLine_27 : decode cX6_outletLine 27 = .ok (.invokevirtual 150, 3) := dk_182 0 150 (dk_at dksX6_outletLine_1 4 rfl rfl)
theorem dX6_outletLine_30 : decode cX6_outletLine 30 = .ok (.istore_n 1, 1) := dk_60 (dk_at dksX6_outletLine_1 7 rfl rfl)
theorem dX6_outletLine_31 : decode cX6_outletLine 31 = .ok (.aload_n 0, 1) := dk_42 (dk_at dksX6_outletLine_1 8 rfl rfl)
theorem dX6_outletLine_32 : decode cX6_outletLine 32 = .ok (.invokevirtual 112, 3) := dk_182 0 112 (dk_at dksX6_outletLine_1 9 rfl rfl)
theorem dX6_outletLine_35 : decode cX6_outletLine 35 = .ok (.ifCond .ne 13, 3) := dk_154 0 13 (dk_at dksX6_outletLine_1 12 rfl rfl)
theorem dX6_outletLine_38 : decode cX6_outletLine 38 = .ok (.iload_n 1, 1) := dk_27 (dk_at dksX6_outletLine_1 15 rfl rfl)
theorem dX6_outletLine_39 : decode cX6_outletLine 39 = .ok (.iconst (-1), 1) := dk_2 (dk_at dksX6_outletLine_1 16 rfl rfl)
theorem dX6_outletLine_40 : decode cX6_outletLine 40 = .ok (.if_icmp .eq 8, 3) := dk_159 0 8 (dk_at dksX6_outletLine_1 17 rfl rfl)
theorem dX6_outletLine_43 : decode cX6_outletLine 43 = .ok (.aload_n 0, 1) := dk_42 (dk_at dksX6_outletLine_1 20 rfl rfl)
theorem dX6_outletLine_44 : decode cX6_outletLine 44 = .ok (.iconst 3, 1) := dk_6 (dk_at dksX6_outletLine_1 21 rfl rfl)
theorem dX6_outletLine_45 : decode cX6_outletLine 45 = .ok (.invokevirtual 126, 3) := dk_182 0 126 (dk_at dksX6_outletLine_2 0 rfl rfl)
theorem dX6_outletLine_48 : decode cX6_outletLine 48 = .ok (.aload_n 0, 1) := dk_42 (dk_at dksX6_outletLine_2 3 rfl rfl)
theorem dX6_outletLine_49 : decode cX6_outletLine 49 = .ok (.invokevirtual 112, 3) := dk_182 0 112 (dk_at dksX6_outletLine_2 4 rfl rfl)
theorem dX6_outletLine_52 : decode cX6_outletLine 52 = .ok (.ifCond .eq 4, 3) := dk_153 0 4 (dk_at dksX6_outletLine_2 7 rfl rfl)
theorem dX6_outletLine_55 : decode cX6_outletLine 55 = .ok (.return_, 1) := dk_177 (dk_at dksX6_outletLine_2 10 rfl rfl)
theorem dX6_outletLine_56 : decode cX6_outletLine 56 = .ok (.iconst 0, 1) := dk_3 (dk_at dksX6_outletLine_2 11 rfl rfl)
theorem dX6_outletLine_57 : decode cX6_outletLine 57 = .ok (.istore_n 2, 1) := dk_61 (dk_at dksX6_outletLine_2 12 rfl rfl)
theorem dX6_outletLine_58 : decode cX6_outletLine 58 = .ok (.iload_n 2, 1) := dk_28 (dk_at dksX6_outletLine_2 13 rfl rfl)
theorem dX6_outletLine_59 : decode cX6_outletLine 59 = .ok (.bipush 8, 2) := dk_16 8 (dk_at dksX6_outletLine_2 14 rfl rfl)
theorem dX6_outletLine_61 : decode cX6_outletLine 61 = .ok (.if_icmp .ge 51, 3) := dk_162 0 51 (dk_at dksX6_outletLine_2 16 rfl rfl)
theorem dX6_outletLine_64 : decode cX6_outletLine 64 = .ok (.aload_n 0, 1) := dk_42 (dk_at dksX6_outletLine_2 19 rfl rfl)
theorem dX6_outletLine_65 : decode cX6_outletLine 65 = .ok (.getfield 59, 3) := dk_180 0 59 (dk_at dksX6_outletLine_2 20 rfl rfl)
theorem dX6_outletLine_68 : decode cX6_outletLine 68 = .ok (.bipush 8, 2) := dk_16 8 (dk_at dksX6_outletLine_3 0 rfl rfl)
theorem dX6_outletLine_70 : decode cX6_outletLine 70 = .ok (.aload_n 0, 1) := dk_42 (dk_at dksX6_outletLine_3 2 rfl rfl)
theorem dX6_outletLine_71 : decode cX6_outletLine 71 = .ok (.getfield 140, 3) := dk_180 0 140 (dk_at dksX6_outletLine_3 3 rfl rfl)
theorem dX6_outletLine_74 : decode cX6_outletLine 74 = .ok (.imul, 1) := dk_104 (dk_at dksX6_outletLine_3 6 rfl rfl)
theorem dX6_outletLine_75 : decode cX6_outletLine 75 = .ok (.iload_n 2, 1) := dk_28 (dk_at dksX6_outletLine_3 7 rfl rfl)
theorem dX6_outletLine_76 : decode cX6_outletLine 76 = .ok (.iadd, 1) := dk_96 (dk_at dksX6_outletLine_3 8 rfl rfl)
theorem dX6_outletLine_77 : decode cX6_outletLine 77 = .ok (.aload_n 0, 1) := dk_42 (dk_at dksX6_outletLine_3 9 rfl rfl)
theorem dX6_outletLine_78 : decode cX6_outletLine 78 = .ok (.getfield 96, 3) := dk_180 0 96 (dk_at dksX6_outletLine_3 10 rfl rfl)
theorem dX6_outletLine_81 : decode cX6_outletLine 81 = .ok (.iload_n 2, 1) := dk_28 (dk_at dksX6_outletLine_3 13 rfl rfl)
theorem dX6_outletLine_82 : decode cX6_outletLine 82 = .ok (.iadd, 1) := dk_96 (dk_at dksX6_outletLine_3 14 rfl rfl)
theorem dX6_outletLine_83 : decode cX6_outletLine 83 = .ok (.aload_n 0, 1) := dk_42 (dk_at dksX6_outletLine_3 15 rfl rfl)
theorem dX6_outletLine_84 : decode cX6_outletLine 84 = .ok (.getfield 89, 3) := dk_180 0 89 (dk_at dksX6_outletLine_3 16 rfl rfl)
theorem dX6_outletLine_87 : decode cX6_outletLine 87 = .ok (.if_icmp .ge 17, 3) := dk_162 0 17 (dk_at dksX6_outletLine_3 19 rfl rfl)
theorem dX6_outletLine_90 : decode cX6_outletLine 90 = .ok (.aload_n 0, 1) := dk_42 (dk_at dksX6_outletLine_3 22 rfl rfl)
theorem dX6_outletLine_91 : decode cX6_outletLine 91 = .ok (.getfield 41, 3) := dk_180 0 41 (dk_at dksX6_outletLine_4 0 rfl rfl)
theorem dX6_outletLine_94 : decode cX6_outletLine 94 = .ok (.aload_n 0, 1) := dk_42 (dk_at dksX6_outletLine_4 3 rfl rfl)
theorem dX6_outletLine_95 : decode cX6_outletLine 95 = .ok (.getfield 96, 3) := dk_180 0 96 (dk_at dksX6_outletLine_4 4 rfl rfl)
theorem dX6_outletLine_98 : decode cX6_outletLine 98 = .ok (.iload_n 2, 1) := dk_28 (dk_at dksX6_outletLine_4 7 rfl rfl)
theorem dX6_outletLine_99 : decode cX6_outletLine 99 = .ok (.iadd, 1) := dk_96 (dk_at dksX6_outletLine_4 8 rfl rfl)
theorem dX6_outletLine_100 : decode cX6_outletLine 100 = .ok (.iaload, 1) := dk_46 (dk_at dksX6_outletLine_4 9 rfl rfl)
theorem dX6_outletLine_101 : decode cX6_outletLine 101 = .ok (.goto 4, 3) := dk_167 0 4 (dk_at dksX6_outletLine_4 10 rfl rfl)
theorem dX6_outletLine_104 : decode cX6_outletLine 104 = .ok (.iconst 0, 1) := dk_3 (dk_at dksX6_outletLine_4 13 rfl rfl)
theorem dX6_outletLine_105 : decode cX6_outletLine 105 = .ok (.iastore, 1) := dk_79 (dk_at dksX6_outletLine_4 14 rfl rfl)
theorem dX6_outletLine_106 : decode cX6_outletLine 106 = .ok (.iinc 2 1, 3) := dk_132 2 1 (dk_at dksX6_outletLine_4 15 rfl rfl)
theorem dX6_outletLine_109 : decode cX6_outletLine 109 = .ok (.goto (-51), 3) := dk_167 255 205 (dk_at dksX6_outletLine_4 18 rfl rfl)
theorem dX6_outletLine_112 : decode cX6_outletLine 112 = .ok (.aload_n 0, 1) := dk_42 (dk_at dksX6_outletLine_4 21 rfl rfl)
theorem dX6_outletLine_113 : decode cX6_outletLine 113 = .ok (.invokevirtual 130, 3) := dk_182 0 130 (dk_at dksX6_outletLine_5 0 rfl rfl)
theorem dX6_outletLine_116 : decode cX6_outletLine 116 = .ok (.iconst 4, 1) := dk_7 (dk_at dksX6_outletLine_5 3 rfl rfl)
theorem dX6_outletLine_117 : decode cX6_outletLine 117 = .ok (.aload_n 0, 1) := dk_42 (dk_at dksX6_outletLine_5 4 rfl rfl)
theorem dX6_outletLine_118 : decode cX6_outletLine 118 = .ok (.getfield 140, 3) := dk_180 0 140 (dk_at dksX6_outletLine_5 5 rfl rfl)
theorem dX6_outletLine_121 : decode cX6_outletLine 121 = .ok (.imul, 1) := dk_104 (dk_at dksX6_outletLine_5 8 rfl rfl)
theorem dX6_outletLine_122 : decode cX6_outletLine 122 = .ok (.istore_n 2, 1) := dk_61 (dk_at dksX6_outletLine_5 9 rfl rfl)
theorem dX6_outletLine_123 : decode cX6_outletLine 123 = .ok (.aload_n 0, 1) := dk_42 (dk_at dksX6_outletLine_5 10 rfl rfl)
theorem dX6_outletLine_124 : decode cX6_outletLine 124 = .ok (.getfield 47, 3) := dk_180 0 47 (dk_at dksX6_outletLine_5 11 rfl rfl)
theorem dX6_outletLine_127 : decode cX6_outletLine 127 = .ok (.iload_n 2, 1) := dk_28 (dk_at dksX6_outletLine_5 14 rfl rfl)
theorem dX6_outletLine_128 : decode cX6_outletLine 128 = .ok (.aload_n 0, 1) := dk_42 (dk_at dksX6_outletLine_5 15 rfl rfl)
theorem dX6_outletLine_129 : decode cX6_outletLine 129 = .ok (.iconst 0, 1) := dk_3 (dk_at dksX6_outletLine_5 16 rfl rfl)
theorem dX6_outletLine_130 : decode cX6_outletLine 130 = .ok (.sipush 999, 3) := dk_17 3 231 (dk_at dksX6_outletLine_5 17 rfl rfl)
theorem dX6_outletLine_133 : decode cX6_outletLine 133 = .ok (.invokevirtual 153, 3) := dk_182 0 153 (dk_at dksX6_outletLine_5 20 rfl rfl)
theorem dX6_outletLine_136 : decode cX6_outletLine 136 = .ok (.iastore, 1) := dk_79 (dk_at dksX6_outletLine_5 23 rfl rfl)
theorem dX6_outletLine_137 : decode cX6_outletLine 137 = .ok (.aload_n 0, 1) := dk_42 (dk_at dksX6_outletLine_6 0 rfl rfl)
theorem dX6_outletLine_138 : decode cX6_outletLine 138 = .ok (.getfield 47, 3) := dk_180 0 47 (dk_at dksX6_outletLine_6 1 rfl rfl)
theorem dX6_outletLine_141 : decode cX6_outletLine 141 = .ok (.iload_n 2, 1) := dk_28 (dk_at dksX6_outletLine_6 4 rfl rfl)
theorem dX6_outletLine_142 : decode cX6_outletLine 142 = .ok (.iconst 1, 1) := dk_4 (dk_at dksX6_outletLine_6 5 rfl rfl)
theorem dX6_outletLine_143 : decode cX6_outletLine 143 = .ok (.iadd, 1) := dk_96 (dk_at dksX6_outletLine_6 6 rfl rfl)
theorem dX6_outletLine_144 : decode cX6_outletLine 144 = .ok (.aload_n 0, 1) := dk_42 (dk_at dksX6_outletLine_6 7 rfl rfl)
theorem dX6_outletLine_145 : decode cX6_outletLine 145 = .ok (.aload_n 0, 1) := dk_42 (dk_at dksX6_outletLine_6 8 rfl rfl)
theorem dX6_outletLine_146 : decode cX6_outletLine 146 = .ok (.getfield 47, 3) := dk_180 0 47 (dk_at dksX6_outletLine_6 9 rfl rfl)
theorem dX6_outletLine_149 : decode cX6_outletLine 149 = .ok (.iload_n 2, 1) := dk_28 (dk_at dksX6_outletLine_6 12 rfl rfl)
theorem dX6_outletLine_150 : decode cX6_outletLine 150 = .ok (.iaload, 1) := dk_46 (dk_at dksX6_outletLine_6 13 rfl rfl)
theorem dX6_outletLine_151 : decode cX6_outletLine 151 = .ok (.sipush 1999, 3) := dk_17 7 207 (dk_at dksX6_outletLine_6 14 rfl rfl)
theorem dX6_outletLine_154 : decode cX6_outletLine 154 = .ok (.invokevirtual 153, 3) := dk_182 0 153 (dk_at dksX6_outletLine_6 17 rfl rfl)
theorem dX6_outletLine_157 : decode cX6_outletLine 157 = .ok (.iastore, 1) := dk_79 (dk_at dksX6_outletLine_6 20 rfl rfl)
theorem dX6_outletLine_158 : decode cX6_outletLine 158 = .ok (.aload_n 0, 1) := dk_42 (dk_at dksX6_outletLine_6 21 rfl rfl)
theorem dX6_outletLine_159 : decode cX6_outletLine 159 = .ok (.getfield 47, 3) := dk_180 0 47 (dk_at dksX6_outletLine_7 0 rfl rfl)
theorem dX6_outletLine_162 : decode cX6_outletLine 162 = .ok (.iload_n 2, 1) := dk_28 (dk_at dksX6_outletLine_7 3 rfl rfl)
theorem dX6_outletLine_163 : decode cX6_outletLine 163 = .ok (.iconst 2, 1) := dk_5 (dk_at dksX6_outletLine_7 4 rfl rfl)
theorem dX6_outletLine_164 : decode cX6_outletLine 164 = .ok (.iadd, 1) := dk_96 (dk_at dksX6_outletLine_7 5 rfl rfl)
theorem dX6_outletLine_165 : decode cX6_outletLine 165 = .ok (.aload_n 0, 1) := dk_42 (dk_at dksX6_outletLine_7 6 rfl rfl)
theorem dX6_outletLine_166 : decode cX6_outletLine 166 = .ok (.aload_n 0, 1) := dk_42 (dk_at dksX6_outletLine_7 7 rfl rfl)
theorem dX6_outletLine_167 : decode cX6_outletLine 167 = .ok (.getfield 47, 3) := dk_180 0 47 (dk_at dksX6_outletLine_7 8 rfl rfl)
theorem dX6_outletLine_170 : decode cX6_outletLine 170 = .ok (.iload_n 2, 1) := dk_28 (dk_at dksX6_outletLine_7 11 rfl rfl)
theorem dX6_outletLine_171 : decode cX6_outletLine 171 = .ok (.iaload, 1) := dk_46 (dk_at dksX6_outletLine_7 12 rfl rfl)
theorem dX6_outletLine_172 : decode cX6_outletLine 172 = .ok (.aload_n 0, 1) := dk_42 (dk_at dksX6_outletLine_7 13 rfl rfl)
theorem dX6_outletLine_173 : decode cX6_outletLine 173 = .ok (.getfield 47, 3) := dk_180 0 47 (dk_at dksX6_outletLine_7 14 rfl rfl)
theorem dX6_outletLine_176 : decode cX6_outletLine 176 = .ok (.iload_n 2, 1) := dk_28 (dk_at dksX6_outletLine_7 17 rfl rfl)
theorem dX6_outletLine_177 : decode cX6_outletLine 177 = .ok (.iconst 1, 1) := dk_4 (dk_at dksX6_outletLine_7 18 rfl rfl)
theorem dX6_outletLine_178 : decode cX6_outletLine 178 = .ok (.iadd, 1) := dk_96 (dk_at dksX6_outletLine_7 19 rfl rfl)
theorem dX6_outletLine_179 : decode cX6_outletLine 179 = .ok (.iaload, 1) := dk_46 (dk_at dksX6_outletLine_7 20 rfl rfl)
theorem dX6_outletLine_180 : decode cX6_outletLine 180 = .ok (.invokevirtual 153, 3) := dk_182 0 153 (dk_at dksX6_outletLine_7 21 rfl rfl)
theorem dX6_outletLine_183 : decode cX6_outletLine 183 = .ok (.iastore, 1) := dk_79 (dk_at dksX6_outletLine_8 0 rfl rfl)
theorem dX6_outletLine_184 : decode cX6_outletLine 184 = .ok (.aload_n 0, 1) := dk_42 (dk_at dksX6_outletLine_8 1 rfl rfl)
theorem dX6_outletLine_185 : decode cX6_outletLine 185 = .ok (.getfield 47, 3) := dk_180 0 47 (dk_at dksX6_outletLine_8 2 rfl rfl)
theorem dX6_outletLine_188 : decode cX6_outletLine 188 = .ok (.iload_n 2, 1) := dk_28 (dk_at dksX6_outletLine_8 5 rfl rfl)
theorem dX6_outletLine_189 : decode cX6_outletLine 189 = .ok (.iconst 3, 1) := dk_6 (dk_at dksX6_outletLine_8 6 rfl rfl)
theorem dX6_outletLine_190 : decode cX6_outletLine 190 = .ok (.iadd, 1) := dk_96 (dk_at dksX6_outletLine_8 7 rfl rfl)
theorem dX6_outletLine_191 : decode cX6_outletLine 191 = .ok (.aload_n 0, 1) := dk_42 (dk_at dksX6_outletLine_8 8 rfl rfl)
theorem dX6_outletLine_192 : decode cX6_outletLine 192 = .ok (.iconst 1, 1) := dk_4 (dk_at dksX6_outletLine_8 9 rfl rfl)
theorem dX6_outletLine_193 : decode cX6_outletLine 193 = .ok (.bipush 20, 2) := dk_16 20 (dk_at dksX6_outletLine_8 10 rfl rfl)
theorem dX6_outletLine_195 : decode cX6_outletLine 195 = .ok (.invokevirtual 153, 3) := dk_182 0 153 (dk_at dksX6_outletLine_8 12 rfl rfl)
theorem dX6_outletLine_198 : decode cX6_outletLine 198 = .ok (.iastore, 1) := dk_79 (dk_at dksX6_outletLine_8 15 rfl rfl)
theorem dX6_outletLine_199 : decode cX6_outletLine 199 = .ok (.aload_n 0, 1) := dk_42 (dk_at dksX6_outletLine_8 16 rfl rfl)
theorem dX6_outletLine_200 : decode cX6_outletLine 200 = .ok (.getfield 44, 3) := dk_180 0 44 (dk_at dksX6_outletLine_8 17 rfl rfl)
theorem dX6_outletLine_203 : decode cX6_outletLine 203 = .ok (.aload_n 0, 1) := dk_42 (dk_at dksX6_outletLine_8 20 rfl rfl)
theorem dX6_outletLine_204 : decode cX6_outletLine 204 = .ok (.getfield 140, 3) := dk_180 0 140 (dk_at dksX6_outletLine_8 21 rfl rfl)
theorem dX6_outletLine_207 : decode cX6_outletLine 207 = .ok (.iconst 0, 1) := dk_3 (dk_at dksX6_outletLine_9 0 rfl rfl)
theorem dX6_outletLine_208 : decode cX6_outletLine 208 = .ok (.invokestatic 157, 3) := dk_184 0 157 (dk_at dksX6_outletLine_9 1 rfl rfl)
theorem dX6_outletLine_211 : decode cX6_outletLine 211 = .ok (.aload_n 0, 1) := dk_42 (dk_at dksX6_outletLine_9 4 rfl rfl)
theorem dX6_outletLine_212 : decode cX6_outletLine 212 = .ok (.iconst 0, 1) := dk_3 (dk_at dksX6_outletLine_9 5 rfl rfl)
theorem dX6_outletLine_213 : decode cX6_outletLine 213 = .ok (.bipush 9, 2) := dk_16 9 (dk_at dksX6_outletLine_9 6 rfl rfl)
theorem dX6_outletLine_215 : decode cX6_outletLine 215 = .ok (.invokevirtual 153, 3) := dk_182 0 153 (dk_at dksX6_outletLine_9 8 rfl rfl)
theorem dX6_outletLine_218 : decode cX6_outletLine 218 = .ok (.iastore, 1) := dk_79 (dk_at dksX6_outletLine_9 11 rfl rfl)
theorem dX6_outletLine_219 : decode cX6_outletLine 219 = .ok (.aload_n 0, 1) := dk_42 (dk_at dksX6_outletLine_9 12 rfl rfl)
theorem dX6_outletLine_220 : decode cX6_outletLine 220 = .ok (.invokevirtual 160, 3) := dk_182 0 160 (dk_at dksX6_outletLine_9 13 rfl rfl)
theorem dX6_outletLine_223 : decode cX6_outletLine 223 = .ok (.aload_n 0, 1) := dk_42 (dk_at dksX6_outletLine_9 16 rfl rfl)
theorem dX6_outletLine_224 : decode cX6_outletLine 224 = .ok (.getfield 44, 3) := dk_180 0 44 (dk_at dksX6_outletLine_9 17 rfl rfl)
theorem dX6_outletLine_227 : decode cX6_outletLine 227 = .ok (.aload_n 0, 1) := dk_42 (dk_at dksX6_outletLine_9 20 rfl rfl)
theorem dX6_outletLine_228 : decode cX6_outletLine 228 = .ok (.getfield 140, 3) := dk_180 0 140 (dk_at dksX6_outletLine_9 21 rfl rfl)
theorem dX6_outletLine_231 : decode cX6_outletLine 231 = .ok (.iconst 1, 1) := dk_4 (dk_at dksX6_outletLine_10 0 rfl rfl)
theorem dX6_outletLine_232 : decode cX6_outletLine 232 = .ok (.invokestatic 157, 3) := dk_184 0 157 (dk_at dksX6_outletLine_10 1 rfl rfl)
theorem dX6_outletLine_235 : decode cX6_outletLine 235 = .ok (.iconst 1, 1) := dk_4 (dk_at dksX6_outletLine_10 4 rfl rfl)
theorem dX6_outletLine_236 : decode cX6_outletLine 236 = .ok (.iastore, 1) := dk_79 (dk_at dksX6_outletLine_10 5 rfl rfl)
theorem dX6_outletLine_237 : decode cX6_outletLine 237 = .ok (.aload_n 0, 1) := dk_42 (dk_at dksX6_outletLine_10 6 rfl rfl)
theorem dX6_outletLine_238 : decode cX6_outletLine 238 = .ok (.getfield 50, 3) := dk_180 0 50 (dk_at dksX6_outletLine_10 7 rfl rfl)
theorem dX6_outletLine_241 : decode cX6_outletLine 241 = .ok (.aload_n 0, 1) := dk_42 (dk_at dksX6_outletLine_10 10 rfl rfl)
theorem dX6_outletLine_242 : decode cX6_outletLine 242 = .ok (.getfield 140, 3) := dk_180 0 140 (dk_at dksX6_outletLine_10 11 rfl rfl)
theorem dX6_outletLine_245 : decode cX6_outletLine 245 = .ok (.iconst 0, 1) := dk_3 (dk_at dksX6_outletLine_10 14 rfl rfl)
theorem dX6_outletLine_246 : decode cX6_outletLine 246 = .ok (.iastore, 1) := dk_79 (dk_at dksX6_outletLine_10 15 rfl rfl)
theorem dX6_outletLine_247 : decode cX6_outletLine 247 = .ok (.aload_n 0, 1) := dk_42 (dk_at dksX6_outletLine_10 16 rfl rfl)
theorem dX6_outletLine_248 : decode cX6_outletLine 248 = .ok (.dup, 1) := dk_89 (dk_at dksX6_outletLine_10 17 rfl rfl)
theorem dX6_outletLine_249 : decode cX6_outletLine 249 = .ok (.getfield 140, 3) := dk_180 0 140 (dk_at dksX6_outletLine_10 18 rfl rfl)
theorem dX6_outletLine_252 : decode cX6_outletLine 252 = .ok (.iconst 1, 1) := dk_4 (dk_at dksX6_outletLine_10 21 rfl rfl)
theorem dX6_outletLine_253 : decode cX6_outletLine 253 = .ok (.iadd, 1) := dk_96 (dk_at dksX6_outletLine_10 22 rfl rfl)
theorem dX6_outletLine_254 : decode cX6_outletLine 254 = .ok (.putfield 140, 3) := dk_181 0 140 (dk_at dksX6_outletLine_11 0 rfl rfl)
theorem dX6_outletLine_257 : decode cX6_outletLine 257 = .ok (.return_, 1) := dk_177 (dk_at dksX6_outletLine_11 3 rfl rfl)
def dkwX6_looksUp_1 : List UInt8 := [180, 0, 59, 42, 180, 0, 140, 42, 180, 0, 41, 42, 180, 0, 96, 42, 180, 0, 89, 184, 0, 143, 172]
abbrev dktX6_looksUp_1 : List UInt8 := dkwX6_looksUp_1 ++ []
def dkwX6_looksUp_0 : List UInt8 := [42, 182, 0, 137, 154, 0, 8, 42, 4, 182, 0, 126, 42, 182, 0, 112, 153, 0, 7, 3, 167, 0, 26, 42]
abbrev dktX6_looksUp_0 : List UInt8 := dkwX6_looksUp_0 ++ dktX6_looksUp_1
theorem dksX6_looksUp_0 : cX6_looksUp.data.toList.drop 0 = dktX6_looksUp_0 := by decide +kernel
theorem dksX6_looksUp_1 : cX6_looksUp.data.toList.drop 24 = dktX6_looksUp_1 := dk_seg dksX6_looksUp_0 24 rfl rfl
theorem dX6_looksUp_0 : decode cX6_looksUp 0 = .ok (.aload_n 0, 1) := dk_42 (dk_at dksX6_looksUp_0 0 rfl rfl)
theorem dX6_looksUp_1 : decode cX6_looksUp 1 = .ok (.invokevirtual 137, 3) := dk_182 0 137 (dk_at dksX6_looksUp_0 1 rfl rfl)
theorem dX6_looksUp_4 : decode cX6_looksUp 4 = .ok (.ifCond .ne 8, 3) := dk_154 0 8 (dk_at dksX6_looksUp_0 4 rfl rfl)
theorem dX6_looksUp_7 : decode cX6_looksUp 7 = .ok (.aload_n 0, 1) := dk_42 (dk_at dksX6_looksUp_0 7 rfl rfl)
theorem dX6_looksUp_8 : decode cX6_looksUp 8 = .ok (.iconst 1, 1) := dk_4 (dk_at dksX6_looksUp_0 8 rfl rfl)
theorem dX6_looksUp_9 : decode cX6_looksUp 9 = .ok (.invokevirtual 126, 3) := dk_182 0 126 (dk_at dksX6_looksUp_0 9 rfl rfl)
theorem dX6_looksUp_12 : decode cX6_looksUp 12 = .ok (.aload_n 0, 1) := dk_42 (dk_at dksX6_looksUp_0 12 rfl rfl)
theorem dX6_looksUp_13 : decode cX6_looksUp 13 = .ok (.invokevirtual 112, 3) := dk_182 0 112 (dk_at dksX6_looksUp_0 13 rfl rfl)
theorem dX6_looksUp_16 : decode cX6_looksUp 16 = .ok (.ifCond .eq 7, 3) := dk_153 0 7 (dk_at dksX6_looksUp_0 16 rfl rfl)
theorem dX6_looksUp_19 : decode cX6_looksUp 19 = .ok (.iconst 0, 1) := dk_3 (dk_at dksX6_looksUp_0 19 rfl rfl)
theorem dX6_looksUp_20 : decode cX6_looksUp 20 = .ok (.goto 26, 3) := dk_167 0 26 (dk_at dksX6_looksUp_0 20 rfl rfl)
theorem dX6_looksUp_23 : decode cX6_looksUp 23 = .ok (.aload_n 0, 1) := dk_42 (dk_at dksX6_looksUp_0 23 rfl rfl)
theorem dX6_looksUp_24 : decode cX6_looksUp 24 = .ok (.getfield 59, 3) := dk_180 0 59 (dk_at dksX6_looksUp_1 0 rfl rfl)
theorem dX6_looksUp_27 : decode cX6_looksUp 27 = .ok (.aload_n 0, 1) := dk_42 (dk_at dksX6_looksUp_1 3 rfl rfl)
theorem dX6_looksUp_28 : decode cX6_looksUp 28 = .ok (.getfield 140, 3) := dk_180 0 140 (dk_at dksX6_looksUp_1 4 rfl rfl)
theorem dX6_looksUp_31 : decode cX6_looksUp 31 = .ok (.aload_n 0, 1) := dk_42 (dk_at dksX6_looksUp_1 7 rfl rfl)
theorem dX6_looksUp_32 : decode cX6_looksUp 32 = .ok (.getfield 41, 3) := dk_180 0 41 (dk_at dksX6_looksUp_1 8 rfl rfl)
theorem dX6_looksUp_35 : decode cX6_looksUp 35 = .ok (.aload_n 0, 1) := dk_42 (dk_at dksX6_looksUp_1 11 rfl rfl)
theorem dX6_looksUp_36 : decode cX6_looksUp 36 = .ok (.getfield 96, 3) := dk_180 0 96 (dk_at dksX6_looksUp_1 12 rfl rfl)
theorem dX6_looksUp_39 : decode cX6_looksUp 39 = .ok (.aload_n 0, 1) := dk_42 (dk_at dksX6_looksUp_1 15 rfl rfl)
theorem dX6_looksUp_40 : decode cX6_looksUp 40 = .ok (.getfield 89, 3) := dk_180 0 89 (dk_at dksX6_looksUp_1 16 rfl rfl)
theorem dX6_looksUp_43 : decode cX6_looksUp 43 = .ok (.invokestatic 143, 3) := dk_184 0 143 (dk_at dksX6_looksUp_1 19 rfl rfl)
theorem dX6_looksUp_46 : decode cX6_looksUp 46 = .ok (.ireturn, 1) := dk_172 (dk_at dksX6_looksUp_1 22 rfl rfl)
def dkwX6_isName_1 : List UInt8 := [16, 8, 163, 0, 7, 4, 167, 0, 4, 3, 172]
abbrev dktX6_isName_1 : List UInt8 := dkwX6_isName_1 ++ []
def dkwX6_isName_0 : List UInt8 := [42, 182, 0, 112, 154, 0, 29, 42, 180, 0, 99, 4, 160, 0, 21, 42, 180, 0, 89, 42, 180, 0, 96, 100]
abbrev dktX6_isName_0 : List UInt8 := dkwX6_isName_0 ++ dktX6_isName_1
theorem dksX6_isName_0 : cX6_isName.data.toList.drop 0 = dktX6_isName_0 := by decide +kernel
theorem dksX6_isName_1 : cX6_isName.data.toList.drop 24 = dktX6_isName_1 := dk_seg dksX6_isName_0 24 rfl rfl
theorem dX6_isName_0 : decode cX6_isName 0 = .ok (.aload_n 0, 1) := dk_42 (dk_at dksX6_isName_0 0 rfl rfl)
theorem dX6_isName_1 : decode cX6_isName 1 = .ok (.invokevirtual 112, 3) := dk_182 0 112 (dk_at dksX6_isName_0 1 rfl rfl)
theorem dX6_isName_4 : decode cX6_isName 4 = .ok (.ifCond .ne 29, 3) := dk_154 0 29 (dk_at dksX6_isName_0 4 rfl rfl)
theorem dX6_isName_7 : decode cX6_isName 7 = .ok (.aload_n 0, 1) := dk_42 (dk_at dksX6_isName_0 7 rfl rfl)
theorem dX6_isName_8 : decode cX6_isName 8 = .ok (.getfield 99, 3) := dk_180 0 99 (dk_at dksX6_isName_0 8 rfl rfl)
theorem dX6_isName_11 : decode cX6_isName 11 = .ok (.iconst 1, 1) := dk_4 (dk_at dksX6_isName_0 11 rfl rfl)
theorem dX6_isName_12 : decode cX6_isName 12 = .ok (.if_icmp .ne 21, 3) := dk_160 0 21 (dk_at dksX6_isName_0 12 rfl rfl)
theorem dX6_isName_15 : decode cX6_isName 15 = .ok (.aload_n 0, 1) := dk_42 (dk_at dksX6_isName_0 15 rfl rfl)
theorem dX6_isName_16 : decode cX6_isName 16 = .ok (.getfield 89, 3) := dk_180 0 89 (dk_at dksX6_isName_0 16 rfl rfl)
theorem dX6_isName_19 : decode cX6_isName 19 = .ok (.aload_n 0, 1) := dk_42 (dk_at dksX6_isName_0 19 rfl rfl)
theorem dX6_isName_20 : decode cX6_isName 20 = .ok (.getfield 96, 3) := dk_180 0 96 (dk_at dksX6_isName_0 20 rfl rfl)
theorem dX6_isName_23 : decode cX6_isName 23 = .ok (.isub, 1) := dk_100 (dk_at dksX6_isName_0 23 rfl rfl)
theorem dX6_isName_24 : decode cX6_isName 24 = .ok (.bipush 8, 2) := dk_16 8 (dk_at dksX6_isName_1 0 rfl rfl)
theorem dX6_isName_26 : decode cX6_isName 26 = .ok (.if_icmp .gt 7, 3) := dk_163 0 7 (dk_at dksX6_isName_1 2 rfl rfl)
theorem dX6_isName_29 : decode cX6_isName 29 = .ok (.iconst 1, 1) := dk_4 (dk_at dksX6_isName_1 5 rfl rfl)
theorem dX6_isName_30 : decode cX6_isName 30 = .ok (.goto 4, 3) := dk_167 0 4 (dk_at dksX6_isName_1 6 rfl rfl)
theorem dX6_isName_33 : decode cX6_isName 33 = .ok (.iconst 0, 1) := dk_3 (dk_at dksX6_isName_1 9 rfl rfl)
theorem dX6_isName_34 : decode cX6_isName 34 = .ok (.ireturn, 1) := dk_172 (dk_at dksX6_isName_1 10 rfl rfl)
def dkwX6_whichOf_3 : List UInt8 := [21, 6, 153, 0, 6, 21, 5, 172, 132, 5, 1, 167, 255, 176, 2, 172]
abbrev dktX6_whichOf_3 : List UInt8 := dkwX6_whichOf_3 ++ []
def dkwX6_whichOf_2 : List UInt8 := [21, 7, 96, 46, 167, 0, 4, 3, 160, 0, 7, 4, 167, 0, 4, 3, 54, 6, 132, 7, 1, 167, 255, 202]
abbrev dktX6_whichOf_2 : List UInt8 := dkwX6_whichOf_2 ++ dktX6_whichOf_3
def dkwX6_whichOf_1 : List UInt8 := [153, 0, 39, 42, 16, 8, 21, 5, 104, 21, 7, 96, 46, 29, 21, 7, 96, 21, 4, 162, 0, 12, 44, 29]
abbrev dktX6_whichOf_1 : List UInt8 := dkwX6_whichOf_1 ++ dktX6_whichOf_2
def dkwX6_whichOf_0 : List UInt8 := [3, 54, 5, 21, 5, 27, 162, 0, 80, 4, 54, 6, 3, 54, 7, 21, 7, 16, 8, 162, 0, 53, 21, 6]
abbrev dktX6_whichOf_0 : List UInt8 := dkwX6_whichOf_0 ++ dktX6_whichOf_1
theorem dksX6_whichOf_0 : cX6_whichOf.data.toList.drop 0 = dktX6_whichOf_0 := by decide +kernel
theorem dksX6_whichOf_1 : cX6_whichOf.data.toList.drop 24 = dktX6_whichOf_1 := dk_seg dksX6_whichOf_0 24 rfl rfl
theorem dksX6_whichOf_2 : cX6_whichOf.data.toList.drop 48 = dktX6_whichOf_2 := dk_seg dksX6_whichOf_1 24 rfl rfl
theorem dksX6_whichOf_3 : cX6_whichOf.data.toList.drop 72 = dktX6_whichOf_3 := dk_seg dksX6_whichOf_2 24 rfl rfl
theorem dX6_whichOf_0 : decode cX6_whichOf 0 = .ok (.iconst 0, 1) := dk_3 (dk_at dksX6_whichOf_0 0 rfl rfl)
theorem dX6_whichOf_1 : decode cX6_whichOf 1 = .ok (.istore 5, 2) := dk_54 5 (dk_at dksX6_whichOf_0 1 rfl rfl)
theorem dX6_whichOf_3 : decode cX6_whichOf 3 = .ok (.iload 5, 2) := dk_21 5 (dk_at dksX6_whichOf_0 3 rfl rfl)
theorem dX6_whichOf_5 : decode cX6_whichOf 5 = .ok (.iload_n 1, 1) := dk_27 (dk_at dksX6_whichOf_0 5 rfl rfl)
theorem dX6_whichOf_6 : decode cX6_whichOf 6 = .ok (.if_icmp .ge 80, 3) := dk_162 0 80 (dk_at dksX6_whichOf_0 6 rfl rfl)
theorem dX6_whichOf_9 : decode cX6_whichOf 9 = .ok (.iconst 1, 1) := dk_4 (dk_at dksX6_whichOf_0 9 rfl rfl)
theorem dX6_whichOf_10 : decode cX6_whichOf 10 = .ok (.istore 6, 2) := dk_54 6 (dk_at dksX6_whichOf_0 10 rfl rfl)
theorem dX6_whichOf_12 : decode cX6_whichOf 12 = .ok (.iconst 0, 1) := dk_3 (dk_at dksX6_whichOf_0 12 rfl rfl)
theorem dX6_whichOf_13 : decode cX6_whichOf 13 = .ok (.istore 7, 2) := dk_54 7 (dk_at dksX6_whichOf_0 13 rfl rfl)
theorem dX6_whichOf_15 : decode cX6_whichOf 15 = .ok (.iload 7, 2) := dk_21 7 (dk_at dksX6_whichOf_0 15 rfl rfl)
theorem dX6_whichOf_17 : decode cX6_whichOf 17 = .ok (.bipush 8, 2) := dk_16 8 (dk_at dksX6_whichOf_0 17 rfl rfl)
theorem dX6_whichOf_19 : decode cX6_whichOf 19 = .ok (.if_icmp .ge 53, 3) := dk_162 0 53 (dk_at dksX6_whichOf_0 19 rfl rfl)
theorem dX6_whichOf_22 : decode cX6_whichOf 22 = .ok (.iload 6, 2) := dk_21 6 (dk_at dksX6_whichOf_0 22 rfl rfl)
theorem dX6_whichOf_24 : decode cX6_whichOf 24 = .ok (.ifCond .eq 39, 3) := dk_153 0 39 (dk_at dksX6_whichOf_1 0 rfl rfl)
theorem dX6_whichOf_27 : decode cX6_whichOf 27 = .ok (.aload_n 0, 1) := dk_42 (dk_at dksX6_whichOf_1 3 rfl rfl)
theorem dX6_whichOf_28 : decode cX6_whichOf 28 = .ok (.bipush 8, 2) := dk_16 8 (dk_at dksX6_whichOf_1 4 rfl rfl)
theorem dX6_whichOf_30 : decode cX6_whichOf 30 = .ok (.iload 5, 2) := dk_21 5 (dk_at dksX6_whichOf_1 6 rfl rfl)
theorem dX6_whichOf_32 : decode cX6_whichOf 32 = .ok (.imul, 1) := dk_104 (dk_at dksX6_whichOf_1 8 rfl rfl)
theorem dX6_whichOf_33 : decode cX6_whichOf 33 = .ok (.iload 7, 2) := dk_21 7 (dk_at dksX6_whichOf_1 9 rfl rfl)
theorem dX6_whichOf_35 : decode cX6_whichOf 35 = .ok (.iadd, 1) := dk_96 (dk_at dksX6_whichOf_1 11 rfl rfl)
theorem dX6_whichOf_36 : decode cX6_whichOf 36 = .ok (.iaload, 1) := dk_46 (dk_at dksX6_whichOf_1 12 rfl rfl)
theorem dX6_whichOf_37 : decode cX6_whichOf 37 = .ok (.iload_n 3, 1) := dk_29 (dk_at dksX6_whichOf_1 13 rfl rfl)
theorem dX6_whichOf_38 : decode cX6_whichOf 38 = .ok (.iload 7, 2) := dk_21 7 (dk_at dksX6_whichOf_1 14 rfl rfl)
theorem dX6_whichOf_40 : decode cX6_whichOf 40 = .ok (.iadd, 1) := dk_96 (dk_at dksX6_whichOf_1 16 rfl rfl)
theorem dX6_whichOf_41 : decode cX6_whichOf 41 = .ok (.iload 4, 2) := dk_21 4 (dk_at dksX6_whichOf_1 17 rfl rfl)
theorem dX6_whichOf_43 : decode cX6_whichOf 43 = .ok (.if_icmp .ge 12, 3) := dk_162 0 12 (dk_at dksX6_whichOf_1 19 rfl rfl)
theorem dX6_whichOf_46 : decode cX6_whichOf 46 = .ok (.aload_n 2, 1) := dk_44 (dk_at dksX6_whichOf_1 22 rfl rfl)
theorem dX6_whichOf_47 : decode cX6_whichOf 47 = .ok (.iload_n 3, 1) := dk_29 (dk_at dksX6_whichOf_1 23 rfl rfl)
theorem dX6_whichOf_48 : decode cX6_whichOf 48 = .ok (.iload 7, 2) := dk_21 7 (dk_at dksX6_whichOf_2 0 rfl rfl)
theorem dX6_whichOf_50 : decode cX6_whichOf 50 = .ok (.iadd, 1) := dk_96 (dk_at dksX6_whichOf_2 2 rfl rfl)
theorem dX6_whichOf_51 : decode cX6_whichOf 51 = .ok (.iaload, 1) := dk_46 (dk_at dksX6_whichOf_2 3 rfl rfl)
theorem dX6_whichOf_52 : decode cX6_whichOf 52 = .ok (.goto 4, 3) := dk_167 0 4 (dk_at dksX6_whichOf_2 4 rfl rfl)
theorem dX6_whichOf_55 : decode cX6_whichOf 55 = .ok (.iconst 0, 1) := dk_3 (dk_at dksX6_whichOf_2 7 rfl rfl)
theorem dX6_whichOf_56 : decode cX6_whichOf 56 = .ok (.if_icmp .ne 7, 3) := dk_160 0 7 (dk_at dksX6_whichOf_2 8 rfl rfl)
theorem dX6_whichOf_59 : decode cX6_whichOf 59 = .ok (.iconst 1, 1) := dk_4 (dk_at dksX6_whichOf_2 11 rfl rfl)
theorem dX6_whichOf_60 : decode cX6_whichOf 60 = .ok (.goto 4, 3) := dk_167 0 4 (dk_at dksX6_whichOf_2 12 rfl rfl)
theorem dX6_whichOf_63 : decode cX6_whichOf 63 = .ok (.iconst 0, 1) := dk_3 (dk_at dksX6_whichOf_2 15 rfl rfl)
theorem dX6_whichOf_64 : decode cX6_whichOf 64 = .ok (.istore 6, 2) := dk_54 6 (dk_at dksX6_whichOf_2 16 rfl rfl)
theorem dX6_whichOf_66 : decode cX6_whichOf 66 = .ok (.iinc 7 1, 3) := dk_132 7 1 (dk_at dksX6_whichOf_2 18 rfl rfl)
theorem dX6_whichOf_69 : decode cX6_whichOf 69 = .ok (.goto (-54), 3) := dk_167 255 202 (dk_at dksX6_whichOf_2 21 rfl rfl)
theorem dX6_whichOf_72 : decode cX6_whichOf 72 = .ok (.iload 6, 2) := dk_21 6 (dk_at dksX6_whichOf_3 0 rfl rfl)
theorem dX6_whichOf_74 : decode cX6_whichOf 74 = .ok (.ifCond .eq 6, 3) := dk_153 0 6 (dk_at dksX6_whichOf_3 2 rfl rfl)
theorem dX6_whichOf_77 : decode cX6_whichOf 77 = .ok (.iload 5, 2) := dk_21 5 (dk_at dksX6_whichOf_3 5 rfl rfl)
theorem dX6_whichOf_79 : decode cX6_whichOf 79 = .ok (.ireturn, 1) := dk_172 (dk_at dksX6_whichOf_3 7 rfl rfl)
theorem dX6_whichOf_80 : decode cX6_whichOf 80 = .ok (.iinc 5 1, 3) := dk_132 5 1 (dk_at dksX6_whichOf_3 8 rfl rfl)
theorem dX6_whichOf_83 : decode cX6_whichOf 83 = .ok (.goto (-80), 3) := dk_167 255 176 (dk_at dksX6_whichOf_3 11 rfl rfl)
theorem dX6_whichOf_86 : decode cX6_whichOf 86 = .ok (.iconst (-1), 1) := dk_2 (dk_at dksX6_whichOf_3 14 rfl rfl)
theorem dX6_whichOf_87 : decode cX6_whichOf 87 = .ok (.ireturn, 1) := dk_172 (dk_at dksX6_whichOf_3 15 rfl rfl)
def dkwX6_needLine_6 : List UInt8 := [181, 0, 163, 42, 182, 0, 130, 42, 182, 0, 160, 177]
abbrev dktX6_needLine_6 : List UInt8 := dkwX6_needLine_6 ++ []
def dkwX6_needLine_5 : List UInt8 := [153, 0, 4, 177, 42, 180, 0, 50, 27, 92, 46, 4, 28, 120, 128, 79, 42, 89, 180, 0, 163, 4, 96]
abbrev dktX6_needLine_5 : List UInt8 := dkwX6_needLine_5 ++ dktX6_needLine_6
def dkwX6_needLine_4 : List UInt8 := [180, 0, 50, 27, 46, 28, 122, 4, 126, 4, 160, 0, 8, 42, 6, 182, 0, 126, 42, 182, 0, 112]
abbrev dktX6_needLine_4 : List UInt8 := dkwX6_needLine_4 ++ dktX6_needLine_5
def dkwX6_needLine_3 : List UInt8 := [153, 0, 4, 177, 28, 2, 160, 0, 11, 42, 7, 182, 0, 126, 167, 0, 27, 27, 28, 159, 0, 17, 42]
abbrev dktX6_needLine_3 : List UInt8 := dkwX6_needLine_3 ++ dktX6_needLine_4
def dkwX6_needLine_2 : List UInt8 := [182, 0, 126, 42, 182, 0, 112, 154, 0, 7, 42, 182, 0, 130, 42, 182, 0, 150, 61, 42, 182, 0, 112]
abbrev dktX6_needLine_2 : List UInt8 := dkwX6_needLine_2 ++ dktX6_needLine_3
def dkwX6_needLine_1 : List UInt8 := [182, 0, 130, 42, 182, 0, 150, 60, 42, 182, 0, 112, 154, 0, 13, 27, 2, 160, 0, 8, 42, 7]
abbrev dktX6_needLine_1 : List UInt8 := dkwX6_needLine_1 ++ dktX6_needLine_2
def dkwX6_needLine_0 : List UInt8 := [42, 180, 0, 163, 16, 16, 160, 0, 8, 42, 8, 182, 0, 126, 42, 182, 0, 112, 153, 0, 4, 177, 42]
abbrev dktX6_needLine_0 : List UInt8 := dkwX6_needLine_0 ++ dktX6_needLine_1
theorem dksX6_needLine_0 : cX6_needLine.data.toList.drop 0 = dktX6_needLine_0 := by decide +kernel
theorem dksX6_needLine_1 : cX6_needLine.data.toList.drop 23 = dktX6_needLine_1 := dk_seg dksX6_needLine_0 23 rfl rfl
theorem dksX6_needLine_2 : cX6_needLine.data.toList.drop 45 = dktX6_needLine_2 := dk_seg dksX6_needLine_1 22 rfl rfl
theorem dksX6_needLine_3 : cX6_needLine.data.toList.drop 68 = dktX6_needLine_3 := dk_seg dksX6_needLine_2 23 rfl rfl
theorem dksX6_needLine_4 : cX6_needLine.data.toList.drop 91 = dktX6_needLine_4 := dk_seg dksX6_needLine_3 23 rfl rfl
theorem dksX6_needLine_5 : cX6_needLine.data.toList.drop 113 = dktX6_needLine_5 := dk_seg dksX6_needLine_4 22 rfl rfl
theorem dksX6_needLine_6 : cX6_needLine.data.toList.drop 136 = dktX6_needLine_6 := dk_seg dksX6_needLine_5 23 rfl rfl
theorem dX6_needLine_0 : decode cX6_needLine 0 = .ok (.aload_n 0, 1) := dk_42 (dk_at dksX6_needLine_0 0 rfl rfl)
theorem dX6_needLine_1 : decode cX6_needLine 1 = .ok (.getfield 163, 3) := dk_180 0 163 (dk_at dksX6_needLine_0 1 rfl rfl)
theorem dX6_needLine_4 : decode cX6_needLine 4 = .ok (.bipush 16, 2) := dk_16 16 (dk_at dksX6_needLine_0 4 rfl rfl)
theorem dX6_needLine_6 : decode cX6_needLine 6 = .ok (.if_icmp .ne 8, 3) := dk_160 0 8 (dk_at dksX6_needLine_0 6 rfl rfl)
theorem dX6_needLine_9 : decode cX6_needLine 9 = .ok (.aload_n 0, 1) := dk_42 (dk_at dksX6_needLine_0 9 rfl rfl)
theorem dX6_needLine_10 : decode cX6_needLine 10 = .ok (.iconst 5, 1) := dk_8 (dk_at dksX6_needLine_0 10 rfl rfl)
theorem dX6_needLine_11 : decode cX6_needLine 11 = .ok (.invokevirtual 126, 3) := dk_182 0 126 (dk_at dksX6_needLine_0 11 rfl rfl)
theorem dX6_needLine_14 : decode cX6_needLine 14 = .ok (.aload_n 0, 1) := dk_42 (dk_at dksX6_needLine_0 14 rfl rfl)
theorem dX6_needLine_15 : decode cX6_needLine 15 = .ok (.invokevirtual 112, 3) := dk_182 0 112 (dk_at dksX6_needLine_0 15 rfl rfl)
theorem dX6_needLine_18 : decode cX6_needLine 18 = .ok (.ifCond .eq 4, 3) := dk_153 0 4 (dk_at dksX6_needLine_0 18 rfl rfl)
theorem dX6_needLine_21 : decode cX6_needLine 21 = .ok (.return_, 1) := dk_177 (dk_at dksX6_needLine_0 21 rfl rfl)
theorem dX6_needLine_22 : decode cX6_needLine 22 = .ok (.aload_n 0, 1) := dk_42 (dk_at dksX6_needLine_0 22 rfl rfl)
theorem dX6_needLine_23 : decode cX6_needLine 23 = .ok (.invokevirtual 130, 3) := dk_182 0 130 (dk_at dksX6_needLine_1 0 rfl rfl)
theorem dX6_needLine_26 : decode cX6_needLine 26 = .ok (.aload_n 0, 1) := dk_42 (dk_at dksX6_needLine_1 3 rfl rfl)
theorem dX6_needLine_27 : decode cX6_needLine 27 = .ok (.invokevirtual 150, 3) := dk_182 0 150 (dk_at dksX6_needLine_1 4 rfl rfl)
theorem dX6_needLine_30 : decode cX6_needLine 30 = .ok (.istore_n 1, 1) := dk_60 (dk_at dksX6_needLine_1 7 rfl rfl)
theorem dX6_needLine_31 : decode cX6_needLine 31 = .ok (.aload_n 0, 1) := dk_42 (dk_at dksX6_needLine_1 8 rfl rfl)
theorem dX6_needLine_32 : decode cX6_needLine 32 = .ok (.invokevirtual 112, 3) := dk_182 0 112 (dk_at dksX6_needLine_1 9 rfl rfl)
theorem dX6_needLine_35 : decode cX6_needLine 35 = .ok (.ifCond .ne 13, 3) := dk_154 0 13 (dk_at dksX6_needLine_1 12 rfl rfl)
theorem dX6_needLine_38 : decode cX6_needLine 38 = .ok (.iload_n 1, 1) := dk_27 (dk_at dksX6_needLine_1 15 rfl rfl)
theorem dX6_needLine_39 : decode cX6_needLine 39 = .ok (.iconst (-1), 1) := dk_2 (dk_at dksX6_needLine_1 16 rfl rfl)
theorem dX6_needLine_40 : decode cX6_needLine 40 = .ok (.if_icmp .ne 8, 3) := dk_160 0 8 (dk_at dksX6_needLine_1 17 rfl rfl)
theorem dX6_needLine_43 : decode cX6_needLine 43 = .ok (.aload_n 0, 1) := dk_42 (dk_at dksX6_needLine_1 20 rfl rfl)
theorem dX6_needLine_44 : decode cX6_needLine 44 = .ok (.iconst 4, 1) := dk_7 (dk_at dksX6_needLine_1 21 rfl rfl)
theorem dX6_needLine_45 : decode cX6_needLine 45 = .ok (.invokevirtual 126, 3) := dk_182 0 126 (dk_at dksX6_needLine_2 0 rfl rfl)
theorem dX6_needLine_48 : decode cX6_needLine 48 = .ok (.aload_n 0, 1) := dk_42 (dk_at dksX6_needLine_2 3 rfl rfl)
theorem dX6_needLine_49 : decode cX6_needLine 49 = .ok (.invokevirtual 112, 3) := dk_182 0 112 (dk_at dksX6_needLine_2 4 rfl rfl)
theorem dX6_needLine_52 : decode cX6_needLine 52 = .ok (.ifCond .ne 7, 3) := dk_154 0 7 (dk_at dksX6_needLine_2 7 rfl rfl)
theorem dX6_needLine_55 : decode cX6_needLine 55 = .ok (.aload_n 0, 1) := dk_42 (dk_at dksX6_needLine_2 10 rfl rfl)
theorem dX6_needLine_56 : decode cX6_needLine 56 = .ok (.invokevirtual 130, 3) := dk_182 0 130 (dk_at dksX6_needLine_2 11 rfl rfl)
theorem dX6_needLine_59 : decode cX6_needLine 59 = .ok (.aload_n 0, 1) := dk_42 (dk_at dksX6_needLine_2 14 rfl rfl)
theorem dX6_needLine_60 : decode cX6_needLine 60 = .ok (.invokevirtual 150, 3) := dk_182 0 150 (dk_at dksX6_needLine_2 15 rfl rfl)
theorem dX6_needLine_63 : decode cX6_needLine 63 = .ok (.istore_n 2, 1) := dk_61 (dk_at dksX6_needLine_2 18 rfl rfl)
theorem dX6_needLine_64 : decode cX6_needLine 64 = .ok (.aload_n 0, 1) := dk_42 (dk_at dksX6_needLine_2 19 rfl rfl)
theorem dX6_needLine_65 : decode cX6_needLine 65 = .ok (.invokevirtual 112, 3) := dk_182 0 112 (dk_at dksX6_needLine_2 20 rfl rfl)
theorem dX6_needLine_68 : decode cX6_needLine 68 = .ok (.ifCond .eq 4, 3) := dk_153 0 4 (dk_at dksX6_needLine_3 0 rfl rfl)
theorem dX6_needLine_71 : decode cX6_needLine 71 = .ok (.return_, 1) := dk_177 (dk_at dksX6_needLine_3 3 rfl rfl)
theorem dX6_needLine_72 : decode cX6_needLine 72 = .ok (.iload_n 2, 1) := dk_28 (dk_at dksX6_needLine_3 4 rfl rfl)
theorem dX6_needLine_73 : decode cX6_needLine 73 = .ok (.iconst (-1), 1) := dk_2 (dk_at dksX6_needLine_3 5 rfl rfl)
theorem dX6_needLine_74 : decode cX6_needLine 74 = .ok (.if_icmp .ne 11, 3) := dk_160 0 11 (dk_at dksX6_needLine_3 6 rfl rfl)
theorem dX6_needLine_77 : decode cX6_needLine 77 = .ok (.aload_n 0, 1) := dk_42 (dk_at dksX6_needLine_3 9 rfl rfl)
theorem dX6_needLine_78 : decode cX6_needLine 78 = .ok (.iconst 4, 1) := dk_7 (dk_at dksX6_needLine_3 10 rfl rfl)
theorem dX6_needLine_79 : decode cX6_needLine 79 = .ok (.invokevirtual 126, 3) := dk_182 0 126 (dk_at dksX6_needLine_3 11 rfl rfl)
theorem dX6_needLine_82 : decode cX6_needLine 82 = .ok (.goto 27, 3) := dk_167 0 27 (dk_at dksX6_needLine_3 14 rfl rfl)
theorem dX6_needLine_85 : decode cX6_needLine 85 = .ok (.iload_n 1, 1) := dk_27 (dk_at dksX6_needLine_3 17 rfl rfl)
theorem dX6_needLine_86 : decode cX6_needLine 86 = .ok (.iload_n 2, 1) := dk_28 (dk_at dksX6_needLine_3 18 rfl rfl)
theorem dX6_needLine_87 : decode cX6_needLine 87 = .ok (.if_icmp .eq 17, 3) := dk_159 0 17 (dk_at dksX6_needLine_3 19 rfl rfl)
theorem dX6_needLine_90 : decode cX6_needLine 90 = .ok (.aload_n 0, 1) := dk_42 (dk_at dksX6_needLine_3 22 rfl rfl)
theorem dX6_needLine_91 : decode cX6_needLine 91 = .ok (.getfield 50, 3) := dk_180 0 50 (dk_at dksX6_needLine_4 0 rfl rfl)
theorem dX6_needLine_94 : decode cX6_needLine 94 = .ok (.iload_n 1, 1) := dk_27 (dk_at dksX6_needLine_4 3 rfl rfl)
theorem dX6_needLine_95 : decode cX6_needLine 95 = .ok (.iaload, 1) := dk_46 (dk_at dksX6_needLine_4 4 rfl rfl)
theorem dX6_needLine_96 : decode cX6_needLine 96 = .ok (.iload_n 2, 1) := dk_28 (dk_at dksX6_needLine_4 5 rfl rfl)
theorem dX6_needLine_97 : decode cX6_needLine 97 = .ok (.ishr, 1) := dk_122 (dk_at dksX6_needLine_4 6 rfl rfl)
theorem dX6_needLine_98 : decode cX6_needLine 98 = .ok (.iconst 1, 1) := dk_4 (dk_at dksX6_needLine_4 7 rfl rfl)
theorem dX6_needLine_99 : decode cX6_needLine 99 = .ok (.iand, 1) := dk_126 (dk_at dksX6_needLine_4 8 rfl rfl)
theorem dX6_needLine_100 : decode cX6_needLine 100 = .ok (.iconst 1, 1) := dk_4 (dk_at dksX6_needLine_4 9 rfl rfl)
theorem dX6_needLine_101 : decode cX6_needLine 101 = .ok (.if_icmp .ne 8, 3) := dk_160 0 8 (dk_at dksX6_needLine_4 10 rfl rfl)
theorem dX6_needLine_104 : decode cX6_needLine 104 = .ok (.aload_n 0, 1) := dk_42 (dk_at dksX6_needLine_4 13 rfl rfl)
theorem dX6_needLine_105 : decode cX6_needLine 105 = .ok (.iconst 3, 1) := dk_6 (dk_at dksX6_needLine_4 14 rfl rfl)
theorem dX6_needLine_106 : decode cX6_needLine 106 = .ok (.invokevirtual 126, 3) := dk_182 0 126 (dk_at dksX6_needLine_4 15 rfl rfl)
theorem dX6_needLine_109 : decode cX6_needLine 109 = .ok (.aload_n 0, 1) := dk_42 (dk_at dksX6_needLine_4 18 rfl rfl)
theorem dX6_needLine_110 : decode cX6_needLine 110 = .ok (.invokevirtual 112, 3) := dk_182 0 112 (dk_at dksX6_needLine_4 19 rfl rfl)
theorem dX6_needLine_113 : decode cX6_needLine 113 = .ok (.ifCond .eq 4, 3) := dk_153 0 4 (dk_at dksX6_needLine_5 0 rfl rfl)
theorem dX6_needLine_116 : decode cX6_needLine 116 = .ok (.return_, 1) := dk_177 (dk_at dksX6_needLine_5 3 rfl rfl)
theorem dX6_needLine_117 : decode cX6_needLine 117 = .ok (.aload_n 0, 1) := dk_42 (dk_at dksX6_needLine_5 4 rfl rfl)
theorem dX6_needLine_118 : decode cX6_needLine 118 = .ok (.getfield 50, 3) := dk_180 0 50 (dk_at dksX6_needLine_5 5 rfl rfl)
theorem dX6_needLine_121 : decode cX6_needLine 121 = .ok (.iload_n 1, 1) := dk_27 (dk_at dksX6_needLine_5 8 rfl rfl)
theorem dX6_needLine_122 : decode cX6_needLine 122 = .ok (.dup2, 1) := dk_92 (dk_at dksX6_needLine_5 9 rfl rfl)
theorem dX6_needLine_123 : decode cX6_needLine 123 = .ok (.iaload, 1) := dk_46 (dk_at dksX6_needLine_5 10 rfl rfl)
theorem dX6_needLine_124 : decode cX6_needLine 124 = .ok (.iconst 1, 1) := dk_4 (dk_at dksX6_needLine_5 11 rfl rfl)
theorem dX6_needLine_125 : decode cX6_needLine 125 = .ok (.iload_n 2, 1) := dk_28 (dk_at dksX6_needLine_5 12 rfl rfl)
theorem dX6_needLine_126 : decode cX6_needLine 126 = .ok (.ishl, 1) := dk_120 (dk_at dksX6_needLine_5 13 rfl rfl)
theorem dX6_needLine_127 : decode cX6_needLine 127 = .ok (.ior, 1) := dk_128 (dk_at dksX6_needLine_5 14 rfl rfl)
theorem dX6_needLine_128 : decode cX6_needLine 128 = .ok (.iastore, 1) := dk_79 (dk_at dksX6_needLine_5 15 rfl rfl)
theorem dX6_needLine_129 : decode cX6_needLine 129 = .ok (.aload_n 0, 1) := dk_42 (dk_at dksX6_needLine_5 16 rfl rfl)
theorem dX6_needLine_130 : decode cX6_needLine 130 = .ok (.dup, 1) := dk_89 (dk_at dksX6_needLine_5 17 rfl rfl)
theorem dX6_needLine_131 : decode cX6_needLine 131 = .ok (.getfield 163, 3) := dk_180 0 163 (dk_at dksX6_needLine_5 18 rfl rfl)
theorem dX6_needLine_134 : decode cX6_needLine 134 = .ok (.iconst 1, 1) := dk_4 (dk_at dksX6_needLine_5 21 rfl rfl)
theorem dX6_needLine_135 : decode cX6_needLine 135 = .ok (.iadd, 1) := dk_96 (dk_at dksX6_needLine_5 22 rfl rfl)
theorem dX6_needLine_136 : decode cX6_needLine 136 = .ok (.putfield 163, 3) := dk_181 0 163 (dk_at dksX6_needLine_6 0 rfl rfl)
theorem dX6_needLine_139 : decode cX6_needLine 139 = .ok (.aload_n 0, 1) := dk_42 (dk_at dksX6_needLine_6 3 rfl rfl)
theorem dX6_needLine_140 : decode cX6_needLine 140 = .ok (.invokevirtual 130, 3) := dk_182 0 130 (dk_at dksX6_needLine_6 4 rfl rfl)
theorem dX6_needLine_143 : decode cX6_needLine 143 = .ok (.aload_n 0, 1) := dk_42 (dk_at dksX6_needLine_6 7 rfl rfl)
theorem dX6_needLine_144 : decode cX6_needLine 144 = .ok (.invokevirtual 160, 3) := dk_182 0 160 (dk_at dksX6_needLine_6 8 rfl rfl)
theorem dX6_needLine_147 : decode cX6_needLine 147 = .ok (.return_, 1) := dk_177 (dk_at dksX6_needLine_6 11 rfl rfl)
def dkwX6_ruleLine_11 : List UInt8 := [182, 0, 126, 42, 182, 0, 160, 177]
abbrev dktX6_ruleLine_11 : List UInt8 := dkwX6_ruleLine_11 ++ []
def dkwX6_ruleLine_10 : List UInt8 := [96, 42, 4, 16, 50, 182, 0, 153, 79, 42, 89, 180, 0, 190, 4, 96, 181, 0, 190, 167, 0, 8, 42, 4]
abbrev dktX6_ruleLine_10 : List UInt8 := dkwX6_ruleLine_10 ++ dktX6_ruleLine_11
def dkwX6_ruleLine_9 : List UInt8 := [180, 0, 190, 104, 42, 4, 17, 3, 231, 182, 0, 153, 79, 42, 180, 0, 56, 5, 42, 180, 0, 190, 104, 4]
abbrev dktX6_ruleLine_9 : List UInt8 := dkwX6_ruleLine_9 ++ dktX6_ruleLine_10
def dkwX6_ruleLine_8 : List UInt8 := [8, 182, 0, 126, 42, 182, 0, 112, 153, 0, 4, 177, 42, 182, 0, 130, 42, 180, 0, 56, 5, 42]
abbrev dktX6_ruleLine_8 : List UInt8 := dkwX6_ruleLine_8 ++ dktX6_ruleLine_9
def dkwX6_ruleLine_7 : List UInt8 := [182, 0, 130, 167, 0, 94, 42, 18, 189, 182, 0, 171, 153, 0, 80, 42, 180, 0, 190, 7, 160, 0, 8, 42]
abbrev dktX6_ruleLine_7 : List UInt8 := dkwX6_ruleLine_7 ++ dktX6_ruleLine_8
def dkwX6_ruleLine_6 : List UInt8 := [182, 0, 126, 42, 182, 0, 112, 153, 0, 4, 177, 42, 180, 0, 44, 27, 4, 184, 0, 157, 3, 79, 42]
abbrev dktX6_ruleLine_6 : List UInt8 := dkwX6_ruleLine_6 ++ dktX6_ruleLine_7
def dkwX6_ruleLine_5 : List UInt8 := [182, 0, 130, 42, 182, 0, 150, 60, 42, 182, 0, 112, 154, 0, 13, 27, 2, 160, 0, 8, 42, 7]
abbrev dktX6_ruleLine_5 : List UInt8 := dkwX6_ruleLine_5 ++ dktX6_ruleLine_6
def dkwX6_ruleLine_4 : List UInt8 := [182, 0, 175, 42, 180, 0, 44, 16, 9, 4, 79, 167, 0, 155, 42, 18, 187, 182, 0, 171, 153, 0, 55, 42]
abbrev dktX6_ruleLine_4 : List UInt8 := dkwX6_ruleLine_4 ++ dktX6_ruleLine_5
def dkwX6_ruleLine_3 : List UInt8 := [42, 5, 16, 20, 182, 0, 153, 79, 167, 0, 180, 42, 18, 185, 182, 0, 171, 153, 0, 19, 42, 6]
abbrev dktX6_ruleLine_3 : List UInt8 := dkwX6_ruleLine_3 ++ dktX6_ruleLine_4
def dkwX6_ruleLine_2 : List UInt8 := [79, 167, 0, 211, 42, 18, 183, 182, 0, 171, 153, 0, 25, 42, 5, 182, 0, 175, 42, 180, 0, 44, 16, 8]
abbrev dktX6_ruleLine_2 : List UInt8 := dkwX6_ruleLine_2 ++ dktX6_ruleLine_3
def dkwX6_ruleLine_1 : List UInt8 := [182, 0, 171, 153, 0, 25, 42, 4, 182, 0, 175, 42, 180, 0, 44, 16, 7, 42, 4, 16, 20, 182, 0, 153]
abbrev dktX6_ruleLine_1 : List UInt8 := dkwX6_ruleLine_1 ++ dktX6_ruleLine_2
def dkwX6_ruleLine_0 : List UInt8 := [42, 18, 169, 182, 0, 171, 153, 0, 15, 42, 3, 182, 0, 175, 42, 182, 0, 178, 167, 0, 242, 42, 18, 181]
abbrev dktX6_ruleLine_0 : List UInt8 := dkwX6_ruleLine_0 ++ dktX6_ruleLine_1
theorem dksX6_ruleLine_0 : cX6_ruleLine.data.toList.drop 0 = dktX6_ruleLine_0 := by decide +kernel
theorem dksX6_ruleLine_1 : cX6_ruleLine.data.toList.drop 24 = dktX6_ruleLine_1 := dk_seg dksX6_ruleLine_0 24 rfl rfl
theorem dksX6_ruleLine_2 : cX6_ruleLine.data.toList.drop 48 = dktX6_ruleLine_2 := dk_seg dksX6_ruleLine_1 24 rfl rfl
theorem dksX6_ruleLine_3 : cX6_ruleLine.data.toList.drop 72 = dktX6_ruleLine_3 := dk_seg dksX6_ruleLine_2 24 rfl rfl
theorem dksX6_ruleLine_4 : cX6_ruleLine.data.toList.drop 94 = dktX6_ruleLine_4 := dk_seg dksX6_ruleLine_3 22 rfl rfl
theorem dksX6_ruleLine_5 : cX6_ruleLine.data.toList.drop 118 = dktX6_ruleLine_5 := dk_seg dksX6_ruleLine_4 24 rfl rfl
theorem dksX6_ruleLine_6 : cX6_ruleLine.data.toList.drop 140 = dktX6_ruleLine_6 := dk_seg dksX6_ruleLine_5 22 rfl rfl
theorem dksX6_ruleLine_7 : cX6_ruleLine.data.toList.drop 163 = dktX6_ruleLine_7 := dk_seg dksX6_ruleLine_6 23 rfl rfl
theorem dksX6_ruleLine_8 : cX6_ruleLine.data.toList.drop 187 = dktX6_ruleLine_8 := dk_seg dksX6_ruleLine_7 24 rfl rfl
theorem dksX6_ruleLine_9 : cX6_ruleLine.data.toList.drop 209 = dktX6_ruleLine_9 := dk_seg dksX6_ruleLine_8 22 rfl rfl
theorem dksX6_ruleLine_10 : cX6_ruleLine.data.toList.drop 233 = dktX6_ruleLine_10 := dk_seg dksX6_ruleLine_9 24 rfl rfl
theorem dksX6_ruleLine_11 : cX6_ruleLine.data.toList.drop 257 = dktX6_ruleLine_11 := dk_seg dksX6_ruleLine_10 24 rfl rfl
theorem dX6_ruleLine_0 : decode cX6_ruleLine 0 = .ok (.aload_n 0, 1) := dk_42 (dk_at dksX6_ruleLine_0 0 rfl rfl)
theorem dX6_ruleLine_1 : decode cX6_ruleLine 1 = .ok (.ldc 169, 2) := dk_18 169 (dk_at dksX6_ruleLine_0 1 rfl rfl)
theorem dX6_ruleLine_3 : decode cX6_ruleLine 3 = .ok (.invokevirtual 171, 3) := dk_182 0 171 (dk_at dksX6_ruleLine_0 3 rfl rfl)
theorem dX6_ruleLine_6 : decode cX6_ruleLine 6 = .ok (.ifCond .eq 15, 3) := dk_153 0 15 (dk_at dksX6_ruleLine_0 6 rfl rfl)
theorem dX6_ruleLine_9 : decode cX6_ruleLine 9 = .ok (.aload_n 0, 1) := dk_42 (dk_at dksX6_ruleLine_0 9 rfl rfl)
theorem dX6_ruleLine_10 : decode cX6_ruleLine 10 = .ok (.iconst 0, 1) := dk_3 (dk_at dksX6_ruleLine_0 10 rfl rfl)
theorem dX6_ruleLine_11 : decode cX6_ruleLine 11 = .ok (.invokevirtual 175, 3) := dk_182 0 175 (dk_at dksX6_ruleLine_0 11 rfl rfl)
theorem dX6_ruleLine_14 : decode cX6_ruleLine 14 = .ok (.aload_n 0, 1) := dk_42 (dk_at dksX6_ruleLine_0 14 rfl rfl)
theorem dX6_ruleLine_15 : decode cX6_ruleLine 15 = .ok (.invokevirtual 178, 3) := dk_182 0 178 (dk_at dksX6_ruleLine_0 15 rfl rfl)
theorem dX6_ruleLine_18 : decode cX6_ruleLine 18 = .ok (.goto 242, 3) := dk_167 0 242 (dk_at dksX6_ruleLine_0 18 rfl rfl)
theorem dX6_ruleLine_21 : decode cX6_ruleLine 21 = .ok (.aload_n 0, 1) := dk_42 (dk_at dksX6_ruleLine_0 21 rfl rfl)
theorem dX6_ruleLine_22 : decode cX6_ruleLine 22 = .ok (.ldc 181, 2) := dk_18 181 (dk_at dksX6_ruleLine_0 22 rfl rfl)
theorem dX6_ruleLine_24 : decode cX6_ruleLine 24 = .ok (.invokevirtual 171, 3) := dk_182 0 171 (dk_at dksX6_ruleLine_1 0 rfl rfl)
theorem dX6_ruleLine_27 : decode cX6_ruleLine 27 = .ok (.ifCond .eq 25, 3) := dk_153 0 25 (dk_at dksX6_ruleLine_1 3 rfl rfl)
theorem dX6_ruleLine_30 : decode cX6_ruleLine 30 = .ok (.aload_n 0, 1) := dk_42 (dk_at dksX6_ruleLine_1 6 rfl rfl)
theorem dX6_ruleLine_31 : decode cX6_ruleLine 31 = .ok (.iconst 1, 1) := dk_4 (dk_at dksX6_ruleLine_1 7 rfl rfl)
theorem dX6_ruleLine_32 : decode cX6_ruleLine 32 = .ok (.invokevirtual 175, 3) := dk_182 0 175 (dk_at dksX6_ruleLine_1 8 rfl rfl)
theorem dX6_ruleLine_35 : decode cX6_ruleLine 35 = .ok (.aload_n 0, 1) := dk_42 (dk_at dksX6_ruleLine_1 11 rfl rfl)
theorem dX6_ruleLine_36 : decode cX6_ruleLine 36 = .ok (.getfield 44, 3) := dk_180 0 44 (dk_at dksX6_ruleLine_1 12 rfl rfl)
theorem dX6_ruleLine_39 : decode cX6_ruleLine 39 = .ok (.bipush 7, 2) := dk_16 7 (dk_at dksX6_ruleLine_1 15 rfl rfl)
theorem dX6_ruleLine_41 : decode cX6_ruleLine 41 = .ok (.aload_n 0, 1) := dk_42 (dk_at dksX6_ruleLine_1 17 rfl rfl)
theorem dX6_ruleLine_42 : decode cX6_ruleLine 42 = .ok (.iconst 1, 1) := dk_4 (dk_at dksX6_ruleLine_1 18 rfl rfl)
theorem dX6_ruleLine_43 : decode cX6_ruleLine 43 = .ok (.bipush 20, 2) := dk_16 20 (dk_at dksX6_ruleLine_1 19 rfl rfl)
theorem dX6_ruleLine_45 : decode cX6_ruleLine 45 = .ok (.invokevirtual 153, 3) := dk_182 0 153 (dk_at dksX6_ruleLine_1 21 rfl rfl)
theorem dX6_ruleLine_48 : decode cX6_ruleLine 48 = .ok (.iastore, 1) := dk_79 (dk_at dksX6_ruleLine_2 0 rfl rfl)
theorem dX6_ruleLine_49 : decode cX6_ruleLine 49 = .ok (.goto 211, 3) := dk_167 0 211 (dk_at dksX6_ruleLine_2 1 rfl rfl)
theorem dX6_ruleLine_52 : decode cX6_ruleLine 52 = .ok (.aload_n 0, 1) := dk_42 (dk_at dksX6_ruleLine_2 4 rfl rfl)
theorem dX6_ruleLine_53 : decode cX6_ruleLine 53 = .ok (.ldc 183, 2) := dk_18 183 (dk_at dksX6_ruleLine_2 5 rfl rfl)
theorem dX6_ruleLine_55 : decode cX6_ruleLine 55 = .ok (.invokevirtual 171, 3) := dk_182 0 171 (dk_at dksX6_ruleLine_2 7 rfl rfl)
theorem dX6_ruleLine_58 : decode cX6_ruleLine 58 = .ok (.ifCond .eq 25, 3) := dk_153 0 25 (dk_at dksX6_ruleLine_2 10 rfl rfl)
theorem dX6_ruleLine_61 : decode cX6_ruleLine 61 = .ok (.aload_n 0, 1) := dk_42 (dk_at dksX6_ruleLine_2 13 rfl rfl)
theorem dX6_ruleLine_62 : decode cX6_ruleLine 62 = .ok (.iconst 2, 1) := dk_5 (dk_at dksX6_ruleLine_2 14 rfl rfl)
theorem dX6_ruleLine_63 : decode cX6_ruleLine 63 = .ok (.invokevirtual 175, 3) := dk_182 0 175 (dk_at dksX6_ruleLine_2 15 rfl rfl)
theorem dX6_ruleLine_66 : decode cX6_ruleLine 66 = .ok (.aload_n 0, 1) := dk_42 (dk_at dksX6_ruleLine_2 18 rfl rfl)
theorem dX6_ruleLine_67 : decode cX6_ruleLine 67 = .ok (.getfield 44, 3) := dk_180 0 44 (dk_at dksX6_ruleLine_2 19 rfl rfl)
theorem dX6_ruleLine_70 : decode cX6_ruleLine 70 = .ok (.bipush 8, 2) := dk_16 8 (dk_at dksX6_ruleLine_2 22 rfl rfl)
theorem dX6_ruleLine_72 : decode cX6_ruleLine 72 = .ok (.aload_n 0, 1) := dk_42 (dk_at dksX6_ruleLine_3 0 rfl rfl)
theorem dX6_ruleLine_73 : decode cX6_ruleLine 73 = .ok (.iconst 2, 1) := dk_5 (dk_at dksX6_ruleLine_3 1 rfl rfl)
theorem dX6_ruleLine_74 : decode cX6_ruleLine 74 = .ok (.bipush 20, 2) := dk_16 20 (dk_at dksX6_ruleLine_3 2 rfl rfl)
theorem dX6_ruleLine_76 : decode cX6_ruleLine 76 = .ok (.invokevirtual 153, 3) := dk_182 0 153 (dk_at dksX6_ruleLine_3 4 rfl rfl)
theorem dX6_ruleLine_79 : decode cX6_ruleLine 79 = .ok (.iastore, 1) := dk_79 (dk_at dksX6_ruleLine_3 7 rfl rfl)
theorem dX6_ruleLine_80 : decode cX6_ruleLine 80 = .ok (.goto 180, 3) := dk_167 0 180 (dk_at dksX6_ruleLine_3 8 rfl rfl)
theorem dX6_ruleLine_83 : decode cX6_ruleLine 83 = .ok (.aload_n 0, 1) := dk_42 (dk_at dksX6_ruleLine_3 11 rfl rfl)
theorem dX6_ruleLine_84 : decode cX6_ruleLine 84 = .ok (.ldc 185, 2) := dk_18 185 (dk_at dksX6_ruleLine_3 12 rfl rfl)
theorem dX6_ruleLine_86 : decode cX6_ruleLine 86 = .ok (.invokevirtual 171, 3) := dk_182 0 171 (dk_at dksX6_ruleLine_3 14 rfl rfl)
theorem dX6_ruleLine_89 : decode cX6_ruleLine 89 = .ok (.ifCond .eq 19, 3) := dk_153 0 19 (dk_at dksX6_ruleLine_3 17 rfl rfl)
theorem dX6_ruleLine_92 : decode cX6_ruleLine 92 = .ok (.aload_n 0, 1) := dk_42 (dk_at dksX6_ruleLine_3 20 rfl rfl)
theorem dX6_ruleLine_93 : decode cX6_ruleLine 93 = .ok (.iconst 3, 1) := dk_6 (dk_at dksX6_ruleLine_3 21 rfl rfl)
theorem dX6_ruleLine_94 : decode cX6_ruleLine 94 = .ok (.invokevirtual 175, 3) := dk_182 0 175 (dk_at dksX6_ruleLine_4 0 rfl rfl)
theorem dX6_ruleLine_97 : decode cX6_ruleLine 97 = .ok (.aload_n 0, 1) := dk_42 (dk_at dksX6_ruleLine_4 3 rfl rfl)
theorem dX6_ruleLine_98 : decode cX6_ruleLine 98 = .ok (.getfield 44, 3) := dk_180 0 44 (dk_at dksX6_ruleLine_4 4 rfl rfl)
theorem dX6_ruleLine_101 : decode cX6_ruleLine 101 = .ok (.bipush 9, 2) := dk_16 9 (dk_at dksX6_ruleLine_4 7 rfl rfl)
theorem dX6_ruleLine_103 : decode cX6_ruleLine 103 = .ok (.iconst 1, 1) := dk_4 (dk_at dksX6_ruleLine_4 9 rfl rfl)
theorem dX6_ruleLine_104 : decode cX6_ruleLine 104 = .ok (.iastore, 1) := dk_79 (dk_at dksX6_ruleLine_4 10 rfl rfl)
theorem dX6_ruleLine_105 : decode cX6_ruleLine 105 = .ok (.goto 155, 3) := dk_167 0 155 (dk_at dksX6_ruleLine_4 11 rfl rfl)
theorem dX6_ruleLine_108 : decode cX6_ruleLine 108 = .ok (.aload_n 0, 1) := dk_42 (dk_at dksX6_ruleLine_4 14 rfl rfl)
theorem dX6_ruleLine_109 : decode cX6_ruleLine 109 = .ok (.ldc 187, 2) := dk_18 187 (dk_at dksX6_ruleLine_4 15 rfl rfl)
theorem dX6_ruleLine_111 : decode cX6_ruleLine 111 = .ok (.invokevirtual 171, 3) := dk_182 0 171 (dk_at dksX6_ruleLine_4 17 rfl rfl)
theorem dX6_ruleLine_114 : decode cX6_ruleLine 114 = .ok (.ifCond .eq 55, 3) := dk_153 0 55 (dk_at dksX6_ruleLine_4 20 rfl rfl)
theorem dX6_ruleLine_117 : decode cX6_ruleLine 117 = .ok (.aload_n 0, 1) := dk_42 (dk_at dksX6_ruleLine_4 23 rfl rfl)
theorem dX6_ruleLine_118 : decode cX6_ruleLine 118 = .ok (.invokevirtual 130, 3) := dk_182 0 130 (dk_at dksX6_ruleLine_5 0 rfl rfl)
theorem dX6_ruleLine_121 : decode cX6_ruleLine 121 = .ok (.aload_n 0, 1) := dk_42 (dk_at dksX6_ruleLine_5 3 rfl rfl)
theorem dX6_ruleLine_122 : decode cX6_ruleLine 122 = .ok (.invokevirtual 150, 3) := dk_182 0 150 (dk_at dksX6_ruleLine_5 4 rfl rfl)
theorem dX6_ruleLine_125 : decode cX6_ruleLine 125 = .ok (.istore_n 1, 1) := dk_60 (dk_at dksX6_ruleLine_5 7 rfl rfl)
theorem dX6_ruleLine_126 : decode cX6_ruleLine 126 = .ok (.aload_n 0, 1) := dk_42 (dk_at dksX6_ruleLine_5 8 rfl rfl)
theorem dX6_ruleLine_127 : decode cX6_ruleLine 127 = .ok (.invokevirtual 112, 3) := dk_182 0 112 (dk_at dksX6_ruleLine_5 9 rfl rfl)
theorem dX6_ruleLine_130 : decode cX6_ruleLine 130 = .ok (.ifCond .ne 13, 3) := dk_154 0 13 (dk_at dksX6_ruleLine_5 12 rfl rfl)
theorem dX6_ruleLine_133 : decode cX6_ruleLine 133 = .ok (.iload_n 1, 1) := dk_27 (dk_at dksX6_ruleLine_5 15 rfl rfl)
theorem dX6_ruleLine_134 : decode cX6_ruleLine 134 = .ok (.iconst (-1), 1) := dk_2 (dk_at dksX6_ruleLine_5 16 rfl rfl)
theorem dX6_ruleLine_135 : decode cX6_ruleLine 135 = .ok (.if_icmp .ne 8, 3) := dk_160 0 8 (dk_at dksX6_ruleLine_5 17 rfl rfl)
theorem dX6_ruleLine_138 : decode cX6_ruleLine 138 = .ok (.aload_n 0, 1) := dk_42 (dk_at dksX6_ruleLine_5 20 rfl rfl)
theorem dX6_ruleLine_139 : decode cX6_ruleLine 139 = .ok (.iconst 4, 1) := dk_7 (dk_at dksX6_ruleLine_5 21 rfl rfl)
theorem dX6_ruleLine_140 : decode cX6_ruleLine 140 = .ok (.invokevirtual 126, 3) := dk_182 0 126 (dk_at dksX6_ruleLine_6 0 rfl rfl)
theorem dX6_ruleLine_143 : decode cX6_ruleLine 143 = .ok (.aload_n 0, 1) := dk_42 (dk_at dksX6_ruleLine_6 3 rfl rfl)
theorem dX6_ruleLine_144 : decode cX6_ruleLine 144 = .ok (.invokevirtual 112, 3) := dk_182 0 112 (dk_at dksX6_ruleLine_6 4 rfl rfl)
theorem dX6_ruleLine_147 : decode cX6_ruleLine 147 = .ok (.ifCond .eq 4, 3) := dk_153 0 4 (dk_at dksX6_ruleLine_6 7 rfl rfl)
theorem dX6_ruleLine_150 : decode cX6_ruleLine 150 = .ok (.return_, 1) := dk_177 (dk_at dksX6_ruleLine_6 10 rfl rfl)
theorem dX6_ruleLine_151 : decode cX6_ruleLine 151 = .ok (.aload_n 0, 1) := dk_42 (dk_at dksX6_ruleLine_6 11 rfl rfl)
theorem dX6_ruleLine_152 : decode cX6_ruleLine 152 = .ok (.getfield 44, 3) := dk_180 0 44 (dk_at dksX6_ruleLine_6 12 rfl rfl)
theorem dX6_ruleLine_155 : decode cX6_ruleLine 155 = .ok (.iload_n 1, 1) := dk_27 (dk_at dksX6_ruleLine_6 15 rfl rfl)
theorem dX6_ruleLine_156 : decode cX6_ruleLine 156 = .ok (.iconst 1, 1) := dk_4 (dk_at dksX6_ruleLine_6 16 rfl rfl)
theorem dX6_ruleLine_157 : decode cX6_ruleLine 157 = .ok (.invokestatic 157, 3) := dk_184 0 157 (dk_at dksX6_ruleLine_6 17 rfl rfl)
theorem dX6_ruleLine_160 : decode cX6_ruleLine 160 = .ok (.iconst 0, 1) := dk_3 (dk_at dksX6_ruleLine_6 20 rfl rfl)
theorem dX6_ruleLine_161 : decode cX6_ruleLine 161 = .ok (.iastore, 1) := dk_79 (dk_at dksX6_ruleLine_6 21 rfl rfl)
theorem dX6_ruleLine_162 : decode cX6_ruleLine 162 = .ok (.aload_n 0, 1) := dk_42 (dk_at dksX6_ruleLine_6 22 rfl rfl)
theorem dX6_ruleLine_163 : decode cX6_ruleLine 163 = .ok (.invokevirtual 130, 3) := dk_182 0 130 (dk_at dksX6_ruleLine_7 0 rfl rfl)
theorem dX6_ruleLine_166 : decode cX6_ruleLine 166 = .ok (.goto 94, 3) := dk_167 0 94 (dk_at dksX6_ruleLine_7 3 rfl rfl)
theorem dX6_ruleLine_169 : decode cX6_ruleLine 169 = .ok (.aload_n 0, 1) := dk_42 (dk_at dksX6_ruleLine_7 6 rfl rfl)
theorem dX6_ruleLine_170 : decode cX6_ruleLine 170 = .ok (.ldc 189, 2) := dk_18 189 (dk_at dksX6_ruleLine_7 7 rfl rfl)
theorem dX6_ruleLine_172 : decode cX6_ruleLine 172 = .ok (.invokevirtual 171, 3) := dk_182 0 171 (dk_at dksX6_ruleLine_7 9 rfl rfl)
theorem dX6_ruleLine_175 : decode cX6_ruleLine 175 = .ok (.ifCond .eq 80, 3) := dk_153 0 80 (dk_at dksX6_ruleLine_7 12 rfl rfl)
theorem dX6_ruleLine_178 : decode cX6_ruleLine 178 = .ok (.aload_n 0, 1) := dk_42 (dk_at dksX6_ruleLine_7 15 rfl rfl)
theorem dX6_ruleLine_179 : decode cX6_ruleLine 179 = .ok (.getfield 190, 3) := dk_180 0 190 (dk_at dksX6_ruleLine_7 16 rfl rfl)
theorem dX6_ruleLine_182 : decode cX6_ruleLine 182 = .ok (.iconst 4, 1) := dk_7 (dk_at dksX6_ruleLine_7 19 rfl rfl)
theorem dX6_ruleLine_183 : decode cX6_ruleLine 183 = .ok (.if_icmp .ne 8, 3) := dk_160 0 8 (dk_at dksX6_ruleLine_7 20 rfl rfl)
theorem dX6_ruleLine_186 : decode cX6_ruleLine 186 = .ok (.aload_n 0, 1) := dk_42 (dk_at dksX6_ruleLine_7 23 rfl rfl)
theorem dX6_ruleLine_187 : decode cX6_ruleLine 187 = .ok (.iconst 5, 1) := dk_8 (dk_at dksX6_ruleLine_8 0 rfl rfl)
theorem dX6_ruleLine_188 : decode cX6_ruleLine 188 = .ok (.invokevirtual 126, 3) := dk_182 0 126 (dk_at dksX6_ruleLine_8 1 rfl rfl)
theorem dX6_ruleLine_191 : decode cX6_ruleLine 191 = .ok (.aload_n 0, 1) := dk_42 (dk_at dksX6_ruleLine_8 4 rfl rfl)
theorem dX6_ruleLine_192 : decode cX6_ruleLine 192 = .ok (.invokevirtual 112, 3) := dk_182 0 112 (dk_at dksX6_ruleLine_8 5 rfl rfl)
theorem dX6_ruleLine_195 : decode cX6_ruleLine 195 = .ok (.ifCond .eq 4, 3) := dk_153 0 4 (dk_at dksX6_ruleLine_8 8 rfl rfl)
theorem dX6_ruleLine_198 : decode cX6_ruleLine 198 = .ok (.return_, 1) := dk_177 (dk_at dksX6_ruleLine_8 11 rfl rfl)
theorem dX6_ruleLine_199 : decode cX6_ruleLine 199 = .ok (.aload_n 0, 1) := dk_42 (dk_at dksX6_ruleLine_8 12 rfl rfl)
theorem dX6_ruleLine_200 : decode cX6_ruleLine 200 = .ok (.invokevirtual 130, 3) := dk_182 0 130 (dk_at dksX6_ruleLine_8 13 rfl rfl)
theorem dX6_ruleLine_203 : decode cX6_ruleLine 203 = .ok (.aload_n 0, 1) := dk_42 (dk_at dksX6_ruleLine_8 16 rfl rfl)
theorem dX6_ruleLine_204 : decode cX6_ruleLine 204 = .ok (.getfield 56, 3) := dk_180 0 56 (dk_at dksX6_ruleLine_8 17 rfl rfl)
theorem dX6_ruleLine_207 : decode cX6_ruleLine 207 = .ok (.iconst 2, 1) := dk_5 (dk_at dksX6_ruleLine_8 20 rfl rfl)
theorem dX6_ruleLine_208 : decode cX6_ruleLine 208 = .ok (.aload_n 0, 1) := dk_42 (dk_at dksX6_ruleLine_8 21 rfl rfl)
theorem dX6_ruleLine_209 : decode cX6_ruleLine 209 = .ok (.getfield 190, 3) := dk_180 0 190 (dk_at dksX6_ruleLine_9 0 rfl rfl)
theorem dX6_ruleLine_212 : decode cX6_ruleLine 212 = .ok (.imul, 1) := dk_104 (dk_at dksX6_ruleLine_9 3 rfl rfl)
theorem dX6_ruleLine_213 : decode cX6_ruleLine 213 = .ok (.aload_n 0, 1) := dk_42 (dk_at dksX6_ruleLine_9 4 rfl rfl)
theorem dX6_ruleLine_214 : decode cX6_ruleLine 214 = .ok (.iconst 1, 1) := dk_4 (dk_at dksX6_ruleLine_9 5 rfl rfl)
theorem dX6_ruleLine_215 : decode cX6_ruleLine 215 = .ok (.sipush 999, 3) := dk_17 3 231 (dk_at dksX6_ruleLine_9 6 rfl rfl)
theorem dX6_ruleLine_218 : decode cX6_ruleLine 218 = .ok (.invokevirtual 153, 3) := dk_182 0 153 (dk_at dksX6_ruleLine_9 9 rfl rfl)
theorem dX6_ruleLine_221 : decode cX6_ruleLine 221 = .ok (.iastore, 1) := dk_79 (dk_at dksX6_ruleLine_9 12 rfl rfl)
theorem dX6_ruleLine_222 : decode cX6_ruleLine 222 = .ok (.aload_n 0, 1) := dk_42 (dk_at dksX6_ruleLine_9 13 rfl rfl)
theorem dX6_ruleLine_223 : decode cX6_ruleLine 223 = .ok (.getfield 56, 3) := dk_180 0 56 (dk_at dksX6_ruleLine_9 14 rfl rfl)
theorem dX6_ruleLine_226 : decode cX6_ruleLine 226 = .ok (.iconst 2, 1) := dk_5 (dk_at dksX6_ruleLine_9 17 rfl rfl)
theorem dX6_ruleLine_227 : decode cX6_ruleLine 227 = .ok (.aload_n 0, 1) := dk_42 (dk_at dksX6_ruleLine_9 18 rfl rfl)
theorem dX6_ruleLine_228 : decode cX6_ruleLine 228 = .ok (.getfield 190, 3) := dk_180 0 190 (dk_at dksX6_ruleLine_9 19 rfl rfl)
theorem dX6_ruleLine_231 : decode cX6_ruleLine 231 = .ok (.imul, 1) := dk_104 (dk_at dksX6_ruleLine_9 22 rfl rfl)
theorem dX6_ruleLine_232 : decode cX6_ruleLine 232 = .ok (.iconst 1, 1) := dk_4 (dk_at dksX6_ruleLine_9 23 rfl rfl)
theorem dX6_ruleLine_233 : decode cX6_ruleLine 233 = .ok (.iadd, 1) := dk_96 (dk_at dksX6_ruleLine_10 0 rfl rfl)
theorem dX6_ruleLine_234 : decode cX6_ruleLine 234 = .ok (.aload_n 0, 1) := dk_42 (dk_at dksX6_ruleLine_10 1 rfl rfl)
theorem dX6_ruleLine_235 : decode cX6_ruleLine 235 = .ok (.iconst 1, 1) := dk_4 (dk_at dksX6_ruleLine_10 2 rfl rfl)
theorem dX6_ruleLine_236 : decode cX6_ruleLine 236 = .ok (.bipush 50, 2) := dk_16 50 (dk_at dksX6_ruleLine_10 3 rfl rfl)
theorem dX6_ruleLine_238 : decode cX6_ruleLine 238 = .ok (.invokevirtual 153, 3) := dk_182 0 153 (dk_at dksX6_ruleLine_10 5 rfl rfl)
theorem dX6_ruleLine_241 : decode cX6_ruleLine 241 = .ok (.iastore, 1) := dk_79 (dk_at dksX6_ruleLine_10 8 rfl rfl)
theorem dX6_ruleLine_242 : decode cX6_ruleLine 242 = .ok (.aload_n 0, 1) := dk_42 (dk_at dksX6_ruleLine_10 9 rfl rfl)
theorem dX6_ruleLine_243 : decode cX6_ruleLine 243 = .ok (.dup, 1) := dk_89 (dk_at dksX6_ruleLine_10 10 rfl rfl)
theorem dX6_ruleLine_244 : decode cX6_ruleLine 244 = .ok (.getfield 190, 3) := dk_180 0 190 (dk_at dksX6_ruleLine_10 11 rfl rfl)
theorem dX6_ruleLine_247 : decode cX6_ruleLine 247 = .ok (.iconst 1, 1) := dk_4 (dk_at dksX6_ruleLine_10 14 rfl rfl)
theorem dX6_ruleLine_248 : decode cX6_ruleLine 248 = .ok (.iadd, 1) := dk_96 (dk_at dksX6_ruleLine_10 15 rfl rfl)
theorem dX6_ruleLine_249 : decode cX6_ruleLine 249 = .ok (.putfield 190, 3) := dk_181 0 190 (dk_at dksX6_ruleLine_10 16 rfl rfl)
theorem dX6_ruleLine_252 : decode cX6_ruleLine 252 = .ok (.goto 8, 3) := dk_167 0 8 (dk_at dksX6_ruleLine_10 19 rfl rfl)
theorem dX6_ruleLine_255 : decode cX6_ruleLine 255 = .ok (.aload_n 0, 1) := dk_42 (dk_at dksX6_ruleLine_10 22 rfl rfl)
theorem dX6_ruleLine_256 : decode cX6_ruleLine 256 = .ok (.iconst 1, 1) := dk_4 (dk_at dksX6_ruleLine_10 23 rfl rfl)
theorem dX6_ruleLine_257 : decode cX6_ruleLine 257 = .ok (.invokevirtual 126, 3) := dk_182 0 126 (dk_at dksX6_ruleLine_11 0 rfl rfl)
theorem dX6_ruleLine_260 : decode cX6_ruleLine 260 = .ok (.aload_n 0, 1) := dk_42 (dk_at dksX6_ruleLine_11 3 rfl rfl)
theorem dX6_ruleLine_261 : decode cX6_ruleLine 261 = .ok (.invokevirtual 160, 3) := dk_182 0 160 (dk_at dksX6_ruleLine_11 4 rfl rfl)
theorem dX6_ruleLine_264 : decode cX6_ruleLine 264 = .ok (.return_, 1) := dk_177 (dk_at dksX6_ruleLine_11 7 rfl rfl)
def dkwX6_once_1 : List UInt8 := [177, 42, 89, 180, 0, 147, 4, 27, 120, 128, 181, 0, 147, 42, 182, 0, 130, 177]
abbrev dktX6_once_1 : List UInt8 := dkwX6_once_1 ++ []
def dkwX6_once_0 : List UInt8 := [42, 180, 0, 147, 27, 122, 4, 126, 4, 160, 0, 8, 42, 8, 182, 0, 126, 42, 182, 0, 112, 153, 0, 4]
abbrev dktX6_once_0 : List UInt8 := dkwX6_once_0 ++ dktX6_once_1
theorem dksX6_once_0 : cX6_once.data.toList.drop 0 = dktX6_once_0 := by decide +kernel
theorem dksX6_once_1 : cX6_once.data.toList.drop 24 = dktX6_once_1 := dk_seg dksX6_once_0 24 rfl rfl
theorem dX6_once_0 : decode cX6_once 0 = .ok (.aload_n 0, 1) := dk_42 (dk_at dksX6_once_0 0 rfl rfl)
theorem dX6_once_1 : decode cX6_once 1 = .ok (.getfield 147, 3) := dk_180 0 147 (dk_at dksX6_once_0 1 rfl rfl)
theorem dX6_once_4 : decode cX6_once 4 = .ok (.iload_n 1, 1) := dk_27 (dk_at dksX6_once_0 4 rfl rfl)
theorem dX6_once_5 : decode cX6_once 5 = .ok (.ishr, 1) := dk_122 (dk_at dksX6_once_0 5 rfl rfl)
theorem dX6_once_6 : decode cX6_once 6 = .ok (.iconst 1, 1) := dk_4 (dk_at dksX6_once_0 6 rfl rfl)
theorem dX6_once_7 : decode cX6_once 7 = .ok (.iand, 1) := dk_126 (dk_at dksX6_once_0 7 rfl rfl)
theorem dX6_once_8 : decode cX6_once 8 = .ok (.iconst 1, 1) := dk_4 (dk_at dksX6_once_0 8 rfl rfl)
theorem dX6_once_9 : decode cX6_once 9 = .ok (.if_icmp .ne 8, 3) := dk_160 0 8 (dk_at dksX6_once_0 9 rfl rfl)
theorem dX6_once_12 : decode cX6_once 12 = .ok (.aload_n 0, 1) := dk_42 (dk_at dksX6_once_0 12 rfl rfl)
theorem dX6_once_13 : decode cX6_once 13 = .ok (.iconst 5, 1) := dk_8 (dk_at dksX6_once_0 13 rfl rfl)
theorem dX6_once_14 : decode cX6_once 14 = .ok (.invokevirtual 126, 3) := dk_182 0 126 (dk_at dksX6_once_0 14 rfl rfl)
theorem dX6_once_17 : decode cX6_once 17 = .ok (.aload_n 0, 1) := dk_42 (dk_at dksX6_once_0 17 rfl rfl)
theorem dX6_once_18 : decode cX6_once 18 = .ok (.invokevirtual 112, 3) := dk_182 0 112 (dk_at dksX6_once_0 18 rfl rfl)
theorem dX6_once_21 : decode cX6_once 21 = .ok (.ifCond .eq 4, 3) := dk_153 0 4 (dk_at dksX6_once_0 21 rfl rfl)
theorem dX6_once_24 : decode cX6_once 24 = .ok (.return_, 1) := dk_177 (dk_at dksX6_once_1 0 rfl rfl)
theorem dX6_once_25 : decode cX6_once 25 = .ok (.aload_n 0, 1) := dk_42 (dk_at dksX6_once_1 1 rfl rfl)
theorem dX6_once_26 : decode cX6_once 26 = .ok (.dup, 1) := dk_89 (dk_at dksX6_once_1 2 rfl rfl)
theorem dX6_once_27 : decode cX6_once 27 = .ok (.getfield 147, 3) := dk_180 0 147 (dk_at dksX6_once_1 3 rfl rfl)
theorem dX6_once_30 : decode cX6_once 30 = .ok (.iconst 1, 1) := dk_4 (dk_at dksX6_once_1 6 rfl rfl)
theorem dX6_once_31 : decode cX6_once 31 = .ok (.iload_n 1, 1) := dk_27 (dk_at dksX6_once_1 7 rfl rfl)
theorem dX6_once_32 : decode cX6_once 32 = .ok (.ishl, 1) := dk_120 (dk_at dksX6_once_1 8 rfl rfl)
theorem dX6_once_33 : decode cX6_once 33 = .ok (.ior, 1) := dk_128 (dk_at dksX6_once_1 9 rfl rfl)
theorem dX6_once_34 : decode cX6_once 34 = .ok (.putfield 147, 3) := dk_181 0 147 (dk_at dksX6_once_1 10 rfl rfl)
theorem dX6_once_37 : decode cX6_once 37 = .ok (.aload_n 0, 1) := dk_42 (dk_at dksX6_once_1 13 rfl rfl)
theorem dX6_once_38 : decode cX6_once 38 = .ok (.invokevirtual 130, 3) := dk_182 0 130 (dk_at dksX6_once_1 14 rfl rfl)
theorem dX6_once_41 : decode cX6_once 41 = .ok (.return_, 1) := dk_177 (dk_at dksX6_once_1 17 rfl rfl)
def dkwX6_scriptHere_6 : List UInt8 := [42, 182, 0, 130, 177]
abbrev dktX6_scriptHere_6 : List UInt8 := dkwX6_scriptHere_6 ++ []
def dkwX6_scriptHere_5 : List UInt8 := [180, 0, 53, 28, 42, 42, 180, 0, 96, 28, 96, 182, 0, 92, 16, 48, 100, 79, 132, 2, 1, 167, 255, 226]
abbrev dktX6_scriptHere_5 : List UInt8 := dkwX6_scriptHere_5 ++ dktX6_scriptHere_6
def dkwX6_scriptHere_4 : List UInt8 := [180, 0, 89, 42, 180, 0, 96, 100, 181, 0, 166, 3, 61, 28, 42, 180, 0, 166, 162, 0, 28, 42]
abbrev dktX6_scriptHere_4 : List UInt8 := dkwX6_scriptHere_4 ++ dktX6_scriptHere_5
def dkwX6_scriptHere_3 : List UInt8 := [167, 255, 225, 27, 154, 0, 8, 42, 4, 182, 0, 126, 42, 182, 0, 112, 153, 0, 4, 177, 42, 42]
abbrev dktX6_scriptHere_3 : List UInt8 := dkwX6_scriptHere_3 ++ dktX6_scriptHere_4
def dkwX6_scriptHere_2 : List UInt8 := [27, 153, 0, 25, 42, 28, 182, 0, 92, 16, 49, 163, 0, 7, 4, 167, 0, 4, 3, 60, 132, 2, 1]
abbrev dktX6_scriptHere_2 : List UInt8 := dkwX6_scriptHere_2 ++ dktX6_scriptHere_3
def dkwX6_scriptHere_1 : List UInt8 := [16, 24, 163, 0, 7, 4, 167, 0, 4, 3, 60, 42, 180, 0, 96, 61, 28, 42, 180, 0, 89, 162, 0, 29]
abbrev dktX6_scriptHere_1 : List UInt8 := dkwX6_scriptHere_1 ++ dktX6_scriptHere_2
def dkwX6_scriptHere_0 : List UInt8 := [42, 182, 0, 112, 154, 0, 29, 42, 180, 0, 99, 5, 160, 0, 21, 42, 180, 0, 89, 42, 180, 0, 96, 100]
abbrev dktX6_scriptHere_0 : List UInt8 := dkwX6_scriptHere_0 ++ dktX6_scriptHere_1
theorem dksX6_scriptHere_0 : cX6_scriptHere.data.toList.drop 0 = dktX6_scriptHere_0 := by decide +kernel
theorem dksX6_scriptHere_1 : cX6_scriptHere.data.toList.drop 24 = dktX6_scriptHere_1 := dk_seg dksX6_scriptHere_0 24 rfl rfl
theorem dksX6_scriptHere_2 : cX6_scriptHere.data.toList.drop 48 = dktX6_scriptHere_2 := dk_seg dksX6_scriptHere_1 24 rfl rfl
theorem dksX6_scriptHere_3 : cX6_scriptHere.data.toList.drop 71 = dktX6_scriptHere_3 := dk_seg dksX6_scriptHere_2 23 rfl rfl
theorem dksX6_scriptHere_4 : cX6_scriptHere.data.toList.drop 93 = dktX6_scriptHere_4 := dk_seg dksX6_scriptHere_3 22 rfl rfl
theorem dksX6_scriptHere_5 : cX6_scriptHere.data.toList.drop 115 = dktX6_scriptHere_5 := dk_seg dksX6_scriptHere_4 22 rfl rfl
theorem dksX6_scriptHere_6 : cX6_scriptHere.data.toList.drop 139 = dktX6_scriptHere_6 := dk_seg dksX6_scriptHere_5 24 rfl rfl
theorem dX6_scriptHere_0 : decode cX6_scriptHere 0 = .ok (.aload_n 0, 1) := dk_42 (dk_at dksX6_scriptHere_0 0 rfl rfl)
theorem dX6_scriptHere_1 : decode cX6_scriptHere 1 = .ok (.invokevirtual 112, 3) := dk_182 0 112 (dk_at dksX6_scriptHere_0 1 rfl rfl)
theorem dX6_scriptHere_4 : decode cX6_scriptHere 4 = .ok (.ifCond .ne 29, 3) := dk_154 0 29 (dk_at dksX6_scriptHere_0 4 rfl rfl)
theorem dX6_scriptHere_7 : decode cX6_scriptHere 7 = .ok (.aload_n 0, 1) := dk_42 (dk_at dksX6_scriptHere_0 7 rfl rfl)
theorem dX6_scriptHere_8 : decode cX6_scriptHere 8 = .ok (.getfield 99, 3) := dk_180 0 99 (dk_at dksX6_scriptHere_0 8 rfl rfl)
theorem dX6_scriptHere_11 : decode cX6_scriptHere 11 = .ok (.iconst 2, 1) := dk_5 (dk_at dksX6_scriptHere_0 11 rfl rfl)
theorem dX6_scriptHere_12 : decode cX6_scriptHere 12 = .ok (.if_icmp .ne 21, 3) := dk_160 0 21 (dk_at dksX6_scriptHere_0 12 rfl rfl)
theorem dX6_scriptHere_15 : decode cX6_scriptHere 15 = .ok (.aload_n 0, 1) := dk_42 (dk_at dksX6_scriptHere_0 15 rfl rfl)
theorem dX6_scriptHere_16 : decode cX6_scriptHere 16 = .ok (.getfield 89, 3) := dk_180 0 89 (dk_at dksX6_scriptHere_0 16 rfl rfl)
theorem dX6_scriptHere_19 : decode cX6_scriptHere 19 = .ok (.aload_n 0, 1) := dk_42 (dk_at dksX6_scriptHere_0 19 rfl rfl)
theorem dX6_scriptHere_20 : decode cX6_scriptHere 20 = .ok (.getfield 96, 3) := dk_180 0 96 (dk_at dksX6_scriptHere_0 20 rfl rfl)
theorem dX6_scriptHere_23 : decode cX6_scriptHere 23 = .ok (.isub, 1) := dk_100 (dk_at dksX6_scriptHere_0 23 rfl rfl)
theorem dX6_scriptHere_24 : decode cX6_scriptHere 24 = .ok (.bipush 24, 2) := dk_16 24 (dk_at dksX6_scriptHere_1 0 rfl rfl)
theorem dX6_scriptHere_26 : decode cX6_scriptHere 26 = .ok (.if_icmp .gt 7, 3) := dk_163 0 7 (dk_at dksX6_scriptHere_1 2 rfl rfl)
theorem dX6_scriptHere_29 : decode cX6_scriptHere 29 = .ok (.iconst 1, 1) := dk_4 (dk_at dksX6_scriptHere_1 5 rfl rfl)
theorem dX6_scriptHere_30 : decode cX6_scriptHere 30 = .ok (.goto 4, 3) := dk_167 0 4 (dk_at dksX6_scriptHere_1 6 rfl rfl)
theorem dX6_scriptHere_33 : decode cX6_scriptHere 33 = .ok (.iconst 0, 1) := dk_3 (dk_at dksX6_scriptHere_1 9 rfl rfl)
theorem dX6_scriptHere_34 : decode cX6_scriptHere 34 = .ok (.istore_n 1, 1) := dk_60 (dk_at dksX6_scriptHere_1 10 rfl rfl)
theorem dX6_scriptHere_35 : decode cX6_scriptHere 35 = .ok (.aload_n 0, 1) := dk_42 (dk_at dksX6_scriptHere_1 11 rfl rfl)
theorem dX6_scriptHere_36 : decode cX6_scriptHere 36 = .ok (.getfield 96, 3) := dk_180 0 96 (dk_at dksX6_scriptHere_1 12 rfl rfl)
theorem dX6_scriptHere_39 : decode cX6_scriptHere 39 = .ok (.istore_n 2, 1) := dk_61 (dk_at dksX6_scriptHere_1 15 rfl rfl)
theorem dX6_scriptHere_40 : decode cX6_scriptHere 40 = .ok (.iload_n 2, 1) := dk_28 (dk_at dksX6_scriptHere_1 16 rfl rfl)
theorem dX6_scriptHere_41 : decode cX6_scriptHere 41 = .ok (.aload_n 0, 1) := dk_42 (dk_at dksX6_scriptHere_1 17 rfl rfl)
theorem dX6_scriptHere_42 : decode cX6_scriptHere 42 = .ok (.getfield 89, 3) := dk_180 0 89 (dk_at dksX6_scriptHere_1 18 rfl rfl)
theorem dX6_scriptHere_45 : decode cX6_scriptHere 45 = .ok (.if_icmp .ge 29, 3) := dk_162 0 29 (dk_at dksX6_scriptHere_1 21 rfl rfl)
theorem dX6_scriptHere_48 : decode cX6_scriptHere 48 = .ok (.iload_n 1, 1) := dk_27 (dk_at dksX6_scriptHere_2 0 rfl rfl)
theorem dX6_scriptHere_49 : decode cX6_scriptHere 49 = .ok (.ifCond .eq 25, 3) := dk_153 0 25 (dk_at dksX6_scriptHere_2 1 rfl rfl)
theorem dX6_scriptHere_52 : decode cX6_scriptHere 52 = .ok (.aload_n 0, 1) := dk_42 (dk_at dksX6_scriptHere_2 4 rfl rfl)
theorem dX6_scriptHere_53 : decode cX6_scriptHere 53 = .ok (.iload_n 2, 1) := dk_28 (dk_at dksX6_scriptHere_2 5 rfl rfl)
theorem dX6_scriptHere_54 : decode cX6_scriptHere 54 = .ok (.invokevirtual 92, 3) := dk_182 0 92 (dk_at dksX6_scriptHere_2 6 rfl rfl)
theorem dX6_scriptHere_57 : decode cX6_scriptHere 57 = .ok (.bipush 49, 2) := dk_16 49 (dk_at dksX6_scriptHere_2 9 rfl rfl)
theorem dX6_scriptHere_59 : decode cX6_scriptHere 59 = .ok (.if_icmp .gt 7, 3) := dk_163 0 7 (dk_at dksX6_scriptHere_2 11 rfl rfl)
theorem dX6_scriptHere_62 : decode cX6_scriptHere 62 = .ok (.iconst 1, 1) := dk_4 (dk_at dksX6_scriptHere_2 14 rfl rfl)
theorem dX6_scriptHere_63 : decode cX6_scriptHere 63 = .ok (.goto 4, 3) := dk_167 0 4 (dk_at dksX6_scriptHere_2 15 rfl rfl)
theorem dX6_scriptHere_66 : decode cX6_scriptHere 66 = .ok (.iconst 0, 1) := dk_3 (dk_at dksX6_scriptHere_2 18 rfl rfl)
theorem dX6_scriptHere_67 : decode cX6_scriptHere 67 = .ok (.istore_n 1, 1) := dk_60 (dk_at dksX6_scriptHere_2 19 rfl rfl)
theorem dX6_scriptHere_68 : decode cX6_scriptHere 68 = .ok (.iinc 2 1, 3) := dk_132 2 1 (dk_at dksX6_scriptHere_2 20 rfl rfl)
theorem dX6_scriptHere_71 : decode cX6_scriptHere 71 = .ok (.goto (-31), 3) := dk_167 255 225 (dk_at dksX6_scriptHere_3 0 rfl rfl)
theorem dX6_scriptHere_74 : decode cX6_scriptHere 74 = .ok (.iload_n 1, 1) := dk_27 (dk_at dksX6_scriptHere_3 3 rfl rfl)
theorem dX6_scriptHere_75 : decode cX6_scriptHere 75 = .ok (.ifCond .ne 8, 3) := dk_154 0 8 (dk_at dksX6_scriptHere_3 4 rfl rfl)
theorem dX6_scriptHere_78 : decode cX6_scriptHere 78 = .ok (.aload_n 0, 1) := dk_42 (dk_at dksX6_scriptHere_3 7 rfl rfl)
theorem dX6_scriptHere_79 : decode cX6_scriptHere 79 = .ok (.iconst 1, 1) := dk_4 (dk_at dksX6_scriptHere_3 8 rfl rfl)
theorem dX6_scriptHere_80 : decode cX6_scriptHere 80 = .ok (.invokevirtual 126, 3) := dk_182 0 126 (dk_at dksX6_scriptHere_3 9 rfl rfl)
theorem dX6_scriptHere_83 : decode cX6_scriptHere 83 = .ok (.aload_n 0, 1) := dk_42 (dk_at dksX6_scriptHere_3 12 rfl rfl)
theorem dX6_scriptHere_84 : decode cX6_scriptHere 84 = .ok (.invokevirtual 112, 3) := dk_182 0 112 (dk_at dksX6_scriptHere_3 13 rfl rfl)
theorem dX6_scriptHere_87 : decode cX6_scriptHere 87 = .ok (.ifCond .eq 4, 3) := dk_153 0 4 (dk_at dksX6_scriptHere_3 16 rfl rfl)
theorem dX6_scriptHere_90 : decode cX6_scriptHere 90 = .ok (.return_, 1) := dk_177 (dk_at dksX6_scriptHere_3 19 rfl rfl)
theorem dX6_scriptHere_91 : decode cX6_scriptHere 91 = .ok (.aload_n 0, 1) := dk_42 (dk_at dksX6_scriptHere_3 20 rfl rfl)
theorem dX6_scriptHere_92 : decode cX6_scriptHere 92 = .ok (.aload_n 0, 1) := dk_42 (dk_at dksX6_scriptHere_3 21 rfl rfl)
theorem dX6_scriptHere_93 : decode cX6_scriptHere 93 = .ok (.getfield 89, 3) := dk_180 0 89 (dk_at dksX6_scriptHere_4 0 rfl rfl)
theorem dX6_scriptHere_96 : decode cX6_scriptHere 96 = .ok (.aload_n 0, 1) := dk_42 (dk_at dksX6_scriptHere_4 3 rfl rfl)
theorem dX6_scriptHere_97 : decode cX6_scriptHere 97 = .ok (.getfield 96, 3) := dk_180 0 96 (dk_at dksX6_scriptHere_4 4 rfl rfl)
theorem dX6_scriptHere_100 : decode cX6_scriptHere 100 = .ok (.isub, 1) := dk_100 (dk_at dksX6_scriptHere_4 7 rfl rfl)
theorem dX6_scriptHere_101 : decode cX6_scriptHere 101 = .ok (.putfield 166, 3) := dk_181 0 166 (dk_at dksX6_scriptHere_4 8 rfl rfl)
theorem dX6_scriptHere_104 : decode cX6_scriptHere 104 = .ok (.iconst 0, 1) := dk_3 (dk_at dksX6_scriptHere_4 11 rfl rfl)
theorem dX6_scriptHere_105 : decode cX6_scriptHere 105 = .ok (.istore_n 2, 1) := dk_61 (dk_at dksX6_scriptHere_4 12 rfl rfl)
theorem dX6_scriptHere_106 : decode cX6_scriptHere 106 = .ok (.iload_n 2, 1) := dk_28 (dk_at dksX6_scriptHere_4 13 rfl rfl)
theorem dX6_scriptHere_107 : decode cX6_scriptHere 107 = .ok (.aload_n 0, 1) := dk_42 (dk_at dksX6_scriptHere_4 14 rfl rfl)
theorem dX6_scriptHere_108 : decode cX6_scriptHere 108 = .ok (.getfield 166, 3) := dk_180 0 166 (dk_at dksX6_scriptHere_4 15 rfl rfl)
theorem dX6_scriptHere_111 : decode cX6_scriptHere 111 = .ok (.if_icmp .ge 28, 3) := dk_162 0 28 (dk_at dksX6_scriptHere_4 18 rfl rfl)
theorem dX6_scriptHere_114 : decode cX6_scriptHere 114 = .ok (.aload_n 0, 1) := dk_42 (dk_at dksX6_scriptHere_4 21 rfl rfl)
theorem dX6_scriptHere_115 : decode cX6_scriptHere 115 = .ok (.getfield 53, 3) := dk_180 0 53 (dk_at dksX6_scriptHere_5 0 rfl rfl)
theorem dX6_scriptHere_118 : decode cX6_scriptHere 118 = .ok (.iload_n 2, 1) := dk_28 (dk_at dksX6_scriptHere_5 3 rfl rfl)
theorem dX6_scriptHere_119 : decode cX6_scriptHere 119 = .ok (.aload_n 0, 1) := dk_42 (dk_at dksX6_scriptHere_5 4 rfl rfl)
theorem dX6_scriptHere_120 : decode cX6_scriptHere 120 = .ok (.aload_n 0, 1) := dk_42 (dk_at dksX6_scriptHere_5 5 rfl rfl)
theorem dX6_scriptHere_121 : decode cX6_scriptHere 121 = .ok (.getfield 96, 3) := dk_180 0 96 (dk_at dksX6_scriptHere_5 6 rfl rfl)
theorem dX6_scriptHere_124 : decode cX6_scriptHere 124 = .ok (.iload_n 2, 1) := dk_28 (dk_at dksX6_scriptHere_5 9 rfl rfl)
theorem dX6_scriptHere_125 : decode cX6_scriptHere 125 = .ok (.iadd, 1) := dk_96 (dk_at dksX6_scriptHere_5 10 rfl rfl)
theorem dX6_scriptHere_126 : decode cX6_scriptHere 126 = .ok (.invokevirtual 92, 3) := dk_182 0 92 (dk_at dksX6_scriptHere_5 11 rfl rfl)
theorem dX6_scriptHere_129 : decode cX6_scriptHere 129 = .ok (.bipush 48, 2) := dk_16 48 (dk_at dksX6_scriptHere_5 14 rfl rfl)
theorem dX6_scriptHere_131 : decode cX6_scriptHere 131 = .ok (.isub, 1) := dk_100 (dk_at dksX6_scriptHere_5 16 rfl rfl)
theorem dX6_scriptHere_132 : decode cX6_scriptHere 132 = .ok (.iastore, 1) := dk_79 (dk_at dksX6_scriptHere_5 17 rfl rfl)
theorem dX6_scriptHere_133 : decode cX6_scriptHere 133 = .ok (.iinc 2 1, 3) := dk_132 2 1 (dk_at dksX6_scriptHere_5 18 rfl rfl)
theorem dX6_scriptHere_136 : decode cX6_scriptHere 136 = .ok (.goto (-30), 3) := dk_167 255 226 (dk_at dksX6_scriptHere_5 21 rfl rfl)
theorem dX6_scriptHere_139 : decode cX6_scriptHere 139 = .ok (.aload_n 0, 1) := dk_42 (dk_at dksX6_scriptHere_6 0 rfl rfl)
theorem dX6_scriptHere_140 : decode cX6_scriptHere 140 = .ok (.invokevirtual 130, 3) := dk_182 0 130 (dk_at dksX6_scriptHere_6 1 rfl rfl)
theorem dX6_scriptHere_143 : decode cX6_scriptHere 143 = .ok (.return_, 1) := dk_177 (dk_at dksX6_scriptHere_6 4 rfl rfl)
def dkwX6_errorCode_0 : List UInt8 := [42, 3, 181, 0, 72, 42, 180, 0, 109, 172]
abbrev dktX6_errorCode_0 : List UInt8 := dkwX6_errorCode_0 ++ []
theorem dksX6_errorCode_0 : cX6_errorCode.data.toList.drop 0 = dktX6_errorCode_0 := by decide +kernel
theorem dX6_errorCode_0 : decode cX6_errorCode 0 = .ok (.aload_n 0, 1) := dk_42 (dk_at dksX6_errorCode_0 0 rfl rfl)
theorem dX6_errorCode_1 : decode cX6_errorCode 1 = .ok (.iconst 0, 1) := dk_3 (dk_at dksX6_errorCode_0 1 rfl rfl)
theorem dX6_errorCode_2 : decode cX6_errorCode 2 = .ok (.putfield 72, 3) := dk_181 0 72 (dk_at dksX6_errorCode_0 2 rfl rfl)
theorem dX6_errorCode_5 : decode cX6_errorCode 5 = .ok (.aload_n 0, 1) := dk_42 (dk_at dksX6_errorCode_0 5 rfl rfl)
theorem dX6_errorCode_6 : decode cX6_errorCode 6 = .ok (.getfield 109, 3) := dk_180 0 109 (dk_at dksX6_errorCode_0 6 rfl rfl)
theorem dX6_errorCode_9 : decode cX6_errorCode 9 = .ok (.ireturn, 1) := dk_172 (dk_at dksX6_errorCode_0 9 rfl rfl)
def dkwX6_errorPosition_0 : List UInt8 := [42, 3, 181, 0, 72, 42, 180, 0, 62, 172]
abbrev dktX6_errorPosition_0 : List UInt8 := dkwX6_errorPosition_0 ++ []
theorem dksX6_errorPosition_0 : cX6_errorPosition.data.toList.drop 0 = dktX6_errorPosition_0 := by decide +kernel
theorem dX6_errorPosition_0 : decode cX6_errorPosition 0 = .ok (.aload_n 0, 1) := dk_42 (dk_at dksX6_errorPosition_0 0 rfl rfl)
theorem dX6_errorPosition_1 : decode cX6_errorPosition 1 = .ok (.iconst 0, 1) := dk_3 (dk_at dksX6_errorPosition_0 1 rfl rfl)
theorem dX6_errorPosition_2 : decode cX6_errorPosition 2 = .ok (.putfield 72, 3) := dk_181 0 72 (dk_at dksX6_errorPosition_0 2 rfl rfl)
theorem dX6_errorPosition_5 : decode cX6_errorPosition 5 = .ok (.aload_n 0, 1) := dk_42 (dk_at dksX6_errorPosition_0 5 rfl rfl)
theorem dX6_errorPosition_6 : decode cX6_errorPosition 6 = .ok (.getfield 62, 3) := dk_180 0 62 (dk_at dksX6_errorPosition_0 6 rfl rfl)
theorem dX6_errorPosition_9 : decode cX6_errorPosition 9 = .ok (.ireturn, 1) := dk_172 (dk_at dksX6_errorPosition_0 9 rfl rfl)
def dkwX6_find_5 : List UInt8 := [167, 0, 4, 3, 172]
abbrev dktX6_find_5 : List UInt8 := dkwX6_find_5 ++ []
def dkwX6_find_4 : List UInt8 := [181, 0, 75, 42, 28, 2, 159, 0, 7, 4, 167, 0, 4, 3, 4, 182, 0, 78, 153, 0, 7, 28]
abbrev dktX6_find_4 : List UInt8 := dkwX6_find_4 ++ dktX6_find_5
def dkwX6_find_3 : List UInt8 := [42, 180, 0, 207, 42, 180, 0, 41, 3, 42, 180, 0, 75, 184, 0, 143, 167, 0, 4, 2, 61, 42, 3]
abbrev dktX6_find_3 : List UInt8 := dkwX6_find_3 ++ dktX6_find_4
def dkwX6_find_2 : List UInt8 := [46, 153, 0, 7, 4, 167, 0, 4, 3, 60, 132, 2, 1, 167, 255, 226, 27, 153, 0, 26, 42, 180, 0, 22]
abbrev dktX6_find_2 : List UInt8 := dkwX6_find_2 ++ dktX6_find_3
def dkwX6_find_1 : List UInt8 := [167, 0, 4, 3, 60, 3, 61, 28, 42, 180, 0, 75, 162, 0, 28, 27, 153, 0, 24, 42, 180, 0, 41, 28]
abbrev dktX6_find_1 : List UInt8 := dkwX6_find_1 ++ dktX6_find_2
def dkwX6_find_0 : List UInt8 := [42, 3, 181, 0, 72, 42, 180, 0, 75, 158, 0, 16, 42, 180, 0, 75, 16, 8, 163, 0, 7, 4]
abbrev dktX6_find_0 : List UInt8 := dkwX6_find_0 ++ dktX6_find_1
theorem dksX6_find_0 : cX6_find.data.toList.drop 0 = dktX6_find_0 := by decide +kernel
theorem dksX6_find_1 : cX6_find.data.toList.drop 22 = dktX6_find_1 := dk_seg dksX6_find_0 22 rfl rfl
theorem dksX6_find_2 : cX6_find.data.toList.drop 46 = dktX6_find_2 := dk_seg dksX6_find_1 24 rfl rfl
theorem dksX6_find_3 : cX6_find.data.toList.drop 70 = dktX6_find_3 := dk_seg dksX6_find_2 24 rfl rfl
theorem dksX6_find_4 : cX6_find.data.toList.drop 93 = dktX6_find_4 := dk_seg dksX6_find_3 23 rfl rfl
theorem dksX6_find_5 : cX6_find.data.toList.drop 115 = dktX6_find_5 := dk_seg dksX6_find_4 22 rfl rfl
theorem dX6_find_0 : decode cX6_find 0 = .ok (.aload_n 0, 1) := dk_42 (dk_at dksX6_find_0 0 rfl rfl)
theorem dX6_find_1 : decode cX6_find 1 = .ok (.iconst 0, 1) := dk_3 (dk_at dksX6_find_0 1 rfl rfl)
theorem dX6_find_2 : decode cX6_find 2 = .ok (.putfield 72, 3) := dk_181 0 72 (dk_at dksX6_find_0 2 rfl rfl)
theorem dX6_find_5 : decode cX6_find 5 = .ok (.aload_n 0, 1) := dk_42 (dk_at dksX6_find_0 5 rfl rfl)
theorem dX6_find_6 : decode cX6_find 6 = .ok (.getfield 75, 3) := dk_180 0 75 (dk_at dksX6_find_0 6 rfl rfl)
theorem dX6_find_9 : decode cX6_find 9 = .ok (.ifCond .le 16, 3) := dk_158 0 16 (dk_at dksX6_find_0 9 rfl rfl)
theorem dX6_find_12 : decode cX6_find 12 = .ok (.aload_n 0, 1) := dk_42 (dk_at dksX6_find_0 12 rfl rfl)
theorem dX6_find_13 : decode cX6_find 13 = .ok (.getfield 75, 3) := dk_180 0 75 (dk_at dksX6_find_0 13 rfl rfl)
theorem dX6_find_16 : decode cX6_find 16 = .ok (.bipush 8, 2) := dk_16 8 (dk_at dksX6_find_0 16 rfl rfl)
theorem dX6_find_18 : decode cX6_find 18 = .ok (.if_icmp .gt 7, 3) := dk_163 0 7 (dk_at dksX6_find_0 18 rfl rfl)
theorem dX6_find_21 : decode cX6_find 21 = .ok (.iconst 1, 1) := dk_4 (dk_at dksX6_find_0 21 rfl rfl)
theorem dX6_find_22 : decode cX6_find 22 = .ok (.goto 4, 3) := dk_167 0 4 (dk_at dksX6_find_1 0 rfl rfl)
theorem dX6_find_25 : decode cX6_find 25 = .ok (.iconst 0, 1) := dk_3 (dk_at dksX6_find_1 3 rfl rfl)
theorem dX6_find_26 : decode cX6_find 26 = .ok (.istore_n 1, 1) := dk_60 (dk_at dksX6_find_1 4 rfl rfl)
theorem dX6_find_27 : decode cX6_find 27 = .ok (.iconst 0, 1) := dk_3 (dk_at dksX6_find_1 5 rfl rfl)
theorem dX6_find_28 : decode cX6_find 28 = .ok (.istore_n 2, 1) := dk_61 (dk_at dksX6_find_1 6 rfl rfl)
theorem dX6_find_29 : decode cX6_find 29 = .ok (.iload_n 2, 1) := dk_28 (dk_at dksX6_find_1 7 rfl rfl)
theorem dX6_find_30 : decode cX6_find 30 = .ok (.aload_n 0, 1) := dk_42 (dk_at dksX6_find_1 8 rfl rfl)
theorem dX6_find_31 : decode cX6_find 31 = .ok (.getfield 75, 3) := dk_180 0 75 (dk_at dksX6_find_1 9 rfl rfl)
theorem dX6_find_34 : decode cX6_find 34 = .ok (.if_icmp .ge 28, 3) := dk_162 0 28 (dk_at dksX6_find_1 12 rfl rfl)
theorem dX6_find_37 : decode cX6_find 37 = .ok (.iload_n 1, 1) := dk_27 (dk_at dksX6_find_1 15 rfl rfl)
theorem dX6_find_38 : decode cX6_find 38 = .ok (.ifCond .eq 24, 3) := dk_153 0 24 (dk_at dksX6_find_1 16 rfl rfl)
theorem dX6_find_41 : decode cX6_find 41 = .ok (.aload_n 0, 1) := dk_42 (dk_at dksX6_find_1 19 rfl rfl)
theorem dX6_find_42 : decode cX6_find 42 = .ok (.getfield 41, 3) := dk_180 0 41 (dk_at dksX6_find_1 20 rfl rfl)
theorem dX6_find_45 : decode cX6_find 45 = .ok (.iload_n 2, 1) := dk_28 (dk_at dksX6_find_1 23 rfl rfl)
theorem dX6_find_46 : decode cX6_find 46 = .ok (.iaload, 1) := dk_46 (dk_at dksX6_find_2 0 rfl rfl)
theorem dX6_find_47 : decode cX6_find 47 = .ok (.ifCond .eq 7, 3) := dk_153 0 7 (dk_at dksX6_find_2 1 rfl rfl)
theorem dX6_find_50 : decode cX6_find 50 = .ok (.iconst 1, 1) := dk_4 (dk_at dksX6_find_2 4 rfl rfl)
theorem dX6_find_51 : decode cX6_find 51 = .ok (.goto 4, 3) := dk_167 0 4 (dk_at dksX6_find_2 5 rfl rfl)
theorem dX6_find_54 : decode cX6_find 54 = .ok (.iconst 0, 1) := dk_3 (dk_at dksX6_find_2 8 rfl rfl)
theorem dX6_find_55 : decode cX6_find 55 = .ok (.istore_n 1, 1) := dk_60 (dk_at dksX6_find_2 9 rfl rfl)
theorem dX6_find_56 : decode cX6_find 56 = .ok (.iinc 2 1, 3) := dk_132 2 1 (dk_at dksX6_find_2 10 rfl rfl)
theorem dX6_find_59 : decode cX6_find 59 = .ok (.goto (-30), 3) := dk_167 255 226 (dk_at dksX6_find_2 13 rfl rfl)
theorem dX6_find_62 : decode cX6_find 62 = .ok (.iload_n 1, 1) := dk_27 (dk_at dksX6_find_2 16 rfl rfl)
theorem dX6_find_63 : decode cX6_find 63 = .ok (.ifCond .eq 26, 3) := dk_153 0 26 (dk_at dksX6_find_2 17 rfl rfl)
theorem dX6_find_66 : decode cX6_find 66 = .ok (.aload_n 0, 1) := dk_42 (dk_at dksX6_find_2 20 rfl rfl)
theorem dX6_find_67 : decode cX6_find 67 = .ok (.getfield 22, 3) := dk_180 0 22 (dk_at dksX6_find_2 21 rfl rfl)
theorem dX6_find_70 : decode cX6_find 70 = .ok (.aload_n 0, 1) := dk_42 (dk_at dksX6_find_3 0 rfl rfl)
theorem dX6_find_71 : decode cX6_find 71 = .ok (.getfield 207, 3) := dk_180 0 207 (dk_at dksX6_find_3 1 rfl rfl)
theorem dX6_find_74 : decode cX6_find 74 = .ok (.aload_n 0, 1) := dk_42 (dk_at dksX6_find_3 4 rfl rfl)
theorem dX6_find_75 : decode cX6_find 75 = .ok (.getfield 41, 3) := dk_180 0 41 (dk_at dksX6_find_3 5 rfl rfl)
theorem dX6_find_78 : decode cX6_find 78 = .ok (.iconst 0, 1) := dk_3 (dk_at dksX6_find_3 8 rfl rfl)
theorem dX6_find_79 : decode cX6_find 79 = .ok (.aload_n 0, 1) := dk_42 (dk_at dksX6_find_3 9 rfl rfl)
theorem dX6_find_80 : decode cX6_find 80 = .ok (.getfield 75, 3) := dk_180 0 75 (dk_at dksX6_find_3 10 rfl rfl)
theorem dX6_find_83 : decode cX6_find 83 = .ok (.invokestatic 143, 3) := dk_184 0 143 (dk_at dksX6_find_3 13 rfl rfl)
theorem dX6_find_86 : decode cX6_find 86 = .ok (.goto 4, 3) := dk_167 0 4 (dk_at dksX6_find_3 16 rfl rfl)
theorem dX6_find_89 : decode cX6_find 89 = .ok (.iconst (-1), 1) := dk_2 (dk_at dksX6_find_3 19 rfl rfl)
theorem dX6_find_90 : decode cX6_find 90 = .ok (.istore_n 2, 1) := dk_61 (dk_at dksX6_find_3 20 rfl rfl)
theorem dX6_find_91 : decode cX6_find 91 = .ok (.aload_n 0, 1) := dk_42 (dk_at dksX6_find_3 21 rfl rfl)
theorem dX6_find_92 : decode cX6_find 92 = .ok (.iconst 0, 1) := dk_3 (dk_at dksX6_find_3 22 rfl rfl)
theorem dX6_find_93 : decode cX6_find 93 = .ok (.putfield 75, 3) := dk_181 0 75 (dk_at dksX6_find_4 0 rfl rfl)
theorem dX6_find_96 : decode cX6_find 96 = .ok (.aload_n 0, 1) := dk_42 (dk_at dksX6_find_4 3 rfl rfl)
theorem dX6_find_97 : decode cX6_find 97 = .ok (.iload_n 2, 1) := dk_28 (dk_at dksX6_find_4 4 rfl rfl)
theorem dX6_find_98 : decode cX6_find 98 = .ok (.iconst (-1), 1) := dk_2 (dk_at dksX6_find_4 5 rfl rfl)
theorem dX6_find_99 : decode cX6_find 99 = .ok (.if_icmp .eq 7, 3) := dk_159 0 7 (dk_at dksX6_find_4 6 rfl rfl)
theorem dX6_find_102 : decode cX6_find 102 = .ok (.iconst 1, 1) := dk_4 (dk_at dksX6_find_4 9 rfl rfl)
theorem dX6_find_103 : decode cX6_find 103 = .ok (.goto 4, 3) := dk_167 0 4 (dk_at dksX6_find_4 10 rfl rfl)
theorem dX6_find_106 : decode cX6_find 106 = .ok (.iconst 0, 1) := dk_3 (dk_at dksX6_find_4 13 rfl rfl)
theorem dX6_find_107 : decode cX6_find 107 = .ok (.iconst 1, 1) := dk_4 (dk_at dksX6_find_4 14 rfl rfl)
theorem dX6_find_108 : decode cX6_find 108 = .ok (.invokevirtual 78, 3) := dk_182 0 78 (dk_at dksX6_find_4 15 rfl rfl)
theorem dX6_find_111 : decode cX6_find 111 = .ok (.ifCond .eq 7, 3) := dk_153 0 7 (dk_at dksX6_find_4 18 rfl rfl)
theorem dX6_find_114 : decode cX6_find 114 = .ok (.iload_n 2, 1) := dk_28 (dk_at dksX6_find_4 21 rfl rfl)
theorem dX6_find_115 : decode cX6_find 115 = .ok (.goto 4, 3) := dk_167 0 4 (dk_at dksX6_find_5 0 rfl rfl)
theorem dX6_find_118 : decode cX6_find 118 = .ok (.iconst 0, 1) := dk_3 (dk_at dksX6_find_5 3 rfl rfl)
theorem dX6_find_119 : decode cX6_find 119 = .ok (.ireturn, 1) := dk_172 (dk_at dksX6_find_5 4 rfl rfl)
def dkwX6_count_7 : List UInt8 := [42, 180, 0, 25, 16, 9, 46, 172, 42, 180, 0, 219, 172]
abbrev dktX6_count_7 : List UInt8 := dkwX6_count_7 ++ []
def dkwX6_count_6 : List UInt8 := [42, 180, 0, 25, 16, 6, 46, 172, 42, 180, 0, 25, 16, 7, 46, 172, 42, 180, 0, 25, 16, 8, 46, 172]
abbrev dktX6_count_6 : List UInt8 := dkwX6_count_6 ++ dktX6_count_7
def dkwX6_count_5 : List UInt8 := [46, 172, 42, 180, 0, 25, 16, 11, 46, 172, 42, 180, 0, 25, 7, 46, 172, 42, 180, 0, 25, 8, 46, 172]
abbrev dktX6_count_5 : List UInt8 := dkwX6_count_5 ++ dktX6_count_6
def dkwX6_count_4 : List UInt8 := [182, 1, 19, 153, 0, 7, 3, 167, 0, 4, 4, 172, 42, 180, 0, 25, 5, 46, 172, 42, 180, 0, 25, 6]
abbrev dktX6_count_4 : List UInt8 := dkwX6_count_4 ++ dktX6_count_5
def dkwX6_count_3 : List UInt8 := [42, 180, 0, 207, 172, 42, 180, 0, 210, 172, 42, 180, 0, 25, 3, 46, 172, 42, 42, 180, 0, 25]
abbrev dktX6_count_3 : List UInt8 := dkwX6_count_3 ++ dktX6_count_4
def dkwX6_count_2 : List UInt8 := [170, 0, 0, 0, 0, 0, 169, 0, 0, 0, 0, 0, 0, 0, 12, 0, 0, 0, 67, 0, 0, 0, 72, 0, 0, 0, 77, 0, 0, 0, 84, 0, 0, 0, 101, 0, 0, 0, 108, 0, 0, 0, 115, 0, 0, 0, 123, 0, 0, 0, 130, 0, 0, 0, 137, 0, 0, 0, 145, 0, 0, 0, 153, 0, 0, 0, 161]
abbrev dktX6_count_2 : List UInt8 := dkwX6_count_2 ++ dktX6_count_3
def dkwX6_count_1 : List UInt8 := [27]
abbrev dktX6_count_1 : List UInt8 := dkwX6_count_1 ++ dktX6_count_2
def dkwX6_count_0 : List UInt8 := [42, 3, 181, 0, 72, 42, 27, 133, 9, 20, 1, 43, 184, 0, 82, 4, 182, 0, 78, 154, 0, 5, 3, 172]
abbrev dktX6_count_0 : List UInt8 := dkwX6_count_0 ++ dktX6_count_1
theorem dksX6_count_0 : cX6_count.data.toList.drop 0 = dktX6_count_0 := by decide +kernel
theorem dksX6_count_1 : cX6_count.data.toList.drop 24 = dktX6_count_1 := dk_seg dksX6_count_0 24 rfl rfl
theorem dksX6_count_2 : cX6_count.data.toList.drop 25 = dktX6_count_2 := dk_seg dksX6_count_1 1 rfl rfl
theorem dksX6_count_3 : cX6_count.data.toList.drop 92 = dktX6_count_3 := dk_seg dksX6_count_2 67 rfl rfl
theorem dksX6_count_4 : cX6_count.data.toList.drop 114 = dktX6_count_4 := dk_seg dksX6_count_3 22 rfl rfl
theorem dksX6_count_5 : cX6_count.data.toList.drop 138 = dktX6_count_5 := dk_seg dksX6_count_4 24 rfl rfl
theorem dksX6_count_6 : cX6_count.data.toList.drop 162 = dktX6_count_6 := dk_seg dksX6_count_5 24 rfl rfl
theorem dksX6_count_7 : cX6_count.data.toList.drop 186 = dktX6_count_7 := dk_seg dksX6_count_6 24 rfl rfl
theorem dX6_count_0 : decode cX6_count 0 = .ok (.aload_n 0, 1) := dk_42 (dk_at dksX6_count_0 0 rfl rfl)
theorem dX6_count_1 : decode cX6_count 1 = .ok (.iconst 0, 1) := dk_3 (dk_at dksX6_count_0 1 rfl rfl)
theorem dX6_count_2 : decode cX6_count 2 = .ok (.putfield 72, 3) := dk_181 0 72 (dk_at dksX6_count_0 2 rfl rfl)
theorem dX6_count_5 : decode cX6_count 5 = .ok (.aload_n 0, 1) := dk_42 (dk_at dksX6_count_0 5 rfl rfl)
theorem dX6_count_6 : decode cX6_count 6 = .ok (.iload_n 1, 1) := dk_27 (dk_at dksX6_count_0 6 rfl rfl)
theorem dX6_count_7 : decode cX6_count 7 = .ok (.i2l, 1) := dk_133 (dk_at dksX6_count_0 7 rfl rfl)
theorem dX6_count_8 : decode cX6_count 8 = .ok (.lconst 0, 1) := dk_9 (dk_at dksX6_count_0 8 rfl rfl)
theorem dX6_count_9 : decode cX6_count 9 = .ok (.ldc2_w 299, 3) := dk_20 1 43 (dk_at dksX6_count_0 9 rfl rfl)
theorem dX6_count_12 : decode cX6_count 12 = .ok (.invokestatic 82, 3) := dk_184 0 82 (dk_at dksX6_count_0 12 rfl rfl)
theorem dX6_count_15 : decode cX6_count 15 = .ok (.iconst 1, 1) := dk_4 (dk_at dksX6_count_0 15 rfl rfl)
theorem dX6_count_16 : decode cX6_count 16 = .ok (.invokevirtual 78, 3) := dk_182 0 78 (dk_at dksX6_count_0 16 rfl rfl)
theorem dX6_count_19 : decode cX6_count 19 = .ok (.ifCond .ne 5, 3) := dk_154 0 5 (dk_at dksX6_count_0 19 rfl rfl)
theorem dX6_count_22 : decode cX6_count 22 = .ok (.iconst 0, 1) := dk_3 (dk_at dksX6_count_0 22 rfl rfl)
theorem dX6_count_23 : decode cX6_count 23 = .ok (.ireturn, 1) := dk_172 (dk_at dksX6_count_0 23 rfl rfl)
theorem dX6_count_24 : decode cX6_count 24 = .ok (.iload_n 1, 1) := dk_27 (dk_at dksX6_count_1 0 rfl rfl)
theorem dX6_count_25 : decode cX6_count 25 = .ok (.tableswitch 169 0 12 #[67, 72, 77, 84, 101, 108, 115, 123, 130, 137, 145, 153, 161], 67) := by decide +kernel
theorem dX6_count_92 : decode cX6_count 92 = .ok (.aload_n 0, 1) := dk_42 (dk_at dksX6_count_3 0 rfl rfl)
theorem dX6_count_93 : decode cX6_count 93 = .ok (.getfield 207, 3) := dk_180 0 207 (dk_at dksX6_count_3 1 rfl rfl)
theorem dX6_count_96 : decode cX6_count 96 = .ok (.ireturn, 1) := dk_172 (dk_at dksX6_count_3 4 rfl rfl)
theorem dX6_count_97 : decode cX6_count 97 = .ok (.aload_n 0, 1) := dk_42 (dk_at dksX6_count_3 5 rfl rfl)
theorem dX6_count_98 : decode cX6_count 98 = .ok (.getfield 210, 3) := dk_180 0 210 (dk_at dksX6_count_3 6 rfl rfl)
theorem dX6_count_101 : decode cX6_count 101 = .ok (.ireturn, 1) := dk_172 (dk_at dksX6_count_3 9 rfl rfl)
theorem dX6_count_102 : decode cX6_count 102 = .ok (.aload_n 0, 1) := dk_42 (dk_at dksX6_count_3 10 rfl rfl)
theorem dX6_count_103 : decode cX6_count 103 = .ok (.getfield 25, 3) := dk_180 0 25 (dk_at dksX6_count_3 11 rfl rfl)
theorem dX6_count_106 : decode cX6_count 106 = .ok (.iconst 0, 1) := dk_3 (dk_at dksX6_count_3 14 rfl rfl)
theorem dX6_count_107 : decode cX6_count 107 = .ok (.iaload, 1) := dk_46 (dk_at dksX6_count_3 15 rfl rfl)
theorem dX6_count_108 : decode cX6_count 108 = .ok (.ireturn, 1) := dk_172 (dk_at dksX6_count_3 16 rfl rfl)
theorem dX6_count_109 : decode cX6_count 109 = .ok (.aload_n 0, 1) := dk_42 (dk_at dksX6_count_3 17 rfl rfl)
theorem dX6_count_110 : decode cX6_count 110 = .ok (.aload_n 0, 1) := dk_42 (dk_at dksX6_count_3 18 rfl rfl)
theorem dX6_count_111 : decode cX6_count 111 = .ok (.getfield 25, 3) := dk_180 0 25 (dk_at dksX6_count_3 19 rfl rfl)
theorem dX6_count_114 : decode cX6_count 114 = .ok (.invokevirtual 275, 3) := dk_182 1 19 (dk_at dksX6_count_4 0 rfl rfl)
theorem dX6_count_117 : decode cX6_count 117 = .ok (.ifCond .eq 7, 3) := dk_153 0 7 (dk_at dksX6_count_4 3 rfl rfl)
theorem dX6_count_120 : decode cX6_count 120 = .ok (.iconst 0, 1) := dk_3 (dk_at dksX6_count_4 6 rfl rfl)
theorem dX6_count_121 : decode cX6_count 121 = .ok (.goto 4, 3) := dk_167 0 4 (dk_at dksX6_count_4 7 rfl rfl)
theorem dX6_count_124 : decode cX6_count 124 = .ok (.iconst 1, 1) := dk_4 (dk_at dksX6_count_4 10 rfl rfl)
theorem dX6_count_125 : decode cX6_count 125 = .ok (.ireturn, 1) := dk_172 (dk_at dksX6_count_4 11 rfl rfl)
theorem dX6_count_126 : decode cX6_count 126 = .ok (.aload_n 0, 1) := dk_42 (dk_at dksX6_count_4 12 rfl rfl)
theorem dX6_count_127 : decode cX6_count 127 = .ok (.getfield 25, 3) := dk_180 0 25 (dk_at dksX6_count_4 13 rfl rfl)
theorem dX6_count_130 : decode cX6_count 130 = .ok (.iconst 2, 1) := dk_5 (dk_at dksX6_count_4 16 rfl rfl)
theorem dX6_count_131 : decode cX6_count 131 = .ok (.iaload, 1) := dk_46 (dk_at dksX6_count_4 17 rfl rfl)
theorem dX6_count_132 : decode cX6_count 132 = .ok (.ireturn, 1) := dk_172 (dk_at dksX6_count_4 18 rfl rfl)
theorem dX6_count_133 : decode cX6_count 133 = .ok (.aload_n 0, 1) := dk_42 (dk_at dksX6_count_4 19 rfl rfl)
theorem dX6_count_134 : decode cX6_count 134 = .ok (.getfield 25, 3) := dk_180 0 25 (dk_at dksX6_count_4 20 rfl rfl)
theorem dX6_count_137 : decode cX6_count 137 = .ok (.iconst 3, 1) := dk_6 (dk_at dksX6_count_4 23 rfl rfl)
theorem dX6_count_138 : decode cX6_count 138 = .ok (.iaload, 1) := dk_46 (dk_at dksX6_count_5 0 rfl rfl)
theorem dX6_count_139 : decode cX6_count 139 = .ok (.ireturn, 1) := dk_172 (dk_at dksX6_count_5 1 rfl rfl)
theorem dX6_count_140 : decode cX6_count 140 = .ok (.aload_n 0, 1) := dk_42 (dk_at dksX6_count_5 2 rfl rfl)
theorem dX6_count_141 : decode cX6_count 141 = .ok (.getfield 25, 3) := dk_180 0 25 (dk_at dksX6_count_5 3 rfl rfl)
theorem dX6_count_144 : decode cX6_count 144 = .ok (.bipush 11, 2) := dk_16 11 (dk_at dksX6_count_5 6 rfl rfl)
theorem dX6_count_146 : decode cX6_count 146 = .ok (.iaload, 1) := dk_46 (dk_at dksX6_count_5 8 rfl rfl)
theorem dX6_count_147 : decode cX6_count 147 = .ok (.ireturn, 1) := dk_172 (dk_at dksX6_count_5 9 rfl rfl)
theorem dX6_count_148 : decode cX6_count 148 = .ok (.aload_n 0, 1) := dk_42 (dk_at dksX6_count_5 10 rfl rfl)
theorem dX6_count_149 : decode cX6_count 149 = .ok (.getfield 25, 3) := dk_180 0 25 (dk_at dksX6_count_5 11 rfl rfl)
theorem dX6_count_152 : decode cX6_count 152 = .ok (.iconst 4, 1) := dk_7 (dk_at dksX6_count_5 14 rfl rfl)
theorem dX6_count_153 : decode cX6_count 153 = .ok (.iaload, 1) := dk_46 (dk_at dksX6_count_5 15 rfl rfl)
theorem dX6_count_154 : decode cX6_count 154 = .ok (.ireturn, 1) := dk_172 (dk_at dksX6_count_5 16 rfl rfl)
theorem dX6_count_155 : decode cX6_count 155 = .ok (.aload_n 0, 1) := dk_42 (dk_at dksX6_count_5 17 rfl rfl)
theorem dX6_count_156 : decode cX6_count 156 = .ok (.getfield 25, 3) := dk_180 0 25 (dk_at dksX6_count_5 18 rfl rfl)
theorem dX6_count_159 : decode cX6_count 159 = .ok (.iconst 5, 1) := dk_8 (dk_at dksX6_count_5 21 rfl rfl)
theorem dX6_count_160 : decode cX6_count 160 = .ok (.iaload, 1) := dk_46 (dk_at dksX6_count_5 22 rfl rfl)
theorem dX6_count_161 : decode cX6_count 161 = .ok (.ireturn, 1) := dk_172 (dk_at dksX6_count_5 23 rfl rfl)
theorem dX6_count_162 : decode cX6_count 162 = .ok (.aload_n 0, 1) := dk_42 (dk_at dksX6_count_6 0 rfl rfl)
theorem dX6_count_163 : decode cX6_count 163 = .ok (.getfield 25, 3) := dk_180 0 25 (dk_at dksX6_count_6 1 rfl rfl)
theorem dX6_count_166 : decode cX6_count 166 = .ok (.bipush 6, 2) := dk_16 6 (dk_at dksX6_count_6 4 rfl rfl)
theorem dX6_count_168 : decode cX6_count 168 = .ok (.iaload, 1) := dk_46 (dk_at dksX6_count_6 6 rfl rfl)
theorem dX6_count_169 : decode cX6_count 169 = .ok (.ireturn, 1) := dk_172 (dk_at dksX6_count_6 7 rfl rfl)
theorem dX6_count_170 : decode cX6_count 170 = .ok (.aload_n 0, 1) := dk_42 (dk_at dksX6_count_6 8 rfl rfl)
theorem dX6_count_171 : decode cX6_count 171 = .ok (.getfield 25, 3) := dk_180 0 25 (dk_at dksX6_count_6 9 rfl rfl)
theorem dX6_count_174 : decode cX6_count 174 = .ok (.bipush 7, 2) := dk_16 7 (dk_at dksX6_count_6 12 rfl rfl)
theorem dX6_count_176 : decode cX6_count 176 = .ok (.iaload, 1) := dk_46 (dk_at dksX6_count_6 14 rfl rfl)
theorem dX6_count_177 : decode cX6_count 177 = .ok (.ireturn, 1) := dk_172 (dk_at dksX6_count_6 15 rfl rfl)
theorem dX6_count_178 : decode cX6_count 178 = .ok (.aload_n 0, 1) := dk_42 (dk_at dksX6_count_6 16 rfl rfl)
theorem dX6_count_179 : decode cX6_count 179 = .ok (.getfield 25, 3) := dk_180 0 25 (dk_at dksX6_count_6 17 rfl rfl)
theorem dX6_count_182 : decode cX6_count 182 = .ok (.bipush 8, 2) := dk_16 8 (dk_at dksX6_count_6 20 rfl rfl)
theorem dX6_count_184 : decode cX6_count 184 = .ok (.iaload, 1) := dk_46 (dk_at dksX6_count_6 22 rfl rfl)
theorem dX6_count_185 : decode cX6_count 185 = .ok (.ireturn, 1) := dk_172 (dk_at dksX6_count_6 23 rfl rfl)
theorem dX6_count_186 : decode cX6_count 186 = .ok (.aload_n 0, 1) := dk_42 (dk_at dksX6_count_7 0 rfl rfl)
theorem dX6_count_187 : decode cX6_count 187 = .ok (.getfield 25, 3) := dk_180 0 25 (dk_at dksX6_count_7 1 rfl rfl)
theorem dX6_count_190 : decode cX6_count 190 = .ok (.bipush 9, 2) := dk_16 9 (dk_at dksX6_count_7 4 rfl rfl)
theorem dX6_count_192 : decode cX6_count 192 = .ok (.iaload, 1) := dk_46 (dk_at dksX6_count_7 6 rfl rfl)
theorem dX6_count_193 : decode cX6_count 193 = .ok (.ireturn, 1) := dk_172 (dk_at dksX6_count_7 7 rfl rfl)
theorem dX6_count_194 : decode cX6_count 194 = .ok (.aload_n 0, 1) := dk_42 (dk_at dksX6_count_7 8 rfl rfl)
theorem dX6_count_195 : decode cX6_count 195 = .ok (.getfield 219, 3) := dk_180 0 219 (dk_at dksX6_count_7 9 rfl rfl)
theorem dX6_count_198 : decode cX6_count 198 = .ok (.ireturn, 1) := dk_172 (dk_at dksX6_count_7 12 rfl rfl)
def dkwX6_isDark_0 : List UInt8 := [43, 3, 46, 43, 4, 46, 162, 0, 7, 4, 167, 0, 4, 3, 172]
abbrev dktX6_isDark_0 : List UInt8 := dkwX6_isDark_0 ++ []
theorem dksX6_isDark_0 : cX6_isDark.data.toList.drop 0 = dktX6_isDark_0 := by decide +kernel
theorem dX6_isDark_0 : decode cX6_isDark 0 = .ok (.aload_n 1, 1) := dk_43 (dk_at dksX6_isDark_0 0 rfl rfl)
theorem dX6_isDark_1 : decode cX6_isDark 1 = .ok (.iconst 0, 1) := dk_3 (dk_at dksX6_isDark_0 1 rfl rfl)
theorem dX6_isDark_2 : decode cX6_isDark 2 = .ok (.iaload, 1) := dk_46 (dk_at dksX6_isDark_0 2 rfl rfl)
theorem dX6_isDark_3 : decode cX6_isDark 3 = .ok (.aload_n 1, 1) := dk_43 (dk_at dksX6_isDark_0 3 rfl rfl)
theorem dX6_isDark_4 : decode cX6_isDark 4 = .ok (.iconst 1, 1) := dk_4 (dk_at dksX6_isDark_0 4 rfl rfl)
theorem dX6_isDark_5 : decode cX6_isDark 5 = .ok (.iaload, 1) := dk_46 (dk_at dksX6_isDark_0 5 rfl rfl)
theorem dX6_isDark_6 : decode cX6_isDark 6 = .ok (.if_icmp .ge 7, 3) := dk_162 0 7 (dk_at dksX6_isDark_0 6 rfl rfl)
theorem dX6_isDark_9 : decode cX6_isDark 9 = .ok (.iconst 1, 1) := dk_4 (dk_at dksX6_isDark_0 9 rfl rfl)
theorem dX6_isDark_10 : decode cX6_isDark 10 = .ok (.goto 4, 3) := dk_167 0 4 (dk_at dksX6_isDark_0 10 rfl rfl)
theorem dX6_isDark_13 : decode cX6_isDark 13 = .ok (.iconst 0, 1) := dk_3 (dk_at dksX6_isDark_0 13 rfl rfl)
theorem dX6_isDark_14 : decode cX6_isDark 14 = .ok (.ireturn, 1) := dk_172 (dk_at dksX6_isDark_0 14 rfl rfl)
def dkwX6_outlet_2 : List UInt8 := [7, 27, 104, 28, 96, 46, 167, 0, 15, 42, 180, 0, 25, 27, 28, 7, 100, 184, 0, 157, 46, 172]
abbrev dktX6_outlet_2 : List UInt8 := dkwX6_outlet_2 ++ []
def dkwX6_outlet_1 : List UInt8 := [20, 1, 48, 184, 0, 82, 5, 182, 0, 78, 154, 0, 5, 3, 172, 28, 7, 162, 0, 16, 42, 180, 0, 7]
abbrev dktX6_outlet_1 : List UInt8 := dkwX6_outlet_1 ++ dktX6_outlet_2
def dkwX6_outlet_0 : List UInt8 := [42, 3, 181, 0, 72, 42, 42, 27, 182, 1, 45, 4, 182, 0, 78, 153, 0, 20, 42, 28, 133, 9]
abbrev dktX6_outlet_0 : List UInt8 := dkwX6_outlet_0 ++ dktX6_outlet_1
theorem dksX6_outlet_0 : cX6_outlet.data.toList.drop 0 = dktX6_outlet_0 := by decide +kernel
theorem dksX6_outlet_1 : cX6_outlet.data.toList.drop 22 = dktX6_outlet_1 := dk_seg dksX6_outlet_0 22 rfl rfl
theorem dksX6_outlet_2 : cX6_outlet.data.toList.drop 46 = dktX6_outlet_2 := dk_seg dksX6_outlet_1 24 rfl rfl
theorem dX6_outlet_0 : decode cX6_outlet 0 = .ok (.aload_n 0, 1) := dk_42 (dk_at dksX6_outlet_0 0 rfl rfl)
theorem dX6_outlet_1 : decode cX6_outlet 1 = .ok (.iconst 0, 1) := dk_3 (dk_at dksX6_outlet_0 1 rfl rfl)
theorem dX6_outlet_2 : decode cX6_outlet 2 = .ok (.putfield 72, 3) := dk_181 0 72 (dk_at dksX6_outlet_0 2 rfl rfl)
theorem dX6_outlet_5 : decode cX6_outlet 5 = .ok (.aload_n 0, 1) := dk_42 (dk_at dksX6_outlet_0 5 rfl rfl)
theorem dX6_outlet_6 : decode cX6_outlet 6 = .ok (.aload_n 0, 1) := dk_42 (dk_at dksX6_outlet_0 6 rfl rfl)
theorem dX6_outlet_7 : decode cX6_outlet 7 = .ok (.iload_n 1, 1) := dk_27 (dk_at dksX6_outlet_0 7 rfl rfl)
theorem dX6_outlet_8 : decode cX6_outlet 8 = .ok (.invokevirtual 301, 3) := dk_182 1 45 (dk_at dksX6_outlet_0 8 rfl rfl)
theorem dX6_outlet_11 : decode cX6_outlet 11 = .ok (.iconst 1, 1) := dk_4 (dk_at dksX6_outlet_0 11 rfl rfl)
theorem dX6_outlet_12 : decode cX6_outlet 12 = .ok (.invokevirtual 78, 3) := dk_182 0 78 (dk_at dksX6_outlet_0 12 rfl rfl)
theorem dX6_outlet_15 : decode cX6_outlet 15 = .ok (.ifCond .eq 20, 3) := dk_153 0 20 (dk_at dksX6_outlet_0 15 rfl rfl)
theorem dX6_outlet_18 : decode cX6_outlet 18 = .ok (.aload_n 0, 1) := dk_42 (dk_at dksX6_outlet_0 18 rfl rfl)
theorem dX6_outlet_19 : decode cX6_outlet 19 = .ok (.iload_n 2, 1) := dk_28 (dk_at dksX6_outlet_0 19 rfl rfl)
theorem dX6_outlet_20 : decode cX6_outlet 20 = .ok (.i2l, 1) := dk_133 (dk_at dksX6_outlet_0 20 rfl rfl)
theorem dX6_outlet_21 : decode cX6_outlet 21 = .ok (.lconst 0, 1) := dk_9 (dk_at dksX6_outlet_0 21 rfl rfl)
theorem dX6_outlet_22 : decode cX6_outlet 22 = .ok (.ldc2_w 304, 3) := dk_20 1 48 (dk_at dksX6_outlet_1 0 rfl rfl)
theorem dX6_outlet_25 : decode cX6_outlet 25 = .ok (.invokestatic 82, 3) := dk_184 0 82 (dk_at dksX6_outlet_1 3 rfl rfl)
theorem dX6_outlet_28 : decode cX6_outlet 28 = .ok (.iconst 2, 1) := dk_5 (dk_at dksX6_outlet_1 6 rfl rfl)
theorem dX6_outlet_29 : decode cX6_outlet 29 = .ok (.invokevirtual 78, 3) := dk_182 0 78 (dk_at dksX6_outlet_1 7 rfl rfl)
theorem dX6_outlet_32 : decode cX6_outlet 32 = .ok (.ifCond .ne 5, 3) := dk_154 0 5 (dk_at dksX6_outlet_1 10 rfl rfl)
theorem dX6_outlet_35 : decode cX6_outlet 35 = .ok (.iconst 0, 1) := dk_3 (dk_at dksX6_outlet_1 13 rfl rfl)
theorem dX6_outlet_36 : decode cX6_outlet 36 = .ok (.ireturn, 1) := dk_172 (dk_at dksX6_outlet_1 14 rfl rfl)
theorem dX6_outlet_37 : decode cX6_outlet 37 = .ok (.iload_n 2, 1) := dk_28 (dk_at dksX6_outlet_1 15 rfl rfl)
theorem dX6_outlet_38 : decode cX6_outlet 38 = .ok (.iconst 4, 1) := dk_7 (dk_at dksX6_outlet_1 16 rfl rfl)
theorem dX6_outlet_39 : decode cX6_outlet 39 = .ok (.if_icmp .ge 16, 3) := dk_162 0 16 (dk_at dksX6_outlet_1 17 rfl rfl)
theorem dX6_outlet_42 : decode cX6_outlet 42 = .ok (.aload_n 0, 1) := dk_42 (dk_at dksX6_outlet_1 20 rfl rfl)
theorem dX6_outlet_43 : decode cX6_outlet 43 = .ok (.getfield 7, 3) := dk_180 0 7 (dk_at dksX6_outlet_1 21 rfl rfl)
theorem dX6_outlet_46 : decode cX6_outlet 46 = .ok (.iconst 4, 1) := dk_7 (dk_at dksX6_outlet_2 0 rfl rfl)
theorem dX6_outlet_47 : decode cX6_outlet 47 = .ok (.iload_n 1, 1) := dk_27 (dk_at dksX6_outlet_2 1 rfl rfl)
theorem dX6_outlet_48 : decode cX6_outlet 48 = .ok (.imul, 1) := dk_104 (dk_at dksX6_outlet_2 2 rfl rfl)
theorem dX6_outlet_49 : decode cX6_outlet 49 = .ok (.iload_n 2, 1) := dk_28 (dk_at dksX6_outlet_2 3 rfl rfl)
theorem dX6_outlet_50 : decode cX6_outlet 50 = .ok (.iadd, 1) := dk_96 (dk_at dksX6_outlet_2 4 rfl rfl)
theorem dX6_outlet_51 : decode cX6_outlet 51 = .ok (.iaload, 1) := dk_46 (dk_at dksX6_outlet_2 5 rfl rfl)
theorem dX6_outlet_52 : decode cX6_outlet 52 = .ok (.goto 15, 3) := dk_167 0 15 (dk_at dksX6_outlet_2 6 rfl rfl)
theorem dX6_outlet_55 : decode cX6_outlet 55 = .ok (.aload_n 0, 1) := dk_42 (dk_at dksX6_outlet_2 9 rfl rfl)
theorem dX6_outlet_56 : decode cX6_outlet 56 = .ok (.getfield 25, 3) := dk_180 0 25 (dk_at dksX6_outlet_2 10 rfl rfl)
theorem dX6_outlet_59 : decode cX6_outlet 59 = .ok (.iload_n 1, 1) := dk_27 (dk_at dksX6_outlet_2 13 rfl rfl)
theorem dX6_outlet_60 : decode cX6_outlet 60 = .ok (.iload_n 2, 1) := dk_28 (dk_at dksX6_outlet_2 14 rfl rfl)
theorem dX6_outlet_61 : decode cX6_outlet 61 = .ok (.iconst 4, 1) := dk_7 (dk_at dksX6_outlet_2 15 rfl rfl)
theorem dX6_outlet_62 : decode cX6_outlet 62 = .ok (.isub, 1) := dk_100 (dk_at dksX6_outlet_2 16 rfl rfl)
theorem dX6_outlet_63 : decode cX6_outlet 63 = .ok (.invokestatic 157, 3) := dk_184 0 157 (dk_at dksX6_outlet_2 17 rfl rfl)
theorem dX6_outlet_66 : decode cX6_outlet 66 = .ok (.iaload, 1) := dk_46 (dk_at dksX6_outlet_2 20 rfl rfl)
theorem dX6_outlet_67 : decode cX6_outlet 67 = .ok (.ireturn, 1) := dk_172 (dk_at dksX6_outlet_2 21 rfl rfl)
def dkwX6_isOutlet_0 : List UInt8 := [27, 133, 9, 42, 180, 0, 207, 4, 100, 133, 184, 0, 82, 172]
abbrev dktX6_isOutlet_0 : List UInt8 := dkwX6_isOutlet_0 ++ []
theorem dksX6_isOutlet_0 : cX6_isOutlet.data.toList.drop 0 = dktX6_isOutlet_0 := by decide +kernel
theorem dX6_isOutlet_0 : decode cX6_isOutlet 0 = .ok (.iload_n 1, 1) := dk_27 (dk_at dksX6_isOutlet_0 0 rfl rfl)
theorem dX6_isOutlet_1 : decode cX6_isOutlet 1 = .ok (.i2l, 1) := dk_133 (dk_at dksX6_isOutlet_0 1 rfl rfl)
theorem dX6_isOutlet_2 : decode cX6_isOutlet 2 = .ok (.lconst 0, 1) := dk_9 (dk_at dksX6_isOutlet_0 2 rfl rfl)
theorem dX6_isOutlet_3 : decode cX6_isOutlet 3 = .ok (.aload_n 0, 1) := dk_42 (dk_at dksX6_isOutlet_0 3 rfl rfl)
theorem dX6_isOutlet_4 : decode cX6_isOutlet 4 = .ok (.getfield 207, 3) := dk_180 0 207 (dk_at dksX6_isOutlet_0 4 rfl rfl)
theorem dX6_isOutlet_7 : decode cX6_isOutlet 7 = .ok (.iconst 1, 1) := dk_4 (dk_at dksX6_isOutlet_0 7 rfl rfl)
theorem dX6_isOutlet_8 : decode cX6_isOutlet 8 = .ok (.isub, 1) := dk_100 (dk_at dksX6_isOutlet_0 8 rfl rfl)
theorem dX6_isOutlet_9 : decode cX6_isOutlet 9 = .ok (.i2l, 1) := dk_133 (dk_at dksX6_isOutlet_0 9 rfl rfl)
theorem dX6_isOutlet_10 : decode cX6_isOutlet 10 = .ok (.invokestatic 82, 3) := dk_184 0 82 (dk_at dksX6_isOutlet_0 10 rfl rfl)
theorem dX6_isOutlet_13 : decode cX6_isOutlet 13 = .ok (.ireturn, 1) := dk_172 (dk_at dksX6_isOutlet_0 13 rfl rfl)
def dkwX6_known_5 : List UInt8 := [180, 0, 25, 27, 182, 1, 1, 172, 42, 180, 0, 25, 27, 16, 11, 184, 0, 157, 46, 172]
abbrev dktX6_known_5 : List UInt8 := dkwX6_known_5 ++ []
def dkwX6_known_4 : List UInt8 := [42, 42, 180, 0, 25, 27, 182, 0, 235, 172, 42, 42, 180, 0, 25, 27, 182, 0, 238, 172, 42, 42]
abbrev dktX6_known_4 : List UInt8 := dkwX6_known_4 ++ dktX6_known_5
def dkwX6_known_3 : List UInt8 := [42, 180, 0, 25, 27, 16, 9, 184, 0, 157, 46, 172, 42, 180, 0, 25, 27, 16, 10, 184, 0, 157, 46, 172]
abbrev dktX6_known_3 : List UInt8 := dkwX6_known_3 ++ dktX6_known_4
def dkwX6_known_2 : List UInt8 := [170, 0, 0, 0, 0, 88, 0, 0, 0, 0, 0, 0, 0, 4, 0, 0, 0, 34, 0, 0, 0, 46, 0, 0, 0, 58, 0, 0, 0, 68, 0, 0, 0, 78]
abbrev dktX6_known_2 : List UInt8 := dkwX6_known_2 ++ dktX6_known_3
def dkwX6_known_1 : List UInt8 := [20, 1, 50, 184, 0, 82, 5, 182, 0, 78, 154, 0, 5, 3, 172, 28]
abbrev dktX6_known_1 : List UInt8 := dkwX6_known_1 ++ dktX6_known_2
def dkwX6_known_0 : List UInt8 := [42, 3, 181, 0, 72, 42, 42, 27, 182, 1, 45, 4, 182, 0, 78, 153, 0, 20, 42, 28, 133, 9]
abbrev dktX6_known_0 : List UInt8 := dkwX6_known_0 ++ dktX6_known_1
theorem dksX6_known_0 : cX6_known.data.toList.drop 0 = dktX6_known_0 := by decide +kernel
theorem dksX6_known_1 : cX6_known.data.toList.drop 22 = dktX6_known_1 := dk_seg dksX6_known_0 22 rfl rfl
theorem dksX6_known_2 : cX6_known.data.toList.drop 38 = dktX6_known_2 := dk_seg dksX6_known_1 16 rfl rfl
theorem dksX6_known_3 : cX6_known.data.toList.drop 72 = dktX6_known_3 := dk_seg dksX6_known_2 34 rfl rfl
theorem dksX6_known_4 : cX6_known.data.toList.drop 96 = dktX6_known_4 := dk_seg dksX6_known_3 24 rfl rfl
theorem dksX6_known_5 : cX6_known.data.toList.drop 118 = dktX6_known_5 := dk_seg dksX6_known_4 22 rfl rfl
theorem dX6_known_0 : decode cX6_known 0 = .ok (.aload_n 0, 1) := dk_42 (dk_at dksX6_known_0 0 rfl rfl)
theorem dX6_known_1 : decode cX6_known 1 = .ok (.iconst 0, 1) := dk_3 (dk_at dksX6_known_0 1 rfl rfl)
theorem dX6_known_2 : decode cX6_known 2 = .ok (.putfield 72, 3) := dk_181 0 72 (dk_at dksX6_known_0 2 rfl rfl)
theorem dX6_known_5 : decode cX6_known 5 = .ok (.aload_n 0, 1) := dk_42 (dk_at dksX6_known_0 5 rfl rfl)
theorem dX6_known_6 : decode cX6_known 6 = .ok (.aload_n 0, 1) := dk_42 (dk_at dksX6_known_0 6 rfl rfl)
theorem dX6_known_7 : decode cX6_known 7 = .ok (.iload_n 1, 1) := dk_27 (dk_at dksX6_known_0 7 rfl rfl)
theorem dX6_known_8 : decode cX6_known 8 = .ok (.invokevirtual 301, 3) := dk_182 1 45 (dk_at dksX6_known_0 8 rfl rfl)
theorem dX6_known_11 : decode cX6_known 11 = .ok (.iconst 1, 1) := dk_4 (dk_at dksX6_known_0 11 rfl rfl)
theorem dX6_known_12 : decode cX6_known 12 = .ok (.invokevirtual 78, 3) := dk_182 0 78 (dk_at dksX6_known_0 12 rfl rfl)
theorem dX6_known_15 : decode cX6_known 15 = .ok (.ifCond .eq 20, 3) := dk_153 0 20 (dk_at dksX6_known_0 15 rfl rfl)
theorem dX6_known_18 : decode cX6_known 18 = .ok (.aload_n 0, 1) := dk_42 (dk_at dksX6_known_0 18 rfl rfl)
theorem dX6_known_19 : decode cX6_known 19 = .ok (.iload_n 2, 1) := dk_28 (dk_at dksX6_known_0 19 rfl rfl)
theorem dX6_known_20 : decode cX6_known 20 = .ok (.i2l, 1) := dk_133 (dk_at dksX6_known_0 20 rfl rfl)
theorem dX6_known_21 : decode cX6_known 21 = .ok (.lconst 0, 1) := dk_9 (dk_at dksX6_known_0 21 rfl rfl)
theorem dX6_known_22 : decode cX6_known 22 = .ok (.ldc2_w 306, 3) := dk_20 1 50 (dk_at dksX6_known_1 0 rfl rfl)
theorem dX6_known_25 : decode cX6_known 25 = .ok (.invokestatic 82, 3) := dk_184 0 82 (dk_at dksX6_known_1 3 rfl rfl)
theorem dX6_known_28 : decode cX6_known 28 = .ok (.iconst 2, 1) := dk_5 (dk_at dksX6_known_1 6 rfl rfl)
theorem dX6_known_29 : decode cX6_known 29 = .ok (.invokevirtual 78, 3) := dk_182 0 78 (dk_at dksX6_known_1 7 rfl rfl)
theorem dX6_known_32 : decode cX6_known 32 = .ok (.ifCond .ne 5, 3) := dk_154 0 5 (dk_at dksX6_known_1 10 rfl rfl)
theorem dX6_known_35 : decode cX6_known 35 = .ok (.iconst 0, 1) := dk_3 (dk_at dksX6_known_1 13 rfl rfl)
theorem dX6_known_36 : decode cX6_known 36 = .ok (.ireturn, 1) := dk_172 (dk_at dksX6_known_1 14 rfl rfl)
theorem dX6_known_37 : decode cX6_known 37 = .ok (.iload_n 2, 1) := dk_28 (dk_at dksX6_known_1 15 rfl rfl)
theorem dX6_known_38 : decode cX6_known 38 = .ok (.tableswitch 88 0 4 #[34, 46, 58, 68, 78], 34) := by decide +kernel
theorem dX6_known_72 : decode cX6_known 72 = .ok (.aload_n 0, 1) := dk_42 (dk_at dksX6_known_3 0 rfl rfl)
theorem dX6_known_73 : decode cX6_known 73 = .ok (.getfield 25, 3) := dk_180 0 25 (dk_at dksX6_known_3 1 rfl rfl)
theorem dX6_known_76 : decode cX6_known 76 = .ok (.iload_n 1, 1) := dk_27 (dk_at dksX6_known_3 4 rfl rfl)
theorem dX6_known_77 : decode cX6_known 77 = .ok (.bipush 9, 2) := dk_16 9 (dk_at dksX6_known_3 5 rfl rfl)
theorem dX6_known_79 : decode cX6_known 79 = .ok (.invokestatic 157, 3) := dk_184 0 157 (dk_at dksX6_known_3 7 rfl rfl)
theorem dX6_known_82 : decode cX6_known 82 = .ok (.iaload, 1) := dk_46 (dk_at dksX6_known_3 10 rfl rfl)
theorem dX6_known_83 : decode cX6_known 83 = .ok (.ireturn, 1) := dk_172 (dk_at dksX6_known_3 11 rfl rfl)
theorem dX6_known_84 : decode cX6_known 84 = .ok (.aload_n 0, 1) := dk_42 (dk_at dksX6_known_3 12 rfl rfl)
theorem dX6_known_85 : decode cX6_known 85 = .ok (.getfield 25, 3) := dk_180 0 25 (dk_at dksX6_known_3 13 rfl rfl)
theorem dX6_known_88 : decode cX6_known 88 = .ok (.iload_n 1, 1) := dk_27 (dk_at dksX6_known_3 16 rfl rfl)
theorem dX6_known_89 : decode cX6_known 89 = .ok (.bipush 10, 2) := dk_16 10 (dk_at dksX6_known_3 17 rfl rfl)
theorem dX6_known_91 : decode cX6_known 91 = .ok (.invokestatic 157, 3) := dk_184 0 157 (dk_at dksX6_known_3 19 rfl rfl)
theorem dX6_known_94 : decode cX6_known 94 = .ok (.iaload, 1) := dk_46 (dk_at dksX6_known_3 22 rfl rfl)
theorem dX6_known_95 : decode cX6_known 95 = .ok (.ireturn, 1) := dk_172 (dk_at dksX6_known_3 23 rfl rfl)
theorem dX6_known_96 : decode cX6_known 96 = .ok (.aload_n 0, 1) := dk_42 (dk_at dksX6_known_4 0 rfl rfl)
theorem dX6_known_97 : decode cX6_known 97 = .ok (.aload_n 0, 1) := dk_42 (dk_at dksX6_known_4 1 rfl rfl)
theorem dX6_known_98 : decode cX6_known 98 = .ok (.getfield 25, 3) := dk_180 0 25 (dk_at dksX6_known_4 2 rfl rfl)
theorem dX6_known_101 : decode cX6_known 101 = .ok (.iload_n 1, 1) := dk_27 (dk_at dksX6_known_4 5 rfl rfl)
theorem dX6_known_102 : decode cX6_known 102 = .ok (.invokevirtual 235, 3) := dk_182 0 235 (dk_at dksX6_known_4 6 rfl rfl)
theorem dX6_known_105 : decode cX6_known 105 = .ok (.ireturn, 1) := dk_172 (dk_at dksX6_known_4 9 rfl rfl)
theorem dX6_known_106 : decode cX6_known 106 = .ok (.aload_n 0, 1) := dk_42 (dk_at dksX6_known_4 10 rfl rfl)
theorem dX6_known_107 : decode cX6_known 107 = .ok (.aload_n 0, 1) := dk_42 (dk_at dksX6_known_4 11 rfl rfl)
theorem dX6_known_108 : decode cX6_known 108 = .ok (.getfield 25, 3) := dk_180 0 25 (dk_at dksX6_known_4 12 rfl rfl)
theorem dX6_known_111 : decode cX6_known 111 = .ok (.iload_n 1, 1) := dk_27 (dk_at dksX6_known_4 15 rfl rfl)
theorem dX6_known_112 : decode cX6_known 112 = .ok (.invokevirtual 238, 3) := dk_182 0 238 (dk_at dksX6_known_4 16 rfl rfl)
theorem dX6_known_115 : decode cX6_known 115 = .ok (.ireturn, 1) := dk_172 (dk_at dksX6_known_4 19 rfl rfl)
theorem dX6_known_116 : decode cX6_known 116 = .ok (.aload_n 0, 1) := dk_42 (dk_at dksX6_known_4 20 rfl rfl)
theorem dX6_known_117 : decode cX6_known 117 = .ok (.aload_n 0, 1) := dk_42 (dk_at dksX6_known_4 21 rfl rfl)
theorem dX6_known_118 : decode cX6_known 118 = .ok (.getfield 25, 3) := dk_180 0 25 (dk_at dksX6_known_5 0 rfl rfl)
theorem dX6_known_121 : decode cX6_known 121 = .ok (.iload_n 1, 1) := dk_27 (dk_at dksX6_known_5 3 rfl rfl)
theorem dX6_known_122 : decode cX6_known 122 = .ok (.invokevirtual 257, 3) := dk_182 1 1 (dk_at dksX6_known_5 4 rfl rfl)
theorem dX6_known_125 : decode cX6_known 125 = .ok (.ireturn, 1) := dk_172 (dk_at dksX6_known_5 7 rfl rfl)
theorem dX6_known_126 : decode cX6_known 126 = .ok (.aload_n 0, 1) := dk_42 (dk_at dksX6_known_5 8 rfl rfl)
theorem dX6_known_127 : decode cX6_known 127 = .ok (.getfield 25, 3) := dk_180 0 25 (dk_at dksX6_known_5 9 rfl rfl)
theorem dX6_known_130 : decode cX6_known 130 = .ok (.iload_n 1, 1) := dk_27 (dk_at dksX6_known_5 12 rfl rfl)
theorem dX6_known_131 : decode cX6_known 131 = .ok (.bipush 11, 2) := dk_16 11 (dk_at dksX6_known_5 13 rfl rfl)
theorem dX6_known_133 : decode cX6_known 133 = .ok (.invokestatic 157, 3) := dk_184 0 157 (dk_at dksX6_known_5 15 rfl rfl)
theorem dX6_known_136 : decode cX6_known 136 = .ok (.iaload, 1) := dk_46 (dk_at dksX6_known_5 18 rfl rfl)
theorem dX6_known_137 : decode cX6_known 137 = .ok (.ireturn, 1) := dk_172 (dk_at dksX6_known_5 19 rfl rfl)
def dkwX6_expected_1 : List UInt8 := [182, 0, 232, 172]
abbrev dktX6_expected_1 : List UInt8 := dkwX6_expected_1 ++ []
def dkwX6_expected_0 : List UInt8 := [43, 28, 16, 11, 184, 0, 157, 46, 4, 160, 0, 11, 42, 28, 182, 0, 222, 167, 0, 8, 42, 28]
abbrev dktX6_expected_0 : List UInt8 := dkwX6_expected_0 ++ dktX6_expected_1
theorem dksX6_expected_0 : cX6_expected.data.toList.drop 0 = dktX6_expected_0 := by decide +kernel
theorem dksX6_expected_1 : cX6_expected.data.toList.drop 22 = dktX6_expected_1 := dk_seg dksX6_expected_0 22 rfl rfl
theorem dX6_expected_0 : decode cX6_expected 0 = .ok (.aload_n 1, 1) := dk_43 (dk_at dksX6_expected_0 0 rfl rfl)
theorem dX6_expected_1 : decode cX6_expected 1 = .ok (.iload_n 2, 1) := dk_28 (dk_at dksX6_expected_0 1 rfl rfl)
theorem dX6_expected_2 : decode cX6_expected 2 = .ok (.bipush 11, 2) := dk_16 11 (dk_at dksX6_expected_0 2 rfl rfl)
theorem dX6_expected_4 : decode cX6_expected 4 = .ok (.invokestatic 157, 3) := dk_184 0 157 (dk_at dksX6_expected_0 4 rfl rfl)
theorem dX6_expected_7 : decode cX6_expected 7 = .ok (.iaload, 1) := dk_46 (dk_at dksX6_expected_0 7 rfl rfl)
theorem dX6_expected_8 : decode cX6_expected 8 = .ok (.iconst 1, 1) := dk_4 (dk_at dksX6_expected_0 8 rfl rfl)
theorem dX6_expected_9 : decode cX6_expected 9 = .ok (.if_icmp .ne 11, 3) := dk_160 0 11 (dk_at dksX6_expected_0 9 rfl rfl)
theorem dX6_expected_12 : decode cX6_expected 12 = .ok (.aload_n 0, 1) := dk_42 (dk_at dksX6_expected_0 12 rfl rfl)
theorem dX6_expected_13 : decode cX6_expected 13 = .ok (.iload_n 2, 1) := dk_28 (dk_at dksX6_expected_0 13 rfl rfl)
theorem dX6_expected_14 : decode cX6_expected 14 = .ok (.invokevirtual 222, 3) := dk_182 0 222 (dk_at dksX6_expected_0 14 rfl rfl)
theorem dX6_expected_17 : decode cX6_expected 17 = .ok (.goto 8, 3) := dk_167 0 8 (dk_at dksX6_expected_0 17 rfl rfl)
theorem dX6_expected_20 : decode cX6_expected 20 = .ok (.aload_n 0, 1) := dk_42 (dk_at dksX6_expected_0 20 rfl rfl)
theorem dX6_expected_21 : decode cX6_expected 21 = .ok (.iload_n 2, 1) := dk_28 (dk_at dksX6_expected_0 21 rfl rfl)
theorem dX6_expected_22 : decode cX6_expected 22 = .ok (.invokevirtual 232, 3) := dk_182 0 232 (dk_at dksX6_expected_1 0 rfl rfl)
theorem dX6_expected_25 : decode cX6_expected 25 = .ok (.ireturn, 1) := dk_172 (dk_at dksX6_expected_1 3 rfl rfl)
def dkwX6_peak_0 : List UInt8 := [42, 180, 0, 7, 7, 27, 104, 5, 96, 46, 172]
abbrev dktX6_peak_0 : List UInt8 := dkwX6_peak_0 ++ []
theorem dksX6_peak_0 : cX6_peak.data.toList.drop 0 = dktX6_peak_0 := by decide +kernel
theorem dX6_peak_0 : decode cX6_peak 0 = .ok (.aload_n 0, 1) := dk_42 (dk_at dksX6_peak_0 0 rfl rfl)
theorem dX6_peak_1 : decode cX6_peak 1 = .ok (.getfield 7, 3) := dk_180 0 7 (dk_at dksX6_peak_0 1 rfl rfl)
theorem dX6_peak_4 : decode cX6_peak 4 = .ok (.iconst 4, 1) := dk_7 (dk_at dksX6_peak_0 4 rfl rfl)
theorem dX6_peak_5 : decode cX6_peak 5 = .ok (.iload_n 1, 1) := dk_27 (dk_at dksX6_peak_0 5 rfl rfl)
theorem dX6_peak_6 : decode cX6_peak 6 = .ok (.imul, 1) := dk_104 (dk_at dksX6_peak_0 6 rfl rfl)
theorem dX6_peak_7 : decode cX6_peak 7 = .ok (.iconst 2, 1) := dk_5 (dk_at dksX6_peak_0 7 rfl rfl)
theorem dX6_peak_8 : decode cX6_peak 8 = .ok (.iadd, 1) := dk_96 (dk_at dksX6_peak_0 8 rfl rfl)
theorem dX6_peak_9 : decode cX6_peak 9 = .ok (.iaload, 1) := dk_46 (dk_at dksX6_peak_0 9 rfl rfl)
theorem dX6_peak_10 : decode cX6_peak 10 = .ok (.ireturn, 1) := dk_172 (dk_at dksX6_peak_0 10 rfl rfl)
def dkwX6_inrush_0 : List UInt8 := [42, 180, 0, 7, 7, 27, 104, 4, 96, 46, 172]
abbrev dktX6_inrush_0 : List UInt8 := dkwX6_inrush_0 ++ []
theorem dksX6_inrush_0 : cX6_inrush.data.toList.drop 0 = dktX6_inrush_0 := by decide +kernel
theorem dX6_inrush_0 : decode cX6_inrush 0 = .ok (.aload_n 0, 1) := dk_42 (dk_at dksX6_inrush_0 0 rfl rfl)
theorem dX6_inrush_1 : decode cX6_inrush 1 = .ok (.getfield 7, 3) := dk_180 0 7 (dk_at dksX6_inrush_0 1 rfl rfl)
theorem dX6_inrush_4 : decode cX6_inrush 4 = .ok (.iconst 4, 1) := dk_7 (dk_at dksX6_inrush_0 4 rfl rfl)
theorem dX6_inrush_5 : decode cX6_inrush 5 = .ok (.iload_n 1, 1) := dk_27 (dk_at dksX6_inrush_0 5 rfl rfl)
theorem dX6_inrush_6 : decode cX6_inrush 6 = .ok (.imul, 1) := dk_104 (dk_at dksX6_inrush_0 6 rfl rfl)
theorem dX6_inrush_7 : decode cX6_inrush 7 = .ok (.iconst 1, 1) := dk_4 (dk_at dksX6_inrush_0 7 rfl rfl)
theorem dX6_inrush_8 : decode cX6_inrush 8 = .ok (.iadd, 1) := dk_96 (dk_at dksX6_inrush_0 8 rfl rfl)
theorem dX6_inrush_9 : decode cX6_inrush 9 = .ok (.iaload, 1) := dk_46 (dk_at dksX6_inrush_0 9 rfl rfl)
theorem dX6_inrush_10 : decode cX6_inrush 10 = .ok (.ireturn, 1) := dk_172 (dk_at dksX6_inrush_0 10 rfl rfl)
def dkwX6_reserved_1 : List UInt8 := [6, 160, 0, 11, 42, 28, 182, 0, 225, 167, 0, 4, 3, 172]
abbrev dktX6_reserved_1 : List UInt8 := dkwX6_reserved_1 ++ []
def dkwX6_reserved_0 : List UInt8 := [43, 28, 16, 9, 184, 0, 157, 46, 62, 29, 5, 160, 0, 12, 42, 43, 28, 182, 0, 235, 167, 0, 17, 29]
abbrev dktX6_reserved_0 : List UInt8 := dkwX6_reserved_0 ++ dktX6_reserved_1
theorem dksX6_reserved_0 : cX6_reserved.data.toList.drop 0 = dktX6_reserved_0 := by decide +kernel
theorem dksX6_reserved_1 : cX6_reserved.data.toList.drop 24 = dktX6_reserved_1 := dk_seg dksX6_reserved_0 24 rfl rfl
theorem dX6_reserved_0 : decode cX6_reserved 0 = .ok (.aload_n 1, 1) := dk_43 (dk_at dksX6_reserved_0 0 rfl rfl)
theorem dX6_reserved_1 : decode cX6_reserved 1 = .ok (.iload_n 2, 1) := dk_28 (dk_at dksX6_reserved_0 1 rfl rfl)
theorem dX6_reserved_2 : decode cX6_reserved 2 = .ok (.bipush 9, 2) := dk_16 9 (dk_at dksX6_reserved_0 2 rfl rfl)
theorem dX6_reserved_4 : decode cX6_reserved 4 = .ok (.invokestatic 157, 3) := dk_184 0 157 (dk_at dksX6_reserved_0 4 rfl rfl)
theorem dX6_reserved_7 : decode cX6_reserved 7 = .ok (.iaload, 1) := dk_46 (dk_at dksX6_reserved_0 7 rfl rfl)
theorem dX6_reserved_8 : decode cX6_reserved 8 = .ok (.istore_n 3, 1) := dk_62 (dk_at dksX6_reserved_0 8 rfl rfl)
theorem dX6_reserved_9 : decode cX6_reserved 9 = .ok (.iload_n 3, 1) := dk_29 (dk_at dksX6_reserved_0 9 rfl rfl)
theorem dX6_reserved_10 : decode cX6_reserved 10 = .ok (.iconst 2, 1) := dk_5 (dk_at dksX6_reserved_0 10 rfl rfl)
theorem dX6_reserved_11 : decode cX6_reserved 11 = .ok (.if_icmp .ne 12, 3) := dk_160 0 12 (dk_at dksX6_reserved_0 11 rfl rfl)
theorem dX6_reserved_14 : decode cX6_reserved 14 = .ok (.aload_n 0, 1) := dk_42 (dk_at dksX6_reserved_0 14 rfl rfl)
theorem dX6_reserved_15 : decode cX6_reserved 15 = .ok (.aload_n 1, 1) := dk_43 (dk_at dksX6_reserved_0 15 rfl rfl)
theorem dX6_reserved_16 : decode cX6_reserved 16 = .ok (.iload_n 2, 1) := dk_28 (dk_at dksX6_reserved_0 16 rfl rfl)
theorem dX6_reserved_17 : decode cX6_reserved 17 = .ok (.invokevirtual 235, 3) := dk_182 0 235 (dk_at dksX6_reserved_0 17 rfl rfl)
theorem dX6_reserved_20 : decode cX6_reserved 20 = .ok (.goto 17, 3) := dk_167 0 17 (dk_at dksX6_reserved_0 20 rfl rfl)
theorem dX6_reserved_23 : decode cX6_reserved 23 = .ok (.iload_n 3, 1) := dk_29 (dk_at dksX6_reserved_0 23 rfl rfl)
theorem dX6_reserved_24 : decode cX6_reserved 24 = .ok (.iconst 3, 1) := dk_6 (dk_at dksX6_reserved_1 0 rfl rfl)
theorem dX6_reserved_25 : decode cX6_reserved 25 = .ok (.if_icmp .ne 11, 3) := dk_160 0 11 (dk_at dksX6_reserved_1 1 rfl rfl)
theorem dX6_reserved_28 : decode cX6_reserved 28 = .ok (.aload_n 0, 1) := dk_42 (dk_at dksX6_reserved_1 4 rfl rfl)
theorem dX6_reserved_29 : decode cX6_reserved 29 = .ok (.iload_n 2, 1) := dk_28 (dk_at dksX6_reserved_1 5 rfl rfl)
theorem dX6_reserved_30 : decode cX6_reserved 30 = .ok (.invokevirtual 225, 3) := dk_182 0 225 (dk_at dksX6_reserved_1 6 rfl rfl)
theorem dX6_reserved_33 : decode cX6_reserved 33 = .ok (.goto 4, 3) := dk_167 0 4 (dk_at dksX6_reserved_1 9 rfl rfl)
theorem dX6_reserved_36 : decode cX6_reserved 36 = .ok (.iconst 0, 1) := dk_3 (dk_at dksX6_reserved_1 12 rfl rfl)
theorem dX6_reserved_37 : decode cX6_reserved 37 = .ok (.ireturn, 1) := dk_172 (dk_at dksX6_reserved_1 13 rfl rfl)
def dkwX6_steady_0 : List UInt8 := [42, 180, 0, 7, 7, 27, 104, 46, 172]
abbrev dktX6_steady_0 : List UInt8 := dkwX6_steady_0 ++ []
theorem dksX6_steady_0 : cX6_steady.data.toList.drop 0 = dktX6_steady_0 := by decide +kernel
theorem dX6_steady_0 : decode cX6_steady 0 = .ok (.aload_n 0, 1) := dk_42 (dk_at dksX6_steady_0 0 rfl rfl)
theorem dX6_steady_1 : decode cX6_steady 1 = .ok (.getfield 7, 3) := dk_180 0 7 (dk_at dksX6_steady_0 1 rfl rfl)
theorem dX6_steady_4 : decode cX6_steady 4 = .ok (.iconst 4, 1) := dk_7 (dk_at dksX6_steady_0 4 rfl rfl)
theorem dX6_steady_5 : decode cX6_steady 5 = .ok (.iload_n 1, 1) := dk_27 (dk_at dksX6_steady_0 5 rfl rfl)
theorem dX6_steady_6 : decode cX6_steady 6 = .ok (.imul, 1) := dk_104 (dk_at dksX6_steady_0 6 rfl rfl)
theorem dX6_steady_7 : decode cX6_steady 7 = .ok (.iaload, 1) := dk_46 (dk_at dksX6_steady_0 7 rfl rfl)
theorem dX6_steady_8 : decode cX6_steady 8 = .ok (.ireturn, 1) := dk_172 (dk_at dksX6_steady_0 8 rfl rfl)
def dkwX6_placeOf_1 : List UInt8 := [132, 3, 1, 167, 255, 233, 2, 172]
abbrev dktX6_placeOf_1 : List UInt8 := dkwX6_placeOf_1 ++ []
def dkwX6_placeOf_0 : List UInt8 := [3, 62, 29, 43, 16, 13, 46, 162, 0, 21, 43, 16, 39, 29, 96, 46, 28, 160, 0, 5, 29, 172]
abbrev dktX6_placeOf_0 : List UInt8 := dkwX6_placeOf_0 ++ dktX6_placeOf_1
theorem dksX6_placeOf_0 : cX6_placeOf.data.toList.drop 0 = dktX6_placeOf_0 := by decide +kernel
theorem dksX6_placeOf_1 : cX6_placeOf.data.toList.drop 22 = dktX6_placeOf_1 := dk_seg dksX6_placeOf_0 22 rfl rfl
theorem dX6_placeOf_0 : decode cX6_placeOf 0 = .ok (.iconst 0, 1) := dk_3 (dk_at dksX6_placeOf_0 0 rfl rfl)
theorem dX6_placeOf_1 : decode cX6_placeOf 1 = .ok (.istore_n 3, 1) := dk_62 (dk_at dksX6_placeOf_0 1 rfl rfl)
theorem dX6_placeOf_2 : decode cX6_placeOf 2 = .ok (.iload_n 3, 1) := dk_29 (dk_at dksX6_placeOf_0 2 rfl rfl)
theorem dX6_placeOf_3 : decode cX6_placeOf 3 = .ok (.aload_n 1, 1) := dk_43 (dk_at dksX6_placeOf_0 3 rfl rfl)
theorem dX6_placeOf_4 : decode cX6_placeOf 4 = .ok (.bipush 13, 2) := dk_16 13 (dk_at dksX6_placeOf_0 4 rfl rfl)
theorem dX6_placeOf_6 : decode cX6_placeOf 6 = .ok (.iaload, 1) := dk_46 (dk_at dksX6_placeOf_0 6 rfl rfl)
theorem dX6_placeOf_7 : decode cX6_placeOf 7 = .ok (.if_icmp .ge 21, 3) := dk_162 0 21 (dk_at dksX6_placeOf_0 7 rfl rfl)
theorem dX6_placeOf_10 : decode cX6_placeOf 10 = .ok (.aload_n 1, 1) := dk_43 (dk_at dksX6_placeOf_0 10 rfl rfl)
theorem dX6_placeOf_11 : decode cX6_placeOf 11 = .ok (.bipush 39, 2) := dk_16 39 (dk_at dksX6_placeOf_0 11 rfl rfl)
theorem dX6_placeOf_13 : decode cX6_placeOf 13 = .ok (.iload_n 3, 1) := dk_29 (dk_at dksX6_placeOf_0 13 rfl rfl)
theorem dX6_placeOf_14 : decode cX6_placeOf 14 = .ok (.iadd, 1) := dk_96 (dk_at dksX6_placeOf_0 14 rfl rfl)
theorem dX6_placeOf_15 : decode cX6_placeOf 15 = .ok (.iaload, 1) := dk_46 (dk_at dksX6_placeOf_0 15 rfl rfl)
theorem dX6_placeOf_16 : decode cX6_placeOf 16 = .ok (.iload_n 2, 1) := dk_28 (dk_at dksX6_placeOf_0 16 rfl rfl)
theorem dX6_placeOf_17 : decode cX6_placeOf 17 = .ok (.if_icmp .ne 5, 3) := dk_160 0 5 (dk_at dksX6_placeOf_0 17 rfl rfl)
theorem dX6_placeOf_20 : decode cX6_placeOf 20 = .ok (.iload_n 3, 1) := dk_29 (dk_at dksX6_placeOf_0 20 rfl rfl)
theorem dX6_placeOf_21 : decode cX6_placeOf 21 = .ok (.ireturn, 1) := dk_172 (dk_at dksX6_placeOf_0 21 rfl rfl)
theorem dX6_placeOf_22 : decode cX6_placeOf 22 = .ok (.iinc 3 1, 3) := dk_132 3 1 (dk_at dksX6_placeOf_1 0 rfl rfl)
theorem dX6_placeOf_25 : decode cX6_placeOf 25 = .ok (.goto (-23), 3) := dk_167 255 233 (dk_at dksX6_placeOf_1 3 rfl rfl)
theorem dX6_placeOf_28 : decode cX6_placeOf 28 = .ok (.iconst (-1), 1) := dk_2 (dk_at dksX6_placeOf_1 6 rfl rfl)
theorem dX6_placeOf_29 : decode cX6_placeOf 29 = .ok (.ireturn, 1) := dk_172 (dk_at dksX6_placeOf_1 7 rfl rfl)
def dkwX6_needs_3 : List UInt8 := [46, 172]
abbrev dktX6_needs_3 : List UInt8 := dkwX6_needs_3 ++ []
def dkwX6_needs_2 : List UInt8 := [21, 4, 120, 128, 62, 132, 4, 1, 167, 255, 227, 28, 153, 0, 7, 29, 167, 0, 9, 42, 180, 0, 13, 27]
abbrev dktX6_needs_2 : List UInt8 := dkwX6_needs_2 ++ dktX6_needs_3
def dkwX6_needs_1 : List UInt8 := [54, 4, 21, 4, 42, 180, 0, 207, 162, 0, 26, 29, 42, 180, 0, 13, 21, 4, 46, 27, 122, 4, 126]
abbrev dktX6_needs_1 : List UInt8 := dkwX6_needs_1 ++ dktX6_needs_2
def dkwX6_needs_0 : List UInt8 := [42, 3, 181, 0, 72, 42, 42, 27, 182, 1, 45, 4, 182, 0, 78, 154, 0, 5, 3, 172, 3, 62, 3]
abbrev dktX6_needs_0 : List UInt8 := dkwX6_needs_0 ++ dktX6_needs_1
theorem dksX6_needs_0 : cX6_needs.data.toList.drop 0 = dktX6_needs_0 := by decide +kernel
theorem dksX6_needs_1 : cX6_needs.data.toList.drop 23 = dktX6_needs_1 := dk_seg dksX6_needs_0 23 rfl rfl
theorem dksX6_needs_2 : cX6_needs.data.toList.drop 46 = dktX6_needs_2 := dk_seg dksX6_needs_1 23 rfl rfl
theorem dksX6_needs_3 : cX6_needs.data.toList.drop 70 = dktX6_needs_3 := dk_seg dksX6_needs_2 24 rfl rfl
theorem dX6_needs_0 : decode cX6_needs 0 = .ok (.aload_n 0, 1) := dk_42 (dk_at dksX6_needs_0 0 rfl rfl)
theorem dX6_needs_1 : decode cX6_needs 1 = .ok (.iconst 0, 1) := dk_3 (dk_at dksX6_needs_0 1 rfl rfl)
theorem dX6_needs_2 : decode cX6_needs 2 = .ok (.putfield 72, 3) := dk_181 0 72 (dk_at dksX6_needs_0 2 rfl rfl)
theorem dX6_needs_5 : decode cX6_needs 5 = .ok (.aload_n 0, 1) := dk_42 (dk_at dksX6_needs_0 5 rfl rfl)
theorem dX6_needs_6 : decode cX6_needs 6 = .ok (.aload_n 0, 1) := dk_42 (dk_at dksX6_needs_0 6 rfl rfl)
theorem dX6_needs_7 : decode cX6_needs 7 = .ok (.iload_n 1, 1) := dk_27 (dk_at dksX6_needs_0 7 rfl rfl)
theorem dX6_needs_8 : decode cX6_needs 8 = .ok (.invokevirtual 301, 3) := dk_182 1 45 (dk_at dksX6_needs_0 8 rfl rfl)
theorem dX6_needs_11 : decode cX6_needs 11 = .ok (.iconst 1, 1) := dk_4 (dk_at dksX6_needs_0 11 rfl rfl)
theorem dX6_needs_12 : decode cX6_needs 12 = .ok (.invokevirtual 78, 3) := dk_182 0 78 (dk_at dksX6_needs_0 12 rfl rfl)
theorem dX6_needs_15 : decode cX6_needs 15 = .ok (.ifCond .ne 5, 3) := dk_154 0 5 (dk_at dksX6_needs_0 15 rfl rfl)
theorem dX6_needs_18 : decode cX6_needs 18 = .ok (.iconst 0, 1) := dk_3 (dk_at dksX6_needs_0 18 rfl rfl)
theorem dX6_needs_19 : decode cX6_needs 19 = .ok (.ireturn, 1) := dk_172 (dk_at dksX6_needs_0 19 rfl rfl)
theorem dX6_needs_20 : decode cX6_needs 20 = .ok (.iconst 0, 1) := dk_3 (dk_at dksX6_needs_0 20 rfl rfl)
theorem dX6_needs_21 : decode cX6_needs 21 = .ok (.istore_n 3, 1) := dk_62 (dk_at dksX6_needs_0 21 rfl rfl)
theorem dX6_needs_22 : decode cX6_needs 22 = .ok (.iconst 0, 1) := dk_3 (dk_at dksX6_needs_0 22 rfl rfl)
theorem dX6_needs_23 : decode cX6_needs 23 = .ok (.istore 4, 2) := dk_54 4 (dk_at dksX6_needs_1 0 rfl rfl)
theorem dX6_needs_25 : decode cX6_needs 25 = .ok (.iload 4, 2) := dk_21 4 (dk_at dksX6_needs_1 2 rfl rfl)
theorem dX6_needs_27 : decode cX6_needs 27 = .ok (.aload_n 0, 1) := dk_42 (dk_at dksX6_needs_1 4 rfl rfl)
theorem dX6_needs_28 : decode cX6_needs 28 = .ok (.getfield 207, 3) := dk_180 0 207 (dk_at dksX6_needs_1 5 rfl rfl)
theorem dX6_needs_31 : decode cX6_needs 31 = .ok (.if_icmp .ge 26, 3) := dk_162 0 26 (dk_at dksX6_needs_1 8 rfl rfl)
theorem dX6_needs_34 : decode cX6_needs 34 = .ok (.iload_n 3, 1) := dk_29 (dk_at dksX6_needs_1 11 rfl rfl)
theorem dX6_needs_35 : decode cX6_needs 35 = .ok (.aload_n 0, 1) := dk_42 (dk_at dksX6_needs_1 12 rfl rfl)
theorem dX6_needs_36 : decode cX6_needs 36 = .ok (.getfield 13, 3) := dk_180 0 13 (dk_at dksX6_needs_1 13 rfl rfl)
theorem dX6_needs_39 : decode cX6_needs 39 = .ok (.iload 4, 2) := dk_21 4 (dk_at dksX6_needs_1 16 rfl rfl)
theorem dX6_needs_41 : decode cX6_needs 41 = .ok (.iaload, 1) := dk_46 (dk_at dksX6_needs_1 18 rfl rfl)
theorem dX6_needs_42 : decode cX6_needs 42 = .ok (.iload_n 1, 1) := dk_27 (dk_at dksX6_needs_1 19 rfl rfl)
theorem dX6_needs_43 : decode cX6_needs 43 = .ok (.ishr, 1) := dk_122 (dk_at dksX6_needs_1 20 rfl rfl)
theorem dX6_needs_44 : decode cX6_needs 44 = .ok (.iconst 1, 1) := dk_4 (dk_at dksX6_needs_1 21 rfl rfl)
theorem dX6_needs_45 : decode cX6_needs 45 = .ok (.iand, 1) := dk_126 (dk_at dksX6_needs_1 22 rfl rfl)
theorem dX6_needs_46 : decode cX6_needs 46 = .ok (.iload 4, 2) := dk_21 4 (dk_at dksX6_needs_2 0 rfl rfl)
theorem dX6_needs_48 : decode cX6_needs 48 = .ok (.ishl, 1) := dk_120 (dk_at dksX6_needs_2 2 rfl rfl)
theorem dX6_needs_49 : decode cX6_needs 49 = .ok (.ior, 1) := dk_128 (dk_at dksX6_needs_2 3 rfl rfl)
theorem dX6_needs_50 : decode cX6_needs 50 = .ok (.istore_n 3, 1) := dk_62 (dk_at dksX6_needs_2 4 rfl rfl)
theorem dX6_needs_51 : decode cX6_needs 51 = .ok (.iinc 4 1, 3) := dk_132 4 1 (dk_at dksX6_needs_2 5 rfl rfl)
theorem dX6_needs_54 : decode cX6_needs 54 = .ok (.goto (-29), 3) := dk_167 255 227 (dk_at dksX6_needs_2 8 rfl rfl)
theorem dX6_needs_57 : decode cX6_needs 57 = .ok (.iload_n 2, 1) := dk_28 (dk_at dksX6_needs_2 11 rfl rfl)
theorem dX6_needs_58 : decode cX6_needs 58 = .ok (.ifCond .eq 7, 3) := dk_153 0 7 (dk_at dksX6_needs_2 12 rfl rfl)
theorem dX6_needs_61 : decode cX6_needs 61 = .ok (.iload_n 3, 1) := dk_29 (dk_at dksX6_needs_2 15 rfl rfl)
theorem dX6_needs_62 : decode cX6_needs 62 = .ok (.goto 9, 3) := dk_167 0 9 (dk_at dksX6_needs_2 16 rfl rfl)
theorem dX6_needs_65 : decode cX6_needs 65 = .ok (.aload_n 0, 1) := dk_42 (dk_at dksX6_needs_2 19 rfl rfl)
theorem dX6_needs_66 : decode cX6_needs 66 = .ok (.getfield 13, 3) := dk_180 0 13 (dk_at dksX6_needs_2 20 rfl rfl)
theorem dX6_needs_69 : decode cX6_needs 69 = .ok (.iload_n 1, 1) := dk_27 (dk_at dksX6_needs_2 23 rfl rfl)
theorem dX6_needs_70 : decode cX6_needs 70 = .ok (.iaload, 1) := dk_46 (dk_at dksX6_needs_3 0 rfl rfl)
theorem dX6_needs_71 : decode cX6_needs 71 = .ok (.ireturn, 1) := dk_172 (dk_at dksX6_needs_3 1 rfl rfl)
def dkwX6_outletsWith_1 : List UInt8 := [180, 0, 25, 28, 153, 0, 8, 16, 9, 167, 0, 4, 5, 27, 182, 0, 249, 167, 0, 4, 3, 172]
abbrev dktX6_outletsWith_1 : List UInt8 := dkwX6_outletsWith_1 ++ []
def dkwX6_outletsWith_0 : List UInt8 := [42, 3, 181, 0, 72, 42, 27, 133, 9, 20, 1, 52, 184, 0, 82, 4, 182, 0, 78, 153, 0, 25, 42, 42]
abbrev dktX6_outletsWith_0 : List UInt8 := dkwX6_outletsWith_0 ++ dktX6_outletsWith_1
theorem dksX6_outletsWith_0 : cX6_outletsWith.data.toList.drop 0 = dktX6_outletsWith_0 := by decide +kernel
theorem dksX6_outletsWith_1 : cX6_outletsWith.data.toList.drop 24 = dktX6_outletsWith_1 := dk_seg dksX6_outletsWith_0 24 rfl rfl
theorem dX6_outletsWith_0 : decode cX6_outletsWith 0 = .ok (.aload_n 0, 1) := dk_42 (dk_at dksX6_outletsWith_0 0 rfl rfl)
theorem dX6_outletsWith_1 : decode cX6_outletsWith 1 = .ok (.iconst 0, 1) := dk_3 (dk_at dksX6_outletsWith_0 1 rfl rfl)
theorem dX6_outletsWith_2 : decode cX6_outletsWith 2 = .ok (.putfield 72, 3) := dk_181 0 72 (dk_at dksX6_outletsWith_0 2 rfl rfl)
theorem dX6_outletsWith_5 : decode cX6_outletsWith 5 = .ok (.aload_n 0, 1) := dk_42 (dk_at dksX6_outletsWith_0 5 rfl rfl)
theorem dX6_outletsWith_6 : decode cX6_outletsWith 6 = .ok (.iload_n 1, 1) := dk_27 (dk_at dksX6_outletsWith_0 6 rfl rfl)
theorem dX6_outletsWith_7 : decode cX6_outletsWith 7 = .ok (.i2l, 1) := dk_133 (dk_at dksX6_outletsWith_0 7 rfl rfl)
theorem dX6_outletsWith_8 : decode cX6_outletsWith 8 = .ok (.lconst 0, 1) := dk_9 (dk_at dksX6_outletsWith_0 8 rfl rfl)
theorem dX6_outletsWith_9 : decode cX6_outletsWith 9 = .ok (.ldc2_w 308, 3) := dk_20 1 52 (dk_at dksX6_outletsWith_0 9 rfl rfl)
theorem dX6_outletsWith_12 : decode cX6_outletsWith 12 = .ok (.invokestatic 82, 3) := dk_184 0 82 (dk_at dksX6_outletsWith_0 12 rfl rfl)
theorem dX6_outletsWith_15 : decode cX6_outletsWith 15 = .ok (.iconst 1, 1) := dk_4 (dk_at dksX6_outletsWith_0 15 rfl rfl)
theorem dX6_outletsWith_16 : decode cX6_outletsWith 16 = .ok (.invokevirtual 78, 3) := dk_182 0 78 (dk_at dksX6_outletsWith_0 16 rfl rfl)
theorem dX6_outletsWith_19 : decode cX6_outletsWith 19 = .ok (.ifCond .eq 25, 3) := dk_153 0 25 (dk_at dksX6_outletsWith_0 19 rfl rfl)
theorem dX6_outletsWith_22 : decode cX6_outletsWith 22 = .ok (.aload_n 0, 1) := dk_42 (dk_at dksX6_outletsWith_0 22 rfl rfl)
theorem dX6_outletsWith_23 : decode cX6_outletsWith 23 = .ok (.aload_n 0, 1) := dk_42 (dk_at dksX6_outletsWith_0 23 rfl rfl)
theorem dX6_outletsWith_24 : decode cX6_outletsWith 24 = .ok (.getfield 25, 3) := dk_180 0 25 (dk_at dksX6_outletsWith_1 0 rfl rfl)
theorem dX6_outletsWith_27 : decode cX6_outletsWith 27 = .ok (.iload_n 2, 1) := dk_28 (dk_at dksX6_outletsWith_1 3 rfl rfl)
theorem dX6_outletsWith_28 : decode cX6_outletsWith 28 = .ok (.ifCond .eq 8, 3) := dk_153 0 8 (dk_at dksX6_outletsWith_1 4 rfl rfl)
theorem dX6_outletsWith_31 : decode cX6_outletsWith 31 = .ok (.bipush 9, 2) := dk_16 9 (dk_at dksX6_outletsWith_1 7 rfl rfl)
theorem dX6_outletsWith_33 : decode cX6_outletsWith 33 = .ok (.goto 4, 3) := dk_167 0 4 (dk_at dksX6_outletsWith_1 9 rfl rfl)
theorem dX6_outletsWith_36 : decode cX6_outletsWith 36 = .ok (.iconst 2, 1) := dk_5 (dk_at dksX6_outletsWith_1 12 rfl rfl)
theorem dX6_outletsWith_37 : decode cX6_outletsWith 37 = .ok (.iload_n 1, 1) := dk_27 (dk_at dksX6_outletsWith_1 13 rfl rfl)
theorem dX6_outletsWith_38 : decode cX6_outletsWith 38 = .ok (.invokevirtual 249, 3) := dk_182 0 249 (dk_at dksX6_outletsWith_1 14 rfl rfl)
theorem dX6_outletsWith_41 : decode cX6_outletsWith 41 = .ok (.goto 4, 3) := dk_167 0 4 (dk_at dksX6_outletsWith_1 17 rfl rfl)
theorem dX6_outletsWith_44 : decode cX6_outletsWith 44 = .ok (.iconst 0, 1) := dk_3 (dk_at dksX6_outletsWith_1 20 rfl rfl)
theorem dX6_outletsWith_45 : decode cX6_outletsWith 45 = .ok (.ireturn, 1) := dk_172 (dk_at dksX6_outletsWith_1 21 rfl rfl)
def dkwX6_withState_1 : List UInt8 := [160, 0, 12, 21, 4, 4, 21, 5, 120, 128, 54, 4, 132, 5, 1, 167, 255, 223, 21, 4, 172]
abbrev dktX6_withState_1 : List UInt8 := dkwX6_withState_1 ++ []
def dkwX6_withState_0 : List UInt8 := [3, 54, 4, 3, 54, 5, 21, 5, 42, 180, 0, 207, 162, 0, 30, 43, 21, 5, 28, 184, 0, 157, 46, 29]
abbrev dktX6_withState_0 : List UInt8 := dkwX6_withState_0 ++ dktX6_withState_1
theorem dksX6_withState_0 : cX6_withState.data.toList.drop 0 = dktX6_withState_0 := by decide +kernel
theorem dksX6_withState_1 : cX6_withState.data.toList.drop 24 = dktX6_withState_1 := dk_seg dksX6_withState_0 24 rfl rfl
theorem dX6_withState_0 : decode cX6_withState 0 = .ok (.iconst 0, 1) := dk_3 (dk_at dksX6_withState_0 0 rfl rfl)
theorem dX6_withState_1 : decode cX6_withState 1 = .ok (.istore 4, 2) := dk_54 4 (dk_at dksX6_withState_0 1 rfl rfl)
theorem dX6_withState_3 : decode cX6_withState 3 = .ok (.iconst 0, 1) := dk_3 (dk_at dksX6_withState_0 3 rfl rfl)
theorem dX6_withState_4 : decode cX6_withState 4 = .ok (.istore 5, 2) := dk_54 5 (dk_at dksX6_withState_0 4 rfl rfl)
theorem dX6_withState_6 : decode cX6_withState 6 = .ok (.iload 5, 2) := dk_21 5 (dk_at dksX6_withState_0 6 rfl rfl)
theorem dX6_withState_8 : decode cX6_withState 8 = .ok (.aload_n 0, 1) := dk_42 (dk_at dksX6_withState_0 8 rfl rfl)
theorem dX6_withState_9 : decode cX6_withState 9 = .ok (.getfield 207, 3) := dk_180 0 207 (dk_at dksX6_withState_0 9 rfl rfl)
theorem dX6_withState_12 : decode cX6_withState 12 = .ok (.if_icmp .ge 30, 3) := dk_162 0 30 (dk_at dksX6_withState_0 12 rfl rfl)
theorem dX6_withState_15 : decode cX6_withState 15 = .ok (.aload_n 1, 1) := dk_43 (dk_at dksX6_withState_0 15 rfl rfl)
theorem dX6_withState_16 : decode cX6_withState 16 = .ok (.iload 5, 2) := dk_21 5 (dk_at dksX6_withState_0 16 rfl rfl)
theorem dX6_withState_18 : decode cX6_withState 18 = .ok (.iload_n 2, 1) := dk_28 (dk_at dksX6_withState_0 18 rfl rfl)
theorem dX6_withState_19 : decode cX6_withState 19 = .ok (.invokestatic 157, 3) := dk_184 0 157 (dk_at dksX6_withState_0 19 rfl rfl)
theorem dX6_withState_22 : decode cX6_withState 22 = .ok (.iaload, 1) := dk_46 (dk_at dksX6_withState_0 22 rfl rfl)
theorem dX6_withState_23 : decode cX6_withState 23 = .ok (.iload_n 3, 1) := dk_29 (dk_at dksX6_withState_0 23 rfl rfl)
theorem dX6_withState_24 : decode cX6_withState 24 = .ok (.if_icmp .ne 12, 3) := dk_160 0 12 (dk_at dksX6_withState_1 0 rfl rfl)
theorem dX6_withState_27 : decode cX6_withState 27 = .ok (.iload 4, 2) := dk_21 4 (dk_at dksX6_withState_1 3 rfl rfl)
theorem dX6_withState_29 : decode cX6_withState 29 = .ok (.iconst 1, 1) := dk_4 (dk_at dksX6_withState_1 5 rfl rfl)
theorem dX6_withState_30 : decode cX6_withState 30 = .ok (.iload 5, 2) := dk_21 5 (dk_at dksX6_withState_1 6 rfl rfl)
theorem dX6_withState_32 : decode cX6_withState 32 = .ok (.ishl, 1) := dk_120 (dk_at dksX6_withState_1 8 rfl rfl)
theorem dX6_withState_33 : decode cX6_withState 33 = .ok (.ior, 1) := dk_128 (dk_at dksX6_withState_1 9 rfl rfl)
theorem dX6_withState_34 : decode cX6_withState 34 = .ok (.istore 4, 2) := dk_54 4 (dk_at dksX6_withState_1 10 rfl rfl)
theorem dX6_withState_36 : decode cX6_withState 36 = .ok (.iinc 5 1, 3) := dk_132 5 1 (dk_at dksX6_withState_1 12 rfl rfl)
theorem dX6_withState_39 : decode cX6_withState 39 = .ok (.goto (-33), 3) := dk_167 255 223 (dk_at dksX6_withState_1 15 rfl rfl)
theorem dX6_withState_42 : decode cX6_withState 42 = .ok (.iload 4, 2) := dk_21 4 (dk_at dksX6_withState_1 18 rfl rfl)
theorem dX6_withState_44 : decode cX6_withState 44 = .ok (.ireturn, 1) := dk_172 (dk_at dksX6_withState_1 20 rfl rfl)
def dkwX6_rights_0 : List UInt8 := [42, 3, 181, 0, 72, 42, 42, 180, 0, 25, 182, 0, 245, 172]
abbrev dktX6_rights_0 : List UInt8 := dkwX6_rights_0 ++ []
theorem dksX6_rights_0 : cX6_rights.data.toList.drop 0 = dktX6_rights_0 := by decide +kernel
theorem dX6_rights_0 : decode cX6_rights 0 = .ok (.aload_n 0, 1) := dk_42 (dk_at dksX6_rights_0 0 rfl rfl)
theorem dX6_rights_1 : decode cX6_rights 1 = .ok (.iconst 0, 1) := dk_3 (dk_at dksX6_rights_0 1 rfl rfl)
theorem dX6_rights_2 : decode cX6_rights 2 = .ok (.putfield 72, 3) := dk_181 0 72 (dk_at dksX6_rights_0 2 rfl rfl)
theorem dX6_rights_5 : decode cX6_rights 5 = .ok (.aload_n 0, 1) := dk_42 (dk_at dksX6_rights_0 5 rfl rfl)
theorem dX6_rights_6 : decode cX6_rights 6 = .ok (.aload_n 0, 1) := dk_42 (dk_at dksX6_rights_0 6 rfl rfl)
theorem dX6_rights_7 : decode cX6_rights 7 = .ok (.getfield 25, 3) := dk_180 0 25 (dk_at dksX6_rights_0 7 rfl rfl)
theorem dX6_rights_10 : decode cX6_rights 10 = .ok (.invokevirtual 245, 3) := dk_182 0 245 (dk_at dksX6_rights_0 10 rfl rfl)
theorem dX6_rights_13 : decode cX6_rights 13 = .ok (.ireturn, 1) := dk_172 (dk_at dksX6_rights_0 13 rfl rfl)
def dkwX6_rightsOf_3 : List UInt8 := [132, 4, 1, 167, 255, 198, 132, 3, 1, 167, 255, 181, 28, 172]
abbrev dktX6_rightsOf_3 : List UInt8 := dkwX6_rightsOf_3 ++ []
def dkwX6_rightsOf_2 : List UInt8 := [163, 0, 24, 42, 180, 0, 13, 21, 4, 46, 28, 2, 130, 126, 154, 0, 10, 28, 4, 21, 4, 120, 128, 61]
abbrev dktX6_rightsOf_2 : List UInt8 := dkwX6_rightsOf_2 ++ dktX6_rightsOf_3
def dkwX6_rightsOf_1 : List UInt8 := [43, 21, 4, 4, 184, 0, 157, 46, 4, 160, 0, 37, 42, 21, 4, 182, 0, 232, 43, 16, 6, 46]
abbrev dktX6_rightsOf_1 : List UInt8 := dkwX6_rightsOf_1 ++ dktX6_rightsOf_2
def dkwX6_rightsOf_0 : List UInt8 := [3, 61, 3, 62, 29, 42, 180, 0, 207, 162, 0, 73, 3, 54, 4, 21, 4, 42, 180, 0, 207, 162, 0, 55]
abbrev dktX6_rightsOf_0 : List UInt8 := dkwX6_rightsOf_0 ++ dktX6_rightsOf_1
theorem dksX6_rightsOf_0 : cX6_rightsOf.data.toList.drop 0 = dktX6_rightsOf_0 := by decide +kernel
theorem dksX6_rightsOf_1 : cX6_rightsOf.data.toList.drop 24 = dktX6_rightsOf_1 := dk_seg dksX6_rightsOf_0 24 rfl rfl
theorem dksX6_rightsOf_2 : cX6_rightsOf.data.toList.drop 46 = dktX6_rightsOf_2 := dk_seg dksX6_rightsOf_1 22 rfl rfl
theorem dksX6_rightsOf_3 : cX6_rightsOf.data.toList.drop 70 = dktX6_rightsOf_3 := dk_seg dksX6_rightsOf_2 24 rfl rfl
theorem dX6_rightsOf_0 : decode cX6_rightsOf 0 = .ok (.iconst 0, 1) := dk_3 (dk_at dksX6_rightsOf_0 0 rfl rfl)
theorem dX6_rightsOf_1 : decode cX6_rightsOf 1 = .ok (.istore_n 2, 1) := dk_61 (dk_at dksX6_rightsOf_0 1 rfl rfl)
theorem dX6_rightsOf_2 : decode cX6_rightsOf 2 = .ok (.iconst 0, 1) := dk_3 (dk_at dksX6_rightsOf_0 2 rfl rfl)
theorem dX6_rightsOf_3 : decode cX6_rightsOf 3 = .ok (.istore_n 3, 1) := dk_62 (dk_at dksX6_rightsOf_0 3 rfl rfl)
theorem dX6_rightsOf_4 : decode cX6_rightsOf 4 = .ok (.iload_n 3, 1) := dk_29 (dk_at dksX6_rightsOf_0 4 rfl rfl)
theorem dX6_rightsOf_5 : decode cX6_rightsOf 5 = .ok (.aload_n 0, 1) := dk_42 (dk_at dksX6_rightsOf_0 5 rfl rfl)
theorem dX6_rightsOf_6 : decode cX6_rightsOf 6 = .ok (.getfield 207, 3) := dk_180 0 207 (dk_at dksX6_rightsOf_0 6 rfl rfl)
theorem dX6_rightsOf_9 : decode cX6_rightsOf 9 = .ok (.if_icmp .ge 73, 3) := dk_162 0 73 (dk_at dksX6_rightsOf_0 9 rfl rfl)
theorem dX6_rightsOf_12 : decode cX6_rightsOf 12 = .ok (.iconst 0, 1) := dk_3 (dk_at dksX6_rightsOf_0 12 rfl rfl)
theorem dX6_rightsOf_13 : decode cX6_rightsOf 13 = .ok (.istore 4, 2) := dk_54 4 (dk_at dksX6_rightsOf_0 13 rfl rfl)
theorem dX6_rightsOf_15 : decode cX6_rightsOf 15 = .ok (.iload 4, 2) := dk_21 4 (dk_at dksX6_rightsOf_0 15 rfl rfl)
theorem dX6_rightsOf_17 : decode cX6_rightsOf 17 = .ok (.aload_n 0, 1) := dk_42 (dk_at dksX6_rightsOf_0 17 rfl rfl)
theorem dX6_rightsOf_18 : decode cX6_rightsOf 18 = .ok (.getfield 207, 3) := dk_180 0 207 (dk_at dksX6_rightsOf_0 18 rfl rfl)
theorem dX6_rightsOf_21 : decode cX6_rightsOf 21 = .ok (.if_icmp .ge 55, 3) := dk_162 0 55 (dk_at dksX6_rightsOf_0 21 rfl rfl)
theorem dX6_rightsOf_24 : decode cX6_rightsOf 24 = .ok (.aload_n 1, 1) := dk_43 (dk_at dksX6_rightsOf_1 0 rfl rfl)
theorem dX6_rightsOf_25 : decode cX6_rightsOf 25 = .ok (.iload 4, 2) := dk_21 4 (dk_at dksX6_rightsOf_1 1 rfl rfl)
theorem dX6_rightsOf_27 : decode cX6_rightsOf 27 = .ok (.iconst 1, 1) := dk_4 (dk_at dksX6_rightsOf_1 3 rfl rfl)
theorem dX6_rightsOf_28 : decode cX6_rightsOf 28 = .ok (.invokestatic 157, 3) := dk_184 0 157 (dk_at dksX6_rightsOf_1 4 rfl rfl)
theorem dX6_rightsOf_31 : decode cX6_rightsOf 31 = .ok (.iaload, 1) := dk_46 (dk_at dksX6_rightsOf_1 7 rfl rfl)
theorem dX6_rightsOf_32 : decode cX6_rightsOf 32 = .ok (.iconst 1, 1) := dk_4 (dk_at dksX6_rightsOf_1 8 rfl rfl)
theorem dX6_rightsOf_33 : decode cX6_rightsOf 33 = .ok (.if_icmp .ne 37, 3) := dk_160 0 37 (dk_at dksX6_rightsOf_1 9 rfl rfl)
theorem dX6_rightsOf_36 : decode cX6_rightsOf 36 = .ok (.aload_n 0, 1) := dk_42 (dk_at dksX6_rightsOf_1 12 rfl rfl)
theorem dX6_rightsOf_37 : decode cX6_rightsOf 37 = .ok (.iload 4, 2) := dk_21 4 (dk_at dksX6_rightsOf_1 13 rfl rfl)
theorem dX6_rightsOf_39 : decode cX6_rightsOf 39 = .ok (.invokevirtual 232, 3) := dk_182 0 232 (dk_at dksX6_rightsOf_1 15 rfl rfl)
theorem dX6_rightsOf_42 : decode cX6_rightsOf 42 = .ok (.aload_n 1, 1) := dk_43 (dk_at dksX6_rightsOf_1 18 rfl rfl)
theorem dX6_rightsOf_43 : decode cX6_rightsOf 43 = .ok (.bipush 6, 2) := dk_16 6 (dk_at dksX6_rightsOf_1 19 rfl rfl)
theorem dX6_rightsOf_45 : decode cX6_rightsOf 45 = .ok (.iaload, 1) := dk_46 (dk_at dksX6_rightsOf_1 21 rfl rfl)
theorem dX6_rightsOf_46 : decode cX6_rightsOf 46 = .ok (.if_icmp .gt 24, 3) := dk_163 0 24 (dk_at dksX6_rightsOf_2 0 rfl rfl)
theorem dX6_rightsOf_49 : decode cX6_rightsOf 49 = .ok (.aload_n 0, 1) := dk_42 (dk_at dksX6_rightsOf_2 3 rfl rfl)
theorem dX6_rightsOf_50 : decode cX6_rightsOf 50 = .ok (.getfield 13, 3) := dk_180 0 13 (dk_at dksX6_rightsOf_2 4 rfl rfl)
theorem dX6_rightsOf_53 : decode cX6_rightsOf 53 = .ok (.iload 4, 2) := dk_21 4 (dk_at dksX6_rightsOf_2 7 rfl rfl)
theorem dX6_rightsOf_55 : decode cX6_rightsOf 55 = .ok (.iaload, 1) := dk_46 (dk_at dksX6_rightsOf_2 9 rfl rfl)
theorem dX6_rightsOf_56 : decode cX6_rightsOf 56 = .ok (.iload_n 2, 1) := dk_28 (dk_at dksX6_rightsOf_2 10 rfl rfl)
theorem dX6_rightsOf_57 : decode cX6_rightsOf 57 = .ok (.iconst (-1), 1) := dk_2 (dk_at dksX6_rightsOf_2 11 rfl rfl)
theorem dX6_rightsOf_58 : decode cX6_rightsOf 58 = .ok (.ixor, 1) := dk_130 (dk_at dksX6_rightsOf_2 12 rfl rfl)
theorem dX6_rightsOf_59 : decode cX6_rightsOf 59 = .ok (.iand, 1) := dk_126 (dk_at dksX6_rightsOf_2 13 rfl rfl)
theorem dX6_rightsOf_60 : decode cX6_rightsOf 60 = .ok (.ifCond .ne 10, 3) := dk_154 0 10 (dk_at dksX6_rightsOf_2 14 rfl rfl)
theorem dX6_rightsOf_63 : decode cX6_rightsOf 63 = .ok (.iload_n 2, 1) := dk_28 (dk_at dksX6_rightsOf_2 17 rfl rfl)
theorem dX6_rightsOf_64 : decode cX6_rightsOf 64 = .ok (.iconst 1, 1) := dk_4 (dk_at dksX6_rightsOf_2 18 rfl rfl)
theorem dX6_rightsOf_65 : decode cX6_rightsOf 65 = .ok (.iload 4, 2) := dk_21 4 (dk_at dksX6_rightsOf_2 19 rfl rfl)
theorem dX6_rightsOf_67 : decode cX6_rightsOf 67 = .ok (.ishl, 1) := dk_120 (dk_at dksX6_rightsOf_2 21 rfl rfl)
theorem dX6_rightsOf_68 : decode cX6_rightsOf 68 = .ok (.ior, 1) := dk_128 (dk_at dksX6_rightsOf_2 22 rfl rfl)
theorem dX6_rightsOf_69 : decode cX6_rightsOf 69 = .ok (.istore_n 2, 1) := dk_61 (dk_at dksX6_rightsOf_2 23 rfl rfl)
theorem dX6_rightsOf_70 : decode cX6_rightsOf 70 = .ok (.iinc 4 1, 3) := dk_132 4 1 (dk_at dksX6_rightsOf_3 0 rfl rfl)
theorem dX6_rightsOf_73 : decode cX6_rightsOf 73 = .ok (.goto (-58), 3) := dk_167 255 198 (dk_at dksX6_rightsOf_3 3 rfl rfl)
theorem dX6_rightsOf_76 : decode cX6_rightsOf 76 = .ok (.iinc 3 1, 3) := dk_132 3 1 (dk_at dksX6_rightsOf_3 6 rfl rfl)
theorem dX6_rightsOf_79 : decode cX6_rightsOf 79 = .ok (.goto (-75), 3) := dk_167 255 181 (dk_at dksX6_rightsOf_3 9 rfl rfl)
theorem dX6_rightsOf_82 : decode cX6_rightsOf 82 = .ok (.iload_n 2, 1) := dk_28 (dk_at dksX6_rightsOf_3 12 rfl rfl)
theorem dX6_rightsOf_83 : decode cX6_rightsOf 83 = .ok (.ireturn, 1) := dk_172 (dk_at dksX6_rightsOf_3 13 rfl rfl)
def dkwX6_load_2_2 : List UInt8 := [16, 10, 46, 167, 0, 11, 42, 42, 180, 0, 25, 182, 1, 4, 172]
abbrev dktX6_load_2_2 : List UInt8 := dkwX6_load_2_2 ++ []
def dkwX6_load_2_1 : List UInt8 := [27, 154, 0, 14, 42, 42, 180, 0, 25, 182, 1, 40, 167, 0, 26, 27, 4, 160, 0, 13, 42, 180, 0, 25]
abbrev dktX6_load_2_1 : List UInt8 := dkwX6_load_2_1 ++ dktX6_load_2_2
def dkwX6_load_2_0 : List UInt8 := [42, 3, 181, 0, 72, 42, 27, 133, 9, 20, 1, 54, 184, 0, 82, 4, 182, 0, 78, 154, 0, 5, 3, 172]
abbrev dktX6_load_2_0 : List UInt8 := dkwX6_load_2_0 ++ dktX6_load_2_1
theorem dksX6_load_2_0 : cX6_load_2.data.toList.drop 0 = dktX6_load_2_0 := by decide +kernel
theorem dksX6_load_2_1 : cX6_load_2.data.toList.drop 24 = dktX6_load_2_1 := dk_seg dksX6_load_2_0 24 rfl rfl
theorem dksX6_load_2_2 : cX6_load_2.data.toList.drop 48 = dktX6_load_2_2 := dk_seg dksX6_load_2_1 24 rfl rfl
theorem dX6_load_2_0 : decode cX6_load_2 0 = .ok (.aload_n 0, 1) := dk_42 (dk_at dksX6_load_2_0 0 rfl rfl)
theorem dX6_load_2_1 : decode cX6_load_2 1 = .ok (.iconst 0, 1) := dk_3 (dk_at dksX6_load_2_0 1 rfl rfl)
theorem dX6_load_2_2 : decode cX6_load_2 2 = .ok (.putfield 72, 3) := dk_181 0 72 (dk_at dksX6_load_2_0 2 rfl rfl)
theorem dX6_load_2_5 : decode cX6_load_2 5 = .ok (.aload_n 0, 1) := dk_42 (dk_at dksX6_load_2_0 5 rfl rfl)
theorem dX6_load_2_6 : decode cX6_load_2 6 = .ok (.iload_n 1, 1) := dk_27 (dk_at dksX6_load_2_0 6 rfl rfl)
theorem dX6_load_2_7 : decode cX6_load_2 7 = .ok (.i2l, 1) := dk_133 (dk_at dksX6_load_2_0 7 rfl rfl)
theorem dX6_load_2_8 : decode cX6_load_2 8 = .ok (.lconst 0, 1) := dk_9 (dk_at dksX6_load_2_0 8 rfl rfl)
theorem dX6_load_2_9 : decode cX6_load_2 9 = .ok (.ldc2_w 310, 3) := dk_20 1 54 (dk_at dksX6_load_2_0 9 rfl rfl)
theorem dX6_load_2_12 : decode cX6_load_2 12 = .ok (.invokestatic 82, 3) := dk_184 0 82 (dk_at dksX6_load_2_0 12 rfl rfl)
theorem dX6_load_2_15 : decode cX6_load_2 15 = .ok (.iconst 1, 1) := dk_4 (dk_at dksX6_load_2_0 15 rfl rfl)
theorem dX6_load_2_16 : decode cX6_load_2 16 = .ok (.invokevirtual 78, 3) := dk_182 0 78 (dk_at dksX6_load_2_0 16 rfl rfl)
theorem dX6_load_2_19 : decode cX6_load_2 19 = .ok (.ifCond .ne 5, 3) := dk_154 0 5 (dk_at dksX6_load_2_0 19 rfl rfl)
theorem dX6_load_2_22 : decode cX6_load_2 22 = .ok (.iconst 0, 1) := dk_3 (dk_at dksX6_load_2_0 22 rfl rfl)
theorem dX6_load_2_23 : decode cX6_load_2 23 = .ok (.ireturn, 1) := dk_172 (dk_at dksX6_load_2_0 23 rfl rfl)
theorem dX6_load_2_24 : decode cX6_load_2 24 = .ok (.iload_n 1, 1) := dk_27 (dk_at dksX6_load_2_1 0 rfl rfl)
theorem dX6_load_2_25 : decode cX6_load_2 25 = .ok (.ifCond .ne 14, 3) := dk_154 0 14 (dk_at dksX6_load_2_1 1 rfl rfl)
theorem dX6_load_2_28 : decode cX6_load_2 28 = .ok (.aload_n 0, 1) := dk_42 (dk_at dksX6_load_2_1 4 rfl rfl)
theorem dX6_load_2_29 : decode cX6_load_2 29 = .ok (.aload_n 0, 1) := dk_42 (dk_at dksX6_load_2_1 5 rfl rfl)
theorem dX6_load_2_30 : decode cX6_load_2 30 = .ok (.getfield 25, 3) := dk_180 0 25 (dk_at dksX6_load_2_1 6 rfl rfl)
theorem dX6_load_2_33 : decode cX6_load_2 33 = .ok (.invokevirtual 296, 3) := dk_182 1 40 (dk_at dksX6_load_2_1 9 rfl rfl)
theorem dX6_load_2_36 : decode cX6_load_2 36 = .ok (.goto 26, 3) := dk_167 0 26 (dk_at dksX6_load_2_1 12 rfl rfl)
theorem dX6_load_2_39 : decode cX6_load_2 39 = .ok (.iload_n 1, 1) := dk_27 (dk_at dksX6_load_2_1 15 rfl rfl)
theorem dX6_load_2_40 : decode cX6_load_2 40 = .ok (.iconst 1, 1) := dk_4 (dk_at dksX6_load_2_1 16 rfl rfl)
theorem dX6_load_2_41 : decode cX6_load_2 41 = .ok (.if_icmp .ne 13, 3) := dk_160 0 13 (dk_at dksX6_load_2_1 17 rfl rfl)
theorem dX6_load_2_44 : decode cX6_load_2 44 = .ok (.aload_n 0, 1) := dk_42 (dk_at dksX6_load_2_1 20 rfl rfl)
theorem dX6_load_2_45 : decode cX6_load_2 45 = .ok (.getfield 25, 3) := dk_180 0 25 (dk_at dksX6_load_2_1 21 rfl rfl)
theorem dX6_load_2_48 : decode cX6_load_2 48 = .ok (.bipush 10, 2) := dk_16 10 (dk_at dksX6_load_2_2 0 rfl rfl)
theorem dX6_load_2_50 : decode cX6_load_2 50 = .ok (.iaload, 1) := dk_46 (dk_at dksX6_load_2_2 2 rfl rfl)
theorem dX6_load_2_51 : decode cX6_load_2 51 = .ok (.goto 11, 3) := dk_167 0 11 (dk_at dksX6_load_2_2 3 rfl rfl)
theorem dX6_load_2_54 : decode cX6_load_2 54 = .ok (.aload_n 0, 1) := dk_42 (dk_at dksX6_load_2_2 6 rfl rfl)
theorem dX6_load_2_55 : decode cX6_load_2 55 = .ok (.aload_n 0, 1) := dk_42 (dk_at dksX6_load_2_2 7 rfl rfl)
theorem dX6_load_2_56 : decode cX6_load_2 56 = .ok (.getfield 25, 3) := dk_180 0 25 (dk_at dksX6_load_2_2 8 rfl rfl)
theorem dX6_load_2_59 : decode cX6_load_2 59 = .ok (.invokevirtual 260, 3) := dk_182 1 4 (dk_at dksX6_load_2_2 11 rfl rfl)
theorem dX6_load_2_62 : decode cX6_load_2 62 = .ok (.ireturn, 1) := dk_172 (dk_at dksX6_load_2_2 14 rfl rfl)
def dkwX6_drawn_1 : List UInt8 := [167, 255, 236, 28, 172]
abbrev dktX6_drawn_1 : List UInt8 := dkwX6_drawn_1 ++ []
def dkwX6_drawn_0 : List UInt8 := [3, 61, 3, 62, 29, 42, 180, 0, 207, 162, 0, 18, 28, 42, 43, 29, 182, 0, 228, 96, 61, 132, 3, 1]
abbrev dktX6_drawn_0 : List UInt8 := dkwX6_drawn_0 ++ dktX6_drawn_1
theorem dksX6_drawn_0 : cX6_drawn.data.toList.drop 0 = dktX6_drawn_0 := by decide +kernel
theorem dksX6_drawn_1 : cX6_drawn.data.toList.drop 24 = dktX6_drawn_1 := dk_seg dksX6_drawn_0 24 rfl rfl
theorem dX6_drawn_0 : decode cX6_drawn 0 = .ok (.iconst 0, 1) := dk_3 (dk_at dksX6_drawn_0 0 rfl rfl)
theorem dX6_drawn_1 : decode cX6_drawn 1 = .ok (.istore_n 2, 1) := dk_61 (dk_at dksX6_drawn_0 1 rfl rfl)
theorem dX6_drawn_2 : decode cX6_drawn 2 = .ok (.iconst 0, 1) := dk_3 (dk_at dksX6_drawn_0 2 rfl rfl)
theorem dX6_drawn_3 : decode cX6_drawn 3 = .ok (.istore_n 3, 1) := dk_62 (dk_at dksX6_drawn_0 3 rfl rfl)
theorem dX6_drawn_4 : decode cX6_drawn 4 = .ok (.iload_n 3, 1) := dk_29 (dk_at dksX6_drawn_0 4 rfl rfl)
theorem dX6_drawn_5 : decode cX6_drawn 5 = .ok (.aload_n 0, 1) := dk_42 (dk_at dksX6_drawn_0 5 rfl rfl)
theorem dX6_drawn_6 : decode cX6_drawn 6 = .ok (.getfield 207, 3) := dk_180 0 207 (dk_at dksX6_drawn_0 6 rfl rfl)
theorem dX6_drawn_9 : decode cX6_drawn 9 = .ok (.if_icmp .ge 18, 3) := dk_162 0 18 (dk_at dksX6_drawn_0 9 rfl rfl)
theorem dX6_drawn_12 : decode cX6_drawn 12 = .ok (.iload_n 2, 1) := dk_28 (dk_at dksX6_drawn_0 12 rfl rfl)
theorem dX6_drawn_13 : decode cX6_drawn 13 = .ok (.aload_n 0, 1) := dk_42 (dk_at dksX6_drawn_0 13 rfl rfl)
theorem dX6_drawn_14 : decode cX6_drawn 14 = .ok (.aload_n 1, 1) := dk_43 (dk_at dksX6_drawn_0 14 rfl rfl)
theorem dX6_drawn_15 : decode cX6_drawn 15 = .ok (.iload_n 3, 1) := dk_29 (dk_at dksX6_drawn_0 15 rfl rfl)
theorem dX6_drawn_16 : decode cX6_drawn 16 = .ok (.invokevirtual 228, 3) := dk_182 0 228 (dk_at dksX6_drawn_0 16 rfl rfl)
theorem dX6_drawn_19 : decode cX6_drawn 19 = .ok (.iadd, 1) := dk_96 (dk_at dksX6_drawn_0 19 rfl rfl)
theorem dX6_drawn_20 : decode cX6_drawn 20 = .ok (.istore_n 2, 1) := dk_61 (dk_at dksX6_drawn_0 20 rfl rfl)
theorem dX6_drawn_21 : decode cX6_drawn 21 = .ok (.iinc 3 1, 3) := dk_132 3 1 (dk_at dksX6_drawn_0 21 rfl rfl)
theorem dX6_drawn_24 : decode cX6_drawn 24 = .ok (.goto (-20), 3) := dk_167 255 236 (dk_at dksX6_drawn_1 0 rfl rfl)
theorem dX6_drawn_27 : decode cX6_drawn 27 = .ok (.iload_n 2, 1) := dk_28 (dk_at dksX6_drawn_1 3 rfl rfl)
theorem dX6_drawn_28 : decode cX6_drawn 28 = .ok (.ireturn, 1) := dk_172 (dk_at dksX6_drawn_1 4 rfl rfl)
def dkwX6_draw_1 : List UInt8 := [160, 0, 11, 42, 28, 182, 0, 225, 167, 0, 4, 3, 172]
abbrev dktX6_draw_1 : List UInt8 := dkwX6_draw_1 ++ []
def dkwX6_draw_0 : List UInt8 := [43, 28, 5, 184, 0, 157, 46, 62, 29, 5, 160, 0, 11, 42, 28, 182, 0, 222, 167, 0, 17, 29, 6]
abbrev dktX6_draw_0 : List UInt8 := dkwX6_draw_0 ++ dktX6_draw_1
theorem dksX6_draw_0 : cX6_draw.data.toList.drop 0 = dktX6_draw_0 := by decide +kernel
theorem dksX6_draw_1 : cX6_draw.data.toList.drop 23 = dktX6_draw_1 := dk_seg dksX6_draw_0 23 rfl rfl
theorem dX6_draw_0 : decode cX6_draw 0 = .ok (.aload_n 1, 1) := dk_43 (dk_at dksX6_draw_0 0 rfl rfl)
theorem dX6_draw_1 : decode cX6_draw 1 = .ok (.iload_n 2, 1) := dk_28 (dk_at dksX6_draw_0 1 rfl rfl)
theorem dX6_draw_2 : decode cX6_draw 2 = .ok (.iconst 2, 1) := dk_5 (dk_at dksX6_draw_0 2 rfl rfl)
theorem dX6_draw_3 : decode cX6_draw 3 = .ok (.invokestatic 157, 3) := dk_184 0 157 (dk_at dksX6_draw_0 3 rfl rfl)
theorem dX6_draw_6 : decode cX6_draw 6 = .ok (.iaload, 1) := dk_46 (dk_at dksX6_draw_0 6 rfl rfl)
theorem dX6_draw_7 : decode cX6_draw 7 = .ok (.istore_n 3, 1) := dk_62 (dk_at dksX6_draw_0 7 rfl rfl)
theorem dX6_draw_8 : decode cX6_draw 8 = .ok (.iload_n 3, 1) := dk_29 (dk_at dksX6_draw_0 8 rfl rfl)
theorem dX6_draw_9 : decode cX6_draw 9 = .ok (.iconst 2, 1) := dk_5 (dk_at dksX6_draw_0 9 rfl rfl)
theorem dX6_draw_10 : decode cX6_draw 10 = .ok (.if_icmp .ne 11, 3) := dk_160 0 11 (dk_at dksX6_draw_0 10 rfl rfl)
theorem dX6_draw_13 : decode cX6_draw 13 = .ok (.aload_n 0, 1) := dk_42 (dk_at dksX6_draw_0 13 rfl rfl)
theorem dX6_draw_14 : decode cX6_draw 14 = .ok (.iload_n 2, 1) := dk_28 (dk_at dksX6_draw_0 14 rfl rfl)
theorem dX6_draw_15 : decode cX6_draw 15 = .ok (.invokevirtual 222, 3) := dk_182 0 222 (dk_at dksX6_draw_0 15 rfl rfl)
theorem dX6_draw_18 : decode cX6_draw 18 = .ok (.goto 17, 3) := dk_167 0 17 (dk_at dksX6_draw_0 18 rfl rfl)
theorem dX6_draw_21 : decode cX6_draw 21 = .ok (.iload_n 3, 1) := dk_29 (dk_at dksX6_draw_0 21 rfl rfl)
theorem dX6_draw_22 : decode cX6_draw 22 = .ok (.iconst 3, 1) := dk_6 (dk_at dksX6_draw_0 22 rfl rfl)
theorem dX6_draw_23 : decode cX6_draw 23 = .ok (.if_icmp .ne 11, 3) := dk_160 0 11 (dk_at dksX6_draw_1 0 rfl rfl)
theorem dX6_draw_26 : decode cX6_draw 26 = .ok (.aload_n 0, 1) := dk_42 (dk_at dksX6_draw_1 3 rfl rfl)
theorem dX6_draw_27 : decode cX6_draw 27 = .ok (.iload_n 2, 1) := dk_28 (dk_at dksX6_draw_1 4 rfl rfl)
theorem dX6_draw_28 : decode cX6_draw 28 = .ok (.invokevirtual 225, 3) := dk_182 0 225 (dk_at dksX6_draw_1 5 rfl rfl)
theorem dX6_draw_31 : decode cX6_draw 31 = .ok (.goto 4, 3) := dk_167 0 4 (dk_at dksX6_draw_1 8 rfl rfl)
theorem dX6_draw_34 : decode cX6_draw 34 = .ok (.iconst 0, 1) := dk_3 (dk_at dksX6_draw_1 11 rfl rfl)
theorem dX6_draw_35 : decode cX6_draw 35 = .ok (.ireturn, 1) := dk_172 (dk_at dksX6_draw_1 12 rfl rfl)
def dkwX6_reservedAll_1 : List UInt8 := [167, 255, 236, 28, 172]
abbrev dktX6_reservedAll_1 : List UInt8 := dkwX6_reservedAll_1 ++ []
def dkwX6_reservedAll_0 : List UInt8 := [3, 61, 3, 62, 29, 42, 180, 0, 207, 162, 0, 18, 28, 42, 43, 29, 182, 0, 238, 96, 61, 132, 3, 1]
abbrev dktX6_reservedAll_0 : List UInt8 := dkwX6_reservedAll_0 ++ dktX6_reservedAll_1
theorem dksX6_reservedAll_0 : cX6_reservedAll.data.toList.drop 0 = dktX6_reservedAll_0 := by decide +kernel
theorem dksX6_reservedAll_1 : cX6_reservedAll.data.toList.drop 24 = dktX6_reservedAll_1 := dk_seg dksX6_reservedAll_0 24 rfl rfl
theorem dX6_reservedAll_0 : decode cX6_reservedAll 0 = .ok (.iconst 0, 1) := dk_3 (dk_at dksX6_reservedAll_0 0 rfl rfl)
theorem dX6_reservedAll_1 : decode cX6_reservedAll 1 = .ok (.istore_n 2, 1) := dk_61 (dk_at dksX6_reservedAll_0 1 rfl rfl)
theorem dX6_reservedAll_2 : decode cX6_reservedAll 2 = .ok (.iconst 0, 1) := dk_3 (dk_at dksX6_reservedAll_0 2 rfl rfl)
theorem dX6_reservedAll_3 : decode cX6_reservedAll 3 = .ok (.istore_n 3, 1) := dk_62 (dk_at dksX6_reservedAll_0 3 rfl rfl)
theorem dX6_reservedAll_4 : decode cX6_reservedAll 4 = .ok (.iload_n 3, 1) := dk_29 (dk_at dksX6_reservedAll_0 4 rfl rfl)
theorem dX6_reservedAll_5 : decode cX6_reservedAll 5 = .ok (.aload_n 0, 1) := dk_42 (dk_at dksX6_reservedAll_0 5 rfl rfl)
theorem dX6_reservedAll_6 : decode cX6_reservedAll 6 = .ok (.getfield 207, 3) := dk_180 0 207 (dk_at dksX6_reservedAll_0 6 rfl rfl)
theorem dX6_reservedAll_9 : decode cX6_reservedAll 9 = .ok (.if_icmp .ge 18, 3) := dk_162 0 18 (dk_at dksX6_reservedAll_0 9 rfl rfl)
theorem dX6_reservedAll_12 : decode cX6_reservedAll 12 = .ok (.iload_n 2, 1) := dk_28 (dk_at dksX6_reservedAll_0 12 rfl rfl)
theorem dX6_reservedAll_13 : decode cX6_reservedAll 13 = .ok (.aload_n 0, 1) := dk_42 (dk_at dksX6_reservedAll_0 13 rfl rfl)
theorem dX6_reservedAll_14 : decode cX6_reservedAll 14 = .ok (.aload_n 1, 1) := dk_43 (dk_at dksX6_reservedAll_0 14 rfl rfl)
theorem dX6_reservedAll_15 : decode cX6_reservedAll 15 = .ok (.iload_n 3, 1) := dk_29 (dk_at dksX6_reservedAll_0 15 rfl rfl)
theorem dX6_reservedAll_16 : decode cX6_reservedAll 16 = .ok (.invokevirtual 238, 3) := dk_182 0 238 (dk_at dksX6_reservedAll_0 16 rfl rfl)
theorem dX6_reservedAll_19 : decode cX6_reservedAll 19 = .ok (.iadd, 1) := dk_96 (dk_at dksX6_reservedAll_0 19 rfl rfl)
theorem dX6_reservedAll_20 : decode cX6_reservedAll 20 = .ok (.istore_n 2, 1) := dk_61 (dk_at dksX6_reservedAll_0 20 rfl rfl)
theorem dX6_reservedAll_21 : decode cX6_reservedAll 21 = .ok (.iinc 3 1, 3) := dk_132 3 1 (dk_at dksX6_reservedAll_0 21 rfl rfl)
theorem dX6_reservedAll_24 : decode cX6_reservedAll 24 = .ok (.goto (-20), 3) := dk_167 255 236 (dk_at dksX6_reservedAll_1 0 rfl rfl)
theorem dX6_reservedAll_27 : decode cX6_reservedAll 27 = .ok (.iload_n 2, 1) := dk_28 (dk_at dksX6_reservedAll_1 3 rfl rfl)
theorem dX6_reservedAll_28 : decode cX6_reservedAll 28 = .ok (.ireturn, 1) := dk_172 (dk_at dksX6_reservedAll_1 4 rfl rfl)
def dkwX6_strain_0 : List UInt8 := [42, 3, 181, 0, 72, 42, 180, 0, 25, 16, 10, 46, 135, 42, 180, 0, 25, 16, 6, 46, 135, 111, 175]
abbrev dktX6_strain_0 : List UInt8 := dkwX6_strain_0 ++ []
theorem dksX6_strain_0 : cX6_strain.data.toList.drop 0 = dktX6_strain_0 := by decide +kernel
theorem dX6_strain_0 : decode cX6_strain 0 = .ok (.aload_n 0, 1) := dk_42 (dk_at dksX6_strain_0 0 rfl rfl)
theorem dX6_strain_1 : decode cX6_strain 1 = .ok (.iconst 0, 1) := dk_3 (dk_at dksX6_strain_0 1 rfl rfl)
theorem dX6_strain_2 : decode cX6_strain 2 = .ok (.putfield 72, 3) := dk_181 0 72 (dk_at dksX6_strain_0 2 rfl rfl)
theorem dX6_strain_5 : decode cX6_strain 5 = .ok (.aload_n 0, 1) := dk_42 (dk_at dksX6_strain_0 5 rfl rfl)
theorem dX6_strain_6 : decode cX6_strain 6 = .ok (.getfield 25, 3) := dk_180 0 25 (dk_at dksX6_strain_0 6 rfl rfl)
theorem dX6_strain_9 : decode cX6_strain 9 = .ok (.bipush 10, 2) := dk_16 10 (dk_at dksX6_strain_0 9 rfl rfl)
theorem dX6_strain_11 : decode cX6_strain 11 = .ok (.iaload, 1) := dk_46 (dk_at dksX6_strain_0 11 rfl rfl)
theorem dX6_strain_12 : decode cX6_strain 12 = .ok (.i2d, 1) := dk_135 (dk_at dksX6_strain_0 12 rfl rfl)
theorem dX6_strain_13 : decode cX6_strain 13 = .ok (.aload_n 0, 1) := dk_42 (dk_at dksX6_strain_0 13 rfl rfl)
theorem dX6_strain_14 : decode cX6_strain 14 = .ok (.getfield 25, 3) := dk_180 0 25 (dk_at dksX6_strain_0 14 rfl rfl)
theorem dX6_strain_17 : decode cX6_strain 17 = .ok (.bipush 6, 2) := dk_16 6 (dk_at dksX6_strain_0 17 rfl rfl)
theorem dX6_strain_19 : decode cX6_strain 19 = .ok (.iaload, 1) := dk_46 (dk_at dksX6_strain_0 19 rfl rfl)
theorem dX6_strain_20 : decode cX6_strain 20 = .ok (.i2d, 1) := dk_135 (dk_at dksX6_strain_0 20 rfl rfl)
theorem dX6_strain_21 : decode cX6_strain 21 = .ok (.ddiv, 1) := dk_111 (dk_at dksX6_strain_0 21 rfl rfl)
theorem dX6_strain_22 : decode cX6_strain 22 = .ok (.dreturn, 1) := dk_175 (dk_at dksX6_strain_0 22 rfl rfl)
def dkwX6_message_2 : List UInt8 := [172, 42, 180, 0, 25, 17, 0, 195, 6, 27, 104, 96, 28, 96, 46, 172]
abbrev dktX6_message_2 : List UInt8 := dkwX6_message_2 ++ []
def dkwX6_message_1 : List UInt8 := [182, 0, 78, 153, 0, 20, 42, 28, 133, 9, 20, 1, 54, 184, 0, 82, 5, 182, 0, 78, 154, 0, 5, 3]
abbrev dktX6_message_1 : List UInt8 := dkwX6_message_1 ++ dktX6_message_2
def dkwX6_message_0 : List UInt8 := [42, 3, 181, 0, 72, 42, 27, 133, 9, 42, 180, 0, 25, 16, 11, 46, 4, 100, 133, 184, 0, 82, 4]
abbrev dktX6_message_0 : List UInt8 := dkwX6_message_0 ++ dktX6_message_1
theorem dksX6_message_0 : cX6_message.data.toList.drop 0 = dktX6_message_0 := by decide +kernel
theorem dksX6_message_1 : cX6_message.data.toList.drop 23 = dktX6_message_1 := dk_seg dksX6_message_0 23 rfl rfl
theorem dksX6_message_2 : cX6_message.data.toList.drop 47 = dktX6_message_2 := dk_seg dksX6_message_1 24 rfl rfl
theorem dX6_message_0 : decode cX6_message 0 = .ok (.aload_n 0, 1) := dk_42 (dk_at dksX6_message_0 0 rfl rfl)
theorem dX6_message_1 : decode cX6_message 1 = .ok (.iconst 0, 1) := dk_3 (dk_at dksX6_message_0 1 rfl rfl)
theorem dX6_message_2 : decode cX6_message 2 = .ok (.putfield 72, 3) := dk_181 0 72 (dk_at dksX6_message_0 2 rfl rfl)
theorem dX6_message_5 : decode cX6_message 5 = .ok (.aload_n 0, 1) := dk_42 (dk_at dksX6_message_0 5 rfl rfl)
theorem dX6_message_6 : decode cX6_message 6 = .ok (.iload_n 1, 1) := dk_27 (dk_at dksX6_message_0 6 rfl rfl)
theorem dX6_message_7 : decode cX6_message 7 = .ok (.i2l, 1) := dk_133 (dk_at dksX6_message_0 7 rfl rfl)
theorem dX6_message_8 : decode cX6_message 8 = .ok (.lconst 0, 1) := dk_9 (dk_at dksX6_message_0 8 rfl rfl)
theorem dX6_message_9 : decode cX6_message 9 = .ok (.aload_n 0, 1) := dk_42 (dk_at dksX6_message_0 9 rfl rfl)
theorem dX6_message_10 : decode cX6_message 10 = .ok (.getfield 25, 3) := dk_180 0 25 (dk_at dksX6_message_0 10 rfl rfl)
theorem dX6_message_13 : decode cX6_message 13 = .ok (.bipush 11, 2) := dk_16 11 (dk_at dksX6_message_0 13 rfl rfl)
theorem dX6_message_15 : decode cX6_message 15 = .ok (.iaload, 1) := dk_46 (dk_at dksX6_message_0 15 rfl rfl)
theorem dX6_message_16 : decode cX6_message 16 = .ok (.iconst 1, 1) := dk_4 (dk_at dksX6_message_0 16 rfl rfl)
theorem dX6_message_17 : decode cX6_message 17 = .ok (.isub, 1) := dk_100 (dk_at dksX6_message_0 17 rfl rfl)
theorem dX6_message_18 : decode cX6_message 18 = .ok (.i2l, 1) := dk_133 (dk_at dksX6_message_0 18 rfl rfl)
theorem dX6_message_19 : decode cX6_message 19 = .ok (.invokestatic 82, 3) := dk_184 0 82 (dk_at dksX6_message_0 19 rfl rfl)
theorem dX6_message_22 : decode cX6_message 22 = .ok (.iconst 1, 1) := dk_4 (dk_at dksX6_message_0 22 rfl rfl)
theorem dX6_message_23 : decode cX6_message 23 = .ok (.invokevirtual 78, 3) := dk_182 0 78 (dk_at dksX6_message_1 0 rfl rfl)
theorem dX6_message_26 : decode cX6_message 26 = .ok (.ifCond .eq 20, 3) := dk_153 0 20 (dk_at dksX6_message_1 3 rfl rfl)
theorem dX6_message_29 : decode cX6_message 29 = .ok (.aload_n 0, 1) := dk_42 (dk_at dksX6_message_1 6 rfl rfl)
theorem dX6_message_30 : decode cX6_message 30 = .ok (.iload_n 2, 1) := dk_28 (dk_at dksX6_message_1 7 rfl rfl)
theorem dX6_message_31 : decode cX6_message 31 = .ok (.i2l, 1) := dk_133 (dk_at dksX6_message_1 8 rfl rfl)
theorem dX6_message_32 : decode cX6_message 32 = .ok (.lconst 0, 1) := dk_9 (dk_at dksX6_message_1 9 rfl rfl)
theorem dX6_message_33 : decode cX6_message 33 = .ok (.ldc2_w 310, 3) := dk_20 1 54 (dk_at dksX6_message_1 10 rfl rfl)
theorem dX6_message_36 : decode cX6_message 36 = .ok (.invokestatic 82, 3) := dk_184 0 82 (dk_at dksX6_message_1 13 rfl rfl)
theorem dX6_message_39 : decode cX6_message 39 = .ok (.iconst 2, 1) := dk_5 (dk_at dksX6_message_1 16 rfl rfl)
theorem dX6_message_40 : decode cX6_message 40 = .ok (.invokevirtual 78, 3) := dk_182 0 78 (dk_at dksX6_message_1 17 rfl rfl)
theorem dX6_message_43 : decode cX6_message 43 = .ok (.ifCond .ne 5, 3) := dk_154 0 5 (dk_at dksX6_message_1 20 rfl rfl)
theorem dX6_message_46 : decode cX6_message 46 = .ok (.iconst 0, 1) := dk_3 (dk_at dksX6_message_1 23 rfl rfl)
theorem dX6_message_47 : decode cX6_message 47 = .ok (.ireturn, 1) := dk_172 (dk_at dksX6_message_2 0 rfl rfl)
theorem dX6_message_48 : decode cX6_message 48 = .ok (.aload_n 0, 1) := dk_42 (dk_at dksX6_message_2 1 rfl rfl)
theorem dX6_message_49 : decode cX6_message 49 = .ok (.getfield 25, 3) := dk_180 0 25 (dk_at dksX6_message_2 2 rfl rfl)
theorem dX6_message_52 : decode cX6_message 52 = .ok (.sipush 195, 3) := dk_17 0 195 (dk_at dksX6_message_2 5 rfl rfl)
theorem dX6_message_55 : decode cX6_message 55 = .ok (.iconst 3, 1) := dk_6 (dk_at dksX6_message_2 8 rfl rfl)
theorem dX6_message_56 : decode cX6_message 56 = .ok (.iload_n 1, 1) := dk_27 (dk_at dksX6_message_2 9 rfl rfl)
theorem dX6_message_57 : decode cX6_message 57 = .ok (.imul, 1) := dk_104 (dk_at dksX6_message_2 10 rfl rfl)
theorem dX6_message_58 : decode cX6_message 58 = .ok (.iadd, 1) := dk_96 (dk_at dksX6_message_2 11 rfl rfl)
theorem dX6_message_59 : decode cX6_message 59 = .ok (.iload_n 2, 1) := dk_28 (dk_at dksX6_message_2 12 rfl rfl)
theorem dX6_message_60 : decode cX6_message 60 = .ok (.iadd, 1) := dk_96 (dk_at dksX6_message_2 13 rfl rfl)
theorem dX6_message_61 : decode cX6_message 61 = .ok (.iaload, 1) := dk_46 (dk_at dksX6_message_2 14 rfl rfl)
theorem dX6_message_62 : decode cX6_message 62 = .ok (.ireturn, 1) := dk_172 (dk_at dksX6_message_2 15 rfl rfl)
def dkwX6_traffic_1 : List UInt8 := [180, 0, 25, 28, 153, 0, 8, 16, 21, 167, 0, 5, 16, 15, 27, 96, 46, 167, 0, 4, 3, 172]
abbrev dktX6_traffic_1 : List UInt8 := dkwX6_traffic_1 ++ []
def dkwX6_traffic_0 : List UInt8 := [42, 3, 181, 0, 72, 42, 27, 133, 9, 20, 1, 50, 184, 0, 82, 4, 182, 0, 78, 153, 0, 24, 42]
abbrev dktX6_traffic_0 : List UInt8 := dkwX6_traffic_0 ++ dktX6_traffic_1
theorem dksX6_traffic_0 : cX6_traffic.data.toList.drop 0 = dktX6_traffic_0 := by decide +kernel
theorem dksX6_traffic_1 : cX6_traffic.data.toList.drop 23 = dktX6_traffic_1 := dk_seg dksX6_traffic_0 23 rfl rfl
theorem dX6_traffic_0 : decode cX6_traffic 0 = .ok (.aload_n 0, 1) := dk_42 (dk_at dksX6_traffic_0 0 rfl rfl)
theorem dX6_traffic_1 : decode cX6_traffic 1 = .ok (.iconst 0, 1) := dk_3 (dk_at dksX6_traffic_0 1 rfl rfl)
theorem dX6_traffic_2 : decode cX6_traffic 2 = .ok (.putfield 72, 3) := dk_181 0 72 (dk_at dksX6_traffic_0 2 rfl rfl)
theorem dX6_traffic_5 : decode cX6_traffic 5 = .ok (.aload_n 0, 1) := dk_42 (dk_at dksX6_traffic_0 5 rfl rfl)
theorem dX6_traffic_6 : decode cX6_traffic 6 = .ok (.iload_n 1, 1) := dk_27 (dk_at dksX6_traffic_0 6 rfl rfl)
theorem dX6_traffic_7 : decode cX6_traffic 7 = .ok (.i2l, 1) := dk_133 (dk_at dksX6_traffic_0 7 rfl rfl)
theorem dX6_traffic_8 : decode cX6_traffic 8 = .ok (.lconst 0, 1) := dk_9 (dk_at dksX6_traffic_0 8 rfl rfl)
theorem dX6_traffic_9 : decode cX6_traffic 9 = .ok (.ldc2_w 306, 3) := dk_20 1 50 (dk_at dksX6_traffic_0 9 rfl rfl)
theorem dX6_traffic_12 : decode cX6_traffic 12 = .ok (.invokestatic 82, 3) := dk_184 0 82 (dk_at dksX6_traffic_0 12 rfl rfl)
theorem dX6_traffic_15 : decode cX6_traffic 15 = .ok (.iconst 1, 1) := dk_4 (dk_at dksX6_traffic_0 15 rfl rfl)
theorem dX6_traffic_16 : decode cX6_traffic 16 = .ok (.invokevirtual 78, 3) := dk_182 0 78 (dk_at dksX6_traffic_0 16 rfl rfl)
theorem dX6_traffic_19 : decode cX6_traffic 19 = .ok (.ifCond .eq 24, 3) := dk_153 0 24 (dk_at dksX6_traffic_0 19 rfl rfl)
theorem dX6_traffic_22 : decode cX6_traffic 22 = .ok (.aload_n 0, 1) := dk_42 (dk_at dksX6_traffic_0 22 rfl rfl)
theorem dX6_traffic_23 : decode cX6_traffic 23 = .ok (.getfield 25, 3) := dk_180 0 25 (dk_at dksX6_traffic_1 0 rfl rfl)
theorem dX6_traffic_26 : decode cX6_traffic 26 = .ok (.iload_n 2, 1) := dk_28 (dk_at dksX6_traffic_1 3 rfl rfl)
theorem dX6_traffic_27 : decode cX6_traffic 27 = .ok (.ifCond .eq 8, 3) := dk_153 0 8 (dk_at dksX6_traffic_1 4 rfl rfl)
theorem dX6_traffic_30 : decode cX6_traffic 30 = .ok (.bipush 21, 2) := dk_16 21 (dk_at dksX6_traffic_1 7 rfl rfl)
theorem dX6_traffic_32 : decode cX6_traffic 32 = .ok (.goto 5, 3) := dk_167 0 5 (dk_at dksX6_traffic_1 9 rfl rfl)
theorem dX6_traffic_35 : decode cX6_traffic 35 = .ok (.bipush 15, 2) := dk_16 15 (dk_at dksX6_traffic_1 12 rfl rfl)
theorem dX6_traffic_37 : decode cX6_traffic 37 = .ok (.iload_n 1, 1) := dk_27 (dk_at dksX6_traffic_1 14 rfl rfl)
theorem dX6_traffic_38 : decode cX6_traffic 38 = .ok (.iadd, 1) := dk_96 (dk_at dksX6_traffic_1 15 rfl rfl)
theorem dX6_traffic_39 : decode cX6_traffic 39 = .ok (.iaload, 1) := dk_46 (dk_at dksX6_traffic_1 16 rfl rfl)
theorem dX6_traffic_40 : decode cX6_traffic 40 = .ok (.goto 4, 3) := dk_167 0 4 (dk_at dksX6_traffic_1 17 rfl rfl)
theorem dX6_traffic_43 : decode cX6_traffic 43 = .ok (.iconst 0, 1) := dk_3 (dk_at dksX6_traffic_1 20 rfl rfl)
theorem dX6_traffic_44 : decode cX6_traffic 44 = .ok (.ireturn, 1) := dk_172 (dk_at dksX6_traffic_1 21 rfl rfl)
def dkwX6_learned_1 : List UInt8 := [182, 0, 78, 153, 0, 15, 42, 180, 0, 25, 16, 39, 27, 96, 46, 167, 0, 4, 3, 172]
abbrev dktX6_learned_1 : List UInt8 := dkwX6_learned_1 ++ []
def dkwX6_learned_0 : List UInt8 := [42, 3, 181, 0, 72, 42, 27, 133, 9, 42, 180, 0, 25, 16, 13, 46, 4, 100, 133, 184, 0, 82, 4]
abbrev dktX6_learned_0 : List UInt8 := dkwX6_learned_0 ++ dktX6_learned_1
theorem dksX6_learned_0 : cX6_learned.data.toList.drop 0 = dktX6_learned_0 := by decide +kernel
theorem dksX6_learned_1 : cX6_learned.data.toList.drop 23 = dktX6_learned_1 := dk_seg dksX6_learned_0 23 rfl rfl
theorem dX6_learned_0 : decode cX6_learned 0 = .ok (.aload_n 0, 1) := dk_42 (dk_at dksX6_learned_0 0 rfl rfl)
theorem dX6_learned_1 : decode cX6_learned 1 = .ok (.iconst 0, 1) := dk_3 (dk_at dksX6_learned_0 1 rfl rfl)
theorem dX6_learned_2 : decode cX6_learned 2 = .ok (.putfield 72, 3) := dk_181 0 72 (dk_at dksX6_learned_0 2 rfl rfl)
theorem dX6_learned_5 : decode cX6_learned 5 = .ok (.aload_n 0, 1) := dk_42 (dk_at dksX6_learned_0 5 rfl rfl)
theorem dX6_learned_6 : decode cX6_learned 6 = .ok (.iload_n 1, 1) := dk_27 (dk_at dksX6_learned_0 6 rfl rfl)
theorem dX6_learned_7 : decode cX6_learned 7 = .ok (.i2l, 1) := dk_133 (dk_at dksX6_learned_0 7 rfl rfl)
theorem dX6_learned_8 : decode cX6_learned 8 = .ok (.lconst 0, 1) := dk_9 (dk_at dksX6_learned_0 8 rfl rfl)
theorem dX6_learned_9 : decode cX6_learned 9 = .ok (.aload_n 0, 1) := dk_42 (dk_at dksX6_learned_0 9 rfl rfl)
theorem dX6_learned_10 : decode cX6_learned 10 = .ok (.getfield 25, 3) := dk_180 0 25 (dk_at dksX6_learned_0 10 rfl rfl)
theorem dX6_learned_13 : decode cX6_learned 13 = .ok (.bipush 13, 2) := dk_16 13 (dk_at dksX6_learned_0 13 rfl rfl)
theorem dX6_learned_15 : decode cX6_learned 15 = .ok (.iaload, 1) := dk_46 (dk_at dksX6_learned_0 15 rfl rfl)
theorem dX6_learned_16 : decode cX6_learned 16 = .ok (.iconst 1, 1) := dk_4 (dk_at dksX6_learned_0 16 rfl rfl)
theorem dX6_learned_17 : decode cX6_learned 17 = .ok (.isub, 1) := dk_100 (dk_at dksX6_learned_0 17 rfl rfl)
theorem dX6_learned_18 : decode cX6_learned 18 = .ok (.i2l, 1) := dk_133 (dk_at dksX6_learned_0 18 rfl rfl)
theorem dX6_learned_19 : decode cX6_learned 19 = .ok (.invokestatic 82, 3) := dk_184 0 82 (dk_at dksX6_learned_0 19 rfl rfl)
theorem dX6_learned_22 : decode cX6_learned 22 = .ok (.iconst 1, 1) := dk_4 (dk_at dksX6_learned_0 22 rfl rfl)
theorem dX6_learned_23 : decode cX6_learned 23 = .ok (.invokevirtual 78, 3) := dk_182 0 78 (dk_at dksX6_learned_1 0 rfl rfl)
theorem dX6_learned_26 : decode cX6_learned 26 = .ok (.ifCond .eq 15, 3) := dk_153 0 15 (dk_at dksX6_learned_1 3 rfl rfl)
theorem dX6_learned_29 : decode cX6_learned 29 = .ok (.aload_n 0, 1) := dk_42 (dk_at dksX6_learned_1 6 rfl rfl)
theorem dX6_learned_30 : decode cX6_learned 30 = .ok (.getfield 25, 3) := dk_180 0 25 (dk_at dksX6_learned_1 7 rfl rfl)
theorem dX6_learned_33 : decode cX6_learned 33 = .ok (.bipush 39, 2) := dk_16 39 (dk_at dksX6_learned_1 10 rfl rfl)
theorem dX6_learned_35 : decode cX6_learned 35 = .ok (.iload_n 1, 1) := dk_27 (dk_at dksX6_learned_1 12 rfl rfl)
theorem dX6_learned_36 : decode cX6_learned 36 = .ok (.iadd, 1) := dk_96 (dk_at dksX6_learned_1 13 rfl rfl)
theorem dX6_learned_37 : decode cX6_learned 37 = .ok (.iaload, 1) := dk_46 (dk_at dksX6_learned_1 14 rfl rfl)
theorem dX6_learned_38 : decode cX6_learned 38 = .ok (.goto 4, 3) := dk_167 0 4 (dk_at dksX6_learned_1 15 rfl rfl)
theorem dX6_learned_41 : decode cX6_learned 41 = .ok (.iconst 0, 1) := dk_3 (dk_at dksX6_learned_1 18 rfl rfl)
theorem dX6_learned_42 : decode cX6_learned 42 = .ok (.ireturn, 1) := dk_172 (dk_at dksX6_learned_1 19 rfl rfl)
def dkwX6_grants_0 : List UInt8 := [42, 3, 181, 0, 72, 42, 42, 180, 0, 25, 3, 182, 1, 36, 172]
abbrev dktX6_grants_0 : List UInt8 := dkwX6_grants_0 ++ []
theorem dksX6_grants_0 : cX6_grants.data.toList.drop 0 = dktX6_grants_0 := by decide +kernel
theorem dX6_grants_0 : decode cX6_grants 0 = .ok (.aload_n 0, 1) := dk_42 (dk_at dksX6_grants_0 0 rfl rfl)
theorem dX6_grants_1 : decode cX6_grants 1 = .ok (.iconst 0, 1) := dk_3 (dk_at dksX6_grants_0 1 rfl rfl)
theorem dX6_grants_2 : decode cX6_grants 2 = .ok (.putfield 72, 3) := dk_181 0 72 (dk_at dksX6_grants_0 2 rfl rfl)
theorem dX6_grants_5 : decode cX6_grants 5 = .ok (.aload_n 0, 1) := dk_42 (dk_at dksX6_grants_0 5 rfl rfl)
theorem dX6_grants_6 : decode cX6_grants 6 = .ok (.aload_n 0, 1) := dk_42 (dk_at dksX6_grants_0 6 rfl rfl)
theorem dX6_grants_7 : decode cX6_grants 7 = .ok (.getfield 25, 3) := dk_180 0 25 (dk_at dksX6_grants_0 7 rfl rfl)
theorem dX6_grants_10 : decode cX6_grants 10 = .ok (.iconst 0, 1) := dk_3 (dk_at dksX6_grants_0 10 rfl rfl)
theorem dX6_grants_11 : decode cX6_grants 11 = .ok (.invokevirtual 292, 3) := dk_182 1 36 (dk_at dksX6_grants_0 11 rfl rfl)
theorem dX6_grants_14 : decode cX6_grants 14 = .ok (.ireturn, 1) := dk_172 (dk_at dksX6_grants_0 14 rfl rfl)
def dkwX6_grantsOf_7 : List UInt8 := [182, 0, 253, 42, 43, 21, 6, 5, 182, 0, 241, 167, 255, 108, 29, 172]
abbrev dktX6_grantsOf_7 : List UInt8 := dkwX6_grantsOf_7 ++ []
def dkwX6_grantsOf_6 : List UInt8 := [54, 5, 29, 4, 21, 6, 120, 128, 62, 28, 154, 0, 6, 167, 255, 128, 42, 43, 7, 21, 6, 2]
abbrev dktX6_grantsOf_6 : List UInt8 := dkwX6_grantsOf_6 ++ dktX6_grantsOf_7
def dkwX6_grantsOf_5 : List UInt8 := [164, 0, 13, 43, 16, 9, 46, 4, 160, 255, 156, 29, 172, 21, 5, 42, 43, 21, 6, 182, 0, 235, 100]
abbrev dktX6_grantsOf_5 : List UInt8 := dkwX6_grantsOf_5 ++ dktX6_grantsOf_6
def dkwX6_grantsOf_4 : List UInt8 := [42, 43, 21, 6, 182, 1, 11, 153, 0, 6, 167, 255, 176, 42, 43, 21, 6, 182, 0, 235, 21, 5]
abbrev dktX6_grantsOf_4 : List UInt8 := dkwX6_grantsOf_4 ++ dktX6_grantsOf_5
def dkwX6_grantsOf_3 : List UInt8 := [153, 0, 7, 21, 7, 54, 6, 132, 7, 1, 167, 255, 211, 21, 4, 4, 21, 6, 120, 2, 130, 126, 54, 4]
abbrev dktX6_grantsOf_3 : List UInt8 := dkwX6_grantsOf_3 ++ dktX6_grantsOf_4
def dkwX6_grantsOf_2 : List UInt8 := [122, 4, 126, 4, 160, 0, 25, 21, 6, 2, 159, 0, 15, 42, 43, 21, 7, 21, 6, 182, 1, 7]
abbrev dktX6_grantsOf_2 : List UInt8 := dkwX6_grantsOf_2 ++ dktX6_grantsOf_3
def dkwX6_grantsOf_1 : List UInt8 := [21, 4, 153, 0, 149, 2, 54, 6, 3, 54, 7, 21, 7, 42, 180, 0, 207, 162, 0, 42, 21, 4, 21, 7]
abbrev dktX6_grantsOf_1 : List UInt8 := dkwX6_grantsOf_1 ++ dktX6_grantsOf_2
def dkwX6_grantsOf_0 : List UInt8 := [3, 62, 42, 43, 16, 9, 4, 182, 0, 249, 54, 4, 43, 16, 6, 46, 42, 43, 182, 1, 4, 100, 54, 5]
abbrev dktX6_grantsOf_0 : List UInt8 := dkwX6_grantsOf_0 ++ dktX6_grantsOf_1
theorem dksX6_grantsOf_0 : cX6_grantsOf.data.toList.drop 0 = dktX6_grantsOf_0 := by decide +kernel
theorem dksX6_grantsOf_1 : cX6_grantsOf.data.toList.drop 24 = dktX6_grantsOf_1 := dk_seg dksX6_grantsOf_0 24 rfl rfl
theorem dksX6_grantsOf_2 : cX6_grantsOf.data.toList.drop 48 = dktX6_grantsOf_2 := dk_seg dksX6_grantsOf_1 24 rfl rfl
theorem dksX6_grantsOf_3 : cX6_grantsOf.data.toList.drop 70 = dktX6_grantsOf_3 := dk_seg dksX6_grantsOf_2 22 rfl rfl
theorem dksX6_grantsOf_4 : cX6_grantsOf.data.toList.drop 94 = dktX6_grantsOf_4 := dk_seg dksX6_grantsOf_3 24 rfl rfl
theorem dksX6_grantsOf_5 : cX6_grantsOf.data.toList.drop 116 = dktX6_grantsOf_5 := dk_seg dksX6_grantsOf_4 22 rfl rfl
theorem dksX6_grantsOf_6 : cX6_grantsOf.data.toList.drop 139 = dktX6_grantsOf_6 := dk_seg dksX6_grantsOf_5 23 rfl rfl
theorem dksX6_grantsOf_7 : cX6_grantsOf.data.toList.drop 161 = dktX6_grantsOf_7 := dk_seg dksX6_grantsOf_6 22 rfl rfl
theorem dX6_grantsOf_0 : decode cX6_grantsOf 0 = .ok (.iconst 0, 1) := dk_3 (dk_at dksX6_grantsOf_0 0 rfl rfl)
theorem dX6_grantsOf_1 : decode cX6_grantsOf 1 = .ok (.istore_n 3, 1) := dk_62 (dk_at dksX6_grantsOf_0 1 rfl rfl)
theorem dX6_grantsOf_2 : decode cX6_grantsOf 2 = .ok (.aload_n 0, 1) := dk_42 (dk_at dksX6_grantsOf_0 2 rfl rfl)
theorem dX6_grantsOf_3 : decode cX6_grantsOf 3 = .ok (.aload_n 1, 1) := dk_43 (dk_at dksX6_grantsOf_0 3 rfl rfl)
theorem dX6_grantsOf_4 : decode cX6_grantsOf 4 = .ok (.bipush 9, 2) := dk_16 9 (dk_at dksX6_grantsOf_0 4 rfl rfl)
theorem dX6_grantsOf_6 : decode cX6_grantsOf 6 = .ok (.iconst 1, 1) := dk_4 (dk_at dksX6_grantsOf_0 6 rfl rfl)
theorem dX6_grantsOf_7 : decode cX6_grantsOf 7 = .ok (.invokevirtual 249, 3) := dk_182 0 249 (dk_at dksX6_grantsOf_0 7 rfl rfl)
theorem dX6_grantsOf_10 : decode cX6_grantsOf 10 = .ok (.istore 4, 2) := dk_54 4 (dk_at dksX6_grantsOf_0 10 rfl rfl)
theorem dX6_grantsOf_12 : decode cX6_grantsOf 12 = .ok (.aload_n 1, 1) := dk_43 (dk_at dksX6_grantsOf_0 12 rfl rfl)
theorem dX6_grantsOf_13 : decode cX6_grantsOf 13 = .ok (.bipush 6, 2) := dk_16 6 (dk_at dksX6_grantsOf_0 13 rfl rfl)
theorem dX6_grantsOf_15 : decode cX6_grantsOf 15 = .ok (.iaload, 1) := dk_46 (dk_at dksX6_grantsOf_0 15 rfl rfl)
theorem dX6_grantsOf_16 : decode cX6_grantsOf 16 = .ok (.aload_n 0, 1) := dk_42 (dk_at dksX6_grantsOf_0 16 rfl rfl)
theorem dX6_grantsOf_17 : decode cX6_grantsOf 17 = .ok (.aload_n 1, 1) := dk_43 (dk_at dksX6_grantsOf_0 17 rfl rfl)
theorem dX6_grantsOf_18 : decode cX6_grantsOf 18 = .ok (.invokevirtual 260, 3) := dk_182 1 4 (dk_at dksX6_grantsOf_0 18 rfl rfl)
theorem dX6_grantsOf_21 : decode cX6_grantsOf 21 = .ok (.isub, 1) := dk_100 (dk_at dksX6_grantsOf_0 21 rfl rfl)
theorem dX6_grantsOf_22 : decode cX6_grantsOf 22 = .ok (.istore 5, 2) := dk_54 5 (dk_at dksX6_grantsOf_0 22 rfl rfl)
theorem dX6_grantsOf_24 : decode cX6_grantsOf 24 = .ok (.iload 4, 2) := dk_21 4 (dk_at dksX6_grantsOf_1 0 rfl rfl)
theorem dX6_grantsOf_26 : decode cX6_grantsOf 26 = .ok (.ifCond .eq 149, 3) := dk_153 0 149 (dk_at dksX6_grantsOf_1 2 rfl rfl)
theorem dX6_grantsOf_29 : decode cX6_grantsOf 29 = .ok (.iconst (-1), 1) := dk_2 (dk_at dksX6_grantsOf_1 5 rfl rfl)
theorem dX6_grantsOf_30 : decode cX6_grantsOf 30 = .ok (.istore 6, 2) := dk_54 6 (dk_at dksX6_grantsOf_1 6 rfl rfl)
theorem dX6_grantsOf_32 : decode cX6_grantsOf 32 = .ok (.iconst 0, 1) := dk_3 (dk_at dksX6_grantsOf_1 8 rfl rfl)
theorem dX6_grantsOf_33 : decode cX6_grantsOf 33 = .ok (.istore 7, 2) := dk_54 7 (dk_at dksX6_grantsOf_1 9 rfl rfl)
theorem dX6_grantsOf_35 : decode cX6_grantsOf 35 = .ok (.iload 7, 2) := dk_21 7 (dk_at dksX6_grantsOf_1 11 rfl rfl)
theorem dX6_grantsOf_37 : decode cX6_grantsOf 37 = .ok (.aload_n 0, 1) := dk_42 (dk_at dksX6_grantsOf_1 13 rfl rfl)
theorem dX6_grantsOf_38 : decode cX6_grantsOf 38 = .ok (.getfield 207, 3) := dk_180 0 207 (dk_at dksX6_grantsOf_1 14 rfl rfl)
theorem dX6_grantsOf_41 : decode cX6_grantsOf 41 = .ok (.if_icmp .ge 42, 3) := dk_162 0 42 (dk_at dksX6_grantsOf_1 17 rfl rfl)
theorem dX6_grantsOf_44 : decode cX6_grantsOf 44 = .ok (.iload 4, 2) := dk_21 4 (dk_at dksX6_grantsOf_1 20 rfl rfl)
theorem dX6_grantsOf_46 : decode cX6_grantsOf 46 = .ok (.iload 7, 2) := dk_21 7 (dk_at dksX6_grantsOf_1 22 rfl rfl)
theorem dX6_grantsOf_48 : decode cX6_grantsOf 48 = .ok (.ishr, 1) := dk_122 (dk_at dksX6_grantsOf_2 0 rfl rfl)
theorem dX6_grantsOf_49 : decode cX6_grantsOf 49 = .ok (.iconst 1, 1) := dk_4 (dk_at dksX6_grantsOf_2 1 rfl rfl)
theorem dX6_grantsOf_50 : decode cX6_grantsOf 50 = .ok (.iand, 1) := dk_126 (dk_at dksX6_grantsOf_2 2 rfl rfl)
theorem dX6_grantsOf_51 : decode cX6_grantsOf 51 = .ok (.iconst 1, 1) := dk_4 (dk_at dksX6_grantsOf_2 3 rfl rfl)
theorem dX6_grantsOf_52 : decode cX6_grantsOf 52 = .ok (.if_icmp .ne 25, 3) := dk_160 0 25 (dk_at dksX6_grantsOf_2 4 rfl rfl)
theorem dX6_grantsOf_55 : decode cX6_grantsOf 55 = .ok (.iload 6, 2) := dk_21 6 (dk_at dksX6_grantsOf_2 7 rfl rfl)
theorem dX6_grantsOf_57 : decode cX6_grantsOf 57 = .ok (.iconst (-1), 1) := dk_2 (dk_at dksX6_grantsOf_2 9 rfl rfl)
theorem dX6_grantsOf_58 : decode cX6_grantsOf 58 = .ok (.if_icmp .eq 15, 3) := dk_159 0 15 (dk_at dksX6_grantsOf_2 10 rfl rfl)
theorem dX6_grantsOf_61 : decode cX6_grantsOf 61 = .ok (.aload_n 0, 1) := dk_42 (dk_at dksX6_grantsOf_2 13 rfl rfl)
theorem dX6_grantsOf_62 : decode cX6_grantsOf 62 = .ok (.aload_n 1, 1) := dk_43 (dk_at dksX6_grantsOf_2 14 rfl rfl)
theorem dX6_grantsOf_63 : decode cX6_grantsOf 63 = .ok (.iload 7, 2) := dk_21 7 (dk_at dksX6_grantsOf_2 15 rfl rfl)
theorem dX6_grantsOf_65 : decode cX6_grantsOf 65 = .ok (.iload 6, 2) := dk_21 6 (dk_at dksX6_grantsOf_2 17 rfl rfl)
theorem dX6_grantsOf_67 : decode cX6_grantsOf 67 = .ok (.invokevirtual 263, 3) := dk_182 1 7 (dk_at dksX6_grantsOf_2 19 rfl rfl)
theorem dX6_grantsOf_70 : decode cX6_grantsOf 70 = .ok (.ifCond .eq 7, 3) := dk_153 0 7 (dk_at dksX6_grantsOf_3 0 rfl rfl)
theorem dX6_grantsOf_73 : decode cX6_grantsOf 73 = .ok (.iload 7, 2) := dk_21 7 (dk_at dksX6_grantsOf_3 3 rfl rfl)
theorem dX6_grantsOf_75 : decode cX6_grantsOf 75 = .ok (.istore 6, 2) := dk_54 6 (dk_at dksX6_grantsOf_3 5 rfl rfl)
theorem dX6_grantsOf_77 : decode cX6_grantsOf 77 = .ok (.iinc 7 1, 3) := dk_132 7 1 (dk_at dksX6_grantsOf_3 7 rfl rfl)
theorem dX6_grantsOf_80 : decode cX6_grantsOf 80 = .ok (.goto (-45), 3) := dk_167 255 211 (dk_at dksX6_grantsOf_3 10 rfl rfl)
theorem dX6_grantsOf_83 : decode cX6_grantsOf 83 = .ok (.iload 4, 2) := dk_21 4 (dk_at dksX6_grantsOf_3 13 rfl rfl)
theorem dX6_grantsOf_85 : decode cX6_grantsOf 85 = .ok (.iconst 1, 1) := dk_4 (dk_at dksX6_grantsOf_3 15 rfl rfl)
theorem dX6_grantsOf_86 : decode cX6_grantsOf 86 = .ok (.iload 6, 2) := dk_21 6 (dk_at dksX6_grantsOf_3 16 rfl rfl)
theorem dX6_grantsOf_88 : decode cX6_grantsOf 88 = .ok (.ishl, 1) := dk_120 (dk_at dksX6_grantsOf_3 18 rfl rfl)
theorem dX6_grantsOf_89 : decode cX6_grantsOf 89 = .ok (.iconst (-1), 1) := dk_2 (dk_at dksX6_grantsOf_3 19 rfl rfl)
theorem dX6_grantsOf_90 : decode cX6_grantsOf 90 = .ok (.ixor, 1) := dk_130 (dk_at dksX6_grantsOf_3 20 rfl rfl)
theorem dX6_grantsOf_91 : decode cX6_grantsOf 91 = .ok (.iand, 1) := dk_126 (dk_at dksX6_grantsOf_3 21 rfl rfl)
theorem dX6_grantsOf_92 : decode cX6_grantsOf 92 = .ok (.istore 4, 2) := dk_54 4 (dk_at dksX6_grantsOf_3 22 rfl rfl)
theorem dX6_grantsOf_94 : decode cX6_grantsOf 94 = .ok (.aload_n 0, 1) := dk_42 (dk_at dksX6_grantsOf_4 0 rfl rfl)
theorem dX6_grantsOf_95 : decode cX6_grantsOf 95 = .ok (.aload_n 1, 1) := dk_43 (dk_at dksX6_grantsOf_4 1 rfl rfl)
theorem dX6_grantsOf_96 : decode cX6_grantsOf 96 = .ok (.iload 6, 2) := dk_21 6 (dk_at dksX6_grantsOf_4 2 rfl rfl)
theorem dX6_grantsOf_98 : decode cX6_grantsOf 98 = .ok (.invokevirtual 267, 3) := dk_182 1 11 (dk_at dksX6_grantsOf_4 4 rfl rfl)
theorem dX6_grantsOf_101 : decode cX6_grantsOf 101 = .ok (.ifCond .eq 6, 3) := dk_153 0 6 (dk_at dksX6_grantsOf_4 7 rfl rfl)
theorem dX6_grantsOf_104 : decode cX6_grantsOf 104 = .ok (.goto (-80), 3) := dk_167 255 176 (dk_at dksX6_grantsOf_4 10 rfl rfl)
theorem dX6_grantsOf_107 : decode cX6_grantsOf 107 = .ok (.aload_n 0, 1) := dk_42 (dk_at dksX6_grantsOf_4 13 rfl rfl)
theorem dX6_grantsOf_108 : decode cX6_grantsOf 108 = .ok (.aload_n 1, 1) := dk_43 (dk_at dksX6_grantsOf_4 14 rfl rfl)
theorem dX6_grantsOf_109 : decode cX6_grantsOf 109 = .ok (.iload 6, 2) := dk_21 6 (dk_at dksX6_grantsOf_4 15 rfl rfl)
theorem dX6_grantsOf_111 : decode cX6_grantsOf 111 = .ok (.invokevirtual 235, 3) := dk_182 0 235 (dk_at dksX6_grantsOf_4 17 rfl rfl)
theorem dX6_grantsOf_114 : decode cX6_grantsOf 114 = .ok (.iload 5, 2) := dk_21 5 (dk_at dksX6_grantsOf_4 20 rfl rfl)
theorem dX6_grantsOf_116 : decode cX6_grantsOf 116 = .ok (.if_icmp .le 13, 3) := dk_164 0 13 (dk_at dksX6_grantsOf_5 0 rfl rfl)
theorem dX6_grantsOf_119 : decode cX6_grantsOf 119 = .ok (.aload_n 1, 1) := dk_43 (dk_at dksX6_grantsOf_5 3 rfl rfl)
theorem dX6_grantsOf_120 : decode cX6_grantsOf 120 = .ok (.bipush 9, 2) := dk_16 9 (dk_at dksX6_grantsOf_5 4 rfl rfl)
theorem dX6_grantsOf_122 : decode cX6_grantsOf 122 = .ok (.iaload, 1) := dk_46 (dk_at dksX6_grantsOf_5 6 rfl rfl)
theorem dX6_grantsOf_123 : decode cX6_grantsOf 123 = .ok (.iconst 1, 1) := dk_4 (dk_at dksX6_grantsOf_5 7 rfl rfl)
theorem dX6_grantsOf_124 : decode cX6_grantsOf 124 = .ok (.if_icmp .ne (-100), 3) := dk_160 255 156 (dk_at dksX6_grantsOf_5 8 rfl rfl)
theorem dX6_grantsOf_127 : decode cX6_grantsOf 127 = .ok (.iload_n 3, 1) := dk_29 (dk_at dksX6_grantsOf_5 11 rfl rfl)
theorem dX6_grantsOf_128 : decode cX6_grantsOf 128 = .ok (.ireturn, 1) := dk_172 (dk_at dksX6_grantsOf_5 12 rfl rfl)
theorem dX6_grantsOf_129 : decode cX6_grantsOf 129 = .ok (.iload 5, 2) := dk_21 5 (dk_at dksX6_grantsOf_5 13 rfl rfl)
theorem dX6_grantsOf_131 : decode cX6_grantsOf 131 = .ok (.aload_n 0, 1) := dk_42 (dk_at dksX6_grantsOf_5 15 rfl rfl)
theorem dX6_grantsOf_132 : decode cX6_grantsOf 132 = .ok (.aload_n 1, 1) := dk_43 (dk_at dksX6_grantsOf_5 16 rfl rfl)
theorem dX6_grantsOf_133 : decode cX6_grantsOf 133 = .ok (.iload 6, 2) := dk_21 6 (dk_at dksX6_grantsOf_5 17 rfl rfl)
theorem dX6_grantsOf_135 : decode cX6_grantsOf 135 = .ok (.invokevirtual 235, 3) := dk_182 0 235 (dk_at dksX6_grantsOf_5 19 rfl rfl)
theorem dX6_grantsOf_138 : decode cX6_grantsOf 138 = .ok (.isub, 1) := dk_100 (dk_at dksX6_grantsOf_5 22 rfl rfl)
theorem dX6_grantsOf_139 : decode cX6_grantsOf 139 = .ok (.istore 5, 2) := dk_54 5 (dk_at dksX6_grantsOf_6 0 rfl rfl)
theorem dX6_grantsOf_141 : decode cX6_grantsOf 141 = .ok (.iload_n 3, 1) := dk_29 (dk_at dksX6_grantsOf_6 2 rfl rfl)
theorem dX6_grantsOf_142 : decode cX6_grantsOf 142 = .ok (.iconst 1, 1) := dk_4 (dk_at dksX6_grantsOf_6 3 rfl rfl)
theorem dX6_grantsOf_143 : decode cX6_grantsOf 143 = .ok (.iload 6, 2) := dk_21 6 (dk_at dksX6_grantsOf_6 4 rfl rfl)
theorem dX6_grantsOf_145 : decode cX6_grantsOf 145 = .ok (.ishl, 1) := dk_120 (dk_at dksX6_grantsOf_6 6 rfl rfl)
theorem dX6_grantsOf_146 : decode cX6_grantsOf 146 = .ok (.ior, 1) := dk_128 (dk_at dksX6_grantsOf_6 7 rfl rfl)
theorem dX6_grantsOf_147 : decode cX6_grantsOf 147 = .ok (.istore_n 3, 1) := dk_62 (dk_at dksX6_grantsOf_6 8 rfl rfl)
theorem dX6_grantsOf_148 : decode cX6_grantsOf 148 = .ok (.iload_n 2, 1) := dk_28 (dk_at dksX6_grantsOf_6 9 rfl rfl)
theorem dX6_grantsOf_149 : decode cX6_grantsOf 149 = .ok (.ifCond .ne 6, 3) := dk_154 0 6 (dk_at dksX6_grantsOf_6 10 rfl rfl)
theorem dX6_grantsOf_152 : decode cX6_grantsOf 152 = .ok (.goto (-128), 3) := dk_167 255 128 (dk_at dksX6_grantsOf_6 13 rfl rfl)
theorem dX6_grantsOf_155 : decode cX6_grantsOf 155 = .ok (.aload_n 0, 1) := dk_42 (dk_at dksX6_grantsOf_6 16 rfl rfl)
theorem dX6_grantsOf_156 : decode cX6_grantsOf 156 = .ok (.aload_n 1, 1) := dk_43 (dk_at dksX6_grantsOf_6 17 rfl rfl)
theorem dX6_grantsOf_157 : decode cX6_grantsOf 157 = .ok (.iconst 4, 1) := dk_7 (dk_at dksX6_grantsOf_6 18 rfl rfl)
theorem dX6_grantsOf_158 : decode cX6_grantsOf 158 = .ok (.iload 6, 2) := dk_21 6 (dk_at dksX6_grantsOf_6 19 rfl rfl)
theorem dX6_grantsOf_160 : decode cX6_grantsOf 160 = .ok (.iconst (-1), 1) := dk_2 (dk_at dksX6_grantsOf_6 21 rfl rfl)
theorem dX6_grantsOf_161 : decode cX6_grantsOf 161 = .ok (.invokevirtual 253, 3) := dk_182 0 253 (dk_at dksX6_grantsOf_7 0 rfl rfl)
theorem dX6_grantsOf_164 : decode cX6_grantsOf 164 = .ok (.aload_n 0, 1) := dk_42 (dk_at dksX6_grantsOf_7 3 rfl rfl)
theorem dX6_grantsOf_165 : decode cX6_grantsOf 165 = .ok (.aload_n 1, 1) := dk_43 (dk_at dksX6_grantsOf_7 4 rfl rfl)
theorem dX6_grantsOf_166 : decode cX6_grantsOf 166 = .ok (.iload 6, 2) := dk_21 6 (dk_at dksX6_grantsOf_7 5 rfl rfl)
theorem dX6_grantsOf_168 : decode cX6_grantsOf 168 = .ok (.iconst 2, 1) := dk_5 (dk_at dksX6_grantsOf_7 7 rfl rfl)
theorem dX6_grantsOf_169 : decode cX6_grantsOf 169 = .ok (.invokevirtual 241, 3) := dk_182 0 241 (dk_at dksX6_grantsOf_7 8 rfl rfl)
theorem dX6_grantsOf_172 : decode cX6_grantsOf 172 = .ok (.goto (-148), 3) := dk_167 255 108 (dk_at dksX6_grantsOf_7 11 rfl rfl)
theorem dX6_grantsOf_175 : decode cX6_grantsOf 175 = .ok (.iload_n 3, 1) := dk_29 (dk_at dksX6_grantsOf_7 14 rfl rfl)
theorem dX6_grantsOf_176 : decode cX6_grantsOf 176 = .ok (.ireturn, 1) := dk_172 (dk_at dksX6_grantsOf_7 15 rfl rfl)
def dkwX6_isAhead_4 : List UInt8 := [167, 0, 4, 3, 172]
abbrev dktX6_isAhead_4 : List UInt8 := dkwX6_isAhead_4 ++ []
def dkwX6_isAhead_3 : List UInt8 := [159, 0, 10, 21, 4, 21, 5, 162, 0, 7, 4, 167, 0, 4, 3, 172, 28, 29, 162, 0, 7, 4]
abbrev dktX6_isAhead_3 : List UInt8 := dkwX6_isAhead_3 ++ dktX6_isAhead_4
def dkwX6_isAhead_2 : List UInt8 := [42, 43, 29, 182, 1, 1, 54, 5, 21, 4, 21, 5, 159, 0, 28, 21, 4, 2, 159, 0, 20, 21, 5, 2]
abbrev dktX6_isAhead_2 : List UInt8 := dkwX6_isAhead_2 ++ dktX6_isAhead_3
def dkwX6_isAhead_1 : List UInt8 := [43, 29, 3, 184, 0, 157, 46, 164, 0, 7, 4, 167, 0, 4, 3, 172, 42, 43, 28, 182, 1, 1, 54, 4]
abbrev dktX6_isAhead_1 : List UInt8 := dkwX6_isAhead_1 ++ dktX6_isAhead_2
def dkwX6_isAhead_0 : List UInt8 := [43, 28, 3, 184, 0, 157, 46, 43, 29, 3, 184, 0, 157, 46, 159, 0, 26, 43, 28, 3, 184, 0, 157, 46]
abbrev dktX6_isAhead_0 : List UInt8 := dkwX6_isAhead_0 ++ dktX6_isAhead_1
theorem dksX6_isAhead_0 : cX6_isAhead.data.toList.drop 0 = dktX6_isAhead_0 := by decide +kernel
theorem dksX6_isAhead_1 : cX6_isAhead.data.toList.drop 24 = dktX6_isAhead_1 := dk_seg dksX6_isAhead_0 24 rfl rfl
theorem dksX6_isAhead_2 : cX6_isAhead.data.toList.drop 48 = dktX6_isAhead_2 := dk_seg dksX6_isAhead_1 24 rfl rfl
theorem dksX6_isAhead_3 : cX6_isAhead.data.toList.drop 72 = dktX6_isAhead_3 := dk_seg dksX6_isAhead_2 24 rfl rfl
theorem dksX6_isAhead_4 : cX6_isAhead.data.toList.drop 94 = dktX6_isAhead_4 := dk_seg dksX6_isAhead_3 22 rfl rfl
theorem dX6_isAhead_0 : decode cX6_isAhead 0 = .ok (.aload_n 1, 1) := dk_43 (dk_at dksX6_isAhead_0 0 rfl rfl)
theorem dX6_isAhead_1 : decode cX6_isAhead 1 = .ok (.iload_n 2, 1) := dk_28 (dk_at dksX6_isAhead_0 1 rfl rfl)
theorem dX6_isAhead_2 : decode cX6_isAhead 2 = .ok (.iconst 0, 1) := dk_3 (dk_at dksX6_isAhead_0 2 rfl rfl)
theorem dX6_isAhead_3 : decode cX6_isAhead 3 = .ok (.invokestatic 157, 3) := dk_184 0 157 (dk_at dksX6_isAhead_0 3 rfl rfl)
theorem dX6_isAhead_6 : decode cX6_isAhead 6 = .ok (.iaload, 1) := dk_46 (dk_at dksX6_isAhead_0 6 rfl rfl)
theorem dX6_isAhead_7 : decode cX6_isAhead 7 = .ok (.aload_n 1, 1) := dk_43 (dk_at dksX6_isAhead_0 7 rfl rfl)
theorem dX6_isAhead_8 : decode cX6_isAhead 8 = .ok (.iload_n 3, 1) := dk_29 (dk_at dksX6_isAhead_0 8 rfl rfl)
theorem dX6_isAhead_9 : decode cX6_isAhead 9 = .ok (.iconst 0, 1) := dk_3 (dk_at dksX6_isAhead_0 9 rfl rfl)
theorem dX6_isAhead_10 : decode cX6_isAhead 10 = .ok (.invokestatic 157, 3) := dk_184 0 157 (dk_at dksX6_isAhead_0 10 rfl rfl)
theorem dX6_isAhead_13 : decode cX6_isAhead 13 = .ok (.iaload, 1) := dk_46 (dk_at dksX6_isAhead_0 13 rfl rfl)
theorem dX6_isAhead_14 : decode cX6_isAhead 14 = .ok (.if_icmp .eq 26, 3) := dk_159 0 26 (dk_at dksX6_isAhead_0 14 rfl rfl)
theorem dX6_isAhead_17 : decode cX6_isAhead 17 = .ok (.aload_n 1, 1) := dk_43 (dk_at dksX6_isAhead_0 17 rfl rfl)
theorem dX6_isAhead_18 : decode cX6_isAhead 18 = .ok (.iload_n 2, 1) := dk_28 (dk_at dksX6_isAhead_0 18 rfl rfl)
theorem dX6_isAhead_19 : decode cX6_isAhead 19 = .ok (.iconst 0, 1) := dk_3 (dk_at dksX6_isAhead_0 19 rfl rfl)
theorem dX6_isAhead_20 : decode cX6_isAhead 20 = .ok (.invokestatic 157, 3) := dk_184 0 157 (dk_at dksX6_isAhead_0 20 rfl rfl)
theorem dX6_isAhead_23 : decode cX6_isAhead 23 = .ok (.iaload, 1) := dk_46 (dk_at dksX6_isAhead_0 23 rfl rfl)
theorem dX6_isAhead_24 : decode cX6_isAhead 24 = .ok (.aload_n 1, 1) := dk_43 (dk_at dksX6_isAhead_1 0 rfl rfl)
theorem dX6_isAhead_25 : decode cX6_isAhead 25 = .ok (.iload_n 3, 1) := dk_29 (dk_at dksX6_isAhead_1 1 rfl rfl)
theorem dX6_isAhead_26 : decode cX6_isAhead 26 = .ok (.iconst 0, 1) := dk_3 (dk_at dksX6_isAhead_1 2 rfl rfl)
theorem dX6_isAhead_27 : decode cX6_isAhead 27 = .ok (.invokestatic 157, 3) := dk_184 0 157 (dk_at dksX6_isAhead_1 3 rfl rfl)
theorem dX6_isAhead_30 : decode cX6_isAhead 30 = .ok (.iaload, 1) := dk_46 (dk_at dksX6_isAhead_1 6 rfl rfl)
theorem dX6_isAhead_31 : decode cX6_isAhead 31 = .ok (.if_icmp .le 7, 3) := dk_164 0 7 (dk_at dksX6_isAhead_1 7 rfl rfl)
theorem dX6_isAhead_34 : decode cX6_isAhead 34 = .ok (.iconst 1, 1) := dk_4 (dk_at dksX6_isAhead_1 10 rfl rfl)
theorem dX6_isAhead_35 : decode cX6_isAhead 35 = .ok (.goto 4, 3) := dk_167 0 4 (dk_at dksX6_isAhead_1 11 rfl rfl)
theorem dX6_isAhead_38 : decode cX6_isAhead 38 = .ok (.iconst 0, 1) := dk_3 (dk_at dksX6_isAhead_1 14 rfl rfl)
theorem dX6_isAhead_39 : decode cX6_isAhead 39 = .ok (.ireturn, 1) := dk_172 (dk_at dksX6_isAhead_1 15 rfl rfl)
theorem dX6_isAhead_40 : decode cX6_isAhead 40 = .ok (.aload_n 0, 1) := dk_42 (dk_at dksX6_isAhead_1 16 rfl rfl)
theorem dX6_isAhead_41 : decode cX6_isAhead 41 = .ok (.aload_n 1, 1) := dk_43 (dk_at dksX6_isAhead_1 17 rfl rfl)
theorem dX6_isAhead_42 : decode cX6_isAhead 42 = .ok (.iload_n 2, 1) := dk_28 (dk_at dksX6_isAhead_1 18 rfl rfl)
theorem dX6_isAhead_43 : decode cX6_isAhead 43 = .ok (.invokevirtual 257, 3) := dk_182 1 1 (dk_at dksX6_isAhead_1 19 rfl rfl)
theorem dX6_isAhead_46 : decode cX6_isAhead 46 = .ok (.istore 4, 2) := dk_54 4 (dk_at dksX6_isAhead_1 22 rfl rfl)
theorem dX6_isAhead_48 : decode cX6_isAhead 48 = .ok (.aload_n 0, 1) := dk_42 (dk_at dksX6_isAhead_2 0 rfl rfl)
theorem dX6_isAhead_49 : decode cX6_isAhead 49 = .ok (.aload_n 1, 1) := dk_43 (dk_at dksX6_isAhead_2 1 rfl rfl)
theorem dX6_isAhead_50 : decode cX6_isAhead 50 = .ok (.iload_n 3, 1) := dk_29 (dk_at dksX6_isAhead_2 2 rfl rfl)
theorem dX6_isAhead_51 : decode cX6_isAhead 51 = .ok (.invokevirtual 257, 3) := dk_182 1 1 (dk_at dksX6_isAhead_2 3 rfl rfl)
theorem dX6_isAhead_54 : decode cX6_isAhead 54 = .ok (.istore 5, 2) := dk_54 5 (dk_at dksX6_isAhead_2 6 rfl rfl)
theorem dX6_isAhead_56 : decode cX6_isAhead 56 = .ok (.iload 4, 2) := dk_21 4 (dk_at dksX6_isAhead_2 8 rfl rfl)
theorem dX6_isAhead_58 : decode cX6_isAhead 58 = .ok (.iload 5, 2) := dk_21 5 (dk_at dksX6_isAhead_2 10 rfl rfl)
theorem dX6_isAhead_60 : decode cX6_isAhead 60 = .ok (.if_icmp .eq 28, 3) := dk_159 0 28 (dk_at dksX6_isAhead_2 12 rfl rfl)
theorem dX6_isAhead_63 : decode cX6_isAhead 63 = .ok (.iload 4, 2) := dk_21 4 (dk_at dksX6_isAhead_2 15 rfl rfl)
theorem dX6_isAhead_65 : decode cX6_isAhead 65 = .ok (.iconst (-1), 1) := dk_2 (dk_at dksX6_isAhead_2 17 rfl rfl)
theorem dX6_isAhead_66 : decode cX6_isAhead 66 = .ok (.if_icmp .eq 20, 3) := dk_159 0 20 (dk_at dksX6_isAhead_2 18 rfl rfl)
theorem dX6_isAhead_69 : decode cX6_isAhead 69 = .ok (.iload 5, 2) := dk_21 5 (dk_at dksX6_isAhead_2 21 rfl rfl)
theorem dX6_isAhead_71 : decode cX6_isAhead 71 = .ok (.iconst (-1), 1) := dk_2 (dk_at dksX6_isAhead_2 23 rfl rfl)
theorem dX6_isAhead_72 : decode cX6_isAhead 72 = .ok (.if_icmp .eq 10, 3) := dk_159 0 10 (dk_at dksX6_isAhead_3 0 rfl rfl)
theorem dX6_isAhead_75 : decode cX6_isAhead 75 = .ok (.iload 4, 2) := dk_21 4 (dk_at dksX6_isAhead_3 3 rfl rfl)
theorem dX6_isAhead_77 : decode cX6_isAhead 77 = .ok (.iload 5, 2) := dk_21 5 (dk_at dksX6_isAhead_3 5 rfl rfl)
theorem dX6_isAhead_79 : decode cX6_isAhead 79 = .ok (.if_icmp .ge 7, 3) := dk_162 0 7 (dk_at dksX6_isAhead_3 7 rfl rfl)
theorem dX6_isAhead_82 : decode cX6_isAhead 82 = .ok (.iconst 1, 1) := dk_4 (dk_at dksX6_isAhead_3 10 rfl rfl)
theorem dX6_isAhead_83 : decode cX6_isAhead 83 = .ok (.goto 4, 3) := dk_167 0 4 (dk_at dksX6_isAhead_3 11 rfl rfl)
theorem dX6_isAhead_86 : decode cX6_isAhead 86 = .ok (.iconst 0, 1) := dk_3 (dk_at dksX6_isAhead_3 14 rfl rfl)
theorem dX6_isAhead_87 : decode cX6_isAhead 87 = .ok (.ireturn, 1) := dk_172 (dk_at dksX6_isAhead_3 15 rfl rfl)
theorem dX6_isAhead_88 : decode cX6_isAhead 88 = .ok (.iload_n 2, 1) := dk_28 (dk_at dksX6_isAhead_3 16 rfl rfl)
theorem dX6_isAhead_89 : decode cX6_isAhead 89 = .ok (.iload_n 3, 1) := dk_29 (dk_at dksX6_isAhead_3 17 rfl rfl)
theorem dX6_isAhead_90 : decode cX6_isAhead 90 = .ok (.if_icmp .ge 7, 3) := dk_162 0 7 (dk_at dksX6_isAhead_3 18 rfl rfl)
theorem dX6_isAhead_93 : decode cX6_isAhead 93 = .ok (.iconst 1, 1) := dk_4 (dk_at dksX6_isAhead_3 21 rfl rfl)
theorem dX6_isAhead_94 : decode cX6_isAhead 94 = .ok (.goto 4, 3) := dk_167 0 4 (dk_at dksX6_isAhead_4 0 rfl rfl)
theorem dX6_isAhead_97 : decode cX6_isAhead 97 = .ok (.iconst 0, 1) := dk_3 (dk_at dksX6_isAhead_4 3 rfl rfl)
theorem dX6_isAhead_98 : decode cX6_isAhead 98 = .ok (.ireturn, 1) := dk_172 (dk_at dksX6_isAhead_4 4 rfl rfl)
def dkwX6_lacks_1 : List UInt8 := [3, 172]
abbrev dktX6_lacks_1 : List UInt8 := dkwX6_lacks_1 ++ []
def dkwX6_lacks_0 : List UInt8 := [42, 180, 0, 13, 28, 46, 42, 43, 16, 9, 6, 182, 0, 249, 2, 130, 126, 153, 0, 7, 4, 167, 0, 4]
abbrev dktX6_lacks_0 : List UInt8 := dkwX6_lacks_0 ++ dktX6_lacks_1
theorem dksX6_lacks_0 : cX6_lacks.data.toList.drop 0 = dktX6_lacks_0 := by decide +kernel
theorem dksX6_lacks_1 : cX6_lacks.data.toList.drop 24 = dktX6_lacks_1 := dk_seg dksX6_lacks_0 24 rfl rfl
theorem dX6_lacks_0 : decode cX6_lacks 0 = .ok (.aload_n 0, 1) := dk_42 (dk_at dksX6_lacks_0 0 rfl rfl)
theorem dX6_lacks_1 : decode cX6_lacks 1 = .ok (.getfield 13, 3) := dk_180 0 13 (dk_at dksX6_lacks_0 1 rfl rfl)
theorem dX6_lacks_4 : decode cX6_lacks 4 = .ok (.iload_n 2, 1) := dk_28 (dk_at dksX6_lacks_0 4 rfl rfl)
theorem dX6_lacks_5 : decode cX6_lacks 5 = .ok (.iaload, 1) := dk_46 (dk_at dksX6_lacks_0 5 rfl rfl)
theorem dX6_lacks_6 : decode cX6_lacks 6 = .ok (.aload_n 0, 1) := dk_42 (dk_at dksX6_lacks_0 6 rfl rfl)
theorem dX6_lacks_7 : decode cX6_lacks 7 = .ok (.aload_n 1, 1) := dk_43 (dk_at dksX6_lacks_0 7 rfl rfl)
theorem dX6_lacks_8 : decode cX6_lacks 8 = .ok (.bipush 9, 2) := dk_16 9 (dk_at dksX6_lacks_0 8 rfl rfl)
theorem dX6_lacks_10 : decode cX6_lacks 10 = .ok (.iconst 3, 1) := dk_6 (dk_at dksX6_lacks_0 10 rfl rfl)
theorem dX6_lacks_11 : decode cX6_lacks 11 = .ok (.invokevirtual 249, 3) := dk_182 0 249 (dk_at dksX6_lacks_0 11 rfl rfl)
theorem dX6_lacks_14 : decode cX6_lacks 14 = .ok (.iconst (-1), 1) := dk_2 (dk_at dksX6_lacks_0 14 rfl rfl)
theorem dX6_lacks_15 : decode cX6_lacks 15 = .ok (.ixor, 1) := dk_130 (dk_at dksX6_lacks_0 15 rfl rfl)
theorem dX6_lacks_16 : decode cX6_lacks 16 = .ok (.iand, 1) := dk_126 (dk_at dksX6_lacks_0 16 rfl rfl)
theorem dX6_lacks_17 : decode cX6_lacks 17 = .ok (.ifCond .eq 7, 3) := dk_153 0 7 (dk_at dksX6_lacks_0 17 rfl rfl)
theorem dX6_lacks_20 : decode cX6_lacks 20 = .ok (.iconst 1, 1) := dk_4 (dk_at dksX6_lacks_0 20 rfl rfl)
theorem dX6_lacks_21 : decode cX6_lacks 21 = .ok (.goto 4, 3) := dk_167 0 4 (dk_at dksX6_lacks_0 21 rfl rfl)
theorem dX6_lacks_24 : decode cX6_lacks 24 = .ok (.iconst 0, 1) := dk_3 (dk_at dksX6_lacks_1 0 rfl rfl)
theorem dX6_lacks_25 : decode cX6_lacks 25 = .ok (.ireturn, 1) := dk_172 (dk_at dksX6_lacks_1 1 rfl rfl)
def dkwX6_sends_4 : List UInt8 := [43, 21, 6, 5, 96, 21, 4, 79, 43, 16, 11, 92, 46, 4, 96, 79, 177]
abbrev dktX6_sends_4 : List UInt8 := dkwX6_sends_4 ++ []
def dkwX6_sends_3 : List UInt8 := [17, 0, 195, 6, 43, 16, 11, 46, 104, 96, 54, 6, 43, 21, 6, 28, 79, 43, 21, 6, 4, 96, 29, 79]
abbrev dktX6_sends_3 : List UInt8 := dkwX6_sends_3 ++ dktX6_sends_4
def dkwX6_sends_2 : List UInt8 := [46, 4, 160, 0, 21, 43, 8, 92, 46, 4, 96, 79, 43, 16, 21, 28, 96, 92, 46, 4, 96, 79, 177]
abbrev dktX6_sends_2 : List UInt8 := dkwX6_sends_2 ++ dktX6_sends_3
def dkwX6_sends_1 : List UInt8 := [180, 0, 213, 158, 0, 44, 43, 16, 14, 46, 154, 0, 37, 42, 180, 0, 16, 21, 5, 42, 180, 0, 213, 112]
abbrev dktX6_sends_1 : List UInt8 := dkwX6_sends_1 ++ dktX6_sends_2
def dkwX6_sends_0 : List UInt8 := [43, 7, 46, 54, 5, 43, 7, 92, 46, 4, 96, 79, 43, 16, 15, 28, 96, 92, 46, 4, 96, 79, 42]
abbrev dktX6_sends_0 : List UInt8 := dkwX6_sends_0 ++ dktX6_sends_1
theorem dksX6_sends_0 : cX6_sends.data.toList.drop 0 = dktX6_sends_0 := by decide +kernel
theorem dksX6_sends_1 : cX6_sends.data.toList.drop 23 = dktX6_sends_1 := dk_seg dksX6_sends_0 23 rfl rfl
theorem dksX6_sends_2 : cX6_sends.data.toList.drop 47 = dktX6_sends_2 := dk_seg dksX6_sends_1 24 rfl rfl
theorem dksX6_sends_3 : cX6_sends.data.toList.drop 70 = dktX6_sends_3 := dk_seg dksX6_sends_2 23 rfl rfl
theorem dksX6_sends_4 : cX6_sends.data.toList.drop 94 = dktX6_sends_4 := dk_seg dksX6_sends_3 24 rfl rfl
theorem dX6_sends_0 : decode cX6_sends 0 = .ok (.aload_n 1, 1) := dk_43 (dk_at dksX6_sends_0 0 rfl rfl)
theorem dX6_sends_1 : decode cX6_sends 1 = .ok (.iconst 4, 1) := dk_7 (dk_at dksX6_sends_0 1 rfl rfl)
theorem dX6_sends_2 : decode cX6_sends 2 = .ok (.iaload, 1) := dk_46 (dk_at dksX6_sends_0 2 rfl rfl)
theorem dX6_sends_3 : decode cX6_sends 3 = .ok (.istore 5, 2) := dk_54 5 (dk_at dksX6_sends_0 3 rfl rfl)
theorem dX6_sends_5 : decode cX6_sends 5 = .ok (.aload_n 1, 1) := dk_43 (dk_at dksX6_sends_0 5 rfl rfl)
theorem dX6_sends_6 : decode cX6_sends 6 = .ok (.iconst 4, 1) := dk_7 (dk_at dksX6_sends_0 6 rfl rfl)
theorem dX6_sends_7 : decode cX6_sends 7 = .ok (.dup2, 1) := dk_92 (dk_at dksX6_sends_0 7 rfl rfl)
theorem dX6_sends_8 : decode cX6_sends 8 = .ok (.iaload, 1) := dk_46 (dk_at dksX6_sends_0 8 rfl rfl)
theorem dX6_sends_9 : decode cX6_sends 9 = .ok (.iconst 1, 1) := dk_4 (dk_at dksX6_sends_0 9 rfl rfl)
theorem dX6_sends_10 : decode cX6_sends 10 = .ok (.iadd, 1) := dk_96 (dk_at dksX6_sends_0 10 rfl rfl)
theorem dX6_sends_11 : decode cX6_sends 11 = .ok (.iastore, 1) := dk_79 (dk_at dksX6_sends_0 11 rfl rfl)
theorem dX6_sends_12 : decode cX6_sends 12 = .ok (.aload_n 1, 1) := dk_43 (dk_at dksX6_sends_0 12 rfl rfl)
theorem dX6_sends_13 : decode cX6_sends 13 = .ok (.bipush 15, 2) := dk_16 15 (dk_at dksX6_sends_0 13 rfl rfl)
theorem dX6_sends_15 : decode cX6_sends 15 = .ok (.iload_n 2, 1) := dk_28 (dk_at dksX6_sends_0 15 rfl rfl)
theorem dX6_sends_16 : decode cX6_sends 16 = .ok (.iadd, 1) := dk_96 (dk_at dksX6_sends_0 16 rfl rfl)
theorem dX6_sends_17 : decode cX6_sends 17 = .ok (.dup2, 1) := dk_92 (dk_at dksX6_sends_0 17 rfl rfl)
theorem dX6_sends_18 : decode cX6_sends 18 = .ok (.iaload, 1) := dk_46 (dk_at dksX6_sends_0 18 rfl rfl)
theorem dX6_sends_19 : decode cX6_sends 19 = .ok (.iconst 1, 1) := dk_4 (dk_at dksX6_sends_0 19 rfl rfl)
theorem dX6_sends_20 : decode cX6_sends 20 = .ok (.iadd, 1) := dk_96 (dk_at dksX6_sends_0 20 rfl rfl)
theorem dX6_sends_21 : decode cX6_sends 21 = .ok (.iastore, 1) := dk_79 (dk_at dksX6_sends_0 21 rfl rfl)
theorem dX6_sends_22 : decode cX6_sends 22 = .ok (.aload_n 0, 1) := dk_42 (dk_at dksX6_sends_0 22 rfl rfl)
theorem dX6_sends_23 : decode cX6_sends 23 = .ok (.getfield 213, 3) := dk_180 0 213 (dk_at dksX6_sends_1 0 rfl rfl)
theorem dX6_sends_26 : decode cX6_sends 26 = .ok (.ifCond .le 44, 3) := dk_158 0 44 (dk_at dksX6_sends_1 3 rfl rfl)
theorem dX6_sends_29 : decode cX6_sends 29 = .ok (.aload_n 1, 1) := dk_43 (dk_at dksX6_sends_1 6 rfl rfl)
theorem dX6_sends_30 : decode cX6_sends 30 = .ok (.bipush 14, 2) := dk_16 14 (dk_at dksX6_sends_1 7 rfl rfl)
theorem dX6_sends_32 : decode cX6_sends 32 = .ok (.iaload, 1) := dk_46 (dk_at dksX6_sends_1 9 rfl rfl)
theorem dX6_sends_33 : decode cX6_sends 33 = .ok (.ifCond .ne 37, 3) := dk_154 0 37 (dk_at dksX6_sends_1 10 rfl rfl)
theorem dX6_sends_36 : decode cX6_sends 36 = .ok (.aload_n 0, 1) := dk_42 (dk_at dksX6_sends_1 13 rfl rfl)
theorem dX6_sends_37 : decode cX6_sends 37 = .ok (.getfield 16, 3) := dk_180 0 16 (dk_at dksX6_sends_1 14 rfl rfl)
theorem dX6_sends_40 : decode cX6_sends 40 = .ok (.iload 5, 2) := dk_21 5 (dk_at dksX6_sends_1 17 rfl rfl)
theorem dX6_sends_42 : decode cX6_sends 42 = .ok (.aload_n 0, 1) := dk_42 (dk_at dksX6_sends_1 19 rfl rfl)
theorem dX6_sends_43 : decode cX6_sends 43 = .ok (.getfield 213, 3) := dk_180 0 213 (dk_at dksX6_sends_1 20 rfl rfl)
theorem dX6_sends_46 : decode cX6_sends 46 = .ok (.irem, 1) := dk_112 (dk_at dksX6_sends_1 23 rfl rfl)
theorem dX6_sends_47 : decode cX6_sends 47 = .ok (.iaload, 1) := dk_46 (dk_at dksX6_sends_2 0 rfl rfl)
theorem dX6_sends_48 : decode cX6_sends 48 = .ok (.iconst 1, 1) := dk_4 (dk_at dksX6_sends_2 1 rfl rfl)
theorem dX6_sends_49 : decode cX6_sends 49 = .ok (.if_icmp .ne 21, 3) := dk_160 0 21 (dk_at dksX6_sends_2 2 rfl rfl)
theorem dX6_sends_52 : decode cX6_sends 52 = .ok (.aload_n 1, 1) := dk_43 (dk_at dksX6_sends_2 5 rfl rfl)
theorem dX6_sends_53 : decode cX6_sends 53 = .ok (.iconst 5, 1) := dk_8 (dk_at dksX6_sends_2 6 rfl rfl)
theorem dX6_sends_54 : decode cX6_sends 54 = .ok (.dup2, 1) := dk_92 (dk_at dksX6_sends_2 7 rfl rfl)
theorem dX6_sends_55 : decode cX6_sends 55 = .ok (.iaload, 1) := dk_46 (dk_at dksX6_sends_2 8 rfl rfl)
theorem dX6_sends_56 : decode cX6_sends 56 = .ok (.iconst 1, 1) := dk_4 (dk_at dksX6_sends_2 9 rfl rfl)
theorem dX6_sends_57 : decode cX6_sends 57 = .ok (.iadd, 1) := dk_96 (dk_at dksX6_sends_2 10 rfl rfl)
theorem dX6_sends_58 : decode cX6_sends 58 = .ok (.iastore, 1) := dk_79 (dk_at dksX6_sends_2 11 rfl rfl)
theorem dX6_sends_59 : decode cX6_sends 59 = .ok (.aload_n 1, 1) := dk_43 (dk_at dksX6_sends_2 12 rfl rfl)
theorem dX6_sends_60 : decode cX6_sends 60 = .ok (.bipush 21, 2) := dk_16 21 (dk_at dksX6_sends_2 13 rfl rfl)
theorem dX6_sends_62 : decode cX6_sends 62 = .ok (.iload_n 2, 1) := dk_28 (dk_at dksX6_sends_2 15 rfl rfl)
theorem dX6_sends_63 : decode cX6_sends 63 = .ok (.iadd, 1) := dk_96 (dk_at dksX6_sends_2 16 rfl rfl)
theorem dX6_sends_64 : decode cX6_sends 64 = .ok (.dup2, 1) := dk_92 (dk_at dksX6_sends_2 17 rfl rfl)
theorem dX6_sends_65 : decode cX6_sends 65 = .ok (.iaload, 1) := dk_46 (dk_at dksX6_sends_2 18 rfl rfl)
theorem dX6_sends_66 : decode cX6_sends 66 = .ok (.iconst 1, 1) := dk_4 (dk_at dksX6_sends_2 19 rfl rfl)
theorem dX6_sends_67 : decode cX6_sends 67 = .ok (.iadd, 1) := dk_96 (dk_at dksX6_sends_2 20 rfl rfl)
theorem dX6_sends_68 : decode cX6_sends 68 = .ok (.iastore, 1) := dk_79 (dk_at dksX6_sends_2 21 rfl rfl)
theorem dX6_sends_69 : decode cX6_sends 69 = .ok (.return_, 1) := dk_177 (dk_at dksX6_sends_2 22 rfl rfl)
theorem dX6_sends_70 : decode cX6_sends 70 = .ok (.sipush 195, 3) := dk_17 0 195 (dk_at dksX6_sends_3 0 rfl rfl)
theorem dX6_sends_73 : decode cX6_sends 73 = .ok (.iconst 3, 1) := dk_6 (dk_at dksX6_sends_3 3 rfl rfl)
theorem dX6_sends_74 : decode cX6_sends 74 = .ok (.aload_n 1, 1) := dk_43 (dk_at dksX6_sends_3 4 rfl rfl)
theorem dX6_sends_75 : decode cX6_sends 75 = .ok (.bipush 11, 2) := dk_16 11 (dk_at dksX6_sends_3 5 rfl rfl)
theorem dX6_sends_77 : decode cX6_sends 77 = .ok (.iaload, 1) := dk_46 (dk_at dksX6_sends_3 7 rfl rfl)
theorem dX6_sends_78 : decode cX6_sends 78 = .ok (.imul, 1) := dk_104 (dk_at dksX6_sends_3 8 rfl rfl)
theorem dX6_sends_79 : decode cX6_sends 79 = .ok (.iadd, 1) := dk_96 (dk_at dksX6_sends_3 9 rfl rfl)
theorem dX6_sends_80 : decode cX6_sends 80 = .ok (.istore 6, 2) := dk_54 6 (dk_at dksX6_sends_3 10 rfl rfl)
theorem dX6_sends_82 : decode cX6_sends 82 = .ok (.aload_n 1, 1) := dk_43 (dk_at dksX6_sends_3 12 rfl rfl)
theorem dX6_sends_83 : decode cX6_sends 83 = .ok (.iload 6, 2) := dk_21 6 (dk_at dksX6_sends_3 13 rfl rfl)
theorem dX6_sends_85 : decode cX6_sends 85 = .ok (.iload_n 2, 1) := dk_28 (dk_at dksX6_sends_3 15 rfl rfl)
theorem dX6_sends_86 : decode cX6_sends 86 = .ok (.iastore, 1) := dk_79 (dk_at dksX6_sends_3 16 rfl rfl)
theorem dX6_sends_87 : decode cX6_sends 87 = .ok (.aload_n 1, 1) := dk_43 (dk_at dksX6_sends_3 17 rfl rfl)
theorem dX6_sends_88 : decode cX6_sends 88 = .ok (.iload 6, 2) := dk_21 6 (dk_at dksX6_sends_3 18 rfl rfl)
theorem dX6_sends_90 : decode cX6_sends 90 = .ok (.iconst 1, 1) := dk_4 (dk_at dksX6_sends_3 20 rfl rfl)
theorem dX6_sends_91 : decode cX6_sends 91 = .ok (.iadd, 1) := dk_96 (dk_at dksX6_sends_3 21 rfl rfl)
theorem dX6_sends_92 : decode cX6_sends 92 = .ok (.iload_n 3, 1) := dk_29 (dk_at dksX6_sends_3 22 rfl rfl)
theorem dX6_sends_93 : decode cX6_sends 93 = .ok (.iastore, 1) := dk_79 (dk_at dksX6_sends_3 23 rfl rfl)
theorem dX6_sends_94 : decode cX6_sends 94 = .ok (.aload_n 1, 1) := dk_43 (dk_at dksX6_sends_4 0 rfl rfl)
theorem dX6_sends_95 : decode cX6_sends 95 = .ok (.iload 6, 2) := dk_21 6 (dk_at dksX6_sends_4 1 rfl rfl)
theorem dX6_sends_97 : decode cX6_sends 97 = .ok (.iconst 2, 1) := dk_5 (dk_at dksX6_sends_4 3 rfl rfl)
theorem dX6_sends_98 : decode cX6_sends 98 = .ok (.iadd, 1) := dk_96 (dk_at dksX6_sends_4 4 rfl rfl)
theorem dX6_sends_99 : decode cX6_sends 99 = .ok (.iload 4, 2) := dk_21 4 (dk_at dksX6_sends_4 5 rfl rfl)
theorem dX6_sends_101 : decode cX6_sends 101 = .ok (.iastore, 1) := dk_79 (dk_at dksX6_sends_4 7 rfl rfl)
theorem dX6_sends_102 : decode cX6_sends 102 = .ok (.aload_n 1, 1) := dk_43 (dk_at dksX6_sends_4 8 rfl rfl)
theorem dX6_sends_103 : decode cX6_sends 103 = .ok (.bipush 11, 2) := dk_16 11 (dk_at dksX6_sends_4 9 rfl rfl)
theorem dX6_sends_105 : decode cX6_sends 105 = .ok (.dup2, 1) := dk_92 (dk_at dksX6_sends_4 11 rfl rfl)
theorem dX6_sends_106 : decode cX6_sends 106 = .ok (.iaload, 1) := dk_46 (dk_at dksX6_sends_4 12 rfl rfl)
theorem dX6_sends_107 : decode cX6_sends 107 = .ok (.iconst 1, 1) := dk_4 (dk_at dksX6_sends_4 13 rfl rfl)
theorem dX6_sends_108 : decode cX6_sends 108 = .ok (.iadd, 1) := dk_96 (dk_at dksX6_sends_4 14 rfl rfl)
theorem dX6_sends_109 : decode cX6_sends 109 = .ok (.iastore, 1) := dk_79 (dk_at dksX6_sends_4 15 rfl rfl)
theorem dX6_sends_110 : decode cX6_sends 110 = .ok (.return_, 1) := dk_177 (dk_at dksX6_sends_4 16 rfl rfl)
def dkwX6_marks_3 : List UInt8 := [43, 16, 12, 46, 96, 28, 79, 43, 16, 12, 92, 46, 4, 96, 79, 177]
abbrev dktX6_marks_3 : List UInt8 := dkwX6_marks_3 ++ []
def dkwX6_marks_2 : List UInt8 := [162, 0, 21, 43, 16, 27, 21, 4, 96, 46, 28, 160, 0, 4, 177, 132, 4, 1, 167, 255, 232, 43, 16, 27]
abbrev dktX6_marks_2 : List UInt8 := dkwX6_marks_2 ++ dktX6_marks_3
def dkwX6_marks_1 : List UInt8 := [159, 0, 4, 177, 43, 28, 16, 11, 184, 0, 157, 4, 79, 3, 54, 4, 21, 4, 43, 16, 12, 46]
abbrev dktX6_marks_1 : List UInt8 := dkwX6_marks_1 ++ dktX6_marks_2
def dkwX6_marks_0 : List UInt8 := [43, 28, 16, 9, 184, 0, 157, 29, 79, 43, 28, 16, 10, 184, 0, 157, 43, 3, 46, 79, 29, 6]
abbrev dktX6_marks_0 : List UInt8 := dkwX6_marks_0 ++ dktX6_marks_1
theorem dksX6_marks_0 : cX6_marks.data.toList.drop 0 = dktX6_marks_0 := by decide +kernel
theorem dksX6_marks_1 : cX6_marks.data.toList.drop 22 = dktX6_marks_1 := dk_seg dksX6_marks_0 22 rfl rfl
theorem dksX6_marks_2 : cX6_marks.data.toList.drop 44 = dktX6_marks_2 := dk_seg dksX6_marks_1 22 rfl rfl
theorem dksX6_marks_3 : cX6_marks.data.toList.drop 68 = dktX6_marks_3 := dk_seg dksX6_marks_2 24 rfl rfl
theorem dX6_marks_0 : decode cX6_marks 0 = .ok (.aload_n 1, 1) := dk_43 (dk_at dksX6_marks_0 0 rfl rfl)
theorem dX6_marks_1 : decode cX6_marks 1 = .ok (.iload_n 2, 1) := dk_28 (dk_at dksX6_marks_0 1 rfl rfl)
theorem dX6_marks_2 : decode cX6_marks 2 = .ok (.bipush 9, 2) := dk_16 9 (dk_at dksX6_marks_0 2 rfl rfl)
theorem dX6_marks_4 : decode cX6_marks 4 = .ok (.invokestatic 157, 3) := dk_184 0 157 (dk_at dksX6_marks_0 4 rfl rfl)
theorem dX6_marks_7 : decode cX6_marks 7 = .ok (.iload_n 3, 1) := dk_29 (dk_at dksX6_marks_0 7 rfl rfl)
theorem dX6_marks_8 : decode cX6_marks 8 = .ok (.iastore, 1) := dk_79 (dk_at dksX6_marks_0 8 rfl rfl)
theorem dX6_marks_9 : decode cX6_marks 9 = .ok (.aload_n 1, 1) := dk_43 (dk_at dksX6_marks_0 9 rfl rfl)
theorem dX6_marks_10 : decode cX6_marks 10 = .ok (.iload_n 2, 1) := dk_28 (dk_at dksX6_marks_0 10 rfl rfl)
theorem dX6_marks_11 : decode cX6_marks 11 = .ok (.bipush 10, 2) := dk_16 10 (dk_at dksX6_marks_0 11 rfl rfl)
theorem dX6_marks_13 : decode cX6_marks 13 = .ok (.invokestatic 157, 3) := dk_184 0 157 (dk_at dksX6_marks_0 13 rfl rfl)
theorem dX6_marks_16 : decode cX6_marks 16 = .ok (.aload_n 1, 1) := dk_43 (dk_at dksX6_marks_0 16 rfl rfl)
theorem dX6_marks_17 : decode cX6_marks 17 = .ok (.iconst 0, 1) := dk_3 (dk_at dksX6_marks_0 17 rfl rfl)
theorem dX6_marks_18 : decode cX6_marks 18 = .ok (.iaload, 1) := dk_46 (dk_at dksX6_marks_0 18 rfl rfl)
theorem dX6_marks_19 : decode cX6_marks 19 = .ok (.iastore, 1) := dk_79 (dk_at dksX6_marks_0 19 rfl rfl)
theorem dX6_marks_20 : decode cX6_marks 20 = .ok (.iload_n 3, 1) := dk_29 (dk_at dksX6_marks_0 20 rfl rfl)
theorem dX6_marks_21 : decode cX6_marks 21 = .ok (.iconst 3, 1) := dk_6 (dk_at dksX6_marks_0 21 rfl rfl)
theorem dX6_marks_22 : decode cX6_marks 22 = .ok (.if_icmp .eq 4, 3) := dk_159 0 4 (dk_at dksX6_marks_1 0 rfl rfl)
theorem dX6_marks_25 : decode cX6_marks 25 = .ok (.return_, 1) := dk_177 (dk_at dksX6_marks_1 3 rfl rfl)
theorem dX6_marks_26 : decode cX6_marks 26 = .ok (.aload_n 1, 1) := dk_43 (dk_at dksX6_marks_1 4 rfl rfl)
theorem dX6_marks_27 : decode cX6_marks 27 = .ok (.iload_n 2, 1) := dk_28 (dk_at dksX6_marks_1 5 rfl rfl)
theorem dX6_marks_28 : decode cX6_marks 28 = .ok (.bipush 11, 2) := dk_16 11 (dk_at dksX6_marks_1 6 rfl rfl)
theorem dX6_marks_30 : decode cX6_marks 30 = .ok (.invokestatic 157, 3) := dk_184 0 157 (dk_at dksX6_marks_1 8 rfl rfl)
theorem dX6_marks_33 : decode cX6_marks 33 = .ok (.iconst 1, 1) := dk_4 (dk_at dksX6_marks_1 11 rfl rfl)
theorem dX6_marks_34 : decode cX6_marks 34 = .ok (.iastore, 1) := dk_79 (dk_at dksX6_marks_1 12 rfl rfl)
theorem dX6_marks_35 : decode cX6_marks 35 = .ok (.iconst 0, 1) := dk_3 (dk_at dksX6_marks_1 13 rfl rfl)
theorem dX6_marks_36 : decode cX6_marks 36 = .ok (.istore 4, 2) := dk_54 4 (dk_at dksX6_marks_1 14 rfl rfl)
theorem dX6_marks_38 : decode cX6_marks 38 = .ok (.iload 4, 2) := dk_21 4 (dk_at dksX6_marks_1 16 rfl rfl)
theorem dX6_marks_40 : decode cX6_marks 40 = .ok (.aload_n 1, 1) := dk_43 (dk_at dksX6_marks_1 18 rfl rfl)
theorem dX6_marks_41 : decode cX6_marks 41 = .ok (.bipush 12, 2) := dk_16 12 (dk_at dksX6_marks_1 19 rfl rfl)
theorem dX6_marks_43 : decode cX6_marks 43 = .ok (.iaload, 1) := dk_46 (dk_at dksX6_marks_1 21 rfl rfl)
theorem dX6_marks_44 : decode cX6_marks 44 = .ok (.if_icmp .ge 21, 3) := dk_162 0 21 (dk_at dksX6_marks_2 0 rfl rfl)
theorem dX6_marks_47 : decode cX6_marks 47 = .ok (.aload_n 1, 1) := dk_43 (dk_at dksX6_marks_2 3 rfl rfl)
theorem dX6_marks_48 : decode cX6_marks 48 = .ok (.bipush 27, 2) := dk_16 27 (dk_at dksX6_marks_2 4 rfl rfl)
theorem dX6_marks_50 : decode cX6_marks 50 = .ok (.iload 4, 2) := dk_21 4 (dk_at dksX6_marks_2 6 rfl rfl)
theorem dX6_marks_52 : decode cX6_marks 52 = .ok (.iadd, 1) := dk_96 (dk_at dksX6_marks_2 8 rfl rfl)
theorem dX6_marks_53 : decode cX6_marks 53 = .ok (.iaload, 1) := dk_46 (dk_at dksX6_marks_2 9 rfl rfl)
theorem dX6_marks_54 : decode cX6_marks 54 = .ok (.iload_n 2, 1) := dk_28 (dk_at dksX6_marks_2 10 rfl rfl)
theorem dX6_marks_55 : decode cX6_marks 55 = .ok (.if_icmp .ne 4, 3) := dk_160 0 4 (dk_at dksX6_marks_2 11 rfl rfl)
theorem dX6_marks_58 : decode cX6_marks 58 = .ok (.return_, 1) := dk_177 (dk_at dksX6_marks_2 14 rfl rfl)
theorem dX6_marks_59 : decode cX6_marks 59 = .ok (.iinc 4 1, 3) := dk_132 4 1 (dk_at dksX6_marks_2 15 rfl rfl)
theorem dX6_marks_62 : decode cX6_marks 62 = .ok (.goto (-24), 3) := dk_167 255 232 (dk_at dksX6_marks_2 18 rfl rfl)
theorem dX6_marks_65 : decode cX6_marks 65 = .ok (.aload_n 1, 1) := dk_43 (dk_at dksX6_marks_2 21 rfl rfl)
theorem dX6_marks_66 : decode cX6_marks 66 = .ok (.bipush 27, 2) := dk_16 27 (dk_at dksX6_marks_2 22 rfl rfl)
theorem dX6_marks_68 : decode cX6_marks 68 = .ok (.aload_n 1, 1) := dk_43 (dk_at dksX6_marks_3 0 rfl rfl)
theorem dX6_marks_69 : decode cX6_marks 69 = .ok (.bipush 12, 2) := dk_16 12 (dk_at dksX6_marks_3 1 rfl rfl)
theorem dX6_marks_71 : decode cX6_marks 71 = .ok (.iaload, 1) := dk_46 (dk_at dksX6_marks_3 3 rfl rfl)
theorem dX6_marks_72 : decode cX6_marks 72 = .ok (.iadd, 1) := dk_96 (dk_at dksX6_marks_3 4 rfl rfl)
theorem dX6_marks_73 : decode cX6_marks 73 = .ok (.iload_n 2, 1) := dk_28 (dk_at dksX6_marks_3 5 rfl rfl)
theorem dX6_marks_74 : decode cX6_marks 74 = .ok (.iastore, 1) := dk_79 (dk_at dksX6_marks_3 6 rfl rfl)
theorem dX6_marks_75 : decode cX6_marks 75 = .ok (.aload_n 1, 1) := dk_43 (dk_at dksX6_marks_3 7 rfl rfl)
theorem dX6_marks_76 : decode cX6_marks 76 = .ok (.bipush 12, 2) := dk_16 12 (dk_at dksX6_marks_3 8 rfl rfl)
theorem dX6_marks_78 : decode cX6_marks 78 = .ok (.dup2, 1) := dk_92 (dk_at dksX6_marks_3 10 rfl rfl)
theorem dX6_marks_79 : decode cX6_marks 79 = .ok (.iaload, 1) := dk_46 (dk_at dksX6_marks_3 11 rfl rfl)
theorem dX6_marks_80 : decode cX6_marks 80 = .ok (.iconst 1, 1) := dk_4 (dk_at dksX6_marks_3 12 rfl rfl)
theorem dX6_marks_81 : decode cX6_marks 81 = .ok (.iadd, 1) := dk_96 (dk_at dksX6_marks_3 13 rfl rfl)
theorem dX6_marks_82 : decode cX6_marks 82 = .ok (.iastore, 1) := dk_79 (dk_at dksX6_marks_3 14 rfl rfl)
theorem dX6_marks_83 : decode cX6_marks 83 = .ok (.return_, 1) := dk_177 (dk_at dksX6_marks_3 15 rfl rfl)
def dkwX6_why_5 : List UInt8 := [42, 42, 180, 0, 25, 3, 182, 1, 36, 27, 122, 4, 126, 4, 160, 0, 7, 3, 167, 0, 5, 16, 7, 172]
abbrev dktX6_why_5 : List UInt8 := dkwX6_why_5 ++ []
def dkwX6_why_4 : List UInt8 := [8, 172, 42, 42, 180, 0, 25, 27, 182, 0, 235, 42, 180, 0, 25, 16, 6, 46, 164, 0, 6, 16, 6, 172]
abbrev dktX6_why_4 : List UInt8 := dkwX6_why_4 ++ dktX6_why_5
def dkwX6_why_3 : List UInt8 := [16, 9, 184, 0, 157, 46, 4, 159, 0, 5, 7, 172, 42, 42, 180, 0, 25, 27, 182, 1, 11, 153, 0, 5]
abbrev dktX6_why_3 : List UInt8 := dkwX6_why_3 ++ dktX6_why_4
def dkwX6_why_2 : List UInt8 := [159, 0, 5, 5, 172, 42, 42, 180, 0, 25, 182, 1, 19, 153, 0, 5, 6, 172, 42, 180, 0, 25, 27]
abbrev dktX6_why_2 : List UInt8 := dkwX6_why_2 ++ dktX6_why_3
def dkwX6_why_1 : List UInt8 := [27, 4, 184, 0, 157, 46, 154, 0, 5, 4, 172, 42, 180, 0, 25, 27, 5, 184, 0, 157, 46, 4]
abbrev dktX6_why_1 : List UInt8 := dkwX6_why_1 ++ dktX6_why_2
def dkwX6_why_0 : List UInt8 := [42, 3, 181, 0, 72, 42, 42, 27, 182, 1, 45, 4, 182, 0, 78, 154, 0, 5, 3, 172, 42, 180, 0, 25]
abbrev dktX6_why_0 : List UInt8 := dkwX6_why_0 ++ dktX6_why_1
theorem dksX6_why_0 : cX6_why.data.toList.drop 0 = dktX6_why_0 := by decide +kernel
theorem dksX6_why_1 : cX6_why.data.toList.drop 24 = dktX6_why_1 := dk_seg dksX6_why_0 24 rfl rfl
theorem dksX6_why_2 : cX6_why.data.toList.drop 46 = dktX6_why_2 := dk_seg dksX6_why_1 22 rfl rfl
theorem dksX6_why_3 : cX6_why.data.toList.drop 69 = dktX6_why_3 := dk_seg dksX6_why_2 23 rfl rfl
theorem dksX6_why_4 : cX6_why.data.toList.drop 93 = dktX6_why_4 := dk_seg dksX6_why_3 24 rfl rfl
theorem dksX6_why_5 : cX6_why.data.toList.drop 117 = dktX6_why_5 := dk_seg dksX6_why_4 24 rfl rfl
theorem dX6_why_0 : decode cX6_why 0 = .ok (.aload_n 0, 1) := dk_42 (dk_at dksX6_why_0 0 rfl rfl)
theorem dX6_why_1 : decode cX6_why 1 = .ok (.iconst 0, 1) := dk_3 (dk_at dksX6_why_0 1 rfl rfl)
theorem dX6_why_2 : decode cX6_why 2 = .ok (.putfield 72, 3) := dk_181 0 72 (dk_at dksX6_why_0 2 rfl rfl)
theorem dX6_why_5 : decode cX6_why 5 = .ok (.aload_n 0, 1) := dk_42 (dk_at dksX6_why_0 5 rfl rfl)
theorem dX6_why_6 : decode cX6_why 6 = .ok (.aload_n 0, 1) := dk_42 (dk_at dksX6_why_0 6 rfl rfl)
theorem dX6_why_7 : decode cX6_why 7 = .ok (.iload_n 1, 1) := dk_27 (dk_at dksX6_why_0 7 rfl rfl)
theorem dX6_why_8 : decode cX6_why 8 = .ok (.invokevirtual 301, 3) := dk_182 1 45 (dk_at dksX6_why_0 8 rfl rfl)
theorem dX6_why_11 : decode cX6_why 11 = .ok (.iconst 1, 1) := dk_4 (dk_at dksX6_why_0 11 rfl rfl)
theorem dX6_why_12 : decode cX6_why 12 = .ok (.invokevirtual 78, 3) := dk_182 0 78 (dk_at dksX6_why_0 12 rfl rfl)
theorem dX6_why_15 : decode cX6_why 15 = .ok (.ifCond .ne 5, 3) := dk_154 0 5 (dk_at dksX6_why_0 15 rfl rfl)
theorem dX6_why_18 : decode cX6_why 18 = .ok (.iconst 0, 1) := dk_3 (dk_at dksX6_why_0 18 rfl rfl)
theorem dX6_why_19 : decode cX6_why 19 = .ok (.ireturn, 1) := dk_172 (dk_at dksX6_why_0 19 rfl rfl)
theorem dX6_why_20 : decode cX6_why 20 = .ok (.aload_n 0, 1) := dk_42 (dk_at dksX6_why_0 20 rfl rfl)
theorem dX6_why_21 : decode cX6_why 21 = .ok (.getfield 25, 3) := dk_180 0 25 (dk_at dksX6_why_0 21 rfl rfl)
theorem dX6_why_24 : decode cX6_why 24 = .ok (.iload_n 1, 1) := dk_27 (dk_at dksX6_why_1 0 rfl rfl)
theorem dX6_why_25 : decode cX6_why 25 = .ok (.iconst 1, 1) := dk_4 (dk_at dksX6_why_1 1 rfl rfl)
theorem dX6_why_26 : decode cX6_why 26 = .ok (.invokestatic 157, 3) := dk_184 0 157 (dk_at dksX6_why_1 2 rfl rfl)
theorem dX6_why_29 : decode cX6_why 29 = .ok (.iaload, 1) := dk_46 (dk_at dksX6_why_1 5 rfl rfl)
theorem dX6_why_30 : decode cX6_why 30 = .ok (.ifCond .ne 5, 3) := dk_154 0 5 (dk_at dksX6_why_1 6 rfl rfl)
theorem dX6_why_33 : decode cX6_why 33 = .ok (.iconst 1, 1) := dk_4 (dk_at dksX6_why_1 9 rfl rfl)
theorem dX6_why_34 : decode cX6_why 34 = .ok (.ireturn, 1) := dk_172 (dk_at dksX6_why_1 10 rfl rfl)
theorem dX6_why_35 : decode cX6_why 35 = .ok (.aload_n 0, 1) := dk_42 (dk_at dksX6_why_1 11 rfl rfl)
theorem dX6_why_36 : decode cX6_why 36 = .ok (.getfield 25, 3) := dk_180 0 25 (dk_at dksX6_why_1 12 rfl rfl)
theorem dX6_why_39 : decode cX6_why 39 = .ok (.iload_n 1, 1) := dk_27 (dk_at dksX6_why_1 15 rfl rfl)
theorem dX6_why_40 : decode cX6_why 40 = .ok (.iconst 2, 1) := dk_5 (dk_at dksX6_why_1 16 rfl rfl)
theorem dX6_why_41 : decode cX6_why 41 = .ok (.invokestatic 157, 3) := dk_184 0 157 (dk_at dksX6_why_1 17 rfl rfl)
theorem dX6_why_44 : decode cX6_why 44 = .ok (.iaload, 1) := dk_46 (dk_at dksX6_why_1 20 rfl rfl)
theorem dX6_why_45 : decode cX6_why 45 = .ok (.iconst 1, 1) := dk_4 (dk_at dksX6_why_1 21 rfl rfl)
theorem dX6_why_46 : decode cX6_why 46 = .ok (.if_icmp .eq 5, 3) := dk_159 0 5 (dk_at dksX6_why_2 0 rfl rfl)
theorem dX6_why_49 : decode cX6_why 49 = .ok (.iconst 2, 1) := dk_5 (dk_at dksX6_why_2 3 rfl rfl)
theorem dX6_why_50 : decode cX6_why 50 = .ok (.ireturn, 1) := dk_172 (dk_at dksX6_why_2 4 rfl rfl)
theorem dX6_why_51 : decode cX6_why 51 = .ok (.aload_n 0, 1) := dk_42 (dk_at dksX6_why_2 5 rfl rfl)
theorem dX6_why_52 : decode cX6_why 52 = .ok (.aload_n 0, 1) := dk_42 (dk_at dksX6_why_2 6 rfl rfl)
theorem dX6_why_53 : decode cX6_why 53 = .ok (.getfield 25, 3) := dk_180 0 25 (dk_at dksX6_why_2 7 rfl rfl)
theorem dX6_why_56 : decode cX6_why 56 = .ok (.invokevirtual 275, 3) := dk_182 1 19 (dk_at dksX6_why_2 10 rfl rfl)
theorem dX6_why_59 : decode cX6_why 59 = .ok (.ifCond .eq 5, 3) := dk_153 0 5 (dk_at dksX6_why_2 13 rfl rfl)
theorem dX6_why_62 : decode cX6_why 62 = .ok (.iconst 3, 1) := dk_6 (dk_at dksX6_why_2 16 rfl rfl)
theorem dX6_why_63 : decode cX6_why 63 = .ok (.ireturn, 1) := dk_172 (dk_at dksX6_why_2 17 rfl rfl)
theorem dX6_why_64 : decode cX6_why 64 = .ok (.aload_n 0, 1) := dk_42 (dk_at dksX6_why_2 18 rfl rfl)
theorem dX6_why_65 : decode cX6_why 65 = .ok (.getfield 25, 3) := dk_180 0 25 (dk_at dksX6_why_2 19 rfl rfl)
theorem dX6_why_68 : decode cX6_why 68 = .ok (.iload_n 1, 1) := dk_27 (dk_at dksX6_why_2 22 rfl rfl)
theorem dX6_why_69 : decode cX6_why 69 = .ok (.bipush 9, 2) := dk_16 9 (dk_at dksX6_why_3 0 rfl rfl)
theorem dX6_why_71 : decode cX6_why 71 = .ok (.invokestatic 157, 3) := dk_184 0 157 (dk_at dksX6_why_3 2 rfl rfl)
theorem dX6_why_74 : decode cX6_why 74 = .ok (.iaload, 1) := dk_46 (dk_at dksX6_why_3 5 rfl rfl)
theorem dX6_why_75 : decode cX6_why 75 = .ok (.iconst 1, 1) := dk_4 (dk_at dksX6_why_3 6 rfl rfl)
theorem dX6_why_76 : decode cX6_why 76 = .ok (.if_icmp .eq 5, 3) := dk_159 0 5 (dk_at dksX6_why_3 7 rfl rfl)
theorem dX6_why_79 : decode cX6_why 79 = .ok (.iconst 4, 1) := dk_7 (dk_at dksX6_why_3 10 rfl rfl)
theorem dX6_why_80 : decode cX6_why 80 = .ok (.ireturn, 1) := dk_172 (dk_at dksX6_why_3 11 rfl rfl)
theorem dX6_why_81 : decode cX6_why 81 = .ok (.aload_n 0, 1) := dk_42 (dk_at dksX6_why_3 12 rfl rfl)
theorem dX6_why_82 : decode cX6_why 82 = .ok (.aload_n 0, 1) := dk_42 (dk_at dksX6_why_3 13 rfl rfl)
theorem dX6_why_83 : decode cX6_why 83 = .ok (.getfield 25, 3) := dk_180 0 25 (dk_at dksX6_why_3 14 rfl rfl)
theorem dX6_why_86 : decode cX6_why 86 = .ok (.iload_n 1, 1) := dk_27 (dk_at dksX6_why_3 17 rfl rfl)
theorem dX6_why_87 : decode cX6_why 87 = .ok (.invokevirtual 267, 3) := dk_182 1 11 (dk_at dksX6_why_3 18 rfl rfl)
theorem dX6_why_90 : decode cX6_why 90 = .ok (.ifCond .eq 5, 3) := dk_153 0 5 (dk_at dksX6_why_3 21 rfl rfl)
theorem dX6_why_93 : decode cX6_why 93 = .ok (.iconst 5, 1) := dk_8 (dk_at dksX6_why_4 0 rfl rfl)
theorem dX6_why_94 : decode cX6_why 94 = .ok (.ireturn, 1) := dk_172 (dk_at dksX6_why_4 1 rfl rfl)
theorem dX6_why_95 : decode cX6_why 95 = .ok (.aload_n 0, 1) := dk_42 (dk_at dksX6_why_4 2 rfl rfl)
theorem dX6_why_96 : decode cX6_why 96 = .ok (.aload_n 0, 1) := dk_42 (dk_at dksX6_why_4 3 rfl rfl)
theorem dX6_why_97 : decode cX6_why 97 = .ok (.getfield 25, 3) := dk_180 0 25 (dk_at dksX6_why_4 4 rfl rfl)
theorem dX6_why_100 : decode cX6_why 100 = .ok (.iload_n 1, 1) := dk_27 (dk_at dksX6_why_4 7 rfl rfl)
theorem dX6_why_101 : decode cX6_why 101 = .ok (.invokevirtual 235, 3) := dk_182 0 235 (dk_at dksX6_why_4 8 rfl rfl)
theorem dX6_why_104 : decode cX6_why 104 = .ok (.aload_n 0, 1) := dk_42 (dk_at dksX6_why_4 11 rfl rfl)
theorem dX6_why_105 : decode cX6_why 105 = .ok (.getfield 25, 3) := dk_180 0 25 (dk_at dksX6_why_4 12 rfl rfl)
theorem dX6_why_108 : decode cX6_why 108 = .ok (.bipush 6, 2) := dk_16 6 (dk_at dksX6_why_4 15 rfl rfl)
theorem dX6_why_110 : decode cX6_why 110 = .ok (.iaload, 1) := dk_46 (dk_at dksX6_why_4 17 rfl rfl)
theorem dX6_why_111 : decode cX6_why 111 = .ok (.if_icmp .le 6, 3) := dk_164 0 6 (dk_at dksX6_why_4 18 rfl rfl)
theorem dX6_why_114 : decode cX6_why 114 = .ok (.bipush 6, 2) := dk_16 6 (dk_at dksX6_why_4 21 rfl rfl)
theorem dX6_why_116 : decode cX6_why 116 = .ok (.ireturn, 1) := dk_172 (dk_at dksX6_why_4 23 rfl rfl)
theorem dX6_why_117 : decode cX6_why 117 = .ok (.aload_n 0, 1) := dk_42 (dk_at dksX6_why_5 0 rfl rfl)
theorem dX6_why_118 : decode cX6_why 118 = .ok (.aload_n 0, 1) := dk_42 (dk_at dksX6_why_5 1 rfl rfl)
theorem dX6_why_119 : decode cX6_why 119 = .ok (.getfield 25, 3) := dk_180 0 25 (dk_at dksX6_why_5 2 rfl rfl)
theorem dX6_why_122 : decode cX6_why 122 = .ok (.iconst 0, 1) := dk_3 (dk_at dksX6_why_5 5 rfl rfl)
theorem dX6_why_123 : decode cX6_why 123 = .ok (.invokevirtual 292, 3) := dk_182 1 36 (dk_at dksX6_why_5 6 rfl rfl)
theorem dX6_why_126 : decode cX6_why 126 = .ok (.iload_n 1, 1) := dk_27 (dk_at dksX6_why_5 9 rfl rfl)
theorem dX6_why_127 : decode cX6_why 127 = .ok (.ishr, 1) := dk_122 (dk_at dksX6_why_5 10 rfl rfl)
theorem dX6_why_128 : decode cX6_why 128 = .ok (.iconst 1, 1) := dk_4 (dk_at dksX6_why_5 11 rfl rfl)
theorem dX6_why_129 : decode cX6_why 129 = .ok (.iand, 1) := dk_126 (dk_at dksX6_why_5 12 rfl rfl)
theorem dX6_why_130 : decode cX6_why 130 = .ok (.iconst 1, 1) := dk_4 (dk_at dksX6_why_5 13 rfl rfl)
theorem dX6_why_131 : decode cX6_why 131 = .ok (.if_icmp .ne 7, 3) := dk_160 0 7 (dk_at dksX6_why_5 14 rfl rfl)
theorem dX6_why_134 : decode cX6_why 134 = .ok (.iconst 0, 1) := dk_3 (dk_at dksX6_why_5 17 rfl rfl)
theorem dX6_why_135 : decode cX6_why 135 = .ok (.goto 5, 3) := dk_167 0 5 (dk_at dksX6_why_5 18 rfl rfl)
theorem dX6_why_138 : decode cX6_why 138 = .ok (.bipush 7, 2) := dk_16 7 (dk_at dksX6_why_5 21 rfl rfl)
theorem dX6_why_140 : decode cX6_why 140 = .ok (.ireturn, 1) := dk_172 (dk_at dksX6_why_5 23 rfl rfl)
def dkwX6_runsIn_2 : List UInt8 := [153, 0, 7, 28, 167, 0, 4, 3, 172]
abbrev dktX6_runsIn_2 : List UInt8 := dkwX6_runsIn_2 ++ []
def dkwX6_runsIn_1 : List UInt8 := [42, 4, 27, 120, 182, 1, 62, 61, 42, 28, 2, 159, 0, 7, 4, 167, 0, 4, 3, 5, 182, 0, 78]
abbrev dktX6_runsIn_1 : List UInt8 := dkwX6_runsIn_1 ++ dktX6_runsIn_2
def dkwX6_runsIn_0 : List UInt8 := [42, 3, 181, 0, 72, 42, 42, 27, 182, 1, 45, 4, 182, 0, 78, 154, 0, 5, 3, 172, 42, 182, 1, 59]
abbrev dktX6_runsIn_0 : List UInt8 := dkwX6_runsIn_0 ++ dktX6_runsIn_1
theorem dksX6_runsIn_0 : cX6_runsIn.data.toList.drop 0 = dktX6_runsIn_0 := by decide +kernel
theorem dksX6_runsIn_1 : cX6_runsIn.data.toList.drop 24 = dktX6_runsIn_1 := dk_seg dksX6_runsIn_0 24 rfl rfl
theorem dksX6_runsIn_2 : cX6_runsIn.data.toList.drop 47 = dktX6_runsIn_2 := dk_seg dksX6_runsIn_1 23 rfl rfl
theorem dX6_runsIn_0 : decode cX6_runsIn 0 = .ok (.aload_n 0, 1) := dk_42 (dk_at dksX6_runsIn_0 0 rfl rfl)
theorem dX6_runsIn_1 : decode cX6_runsIn 1 = .ok (.iconst 0, 1) := dk_3 (dk_at dksX6_runsIn_0 1 rfl rfl)
theorem dX6_runsIn_2 : decode cX6_runsIn 2 = .ok (.putfield 72, 3) := dk_181 0 72 (dk_at dksX6_runsIn_0 2 rfl rfl)
theorem dX6_runsIn_5 : decode cX6_runsIn 5 = .ok (.aload_n 0, 1) := dk_42 (dk_at dksX6_runsIn_0 5 rfl rfl)
theorem dX6_runsIn_6 : decode cX6_runsIn 6 = .ok (.aload_n 0, 1) := dk_42 (dk_at dksX6_runsIn_0 6 rfl rfl)
theorem dX6_runsIn_7 : decode cX6_runsIn 7 = .ok (.iload_n 1, 1) := dk_27 (dk_at dksX6_runsIn_0 7 rfl rfl)
theorem dX6_runsIn_8 : decode cX6_runsIn 8 = .ok (.invokevirtual 301, 3) := dk_182 1 45 (dk_at dksX6_runsIn_0 8 rfl rfl)
theorem dX6_runsIn_11 : decode cX6_runsIn 11 = .ok (.iconst 1, 1) := dk_4 (dk_at dksX6_runsIn_0 11 rfl rfl)
theorem dX6_runsIn_12 : decode cX6_runsIn 12 = .ok (.invokevirtual 78, 3) := dk_182 0 78 (dk_at dksX6_runsIn_0 12 rfl rfl)
theorem dX6_runsIn_15 : decode cX6_runsIn 15 = .ok (.ifCond .ne 5, 3) := dk_154 0 5 (dk_at dksX6_runsIn_0 15 rfl rfl)
theorem dX6_runsIn_18 : decode cX6_runsIn 18 = .ok (.iconst 0, 1) := dk_3 (dk_at dksX6_runsIn_0 18 rfl rfl)
theorem dX6_runsIn_19 : decode cX6_runsIn 19 = .ok (.ireturn, 1) := dk_172 (dk_at dksX6_runsIn_0 19 rfl rfl)
theorem dX6_runsIn_20 : decode cX6_runsIn 20 = .ok (.aload_n 0, 1) := dk_42 (dk_at dksX6_runsIn_0 20 rfl rfl)
theorem dX6_runsIn_21 : decode cX6_runsIn 21 = .ok (.invokevirtual 315, 3) := dk_182 1 59 (dk_at dksX6_runsIn_0 21 rfl rfl)
theorem dX6_runsIn_24 : decode cX6_runsIn 24 = .ok (.aload_n 0, 1) := dk_42 (dk_at dksX6_runsIn_1 0 rfl rfl)
theorem dX6_runsIn_25 : decode cX6_runsIn 25 = .ok (.iconst 1, 1) := dk_4 (dk_at dksX6_runsIn_1 1 rfl rfl)
theorem dX6_runsIn_26 : decode cX6_runsIn 26 = .ok (.iload_n 1, 1) := dk_27 (dk_at dksX6_runsIn_1 2 rfl rfl)
theorem dX6_runsIn_27 : decode cX6_runsIn 27 = .ok (.ishl, 1) := dk_120 (dk_at dksX6_runsIn_1 3 rfl rfl)
theorem dX6_runsIn_28 : decode cX6_runsIn 28 = .ok (.invokevirtual 318, 3) := dk_182 1 62 (dk_at dksX6_runsIn_1 4 rfl rfl)
theorem dX6_runsIn_31 : decode cX6_runsIn 31 = .ok (.istore_n 2, 1) := dk_61 (dk_at dksX6_runsIn_1 7 rfl rfl)
theorem dX6_runsIn_32 : decode cX6_runsIn 32 = .ok (.aload_n 0, 1) := dk_42 (dk_at dksX6_runsIn_1 8 rfl rfl)
theorem dX6_runsIn_33 : decode cX6_runsIn 33 = .ok (.iload_n 2, 1) := dk_28 (dk_at dksX6_runsIn_1 9 rfl rfl)
theorem dX6_runsIn_34 : decode cX6_runsIn 34 = .ok (.iconst (-1), 1) := dk_2 (dk_at dksX6_runsIn_1 10 rfl rfl)
theorem dX6_runsIn_35 : decode cX6_runsIn 35 = .ok (.if_icmp .eq 7, 3) := dk_159 0 7 (dk_at dksX6_runsIn_1 11 rfl rfl)
theorem dX6_runsIn_38 : decode cX6_runsIn 38 = .ok (.iconst 1, 1) := dk_4 (dk_at dksX6_runsIn_1 14 rfl rfl)
theorem dX6_runsIn_39 : decode cX6_runsIn 39 = .ok (.goto 4, 3) := dk_167 0 4 (dk_at dksX6_runsIn_1 15 rfl rfl)
theorem dX6_runsIn_42 : decode cX6_runsIn 42 = .ok (.iconst 0, 1) := dk_3 (dk_at dksX6_runsIn_1 18 rfl rfl)
theorem dX6_runsIn_43 : decode cX6_runsIn 43 = .ok (.iconst 2, 1) := dk_5 (dk_at dksX6_runsIn_1 19 rfl rfl)
theorem dX6_runsIn_44 : decode cX6_runsIn 44 = .ok (.invokevirtual 78, 3) := dk_182 0 78 (dk_at dksX6_runsIn_1 20 rfl rfl)
theorem dX6_runsIn_47 : decode cX6_runsIn 47 = .ok (.ifCond .eq 7, 3) := dk_153 0 7 (dk_at dksX6_runsIn_2 0 rfl rfl)
theorem dX6_runsIn_50 : decode cX6_runsIn 50 = .ok (.iload_n 2, 1) := dk_28 (dk_at dksX6_runsIn_2 3 rfl rfl)
theorem dX6_runsIn_51 : decode cX6_runsIn 51 = .ok (.goto 4, 3) := dk_167 0 4 (dk_at dksX6_runsIn_2 4 rfl rfl)
theorem dX6_runsIn_54 : decode cX6_runsIn 54 = .ok (.iconst 0, 1) := dk_3 (dk_at dksX6_runsIn_2 7 rfl rfl)
theorem dX6_runsIn_55 : decode cX6_runsIn 55 = .ok (.ireturn, 1) := dk_172 (dk_at dksX6_runsIn_2 8 rfl rfl)
def dkwX6_laysThen_1 : List UInt8 := [167, 255, 234, 177]
abbrev dktX6_laysThen_1 : List UInt8 := dkwX6_laysThen_1 ++ []
def dkwX6_laysThen_0 : List UInt8 := [3, 60, 27, 17, 1, 155, 162, 0, 21, 42, 180, 0, 28, 27, 42, 180, 0, 25, 27, 46, 79, 132, 1, 1]
abbrev dktX6_laysThen_0 : List UInt8 := dkwX6_laysThen_0 ++ dktX6_laysThen_1
theorem dksX6_laysThen_0 : cX6_laysThen.data.toList.drop 0 = dktX6_laysThen_0 := by decide +kernel
theorem dksX6_laysThen_1 : cX6_laysThen.data.toList.drop 24 = dktX6_laysThen_1 := dk_seg dksX6_laysThen_0 24 rfl rfl
theorem dX6_laysThen_0 : decode cX6_laysThen 0 = .ok (.iconst 0, 1) := dk_3 (dk_at dksX6_laysThen_0 0 rfl rfl)
theorem dX6_laysThen_1 : decode cX6_laysThen 1 = .ok (.istore_n 1, 1) := dk_60 (dk_at dksX6_laysThen_0 1 rfl rfl)
theorem dX6_laysThen_2 : decode cX6_laysThen 2 = .ok (.iload_n 1, 1) := dk_27 (dk_at dksX6_laysThen_0 2 rfl rfl)
theorem dX6_laysThen_3 : decode cX6_laysThen 3 = .ok (.sipush 411, 3) := dk_17 1 155 (dk_at dksX6_laysThen_0 3 rfl rfl)
theorem dX6_laysThen_6 : decode cX6_laysThen 6 = .ok (.if_icmp .ge 21, 3) := dk_162 0 21 (dk_at dksX6_laysThen_0 6 rfl rfl)
theorem dX6_laysThen_9 : decode cX6_laysThen 9 = .ok (.aload_n 0, 1) := dk_42 (dk_at dksX6_laysThen_0 9 rfl rfl)
theorem dX6_laysThen_10 : decode cX6_laysThen 10 = .ok (.getfield 28, 3) := dk_180 0 28 (dk_at dksX6_laysThen_0 10 rfl rfl)
theorem dX6_laysThen_13 : decode cX6_laysThen 13 = .ok (.iload_n 1, 1) := dk_27 (dk_at dksX6_laysThen_0 13 rfl rfl)
theorem dX6_laysThen_14 : decode cX6_laysThen 14 = .ok (.aload_n 0, 1) := dk_42 (dk_at dksX6_laysThen_0 14 rfl rfl)
theorem dX6_laysThen_15 : decode cX6_laysThen 15 = .ok (.getfield 25, 3) := dk_180 0 25 (dk_at dksX6_laysThen_0 15 rfl rfl)
theorem dX6_laysThen_18 : decode cX6_laysThen 18 = .ok (.iload_n 1, 1) := dk_27 (dk_at dksX6_laysThen_0 18 rfl rfl)
theorem dX6_laysThen_19 : decode cX6_laysThen 19 = .ok (.iaload, 1) := dk_46 (dk_at dksX6_laysThen_0 19 rfl rfl)
theorem dX6_laysThen_20 : decode cX6_laysThen 20 = .ok (.iastore, 1) := dk_79 (dk_at dksX6_laysThen_0 20 rfl rfl)
theorem dX6_laysThen_21 : decode cX6_laysThen 21 = .ok (.iinc 1 1, 3) := dk_132 1 1 (dk_at dksX6_laysThen_0 21 rfl rfl)
theorem dX6_laysThen_24 : decode cX6_laysThen 24 = .ok (.goto (-22), 3) := dk_167 255 234 (dk_at dksX6_laysThen_1 0 rfl rfl)
theorem dX6_laysThen_27 : decode cX6_laysThen 27 = .ok (.return_, 1) := dk_177 (dk_at dksX6_laysThen_1 3 rfl rfl)
def dkwX6_until_2 : List UInt8 := [164, 0, 7, 2, 167, 0, 4, 28, 172]
abbrev dktX6_until_2 : List UInt8 := dkwX6_until_2 ++ []
def dkwX6_until_1 : List UInt8 := [153, 0, 18, 42, 42, 180, 0, 28, 182, 1, 56, 62, 132, 2, 1, 167, 255, 220, 28, 17, 1, 244]
abbrev dktX6_until_1 : List UInt8 := dkwX6_until_1 ++ dktX6_until_2
def dkwX6_until_0 : List UInt8 := [3, 61, 28, 17, 1, 244, 163, 0, 35, 27, 42, 42, 180, 0, 28, 5, 6, 182, 0, 249, 2, 130, 126]
abbrev dktX6_until_0 : List UInt8 := dkwX6_until_0 ++ dktX6_until_1
theorem dksX6_until_0 : cX6_until.data.toList.drop 0 = dktX6_until_0 := by decide +kernel
theorem dksX6_until_1 : cX6_until.data.toList.drop 23 = dktX6_until_1 := dk_seg dksX6_until_0 23 rfl rfl
theorem dksX6_until_2 : cX6_until.data.toList.drop 45 = dktX6_until_2 := dk_seg dksX6_until_1 22 rfl rfl
theorem dX6_until_0 : decode cX6_until 0 = .ok (.iconst 0, 1) := dk_3 (dk_at dksX6_until_0 0 rfl rfl)
theorem dX6_until_1 : decode cX6_until 1 = .ok (.istore_n 2, 1) := dk_61 (dk_at dksX6_until_0 1 rfl rfl)
theorem dX6_until_2 : decode cX6_until 2 = .ok (.iload_n 2, 1) := dk_28 (dk_at dksX6_until_0 2 rfl rfl)
theorem dX6_until_3 : decode cX6_until 3 = .ok (.sipush 500, 3) := dk_17 1 244 (dk_at dksX6_until_0 3 rfl rfl)
theorem dX6_until_6 : decode cX6_until 6 = .ok (.if_icmp .gt 35, 3) := dk_163 0 35 (dk_at dksX6_until_0 6 rfl rfl)
theorem dX6_until_9 : decode cX6_until 9 = .ok (.iload_n 1, 1) := dk_27 (dk_at dksX6_until_0 9 rfl rfl)
theorem dX6_until_10 : decode cX6_until 10 = .ok (.aload_n 0, 1) := dk_42 (dk_at dksX6_until_0 10 rfl rfl)
theorem dX6_until_11 : decode cX6_until 11 = .ok (.aload_n 0, 1) := dk_42 (dk_at dksX6_until_0 11 rfl rfl)
theorem dX6_until_12 : decode cX6_until 12 = .ok (.getfield 28, 3) := dk_180 0 28 (dk_at dksX6_until_0 12 rfl rfl)
theorem dX6_until_15 : decode cX6_until 15 = .ok (.iconst 2, 1) := dk_5 (dk_at dksX6_until_0 15 rfl rfl)
theorem dX6_until_16 : decode cX6_until 16 = .ok (.iconst 3, 1) := dk_6 (dk_at dksX6_until_0 16 rfl rfl)
theorem dX6_until_17 : decode cX6_until 17 = .ok (.invokevirtual 249, 3) := dk_182 0 249 (dk_at dksX6_until_0 17 rfl rfl)
theorem dX6_until_20 : decode cX6_until 20 = .ok (.iconst (-1), 1) := dk_2 (dk_at dksX6_until_0 20 rfl rfl)
theorem dX6_until_21 : decode cX6_until 21 = .ok (.ixor, 1) := dk_130 (dk_at dksX6_until_0 21 rfl rfl)
theorem dX6_until_22 : decode cX6_until 22 = .ok (.iand, 1) := dk_126 (dk_at dksX6_until_0 22 rfl rfl)
theorem dX6_until_23 : decode cX6_until 23 = .ok (.ifCond .eq 18, 3) := dk_153 0 18 (dk_at dksX6_until_1 0 rfl rfl)
theorem dX6_until_26 : decode cX6_until 26 = .ok (.aload_n 0, 1) := dk_42 (dk_at dksX6_until_1 3 rfl rfl)
theorem dX6_until_27 : decode cX6_until 27 = .ok (.aload_n 0, 1) := dk_42 (dk_at dksX6_until_1 4 rfl rfl)
theorem dX6_until_28 : decode cX6_until 28 = .ok (.getfield 28, 3) := dk_180 0 28 (dk_at dksX6_until_1 5 rfl rfl)
theorem dX6_until_31 : decode cX6_until 31 = .ok (.invokevirtual 312, 3) := dk_182 1 56 (dk_at dksX6_until_1 8 rfl rfl)
theorem dX6_until_34 : decode cX6_until 34 = .ok (.istore_n 3, 1) := dk_62 (dk_at dksX6_until_1 11 rfl rfl)
theorem dX6_until_35 : decode cX6_until 35 = .ok (.iinc 2 1, 3) := dk_132 2 1 (dk_at dksX6_until_1 12 rfl rfl)
theorem dX6_until_38 : decode cX6_until 38 = .ok (.goto (-36), 3) := dk_167 255 220 (dk_at dksX6_until_1 15 rfl rfl)
theorem dX6_until_41 : decode cX6_until 41 = .ok (.iload_n 2, 1) := dk_28 (dk_at dksX6_until_1 18 rfl rfl)
theorem dX6_until_42 : decode cX6_until 42 = .ok (.sipush 500, 3) := dk_17 1 244 (dk_at dksX6_until_1 19 rfl rfl)
theorem dX6_until_45 : decode cX6_until 45 = .ok (.if_icmp .le 7, 3) := dk_164 0 7 (dk_at dksX6_until_2 0 rfl rfl)
theorem dX6_until_48 : decode cX6_until 48 = .ok (.iconst (-1), 1) := dk_2 (dk_at dksX6_until_2 3 rfl rfl)
theorem dX6_until_49 : decode cX6_until 49 = .ok (.goto 4, 3) := dk_167 0 4 (dk_at dksX6_until_2 4 rfl rfl)
theorem dX6_until_52 : decode cX6_until 52 = .ok (.iload_n 2, 1) := dk_28 (dk_at dksX6_until_2 7 rfl rfl)
theorem dX6_until_53 : decode cX6_until 53 = .ok (.ireturn, 1) := dk_172 (dk_at dksX6_until_2 8 rfl rfl)
def dkwX6_ticks_10 : List UInt8 := [21, 4, 172]
abbrev dktX6_ticks_10 : List UInt8 := dkwX6_ticks_10 ++ []
def dkwX6_ticks_9 : List UInt8 := [79, 21, 4, 43, 16, 6, 46, 164, 0, 16, 43, 6, 92, 46, 4, 96, 79, 42, 43, 8, 182, 1, 15]
abbrev dktX6_ticks_9 : List UInt8 := dkwX6_ticks_9 ++ dktX6_ticks_10
def dkwX6_ticks_8 : List UInt8 := [43, 21, 5, 6, 184, 0, 157, 92, 46, 4, 100, 79, 132, 5, 1, 167, 255, 220, 43, 3, 92, 46, 4, 96]
abbrev dktX6_ticks_8 : List UInt8 := dkwX6_ticks_8 ++ dktX6_ticks_9
def dkwX6_ticks_7 : List UInt8 := [3, 54, 5, 21, 5, 42, 180, 0, 207, 162, 0, 33, 43, 21, 5, 5, 184, 0, 157, 46, 5, 160, 0, 15]
abbrev dktX6_ticks_7 : List UInt8 := dkwX6_ticks_7 ++ dktX6_ticks_8
def dkwX6_ticks_6 : List UInt8 := [54, 4, 43, 16, 10, 21, 4, 43, 16, 10, 46, 164, 0, 8, 21, 4, 167, 0, 7, 43, 16, 10, 46, 79]
abbrev dktX6_ticks_6 : List UInt8 := dkwX6_ticks_6 ++ dktX6_ticks_7
def dkwX6_ticks_5 : List UInt8 := [132, 3, 1, 167, 255, 239, 42, 43, 182, 1, 33, 42, 43, 4, 182, 1, 36, 62, 42, 43, 182, 1, 40]
abbrev dktX6_ticks_5 : List UInt8 := dkwX6_ticks_5 ++ dktX6_ticks_6
def dkwX6_ticks_4 : List UInt8 := [3, 79, 42, 43, 182, 1, 26, 3, 62, 29, 42, 180, 0, 207, 162, 0, 15, 42, 43, 29, 182, 1, 30]
abbrev dktX6_ticks_4 : List UInt8 := dkwX6_ticks_4 ++ dktX6_ticks_5
def dkwX6_ticks_3 : List UInt8 := [162, 0, 21, 42, 43, 17, 0, 195, 6, 29, 104, 96, 182, 1, 23, 132, 3, 1, 167, 255, 236, 43, 16, 11]
abbrev dktX6_ticks_3 : List UInt8 := dkwX6_ticks_3 ++ dktX6_ticks_4
def dkwX6_ticks_2 : List UInt8 := [182, 1, 19, 153, 0, 12, 43, 3, 92, 46, 4, 96, 79, 3, 172, 43, 16, 11, 46, 61, 3, 62, 29, 28]
abbrev dktX6_ticks_2 : List UInt8 := dkwX6_ticks_2 ++ dktX6_ticks_3
def dkwX6_ticks_1 : List UInt8 := [42, 43, 42, 180, 0, 19, 5, 28, 104, 4, 96, 46, 182, 1, 15, 132, 2, 1, 167, 255, 216, 42, 43]
abbrev dktX6_ticks_1 : List UInt8 := dkwX6_ticks_1 ++ dktX6_ticks_2
def dkwX6_ticks_0 : List UInt8 := [3, 61, 28, 42, 180, 0, 216, 162, 0, 38, 42, 180, 0, 19, 5, 28, 104, 46, 43, 3, 46, 160, 0, 18]
abbrev dktX6_ticks_0 : List UInt8 := dkwX6_ticks_0 ++ dktX6_ticks_1
theorem dksX6_ticks_0 : cX6_ticks.data.toList.drop 0 = dktX6_ticks_0 := by decide +kernel
theorem dksX6_ticks_1 : cX6_ticks.data.toList.drop 24 = dktX6_ticks_1 := dk_seg dksX6_ticks_0 24 rfl rfl
theorem dksX6_ticks_2 : cX6_ticks.data.toList.drop 47 = dktX6_ticks_2 := dk_seg dksX6_ticks_1 23 rfl rfl
theorem dksX6_ticks_3 : cX6_ticks.data.toList.drop 71 = dktX6_ticks_3 := dk_seg dksX6_ticks_2 24 rfl rfl
theorem dksX6_ticks_4 : cX6_ticks.data.toList.drop 95 = dktX6_ticks_4 := dk_seg dksX6_ticks_3 24 rfl rfl
theorem dksX6_ticks_5 : cX6_ticks.data.toList.drop 118 = dktX6_ticks_5 := dk_seg dksX6_ticks_4 23 rfl rfl
theorem dksX6_ticks_6 : cX6_ticks.data.toList.drop 141 = dktX6_ticks_6 := dk_seg dksX6_ticks_5 23 rfl rfl
theorem dksX6_ticks_7 : cX6_ticks.data.toList.drop 165 = dktX6_ticks_7 := dk_seg dksX6_ticks_6 24 rfl rfl
theorem dksX6_ticks_8 : cX6_ticks.data.toList.drop 189 = dktX6_ticks_8 := dk_seg dksX6_ticks_7 24 rfl rfl
theorem dksX6_ticks_9 : cX6_ticks.data.toList.drop 213 = dktX6_ticks_9 := dk_seg dksX6_ticks_8 24 rfl rfl
theorem dksX6_ticks_10 : cX6_ticks.data.toList.drop 236 = dktX6_ticks_10 := dk_seg dksX6_ticks_9 23 rfl rfl
theorem dX6_ticks_0 : decode cX6_ticks 0 = .ok (.iconst 0, 1) := dk_3 (dk_at dksX6_ticks_0 0 rfl rfl)
theorem dX6_ticks_1 : decode cX6_ticks 1 = .ok (.istore_n 2, 1) := dk_61 (dk_at dksX6_ticks_0 1 rfl rfl)
theorem dX6_ticks_2 : decode cX6_ticks 2 = .ok (.iload_n 2, 1) := dk_28 (dk_at dksX6_ticks_0 2 rfl rfl)
theorem dX6_ticks_3 : decode cX6_ticks 3 = .ok (.aload_n 0, 1) := dk_42 (dk_at dksX6_ticks_0 3 rfl rfl)
theorem dX6_ticks_4 : decode cX6_ticks 4 = .ok (.getfield 216, 3) := dk_180 0 216 (dk_at dksX6_ticks_0 4 rfl rfl)
theorem dX6_ticks_7 : decode cX6_ticks 7 = .ok (.if_icmp .ge 38, 3) := dk_162 0 38 (dk_at dksX6_ticks_0 7 rfl rfl)
theorem dX6_ticks_10 : decode cX6_ticks 10 = .ok (.aload_n 0, 1) := dk_42 (dk_at dksX6_ticks_0 10 rfl rfl)
theorem dX6_ticks_11 : decode cX6_ticks 11 = .ok (.getfield 19, 3) := dk_180 0 19 (dk_at dksX6_ticks_0 11 rfl rfl)
theorem dX6_ticks_14 : decode cX6_ticks 14 = .ok (.iconst 2, 1) := dk_5 (dk_at dksX6_ticks_0 14 rfl rfl)
theorem dX6_ticks_15 : decode cX6_ticks 15 = .ok (.iload_n 2, 1) := dk_28 (dk_at dksX6_ticks_0 15 rfl rfl)
theorem dX6_ticks_16 : decode cX6_ticks 16 = .ok (.imul, 1) := dk_104 (dk_at dksX6_ticks_0 16 rfl rfl)
theorem dX6_ticks_17 : decode cX6_ticks 17 = .ok (.iaload, 1) := dk_46 (dk_at dksX6_ticks_0 17 rfl rfl)
theorem dX6_ticks_18 : decode cX6_ticks 18 = .ok (.aload_n 1, 1) := dk_43 (dk_at dksX6_ticks_0 18 rfl rfl)
theorem dX6_ticks_19 : decode cX6_ticks 19 = .ok (.iconst 0, 1) := dk_3 (dk_at dksX6_ticks_0 19 rfl rfl)
theorem dX6_ticks_20 : decode cX6_ticks 20 = .ok (.iaload, 1) := dk_46 (dk_at dksX6_ticks_0 20 rfl rfl)
theorem dX6_ticks_21 : decode cX6_ticks 21 = .ok (.if_icmp .ne 18, 3) := dk_160 0 18 (dk_at dksX6_ticks_0 21 rfl rfl)
theorem dX6_ticks_24 : decode cX6_ticks 24 = .ok (.aload_n 0, 1) := dk_42 (dk_at dksX6_ticks_1 0 rfl rfl)
theorem dX6_ticks_25 : decode cX6_ticks 25 = .ok (.aload_n 1, 1) := dk_43 (dk_at dksX6_ticks_1 1 rfl rfl)
theorem dX6_ticks_26 : decode cX6_ticks 26 = .ok (.aload_n 0, 1) := dk_42 (dk_at dksX6_ticks_1 2 rfl rfl)
theorem dX6_ticks_27 : decode cX6_ticks 27 = .ok (.getfield 19, 3) := dk_180 0 19 (dk_at dksX6_ticks_1 3 rfl rfl)
theorem dX6_ticks_30 : decode cX6_ticks 30 = .ok (.iconst 2, 1) := dk_5 (dk_at dksX6_ticks_1 6 rfl rfl)
theorem dX6_ticks_31 : decode cX6_ticks 31 = .ok (.iload_n 2, 1) := dk_28 (dk_at dksX6_ticks_1 7 rfl rfl)
theorem dX6_ticks_32 : decode cX6_ticks 32 = .ok (.imul, 1) := dk_104 (dk_at dksX6_ticks_1 8 rfl rfl)
theorem dX6_ticks_33 : decode cX6_ticks 33 = .ok (.iconst 1, 1) := dk_4 (dk_at dksX6_ticks_1 9 rfl rfl)
theorem dX6_ticks_34 : decode cX6_ticks 34 = .ok (.iadd, 1) := dk_96 (dk_at dksX6_ticks_1 10 rfl rfl)
theorem dX6_ticks_35 : decode cX6_ticks 35 = .ok (.iaload, 1) := dk_46 (dk_at dksX6_ticks_1 11 rfl rfl)
theorem dX6_ticks_36 : decode cX6_ticks 36 = .ok (.invokevirtual 271, 3) := dk_182 1 15 (dk_at dksX6_ticks_1 12 rfl rfl)
theorem dX6_ticks_39 : decode cX6_ticks 39 = .ok (.iinc 2 1, 3) := dk_132 2 1 (dk_at dksX6_ticks_1 15 rfl rfl)
theorem dX6_ticks_42 : decode cX6_ticks 42 = .ok (.goto (-40), 3) := dk_167 255 216 (dk_at dksX6_ticks_1 18 rfl rfl)
theorem dX6_ticks_45 : decode cX6_ticks 45 = .ok (.aload_n 0, 1) := dk_42 (dk_at dksX6_ticks_1 21 rfl rfl)
theorem dX6_ticks_46 : decode cX6_ticks 46 = .ok (.aload_n 1, 1) := dk_43 (dk_at dksX6_ticks_1 22 rfl rfl)
theorem dX6_ticks_47 : decode cX6_ticks 47 = .ok (.invokevirtual 275, 3) := dk_182 1 19 (dk_at dksX6_ticks_2 0 rfl rfl)
theorem dX6_ticks_50 : decode cX6_ticks 50 = .ok (.ifCond .eq 12, 3) := dk_153 0 12 (dk_at dksX6_ticks_2 3 rfl rfl)
theorem dX6_ticks_53 : decode cX6_ticks 53 = .ok (.aload_n 1, 1) := dk_43 (dk_at dksX6_ticks_2 6 rfl rfl)
theorem dX6_ticks_54 : decode cX6_ticks 54 = .ok (.iconst 0, 1) := dk_3 (dk_at dksX6_ticks_2 7 rfl rfl)
theorem dX6_ticks_55 : decode cX6_ticks 55 = .ok (.dup2, 1) := dk_92 (dk_at dksX6_ticks_2 8 rfl rfl)
theorem dX6_ticks_56 : decode cX6_ticks 56 = .ok (.iaload, 1) := dk_46 (dk_at dksX6_ticks_2 9 rfl rfl)
theorem dX6_ticks_57 : decode cX6_ticks 57 = .ok (.iconst 1, 1) := dk_4 (dk_at dksX6_ticks_2 10 rfl rfl)
theorem dX6_ticks_58 : decode cX6_ticks 58 = .ok (.iadd, 1) := dk_96 (dk_at dksX6_ticks_2 11 rfl rfl)
theorem dX6_ticks_59 : decode cX6_ticks 59 = .ok (.iastore, 1) := dk_79 (dk_at dksX6_ticks_2 12 rfl rfl)
theorem dX6_ticks_60 : decode cX6_ticks 60 = .ok (.iconst 0, 1) := dk_3 (dk_at dksX6_ticks_2 13 rfl rfl)
theorem dX6_ticks_61 : decode cX6_ticks 61 = .ok (.ireturn, 1) := dk_172 (dk_at dksX6_ticks_2 14 rfl rfl)
theorem dX6_ticks_62 : decode cX6_ticks 62 = .ok (.aload_n 1, 1) := dk_43 (dk_at dksX6_ticks_2 15 rfl rfl)
theorem dX6_ticks_63 : decode cX6_ticks 63 = .ok (.bipush 11, 2) := dk_16 11 (dk_at dksX6_ticks_2 16 rfl rfl)
theorem dX6_ticks_65 : decode cX6_ticks 65 = .ok (.iaload, 1) := dk_46 (dk_at dksX6_ticks_2 18 rfl rfl)
theorem dX6_ticks_66 : decode cX6_ticks 66 = .ok (.istore_n 2, 1) := dk_61 (dk_at dksX6_ticks_2 19 rfl rfl)
theorem dX6_ticks_67 : decode cX6_ticks 67 = .ok (.iconst 0, 1) := dk_3 (dk_at dksX6_ticks_2 20 rfl rfl)
theorem dX6_ticks_68 : decode cX6_ticks 68 = .ok (.istore_n 3, 1) := dk_62 (dk_at dksX6_ticks_2 21 rfl rfl)
theorem dX6_ticks_69 : decode cX6_ticks 69 = .ok (.iload_n 3, 1) := dk_29 (dk_at dksX6_ticks_2 22 rfl rfl)
theorem dX6_ticks_70 : decode cX6_ticks 70 = .ok (.iload_n 2, 1) := dk_28 (dk_at dksX6_ticks_2 23 rfl rfl)
theorem dX6_ticks_71 : decode cX6_ticks 71 = .ok (.if_icmp .ge 21, 3) := dk_162 0 21 (dk_at dksX6_ticks_3 0 rfl rfl)
theorem dX6_ticks_74 : decode cX6_ticks 74 = .ok (.aload_n 0, 1) := dk_42 (dk_at dksX6_ticks_3 3 rfl rfl)
theorem dX6_ticks_75 : decode cX6_ticks 75 = .ok (.aload_n 1, 1) := dk_43 (dk_at dksX6_ticks_3 4 rfl rfl)
theorem dX6_ticks_76 : decode cX6_ticks 76 = .ok (.sipush 195, 3) := dk_17 0 195 (dk_at dksX6_ticks_3 5 rfl rfl)
theorem dX6_ticks_79 : decode cX6_ticks 79 = .ok (.iconst 3, 1) := dk_6 (dk_at dksX6_ticks_3 8 rfl rfl)
theorem dX6_ticks_80 : decode cX6_ticks 80 = .ok (.iload_n 3, 1) := dk_29 (dk_at dksX6_ticks_3 9 rfl rfl)
theorem dX6_ticks_81 : decode cX6_ticks 81 = .ok (.imul, 1) := dk_104 (dk_at dksX6_ticks_3 10 rfl rfl)
theorem dX6_ticks_82 : decode cX6_ticks 82 = .ok (.iadd, 1) := dk_96 (dk_at dksX6_ticks_3 11 rfl rfl)
theorem dX6_ticks_83 : decode cX6_ticks 83 = .ok (.invokevirtual 279, 3) := dk_182 1 23 (dk_at dksX6_ticks_3 12 rfl rfl)
theorem dX6_ticks_86 : decode cX6_ticks 86 = .ok (.iinc 3 1, 3) := dk_132 3 1 (dk_at dksX6_ticks_3 15 rfl rfl)
theorem dX6_ticks_89 : decode cX6_ticks 89 = .ok (.goto (-20), 3) := dk_167 255 236 (dk_at dksX6_ticks_3 18 rfl rfl)
theorem dX6_ticks_92 : decode cX6_ticks 92 = .ok (.aload_n 1, 1) := dk_43 (dk_at dksX6_ticks_3 21 rfl rfl)
theorem dX6_ticks_93 : decode cX6_ticks 93 = .ok (.bipush 11, 2) := dk_16 11 (dk_at dksX6_ticks_3 22 rfl rfl)
theorem dX6_ticks_95 : decode cX6_ticks 95 = .ok (.iconst 0, 1) := dk_3 (dk_at dksX6_ticks_4 0 rfl rfl)
theorem dX6_ticks_96 : decode cX6_ticks 96 = .ok (.iastore, 1) := dk_79 (dk_at dksX6_ticks_4 1 rfl rfl)
theorem dX6_ticks_97 : decode cX6_ticks 97 = .ok (.aload_n 0, 1) := dk_42 (dk_at dksX6_ticks_4 2 rfl rfl)
theorem dX6_ticks_98 : decode cX6_ticks 98 = .ok (.aload_n 1, 1) := dk_43 (dk_at dksX6_ticks_4 3 rfl rfl)
theorem dX6_ticks_99 : decode cX6_ticks 99 = .ok (.invokevirtual 282, 3) := dk_182 1 26 (dk_at dksX6_ticks_4 4 rfl rfl)
theorem dX6_ticks_102 : decode cX6_ticks 102 = .ok (.iconst 0, 1) := dk_3 (dk_at dksX6_ticks_4 7 rfl rfl)
theorem dX6_ticks_103 : decode cX6_ticks 103 = .ok (.istore_n 3, 1) := dk_62 (dk_at dksX6_ticks_4 8 rfl rfl)
theorem dX6_ticks_104 : decode cX6_ticks 104 = .ok (.iload_n 3, 1) := dk_29 (dk_at dksX6_ticks_4 9 rfl rfl)
theorem dX6_ticks_105 : decode cX6_ticks 105 = .ok (.aload_n 0, 1) := dk_42 (dk_at dksX6_ticks_4 10 rfl rfl)
theorem dX6_ticks_106 : decode cX6_ticks 106 = .ok (.getfield 207, 3) := dk_180 0 207 (dk_at dksX6_ticks_4 11 rfl rfl)
theorem dX6_ticks_109 : decode cX6_ticks 109 = .ok (.if_icmp .ge 15, 3) := dk_162 0 15 (dk_at dksX6_ticks_4 14 rfl rfl)
theorem dX6_ticks_112 : decode cX6_ticks 112 = .ok (.aload_n 0, 1) := dk_42 (dk_at dksX6_ticks_4 17 rfl rfl)
theorem dX6_ticks_113 : decode cX6_ticks 113 = .ok (.aload_n 1, 1) := dk_43 (dk_at dksX6_ticks_4 18 rfl rfl)
theorem dX6_ticks_114 : decode cX6_ticks 114 = .ok (.iload_n 3, 1) := dk_29 (dk_at dksX6_ticks_4 19 rfl rfl)
theorem dX6_ticks_115 : decode cX6_ticks 115 = .ok (.invokevirtual 286, 3) := dk_182 1 30 (dk_at dksX6_ticks_4 20 rfl rfl)
theorem dX6_ticks_118 : decode cX6_ticks 118 = .ok (.iinc 3 1, 3) := dk_132 3 1 (dk_at dksX6_ticks_5 0 rfl rfl)
theorem dX6_ticks_121 : decode cX6_ticks 121 = .ok (.goto (-17), 3) := dk_167 255 239 (dk_at dksX6_ticks_5 3 rfl rfl)
theorem dX6_ticks_124 : decode cX6_ticks 124 = .ok (.aload_n 0, 1) := dk_42 (dk_at dksX6_ticks_5 6 rfl rfl)
theorem dX6_ticks_125 : decode cX6_ticks 125 = .ok (.aload_n 1, 1) := dk_43 (dk_at dksX6_ticks_5 7 rfl rfl)
theorem dX6_ticks_126 : decode cX6_ticks 126 = .ok (.invokevirtual 289, 3) := dk_182 1 33 (dk_at dksX6_ticks_5 8 rfl rfl)
theorem dX6_ticks_129 : decode cX6_ticks 129 = .ok (.aload_n 0, 1) := dk_42 (dk_at dksX6_ticks_5 11 rfl rfl)
theorem dX6_ticks_130 : decode cX6_ticks 130 = .ok (.aload_n 1, 1) := dk_43 (dk_at dksX6_ticks_5 12 rfl rfl)
theorem dX6_ticks_131 : decode cX6_ticks 131 = .ok (.iconst 1, 1) := dk_4 (dk_at dksX6_ticks_5 13 rfl rfl)
theorem dX6_ticks_132 : decode cX6_ticks 132 = .ok (.invokevirtual 292, 3) := dk_182 1 36 (dk_at dksX6_ticks_5 14 rfl rfl)
theorem dX6_ticks_135 : decode cX6_ticks 135 = .ok (.istore_n 3, 1) := dk_62 (dk_at dksX6_ticks_5 17 rfl rfl)
theorem dX6_ticks_136 : decode cX6_ticks 136 = .ok (.aload_n 0, 1) := dk_42 (dk_at dksX6_ticks_5 18 rfl rfl)
theorem dX6_ticks_137 : decode cX6_ticks 137 = .ok (.aload_n 1, 1) := dk_43 (dk_at dksX6_ticks_5 19 rfl rfl)
theorem dX6_ticks_138 : decode cX6_ticks 138 = .ok (.invokevirtual 296, 3) := dk_182 1 40 (dk_at dksX6_ticks_5 20 rfl rfl)
theorem dX6_ticks_141 : decode cX6_ticks 141 = .ok (.istore 4, 2) := dk_54 4 (dk_at dksX6_ticks_6 0 rfl rfl)
theorem dX6_ticks_143 : decode cX6_ticks 143 = .ok (.aload_n 1, 1) := dk_43 (dk_at dksX6_ticks_6 2 rfl rfl)
theorem dX6_ticks_144 : decode cX6_ticks 144 = .ok (.bipush 10, 2) := dk_16 10 (dk_at dksX6_ticks_6 3 rfl rfl)
theorem dX6_ticks_146 : decode cX6_ticks 146 = .ok (.iload 4, 2) := dk_21 4 (dk_at dksX6_ticks_6 5 rfl rfl)
theorem dX6_ticks_148 : decode cX6_ticks 148 = .ok (.aload_n 1, 1) := dk_43 (dk_at dksX6_ticks_6 7 rfl rfl)
theorem dX6_ticks_149 : decode cX6_ticks 149 = .ok (.bipush 10, 2) := dk_16 10 (dk_at dksX6_ticks_6 8 rfl rfl)
theorem dX6_ticks_151 : decode cX6_ticks 151 = .ok (.iaload, 1) := dk_46 (dk_at dksX6_ticks_6 10 rfl rfl)
theorem dX6_ticks_152 : decode cX6_ticks 152 = .ok (.if_icmp .le 8, 3) := dk_164 0 8 (dk_at dksX6_ticks_6 11 rfl rfl)
theorem dX6_ticks_155 : decode cX6_ticks 155 = .ok (.iload 4, 2) := dk_21 4 (dk_at dksX6_ticks_6 14 rfl rfl)
theorem dX6_ticks_157 : decode cX6_ticks 157 = .ok (.goto 7, 3) := dk_167 0 7 (dk_at dksX6_ticks_6 16 rfl rfl)
theorem dX6_ticks_160 : decode cX6_ticks 160 = .ok (.aload_n 1, 1) := dk_43 (dk_at dksX6_ticks_6 19 rfl rfl)
theorem dX6_ticks_161 : decode cX6_ticks 161 = .ok (.bipush 10, 2) := dk_16 10 (dk_at dksX6_ticks_6 20 rfl rfl)
theorem dX6_ticks_163 : decode cX6_ticks 163 = .ok (.iaload, 1) := dk_46 (dk_at dksX6_ticks_6 22 rfl rfl)
theorem dX6_ticks_164 : decode cX6_ticks 164 = .ok (.iastore, 1) := dk_79 (dk_at dksX6_ticks_6 23 rfl rfl)
theorem dX6_ticks_165 : decode cX6_ticks 165 = .ok (.iconst 0, 1) := dk_3 (dk_at dksX6_ticks_7 0 rfl rfl)
theorem dX6_ticks_166 : decode cX6_ticks 166 = .ok (.istore 5, 2) := dk_54 5 (dk_at dksX6_ticks_7 1 rfl rfl)
theorem dX6_ticks_168 : decode cX6_ticks 168 = .ok (.iload 5, 2) := dk_21 5 (dk_at dksX6_ticks_7 3 rfl rfl)
theorem dX6_ticks_170 : decode cX6_ticks 170 = .ok (.aload_n 0, 1) := dk_42 (dk_at dksX6_ticks_7 5 rfl rfl)
theorem dX6_ticks_171 : decode cX6_ticks 171 = .ok (.getfield 207, 3) := dk_180 0 207 (dk_at dksX6_ticks_7 6 rfl rfl)
theorem dX6_ticks_174 : decode cX6_ticks 174 = .ok (.if_icmp .ge 33, 3) := dk_162 0 33 (dk_at dksX6_ticks_7 9 rfl rfl)
theorem dX6_ticks_177 : decode cX6_ticks 177 = .ok (.aload_n 1, 1) := dk_43 (dk_at dksX6_ticks_7 12 rfl rfl)
theorem dX6_ticks_178 : decode cX6_ticks 178 = .ok (.iload 5, 2) := dk_21 5 (dk_at dksX6_ticks_7 13 rfl rfl)
theorem dX6_ticks_180 : decode cX6_ticks 180 = .ok (.iconst 2, 1) := dk_5 (dk_at dksX6_ticks_7 15 rfl rfl)
theorem dX6_ticks_181 : decode cX6_ticks 181 = .ok (.invokestatic 157, 3) := dk_184 0 157 (dk_at dksX6_ticks_7 16 rfl rfl)
theorem dX6_ticks_184 : decode cX6_ticks 184 = .ok (.iaload, 1) := dk_46 (dk_at dksX6_ticks_7 19 rfl rfl)
theorem dX6_ticks_185 : decode cX6_ticks 185 = .ok (.iconst 2, 1) := dk_5 (dk_at dksX6_ticks_7 20 rfl rfl)
theorem dX6_ticks_186 : decode cX6_ticks 186 = .ok (.if_icmp .ne 15, 3) := dk_160 0 15 (dk_at dksX6_ticks_7 21 rfl rfl)
theorem dX6_ticks_189 : decode cX6_ticks 189 = .ok (.aload_n 1, 1) := dk_43 (dk_at dksX6_ticks_8 0 rfl rfl)
theorem dX6_ticks_190 : decode cX6_ticks 190 = .ok (.iload 5, 2) := dk_21 5 (dk_at dksX6_ticks_8 1 rfl rfl)
theorem dX6_ticks_192 : decode cX6_ticks 192 = .ok (.iconst 3, 1) := dk_6 (dk_at dksX6_ticks_8 3 rfl rfl)
theorem dX6_ticks_193 : decode cX6_ticks 193 = .ok (.invokestatic 157, 3) := dk_184 0 157 (dk_at dksX6_ticks_8 4 rfl rfl)
theorem dX6_ticks_196 : decode cX6_ticks 196 = .ok (.dup2, 1) := dk_92 (dk_at dksX6_ticks_8 7 rfl rfl)
theorem dX6_ticks_197 : decode cX6_ticks 197 = .ok (.iaload, 1) := dk_46 (dk_at dksX6_ticks_8 8 rfl rfl)
theorem dX6_ticks_198 : decode cX6_ticks 198 = .ok (.iconst 1, 1) := dk_4 (dk_at dksX6_ticks_8 9 rfl rfl)
theorem dX6_ticks_199 : decode cX6_ticks 199 = .ok (.isub, 1) := dk_100 (dk_at dksX6_ticks_8 10 rfl rfl)
theorem dX6_ticks_200 : decode cX6_ticks 200 = .ok (.iastore, 1) := dk_79 (dk_at dksX6_ticks_8 11 rfl rfl)
theorem dX6_ticks_201 : decode cX6_ticks 201 = .ok (.iinc 5 1, 3) := dk_132 5 1 (dk_at dksX6_ticks_8 12 rfl rfl)
theorem dX6_ticks_204 : decode cX6_ticks 204 = .ok (.goto (-36), 3) := dk_167 255 220 (dk_at dksX6_ticks_8 15 rfl rfl)
theorem dX6_ticks_207 : decode cX6_ticks 207 = .ok (.aload_n 1, 1) := dk_43 (dk_at dksX6_ticks_8 18 rfl rfl)
theorem dX6_ticks_208 : decode cX6_ticks 208 = .ok (.iconst 0, 1) := dk_3 (dk_at dksX6_ticks_8 19 rfl rfl)
theorem dX6_ticks_209 : decode cX6_ticks 209 = .ok (.dup2, 1) := dk_92 (dk_at dksX6_ticks_8 20 rfl rfl)
theorem dX6_ticks_210 : decode cX6_ticks 210 = .ok (.iaload, 1) := dk_46 (dk_at dksX6_ticks_8 21 rfl rfl)
theorem dX6_ticks_211 : decode cX6_ticks 211 = .ok (.iconst 1, 1) := dk_4 (dk_at dksX6_ticks_8 22 rfl rfl)
theorem dX6_ticks_212 : decode cX6_ticks 212 = .ok (.iadd, 1) := dk_96 (dk_at dksX6_ticks_8 23 rfl rfl)
theorem dX6_ticks_213 : decode cX6_ticks 213 = .ok (.iastore, 1) := dk_79 (dk_at dksX6_ticks_9 0 rfl rfl)
theorem dX6_ticks_214 : decode cX6_ticks 214 = .ok (.iload 4, 2) := dk_21 4 (dk_at dksX6_ticks_9 1 rfl rfl)
theorem dX6_ticks_216 : decode cX6_ticks 216 = .ok (.aload_n 1, 1) := dk_43 (dk_at dksX6_ticks_9 3 rfl rfl)
theorem dX6_ticks_217 : decode cX6_ticks 217 = .ok (.bipush 6, 2) := dk_16 6 (dk_at dksX6_ticks_9 4 rfl rfl)
theorem dX6_ticks_219 : decode cX6_ticks 219 = .ok (.iaload, 1) := dk_46 (dk_at dksX6_ticks_9 6 rfl rfl)
theorem dX6_ticks_220 : decode cX6_ticks 220 = .ok (.if_icmp .le 16, 3) := dk_164 0 16 (dk_at dksX6_ticks_9 7 rfl rfl)
theorem dX6_ticks_223 : decode cX6_ticks 223 = .ok (.aload_n 1, 1) := dk_43 (dk_at dksX6_ticks_9 10 rfl rfl)
theorem dX6_ticks_224 : decode cX6_ticks 224 = .ok (.iconst 3, 1) := dk_6 (dk_at dksX6_ticks_9 11 rfl rfl)
theorem dX6_ticks_225 : decode cX6_ticks 225 = .ok (.dup2, 1) := dk_92 (dk_at dksX6_ticks_9 12 rfl rfl)
theorem dX6_ticks_226 : decode cX6_ticks 226 = .ok (.iaload, 1) := dk_46 (dk_at dksX6_ticks_9 13 rfl rfl)
theorem dX6_ticks_227 : decode cX6_ticks 227 = .ok (.iconst 1, 1) := dk_4 (dk_at dksX6_ticks_9 14 rfl rfl)
theorem dX6_ticks_228 : decode cX6_ticks 228 = .ok (.iadd, 1) := dk_96 (dk_at dksX6_ticks_9 15 rfl rfl)
theorem dX6_ticks_229 : decode cX6_ticks 229 = .ok (.iastore, 1) := dk_79 (dk_at dksX6_ticks_9 16 rfl rfl)
theorem dX6_ticks_230 : decode cX6_ticks 230 = .ok (.aload_n 0, 1) := dk_42 (dk_at dksX6_ticks_9 17 rfl rfl)
theorem dX6_ticks_231 : decode cX6_ticks 231 = .ok (.aload_n 1, 1) := dk_43 (dk_at dksX6_ticks_9 18 rfl rfl)
theorem dX6_ticks_232 : decode cX6_ticks 232 = .ok (.iconst 5, 1) := dk_8 (dk_at dksX6_ticks_9 19 rfl rfl)
theorem dX6_ticks_233 : decode cX6_ticks 233 = .ok (.invokevirtual 271, 3) := dk_182 1 15 (dk_at dksX6_ticks_9 20 rfl rfl)
theorem dX6_ticks_236 : decode cX6_ticks 236 = .ok (.iload 4, 2) := dk_21 4 (dk_at dksX6_ticks_10 0 rfl rfl)
theorem dX6_ticks_238 : decode cX6_ticks 238 = .ok (.ireturn, 1) := dk_172 (dk_at dksX6_ticks_10 2 rfl rfl)
def dkwX6_darkens_5 : List UInt8 := [79, 43, 21, 4, 16, 10, 184, 0, 157, 43, 3, 46, 79, 132, 4, 1, 167, 255, 167, 177]
abbrev dktX6_darkens_5 : List UInt8 := dkwX6_darkens_5 ++ []
def dkwX6_darkens_4 : List UInt8 := [184, 0, 157, 3, 79, 43, 21, 4, 16, 8, 184, 0, 157, 3, 79, 43, 21, 4, 16, 9, 184, 0, 157, 3]
abbrev dktX6_darkens_4 : List UInt8 := dkwX6_darkens_4 ++ dktX6_darkens_5
def dkwX6_darkens_3 : List UInt8 := [21, 4, 6, 184, 0, 157, 3, 79, 43, 21, 4, 16, 6, 184, 0, 157, 2, 79, 43, 21, 4, 16, 7]
abbrev dktX6_darkens_3 : List UInt8 := dkwX6_darkens_3 ++ dktX6_darkens_4
def dkwX6_darkens_2 : List UInt8 := [180, 0, 207, 162, 0, 86, 43, 21, 4, 5, 184, 0, 157, 43, 21, 4, 4, 184, 0, 157, 46, 79, 43]
abbrev dktX6_darkens_2 : List UInt8 := dkwX6_darkens_2 ++ dktX6_darkens_3
def dkwX6_darkens_1 : List UInt8 := [5, 92, 46, 4, 96, 79, 43, 16, 11, 3, 79, 43, 16, 12, 3, 79, 3, 54, 4, 21, 4, 42]
abbrev dktX6_darkens_1 : List UInt8 := dkwX6_darkens_1 ++ dktX6_darkens_2
def dkwX6_darkens_0 : List UInt8 := [43, 3, 46, 28, 96, 62, 43, 4, 29, 43, 4, 46, 164, 0, 7, 29, 167, 0, 6, 43, 4, 46, 79, 43]
abbrev dktX6_darkens_0 : List UInt8 := dkwX6_darkens_0 ++ dktX6_darkens_1
theorem dksX6_darkens_0 : cX6_darkens.data.toList.drop 0 = dktX6_darkens_0 := by decide +kernel
theorem dksX6_darkens_1 : cX6_darkens.data.toList.drop 24 = dktX6_darkens_1 := dk_seg dksX6_darkens_0 24 rfl rfl
theorem dksX6_darkens_2 : cX6_darkens.data.toList.drop 46 = dktX6_darkens_2 := dk_seg dksX6_darkens_1 22 rfl rfl
theorem dksX6_darkens_3 : cX6_darkens.data.toList.drop 69 = dktX6_darkens_3 := dk_seg dksX6_darkens_2 23 rfl rfl
theorem dksX6_darkens_4 : cX6_darkens.data.toList.drop 92 = dktX6_darkens_4 := dk_seg dksX6_darkens_3 23 rfl rfl
theorem dksX6_darkens_5 : cX6_darkens.data.toList.drop 116 = dktX6_darkens_5 := dk_seg dksX6_darkens_4 24 rfl rfl
theorem dX6_darkens_0 : decode cX6_darkens 0 = .ok (.aload_n 1, 1) := dk_43 (dk_at dksX6_darkens_0 0 rfl rfl)
theorem dX6_darkens_1 : decode cX6_darkens 1 = .ok (.iconst 0, 1) := dk_3 (dk_at dksX6_darkens_0 1 rfl rfl)
theorem dX6_darkens_2 : decode cX6_darkens 2 = .ok (.iaload, 1) := dk_46 (dk_at dksX6_darkens_0 2 rfl rfl)
theorem dX6_darkens_3 : decode cX6_darkens 3 = .ok (.iload_n 2, 1) := dk_28 (dk_at dksX6_darkens_0 3 rfl rfl)
theorem dX6_darkens_4 : decode cX6_darkens 4 = .ok (.iadd, 1) := dk_96 (dk_at dksX6_darkens_0 4 rfl rfl)
theorem dX6_darkens_5 : decode cX6_darkens 5 = .ok (.istore_n 3, 1) := dk_62 (dk_at dksX6_darkens_0 5 rfl rfl)
theorem dX6_darkens_6 : decode cX6_darkens 6 = .ok (.aload_n 1, 1) := dk_43 (dk_at dksX6_darkens_0 6 rfl rfl)
theorem dX6_darkens_7 : decode cX6_darkens 7 = .ok (.iconst 1, 1) := dk_4 (dk_at dksX6_darkens_0 7 rfl rfl)
theorem dX6_darkens_8 : decode cX6_darkens 8 = .ok (.iload_n 3, 1) := dk_29 (dk_at dksX6_darkens_0 8 rfl rfl)
theorem dX6_darkens_9 : decode cX6_darkens 9 = .ok (.aload_n 1, 1) := dk_43 (dk_at dksX6_darkens_0 9 rfl rfl)
theorem dX6_darkens_10 : decode cX6_darkens 10 = .ok (.iconst 1, 1) := dk_4 (dk_at dksX6_darkens_0 10 rfl rfl)
theorem dX6_darkens_11 : decode cX6_darkens 11 = .ok (.iaload, 1) := dk_46 (dk_at dksX6_darkens_0 11 rfl rfl)
theorem dX6_darkens_12 : decode cX6_darkens 12 = .ok (.if_icmp .le 7, 3) := dk_164 0 7 (dk_at dksX6_darkens_0 12 rfl rfl)
theorem dX6_darkens_15 : decode cX6_darkens 15 = .ok (.iload_n 3, 1) := dk_29 (dk_at dksX6_darkens_0 15 rfl rfl)
theorem dX6_darkens_16 : decode cX6_darkens 16 = .ok (.goto 6, 3) := dk_167 0 6 (dk_at dksX6_darkens_0 16 rfl rfl)
theorem dX6_darkens_19 : decode cX6_darkens 19 = .ok (.aload_n 1, 1) := dk_43 (dk_at dksX6_darkens_0 19 rfl rfl)
theorem dX6_darkens_20 : decode cX6_darkens 20 = .ok (.iconst 1, 1) := dk_4 (dk_at dksX6_darkens_0 20 rfl rfl)
theorem dX6_darkens_21 : decode cX6_darkens 21 = .ok (.iaload, 1) := dk_46 (dk_at dksX6_darkens_0 21 rfl rfl)
theorem dX6_darkens_22 : decode cX6_darkens 22 = .ok (.iastore, 1) := dk_79 (dk_at dksX6_darkens_0 22 rfl rfl)
theorem dX6_darkens_23 : decode cX6_darkens 23 = .ok (.aload_n 1, 1) := dk_43 (dk_at dksX6_darkens_0 23 rfl rfl)
theorem dX6_darkens_24 : decode cX6_darkens 24 = .ok (.iconst 2, 1) := dk_5 (dk_at dksX6_darkens_1 0 rfl rfl)
theorem dX6_darkens_25 : decode cX6_darkens 25 = .ok (.dup2, 1) := dk_92 (dk_at dksX6_darkens_1 1 rfl rfl)
theorem dX6_darkens_26 : decode cX6_darkens 26 = .ok (.iaload, 1) := dk_46 (dk_at dksX6_darkens_1 2 rfl rfl)
theorem dX6_darkens_27 : decode cX6_darkens 27 = .ok (.iconst 1, 1) := dk_4 (dk_at dksX6_darkens_1 3 rfl rfl)
theorem dX6_darkens_28 : decode cX6_darkens 28 = .ok (.iadd, 1) := dk_96 (dk_at dksX6_darkens_1 4 rfl rfl)
theorem dX6_darkens_29 : decode cX6_darkens 29 = .ok (.iastore, 1) := dk_79 (dk_at dksX6_darkens_1 5 rfl rfl)
theorem dX6_darkens_30 : decode cX6_darkens 30 = .ok (.aload_n 1, 1) := dk_43 (dk_at dksX6_darkens_1 6 rfl rfl)
theorem dX6_darkens_31 : decode cX6_darkens 31 = .ok (.bipush 11, 2) := dk_16 11 (dk_at dksX6_darkens_1 7 rfl rfl)
theorem dX6_darkens_33 : decode cX6_darkens 33 = .ok (.iconst 0, 1) := dk_3 (dk_at dksX6_darkens_1 9 rfl rfl)
theorem dX6_darkens_34 : decode cX6_darkens 34 = .ok (.iastore, 1) := dk_79 (dk_at dksX6_darkens_1 10 rfl rfl)
theorem dX6_darkens_35 : decode cX6_darkens 35 = .ok (.aload_n 1, 1) := dk_43 (dk_at dksX6_darkens_1 11 rfl rfl)
theorem dX6_darkens_36 : decode cX6_darkens 36 = .ok (.bipush 12, 2) := dk_16 12 (dk_at dksX6_darkens_1 12 rfl rfl)
theorem dX6_darkens_38 : decode cX6_darkens 38 = .ok (.iconst 0, 1) := dk_3 (dk_at dksX6_darkens_1 14 rfl rfl)
theorem dX6_darkens_39 : decode cX6_darkens 39 = .ok (.iastore, 1) := dk_79 (dk_at dksX6_darkens_1 15 rfl rfl)
theorem dX6_darkens_40 : decode cX6_darkens 40 = .ok (.iconst 0, 1) := dk_3 (dk_at dksX6_darkens_1 16 rfl rfl)
theorem dX6_darkens_41 : decode cX6_darkens 41 = .ok (.istore 4, 2) := dk_54 4 (dk_at dksX6_darkens_1 17 rfl rfl)
theorem dX6_darkens_43 : decode cX6_darkens 43 = .ok (.iload 4, 2) := dk_21 4 (dk_at dksX6_darkens_1 19 rfl rfl)
theorem dX6_darkens_45 : decode cX6_darkens 45 = .ok (.aload_n 0, 1) := dk_42 (dk_at dksX6_darkens_1 21 rfl rfl)
theorem dX6_darkens_46 : decode cX6_darkens 46 = .ok (.getfield 207, 3) := dk_180 0 207 (dk_at dksX6_darkens_2 0 rfl rfl)
theorem dX6_darkens_49 : decode cX6_darkens 49 = .ok (.if_icmp .ge 86, 3) := dk_162 0 86 (dk_at dksX6_darkens_2 3 rfl rfl)
theorem dX6_darkens_52 : decode cX6_darkens 52 = .ok (.aload_n 1, 1) := dk_43 (dk_at dksX6_darkens_2 6 rfl rfl)
theorem dX6_darkens_53 : decode cX6_darkens 53 = .ok (.iload 4, 2) := dk_21 4 (dk_at dksX6_darkens_2 7 rfl rfl)
theorem dX6_darkens_55 : decode cX6_darkens 55 = .ok (.iconst 2, 1) := dk_5 (dk_at dksX6_darkens_2 9 rfl rfl)
theorem dX6_darkens_56 : decode cX6_darkens 56 = .ok (.invokestatic 157, 3) := dk_184 0 157 (dk_at dksX6_darkens_2 10 rfl rfl)
theorem dX6_darkens_59 : decode cX6_darkens 59 = .ok (.aload_n 1, 1) := dk_43 (dk_at dksX6_darkens_2 13 rfl rfl)
theorem dX6_darkens_60 : decode cX6_darkens 60 = .ok (.iload 4, 2) := dk_21 4 (dk_at dksX6_darkens_2 14 rfl rfl)
theorem dX6_darkens_62 : decode cX6_darkens 62 = .ok (.iconst 1, 1) := dk_4 (dk_at dksX6_darkens_2 16 rfl rfl)
theorem dX6_darkens_63 : decode cX6_darkens 63 = .ok (.invokestatic 157, 3) := dk_184 0 157 (dk_at dksX6_darkens_2 17 rfl rfl)
theorem dX6_darkens_66 : decode cX6_darkens 66 = .ok (.iaload, 1) := dk_46 (dk_at dksX6_darkens_2 20 rfl rfl)
theorem dX6_darkens_67 : decode cX6_darkens 67 = .ok (.iastore, 1) := dk_79 (dk_at dksX6_darkens_2 21 rfl rfl)
theorem dX6_darkens_68 : decode cX6_darkens 68 = .ok (.aload_n 1, 1) := dk_43 (dk_at dksX6_darkens_2 22 rfl rfl)
theorem dX6_darkens_69 : decode cX6_darkens 69 = .ok (.iload 4, 2) := dk_21 4 (dk_at dksX6_darkens_3 0 rfl rfl)
theorem dX6_darkens_71 : decode cX6_darkens 71 = .ok (.iconst 3, 1) := dk_6 (dk_at dksX6_darkens_3 2 rfl rfl)
theorem dX6_darkens_72 : decode cX6_darkens 72 = .ok (.invokestatic 157, 3) := dk_184 0 157 (dk_at dksX6_darkens_3 3 rfl rfl)
theorem dX6_darkens_75 : decode cX6_darkens 75 = .ok (.iconst 0, 1) := dk_3 (dk_at dksX6_darkens_3 6 rfl rfl)
theorem dX6_darkens_76 : decode cX6_darkens 76 = .ok (.iastore, 1) := dk_79 (dk_at dksX6_darkens_3 7 rfl rfl)
theorem dX6_darkens_77 : decode cX6_darkens 77 = .ok (.aload_n 1, 1) := dk_43 (dk_at dksX6_darkens_3 8 rfl rfl)
theorem dX6_darkens_78 : decode cX6_darkens 78 = .ok (.iload 4, 2) := dk_21 4 (dk_at dksX6_darkens_3 9 rfl rfl)
theorem dX6_darkens_80 : decode cX6_darkens 80 = .ok (.bipush 6, 2) := dk_16 6 (dk_at dksX6_darkens_3 11 rfl rfl)
theorem dX6_darkens_82 : decode cX6_darkens 82 = .ok (.invokestatic 157, 3) := dk_184 0 157 (dk_at dksX6_darkens_3 13 rfl rfl)
theorem dX6_darkens_85 : decode cX6_darkens 85 = .ok (.iconst (-1), 1) := dk_2 (dk_at dksX6_darkens_3 16 rfl rfl)
theorem dX6_darkens_86 : decode cX6_darkens 86 = .ok (.iastore, 1) := dk_79 (dk_at dksX6_darkens_3 17 rfl rfl)
theorem dX6_darkens_87 : decode cX6_darkens 87 = .ok (.aload_n 1, 1) := dk_43 (dk_at dksX6_darkens_3 18 rfl rfl)
theorem dX6_darkens_88 : decode cX6_darkens 88 = .ok (.iload 4, 2) := dk_21 4 (dk_at dksX6_darkens_3 19 rfl rfl)
theorem dX6_darkens_90 : decode cX6_darkens 90 = .ok (.bipush 7, 2) := dk_16 7 (dk_at dksX6_darkens_3 21 rfl rfl)
theorem dX6_darkens_92 : decode cX6_darkens 92 = .ok (.invokestatic 157, 3) := dk_184 0 157 (dk_at dksX6_darkens_4 0 rfl rfl)
theorem dX6_darkens_95 : decode cX6_darkens 95 = .ok (.iconst 0, 1) := dk_3 (dk_at dksX6_darkens_4 3 rfl rfl)
theorem dX6_darkens_96 : decode cX6_darkens 96 = .ok (.iastore, 1) := dk_79 (dk_at dksX6_darkens_4 4 rfl rfl)
theorem dX6_darkens_97 : decode cX6_darkens 97 = .ok (.aload_n 1, 1) := dk_43 (dk_at dksX6_darkens_4 5 rfl rfl)
theorem dX6_darkens_98 : decode cX6_darkens 98 = .ok (.iload 4, 2) := dk_21 4 (dk_at dksX6_darkens_4 6 rfl rfl)
theorem dX6_darkens_100 : decode cX6_darkens 100 = .ok (.bipush 8, 2) := dk_16 8 (dk_at dksX6_darkens_4 8 rfl rfl)
theorem dX6_darkens_102 : decode cX6_darkens 102 = .ok (.invokestatic 157, 3) := dk_184 0 157 (dk_at dksX6_darkens_4 10 rfl rfl)
theorem dX6_darkens_105 : decode cX6_darkens 105 = .ok (.iconst 0, 1) := dk_3 (dk_at dksX6_darkens_4 13 rfl rfl)
theorem dX6_darkens_106 : decode cX6_darkens 106 = .ok (.iastore, 1) := dk_79 (dk_at dksX6_darkens_4 14 rfl rfl)
theorem dX6_darkens_107 : decode cX6_darkens 107 = .ok (.aload_n 1, 1) := dk_43 (dk_at dksX6_darkens_4 15 rfl rfl)
theorem dX6_darkens_108 : decode cX6_darkens 108 = .ok (.iload 4, 2) := dk_21 4 (dk_at dksX6_darkens_4 16 rfl rfl)
theorem dX6_darkens_110 : decode cX6_darkens 110 = .ok (.bipush 9, 2) := dk_16 9 (dk_at dksX6_darkens_4 18 rfl rfl)
theorem dX6_darkens_112 : decode cX6_darkens 112 = .ok (.invokestatic 157, 3) := dk_184 0 157 (dk_at dksX6_darkens_4 20 rfl rfl)
theorem dX6_darkens_115 : decode cX6_darkens 115 = .ok (.iconst 0, 1) := dk_3 (dk_at dksX6_darkens_4 23 rfl rfl)
theorem dX6_darkens_116 : decode cX6_darkens 116 = .ok (.iastore, 1) := dk_79 (dk_at dksX6_darkens_5 0 rfl rfl)
theorem dX6_darkens_117 : decode cX6_darkens 117 = .ok (.aload_n 1, 1) := dk_43 (dk_at dksX6_darkens_5 1 rfl rfl)
theorem dX6_darkens_118 : decode cX6_darkens 118 = .ok (.iload 4, 2) := dk_21 4 (dk_at dksX6_darkens_5 2 rfl rfl)
theorem dX6_darkens_120 : decode cX6_darkens 120 = .ok (.bipush 10, 2) := dk_16 10 (dk_at dksX6_darkens_5 4 rfl rfl)
theorem dX6_darkens_122 : decode cX6_darkens 122 = .ok (.invokestatic 157, 3) := dk_184 0 157 (dk_at dksX6_darkens_5 6 rfl rfl)
theorem dX6_darkens_125 : decode cX6_darkens 125 = .ok (.aload_n 1, 1) := dk_43 (dk_at dksX6_darkens_5 9 rfl rfl)
theorem dX6_darkens_126 : decode cX6_darkens 126 = .ok (.iconst 0, 1) := dk_3 (dk_at dksX6_darkens_5 10 rfl rfl)
theorem dX6_darkens_127 : decode cX6_darkens 127 = .ok (.iaload, 1) := dk_46 (dk_at dksX6_darkens_5 11 rfl rfl)
theorem dX6_darkens_128 : decode cX6_darkens 128 = .ok (.iastore, 1) := dk_79 (dk_at dksX6_darkens_5 12 rfl rfl)
theorem dX6_darkens_129 : decode cX6_darkens 129 = .ok (.iinc 4 1, 3) := dk_132 4 1 (dk_at dksX6_darkens_5 13 rfl rfl)
theorem dX6_darkens_132 : decode cX6_darkens 132 = .ok (.goto (-89), 3) := dk_167 255 167 (dk_at dksX6_darkens_5 16 rfl rfl)
theorem dX6_darkens_135 : decode cX6_darkens 135 = .ok (.return_, 1) := dk_177 (dk_at dksX6_darkens_5 19 rfl rfl)
def dkwX6_receives_8 : List UInt8 := [7, 184, 0, 157, 92, 46, 4, 96, 79, 167, 0, 12, 43, 29, 16, 8, 184, 0, 157, 4, 79, 177]
abbrev dktX6_receives_8 : List UInt8 := dkwX6_receives_8 ++ []
def dkwX6_receives_7 : List UInt8 := [184, 0, 157, 5, 79, 43, 29, 6, 184, 0, 157, 42, 180, 0, 7, 7, 29, 104, 6, 96, 46, 79, 43, 29]
abbrev dktX6_receives_7 : List UInt8 := dkwX6_receives_7 ++ dktX6_receives_8
def dkwX6_receives_6 : List UInt8 := [46, 182, 0, 241, 167, 0, 65, 43, 29, 5, 184, 0, 157, 46, 4, 159, 0, 6, 167, 0, 51, 43, 29, 5]
abbrev dktX6_receives_6 : List UInt8 := dkwX6_receives_6 ++ dktX6_receives_7
def dkwX6_receives_5 : List UInt8 := [160, 0, 17, 43, 29, 16, 10, 184, 0, 157, 43, 3, 46, 79, 167, 0, 79, 42, 43, 29, 43, 28, 5, 96]
abbrev dktX6_receives_5 : List UInt8 := dkwX6_receives_5 ++ dktX6_receives_6
def dkwX6_receives_4 : List UInt8 := [29, 16, 10, 184, 0, 157, 46, 43, 3, 46, 4, 100, 160, 0, 6, 167, 0, 102, 43, 28, 5, 96, 46, 5]
abbrev dktX6_receives_4 : List UInt8 := dkwX6_receives_4 ++ dktX6_receives_5
def dkwX6_receives_3 : List UInt8 := [6, 182, 0, 241, 167, 0, 137, 42, 43, 29, 3, 182, 0, 241, 167, 0, 127, 21, 4, 5, 160, 0, 22, 43]
abbrev dktX6_receives_3 : List UInt8 := dkwX6_receives_3 ++ dktX6_receives_4
def dkwX6_receives_2 : List UInt8 := [21, 4, 153, 0, 9, 21, 4, 6, 160, 0, 157, 42, 43, 29, 4, 182, 0, 241, 167, 0, 147, 42, 43, 29]
abbrev dktX6_receives_2 : List UInt8 := dkwX6_receives_2 ++ dktX6_receives_3
def dkwX6_receives_1 : List UInt8 := [170, 0, 0, 0, 189, 0, 0, 0, 0, 0, 0, 0, 4, 0, 0, 0, 33, 0, 0, 0, 54, 0, 0, 0, 64, 0, 0, 0, 74, 0, 0, 0, 136]
abbrev dktX6_receives_1 : List UInt8 := dkwX6_receives_1 ++ dktX6_receives_2
def dkwX6_receives_0 : List UInt8 := [43, 28, 4, 96, 46, 62, 43, 29, 16, 9, 184, 0, 157, 46, 54, 4, 43, 28, 46]
abbrev dktX6_receives_0 : List UInt8 := dkwX6_receives_0 ++ dktX6_receives_1
theorem dksX6_receives_0 : cX6_receives.data.toList.drop 0 = dktX6_receives_0 := by decide +kernel
theorem dksX6_receives_1 : cX6_receives.data.toList.drop 19 = dktX6_receives_1 := dk_seg dksX6_receives_0 19 rfl rfl
theorem dksX6_receives_2 : cX6_receives.data.toList.drop 52 = dktX6_receives_2 := dk_seg dksX6_receives_1 33 rfl rfl
theorem dksX6_receives_3 : cX6_receives.data.toList.drop 76 = dktX6_receives_3 := dk_seg dksX6_receives_2 24 rfl rfl
theorem dksX6_receives_4 : cX6_receives.data.toList.drop 100 = dktX6_receives_4 := dk_seg dksX6_receives_3 24 rfl rfl
theorem dksX6_receives_5 : cX6_receives.data.toList.drop 124 = dktX6_receives_5 := dk_seg dksX6_receives_4 24 rfl rfl
theorem dksX6_receives_6 : cX6_receives.data.toList.drop 148 = dktX6_receives_6 := dk_seg dksX6_receives_5 24 rfl rfl
theorem dksX6_receives_7 : cX6_receives.data.toList.drop 172 = dktX6_receives_7 := dk_seg dksX6_receives_6 24 rfl rfl
theorem dksX6_receives_8 : cX6_receives.data.toList.drop 196 = dktX6_receives_8 := dk_seg dksX6_receives_7 24 rfl rfl
theorem dX6_receives_0 : decode cX6_receives 0 = .ok (.aload_n 1, 1) := dk_43 (dk_at dksX6_receives_0 0 rfl rfl)
theorem dX6_receives_1 : decode cX6_receives 1 = .ok (.iload_n 2, 1) := dk_28 (dk_at dksX6_receives_0 1 rfl rfl)
theorem dX6_receives_2 : decode cX6_receives 2 = .ok (.iconst 1, 1) := dk_4 (dk_at dksX6_receives_0 2 rfl rfl)
theorem dX6_receives_3 : decode cX6_receives 3 = .ok (.iadd, 1) := dk_96 (dk_at dksX6_receives_0 3 rfl rfl)
theorem dX6_receives_4 : decode cX6_receives 4 = .ok (.iaload, 1) := dk_46 (dk_at dksX6_receives_0 4 rfl rfl)
theorem dX6_receives_5 : decode cX6_receives 5 = .ok (.istore_n 3, 1) := dk_62 (dk_at dksX6_receives_0 5 rfl rfl)
theorem dX6_receives_6 : decode cX6_receives 6 = .ok (.aload_n 1, 1) := dk_43 (dk_at dksX6_receives_0 6 rfl rfl)
theorem dX6_receives_7 : decode cX6_receives 7 = .ok (.iload_n 3, 1) := dk_29 (dk_at dksX6_receives_0 7 rfl rfl)
theorem dX6_receives_8 : decode cX6_receives 8 = .ok (.bipush 9, 2) := dk_16 9 (dk_at dksX6_receives_0 8 rfl rfl)
theorem dX6_receives_10 : decode cX6_receives 10 = .ok (.invokestatic 157, 3) := dk_184 0 157 (dk_at dksX6_receives_0 10 rfl rfl)
theorem dX6_receives_13 : decode cX6_receives 13 = .ok (.iaload, 1) := dk_46 (dk_at dksX6_receives_0 13 rfl rfl)
theorem dX6_receives_14 : decode cX6_receives 14 = .ok (.istore 4, 2) := dk_54 4 (dk_at dksX6_receives_0 14 rfl rfl)
theorem dX6_receives_16 : decode cX6_receives 16 = .ok (.aload_n 1, 1) := dk_43 (dk_at dksX6_receives_0 16 rfl rfl)
theorem dX6_receives_17 : decode cX6_receives 17 = .ok (.iload_n 2, 1) := dk_28 (dk_at dksX6_receives_0 17 rfl rfl)
theorem dX6_receives_18 : decode cX6_receives 18 = .ok (.iaload, 1) := dk_46 (dk_at dksX6_receives_0 18 rfl rfl)
theorem dX6_receives_19 : decode cX6_receives 19 = .ok (.tableswitch 189 0 4 #[33, 54, 64, 74, 136], 33) := by decide +kernel
theorem dX6_receives_52 : decode cX6_receives 52 = .ok (.iload 4, 2) := dk_21 4 (dk_at dksX6_receives_2 0 rfl rfl)
theorem dX6_receives_54 : decode cX6_receives 54 = .ok (.ifCond .eq 9, 3) := dk_153 0 9 (dk_at dksX6_receives_2 2 rfl rfl)
theorem dX6_receives_57 : decode cX6_receives 57 = .ok (.iload 4, 2) := dk_21 4 (dk_at dksX6_receives_2 5 rfl rfl)
theorem dX6_receives_59 : decode cX6_receives 59 = .ok (.iconst 3, 1) := dk_6 (dk_at dksX6_receives_2 7 rfl rfl)
theorem dX6_receives_60 : decode cX6_receives 60 = .ok (.if_icmp .ne 157, 3) := dk_160 0 157 (dk_at dksX6_receives_2 8 rfl rfl)
theorem dX6_receives_63 : decode cX6_receives 63 = .ok (.aload_n 0, 1) := dk_42 (dk_at dksX6_receives_2 11 rfl rfl)
theorem dX6_receives_64 : decode cX6_receives 64 = .ok (.aload_n 1, 1) := dk_43 (dk_at dksX6_receives_2 12 rfl rfl)
theorem dX6_receives_65 : decode cX6_receives 65 = .ok (.iload_n 3, 1) := dk_29 (dk_at dksX6_receives_2 13 rfl rfl)
theorem dX6_receives_66 : decode cX6_receives 66 = .ok (.iconst 1, 1) := dk_4 (dk_at dksX6_receives_2 14 rfl rfl)
theorem dX6_receives_67 : decode cX6_receives 67 = .ok (.invokevirtual 241, 3) := dk_182 0 241 (dk_at dksX6_receives_2 15 rfl rfl)
theorem dX6_receives_70 : decode cX6_receives 70 = .ok (.goto 147, 3) := dk_167 0 147 (dk_at dksX6_receives_2 18 rfl rfl)
theorem dX6_receives_73 : decode cX6_receives 73 = .ok (.aload_n 0, 1) := dk_42 (dk_at dksX6_receives_2 21 rfl rfl)
theorem dX6_receives_74 : decode cX6_receives 74 = .ok (.aload_n 1, 1) := dk_43 (dk_at dksX6_receives_2 22 rfl rfl)
theorem dX6_receives_75 : decode cX6_receives 75 = .ok (.iload_n 3, 1) := dk_29 (dk_at dksX6_receives_2 23 rfl rfl)
theorem dX6_receives_76 : decode cX6_receives 76 = .ok (.iconst 3, 1) := dk_6 (dk_at dksX6_receives_3 0 rfl rfl)
theorem dX6_receives_77 : decode cX6_receives 77 = .ok (.invokevirtual 241, 3) := dk_182 0 241 (dk_at dksX6_receives_3 1 rfl rfl)
theorem dX6_receives_80 : decode cX6_receives 80 = .ok (.goto 137, 3) := dk_167 0 137 (dk_at dksX6_receives_3 4 rfl rfl)
theorem dX6_receives_83 : decode cX6_receives 83 = .ok (.aload_n 0, 1) := dk_42 (dk_at dksX6_receives_3 7 rfl rfl)
theorem dX6_receives_84 : decode cX6_receives 84 = .ok (.aload_n 1, 1) := dk_43 (dk_at dksX6_receives_3 8 rfl rfl)
theorem dX6_receives_85 : decode cX6_receives 85 = .ok (.iload_n 3, 1) := dk_29 (dk_at dksX6_receives_3 9 rfl rfl)
theorem dX6_receives_86 : decode cX6_receives 86 = .ok (.iconst 0, 1) := dk_3 (dk_at dksX6_receives_3 10 rfl rfl)
theorem dX6_receives_87 : decode cX6_receives 87 = .ok (.invokevirtual 241, 3) := dk_182 0 241 (dk_at dksX6_receives_3 11 rfl rfl)
theorem dX6_receives_90 : decode cX6_receives 90 = .ok (.goto 127, 3) := dk_167 0 127 (dk_at dksX6_receives_3 14 rfl rfl)
theorem dX6_receives_93 : decode cX6_receives 93 = .ok (.iload 4, 2) := dk_21 4 (dk_at dksX6_receives_3 17 rfl rfl)
theorem dX6_receives_95 : decode cX6_receives 95 = .ok (.iconst 2, 1) := dk_5 (dk_at dksX6_receives_3 19 rfl rfl)
theorem dX6_receives_96 : decode cX6_receives 96 = .ok (.if_icmp .ne 22, 3) := dk_160 0 22 (dk_at dksX6_receives_3 20 rfl rfl)
theorem dX6_receives_99 : decode cX6_receives 99 = .ok (.aload_n 1, 1) := dk_43 (dk_at dksX6_receives_3 23 rfl rfl)
theorem dX6_receives_100 : decode cX6_receives 100 = .ok (.iload_n 3, 1) := dk_29 (dk_at dksX6_receives_4 0 rfl rfl)
theorem dX6_receives_101 : decode cX6_receives 101 = .ok (.bipush 10, 2) := dk_16 10 (dk_at dksX6_receives_4 1 rfl rfl)
theorem dX6_receives_103 : decode cX6_receives 103 = .ok (.invokestatic 157, 3) := dk_184 0 157 (dk_at dksX6_receives_4 3 rfl rfl)
theorem dX6_receives_106 : decode cX6_receives 106 = .ok (.iaload, 1) := dk_46 (dk_at dksX6_receives_4 6 rfl rfl)
theorem dX6_receives_107 : decode cX6_receives 107 = .ok (.aload_n 1, 1) := dk_43 (dk_at dksX6_receives_4 7 rfl rfl)
theorem dX6_receives_108 : decode cX6_receives 108 = .ok (.iconst 0, 1) := dk_3 (dk_at dksX6_receives_4 8 rfl rfl)
theorem dX6_receives_109 : decode cX6_receives 109 = .ok (.iaload, 1) := dk_46 (dk_at dksX6_receives_4 9 rfl rfl)
theorem dX6_receives_110 : decode cX6_receives 110 = .ok (.iconst 1, 1) := dk_4 (dk_at dksX6_receives_4 10 rfl rfl)
theorem dX6_receives_111 : decode cX6_receives 111 = .ok (.isub, 1) := dk_100 (dk_at dksX6_receives_4 11 rfl rfl)
theorem dX6_receives_112 : decode cX6_receives 112 = .ok (.if_icmp .ne 6, 3) := dk_160 0 6 (dk_at dksX6_receives_4 12 rfl rfl)
theorem dX6_receives_115 : decode cX6_receives 115 = .ok (.goto 102, 3) := dk_167 0 102 (dk_at dksX6_receives_4 15 rfl rfl)
theorem dX6_receives_118 : decode cX6_receives 118 = .ok (.aload_n 1, 1) := dk_43 (dk_at dksX6_receives_4 18 rfl rfl)
theorem dX6_receives_119 : decode cX6_receives 119 = .ok (.iload_n 2, 1) := dk_28 (dk_at dksX6_receives_4 19 rfl rfl)
theorem dX6_receives_120 : decode cX6_receives 120 = .ok (.iconst 2, 1) := dk_5 (dk_at dksX6_receives_4 20 rfl rfl)
theorem dX6_receives_121 : decode cX6_receives 121 = .ok (.iadd, 1) := dk_96 (dk_at dksX6_receives_4 21 rfl rfl)
theorem dX6_receives_122 : decode cX6_receives 122 = .ok (.iaload, 1) := dk_46 (dk_at dksX6_receives_4 22 rfl rfl)
theorem dX6_receives_123 : decode cX6_receives 123 = .ok (.iconst 2, 1) := dk_5 (dk_at dksX6_receives_4 23 rfl rfl)
theorem dX6_receives_124 : decode cX6_receives 124 = .ok (.if_icmp .ne 17, 3) := dk_160 0 17 (dk_at dksX6_receives_5 0 rfl rfl)
theorem dX6_receives_127 : decode cX6_receives 127 = .ok (.aload_n 1, 1) := dk_43 (dk_at dksX6_receives_5 3 rfl rfl)
theorem dX6_receives_128 : decode cX6_receives 128 = .ok (.iload_n 3, 1) := dk_29 (dk_at dksX6_receives_5 4 rfl rfl)
theorem dX6_receives_129 : decode cX6_receives 129 = .ok (.bipush 10, 2) := dk_16 10 (dk_at dksX6_receives_5 5 rfl rfl)
theorem dX6_receives_131 : decode cX6_receives 131 = .ok (.invokestatic 157, 3) := dk_184 0 157 (dk_at dksX6_receives_5 7 rfl rfl)
theorem dX6_receives_134 : decode cX6_receives 134 = .ok (.aload_n 1, 1) := dk_43 (dk_at dksX6_receives_5 10 rfl rfl)
theorem dX6_receives_135 : decode cX6_receives 135 = .ok (.iconst 0, 1) := dk_3 (dk_at dksX6_receives_5 11 rfl rfl)
theorem dX6_receives_136 : decode cX6_receives 136 = .ok (.iaload, 1) := dk_46 (dk_at dksX6_receives_5 12 rfl rfl)
theorem dX6_receives_137 : decode cX6_receives 137 = .ok (.iastore, 1) := dk_79 (dk_at dksX6_receives_5 13 rfl rfl)
theorem dX6_receives_138 : decode cX6_receives 138 = .ok (.goto 79, 3) := dk_167 0 79 (dk_at dksX6_receives_5 14 rfl rfl)
theorem dX6_receives_141 : decode cX6_receives 141 = .ok (.aload_n 0, 1) := dk_42 (dk_at dksX6_receives_5 17 rfl rfl)
theorem dX6_receives_142 : decode cX6_receives 142 = .ok (.aload_n 1, 1) := dk_43 (dk_at dksX6_receives_5 18 rfl rfl)
theorem dX6_receives_143 : decode cX6_receives 143 = .ok (.iload_n 3, 1) := dk_29 (dk_at dksX6_receives_5 19 rfl rfl)
theorem dX6_receives_144 : decode cX6_receives 144 = .ok (.aload_n 1, 1) := dk_43 (dk_at dksX6_receives_5 20 rfl rfl)
theorem dX6_receives_145 : decode cX6_receives 145 = .ok (.iload_n 2, 1) := dk_28 (dk_at dksX6_receives_5 21 rfl rfl)
theorem dX6_receives_146 : decode cX6_receives 146 = .ok (.iconst 2, 1) := dk_5 (dk_at dksX6_receives_5 22 rfl rfl)
theorem dX6_receives_147 : decode cX6_receives 147 = .ok (.iadd, 1) := dk_96 (dk_at dksX6_receives_5 23 rfl rfl)
theorem dX6_receives_148 : decode cX6_receives 148 = .ok (.iaload, 1) := dk_46 (dk_at dksX6_receives_6 0 rfl rfl)
theorem dX6_receives_149 : decode cX6_receives 149 = .ok (.invokevirtual 241, 3) := dk_182 0 241 (dk_at dksX6_receives_6 1 rfl rfl)
theorem dX6_receives_152 : decode cX6_receives 152 = .ok (.goto 65, 3) := dk_167 0 65 (dk_at dksX6_receives_6 4 rfl rfl)
theorem dX6_receives_155 : decode cX6_receives 155 = .ok (.aload_n 1, 1) := dk_43 (dk_at dksX6_receives_6 7 rfl rfl)
theorem dX6_receives_156 : decode cX6_receives 156 = .ok (.iload_n 3, 1) := dk_29 (dk_at dksX6_receives_6 8 rfl rfl)
theorem dX6_receives_157 : decode cX6_receives 157 = .ok (.iconst 2, 1) := dk_5 (dk_at dksX6_receives_6 9 rfl rfl)
theorem dX6_receives_158 : decode cX6_receives 158 = .ok (.invokestatic 157, 3) := dk_184 0 157 (dk_at dksX6_receives_6 10 rfl rfl)
theorem dX6_receives_161 : decode cX6_receives 161 = .ok (.iaload, 1) := dk_46 (dk_at dksX6_receives_6 13 rfl rfl)
theorem dX6_receives_162 : decode cX6_receives 162 = .ok (.iconst 1, 1) := dk_4 (dk_at dksX6_receives_6 14 rfl rfl)
theorem dX6_receives_163 : decode cX6_receives 163 = .ok (.if_icmp .eq 6, 3) := dk_159 0 6 (dk_at dksX6_receives_6 15 rfl rfl)
theorem dX6_receives_166 : decode cX6_receives 166 = .ok (.goto 51, 3) := dk_167 0 51 (dk_at dksX6_receives_6 18 rfl rfl)
theorem dX6_receives_169 : decode cX6_receives 169 = .ok (.aload_n 1, 1) := dk_43 (dk_at dksX6_receives_6 21 rfl rfl)
theorem dX6_receives_170 : decode cX6_receives 170 = .ok (.iload_n 3, 1) := dk_29 (dk_at dksX6_receives_6 22 rfl rfl)
theorem dX6_receives_171 : decode cX6_receives 171 = .ok (.iconst 2, 1) := dk_5 (dk_at dksX6_receives_6 23 rfl rfl)
theorem dX6_receives_172 : decode cX6_receives 172 = .ok (.invokestatic 157, 3) := dk_184 0 157 (dk_at dksX6_receives_7 0 rfl rfl)
theorem dX6_receives_175 : decode cX6_receives 175 = .ok (.iconst 2, 1) := dk_5 (dk_at dksX6_receives_7 3 rfl rfl)
theorem dX6_receives_176 : decode cX6_receives 176 = .ok (.iastore, 1) := dk_79 (dk_at dksX6_receives_7 4 rfl rfl)
theorem dX6_receives_177 : decode cX6_receives 177 = .ok (.aload_n 1, 1) := dk_43 (dk_at dksX6_receives_7 5 rfl rfl)
theorem dX6_receives_178 : decode cX6_receives 178 = .ok (.iload_n 3, 1) := dk_29 (dk_at dksX6_receives_7 6 rfl rfl)
theorem dX6_receives_179 : decode cX6_receives 179 = .ok (.iconst 3, 1) := dk_6 (dk_at dksX6_receives_7 7 rfl rfl)
theorem dX6_receives_180 : decode cX6_receives 180 = .ok (.invokestatic 157, 3) := dk_184 0 157 (dk_at dksX6_receives_7 8 rfl rfl)
theorem dX6_receives_183 : decode cX6_receives 183 = .ok (.aload_n 0, 1) := dk_42 (dk_at dksX6_receives_7 11 rfl rfl)
theorem dX6_receives_184 : decode cX6_receives 184 = .ok (.getfield 7, 3) := dk_180 0 7 (dk_at dksX6_receives_7 12 rfl rfl)
theorem dX6_receives_187 : decode cX6_receives 187 = .ok (.iconst 4, 1) := dk_7 (dk_at dksX6_receives_7 15 rfl rfl)
theorem dX6_receives_188 : decode cX6_receives 188 = .ok (.iload_n 3, 1) := dk_29 (dk_at dksX6_receives_7 16 rfl rfl)
theorem dX6_receives_189 : decode cX6_receives 189 = .ok (.imul, 1) := dk_104 (dk_at dksX6_receives_7 17 rfl rfl)
theorem dX6_receives_190 : decode cX6_receives 190 = .ok (.iconst 3, 1) := dk_6 (dk_at dksX6_receives_7 18 rfl rfl)
theorem dX6_receives_191 : decode cX6_receives 191 = .ok (.iadd, 1) := dk_96 (dk_at dksX6_receives_7 19 rfl rfl)
theorem dX6_receives_192 : decode cX6_receives 192 = .ok (.iaload, 1) := dk_46 (dk_at dksX6_receives_7 20 rfl rfl)
theorem dX6_receives_193 : decode cX6_receives 193 = .ok (.iastore, 1) := dk_79 (dk_at dksX6_receives_7 21 rfl rfl)
theorem dX6_receives_194 : decode cX6_receives 194 = .ok (.aload_n 1, 1) := dk_43 (dk_at dksX6_receives_7 22 rfl rfl)
theorem dX6_receives_195 : decode cX6_receives 195 = .ok (.iload_n 3, 1) := dk_29 (dk_at dksX6_receives_7 23 rfl rfl)
theorem dX6_receives_196 : decode cX6_receives 196 = .ok (.iconst 4, 1) := dk_7 (dk_at dksX6_receives_8 0 rfl rfl)
theorem dX6_receives_197 : decode cX6_receives 197 = .ok (.invokestatic 157, 3) := dk_184 0 157 (dk_at dksX6_receives_8 1 rfl rfl)
theorem dX6_receives_200 : decode cX6_receives 200 = .ok (.dup2, 1) := dk_92 (dk_at dksX6_receives_8 4 rfl rfl)
theorem dX6_receives_201 : decode cX6_receives 201 = .ok (.iaload, 1) := dk_46 (dk_at dksX6_receives_8 5 rfl rfl)
theorem dX6_receives_202 : decode cX6_receives 202 = .ok (.iconst 1, 1) := dk_4 (dk_at dksX6_receives_8 6 rfl rfl)
theorem dX6_receives_203 : decode cX6_receives 203 = .ok (.iadd, 1) := dk_96 (dk_at dksX6_receives_8 7 rfl rfl)
theorem dX6_receives_204 : decode cX6_receives 204 = .ok (.iastore, 1) := dk_79 (dk_at dksX6_receives_8 8 rfl rfl)
theorem dX6_receives_205 : decode cX6_receives 205 = .ok (.goto 12, 3) := dk_167 0 12 (dk_at dksX6_receives_8 9 rfl rfl)
theorem dX6_receives_208 : decode cX6_receives 208 = .ok (.aload_n 1, 1) := dk_43 (dk_at dksX6_receives_8 12 rfl rfl)
theorem dX6_receives_209 : decode cX6_receives 209 = .ok (.iload_n 3, 1) := dk_29 (dk_at dksX6_receives_8 13 rfl rfl)
theorem dX6_receives_210 : decode cX6_receives 210 = .ok (.bipush 8, 2) := dk_16 8 (dk_at dksX6_receives_8 14 rfl rfl)
theorem dX6_receives_212 : decode cX6_receives 212 = .ok (.invokestatic 157, 3) := dk_184 0 157 (dk_at dksX6_receives_8 16 rfl rfl)
theorem dX6_receives_215 : decode cX6_receives 215 = .ok (.iconst 1, 1) := dk_4 (dk_at dksX6_receives_8 19 rfl rfl)
theorem dX6_receives_216 : decode cX6_receives 216 = .ok (.iastore, 1) := dk_79 (dk_at dksX6_receives_8 20 rfl rfl)
theorem dX6_receives_217 : decode cX6_receives 217 = .ok (.return_, 1) := dk_177 (dk_at dksX6_receives_8 21 rfl rfl)
def dkwX6_learns_2 : List UInt8 := [16, 39, 29, 96, 43, 16, 27, 29, 96, 46, 79, 132, 3, 1, 167, 255, 233, 177]
abbrev dktX6_learns_2 : List UInt8 := dkwX6_learns_2 ++ []
def dkwX6_learns_1 : List UInt8 := [153, 0, 4, 177, 43, 16, 13, 43, 16, 12, 46, 79, 3, 62, 29, 43, 16, 12, 46, 162, 0, 21, 43]
abbrev dktX6_learns_1 : List UInt8 := dkwX6_learns_1 ++ dktX6_learns_2
def dkwX6_learns_0 : List UInt8 := [42, 43, 182, 0, 245, 61, 28, 153, 0, 18, 28, 42, 43, 16, 9, 6, 182, 0, 249, 2, 130, 126]
abbrev dktX6_learns_0 : List UInt8 := dkwX6_learns_0 ++ dktX6_learns_1
theorem dksX6_learns_0 : cX6_learns.data.toList.drop 0 = dktX6_learns_0 := by decide +kernel
theorem dksX6_learns_1 : cX6_learns.data.toList.drop 22 = dktX6_learns_1 := dk_seg dksX6_learns_0 22 rfl rfl
theorem dksX6_learns_2 : cX6_learns.data.toList.drop 45 = dktX6_learns_2 := dk_seg dksX6_learns_1 23 rfl rfl
theorem dX6_learns_0 : decode cX6_learns 0 = .ok (.aload_n 0, 1) := dk_42 (dk_at dksX6_learns_0 0 rfl rfl)
theorem dX6_learns_1 : decode cX6_learns 1 = .ok (.aload_n 1, 1) := dk_43 (dk_at dksX6_learns_0 1 rfl rfl)
theorem dX6_learns_2 : decode cX6_learns 2 = .ok (.invokevirtual 245, 3) := dk_182 0 245 (dk_at dksX6_learns_0 2 rfl rfl)
theorem dX6_learns_5 : decode cX6_learns 5 = .ok (.istore_n 2, 1) := dk_61 (dk_at dksX6_learns_0 5 rfl rfl)
theorem dX6_learns_6 : decode cX6_learns 6 = .ok (.iload_n 2, 1) := dk_28 (dk_at dksX6_learns_0 6 rfl rfl)
theorem dX6_learns_7 : decode cX6_learns 7 = .ok (.ifCond .eq 18, 3) := dk_153 0 18 (dk_at dksX6_learns_0 7 rfl rfl)
theorem dX6_learns_10 : decode cX6_learns 10 = .ok (.iload_n 2, 1) := dk_28 (dk_at dksX6_learns_0 10 rfl rfl)
theorem dX6_learns_11 : decode cX6_learns 11 = .ok (.aload_n 0, 1) := dk_42 (dk_at dksX6_learns_0 11 rfl rfl)
theorem dX6_learns_12 : decode cX6_learns 12 = .ok (.aload_n 1, 1) := dk_43 (dk_at dksX6_learns_0 12 rfl rfl)
theorem dX6_learns_13 : decode cX6_learns 13 = .ok (.bipush 9, 2) := dk_16 9 (dk_at dksX6_learns_0 13 rfl rfl)
theorem dX6_learns_15 : decode cX6_learns 15 = .ok (.iconst 3, 1) := dk_6 (dk_at dksX6_learns_0 15 rfl rfl)
theorem dX6_learns_16 : decode cX6_learns 16 = .ok (.invokevirtual 249, 3) := dk_182 0 249 (dk_at dksX6_learns_0 16 rfl rfl)
theorem dX6_learns_19 : decode cX6_learns 19 = .ok (.iconst (-1), 1) := dk_2 (dk_at dksX6_learns_0 19 rfl rfl)
theorem dX6_learns_20 : decode cX6_learns 20 = .ok (.ixor, 1) := dk_130 (dk_at dksX6_learns_0 20 rfl rfl)
theorem dX6_learns_21 : decode cX6_learns 21 = .ok (.iand, 1) := dk_126 (dk_at dksX6_learns_0 21 rfl rfl)
theorem dX6_learns_22 : decode cX6_learns 22 = .ok (.ifCond .eq 4, 3) := dk_153 0 4 (dk_at dksX6_learns_1 0 rfl rfl)
theorem dX6_learns_25 : decode cX6_learns 25 = .ok (.return_, 1) := dk_177 (dk_at dksX6_learns_1 3 rfl rfl)
theorem dX6_learns_26 : decode cX6_learns 26 = .ok (.aload_n 1, 1) := dk_43 (dk_at dksX6_learns_1 4 rfl rfl)
theorem dX6_learns_27 : decode cX6_learns 27 = .ok (.bipush 13, 2) := dk_16 13 (dk_at dksX6_learns_1 5 rfl rfl)
theorem dX6_learns_29 : decode cX6_learns 29 = .ok (.aload_n 1, 1) := dk_43 (dk_at dksX6_learns_1 7 rfl rfl)
theorem dX6_learns_30 : decode cX6_learns 30 = .ok (.bipush 12, 2) := dk_16 12 (dk_at dksX6_learns_1 8 rfl rfl)
theorem dX6_learns_32 : decode cX6_learns 32 = .ok (.iaload, 1) := dk_46 (dk_at dksX6_learns_1 10 rfl rfl)
theorem dX6_learns_33 : decode cX6_learns 33 = .ok (.iastore, 1) := dk_79 (dk_at dksX6_learns_1 11 rfl rfl)
theorem dX6_learns_34 : decode cX6_learns 34 = .ok (.iconst 0, 1) := dk_3 (dk_at dksX6_learns_1 12 rfl rfl)
theorem dX6_learns_35 : decode cX6_learns 35 = .ok (.istore_n 3, 1) := dk_62 (dk_at dksX6_learns_1 13 rfl rfl)
theorem dX6_learns_36 : decode cX6_learns 36 = .ok (.iload_n 3, 1) := dk_29 (dk_at dksX6_learns_1 14 rfl rfl)
theorem dX6_learns_37 : decode cX6_learns 37 = .ok (.aload_n 1, 1) := dk_43 (dk_at dksX6_learns_1 15 rfl rfl)
theorem dX6_learns_38 : decode cX6_learns 38 = .ok (.bipush 12, 2) := dk_16 12 (dk_at dksX6_learns_1 16 rfl rfl)
theorem dX6_learns_40 : decode cX6_learns 40 = .ok (.iaload, 1) := dk_46 (dk_at dksX6_learns_1 18 rfl rfl)
theorem dX6_learns_41 : decode cX6_learns 41 = .ok (.if_icmp .ge 21, 3) := dk_162 0 21 (dk_at dksX6_learns_1 19 rfl rfl)
theorem dX6_learns_44 : decode cX6_learns 44 = .ok (.aload_n 1, 1) := dk_43 (dk_at dksX6_learns_1 22 rfl rfl)
theorem dX6_learns_45 : decode cX6_learns 45 = .ok (.bipush 39, 2) := dk_16 39 (dk_at dksX6_learns_2 0 rfl rfl)
theorem dX6_learns_47 : decode cX6_learns 47 = .ok (.iload_n 3, 1) := dk_29 (dk_at dksX6_learns_2 2 rfl rfl)
theorem dX6_learns_48 : decode cX6_learns 48 = .ok (.iadd, 1) := dk_96 (dk_at dksX6_learns_2 3 rfl rfl)
theorem dX6_learns_49 : decode cX6_learns 49 = .ok (.aload_n 1, 1) := dk_43 (dk_at dksX6_learns_2 4 rfl rfl)
theorem dX6_learns_50 : decode cX6_learns 50 = .ok (.bipush 27, 2) := dk_16 27 (dk_at dksX6_learns_2 5 rfl rfl)
theorem dX6_learns_52 : decode cX6_learns 52 = .ok (.iload_n 3, 1) := dk_29 (dk_at dksX6_learns_2 7 rfl rfl)
theorem dX6_learns_53 : decode cX6_learns 53 = .ok (.iadd, 1) := dk_96 (dk_at dksX6_learns_2 8 rfl rfl)
theorem dX6_learns_54 : decode cX6_learns 54 = .ok (.iaload, 1) := dk_46 (dk_at dksX6_learns_2 9 rfl rfl)
theorem dX6_learns_55 : decode cX6_learns 55 = .ok (.iastore, 1) := dk_79 (dk_at dksX6_learns_2 10 rfl rfl)
theorem dX6_learns_56 : decode cX6_learns 56 = .ok (.iinc 3 1, 3) := dk_132 3 1 (dk_at dksX6_learns_2 11 rfl rfl)
theorem dX6_learns_59 : decode cX6_learns 59 = .ok (.goto (-23), 3) := dk_167 255 233 (dk_at dksX6_learns_2 14 rfl rfl)
theorem dX6_learns_62 : decode cX6_learns 62 = .ok (.return_, 1) := dk_177 (dk_at dksX6_learns_2 17 rfl rfl)
def dkwX6_acts_7 : List UInt8 := [28, 2, 182, 0, 253, 43, 28, 16, 6, 184, 0, 157, 43, 3, 46, 79, 177]
abbrev dktX6_acts_7 : List UInt8 := dkwX6_acts_7 ++ []
def dkwX6_acts_6 : List UInt8 := [167, 0, 4, 3, 62, 43, 28, 5, 184, 0, 157, 46, 4, 160, 0, 7, 29, 154, 0, 4, 177, 42, 43, 3]
abbrev dktX6_acts_6 : List UInt8 := dkwX6_acts_6 ++ dktX6_acts_7
def dkwX6_acts_5 : List UInt8 := [2, 159, 0, 22, 43, 3, 46, 43, 28, 16, 6, 184, 0, 157, 46, 100, 43, 16, 7, 46, 161, 0, 7, 4]
abbrev dktX6_acts_5 : List UInt8 := dkwX6_acts_5 ++ dktX6_acts_6
def dkwX6_acts_4 : List UInt8 := [16, 7, 184, 0, 157, 3, 79, 43, 28, 16, 8, 184, 0, 157, 3, 79, 43, 28, 16, 6, 184, 0, 157, 46]
abbrev dktX6_acts_4 : List UInt8 := dkwX6_acts_4 ++ dktX6_acts_5
def dkwX6_acts_3 : List UInt8 := [184, 0, 157, 46, 4, 160, 0, 17, 42, 43, 6, 28, 43, 28, 5, 184, 0, 157, 46, 182, 0, 253, 43, 28]
abbrev dktX6_acts_3 : List UInt8 := dkwX6_acts_3 ++ dktX6_acts_4
def dkwX6_acts_2 : List UInt8 := [28, 16, 7, 184, 0, 157, 46, 4, 160, 0, 11, 42, 43, 5, 28, 2, 182, 0, 253, 43, 28, 16, 8]
abbrev dktX6_acts_2 : List UInt8 := dkwX6_acts_2 ++ dktX6_acts_3
def dkwX6_acts_1 : List UInt8 := [184, 0, 157, 6, 79, 43, 28, 8, 184, 0, 157, 43, 3, 46, 79, 42, 43, 4, 28, 2, 182, 0, 253, 43]
abbrev dktX6_acts_1 : List UInt8 := dkwX6_acts_1 ++ dktX6_acts_2
def dkwX6_acts_0 : List UInt8 := [43, 28, 5, 184, 0, 157, 46, 5, 160, 0, 39, 43, 28, 6, 184, 0, 157, 46, 154, 0, 29, 43, 28, 5]
abbrev dktX6_acts_0 : List UInt8 := dkwX6_acts_0 ++ dktX6_acts_1
theorem dksX6_acts_0 : cX6_acts.data.toList.drop 0 = dktX6_acts_0 := by decide +kernel
theorem dksX6_acts_1 : cX6_acts.data.toList.drop 24 = dktX6_acts_1 := dk_seg dksX6_acts_0 24 rfl rfl
theorem dksX6_acts_2 : cX6_acts.data.toList.drop 48 = dktX6_acts_2 := dk_seg dksX6_acts_1 24 rfl rfl
theorem dksX6_acts_3 : cX6_acts.data.toList.drop 71 = dktX6_acts_3 := dk_seg dksX6_acts_2 23 rfl rfl
theorem dksX6_acts_4 : cX6_acts.data.toList.drop 95 = dktX6_acts_4 := dk_seg dksX6_acts_3 24 rfl rfl
theorem dksX6_acts_5 : cX6_acts.data.toList.drop 119 = dktX6_acts_5 := dk_seg dksX6_acts_4 24 rfl rfl
theorem dksX6_acts_6 : cX6_acts.data.toList.drop 143 = dktX6_acts_6 := dk_seg dksX6_acts_5 24 rfl rfl
theorem dksX6_acts_7 : cX6_acts.data.toList.drop 167 = dktX6_acts_7 := dk_seg dksX6_acts_6 24 rfl rfl
theorem dX6_acts_0 : decode cX6_acts 0 = .ok (.aload_n 1, 1) := dk_43 (dk_at dksX6_acts_0 0 rfl rfl)
theorem dX6_acts_1 : decode cX6_acts 1 = .ok (.iload_n 2, 1) := dk_28 (dk_at dksX6_acts_0 1 rfl rfl)
theorem dX6_acts_2 : decode cX6_acts 2 = .ok (.iconst 2, 1) := dk_5 (dk_at dksX6_acts_0 2 rfl rfl)
theorem dX6_acts_3 : decode cX6_acts 3 = .ok (.invokestatic 157, 3) := dk_184 0 157 (dk_at dksX6_acts_0 3 rfl rfl)
theorem dX6_acts_6 : decode cX6_acts 6 = .ok (.iaload, 1) := dk_46 (dk_at dksX6_acts_0 6 rfl rfl)
theorem dX6_acts_7 : decode cX6_acts 7 = .ok (.iconst 2, 1) := dk_5 (dk_at dksX6_acts_0 7 rfl rfl)
theorem dX6_acts_8 : decode cX6_acts 8 = .ok (.if_icmp .ne 39, 3) := dk_160 0 39 (dk_at dksX6_acts_0 8 rfl rfl)
theorem dX6_acts_11 : decode cX6_acts 11 = .ok (.aload_n 1, 1) := dk_43 (dk_at dksX6_acts_0 11 rfl rfl)
theorem dX6_acts_12 : decode cX6_acts 12 = .ok (.iload_n 2, 1) := dk_28 (dk_at dksX6_acts_0 12 rfl rfl)
theorem dX6_acts_13 : decode cX6_acts 13 = .ok (.iconst 3, 1) := dk_6 (dk_at dksX6_acts_0 13 rfl rfl)
theorem dX6_acts_14 : decode cX6_acts 14 = .ok (.invokestatic 157, 3) := dk_184 0 157 (dk_at dksX6_acts_0 14 rfl rfl)
theorem dX6_acts_17 : decode cX6_acts 17 = .ok (.iaload, 1) := dk_46 (dk_at dksX6_acts_0 17 rfl rfl)
theorem dX6_acts_18 : decode cX6_acts 18 = .ok (.ifCond .ne 29, 3) := dk_154 0 29 (dk_at dksX6_acts_0 18 rfl rfl)
theorem dX6_acts_21 : decode cX6_acts 21 = .ok (.aload_n 1, 1) := dk_43 (dk_at dksX6_acts_0 21 rfl rfl)
theorem dX6_acts_22 : decode cX6_acts 22 = .ok (.iload_n 2, 1) := dk_28 (dk_at dksX6_acts_0 22 rfl rfl)
theorem dX6_acts_23 : decode cX6_acts 23 = .ok (.iconst 2, 1) := dk_5 (dk_at dksX6_acts_0 23 rfl rfl)
theorem dX6_acts_24 : decode cX6_acts 24 = .ok (.invokestatic 157, 3) := dk_184 0 157 (dk_at dksX6_acts_1 0 rfl rfl)
theorem dX6_acts_27 : decode cX6_acts 27 = .ok (.iconst 3, 1) := dk_6 (dk_at dksX6_acts_1 3 rfl rfl)
theorem dX6_acts_28 : decode cX6_acts 28 = .ok (.iastore, 1) := dk_79 (dk_at dksX6_acts_1 4 rfl rfl)
theorem dX6_acts_29 : decode cX6_acts 29 = .ok (.aload_n 1, 1) := dk_43 (dk_at dksX6_acts_1 5 rfl rfl)
theorem dX6_acts_30 : decode cX6_acts 30 = .ok (.iload_n 2, 1) := dk_28 (dk_at dksX6_acts_1 6 rfl rfl)
theorem dX6_acts_31 : decode cX6_acts 31 = .ok (.iconst 5, 1) := dk_8 (dk_at dksX6_acts_1 7 rfl rfl)
theorem dX6_acts_32 : decode cX6_acts 32 = .ok (.invokestatic 157, 3) := dk_184 0 157 (dk_at dksX6_acts_1 8 rfl rfl)
theorem dX6_acts_35 : decode cX6_acts 35 = .ok (.aload_n 1, 1) := dk_43 (dk_at dksX6_acts_1 11 rfl rfl)
theorem dX6_acts_36 : decode cX6_acts 36 = .ok (.iconst 0, 1) := dk_3 (dk_at dksX6_acts_1 12 rfl rfl)
theorem dX6_acts_37 : decode cX6_acts 37 = .ok (.iaload, 1) := dk_46 (dk_at dksX6_acts_1 13 rfl rfl)
theorem dX6_acts_38 : decode cX6_acts 38 = .ok (.iastore, 1) := dk_79 (dk_at dksX6_acts_1 14 rfl rfl)
theorem dX6_acts_39 : decode cX6_acts 39 = .ok (.aload_n 0, 1) := dk_42 (dk_at dksX6_acts_1 15 rfl rfl)
theorem dX6_acts_40 : decode cX6_acts 40 = .ok (.aload_n 1, 1) := dk_43 (dk_at dksX6_acts_1 16 rfl rfl)
theorem dX6_acts_41 : decode cX6_acts 41 = .ok (.iconst 1, 1) := dk_4 (dk_at dksX6_acts_1 17 rfl rfl)
theorem dX6_acts_42 : decode cX6_acts 42 = .ok (.iload_n 2, 1) := dk_28 (dk_at dksX6_acts_1 18 rfl rfl)
theorem dX6_acts_43 : decode cX6_acts 43 = .ok (.iconst (-1), 1) := dk_2 (dk_at dksX6_acts_1 19 rfl rfl)
theorem dX6_acts_44 : decode cX6_acts 44 = .ok (.invokevirtual 253, 3) := dk_182 0 253 (dk_at dksX6_acts_1 20 rfl rfl)
theorem dX6_acts_47 : decode cX6_acts 47 = .ok (.aload_n 1, 1) := dk_43 (dk_at dksX6_acts_1 23 rfl rfl)
theorem dX6_acts_48 : decode cX6_acts 48 = .ok (.iload_n 2, 1) := dk_28 (dk_at dksX6_acts_2 0 rfl rfl)
theorem dX6_acts_49 : decode cX6_acts 49 = .ok (.bipush 7, 2) := dk_16 7 (dk_at dksX6_acts_2 1 rfl rfl)
theorem dX6_acts_51 : decode cX6_acts 51 = .ok (.invokestatic 157, 3) := dk_184 0 157 (dk_at dksX6_acts_2 3 rfl rfl)
theorem dX6_acts_54 : decode cX6_acts 54 = .ok (.iaload, 1) := dk_46 (dk_at dksX6_acts_2 6 rfl rfl)
theorem dX6_acts_55 : decode cX6_acts 55 = .ok (.iconst 1, 1) := dk_4 (dk_at dksX6_acts_2 7 rfl rfl)
theorem dX6_acts_56 : decode cX6_acts 56 = .ok (.if_icmp .ne 11, 3) := dk_160 0 11 (dk_at dksX6_acts_2 8 rfl rfl)
theorem dX6_acts_59 : decode cX6_acts 59 = .ok (.aload_n 0, 1) := dk_42 (dk_at dksX6_acts_2 11 rfl rfl)
theorem dX6_acts_60 : decode cX6_acts 60 = .ok (.aload_n 1, 1) := dk_43 (dk_at dksX6_acts_2 12 rfl rfl)
theorem dX6_acts_61 : decode cX6_acts 61 = .ok (.iconst 2, 1) := dk_5 (dk_at dksX6_acts_2 13 rfl rfl)
theorem dX6_acts_62 : decode cX6_acts 62 = .ok (.iload_n 2, 1) := dk_28 (dk_at dksX6_acts_2 14 rfl rfl)
theorem dX6_acts_63 : decode cX6_acts 63 = .ok (.iconst (-1), 1) := dk_2 (dk_at dksX6_acts_2 15 rfl rfl)
theorem dX6_acts_64 : decode cX6_acts 64 = .ok (.invokevirtual 253, 3) := dk_182 0 253 (dk_at dksX6_acts_2 16 rfl rfl)
theorem dX6_acts_67 : decode cX6_acts 67 = .ok (.aload_n 1, 1) := dk_43 (dk_at dksX6_acts_2 19 rfl rfl)
theorem dX6_acts_68 : decode cX6_acts 68 = .ok (.iload_n 2, 1) := dk_28 (dk_at dksX6_acts_2 20 rfl rfl)
theorem dX6_acts_69 : decode cX6_acts 69 = .ok (.bipush 8, 2) := dk_16 8 (dk_at dksX6_acts_2 21 rfl rfl)
theorem dX6_acts_71 : decode cX6_acts 71 = .ok (.invokestatic 157, 3) := dk_184 0 157 (dk_at dksX6_acts_3 0 rfl rfl)
theorem dX6_acts_74 : decode cX6_acts 74 = .ok (.iaload, 1) := dk_46 (dk_at dksX6_acts_3 3 rfl rfl)
theorem dX6_acts_75 : decode cX6_acts 75 = .ok (.iconst 1, 1) := dk_4 (dk_at dksX6_acts_3 4 rfl rfl)
theorem dX6_acts_76 : decode cX6_acts 76 = .ok (.if_icmp .ne 17, 3) := dk_160 0 17 (dk_at dksX6_acts_3 5 rfl rfl)
theorem dX6_acts_79 : decode cX6_acts 79 = .ok (.aload_n 0, 1) := dk_42 (dk_at dksX6_acts_3 8 rfl rfl)
theorem dX6_acts_80 : decode cX6_acts 80 = .ok (.aload_n 1, 1) := dk_43 (dk_at dksX6_acts_3 9 rfl rfl)
theorem dX6_acts_81 : decode cX6_acts 81 = .ok (.iconst 3, 1) := dk_6 (dk_at dksX6_acts_3 10 rfl rfl)
theorem dX6_acts_82 : decode cX6_acts 82 = .ok (.iload_n 2, 1) := dk_28 (dk_at dksX6_acts_3 11 rfl rfl)
theorem dX6_acts_83 : decode cX6_acts 83 = .ok (.aload_n 1, 1) := dk_43 (dk_at dksX6_acts_3 12 rfl rfl)
theorem dX6_acts_84 : decode cX6_acts 84 = .ok (.iload_n 2, 1) := dk_28 (dk_at dksX6_acts_3 13 rfl rfl)
theorem dX6_acts_85 : decode cX6_acts 85 = .ok (.iconst 2, 1) := dk_5 (dk_at dksX6_acts_3 14 rfl rfl)
theorem dX6_acts_86 : decode cX6_acts 86 = .ok (.invokestatic 157, 3) := dk_184 0 157 (dk_at dksX6_acts_3 15 rfl rfl)
theorem dX6_acts_89 : decode cX6_acts 89 = .ok (.iaload, 1) := dk_46 (dk_at dksX6_acts_3 18 rfl rfl)
theorem dX6_acts_90 : decode cX6_acts 90 = .ok (.invokevirtual 253, 3) := dk_182 0 253 (dk_at dksX6_acts_3 19 rfl rfl)
theorem dX6_acts_93 : decode cX6_acts 93 = .ok (.aload_n 1, 1) := dk_43 (dk_at dksX6_acts_3 22 rfl rfl)
theorem dX6_acts_94 : decode cX6_acts 94 = .ok (.iload_n 2, 1) := dk_28 (dk_at dksX6_acts_3 23 rfl rfl)
theorem dX6_acts_95 : decode cX6_acts 95 = .ok (.bipush 7, 2) := dk_16 7 (dk_at dksX6_acts_4 0 rfl rfl)
theorem dX6_acts_97 : decode cX6_acts 97 = .ok (.invokestatic 157, 3) := dk_184 0 157 (dk_at dksX6_acts_4 2 rfl rfl)
theorem dX6_acts_100 : decode cX6_acts 100 = .ok (.iconst 0, 1) := dk_3 (dk_at dksX6_acts_4 5 rfl rfl)
theorem dX6_acts_101 : decode cX6_acts 101 = .ok (.iastore, 1) := dk_79 (dk_at dksX6_acts_4 6 rfl rfl)
theorem dX6_acts_102 : decode cX6_acts 102 = .ok (.aload_n 1, 1) := dk_43 (dk_at dksX6_acts_4 7 rfl rfl)
theorem dX6_acts_103 : decode cX6_acts 103 = .ok (.iload_n 2, 1) := dk_28 (dk_at dksX6_acts_4 8 rfl rfl)
theorem dX6_acts_104 : decode cX6_acts 104 = .ok (.bipush 8, 2) := dk_16 8 (dk_at dksX6_acts_4 9 rfl rfl)
theorem dX6_acts_106 : decode cX6_acts 106 = .ok (.invokestatic 157, 3) := dk_184 0 157 (dk_at dksX6_acts_4 11 rfl rfl)
theorem dX6_acts_109 : decode cX6_acts 109 = .ok (.iconst 0, 1) := dk_3 (dk_at dksX6_acts_4 14 rfl rfl)
theorem dX6_acts_110 : decode cX6_acts 110 = .ok (.iastore, 1) := dk_79 (dk_at dksX6_acts_4 15 rfl rfl)
theorem dX6_acts_111 : decode cX6_acts 111 = .ok (.aload_n 1, 1) := dk_43 (dk_at dksX6_acts_4 16 rfl rfl)
theorem dX6_acts_112 : decode cX6_acts 112 = .ok (.iload_n 2, 1) := dk_28 (dk_at dksX6_acts_4 17 rfl rfl)
theorem dX6_acts_113 : decode cX6_acts 113 = .ok (.bipush 6, 2) := dk_16 6 (dk_at dksX6_acts_4 18 rfl rfl)
theorem dX6_acts_115 : decode cX6_acts 115 = .ok (.invokestatic 157, 3) := dk_184 0 157 (dk_at dksX6_acts_4 20 rfl rfl)
theorem dX6_acts_118 : decode cX6_acts 118 = .ok (.iaload, 1) := dk_46 (dk_at dksX6_acts_4 23 rfl rfl)
theorem dX6_acts_119 : decode cX6_acts 119 = .ok (.iconst (-1), 1) := dk_2 (dk_at dksX6_acts_5 0 rfl rfl)
theorem dX6_acts_120 : decode cX6_acts 120 = .ok (.if_icmp .eq 22, 3) := dk_159 0 22 (dk_at dksX6_acts_5 1 rfl rfl)
theorem dX6_acts_123 : decode cX6_acts 123 = .ok (.aload_n 1, 1) := dk_43 (dk_at dksX6_acts_5 4 rfl rfl)
theorem dX6_acts_124 : decode cX6_acts 124 = .ok (.iconst 0, 1) := dk_3 (dk_at dksX6_acts_5 5 rfl rfl)
theorem dX6_acts_125 : decode cX6_acts 125 = .ok (.iaload, 1) := dk_46 (dk_at dksX6_acts_5 6 rfl rfl)
theorem dX6_acts_126 : decode cX6_acts 126 = .ok (.aload_n 1, 1) := dk_43 (dk_at dksX6_acts_5 7 rfl rfl)
theorem dX6_acts_127 : decode cX6_acts 127 = .ok (.iload_n 2, 1) := dk_28 (dk_at dksX6_acts_5 8 rfl rfl)
theorem dX6_acts_128 : decode cX6_acts 128 = .ok (.bipush 6, 2) := dk_16 6 (dk_at dksX6_acts_5 9 rfl rfl)
theorem dX6_acts_130 : decode cX6_acts 130 = .ok (.invokestatic 157, 3) := dk_184 0 157 (dk_at dksX6_acts_5 11 rfl rfl)
theorem dX6_acts_133 : decode cX6_acts 133 = .ok (.iaload, 1) := dk_46 (dk_at dksX6_acts_5 14 rfl rfl)
theorem dX6_acts_134 : decode cX6_acts 134 = .ok (.isub, 1) := dk_100 (dk_at dksX6_acts_5 15 rfl rfl)
theorem dX6_acts_135 : decode cX6_acts 135 = .ok (.aload_n 1, 1) := dk_43 (dk_at dksX6_acts_5 16 rfl rfl)
theorem dX6_acts_136 : decode cX6_acts 136 = .ok (.bipush 7, 2) := dk_16 7 (dk_at dksX6_acts_5 17 rfl rfl)
theorem dX6_acts_138 : decode cX6_acts 138 = .ok (.iaload, 1) := dk_46 (dk_at dksX6_acts_5 19 rfl rfl)
theorem dX6_acts_139 : decode cX6_acts 139 = .ok (.if_icmp .lt 7, 3) := dk_161 0 7 (dk_at dksX6_acts_5 20 rfl rfl)
theorem dX6_acts_142 : decode cX6_acts 142 = .ok (.iconst 1, 1) := dk_4 (dk_at dksX6_acts_5 23 rfl rfl)
theorem dX6_acts_143 : decode cX6_acts 143 = .ok (.goto 4, 3) := dk_167 0 4 (dk_at dksX6_acts_6 0 rfl rfl)
theorem dX6_acts_146 : decode cX6_acts 146 = .ok (.iconst 0, 1) := dk_3 (dk_at dksX6_acts_6 3 rfl rfl)
theorem dX6_acts_147 : decode cX6_acts 147 = .ok (.istore_n 3, 1) := dk_62 (dk_at dksX6_acts_6 4 rfl rfl)
theorem dX6_acts_148 : decode cX6_acts 148 = .ok (.aload_n 1, 1) := dk_43 (dk_at dksX6_acts_6 5 rfl rfl)
theorem dX6_acts_149 : decode cX6_acts 149 = .ok (.iload_n 2, 1) := dk_28 (dk_at dksX6_acts_6 6 rfl rfl)
theorem dX6_acts_150 : decode cX6_acts 150 = .ok (.iconst 2, 1) := dk_5 (dk_at dksX6_acts_6 7 rfl rfl)
theorem dX6_acts_151 : decode cX6_acts 151 = .ok (.invokestatic 157, 3) := dk_184 0 157 (dk_at dksX6_acts_6 8 rfl rfl)
theorem dX6_acts_154 : decode cX6_acts 154 = .ok (.iaload, 1) := dk_46 (dk_at dksX6_acts_6 11 rfl rfl)
theorem dX6_acts_155 : decode cX6_acts 155 = .ok (.iconst 1, 1) := dk_4 (dk_at dksX6_acts_6 12 rfl rfl)
theorem dX6_acts_156 : decode cX6_acts 156 = .ok (.if_icmp .ne 7, 3) := dk_160 0 7 (dk_at dksX6_acts_6 13 rfl rfl)
theorem dX6_acts_159 : decode cX6_acts 159 = .ok (.iload_n 3, 1) := dk_29 (dk_at dksX6_acts_6 16 rfl rfl)
theorem dX6_acts_160 : decode cX6_acts 160 = .ok (.ifCond .ne 4, 3) := dk_154 0 4 (dk_at dksX6_acts_6 17 rfl rfl)
theorem dX6_acts_163 : decode cX6_acts 163 = .ok (.return_, 1) := dk_177 (dk_at dksX6_acts_6 20 rfl rfl)
theorem dX6_acts_164 : decode cX6_acts 164 = .ok (.aload_n 0, 1) := dk_42 (dk_at dksX6_acts_6 21 rfl rfl)
theorem dX6_acts_165 : decode cX6_acts 165 = .ok (.aload_n 1, 1) := dk_43 (dk_at dksX6_acts_6 22 rfl rfl)
theorem dX6_acts_166 : decode cX6_acts 166 = .ok (.iconst 0, 1) := dk_3 (dk_at dksX6_acts_6 23 rfl rfl)
theorem dX6_acts_167 : decode cX6_acts 167 = .ok (.iload_n 2, 1) := dk_28 (dk_at dksX6_acts_7 0 rfl rfl)
theorem dX6_acts_168 : decode cX6_acts 168 = .ok (.iconst (-1), 1) := dk_2 (dk_at dksX6_acts_7 1 rfl rfl)
theorem dX6_acts_169 : decode cX6_acts 169 = .ok (.invokevirtual 253, 3) := dk_182 0 253 (dk_at dksX6_acts_7 2 rfl rfl)
theorem dX6_acts_172 : decode cX6_acts 172 = .ok (.aload_n 1, 1) := dk_43 (dk_at dksX6_acts_7 5 rfl rfl)
theorem dX6_acts_173 : decode cX6_acts 173 = .ok (.iload_n 2, 1) := dk_28 (dk_at dksX6_acts_7 6 rfl rfl)
theorem dX6_acts_174 : decode cX6_acts 174 = .ok (.bipush 6, 2) := dk_16 6 (dk_at dksX6_acts_7 7 rfl rfl)
theorem dX6_acts_176 : decode cX6_acts 176 = .ok (.invokestatic 157, 3) := dk_184 0 157 (dk_at dksX6_acts_7 9 rfl rfl)
theorem dX6_acts_179 : decode cX6_acts 179 = .ok (.aload_n 1, 1) := dk_43 (dk_at dksX6_acts_7 12 rfl rfl)
theorem dX6_acts_180 : decode cX6_acts 180 = .ok (.iconst 0, 1) := dk_3 (dk_at dksX6_acts_7 13 rfl rfl)
theorem dX6_acts_181 : decode cX6_acts 181 = .ok (.iaload, 1) := dk_46 (dk_at dksX6_acts_7 14 rfl rfl)
theorem dX6_acts_182 : decode cX6_acts 182 = .ok (.iastore, 1) := dk_79 (dk_at dksX6_acts_7 15 rfl rfl)
theorem dX6_acts_183 : decode cX6_acts 183 = .ok (.return_, 1) := dk_177 (dk_at dksX6_acts_7 16 rfl rfl)
def dkwX6_polls_3 : List UInt8 := [43, 28, 16, 10, 184, 0, 157, 43, 3, 46, 79, 132, 2, 1, 167, 255, 172, 177]
abbrev dktX6_polls_3 : List UInt8 := dkwX6_polls_3 ++ []
def dkwX6_polls_2 : List UInt8 := [46, 167, 0, 9, 8, 43, 16, 8, 46, 104, 162, 0, 6, 167, 0, 22, 42, 43, 8, 28, 2, 182, 0, 253]
abbrev dktX6_polls_2 : List UInt8 := dkwX6_polls_2 ++ dktX6_polls_3
def dkwX6_polls_1 : List UInt8 := [16, 10, 184, 0, 157, 46, 100, 54, 4, 29, 5, 161, 0, 48, 21, 4, 29, 5, 160, 0, 10, 43, 16, 8]
abbrev dktX6_polls_1 : List UInt8 := dkwX6_polls_1 ++ dktX6_polls_2
def dkwX6_polls_0 : List UInt8 := [3, 61, 28, 42, 180, 0, 207, 162, 0, 82, 43, 28, 16, 9, 184, 0, 157, 46, 62, 43, 3, 46, 43, 28]
abbrev dktX6_polls_0 : List UInt8 := dkwX6_polls_0 ++ dktX6_polls_1
theorem dksX6_polls_0 : cX6_polls.data.toList.drop 0 = dktX6_polls_0 := by decide +kernel
theorem dksX6_polls_1 : cX6_polls.data.toList.drop 24 = dktX6_polls_1 := dk_seg dksX6_polls_0 24 rfl rfl
theorem dksX6_polls_2 : cX6_polls.data.toList.drop 48 = dktX6_polls_2 := dk_seg dksX6_polls_1 24 rfl rfl
theorem dksX6_polls_3 : cX6_polls.data.toList.drop 72 = dktX6_polls_3 := dk_seg dksX6_polls_2 24 rfl rfl
theorem dX6_polls_0 : decode cX6_polls 0 = .ok (.iconst 0, 1) := dk_3 (dk_at dksX6_polls_0 0 rfl rfl)
theorem dX6_polls_1 : decode cX6_polls 1 = .ok (.istore_n 2, 1) := dk_61 (dk_at dksX6_polls_0 1 rfl rfl)
theorem dX6_polls_2 : decode cX6_polls 2 = .ok (.iload_n 2, 1) := dk_28 (dk_at dksX6_polls_0 2 rfl rfl)
theorem dX6_polls_3 : decode cX6_polls 3 = .ok (.aload_n 0, 1) := dk_42 (dk_at dksX6_polls_0 3 rfl rfl)
theorem dX6_polls_4 : decode cX6_polls 4 = .ok (.getfield 207, 3) := dk_180 0 207 (dk_at dksX6_polls_0 4 rfl rfl)
theorem dX6_polls_7 : decode cX6_polls 7 = .ok (.if_icmp .ge 82, 3) := dk_162 0 82 (dk_at dksX6_polls_0 7 rfl rfl)
theorem dX6_polls_10 : decode cX6_polls 10 = .ok (.aload_n 1, 1) := dk_43 (dk_at dksX6_polls_0 10 rfl rfl)
theorem dX6_polls_11 : decode cX6_polls 11 = .ok (.iload_n 2, 1) := dk_28 (dk_at dksX6_polls_0 11 rfl rfl)
theorem dX6_polls_12 : decode cX6_polls 12 = .ok (.bipush 9, 2) := dk_16 9 (dk_at dksX6_polls_0 12 rfl rfl)
theorem dX6_polls_14 : decode cX6_polls 14 = .ok (.invokestatic 157, 3) := dk_184 0 157 (dk_at dksX6_polls_0 14 rfl rfl)
theorem dX6_polls_17 : decode cX6_polls 17 = .ok (.iaload, 1) := dk_46 (dk_at dksX6_polls_0 17 rfl rfl)
theorem dX6_polls_18 : decode cX6_polls 18 = .ok (.istore_n 3, 1) := dk_62 (dk_at dksX6_polls_0 18 rfl rfl)
theorem dX6_polls_19 : decode cX6_polls 19 = .ok (.aload_n 1, 1) := dk_43 (dk_at dksX6_polls_0 19 rfl rfl)
theorem dX6_polls_20 : decode cX6_polls 20 = .ok (.iconst 0, 1) := dk_3 (dk_at dksX6_polls_0 20 rfl rfl)
theorem dX6_polls_21 : decode cX6_polls 21 = .ok (.iaload, 1) := dk_46 (dk_at dksX6_polls_0 21 rfl rfl)
theorem dX6_polls_22 : decode cX6_polls 22 = .ok (.aload_n 1, 1) := dk_43 (dk_at dksX6_polls_0 22 rfl rfl)
theorem dX6_polls_23 : decode cX6_polls 23 = .ok (.iload_n 2, 1) := dk_28 (dk_at dksX6_polls_0 23 rfl rfl)
theorem dX6_polls_24 : decode cX6_polls 24 = .ok (.bipush 10, 2) := dk_16 10 (dk_at dksX6_polls_1 0 rfl rfl)
theorem dX6_polls_26 : decode cX6_polls 26 = .ok (.invokestatic 157, 3) := dk_184 0 157 (dk_at dksX6_polls_1 2 rfl rfl)
theorem dX6_polls_29 : decode cX6_polls 29 = .ok (.iaload, 1) := dk_46 (dk_at dksX6_polls_1 5 rfl rfl)
theorem dX6_polls_30 : decode cX6_polls 30 = .ok (.isub, 1) := dk_100 (dk_at dksX6_polls_1 6 rfl rfl)
theorem dX6_polls_31 : decode cX6_polls 31 = .ok (.istore 4, 2) := dk_54 4 (dk_at dksX6_polls_1 7 rfl rfl)
theorem dX6_polls_33 : decode cX6_polls 33 = .ok (.iload_n 3, 1) := dk_29 (dk_at dksX6_polls_1 9 rfl rfl)
theorem dX6_polls_34 : decode cX6_polls 34 = .ok (.iconst 2, 1) := dk_5 (dk_at dksX6_polls_1 10 rfl rfl)
theorem dX6_polls_35 : decode cX6_polls 35 = .ok (.if_icmp .lt 48, 3) := dk_161 0 48 (dk_at dksX6_polls_1 11 rfl rfl)
theorem dX6_polls_38 : decode cX6_polls 38 = .ok (.iload 4, 2) := dk_21 4 (dk_at dksX6_polls_1 14 rfl rfl)
theorem dX6_polls_40 : decode cX6_polls 40 = .ok (.iload_n 3, 1) := dk_29 (dk_at dksX6_polls_1 16 rfl rfl)
theorem dX6_polls_41 : decode cX6_polls 41 = .ok (.iconst 2, 1) := dk_5 (dk_at dksX6_polls_1 17 rfl rfl)
theorem dX6_polls_42 : decode cX6_polls 42 = .ok (.if_icmp .ne 10, 3) := dk_160 0 10 (dk_at dksX6_polls_1 18 rfl rfl)
theorem dX6_polls_45 : decode cX6_polls 45 = .ok (.aload_n 1, 1) := dk_43 (dk_at dksX6_polls_1 21 rfl rfl)
theorem dX6_polls_46 : decode cX6_polls 46 = .ok (.bipush 8, 2) := dk_16 8 (dk_at dksX6_polls_1 22 rfl rfl)
theorem dX6_polls_48 : decode cX6_polls 48 = .ok (.iaload, 1) := dk_46 (dk_at dksX6_polls_2 0 rfl rfl)
theorem dX6_polls_49 : decode cX6_polls 49 = .ok (.goto 9, 3) := dk_167 0 9 (dk_at dksX6_polls_2 1 rfl rfl)
theorem dX6_polls_52 : decode cX6_polls 52 = .ok (.iconst 5, 1) := dk_8 (dk_at dksX6_polls_2 4 rfl rfl)
theorem dX6_polls_53 : decode cX6_polls 53 = .ok (.aload_n 1, 1) := dk_43 (dk_at dksX6_polls_2 5 rfl rfl)
theorem dX6_polls_54 : decode cX6_polls 54 = .ok (.bipush 8, 2) := dk_16 8 (dk_at dksX6_polls_2 6 rfl rfl)
theorem dX6_polls_56 : decode cX6_polls 56 = .ok (.iaload, 1) := dk_46 (dk_at dksX6_polls_2 8 rfl rfl)
theorem dX6_polls_57 : decode cX6_polls 57 = .ok (.imul, 1) := dk_104 (dk_at dksX6_polls_2 9 rfl rfl)
theorem dX6_polls_58 : decode cX6_polls 58 = .ok (.if_icmp .ge 6, 3) := dk_162 0 6 (dk_at dksX6_polls_2 10 rfl rfl)
theorem dX6_polls_61 : decode cX6_polls 61 = .ok (.goto 22, 3) := dk_167 0 22 (dk_at dksX6_polls_2 13 rfl rfl)
theorem dX6_polls_64 : decode cX6_polls 64 = .ok (.aload_n 0, 1) := dk_42 (dk_at dksX6_polls_2 16 rfl rfl)
theorem dX6_polls_65 : decode cX6_polls 65 = .ok (.aload_n 1, 1) := dk_43 (dk_at dksX6_polls_2 17 rfl rfl)
theorem dX6_polls_66 : decode cX6_polls 66 = .ok (.iconst 5, 1) := dk_8 (dk_at dksX6_polls_2 18 rfl rfl)
theorem dX6_polls_67 : decode cX6_polls 67 = .ok (.iload_n 2, 1) := dk_28 (dk_at dksX6_polls_2 19 rfl rfl)
theorem dX6_polls_68 : decode cX6_polls 68 = .ok (.iconst (-1), 1) := dk_2 (dk_at dksX6_polls_2 20 rfl rfl)
theorem dX6_polls_69 : decode cX6_polls 69 = .ok (.invokevirtual 253, 3) := dk_182 0 253 (dk_at dksX6_polls_2 21 rfl rfl)
theorem dX6_polls_72 : decode cX6_polls 72 = .ok (.aload_n 1, 1) := dk_43 (dk_at dksX6_polls_3 0 rfl rfl)
theorem dX6_polls_73 : decode cX6_polls 73 = .ok (.iload_n 2, 1) := dk_28 (dk_at dksX6_polls_3 1 rfl rfl)
theorem dX6_polls_74 : decode cX6_polls 74 = .ok (.bipush 10, 2) := dk_16 10 (dk_at dksX6_polls_3 2 rfl rfl)
theorem dX6_polls_76 : decode cX6_polls 76 = .ok (.invokestatic 157, 3) := dk_184 0 157 (dk_at dksX6_polls_3 4 rfl rfl)
theorem dX6_polls_79 : decode cX6_polls 79 = .ok (.aload_n 1, 1) := dk_43 (dk_at dksX6_polls_3 7 rfl rfl)
theorem dX6_polls_80 : decode cX6_polls 80 = .ok (.iconst 0, 1) := dk_3 (dk_at dksX6_polls_3 8 rfl rfl)
theorem dX6_polls_81 : decode cX6_polls 81 = .ok (.iaload, 1) := dk_46 (dk_at dksX6_polls_3 9 rfl rfl)
theorem dX6_polls_82 : decode cX6_polls 82 = .ok (.iastore, 1) := dk_79 (dk_at dksX6_polls_3 10 rfl rfl)
theorem dX6_polls_83 : decode cX6_polls 83 = .ok (.iinc 2 1, 3) := dk_132 2 1 (dk_at dksX6_polls_3 11 rfl rfl)
theorem dX6_polls_86 : decode cX6_polls 86 = .ok (.goto (-84), 3) := dk_167 255 172 (dk_at dksX6_polls_3 14 rfl rfl)
theorem dX6_polls_89 : decode cX6_polls 89 = .ok (.return_, 1) := dk_177 (dk_at dksX6_polls_3 17 rfl rfl)
def dkwX6_allIn_4 : List UInt8 := [159, 0, 7, 4, 167, 0, 4, 3, 5, 182, 0, 78, 153, 0, 7, 29, 167, 0, 4, 3, 172]
abbrev dktX6_allIn_4 : List UInt8 := dkwX6_allIn_4 ++ []
def dkwX6_allIn_3 : List UInt8 := [184, 1, 65, 167, 0, 4, 3, 61, 42, 42, 42, 180, 0, 28, 182, 0, 245, 182, 1, 62, 62, 42, 29, 2]
abbrev dktX6_allIn_3 : List UInt8 := dkwX6_allIn_3 ++ dktX6_allIn_4
def dkwX6_allIn_2 : List UInt8 := [180, 0, 28, 16, 9, 4, 42, 180, 0, 28, 16, 9, 46, 100, 79, 27, 6, 160, 0, 13, 42, 180, 0, 28]
abbrev dktX6_allIn_2 : List UInt8 := dkwX6_allIn_2 ++ dktX6_allIn_3
def dkwX6_allIn_1 : List UInt8 := [42, 182, 1, 59, 27, 4, 160, 0, 11, 42, 180, 0, 28, 16, 14, 4, 79, 27, 5, 160, 0, 19, 42]
abbrev dktX6_allIn_1 : List UInt8 := dkwX6_allIn_1 ++ dktX6_allIn_2
def dkwX6_allIn_0 : List UInt8 := [42, 3, 181, 0, 72, 42, 27, 133, 9, 20, 1, 52, 184, 0, 82, 4, 182, 0, 78, 154, 0, 5, 3, 172]
abbrev dktX6_allIn_0 : List UInt8 := dkwX6_allIn_0 ++ dktX6_allIn_1
theorem dksX6_allIn_0 : cX6_allIn.data.toList.drop 0 = dktX6_allIn_0 := by decide +kernel
theorem dksX6_allIn_1 : cX6_allIn.data.toList.drop 24 = dktX6_allIn_1 := dk_seg dksX6_allIn_0 24 rfl rfl
theorem dksX6_allIn_2 : cX6_allIn.data.toList.drop 47 = dktX6_allIn_2 := dk_seg dksX6_allIn_1 23 rfl rfl
theorem dksX6_allIn_3 : cX6_allIn.data.toList.drop 71 = dktX6_allIn_3 := dk_seg dksX6_allIn_2 24 rfl rfl
theorem dksX6_allIn_4 : cX6_allIn.data.toList.drop 95 = dktX6_allIn_4 := dk_seg dksX6_allIn_3 24 rfl rfl
theorem dX6_allIn_0 : decode cX6_allIn 0 = .ok (.aload_n 0, 1) := dk_42 (dk_at dksX6_allIn_0 0 rfl rfl)
theorem dX6_allIn_1 : decode cX6_allIn 1 = .ok (.iconst 0, 1) := dk_3 (dk_at dksX6_allIn_0 1 rfl rfl)
theorem dX6_allIn_2 : decode cX6_allIn 2 = .ok (.putfield 72, 3) := dk_181 0 72 (dk_at dksX6_allIn_0 2 rfl rfl)
theorem dX6_allIn_5 : decode cX6_allIn 5 = .ok (.aload_n 0, 1) := dk_42 (dk_at dksX6_allIn_0 5 rfl rfl)
theorem dX6_allIn_6 : decode cX6_allIn 6 = .ok (.iload_n 1, 1) := dk_27 (dk_at dksX6_allIn_0 6 rfl rfl)
theorem dX6_allIn_7 : decode cX6_allIn 7 = .ok (.i2l, 1) := dk_133 (dk_at dksX6_allIn_0 7 rfl rfl)
theorem dX6_allIn_8 : decode cX6_allIn 8 = .ok (.lconst 0, 1) := dk_9 (dk_at dksX6_allIn_0 8 rfl rfl)
theorem dX6_allIn_9 : decode cX6_allIn 9 = .ok (.ldc2_w 308, 3) := dk_20 1 52 (dk_at dksX6_allIn_0 9 rfl rfl)
theorem dX6_allIn_12 : decode cX6_allIn 12 = .ok (.invokestatic 82, 3) := dk_184 0 82 (dk_at dksX6_allIn_0 12 rfl rfl)
theorem dX6_allIn_15 : decode cX6_allIn 15 = .ok (.iconst 1, 1) := dk_4 (dk_at dksX6_allIn_0 15 rfl rfl)
theorem dX6_allIn_16 : decode cX6_allIn 16 = .ok (.invokevirtual 78, 3) := dk_182 0 78 (dk_at dksX6_allIn_0 16 rfl rfl)
theorem dX6_allIn_19 : decode cX6_allIn 19 = .ok (.ifCond .ne 5, 3) := dk_154 0 5 (dk_at dksX6_allIn_0 19 rfl rfl)
theorem dX6_allIn_22 : decode cX6_allIn 22 = .ok (.iconst 0, 1) := dk_3 (dk_at dksX6_allIn_0 22 rfl rfl)
theorem dX6_allIn_23 : decode cX6_allIn 23 = .ok (.ireturn, 1) := dk_172 (dk_at dksX6_allIn_0 23 rfl rfl)
theorem dX6_allIn_24 : decode cX6_allIn 24 = .ok (.aload_n 0, 1) := dk_42 (dk_at dksX6_allIn_1 0 rfl rfl)
theorem dX6_allIn_25 : decode cX6_allIn 25 = .ok (.invokevirtual 315, 3) := dk_182 1 59 (dk_at dksX6_allIn_1 1 rfl rfl)
theorem dX6_allIn_28 : decode cX6_allIn 28 = .ok (.iload_n 1, 1) := dk_27 (dk_at dksX6_allIn_1 4 rfl rfl)
theorem dX6_allIn_29 : decode cX6_allIn 29 = .ok (.iconst 1, 1) := dk_4 (dk_at dksX6_allIn_1 5 rfl rfl)
theorem dX6_allIn_30 : decode cX6_allIn 30 = .ok (.if_icmp .ne 11, 3) := dk_160 0 11 (dk_at dksX6_allIn_1 6 rfl rfl)
theorem dX6_allIn_33 : decode cX6_allIn 33 = .ok (.aload_n 0, 1) := dk_42 (dk_at dksX6_allIn_1 9 rfl rfl)
theorem dX6_allIn_34 : decode cX6_allIn 34 = .ok (.getfield 28, 3) := dk_180 0 28 (dk_at dksX6_allIn_1 10 rfl rfl)
theorem dX6_allIn_37 : decode cX6_allIn 37 = .ok (.bipush 14, 2) := dk_16 14 (dk_at dksX6_allIn_1 13 rfl rfl)
theorem dX6_allIn_39 : decode cX6_allIn 39 = .ok (.iconst 1, 1) := dk_4 (dk_at dksX6_allIn_1 15 rfl rfl)
theorem dX6_allIn_40 : decode cX6_allIn 40 = .ok (.iastore, 1) := dk_79 (dk_at dksX6_allIn_1 16 rfl rfl)
theorem dX6_allIn_41 : decode cX6_allIn 41 = .ok (.iload_n 1, 1) := dk_27 (dk_at dksX6_allIn_1 17 rfl rfl)
theorem dX6_allIn_42 : decode cX6_allIn 42 = .ok (.iconst 2, 1) := dk_5 (dk_at dksX6_allIn_1 18 rfl rfl)
theorem dX6_allIn_43 : decode cX6_allIn 43 = .ok (.if_icmp .ne 19, 3) := dk_160 0 19 (dk_at dksX6_allIn_1 19 rfl rfl)
theorem dX6_allIn_46 : decode cX6_allIn 46 = .ok (.aload_n 0, 1) := dk_42 (dk_at dksX6_allIn_1 22 rfl rfl)
theorem dX6_allIn_47 : decode cX6_allIn 47 = .ok (.getfield 28, 3) := dk_180 0 28 (dk_at dksX6_allIn_2 0 rfl rfl)
theorem dX6_allIn_50 : decode cX6_allIn 50 = .ok (.bipush 9, 2) := dk_16 9 (dk_at dksX6_allIn_2 3 rfl rfl)
theorem dX6_allIn_52 : decode cX6_allIn 52 = .ok (.iconst 1, 1) := dk_4 (dk_at dksX6_allIn_2 5 rfl rfl)
theorem dX6_allIn_53 : decode cX6_allIn 53 = .ok (.aload_n 0, 1) := dk_42 (dk_at dksX6_allIn_2 6 rfl rfl)
theorem dX6_allIn_54 : decode cX6_allIn 54 = .ok (.getfield 28, 3) := dk_180 0 28 (dk_at dksX6_allIn_2 7 rfl rfl)
theorem dX6_allIn_57 : decode cX6_allIn 57 = .ok (.bipush 9, 2) := dk_16 9 (dk_at dksX6_allIn_2 10 rfl rfl)
theorem dX6_allIn_59 : decode cX6_allIn 59 = .ok (.iaload, 1) := dk_46 (dk_at dksX6_allIn_2 12 rfl rfl)
theorem dX6_allIn_60 : decode cX6_allIn 60 = .ok (.isub, 1) := dk_100 (dk_at dksX6_allIn_2 13 rfl rfl)
theorem dX6_allIn_61 : decode cX6_allIn 61 = .ok (.iastore, 1) := dk_79 (dk_at dksX6_allIn_2 14 rfl rfl)
theorem dX6_allIn_62 : decode cX6_allIn 62 = .ok (.iload_n 1, 1) := dk_27 (dk_at dksX6_allIn_2 15 rfl rfl)
theorem dX6_allIn_63 : decode cX6_allIn 63 = .ok (.iconst 3, 1) := dk_6 (dk_at dksX6_allIn_2 16 rfl rfl)
theorem dX6_allIn_64 : decode cX6_allIn 64 = .ok (.if_icmp .ne 13, 3) := dk_160 0 13 (dk_at dksX6_allIn_2 17 rfl rfl)
theorem dX6_allIn_67 : decode cX6_allIn 67 = .ok (.aload_n 0, 1) := dk_42 (dk_at dksX6_allIn_2 20 rfl rfl)
theorem dX6_allIn_68 : decode cX6_allIn 68 = .ok (.getfield 28, 3) := dk_180 0 28 (dk_at dksX6_allIn_2 21 rfl rfl)
theorem dX6_allIn_71 : decode cX6_allIn 71 = .ok (.invokestatic 321, 3) := dk_184 1 65 (dk_at dksX6_allIn_3 0 rfl rfl)
theorem dX6_allIn_74 : decode cX6_allIn 74 = .ok (.goto 4, 3) := dk_167 0 4 (dk_at dksX6_allIn_3 3 rfl rfl)
theorem dX6_allIn_77 : decode cX6_allIn 77 = .ok (.iconst 0, 1) := dk_3 (dk_at dksX6_allIn_3 6 rfl rfl)
theorem dX6_allIn_78 : decode cX6_allIn 78 = .ok (.istore_n 2, 1) := dk_61 (dk_at dksX6_allIn_3 7 rfl rfl)
theorem dX6_allIn_79 : decode cX6_allIn 79 = .ok (.aload_n 0, 1) := dk_42 (dk_at dksX6_allIn_3 8 rfl rfl)
theorem dX6_allIn_80 : decode cX6_allIn 80 = .ok (.aload_n 0, 1) := dk_42 (dk_at dksX6_allIn_3 9 rfl rfl)
theorem dX6_allIn_81 : decode cX6_allIn 81 = .ok (.aload_n 0, 1) := dk_42 (dk_at dksX6_allIn_3 10 rfl rfl)
theorem dX6_allIn_82 : decode cX6_allIn 82 = .ok (.getfield 28, 3) := dk_180 0 28 (dk_at dksX6_allIn_3 11 rfl rfl)
theorem dX6_allIn_85 : decode cX6_allIn 85 = .ok (.invokevirtual 245, 3) := dk_182 0 245 (dk_at dksX6_allIn_3 14 rfl rfl)
theorem dX6_allIn_88 : decode cX6_allIn 88 = .ok (.invokevirtual 318, 3) := dk_182 1 62 (dk_at dksX6_allIn_3 17 rfl rfl)
theorem dX6_allIn_91 : decode cX6_allIn 91 = .ok (.istore_n 3, 1) := dk_62 (dk_at dksX6_allIn_3 20 rfl rfl)
theorem dX6_allIn_92 : decode cX6_allIn 92 = .ok (.aload_n 0, 1) := dk_42 (dk_at dksX6_allIn_3 21 rfl rfl)
theorem dX6_allIn_93 : decode cX6_allIn 93 = .ok (.iload_n 3, 1) := dk_29 (dk_at dksX6_allIn_3 22 rfl rfl)
theorem dX6_allIn_94 : decode cX6_allIn 94 = .ok (.iconst (-1), 1) := dk_2 (dk_at dksX6_allIn_3 23 rfl rfl)
theorem dX6_allIn_95 : decode cX6_allIn 95 = .ok (.if_icmp .eq 7, 3) := dk_159 0 7 (dk_at dksX6_allIn_4 0 rfl rfl)
theorem dX6_allIn_98 : decode cX6_allIn 98 = .ok (.iconst 1, 1) := dk_4 (dk_at dksX6_allIn_4 3 rfl rfl)
theorem dX6_allIn_99 : decode cX6_allIn 99 = .ok (.goto 4, 3) := dk_167 0 4 (dk_at dksX6_allIn_4 4 rfl rfl)
theorem dX6_allIn_102 : decode cX6_allIn 102 = .ok (.iconst 0, 1) := dk_3 (dk_at dksX6_allIn_4 7 rfl rfl)
theorem dX6_allIn_103 : decode cX6_allIn 103 = .ok (.iconst 2, 1) := dk_5 (dk_at dksX6_allIn_4 8 rfl rfl)
theorem dX6_allIn_104 : decode cX6_allIn 104 = .ok (.invokevirtual 78, 3) := dk_182 0 78 (dk_at dksX6_allIn_4 9 rfl rfl)
theorem dX6_allIn_107 : decode cX6_allIn 107 = .ok (.ifCond .eq 7, 3) := dk_153 0 7 (dk_at dksX6_allIn_4 12 rfl rfl)
theorem dX6_allIn_110 : decode cX6_allIn 110 = .ok (.iload_n 3, 1) := dk_29 (dk_at dksX6_allIn_4 15 rfl rfl)
theorem dX6_allIn_111 : decode cX6_allIn 111 = .ok (.goto 4, 3) := dk_167 0 4 (dk_at dksX6_allIn_4 16 rfl rfl)
theorem dX6_allIn_114 : decode cX6_allIn 114 = .ok (.iconst 0, 1) := dk_3 (dk_at dksX6_allIn_4 19 rfl rfl)
theorem dX6_allIn_115 : decode cX6_allIn 115 = .ok (.ireturn, 1) := dk_172 (dk_at dksX6_allIn_4 20 rfl rfl)
def dkwX6_forgets_1 : List UInt8 := [16, 11, 184, 0, 157, 3, 79, 132, 2, 1, 167, 255, 227, 42, 16, 13, 3, 79, 27, 172]
abbrev dktX6_forgets_1 : List UInt8 := dkwX6_forgets_1 ++ []
def dkwX6_forgets_0 : List UInt8 := [3, 60, 3, 61, 28, 16, 12, 162, 0, 29, 27, 42, 28, 16, 11, 184, 0, 157, 46, 96, 60, 42, 28]
abbrev dktX6_forgets_0 : List UInt8 := dkwX6_forgets_0 ++ dktX6_forgets_1
theorem dksX6_forgets_0 : cX6_forgets.data.toList.drop 0 = dktX6_forgets_0 := by decide +kernel
theorem dksX6_forgets_1 : cX6_forgets.data.toList.drop 23 = dktX6_forgets_1 := dk_seg dksX6_forgets_0 23 rfl rfl
theorem dX6_forgets_0 : decode cX6_forgets 0 = .ok (.iconst 0, 1) := dk_3 (dk_at dksX6_forgets_0 0 rfl rfl)
theorem dX6_forgets_1 : decode cX6_forgets 1 = .ok (.istore_n 1, 1) := dk_60 (dk_at dksX6_forgets_0 1 rfl rfl)
theorem dX6_forgets_2 : decode cX6_forgets 2 = .ok (.iconst 0, 1) := dk_3 (dk_at dksX6_forgets_0 2 rfl rfl)
theorem dX6_forgets_3 : decode cX6_forgets 3 = .ok (.istore_n 2, 1) := dk_61 (dk_at dksX6_forgets_0 3 rfl rfl)
theorem dX6_forgets_4 : decode cX6_forgets 4 = .ok (.iload_n 2, 1) := dk_28 (dk_at dksX6_forgets_0 4 rfl rfl)
theorem dX6_forgets_5 : decode cX6_forgets 5 = .ok (.bipush 12, 2) := dk_16 12 (dk_at dksX6_forgets_0 5 rfl rfl)
theorem dX6_forgets_7 : decode cX6_forgets 7 = .ok (.if_icmp .ge 29, 3) := dk_162 0 29 (dk_at dksX6_forgets_0 7 rfl rfl)
theorem dX6_forgets_10 : decode cX6_forgets 10 = .ok (.iload_n 1, 1) := dk_27 (dk_at dksX6_forgets_0 10 rfl rfl)
theorem dX6_forgets_11 : decode cX6_forgets 11 = .ok (.aload_n 0, 1) := dk_42 (dk_at dksX6_forgets_0 11 rfl rfl)
theorem dX6_forgets_12 : decode cX6_forgets 12 = .ok (.iload_n 2, 1) := dk_28 (dk_at dksX6_forgets_0 12 rfl rfl)
theorem dX6_forgets_13 : decode cX6_forgets 13 = .ok (.bipush 11, 2) := dk_16 11 (dk_at dksX6_forgets_0 13 rfl rfl)
theorem dX6_forgets_15 : decode cX6_forgets 15 = .ok (.invokestatic 157, 3) := dk_184 0 157 (dk_at dksX6_forgets_0 15 rfl rfl)
theorem dX6_forgets_18 : decode cX6_forgets 18 = .ok (.iaload, 1) := dk_46 (dk_at dksX6_forgets_0 18 rfl rfl)
theorem dX6_forgets_19 : decode cX6_forgets 19 = .ok (.iadd, 1) := dk_96 (dk_at dksX6_forgets_0 19 rfl rfl)
theorem dX6_forgets_20 : decode cX6_forgets 20 = .ok (.istore_n 1, 1) := dk_60 (dk_at dksX6_forgets_0 20 rfl rfl)
theorem dX6_forgets_21 : decode cX6_forgets 21 = .ok (.aload_n 0, 1) := dk_42 (dk_at dksX6_forgets_0 21 rfl rfl)
theorem dX6_forgets_22 : decode cX6_forgets 22 = .ok (.iload_n 2, 1) := dk_28 (dk_at dksX6_forgets_0 22 rfl rfl)
theorem dX6_forgets_23 : decode cX6_forgets 23 = .ok (.bipush 11, 2) := dk_16 11 (dk_at dksX6_forgets_1 0 rfl rfl)
theorem dX6_forgets_25 : decode cX6_forgets 25 = .ok (.invokestatic 157, 3) := dk_184 0 157 (dk_at dksX6_forgets_1 2 rfl rfl)
theorem dX6_forgets_28 : decode cX6_forgets 28 = .ok (.iconst 0, 1) := dk_3 (dk_at dksX6_forgets_1 5 rfl rfl)
theorem dX6_forgets_29 : decode cX6_forgets 29 = .ok (.iastore, 1) := dk_79 (dk_at dksX6_forgets_1 6 rfl rfl)
theorem dX6_forgets_30 : decode cX6_forgets 30 = .ok (.iinc 2 1, 3) := dk_132 2 1 (dk_at dksX6_forgets_1 7 rfl rfl)
theorem dX6_forgets_33 : decode cX6_forgets 33 = .ok (.goto (-29), 3) := dk_167 255 227 (dk_at dksX6_forgets_1 10 rfl rfl)
theorem dX6_forgets_36 : decode cX6_forgets 36 = .ok (.aload_n 0, 1) := dk_42 (dk_at dksX6_forgets_1 13 rfl rfl)
theorem dX6_forgets_37 : decode cX6_forgets 37 = .ok (.bipush 13, 2) := dk_16 13 (dk_at dksX6_forgets_1 14 rfl rfl)
theorem dX6_forgets_39 : decode cX6_forgets 39 = .ok (.iconst 0, 1) := dk_3 (dk_at dksX6_forgets_1 16 rfl rfl)
theorem dX6_forgets_40 : decode cX6_forgets 40 = .ok (.iastore, 1) := dk_79 (dk_at dksX6_forgets_1 17 rfl rfl)
theorem dX6_forgets_41 : decode cX6_forgets 41 = .ok (.iload_n 1, 1) := dk_27 (dk_at dksX6_forgets_1 18 rfl rfl)
theorem dX6_forgets_42 : decode cX6_forgets 42 = .ok (.ireturn, 1) := dk_172 (dk_at dksX6_forgets_1 19 rfl rfl)
def dkwX6_peakIn_4 : List UInt8 := [29, 172]
abbrev dktX6_peakIn_4 : List UInt8 := dkwX6_peakIn_4 ++ []
def dkwX6_peakIn_3 : List UInt8 := [182, 1, 56, 54, 5, 21, 5, 29, 164, 0, 8, 21, 5, 167, 0, 4, 29, 62, 132, 4, 1, 167, 255, 224]
abbrev dktX6_peakIn_3 : List UInt8 := dkwX6_peakIn_3 ++ dktX6_peakIn_4
def dkwX6_peakIn_2 : List UInt8 := [180, 0, 28, 16, 6, 28, 79, 3, 62, 3, 54, 4, 21, 4, 27, 162, 0, 32, 42, 42, 180, 0, 28]
abbrev dktX6_peakIn_2 : List UInt8 := dkwX6_peakIn_2 ++ dktX6_peakIn_3
def dkwX6_peakIn_1 : List UInt8 := [153, 0, 7, 4, 167, 0, 4, 3, 4, 182, 0, 78, 154, 0, 5, 3, 172, 42, 182, 1, 59, 42]
abbrev dktX6_peakIn_1 : List UInt8 := dkwX6_peakIn_1 ++ dktX6_peakIn_2
def dkwX6_peakIn_0 : List UInt8 := [42, 3, 181, 0, 72, 42, 27, 184, 1, 70, 153, 0, 19, 28, 133, 10, 20, 1, 73, 184, 0, 82]
abbrev dktX6_peakIn_0 : List UInt8 := dkwX6_peakIn_0 ++ dktX6_peakIn_1
theorem dksX6_peakIn_0 : cX6_peakIn.data.toList.drop 0 = dktX6_peakIn_0 := by decide +kernel
theorem dksX6_peakIn_1 : cX6_peakIn.data.toList.drop 22 = dktX6_peakIn_1 := dk_seg dksX6_peakIn_0 22 rfl rfl
theorem dksX6_peakIn_2 : cX6_peakIn.data.toList.drop 44 = dktX6_peakIn_2 := dk_seg dksX6_peakIn_1 22 rfl rfl
theorem dksX6_peakIn_3 : cX6_peakIn.data.toList.drop 67 = dktX6_peakIn_3 := dk_seg dksX6_peakIn_2 23 rfl rfl
theorem dksX6_peakIn_4 : cX6_peakIn.data.toList.drop 91 = dktX6_peakIn_4 := dk_seg dksX6_peakIn_3 24 rfl rfl
theorem dX6_peakIn_0 : decode cX6_peakIn 0 = .ok (.aload_n 0, 1) := dk_42 (dk_at dksX6_peakIn_0 0 rfl rfl)
theorem dX6_peakIn_1 : decode cX6_peakIn 1 = .ok (.iconst 0, 1) := dk_3 (dk_at dksX6_peakIn_0 1 rfl rfl)
theorem dX6_peakIn_2 : decode cX6_peakIn 2 = .ok (.putfield 72, 3) := dk_181 0 72 (dk_at dksX6_peakIn_0 2 rfl rfl)
theorem dX6_peakIn_5 : decode cX6_peakIn 5 = .ok (.aload_n 0, 1) := dk_42 (dk_at dksX6_peakIn_0 5 rfl rfl)
theorem dX6_peakIn_6 : decode cX6_peakIn 6 = .ok (.iload_n 1, 1) := dk_27 (dk_at dksX6_peakIn_0 6 rfl rfl)
theorem dX6_peakIn_7 : decode cX6_peakIn 7 = .ok (.invokestatic 326, 3) := dk_184 1 70 (dk_at dksX6_peakIn_0 7 rfl rfl)
theorem dX6_peakIn_10 : decode cX6_peakIn 10 = .ok (.ifCond .eq 19, 3) := dk_153 0 19 (dk_at dksX6_peakIn_0 10 rfl rfl)
theorem dX6_peakIn_13 : decode cX6_peakIn 13 = .ok (.iload_n 2, 1) := dk_28 (dk_at dksX6_peakIn_0 13 rfl rfl)
theorem dX6_peakIn_14 : decode cX6_peakIn 14 = .ok (.i2l, 1) := dk_133 (dk_at dksX6_peakIn_0 14 rfl rfl)
theorem dX6_peakIn_15 : decode cX6_peakIn 15 = .ok (.lconst 1, 1) := dk_10 (dk_at dksX6_peakIn_0 15 rfl rfl)
theorem dX6_peakIn_16 : decode cX6_peakIn 16 = .ok (.ldc2_w 329, 3) := dk_20 1 73 (dk_at dksX6_peakIn_0 16 rfl rfl)
theorem dX6_peakIn_19 : decode cX6_peakIn 19 = .ok (.invokestatic 82, 3) := dk_184 0 82 (dk_at dksX6_peakIn_0 19 rfl rfl)
theorem dX6_peakIn_22 : decode cX6_peakIn 22 = .ok (.ifCond .eq 7, 3) := dk_153 0 7 (dk_at dksX6_peakIn_1 0 rfl rfl)
theorem dX6_peakIn_25 : decode cX6_peakIn 25 = .ok (.iconst 1, 1) := dk_4 (dk_at dksX6_peakIn_1 3 rfl rfl)
theorem dX6_peakIn_26 : decode cX6_peakIn 26 = .ok (.goto 4, 3) := dk_167 0 4 (dk_at dksX6_peakIn_1 4 rfl rfl)
theorem dX6_peakIn_29 : decode cX6_peakIn 29 = .ok (.iconst 0, 1) := dk_3 (dk_at dksX6_peakIn_1 7 rfl rfl)
theorem dX6_peakIn_30 : decode cX6_peakIn 30 = .ok (.iconst 1, 1) := dk_4 (dk_at dksX6_peakIn_1 8 rfl rfl)
theorem dX6_peakIn_31 : decode cX6_peakIn 31 = .ok (.invokevirtual 78, 3) := dk_182 0 78 (dk_at dksX6_peakIn_1 9 rfl rfl)
theorem dX6_peakIn_34 : decode cX6_peakIn 34 = .ok (.ifCond .ne 5, 3) := dk_154 0 5 (dk_at dksX6_peakIn_1 12 rfl rfl)
theorem dX6_peakIn_37 : decode cX6_peakIn 37 = .ok (.iconst 0, 1) := dk_3 (dk_at dksX6_peakIn_1 15 rfl rfl)
theorem dX6_peakIn_38 : decode cX6_peakIn 38 = .ok (.ireturn, 1) := dk_172 (dk_at dksX6_peakIn_1 16 rfl rfl)
theorem dX6_peakIn_39 : decode cX6_peakIn 39 = .ok (.aload_n 0, 1) := dk_42 (dk_at dksX6_peakIn_1 17 rfl rfl)
theorem dX6_peakIn_40 : decode cX6_peakIn 40 = .ok (.invokevirtual 315, 3) := dk_182 1 59 (dk_at dksX6_peakIn_1 18 rfl rfl)
theorem dX6_peakIn_43 : decode cX6_peakIn 43 = .ok (.aload_n 0, 1) := dk_42 (dk_at dksX6_peakIn_1 21 rfl rfl)
theorem dX6_peakIn_44 : decode cX6_peakIn 44 = .ok (.getfield 28, 3) := dk_180 0 28 (dk_at dksX6_peakIn_2 0 rfl rfl)
theorem dX6_peakIn_47 : decode cX6_peakIn 47 = .ok (.bipush 6, 2) := dk_16 6 (dk_at dksX6_peakIn_2 3 rfl rfl)
theorem dX6_peakIn_49 : decode cX6_peakIn 49 = .ok (.iload_n 2, 1) := dk_28 (dk_at dksX6_peakIn_2 5 rfl rfl)
theorem dX6_peakIn_50 : decode cX6_peakIn 50 = .ok (.iastore, 1) := dk_79 (dk_at dksX6_peakIn_2 6 rfl rfl)
theorem dX6_peakIn_51 : decode cX6_peakIn 51 = .ok (.iconst 0, 1) := dk_3 (dk_at dksX6_peakIn_2 7 rfl rfl)
theorem dX6_peakIn_52 : decode cX6_peakIn 52 = .ok (.istore_n 3, 1) := dk_62 (dk_at dksX6_peakIn_2 8 rfl rfl)
theorem dX6_peakIn_53 : decode cX6_peakIn 53 = .ok (.iconst 0, 1) := dk_3 (dk_at dksX6_peakIn_2 9 rfl rfl)
theorem dX6_peakIn_54 : decode cX6_peakIn 54 = .ok (.istore 4, 2) := dk_54 4 (dk_at dksX6_peakIn_2 10 rfl rfl)
theorem dX6_peakIn_56 : decode cX6_peakIn 56 = .ok (.iload 4, 2) := dk_21 4 (dk_at dksX6_peakIn_2 12 rfl rfl)
theorem dX6_peakIn_58 : decode cX6_peakIn 58 = .ok (.iload_n 1, 1) := dk_27 (dk_at dksX6_peakIn_2 14 rfl rfl)
theorem dX6_peakIn_59 : decode cX6_peakIn 59 = .ok (.if_icmp .ge 32, 3) := dk_162 0 32 (dk_at dksX6_peakIn_2 15 rfl rfl)
theorem dX6_peakIn_62 : decode cX6_peakIn 62 = .ok (.aload_n 0, 1) := dk_42 (dk_at dksX6_peakIn_2 18 rfl rfl)
theorem dX6_peakIn_63 : decode cX6_peakIn 63 = .ok (.aload_n 0, 1) := dk_42 (dk_at dksX6_peakIn_2 19 rfl rfl)
theorem dX6_peakIn_64 : decode cX6_peakIn 64 = .ok (.getfield 28, 3) := dk_180 0 28 (dk_at dksX6_peakIn_2 20 rfl rfl)
theorem dX6_peakIn_67 : decode cX6_peakIn 67 = .ok (.invokevirtual 312, 3) := dk_182 1 56 (dk_at dksX6_peakIn_3 0 rfl rfl)
theorem dX6_peakIn_70 : decode cX6_peakIn 70 = .ok (.istore 5, 2) := dk_54 5 (dk_at dksX6_peakIn_3 3 rfl rfl)
theorem dX6_peakIn_72 : decode cX6_peakIn 72 = .ok (.iload 5, 2) := dk_21 5 (dk_at dksX6_peakIn_3 5 rfl rfl)
theorem dX6_peakIn_74 : decode cX6_peakIn 74 = .ok (.iload_n 3, 1) := dk_29 (dk_at dksX6_peakIn_3 7 rfl rfl)
theorem dX6_peakIn_75 : decode cX6_peakIn 75 = .ok (.if_icmp .le 8, 3) := dk_164 0 8 (dk_at dksX6_peakIn_3 8 rfl rfl)
theorem dX6_peakIn_78 : decode cX6_peakIn 78 = .ok (.iload 5, 2) := dk_21 5 (dk_at dksX6_peakIn_3 11 rfl rfl)
theorem dX6_peakIn_80 : decode cX6_peakIn 80 = .ok (.goto 4, 3) := dk_167 0 4 (dk_at dksX6_peakIn_3 13 rfl rfl)
theorem dX6_peakIn_83 : decode cX6_peakIn 83 = .ok (.iload_n 3, 1) := dk_29 (dk_at dksX6_peakIn_3 16 rfl rfl)
theorem dX6_peakIn_84 : decode cX6_peakIn 84 = .ok (.istore_n 3, 1) := dk_62 (dk_at dksX6_peakIn_3 17 rfl rfl)
theorem dX6_peakIn_85 : decode cX6_peakIn 85 = .ok (.iinc 4 1, 3) := dk_132 4 1 (dk_at dksX6_peakIn_3 18 rfl rfl)
theorem dX6_peakIn_88 : decode cX6_peakIn 88 = .ok (.goto (-32), 3) := dk_167 255 224 (dk_at dksX6_peakIn_3 21 rfl rfl)
theorem dX6_peakIn_91 : decode cX6_peakIn 91 = .ok (.iload_n 3, 1) := dk_29 (dk_at dksX6_peakIn_4 0 rfl rfl)
theorem dX6_peakIn_92 : decode cX6_peakIn 92 = .ok (.ireturn, 1) := dk_172 (dk_at dksX6_peakIn_4 1 rfl rfl)
def dkwX6_areTicks_0 : List UInt8 := [26, 133, 10, 20, 1, 68, 184, 0, 82, 172]
abbrev dktX6_areTicks_0 : List UInt8 := dkwX6_areTicks_0 ++ []
theorem dksX6_areTicks_0 : cX6_areTicks.data.toList.drop 0 = dktX6_areTicks_0 := by decide +kernel
theorem dX6_areTicks_0 : decode cX6_areTicks 0 = .ok (.iload_n 0, 1) := dk_26 (dk_at dksX6_areTicks_0 0 rfl rfl)
theorem dX6_areTicks_1 : decode cX6_areTicks 1 = .ok (.i2l, 1) := dk_133 (dk_at dksX6_areTicks_0 1 rfl rfl)
theorem dX6_areTicks_2 : decode cX6_areTicks 2 = .ok (.lconst 1, 1) := dk_10 (dk_at dksX6_areTicks_0 2 rfl rfl)
theorem dX6_areTicks_3 : decode cX6_areTicks 3 = .ok (.ldc2_w 324, 3) := dk_20 1 68 (dk_at dksX6_areTicks_0 3 rfl rfl)
theorem dX6_areTicks_6 : decode cX6_areTicks 6 = .ok (.invokestatic 82, 3) := dk_184 0 82 (dk_at dksX6_areTicks_0 6 rfl rfl)
theorem dX6_areTicks_9 : decode cX6_areTicks 9 = .ok (.ireturn, 1) := dk_172 (dk_at dksX6_areTicks_0 9 rfl rfl)
def dkwX6_sentIn_3 : List UInt8 := [132, 3, 1, 167, 255, 238, 42, 180, 0, 28, 7, 46, 42, 180, 0, 25, 7, 46, 100, 172]
abbrev dktX6_sentIn_3 : List UInt8 := dkwX6_sentIn_3 ++ []
def dkwX6_sentIn_2 : List UInt8 := [180, 0, 28, 16, 7, 28, 79, 3, 62, 29, 27, 162, 0, 19, 42, 42, 180, 0, 28, 182, 1, 56, 54, 4]
abbrev dktX6_sentIn_2 : List UInt8 := dkwX6_sentIn_2 ++ dktX6_sentIn_3
def dkwX6_sentIn_1 : List UInt8 := [153, 0, 7, 4, 167, 0, 4, 3, 4, 182, 0, 78, 154, 0, 5, 3, 172, 42, 182, 1, 59, 42]
abbrev dktX6_sentIn_1 : List UInt8 := dkwX6_sentIn_1 ++ dktX6_sentIn_2
def dkwX6_sentIn_0 : List UInt8 := [42, 3, 181, 0, 72, 42, 27, 184, 1, 70, 153, 0, 19, 28, 133, 10, 20, 1, 75, 184, 0, 82]
abbrev dktX6_sentIn_0 : List UInt8 := dkwX6_sentIn_0 ++ dktX6_sentIn_1
theorem dksX6_sentIn_0 : cX6_sentIn.data.toList.drop 0 = dktX6_sentIn_0 := by decide +kernel
theorem dksX6_sentIn_1 : cX6_sentIn.data.toList.drop 22 = dktX6_sentIn_1 := dk_seg dksX6_sentIn_0 22 rfl rfl
theorem dksX6_sentIn_2 : cX6_sentIn.data.toList.drop 44 = dktX6_sentIn_2 := dk_seg dksX6_sentIn_1 22 rfl rfl
theorem dksX6_sentIn_3 : cX6_sentIn.data.toList.drop 68 = dktX6_sentIn_3 := dk_seg dksX6_sentIn_2 24 rfl rfl
theorem dX6_sentIn_0 : decode cX6_sentIn 0 = .ok (.aload_n 0, 1) := dk_42 (dk_at dksX6_sentIn_0 0 rfl rfl)
theorem dX6_sentIn_1 : decode cX6_sentIn 1 = .ok (.iconst 0, 1) := dk_3 (dk_at dksX6_sentIn_0 1 rfl rfl)
theorem dX6_sentIn_2 : decode cX6_sentIn 2 = .ok (.putfield 72, 3) := dk_181 0 72 (dk_at dksX6_sentIn_0 2 rfl rfl)
theorem dX6_sentIn_5 : decode cX6_sentIn 5 = .ok (.aload_n 0, 1) := dk_42 (dk_at dksX6_sentIn_0 5 rfl rfl)
theorem dX6_sentIn_6 : decode cX6_sentIn 6 = .ok (.iload_n 1, 1) := dk_27 (dk_at dksX6_sentIn_0 6 rfl rfl)
theorem dX6_sentIn_7 : decode cX6_sentIn 7 = .ok (.invokestatic 326, 3) := dk_184 1 70 (dk_at dksX6_sentIn_0 7 rfl rfl)
theorem dX6_sentIn_10 : decode cX6_sentIn 10 = .ok (.ifCond .eq 19, 3) := dk_153 0 19 (dk_at dksX6_sentIn_0 10 rfl rfl)
theorem dX6_sentIn_13 : decode cX6_sentIn 13 = .ok (.iload_n 2, 1) := dk_28 (dk_at dksX6_sentIn_0 13 rfl rfl)
theorem dX6_sentIn_14 : decode cX6_sentIn 14 = .ok (.i2l, 1) := dk_133 (dk_at dksX6_sentIn_0 14 rfl rfl)
theorem dX6_sentIn_15 : decode cX6_sentIn 15 = .ok (.lconst 1, 1) := dk_10 (dk_at dksX6_sentIn_0 15 rfl rfl)
theorem dX6_sentIn_16 : decode cX6_sentIn 16 = .ok (.ldc2_w 331, 3) := dk_20 1 75 (dk_at dksX6_sentIn_0 16 rfl rfl)
theorem dX6_sentIn_19 : decode cX6_sentIn 19 = .ok (.invokestatic 82, 3) := dk_184 0 82 (dk_at dksX6_sentIn_0 19 rfl rfl)
theorem dX6_sentIn_22 : decode cX6_sentIn 22 = .ok (.ifCond .eq 7, 3) := dk_153 0 7 (dk_at dksX6_sentIn_1 0 rfl rfl)
theorem dX6_sentIn_25 : decode cX6_sentIn 25 = .ok (.iconst 1, 1) := dk_4 (dk_at dksX6_sentIn_1 3 rfl rfl)
theorem dX6_sentIn_26 : decode cX6_sentIn 26 = .ok (.goto 4, 3) := dk_167 0 4 (dk_at dksX6_sentIn_1 4 rfl rfl)
theorem dX6_sentIn_29 : decode cX6_sentIn 29 = .ok (.iconst 0, 1) := dk_3 (dk_at dksX6_sentIn_1 7 rfl rfl)
theorem dX6_sentIn_30 : decode cX6_sentIn 30 = .ok (.iconst 1, 1) := dk_4 (dk_at dksX6_sentIn_1 8 rfl rfl)
theorem dX6_sentIn_31 : decode cX6_sentIn 31 = .ok (.invokevirtual 78, 3) := dk_182 0 78 (dk_at dksX6_sentIn_1 9 rfl rfl)
theorem dX6_sentIn_34 : decode cX6_sentIn 34 = .ok (.ifCond .ne 5, 3) := dk_154 0 5 (dk_at dksX6_sentIn_1 12 rfl rfl)
theorem dX6_sentIn_37 : decode cX6_sentIn 37 = .ok (.iconst 0, 1) := dk_3 (dk_at dksX6_sentIn_1 15 rfl rfl)
theorem dX6_sentIn_38 : decode cX6_sentIn 38 = .ok (.ireturn, 1) := dk_172 (dk_at dksX6_sentIn_1 16 rfl rfl)
theorem dX6_sentIn_39 : decode cX6_sentIn 39 = .ok (.aload_n 0, 1) := dk_42 (dk_at dksX6_sentIn_1 17 rfl rfl)
theorem dX6_sentIn_40 : decode cX6_sentIn 40 = .ok (.invokevirtual 315, 3) := dk_182 1 59 (dk_at dksX6_sentIn_1 18 rfl rfl)
theorem dX6_sentIn_43 : decode cX6_sentIn 43 = .ok (.aload_n 0, 1) := dk_42 (dk_at dksX6_sentIn_1 21 rfl rfl)
theorem dX6_sentIn_44 : decode cX6_sentIn 44 = .ok (.getfield 28, 3) := dk_180 0 28 (dk_at dksX6_sentIn_2 0 rfl rfl)
theorem dX6_sentIn_47 : decode cX6_sentIn 47 = .ok (.bipush 7, 2) := dk_16 7 (dk_at dksX6_sentIn_2 3 rfl rfl)
theorem dX6_sentIn_49 : decode cX6_sentIn 49 = .ok (.iload_n 2, 1) := dk_28 (dk_at dksX6_sentIn_2 5 rfl rfl)
theorem dX6_sentIn_50 : decode cX6_sentIn 50 = .ok (.iastore, 1) := dk_79 (dk_at dksX6_sentIn_2 6 rfl rfl)
theorem dX6_sentIn_51 : decode cX6_sentIn 51 = .ok (.iconst 0, 1) := dk_3 (dk_at dksX6_sentIn_2 7 rfl rfl)
theorem dX6_sentIn_52 : decode cX6_sentIn 52 = .ok (.istore_n 3, 1) := dk_62 (dk_at dksX6_sentIn_2 8 rfl rfl)
theorem dX6_sentIn_53 : decode cX6_sentIn 53 = .ok (.iload_n 3, 1) := dk_29 (dk_at dksX6_sentIn_2 9 rfl rfl)
theorem dX6_sentIn_54 : decode cX6_sentIn 54 = .ok (.iload_n 1, 1) := dk_27 (dk_at dksX6_sentIn_2 10 rfl rfl)
theorem dX6_sentIn_55 : decode cX6_sentIn 55 = .ok (.if_icmp .ge 19, 3) := dk_162 0 19 (dk_at dksX6_sentIn_2 11 rfl rfl)
theorem dX6_sentIn_58 : decode cX6_sentIn 58 = .ok (.aload_n 0, 1) := dk_42 (dk_at dksX6_sentIn_2 14 rfl rfl)
theorem dX6_sentIn_59 : decode cX6_sentIn 59 = .ok (.aload_n 0, 1) := dk_42 (dk_at dksX6_sentIn_2 15 rfl rfl)
theorem dX6_sentIn_60 : decode cX6_sentIn 60 = .ok (.getfield 28, 3) := dk_180 0 28 (dk_at dksX6_sentIn_2 16 rfl rfl)
theorem dX6_sentIn_63 : decode cX6_sentIn 63 = .ok (.invokevirtual 312, 3) := dk_182 1 56 (dk_at dksX6_sentIn_2 19 rfl rfl)
theorem dX6_sentIn_66 : decode cX6_sentIn 66 = .ok (.istore 4, 2) := dk_54 4 (dk_at dksX6_sentIn_2 22 rfl rfl)
theorem dX6_sentIn_68 : decode cX6_sentIn 68 = .ok (.iinc 3 1, 3) := dk_132 3 1 (dk_at dksX6_sentIn_3 0 rfl rfl)
theorem dX6_sentIn_71 : decode cX6_sentIn 71 = .ok (.goto (-18), 3) := dk_167 255 238 (dk_at dksX6_sentIn_3 3 rfl rfl)
theorem dX6_sentIn_74 : decode cX6_sentIn 74 = .ok (.aload_n 0, 1) := dk_42 (dk_at dksX6_sentIn_3 6 rfl rfl)
theorem dX6_sentIn_75 : decode cX6_sentIn 75 = .ok (.getfield 28, 3) := dk_180 0 28 (dk_at dksX6_sentIn_3 7 rfl rfl)
theorem dX6_sentIn_78 : decode cX6_sentIn 78 = .ok (.iconst 4, 1) := dk_7 (dk_at dksX6_sentIn_3 10 rfl rfl)
theorem dX6_sentIn_79 : decode cX6_sentIn 79 = .ok (.iaload, 1) := dk_46 (dk_at dksX6_sentIn_3 11 rfl rfl)
theorem dX6_sentIn_80 : decode cX6_sentIn 80 = .ok (.aload_n 0, 1) := dk_42 (dk_at dksX6_sentIn_3 12 rfl rfl)
theorem dX6_sentIn_81 : decode cX6_sentIn 81 = .ok (.getfield 25, 3) := dk_180 0 25 (dk_at dksX6_sentIn_3 13 rfl rfl)
theorem dX6_sentIn_84 : decode cX6_sentIn 84 = .ok (.iconst 4, 1) := dk_7 (dk_at dksX6_sentIn_3 16 rfl rfl)
theorem dX6_sentIn_85 : decode cX6_sentIn 85 = .ok (.iaload, 1) := dk_46 (dk_at dksX6_sentIn_3 17 rfl rfl)
theorem dX6_sentIn_86 : decode cX6_sentIn 86 = .ok (.isub, 1) := dk_100 (dk_at dksX6_sentIn_3 18 rfl rfl)
theorem dX6_sentIn_87 : decode cX6_sentIn 87 = .ok (.ireturn, 1) := dk_172 (dk_at dksX6_sentIn_3 19 rfl rfl)
def dkwX6_run_5 : List UInt8 := [172]
abbrev dktX6_run_5 : List UInt8 := dkwX6_run_5 ++ []
def dkwX6_run_4 : List UInt8 := [29, 5, 184, 0, 157, 46, 6, 160, 0, 7, 4, 167, 0, 4, 3, 96, 61, 132, 3, 1, 167, 255, 223, 28]
abbrev dktX6_run_4 : List UInt8 := dkwX6_run_4 ++ dktX6_run_5
def dkwX6_run_3 : List UInt8 := [62, 132, 2, 1, 167, 255, 239, 3, 61, 3, 62, 29, 42, 180, 0, 207, 162, 0, 31, 28, 42, 180, 0, 25]
abbrev dktX6_run_3 : List UInt8 := dkwX6_run_3 ++ dktX6_run_4
def dkwX6_run_2 : List UInt8 := [154, 0, 5, 3, 172, 42, 182, 1, 79, 3, 61, 28, 27, 162, 0, 18, 42, 42, 180, 0, 25, 182, 1, 56]
abbrev dktX6_run_2 : List UInt8 := dkwX6_run_2 ++ dktX6_run_3
def dkwX6_run_1 : List UInt8 := [180, 0, 25, 3, 46, 27, 96, 17, 19, 136, 163, 0, 7, 4, 167, 0, 4, 3, 5, 182, 0, 78]
abbrev dktX6_run_1 : List UInt8 := dkwX6_run_1 ++ dktX6_run_2
def dkwX6_run_0 : List UInt8 := [42, 3, 181, 0, 72, 42, 27, 133, 10, 20, 1, 77, 184, 0, 82, 4, 182, 0, 78, 153, 0, 30, 42, 42]
abbrev dktX6_run_0 : List UInt8 := dkwX6_run_0 ++ dktX6_run_1
theorem dksX6_run_0 : cX6_run.data.toList.drop 0 = dktX6_run_0 := by decide +kernel
theorem dksX6_run_1 : cX6_run.data.toList.drop 24 = dktX6_run_1 := dk_seg dksX6_run_0 24 rfl rfl
theorem dksX6_run_2 : cX6_run.data.toList.drop 46 = dktX6_run_2 := dk_seg dksX6_run_1 22 rfl rfl
theorem dksX6_run_3 : cX6_run.data.toList.drop 70 = dktX6_run_3 := dk_seg dksX6_run_2 24 rfl rfl
theorem dksX6_run_4 : cX6_run.data.toList.drop 94 = dktX6_run_4 := dk_seg dksX6_run_3 24 rfl rfl
theorem dksX6_run_5 : cX6_run.data.toList.drop 118 = dktX6_run_5 := dk_seg dksX6_run_4 24 rfl rfl
theorem dX6_run_0 : decode cX6_run 0 = .ok (.aload_n 0, 1) := dk_42 (dk_at dksX6_run_0 0 rfl rfl)
theorem dX6_run_1 : decode cX6_run 1 = .ok (.iconst 0, 1) := dk_3 (dk_at dksX6_run_0 1 rfl rfl)
theorem dX6_run_2 : decode cX6_run 2 = .ok (.putfield 72, 3) := dk_181 0 72 (dk_at dksX6_run_0 2 rfl rfl)
theorem dX6_run_5 : decode cX6_run 5 = .ok (.aload_n 0, 1) := dk_42 (dk_at dksX6_run_0 5 rfl rfl)
theorem dX6_run_6 : decode cX6_run 6 = .ok (.iload_n 1, 1) := dk_27 (dk_at dksX6_run_0 6 rfl rfl)
theorem dX6_run_7 : decode cX6_run 7 = .ok (.i2l, 1) := dk_133 (dk_at dksX6_run_0 7 rfl rfl)
theorem dX6_run_8 : decode cX6_run 8 = .ok (.lconst 1, 1) := dk_10 (dk_at dksX6_run_0 8 rfl rfl)
theorem dX6_run_9 : decode cX6_run 9 = .ok (.ldc2_w 333, 3) := dk_20 1 77 (dk_at dksX6_run_0 9 rfl rfl)
theorem dX6_run_12 : decode cX6_run 12 = .ok (.invokestatic 82, 3) := dk_184 0 82 (dk_at dksX6_run_0 12 rfl rfl)
theorem dX6_run_15 : decode cX6_run 15 = .ok (.iconst 1, 1) := dk_4 (dk_at dksX6_run_0 15 rfl rfl)
theorem dX6_run_16 : decode cX6_run 16 = .ok (.invokevirtual 78, 3) := dk_182 0 78 (dk_at dksX6_run_0 16 rfl rfl)
theorem dX6_run_19 : decode cX6_run 19 = .ok (.ifCond .eq 30, 3) := dk_153 0 30 (dk_at dksX6_run_0 19 rfl rfl)
theorem dX6_run_22 : decode cX6_run 22 = .ok (.aload_n 0, 1) := dk_42 (dk_at dksX6_run_0 22 rfl rfl)
theorem dX6_run_23 : decode cX6_run 23 = .ok (.aload_n 0, 1) := dk_42 (dk_at dksX6_run_0 23 rfl rfl)
theorem dX6_run_24 : decode cX6_run 24 = .ok (.getfield 25, 3) := dk_180 0 25 (dk_at dksX6_run_1 0 rfl rfl)
theorem dX6_run_27 : decode cX6_run 27 = .ok (.iconst 0, 1) := dk_3 (dk_at dksX6_run_1 3 rfl rfl)
theorem dX6_run_28 : decode cX6_run 28 = .ok (.iaload, 1) := dk_46 (dk_at dksX6_run_1 4 rfl rfl)
theorem dX6_run_29 : decode cX6_run 29 = .ok (.iload_n 1, 1) := dk_27 (dk_at dksX6_run_1 5 rfl rfl)
theorem dX6_run_30 : decode cX6_run 30 = .ok (.iadd, 1) := dk_96 (dk_at dksX6_run_1 6 rfl rfl)
theorem dX6_run_31 : decode cX6_run 31 = .ok (.sipush 5000, 3) := dk_17 19 136 (dk_at dksX6_run_1 7 rfl rfl)
theorem dX6_run_34 : decode cX6_run 34 = .ok (.if_icmp .gt 7, 3) := dk_163 0 7 (dk_at dksX6_run_1 10 rfl rfl)
theorem dX6_run_37 : decode cX6_run 37 = .ok (.iconst 1, 1) := dk_4 (dk_at dksX6_run_1 13 rfl rfl)
theorem dX6_run_38 : decode cX6_run 38 = .ok (.goto 4, 3) := dk_167 0 4 (dk_at dksX6_run_1 14 rfl rfl)
theorem dX6_run_41 : decode cX6_run 41 = .ok (.iconst 0, 1) := dk_3 (dk_at dksX6_run_1 17 rfl rfl)
theorem dX6_run_42 : decode cX6_run 42 = .ok (.iconst 2, 1) := dk_5 (dk_at dksX6_run_1 18 rfl rfl)
theorem dX6_run_43 : decode cX6_run 43 = .ok (.invokevirtual 78, 3) := dk_182 0 78 (dk_at dksX6_run_1 19 rfl rfl)
theorem dX6_run_46 : decode cX6_run 46 = .ok (.ifCond .ne 5, 3) := dk_154 0 5 (dk_at dksX6_run_2 0 rfl rfl)
theorem dX6_run_49 : decode cX6_run 49 = .ok (.iconst 0, 1) := dk_3 (dk_at dksX6_run_2 3 rfl rfl)
theorem dX6_run_50 : decode cX6_run 50 = .ok (.ireturn, 1) := dk_172 (dk_at dksX6_run_2 4 rfl rfl)
theorem dX6_run_51 : decode cX6_run 51 = .ok (.aload_n 0, 1) := dk_42 (dk_at dksX6_run_2 5 rfl rfl)
theorem dX6_run_52 : decode cX6_run 52 = .ok (.invokevirtual 335, 3) := dk_182 1 79 (dk_at dksX6_run_2 6 rfl rfl)
theorem dX6_run_55 : decode cX6_run 55 = .ok (.iconst 0, 1) := dk_3 (dk_at dksX6_run_2 9 rfl rfl)
theorem dX6_run_56 : decode cX6_run 56 = .ok (.istore_n 2, 1) := dk_61 (dk_at dksX6_run_2 10 rfl rfl)
theorem dX6_run_57 : decode cX6_run 57 = .ok (.iload_n 2, 1) := dk_28 (dk_at dksX6_run_2 11 rfl rfl)
theorem dX6_run_58 : decode cX6_run 58 = .ok (.iload_n 1, 1) := dk_27 (dk_at dksX6_run_2 12 rfl rfl)
theorem dX6_run_59 : decode cX6_run 59 = .ok (.if_icmp .ge 18, 3) := dk_162 0 18 (dk_at dksX6_run_2 13 rfl rfl)
theorem dX6_run_62 : decode cX6_run 62 = .ok (.aload_n 0, 1) := dk_42 (dk_at dksX6_run_2 16 rfl rfl)
theorem dX6_run_63 : decode cX6_run 63 = .ok (.aload_n 0, 1) := dk_42 (dk_at dksX6_run_2 17 rfl rfl)
theorem dX6_run_64 : decode cX6_run 64 = .ok (.getfield 25, 3) := dk_180 0 25 (dk_at dksX6_run_2 18 rfl rfl)
theorem dX6_run_67 : decode cX6_run 67 = .ok (.invokevirtual 312, 3) := dk_182 1 56 (dk_at dksX6_run_2 21 rfl rfl)
theorem dX6_run_70 : decode cX6_run 70 = .ok (.istore_n 3, 1) := dk_62 (dk_at dksX6_run_3 0 rfl rfl)
theorem dX6_run_71 : decode cX6_run 71 = .ok (.iinc 2 1, 3) := dk_132 2 1 (dk_at dksX6_run_3 1 rfl rfl)
theorem dX6_run_74 : decode cX6_run 74 = .ok (.goto (-17), 3) := dk_167 255 239 (dk_at dksX6_run_3 4 rfl rfl)
theorem dX6_run_77 : decode cX6_run 77 = .ok (.iconst 0, 1) := dk_3 (dk_at dksX6_run_3 7 rfl rfl)
theorem dX6_run_78 : decode cX6_run 78 = .ok (.istore_n 2, 1) := dk_61 (dk_at dksX6_run_3 8 rfl rfl)
theorem dX6_run_79 : decode cX6_run 79 = .ok (.iconst 0, 1) := dk_3 (dk_at dksX6_run_3 9 rfl rfl)
theorem dX6_run_80 : decode cX6_run 80 = .ok (.istore_n 3, 1) := dk_62 (dk_at dksX6_run_3 10 rfl rfl)
theorem dX6_run_81 : decode cX6_run 81 = .ok (.iload_n 3, 1) := dk_29 (dk_at dksX6_run_3 11 rfl rfl)
theorem dX6_run_82 : decode cX6_run 82 = .ok (.aload_n 0, 1) := dk_42 (dk_at dksX6_run_3 12 rfl rfl)
theorem dX6_run_83 : decode cX6_run 83 = .ok (.getfield 207, 3) := dk_180 0 207 (dk_at dksX6_run_3 13 rfl rfl)
theorem dX6_run_86 : decode cX6_run 86 = .ok (.if_icmp .ge 31, 3) := dk_162 0 31 (dk_at dksX6_run_3 16 rfl rfl)
theorem dX6_run_89 : decode cX6_run 89 = .ok (.iload_n 2, 1) := dk_28 (dk_at dksX6_run_3 19 rfl rfl)
theorem dX6_run_90 : decode cX6_run 90 = .ok (.aload_n 0, 1) := dk_42 (dk_at dksX6_run_3 20 rfl rfl)
theorem dX6_run_91 : decode cX6_run 91 = .ok (.getfield 25, 3) := dk_180 0 25 (dk_at dksX6_run_3 21 rfl rfl)
theorem dX6_run_94 : decode cX6_run 94 = .ok (.iload_n 3, 1) := dk_29 (dk_at dksX6_run_4 0 rfl rfl)
theorem dX6_run_95 : decode cX6_run 95 = .ok (.iconst 2, 1) := dk_5 (dk_at dksX6_run_4 1 rfl rfl)
theorem dX6_run_96 : decode cX6_run 96 = .ok (.invokestatic 157, 3) := dk_184 0 157 (dk_at dksX6_run_4 2 rfl rfl)
theorem dX6_run_99 : decode cX6_run 99 = .ok (.iaload, 1) := dk_46 (dk_at dksX6_run_4 5 rfl rfl)
theorem dX6_run_100 : decode cX6_run 100 = .ok (.iconst 3, 1) := dk_6 (dk_at dksX6_run_4 6 rfl rfl)
theorem dX6_run_101 : decode cX6_run 101 = .ok (.if_icmp .ne 7, 3) := dk_160 0 7 (dk_at dksX6_run_4 7 rfl rfl)
theorem dX6_run_104 : decode cX6_run 104 = .ok (.iconst 1, 1) := dk_4 (dk_at dksX6_run_4 10 rfl rfl)
theorem dX6_run_105 : decode cX6_run 105 = .ok (.goto 4, 3) := dk_167 0 4 (dk_at dksX6_run_4 11 rfl rfl)
theorem dX6_run_108 : decode cX6_run 108 = .ok (.iconst 0, 1) := dk_3 (dk_at dksX6_run_4 14 rfl rfl)
theorem dX6_run_109 : decode cX6_run 109 = .ok (.iadd, 1) := dk_96 (dk_at dksX6_run_4 15 rfl rfl)
theorem dX6_run_110 : decode cX6_run 110 = .ok (.istore_n 2, 1) := dk_61 (dk_at dksX6_run_4 16 rfl rfl)
theorem dX6_run_111 : decode cX6_run 111 = .ok (.iinc 3 1, 3) := dk_132 3 1 (dk_at dksX6_run_4 17 rfl rfl)
theorem dX6_run_114 : decode cX6_run 114 = .ok (.goto (-33), 3) := dk_167 255 223 (dk_at dksX6_run_4 20 rfl rfl)
theorem dX6_run_117 : decode cX6_run 117 = .ok (.iload_n 2, 1) := dk_28 (dk_at dksX6_run_4 23 rfl rfl)
theorem dX6_run_118 : decode cX6_run 118 = .ok (.ireturn, 1) := dk_172 (dk_at dksX6_run_5 0 rfl rfl)
def dkwX6_keeps_4 : List UInt8 := [89, 180, 0, 219, 4, 96, 181, 0, 219, 177]
abbrev dktX6_keeps_4 : List UInt8 := dkwX6_keeps_4 ++ []
def dkwX6_keeps_3 : List UInt8 := [17, 1, 155, 42, 180, 0, 219, 104, 27, 96, 42, 180, 0, 25, 27, 46, 79, 132, 1, 1, 167, 255, 225, 42]
abbrev dktX6_keeps_3 : List UInt8 := dkwX6_keeps_3 ++ dktX6_keeps_4
def dkwX6_keeps_2 : List UInt8 := [96, 46, 79, 132, 1, 1, 167, 255, 225, 3, 60, 27, 17, 1, 155, 162, 0, 30, 42, 180, 0, 31]
abbrev dktX6_keeps_2 : List UInt8 := dkwX6_keeps_2 ++ dktX6_keeps_3
def dkwX6_keeps_1 : List UInt8 := [17, 1, 155, 42, 180, 0, 219, 104, 162, 0, 25, 42, 180, 0, 31, 27, 42, 180, 0, 31, 27, 17, 1, 155]
abbrev dktX6_keeps_1 : List UInt8 := dkwX6_keeps_1 ++ dktX6_keeps_2
def dkwX6_keeps_0 : List UInt8 := [42, 180, 0, 219, 16, 8, 160, 0, 49, 42, 89, 180, 0, 219, 4, 100, 181, 0, 219, 3, 60, 27]
abbrev dktX6_keeps_0 : List UInt8 := dkwX6_keeps_0 ++ dktX6_keeps_1
theorem dksX6_keeps_0 : cX6_keeps.data.toList.drop 0 = dktX6_keeps_0 := by decide +kernel
theorem dksX6_keeps_1 : cX6_keeps.data.toList.drop 22 = dktX6_keeps_1 := dk_seg dksX6_keeps_0 22 rfl rfl
theorem dksX6_keeps_2 : cX6_keeps.data.toList.drop 46 = dktX6_keeps_2 := dk_seg dksX6_keeps_1 24 rfl rfl
theorem dksX6_keeps_3 : cX6_keeps.data.toList.drop 68 = dktX6_keeps_3 := dk_seg dksX6_keeps_2 22 rfl rfl
theorem dksX6_keeps_4 : cX6_keeps.data.toList.drop 92 = dktX6_keeps_4 := dk_seg dksX6_keeps_3 24 rfl rfl
theorem dX6_keeps_0 : decode cX6_keeps 0 = .ok (.aload_n 0, 1) := dk_42 (dk_at dksX6_keeps_0 0 rfl rfl)
theorem dX6_keeps_1 : decode cX6_keeps 1 = .ok (.getfield 219, 3) := dk_180 0 219 (dk_at dksX6_keeps_0 1 rfl rfl)
theorem dX6_keeps_4 : decode cX6_keeps 4 = .ok (.bipush 8, 2) := dk_16 8 (dk_at dksX6_keeps_0 4 rfl rfl)
theorem dX6_keeps_6 : decode cX6_keeps 6 = .ok (.if_icmp .ne 49, 3) := dk_160 0 49 (dk_at dksX6_keeps_0 6 rfl rfl)
theorem dX6_keeps_9 : decode cX6_keeps 9 = .ok (.aload_n 0, 1) := dk_42 (dk_at dksX6_keeps_0 9 rfl rfl)
theorem dX6_keeps_10 : decode cX6_keeps 10 = .ok (.dup, 1) := dk_89 (dk_at dksX6_keeps_0 10 rfl rfl)
theorem dX6_keeps_11 : decode cX6_keeps 11 = .ok (.getfield 219, 3) := dk_180 0 219 (dk_at dksX6_keeps_0 11 rfl rfl)
theorem dX6_keeps_14 : decode cX6_keeps 14 = .ok (.iconst 1, 1) := dk_4 (dk_at dksX6_keeps_0 14 rfl rfl)
theorem dX6_keeps_15 : decode cX6_keeps 15 = .ok (.isub, 1) := dk_100 (dk_at dksX6_keeps_0 15 rfl rfl)
theorem dX6_keeps_16 : decode cX6_keeps 16 = .ok (.putfield 219, 3) := dk_181 0 219 (dk_at dksX6_keeps_0 16 rfl rfl)
theorem dX6_keeps_19 : decode cX6_keeps 19 = .ok (.iconst 0, 1) := dk_3 (dk_at dksX6_keeps_0 19 rfl rfl)
theorem dX6_keeps_20 : decode cX6_keeps 20 = .ok (.istore_n 1, 1) := dk_60 (dk_at dksX6_keeps_0 20 rfl rfl)
theorem dX6_keeps_21 : decode cX6_keeps 21 = .ok (.iload_n 1, 1) := dk_27 (dk_at dksX6_keeps_0 21 rfl rfl)
theorem dX6_keeps_22 : decode cX6_keeps 22 = .ok (.sipush 411, 3) := dk_17 1 155 (dk_at dksX6_keeps_1 0 rfl rfl)
theorem dX6_keeps_25 : decode cX6_keeps 25 = .ok (.aload_n 0, 1) := dk_42 (dk_at dksX6_keeps_1 3 rfl rfl)
theorem dX6_keeps_26 : decode cX6_keeps 26 = .ok (.getfield 219, 3) := dk_180 0 219 (dk_at dksX6_keeps_1 4 rfl rfl)
theorem dX6_keeps_29 : decode cX6_keeps 29 = .ok (.imul, 1) := dk_104 (dk_at dksX6_keeps_1 7 rfl rfl)
theorem dX6_keeps_30 : decode cX6_keeps 30 = .ok (.if_icmp .ge 25, 3) := dk_162 0 25 (dk_at dksX6_keeps_1 8 rfl rfl)
theorem dX6_keeps_33 : decode cX6_keeps 33 = .ok (.aload_n 0, 1) := dk_42 (dk_at dksX6_keeps_1 11 rfl rfl)
theorem dX6_keeps_34 : decode cX6_keeps 34 = .ok (.getfield 31, 3) := dk_180 0 31 (dk_at dksX6_keeps_1 12 rfl rfl)
theorem dX6_keeps_37 : decode cX6_keeps 37 = .ok (.iload_n 1, 1) := dk_27 (dk_at dksX6_keeps_1 15 rfl rfl)
theorem dX6_keeps_38 : decode cX6_keeps 38 = .ok (.aload_n 0, 1) := dk_42 (dk_at dksX6_keeps_1 16 rfl rfl)
theorem dX6_keeps_39 : decode cX6_keeps 39 = .ok (.getfield 31, 3) := dk_180 0 31 (dk_at dksX6_keeps_1 17 rfl rfl)
theorem dX6_keeps_42 : decode cX6_keeps 42 = .ok (.iload_n 1, 1) := dk_27 (dk_at dksX6_keeps_1 20 rfl rfl)
theorem dX6_keeps_43 : decode cX6_keeps 43 = .ok (.sipush 411, 3) := dk_17 1 155 (dk_at dksX6_keeps_1 21 rfl rfl)
theorem dX6_keeps_46 : decode cX6_keeps 46 = .ok (.iadd, 1) := dk_96 (dk_at dksX6_keeps_2 0 rfl rfl)
theorem dX6_keeps_47 : decode cX6_keeps 47 = .ok (.iaload, 1) := dk_46 (dk_at dksX6_keeps_2 1 rfl rfl)
theorem dX6_keeps_48 : decode cX6_keeps 48 = .ok (.iastore, 1) := dk_79 (dk_at dksX6_keeps_2 2 rfl rfl)
theorem dX6_keeps_49 : decode cX6_keeps 49 = .ok (.iinc 1 1, 3) := dk_132 1 1 (dk_at dksX6_keeps_2 3 rfl rfl)
theorem dX6_keeps_52 : decode cX6_keeps 52 = .ok (.goto (-31), 3) := dk_167 255 225 (dk_at dksX6_keeps_2 6 rfl rfl)
theorem dX6_keeps_55 : decode cX6_keeps 55 = .ok (.iconst 0, 1) := dk_3 (dk_at dksX6_keeps_2 9 rfl rfl)
theorem dX6_keeps_56 : decode cX6_keeps 56 = .ok (.istore_n 1, 1) := dk_60 (dk_at dksX6_keeps_2 10 rfl rfl)
theorem dX6_keeps_57 : decode cX6_keeps 57 = .ok (.iload_n 1, 1) := dk_27 (dk_at dksX6_keeps_2 11 rfl rfl)
theorem dX6_keeps_58 : decode cX6_keeps 58 = .ok (.sipush 411, 3) := dk_17 1 155 (dk_at dksX6_keeps_2 12 rfl rfl)
theorem dX6_keeps_61 : decode cX6_keeps 61 = .ok (.if_icmp .ge 30, 3) := dk_162 0 30 (dk_at dksX6_keeps_2 15 rfl rfl)
theorem dX6_keeps_64 : decode cX6_keeps 64 = .ok (.aload_n 0, 1) := dk_42 (dk_at dksX6_keeps_2 18 rfl rfl)
theorem dX6_keeps_65 : decode cX6_keeps 65 = .ok (.getfield 31, 3) := dk_180 0 31 (dk_at dksX6_keeps_2 19 rfl rfl)
theorem dX6_keeps_68 : decode cX6_keeps 68 = .ok (.sipush 411, 3) := dk_17 1 155 (dk_at dksX6_keeps_3 0 rfl rfl)
theorem dX6_keeps_71 : decode cX6_keeps 71 = .ok (.aload_n 0, 1) := dk_42 (dk_at dksX6_keeps_3 3 rfl rfl)
theorem dX6_keeps_72 : decode cX6_keeps 72 = .ok (.getfield 219, 3) := dk_180 0 219 (dk_at dksX6_keeps_3 4 rfl rfl)
theorem dX6_keeps_75 : decode cX6_keeps 75 = .ok (.imul, 1) := dk_104 (dk_at dksX6_keeps_3 7 rfl rfl)
theorem dX6_keeps_76 : decode cX6_keeps 76 = .ok (.iload_n 1, 1) := dk_27 (dk_at dksX6_keeps_3 8 rfl rfl)
theorem dX6_keeps_77 : decode cX6_keeps 77 = .ok (.iadd, 1) := dk_96 (dk_at dksX6_keeps_3 9 rfl rfl)
theorem dX6_keeps_78 : decode cX6_keeps 78 = .ok (.aload_n 0, 1) := dk_42 (dk_at dksX6_keeps_3 10 rfl rfl)
theorem dX6_keeps_79 : decode cX6_keeps 79 = .ok (.getfield 25, 3) := dk_180 0 25 (dk_at dksX6_keeps_3 11 rfl rfl)
theorem dX6_keeps_82 : decode cX6_keeps 82 = .ok (.iload_n 1, 1) := dk_27 (dk_at dksX6_keeps_3 14 rfl rfl)
theorem dX6_keeps_83 : decode cX6_keeps 83 = .ok (.iaload, 1) := dk_46 (dk_at dksX6_keeps_3 15 rfl rfl)
theorem dX6_keeps_84 : decode cX6_keeps 84 = .ok (.iastore, 1) := dk_79 (dk_at dksX6_keeps_3 16 rfl rfl)
theorem dX6_keeps_85 : decode cX6_keeps 85 = .ok (.iinc 1 1, 3) := dk_132 1 1 (dk_at dksX6_keeps_3 17 rfl rfl)
theorem dX6_keeps_88 : decode cX6_keeps 88 = .ok (.goto (-31), 3) := dk_167 255 225 (dk_at dksX6_keeps_3 20 rfl rfl)
theorem dX6_keeps_91 : decode cX6_keeps 91 = .ok (.aload_n 0, 1) := dk_42 (dk_at dksX6_keeps_3 23 rfl rfl)
theorem dX6_keeps_92 : decode cX6_keeps 92 = .ok (.dup, 1) := dk_89 (dk_at dksX6_keeps_4 0 rfl rfl)
theorem dX6_keeps_93 : decode cX6_keeps 93 = .ok (.getfield 219, 3) := dk_180 0 219 (dk_at dksX6_keeps_4 1 rfl rfl)
theorem dX6_keeps_96 : decode cX6_keeps 96 = .ok (.iconst 1, 1) := dk_4 (dk_at dksX6_keeps_4 4 rfl rfl)
theorem dX6_keeps_97 : decode cX6_keeps 97 = .ok (.iadd, 1) := dk_96 (dk_at dksX6_keeps_4 5 rfl rfl)
theorem dX6_keeps_98 : decode cX6_keeps 98 = .ok (.putfield 219, 3) := dk_181 0 219 (dk_at dksX6_keeps_4 6 rfl rfl)
theorem dX6_keeps_101 : decode cX6_keeps 101 = .ok (.return_, 1) := dk_177 (dk_at dksX6_keeps_4 9 rfl rfl)
def dkwX6_blackout_1 : List UInt8 := [42, 182, 1, 79, 42, 42, 180, 0, 25, 27, 182, 1, 15, 42, 180, 0, 25, 4, 46, 172]
abbrev dktX6_blackout_1 : List UInt8 := dkwX6_blackout_1 ++ []
def dkwX6_blackout_0 : List UInt8 := [42, 3, 181, 0, 72, 42, 27, 133, 10, 20, 1, 82, 184, 0, 82, 4, 182, 0, 78, 154, 0, 5, 3, 172]
abbrev dktX6_blackout_0 : List UInt8 := dkwX6_blackout_0 ++ dktX6_blackout_1
theorem dksX6_blackout_0 : cX6_blackout.data.toList.drop 0 = dktX6_blackout_0 := by decide +kernel
theorem dksX6_blackout_1 : cX6_blackout.data.toList.drop 24 = dktX6_blackout_1 := dk_seg dksX6_blackout_0 24 rfl rfl
theorem dX6_blackout_0 : decode cX6_blackout 0 = .ok (.aload_n 0, 1) := dk_42 (dk_at dksX6_blackout_0 0 rfl rfl)
theorem dX6_blackout_1 : decode cX6_blackout 1 = .ok (.iconst 0, 1) := dk_3 (dk_at dksX6_blackout_0 1 rfl rfl)
theorem dX6_blackout_2 : decode cX6_blackout 2 = .ok (.putfield 72, 3) := dk_181 0 72 (dk_at dksX6_blackout_0 2 rfl rfl)
theorem dX6_blackout_5 : decode cX6_blackout 5 = .ok (.aload_n 0, 1) := dk_42 (dk_at dksX6_blackout_0 5 rfl rfl)
theorem dX6_blackout_6 : decode cX6_blackout 6 = .ok (.iload_n 1, 1) := dk_27 (dk_at dksX6_blackout_0 6 rfl rfl)
theorem dX6_blackout_7 : decode cX6_blackout 7 = .ok (.i2l, 1) := dk_133 (dk_at dksX6_blackout_0 7 rfl rfl)
theorem dX6_blackout_8 : decode cX6_blackout 8 = .ok (.lconst 1, 1) := dk_10 (dk_at dksX6_blackout_0 8 rfl rfl)
theorem dX6_blackout_9 : decode cX6_blackout 9 = .ok (.ldc2_w 338, 3) := dk_20 1 82 (dk_at dksX6_blackout_0 9 rfl rfl)
theorem dX6_blackout_12 : decode cX6_blackout 12 = .ok (.invokestatic 82, 3) := dk_184 0 82 (dk_at dksX6_blackout_0 12 rfl rfl)
theorem dX6_blackout_15 : decode cX6_blackout 15 = .ok (.iconst 1, 1) := dk_4 (dk_at dksX6_blackout_0 15 rfl rfl)
theorem dX6_blackout_16 : decode cX6_blackout 16 = .ok (.invokevirtual 78, 3) := dk_182 0 78 (dk_at dksX6_blackout_0 16 rfl rfl)
theorem dX6_blackout_19 : decode cX6_blackout 19 = .ok (.ifCond .ne 5, 3) := dk_154 0 5 (dk_at dksX6_blackout_0 19 rfl rfl)
theorem dX6_blackout_22 : decode cX6_blackout 22 = .ok (.iconst 0, 1) := dk_3 (dk_at dksX6_blackout_0 22 rfl rfl)
theorem dX6_blackout_23 : decode cX6_blackout 23 = .ok (.ireturn, 1) := dk_172 (dk_at dksX6_blackout_0 23 rfl rfl)
theorem dX6_blackout_24 : decode cX6_blackout 24 = .ok (.aload_n 0, 1) := dk_42 (dk_at dksX6_blackout_1 0 rfl rfl)
theorem dX6_blackout_25 : decode cX6_blackout 25 = .ok (.invokevirtual 335, 3) := dk_182 1 79 (dk_at dksX6_blackout_1 1 rfl rfl)
theorem dX6_blackout_28 : decode cX6_blackout 28 = .ok (.aload_n 0, 1) := dk_42 (dk_at dksX6_blackout_1 4 rfl rfl)
theorem dX6_blackout_29 : decode cX6_blackout 29 = .ok (.aload_n 0, 1) := dk_42 (dk_at dksX6_blackout_1 5 rfl rfl)
theorem dX6_blackout_30 : decode cX6_blackout 30 = .ok (.getfield 25, 3) := dk_180 0 25 (dk_at dksX6_blackout_1 6 rfl rfl)
theorem dX6_blackout_33 : decode cX6_blackout 33 = .ok (.iload_n 1, 1) := dk_27 (dk_at dksX6_blackout_1 9 rfl rfl)
theorem dX6_blackout_34 : decode cX6_blackout 34 = .ok (.invokevirtual 271, 3) := dk_182 1 15 (dk_at dksX6_blackout_1 10 rfl rfl)
theorem dX6_blackout_37 : decode cX6_blackout 37 = .ok (.aload_n 0, 1) := dk_42 (dk_at dksX6_blackout_1 13 rfl rfl)
theorem dX6_blackout_38 : decode cX6_blackout 38 = .ok (.getfield 25, 3) := dk_180 0 25 (dk_at dksX6_blackout_1 14 rfl rfl)
theorem dX6_blackout_41 : decode cX6_blackout 41 = .ok (.iconst 1, 1) := dk_4 (dk_at dksX6_blackout_1 17 rfl rfl)
theorem dX6_blackout_42 : decode cX6_blackout 42 = .ok (.iaload, 1) := dk_46 (dk_at dksX6_blackout_1 18 rfl rfl)
theorem dX6_blackout_43 : decode cX6_blackout 43 = .ok (.ireturn, 1) := dk_172 (dk_at dksX6_blackout_1 19 rfl rfl)
def dkwX6_want_5 : List UInt8 := [180, 0, 25, 27, 6, 184, 0, 157, 3, 79, 42, 180, 0, 25, 27, 16, 6, 184, 0, 157, 2, 79, 29, 172]
abbrev dktX6_want_5 : List UInt8 := dkwX6_want_5 ++ []
def dkwX6_want_4 : List UInt8 := [4, 79, 42, 180, 0, 25, 27, 5, 184, 0, 157, 28, 153, 0, 7, 4, 167, 0, 4, 3, 79, 42]
abbrev dktX6_want_4 : List UInt8 := dkwX6_want_4 ++ dktX6_want_5
def dkwX6_want_3 : List UInt8 := [42, 180, 0, 25, 27, 5, 184, 0, 157, 46, 5, 161, 0, 15, 42, 180, 0, 25, 27, 16, 7, 184, 0, 157]
abbrev dktX6_want_3 : List UInt8 := dkwX6_want_3 ++ dktX6_want_4
def dkwX6_want_2 : List UInt8 := [160, 0, 5, 29, 172, 42, 180, 0, 25, 27, 4, 184, 0, 157, 28, 153, 0, 7, 4, 167, 0, 4, 3, 79]
abbrev dktX6_want_2 : List UInt8 := dkwX6_want_2 ++ dktX6_want_3
def dkwX6_want_1 : List UInt8 := [42, 180, 0, 25, 27, 4, 184, 0, 157, 46, 4, 160, 0, 7, 4, 167, 0, 4, 3, 62, 29, 28]
abbrev dktX6_want_1 : List UInt8 := dkwX6_want_1 ++ dktX6_want_2
def dkwX6_want_0 : List UInt8 := [42, 3, 181, 0, 72, 42, 42, 27, 182, 1, 45, 4, 182, 0, 78, 154, 0, 5, 3, 172, 42, 182, 1, 79]
abbrev dktX6_want_0 : List UInt8 := dkwX6_want_0 ++ dktX6_want_1
theorem dksX6_want_0 : cX6_want.data.toList.drop 0 = dktX6_want_0 := by decide +kernel
theorem dksX6_want_1 : cX6_want.data.toList.drop 24 = dktX6_want_1 := dk_seg dksX6_want_0 24 rfl rfl
theorem dksX6_want_2 : cX6_want.data.toList.drop 46 = dktX6_want_2 := dk_seg dksX6_want_1 22 rfl rfl
theorem dksX6_want_3 : cX6_want.data.toList.drop 70 = dktX6_want_3 := dk_seg dksX6_want_2 24 rfl rfl
theorem dksX6_want_4 : cX6_want.data.toList.drop 94 = dktX6_want_4 := dk_seg dksX6_want_3 24 rfl rfl
theorem dksX6_want_5 : cX6_want.data.toList.drop 116 = dktX6_want_5 := dk_seg dksX6_want_4 22 rfl rfl
theorem dX6_want_0 : decode cX6_want 0 = .ok (.aload_n 0, 1) := dk_42 (dk_at dksX6_want_0 0 rfl rfl)
theorem dX6_want_1 : decode cX6_want 1 = .ok (.iconst 0, 1) := dk_3 (dk_at dksX6_want_0 1 rfl rfl)
theorem dX6_want_2 : decode cX6_want 2 = .ok (.putfield 72, 3) := dk_181 0 72 (dk_at dksX6_want_0 2 rfl rfl)
theorem dX6_want_5 : decode cX6_want 5 = .ok (.aload_n 0, 1) := dk_42 (dk_at dksX6_want_0 5 rfl rfl)
theorem dX6_want_6 : decode cX6_want 6 = .ok (.aload_n 0, 1) := dk_42 (dk_at dksX6_want_0 6 rfl rfl)
theorem dX6_want_7 : decode cX6_want 7 = .ok (.iload_n 1, 1) := dk_27 (dk_at dksX6_want_0 7 rfl rfl)
theorem dX6_want_8 : decode cX6_want 8 = .ok (.invokevirtual 301, 3) := dk_182 1 45 (dk_at dksX6_want_0 8 rfl rfl)
theorem dX6_want_11 : decode cX6_want 11 = .ok (.iconst 1, 1) := dk_4 (dk_at dksX6_want_0 11 rfl rfl)
theorem dX6_want_12 : decode cX6_want 12 = .ok (.invokevirtual 78, 3) := dk_182 0 78 (dk_at dksX6_want_0 12 rfl rfl)
theorem dX6_want_15 : decode cX6_want 15 = .ok (.ifCond .ne 5, 3) := dk_154 0 5 (dk_at dksX6_want_0 15 rfl rfl)
theorem dX6_want_18 : decode cX6_want 18 = .ok (.iconst 0, 1) := dk_3 (dk_at dksX6_want_0 18 rfl rfl)
theorem dX6_want_19 : decode cX6_want 19 = .ok (.ireturn, 1) := dk_172 (dk_at dksX6_want_0 19 rfl rfl)
theorem dX6_want_20 : decode cX6_want 20 = .ok (.aload_n 0, 1) := dk_42 (dk_at dksX6_want_0 20 rfl rfl)
theorem dX6_want_21 : decode cX6_want 21 = .ok (.invokevirtual 335, 3) := dk_182 1 79 (dk_at dksX6_want_0 21 rfl rfl)
theorem dX6_want_24 : decode cX6_want 24 = .ok (.aload_n 0, 1) := dk_42 (dk_at dksX6_want_1 0 rfl rfl)
theorem dX6_want_25 : decode cX6_want 25 = .ok (.getfield 25, 3) := dk_180 0 25 (dk_at dksX6_want_1 1 rfl rfl)
theorem dX6_want_28 : decode cX6_want 28 = .ok (.iload_n 1, 1) := dk_27 (dk_at dksX6_want_1 4 rfl rfl)
theorem dX6_want_29 : decode cX6_want 29 = .ok (.iconst 1, 1) := dk_4 (dk_at dksX6_want_1 5 rfl rfl)
theorem dX6_want_30 : decode cX6_want 30 = .ok (.invokestatic 157, 3) := dk_184 0 157 (dk_at dksX6_want_1 6 rfl rfl)
theorem dX6_want_33 : decode cX6_want 33 = .ok (.iaload, 1) := dk_46 (dk_at dksX6_want_1 9 rfl rfl)
theorem dX6_want_34 : decode cX6_want 34 = .ok (.iconst 1, 1) := dk_4 (dk_at dksX6_want_1 10 rfl rfl)
theorem dX6_want_35 : decode cX6_want 35 = .ok (.if_icmp .ne 7, 3) := dk_160 0 7 (dk_at dksX6_want_1 11 rfl rfl)
theorem dX6_want_38 : decode cX6_want 38 = .ok (.iconst 1, 1) := dk_4 (dk_at dksX6_want_1 14 rfl rfl)
theorem dX6_want_39 : decode cX6_want 39 = .ok (.goto 4, 3) := dk_167 0 4 (dk_at dksX6_want_1 15 rfl rfl)
theorem dX6_want_42 : decode cX6_want 42 = .ok (.iconst 0, 1) := dk_3 (dk_at dksX6_want_1 18 rfl rfl)
theorem dX6_want_43 : decode cX6_want 43 = .ok (.istore_n 3, 1) := dk_62 (dk_at dksX6_want_1 19 rfl rfl)
theorem dX6_want_44 : decode cX6_want 44 = .ok (.iload_n 3, 1) := dk_29 (dk_at dksX6_want_1 20 rfl rfl)
theorem dX6_want_45 : decode cX6_want 45 = .ok (.iload_n 2, 1) := dk_28 (dk_at dksX6_want_1 21 rfl rfl)
theorem dX6_want_46 : decode cX6_want 46 = .ok (.if_icmp .ne 5, 3) := dk_160 0 5 (dk_at dksX6_want_2 0 rfl rfl)
theorem dX6_want_49 : decode cX6_want 49 = .ok (.iload_n 3, 1) := dk_29 (dk_at dksX6_want_2 3 rfl rfl)
theorem dX6_want_50 : decode cX6_want 50 = .ok (.ireturn, 1) := dk_172 (dk_at dksX6_want_2 4 rfl rfl)
theorem dX6_want_51 : decode cX6_want 51 = .ok (.aload_n 0, 1) := dk_42 (dk_at dksX6_want_2 5 rfl rfl)
theorem dX6_want_52 : decode cX6_want 52 = .ok (.getfield 25, 3) := dk_180 0 25 (dk_at dksX6_want_2 6 rfl rfl)
theorem dX6_want_55 : decode cX6_want 55 = .ok (.iload_n 1, 1) := dk_27 (dk_at dksX6_want_2 9 rfl rfl)
theorem dX6_want_56 : decode cX6_want 56 = .ok (.iconst 1, 1) := dk_4 (dk_at dksX6_want_2 10 rfl rfl)
theorem dX6_want_57 : decode cX6_want 57 = .ok (.invokestatic 157, 3) := dk_184 0 157 (dk_at dksX6_want_2 11 rfl rfl)
theorem dX6_want_60 : decode cX6_want 60 = .ok (.iload_n 2, 1) := dk_28 (dk_at dksX6_want_2 14 rfl rfl)
theorem dX6_want_61 : decode cX6_want 61 = .ok (.ifCond .eq 7, 3) := dk_153 0 7 (dk_at dksX6_want_2 15 rfl rfl)
theorem dX6_want_64 : decode cX6_want 64 = .ok (.iconst 1, 1) := dk_4 (dk_at dksX6_want_2 18 rfl rfl)
theorem dX6_want_65 : decode cX6_want 65 = .ok (.goto 4, 3) := dk_167 0 4 (dk_at dksX6_want_2 19 rfl rfl)
theorem dX6_want_68 : decode cX6_want 68 = .ok (.iconst 0, 1) := dk_3 (dk_at dksX6_want_2 22 rfl rfl)
theorem dX6_want_69 : decode cX6_want 69 = .ok (.iastore, 1) := dk_79 (dk_at dksX6_want_2 23 rfl rfl)
theorem dX6_want_70 : decode cX6_want 70 = .ok (.aload_n 0, 1) := dk_42 (dk_at dksX6_want_3 0 rfl rfl)
theorem dX6_want_71 : decode cX6_want 71 = .ok (.getfield 25, 3) := dk_180 0 25 (dk_at dksX6_want_3 1 rfl rfl)
theorem dX6_want_74 : decode cX6_want 74 = .ok (.iload_n 1, 1) := dk_27 (dk_at dksX6_want_3 4 rfl rfl)
theorem dX6_want_75 : decode cX6_want 75 = .ok (.iconst 2, 1) := dk_5 (dk_at dksX6_want_3 5 rfl rfl)
theorem dX6_want_76 : decode cX6_want 76 = .ok (.invokestatic 157, 3) := dk_184 0 157 (dk_at dksX6_want_3 6 rfl rfl)
theorem dX6_want_79 : decode cX6_want 79 = .ok (.iaload, 1) := dk_46 (dk_at dksX6_want_3 9 rfl rfl)
theorem dX6_want_80 : decode cX6_want 80 = .ok (.iconst 2, 1) := dk_5 (dk_at dksX6_want_3 10 rfl rfl)
theorem dX6_want_81 : decode cX6_want 81 = .ok (.if_icmp .lt 15, 3) := dk_161 0 15 (dk_at dksX6_want_3 11 rfl rfl)
theorem dX6_want_84 : decode cX6_want 84 = .ok (.aload_n 0, 1) := dk_42 (dk_at dksX6_want_3 14 rfl rfl)
theorem dX6_want_85 : decode cX6_want 85 = .ok (.getfield 25, 3) := dk_180 0 25 (dk_at dksX6_want_3 15 rfl rfl)
theorem dX6_want_88 : decode cX6_want 88 = .ok (.iload_n 1, 1) := dk_27 (dk_at dksX6_want_3 18 rfl rfl)
theorem dX6_want_89 : decode cX6_want 89 = .ok (.bipush 7, 2) := dk_16 7 (dk_at dksX6_want_3 19 rfl rfl)
theorem dX6_want_91 : decode cX6_want 91 = .ok (.invokestatic 157, 3) := dk_184 0 157 (dk_at dksX6_want_3 21 rfl rfl)
theorem dX6_want_94 : decode cX6_want 94 = .ok (.iconst 1, 1) := dk_4 (dk_at dksX6_want_4 0 rfl rfl)
theorem dX6_want_95 : decode cX6_want 95 = .ok (.iastore, 1) := dk_79 (dk_at dksX6_want_4 1 rfl rfl)
theorem dX6_want_96 : decode cX6_want 96 = .ok (.aload_n 0, 1) := dk_42 (dk_at dksX6_want_4 2 rfl rfl)
theorem dX6_want_97 : decode cX6_want 97 = .ok (.getfield 25, 3) := dk_180 0 25 (dk_at dksX6_want_4 3 rfl rfl)
theorem dX6_want_100 : decode cX6_want 100 = .ok (.iload_n 1, 1) := dk_27 (dk_at dksX6_want_4 6 rfl rfl)
theorem dX6_want_101 : decode cX6_want 101 = .ok (.iconst 2, 1) := dk_5 (dk_at dksX6_want_4 7 rfl rfl)
theorem dX6_want_102 : decode cX6_want 102 = .ok (.invokestatic 157, 3) := dk_184 0 157 (dk_at dksX6_want_4 8 rfl rfl)
theorem dX6_want_105 : decode cX6_want 105 = .ok (.iload_n 2, 1) := dk_28 (dk_at dksX6_want_4 11 rfl rfl)
theorem dX6_want_106 : decode cX6_want 106 = .ok (.ifCond .eq 7, 3) := dk_153 0 7 (dk_at dksX6_want_4 12 rfl rfl)
theorem dX6_want_109 : decode cX6_want 109 = .ok (.iconst 1, 1) := dk_4 (dk_at dksX6_want_4 15 rfl rfl)
theorem dX6_want_110 : decode cX6_want 110 = .ok (.goto 4, 3) := dk_167 0 4 (dk_at dksX6_want_4 16 rfl rfl)
theorem dX6_want_113 : decode cX6_want 113 = .ok (.iconst 0, 1) := dk_3 (dk_at dksX6_want_4 19 rfl rfl)
theorem dX6_want_114 : decode cX6_want 114 = .ok (.iastore, 1) := dk_79 (dk_at dksX6_want_4 20 rfl rfl)
theorem dX6_want_115 : decode cX6_want 115 = .ok (.aload_n 0, 1) := dk_42 (dk_at dksX6_want_4 21 rfl rfl)
theorem dX6_want_116 : decode cX6_want 116 = .ok (.getfield 25, 3) := dk_180 0 25 (dk_at dksX6_want_5 0 rfl rfl)
theorem dX6_want_119 : decode cX6_want 119 = .ok (.iload_n 1, 1) := dk_27 (dk_at dksX6_want_5 3 rfl rfl)
theorem dX6_want_120 : decode cX6_want 120 = .ok (.iconst 3, 1) := dk_6 (dk_at dksX6_want_5 4 rfl rfl)
theorem dX6_want_121 : decode cX6_want 121 = .ok (.invokestatic 157, 3) := dk_184 0 157 (dk_at dksX6_want_5 5 rfl rfl)
theorem dX6_want_124 : decode cX6_want 124 = .ok (.iconst 0, 1) := dk_3 (dk_at dksX6_want_5 8 rfl rfl)
theorem dX6_want_125 : decode cX6_want 125 = .ok (.iastore, 1) := dk_79 (dk_at dksX6_want_5 9 rfl rfl)
theorem dX6_want_126 : decode cX6_want 126 = .ok (.aload_n 0, 1) := dk_42 (dk_at dksX6_want_5 10 rfl rfl)
theorem dX6_want_127 : decode cX6_want 127 = .ok (.getfield 25, 3) := dk_180 0 25 (dk_at dksX6_want_5 11 rfl rfl)
theorem dX6_want_130 : decode cX6_want 130 = .ok (.iload_n 1, 1) := dk_27 (dk_at dksX6_want_5 14 rfl rfl)
theorem dX6_want_131 : decode cX6_want 131 = .ok (.bipush 6, 2) := dk_16 6 (dk_at dksX6_want_5 15 rfl rfl)
theorem dX6_want_133 : decode cX6_want 133 = .ok (.invokestatic 157, 3) := dk_184 0 157 (dk_at dksX6_want_5 17 rfl rfl)
theorem dX6_want_136 : decode cX6_want 136 = .ok (.iconst (-1), 1) := dk_2 (dk_at dksX6_want_5 20 rfl rfl)
theorem dX6_want_137 : decode cX6_want 137 = .ok (.iastore, 1) := dk_79 (dk_at dksX6_want_5 21 rfl rfl)
theorem dX6_want_138 : decode cX6_want 138 = .ok (.iload_n 3, 1) := dk_29 (dk_at dksX6_want_5 22 rfl rfl)
theorem dX6_want_139 : decode cX6_want 139 = .ok (.ireturn, 1) := dk_172 (dk_at dksX6_want_5 23 rfl rfl)
def dkwX6_setFuse_1 : List UInt8 := [42, 182, 1, 79, 42, 180, 0, 25, 16, 6, 46, 61, 42, 180, 0, 25, 16, 6, 27, 79, 28, 172]
abbrev dktX6_setFuse_1 : List UInt8 := dkwX6_setFuse_1 ++ []
def dkwX6_setFuse_0 : List UInt8 := [42, 3, 181, 0, 72, 42, 27, 133, 10, 20, 1, 73, 184, 0, 82, 4, 182, 0, 78, 154, 0, 5, 3, 172]
abbrev dktX6_setFuse_0 : List UInt8 := dkwX6_setFuse_0 ++ dktX6_setFuse_1
theorem dksX6_setFuse_0 : cX6_setFuse.data.toList.drop 0 = dktX6_setFuse_0 := by decide +kernel
theorem dksX6_setFuse_1 : cX6_setFuse.data.toList.drop 24 = dktX6_setFuse_1 := dk_seg dksX6_setFuse_0 24 rfl rfl
theorem dX6_setFuse_0 : decode cX6_setFuse 0 = .ok (.aload_n 0, 1) := dk_42 (dk_at dksX6_setFuse_0 0 rfl rfl)
theorem dX6_setFuse_1 : decode cX6_setFuse 1 = .ok (.iconst 0, 1) := dk_3 (dk_at dksX6_setFuse_0 1 rfl rfl)
theorem dX6_setFuse_2 : decode cX6_setFuse 2 = .ok (.putfield 72, 3) := dk_181 0 72 (dk_at dksX6_setFuse_0 2 rfl rfl)
theorem dX6_setFuse_5 : decode cX6_setFuse 5 = .ok (.aload_n 0, 1) := dk_42 (dk_at dksX6_setFuse_0 5 rfl rfl)
theorem dX6_setFuse_6 : decode cX6_setFuse 6 = .ok (.iload_n 1, 1) := dk_27 (dk_at dksX6_setFuse_0 6 rfl rfl)
theorem dX6_setFuse_7 : decode cX6_setFuse 7 = .ok (.i2l, 1) := dk_133 (dk_at dksX6_setFuse_0 7 rfl rfl)
theorem dX6_setFuse_8 : decode cX6_setFuse 8 = .ok (.lconst 1, 1) := dk_10 (dk_at dksX6_setFuse_0 8 rfl rfl)
theorem dX6_setFuse_9 : decode cX6_setFuse 9 = .ok (.ldc2_w 329, 3) := dk_20 1 73 (dk_at dksX6_setFuse_0 9 rfl rfl)
theorem dX6_setFuse_12 : decode cX6_setFuse 12 = .ok (.invokestatic 82, 3) := dk_184 0 82 (dk_at dksX6_setFuse_0 12 rfl rfl)
theorem dX6_setFuse_15 : decode cX6_setFuse 15 = .ok (.iconst 1, 1) := dk_4 (dk_at dksX6_setFuse_0 15 rfl rfl)
theorem dX6_setFuse_16 : decode cX6_setFuse 16 = .ok (.invokevirtual 78, 3) := dk_182 0 78 (dk_at dksX6_setFuse_0 16 rfl rfl)
theorem dX6_setFuse_19 : decode cX6_setFuse 19 = .ok (.ifCond .ne 5, 3) := dk_154 0 5 (dk_at dksX6_setFuse_0 19 rfl rfl)
theorem dX6_setFuse_22 : decode cX6_setFuse 22 = .ok (.iconst 0, 1) := dk_3 (dk_at dksX6_setFuse_0 22 rfl rfl)
theorem dX6_setFuse_23 : decode cX6_setFuse 23 = .ok (.ireturn, 1) := dk_172 (dk_at dksX6_setFuse_0 23 rfl rfl)
theorem dX6_setFuse_24 : decode cX6_setFuse 24 = .ok (.aload_n 0, 1) := dk_42 (dk_at dksX6_setFuse_1 0 rfl rfl)
theorem dX6_setFuse_25 : decode cX6_setFuse 25 = .ok (.invokevirtual 335, 3) := dk_182 1 79 (dk_at dksX6_setFuse_1 1 rfl rfl)
theorem dX6_setFuse_28 : decode cX6_setFuse 28 = .ok (.aload_n 0, 1) := dk_42 (dk_at dksX6_setFuse_1 4 rfl rfl)
theorem dX6_setFuse_29 : decode cX6_setFuse 29 = .ok (.getfield 25, 3) := dk_180 0 25 (dk_at dksX6_setFuse_1 5 rfl rfl)
theorem dX6_setFuse_32 : decode cX6_setFuse 32 = .ok (.bipush 6, 2) := dk_16 6 (dk_at dksX6_setFuse_1 8 rfl rfl)
theorem dX6_setFuse_34 : decode cX6_setFuse 34 = .ok (.iaload, 1) := dk_46 (dk_at dksX6_setFuse_1 10 rfl rfl)
theorem dX6_setFuse_35 : decode cX6_setFuse 35 = .ok (.istore_n 2, 1) := dk_61 (dk_at dksX6_setFuse_1 11 rfl rfl)
theorem dX6_setFuse_36 : decode cX6_setFuse 36 = .ok (.aload_n 0, 1) := dk_42 (dk_at dksX6_setFuse_1 12 rfl rfl)
theorem dX6_setFuse_37 : decode cX6_setFuse 37 = .ok (.getfield 25, 3) := dk_180 0 25 (dk_at dksX6_setFuse_1 13 rfl rfl)
theorem dX6_setFuse_40 : decode cX6_setFuse 40 = .ok (.bipush 6, 2) := dk_16 6 (dk_at dksX6_setFuse_1 16 rfl rfl)
theorem dX6_setFuse_42 : decode cX6_setFuse 42 = .ok (.iload_n 1, 1) := dk_27 (dk_at dksX6_setFuse_1 18 rfl rfl)
theorem dX6_setFuse_43 : decode cX6_setFuse 43 = .ok (.iastore, 1) := dk_79 (dk_at dksX6_setFuse_1 19 rfl rfl)
theorem dX6_setFuse_44 : decode cX6_setFuse 44 = .ok (.iload_n 2, 1) := dk_28 (dk_at dksX6_setFuse_1 20 rfl rfl)
theorem dX6_setFuse_45 : decode cX6_setFuse 45 = .ok (.ireturn, 1) := dk_172 (dk_at dksX6_setFuse_1 21 rfl rfl)
def dkwX6_setPriority_2 : List UInt8 := [3, 184, 0, 157, 46, 62, 42, 180, 0, 25, 27, 3, 184, 0, 157, 28, 79, 29, 172]
abbrev dktX6_setPriority_2 : List UInt8 := dkwX6_setPriority_2 ++ []
def dkwX6_setPriority_1 : List UInt8 := [20, 1, 48, 184, 0, 82, 5, 182, 0, 78, 154, 0, 5, 3, 172, 42, 182, 1, 79, 42, 180, 0, 25, 27]
abbrev dktX6_setPriority_1 : List UInt8 := dkwX6_setPriority_1 ++ dktX6_setPriority_2
def dkwX6_setPriority_0 : List UInt8 := [42, 3, 181, 0, 72, 42, 42, 27, 182, 1, 45, 4, 182, 0, 78, 153, 0, 20, 42, 28, 133, 9]
abbrev dktX6_setPriority_0 : List UInt8 := dkwX6_setPriority_0 ++ dktX6_setPriority_1
theorem dksX6_setPriority_0 : cX6_setPriority.data.toList.drop 0 = dktX6_setPriority_0 := by decide +kernel
theorem dksX6_setPriority_1 : cX6_setPriority.data.toList.drop 22 = dktX6_setPriority_1 := dk_seg dksX6_setPriority_0 22 rfl rfl
theorem dksX6_setPriority_2 : cX6_setPriority.data.toList.drop 46 = dktX6_setPriority_2 := dk_seg dksX6_setPriority_1 24 rfl rfl
theorem dX6_setPriority_0 : decode cX6_setPriority 0 = .ok (.aload_n 0, 1) := dk_42 (dk_at dksX6_setPriority_0 0 rfl rfl)
theorem dX6_setPriority_1 : decode cX6_setPriority 1 = .ok (.iconst 0, 1) := dk_3 (dk_at dksX6_setPriority_0 1 rfl rfl)
theorem dX6_setPriority_2 : decode cX6_setPriority 2 = .ok (.putfield 72, 3) := dk_181 0 72 (dk_at dksX6_setPriority_0 2 rfl rfl)
theorem dX6_setPriority_5 : decode cX6_setPriority 5 = .ok (.aload_n 0, 1) := dk_42 (dk_at dksX6_setPriority_0 5 rfl rfl)
theorem dX6_setPriority_6 : decode cX6_setPriority 6 = .ok (.aload_n 0, 1) := dk_42 (dk_at dksX6_setPriority_0 6 rfl rfl)
theorem dX6_setPriority_7 : decode cX6_setPriority 7 = .ok (.iload_n 1, 1) := dk_27 (dk_at dksX6_setPriority_0 7 rfl rfl)
theorem dX6_setPriority_8 : decode cX6_setPriority 8 = .ok (.invokevirtual 301, 3) := dk_182 1 45 (dk_at dksX6_setPriority_0 8 rfl rfl)
theorem dX6_setPriority_11 : decode cX6_setPriority 11 = .ok (.iconst 1, 1) := dk_4 (dk_at dksX6_setPriority_0 11 rfl rfl)
theorem dX6_setPriority_12 : decode cX6_setPriority 12 = .ok (.invokevirtual 78, 3) := dk_182 0 78 (dk_at dksX6_setPriority_0 12 rfl rfl)
theorem dX6_setPriority_15 : decode cX6_setPriority 15 = .ok (.ifCond .eq 20, 3) := dk_153 0 20 (dk_at dksX6_setPriority_0 15 rfl rfl)
theorem dX6_setPriority_18 : decode cX6_setPriority 18 = .ok (.aload_n 0, 1) := dk_42 (dk_at dksX6_setPriority_0 18 rfl rfl)
theorem dX6_setPriority_19 : decode cX6_setPriority 19 = .ok (.iload_n 2, 1) := dk_28 (dk_at dksX6_setPriority_0 19 rfl rfl)
theorem dX6_setPriority_20 : decode cX6_setPriority 20 = .ok (.i2l, 1) := dk_133 (dk_at dksX6_setPriority_0 20 rfl rfl)
theorem dX6_setPriority_21 : decode cX6_setPriority 21 = .ok (.lconst 0, 1) := dk_9 (dk_at dksX6_setPriority_0 21 rfl rfl)
theorem dX6_setPriority_22 : decode cX6_setPriority 22 = .ok (.ldc2_w 304, 3) := dk_20 1 48 (dk_at dksX6_setPriority_1 0 rfl rfl)
theorem dX6_setPriority_25 : decode cX6_setPriority 25 = .ok (.invokestatic 82, 3) := dk_184 0 82 (dk_at dksX6_setPriority_1 3 rfl rfl)
theorem dX6_setPriority_28 : decode cX6_setPriority 28 = .ok (.iconst 2, 1) := dk_5 (dk_at dksX6_setPriority_1 6 rfl rfl)
theorem dX6_setPriority_29 : decode cX6_setPriority 29 = .ok (.invokevirtual 78, 3) := dk_182 0 78 (dk_at dksX6_setPriority_1 7 rfl rfl)
theorem dX6_setPriority_32 : decode cX6_setPriority 32 = .ok (.ifCond .ne 5, 3) := dk_154 0 5 (dk_at dksX6_setPriority_1 10 rfl rfl)
theorem dX6_setPriority_35 : decode cX6_setPriority 35 = .ok (.iconst 0, 1) := dk_3 (dk_at dksX6_setPriority_1 13 rfl rfl)
theorem dX6_setPriority_36 : decode cX6_setPriority 36 = .ok (.ireturn, 1) := dk_172 (dk_at dksX6_setPriority_1 14 rfl rfl)
theorem dX6_setPriority_37 : decode cX6_setPriority 37 = .ok (.aload_n 0, 1) := dk_42 (dk_at dksX6_setPriority_1 15 rfl rfl)
theorem dX6_setPriority_38 : decode cX6_setPriority 38 = .ok (.invokevirtual 335, 3) := dk_182 1 79 (dk_at dksX6_setPriority_1 16 rfl rfl)
theorem dX6_setPriority_41 : decode cX6_setPriority 41 = .ok (.aload_n 0, 1) := dk_42 (dk_at dksX6_setPriority_1 19 rfl rfl)
theorem dX6_setPriority_42 : decode cX6_setPriority 42 = .ok (.getfield 25, 3) := dk_180 0 25 (dk_at dksX6_setPriority_1 20 rfl rfl)
theorem dX6_setPriority_45 : decode cX6_setPriority 45 = .ok (.iload_n 1, 1) := dk_27 (dk_at dksX6_setPriority_1 23 rfl rfl)
theorem dX6_setPriority_46 : decode cX6_setPriority 46 = .ok (.iconst 0, 1) := dk_3 (dk_at dksX6_setPriority_2 0 rfl rfl)
theorem dX6_setPriority_47 : decode cX6_setPriority 47 = .ok (.invokestatic 157, 3) := dk_184 0 157 (dk_at dksX6_setPriority_2 1 rfl rfl)
theorem dX6_setPriority_50 : decode cX6_setPriority 50 = .ok (.iaload, 1) := dk_46 (dk_at dksX6_setPriority_2 4 rfl rfl)
theorem dX6_setPriority_51 : decode cX6_setPriority 51 = .ok (.istore_n 3, 1) := dk_62 (dk_at dksX6_setPriority_2 5 rfl rfl)
theorem dX6_setPriority_52 : decode cX6_setPriority 52 = .ok (.aload_n 0, 1) := dk_42 (dk_at dksX6_setPriority_2 6 rfl rfl)
theorem dX6_setPriority_53 : decode cX6_setPriority 53 = .ok (.getfield 25, 3) := dk_180 0 25 (dk_at dksX6_setPriority_2 7 rfl rfl)
theorem dX6_setPriority_56 : decode cX6_setPriority 56 = .ok (.iload_n 1, 1) := dk_27 (dk_at dksX6_setPriority_2 10 rfl rfl)
theorem dX6_setPriority_57 : decode cX6_setPriority 57 = .ok (.iconst 0, 1) := dk_3 (dk_at dksX6_setPriority_2 11 rfl rfl)
theorem dX6_setPriority_58 : decode cX6_setPriority 58 = .ok (.invokestatic 157, 3) := dk_184 0 157 (dk_at dksX6_setPriority_2 12 rfl rfl)
theorem dX6_setPriority_61 : decode cX6_setPriority 61 = .ok (.iload_n 2, 1) := dk_28 (dk_at dksX6_setPriority_2 15 rfl rfl)
theorem dX6_setPriority_62 : decode cX6_setPriority 62 = .ok (.iastore, 1) := dk_79 (dk_at dksX6_setPriority_2 16 rfl rfl)
theorem dX6_setPriority_63 : decode cX6_setPriority 63 = .ok (.iload_n 3, 1) := dk_29 (dk_at dksX6_setPriority_2 17 rfl rfl)
theorem dX6_setPriority_64 : decode cX6_setPriority 64 = .ok (.ireturn, 1) := dk_172 (dk_at dksX6_setPriority_2 18 rfl rfl)
def dkwX6_forget_0 : List UInt8 := [42, 3, 181, 0, 72, 42, 182, 1, 79, 42, 180, 0, 25, 184, 1, 65, 172]
abbrev dktX6_forget_0 : List UInt8 := dkwX6_forget_0 ++ []
theorem dksX6_forget_0 : cX6_forget.data.toList.drop 0 = dktX6_forget_0 := by decide +kernel
theorem dX6_forget_0 : decode cX6_forget 0 = .ok (.aload_n 0, 1) := dk_42 (dk_at dksX6_forget_0 0 rfl rfl)
theorem dX6_forget_1 : decode cX6_forget 1 = .ok (.iconst 0, 1) := dk_3 (dk_at dksX6_forget_0 1 rfl rfl)
theorem dX6_forget_2 : decode cX6_forget 2 = .ok (.putfield 72, 3) := dk_181 0 72 (dk_at dksX6_forget_0 2 rfl rfl)
theorem dX6_forget_5 : decode cX6_forget 5 = .ok (.aload_n 0, 1) := dk_42 (dk_at dksX6_forget_0 5 rfl rfl)
theorem dX6_forget_6 : decode cX6_forget 6 = .ok (.invokevirtual 335, 3) := dk_182 1 79 (dk_at dksX6_forget_0 6 rfl rfl)
theorem dX6_forget_9 : decode cX6_forget 9 = .ok (.aload_n 0, 1) := dk_42 (dk_at dksX6_forget_0 9 rfl rfl)
theorem dX6_forget_10 : decode cX6_forget 10 = .ok (.getfield 25, 3) := dk_180 0 25 (dk_at dksX6_forget_0 10 rfl rfl)
theorem dX6_forget_13 : decode cX6_forget 13 = .ok (.invokestatic 321, 3) := dk_184 1 65 (dk_at dksX6_forget_0 13 rfl rfl)
theorem dX6_forget_16 : decode cX6_forget 16 = .ok (.ireturn, 1) := dk_172 (dk_at dksX6_forget_0 16 rfl rfl)
def dkwX6_undo_3 : List UInt8 := [167, 255, 225, 42, 180, 0, 219, 172]
abbrev dktX6_undo_3 : List UInt8 := dkwX6_undo_3 ++ []
def dkwX6_undo_2 : List UInt8 := [42, 180, 0, 25, 27, 42, 180, 0, 31, 17, 1, 155, 42, 180, 0, 219, 104, 27, 96, 46, 79, 132, 1, 1]
abbrev dktX6_undo_2 : List UInt8 := dkwX6_undo_2 ++ dktX6_undo_3
def dkwX6_undo_1 : List UInt8 := [154, 0, 5, 3, 172, 42, 89, 180, 0, 219, 4, 100, 181, 0, 219, 3, 60, 27, 17, 1, 155, 162, 0, 30]
abbrev dktX6_undo_1 : List UInt8 := dkwX6_undo_1 ++ dktX6_undo_2
def dkwX6_undo_0 : List UInt8 := [42, 3, 181, 0, 72, 42, 42, 180, 0, 219, 158, 0, 7, 4, 167, 0, 4, 3, 4, 182, 0, 78]
abbrev dktX6_undo_0 : List UInt8 := dkwX6_undo_0 ++ dktX6_undo_1
theorem dksX6_undo_0 : cX6_undo.data.toList.drop 0 = dktX6_undo_0 := by decide +kernel
theorem dksX6_undo_1 : cX6_undo.data.toList.drop 22 = dktX6_undo_1 := dk_seg dksX6_undo_0 22 rfl rfl
theorem dksX6_undo_2 : cX6_undo.data.toList.drop 46 = dktX6_undo_2 := dk_seg dksX6_undo_1 24 rfl rfl
theorem dksX6_undo_3 : cX6_undo.data.toList.drop 70 = dktX6_undo_3 := dk_seg dksX6_undo_2 24 rfl rfl
theorem dX6_undo_0 : decode cX6_undo 0 = .ok (.aload_n 0, 1) := dk_42 (dk_at dksX6_undo_0 0 rfl rfl)
theorem dX6_undo_1 : decode cX6_undo 1 = .ok (.iconst 0, 1) := dk_3 (dk_at dksX6_undo_0 1 rfl rfl)
theorem dX6_undo_2 : decode cX6_undo 2 = .ok (.putfield 72, 3) := dk_181 0 72 (dk_at dksX6_undo_0 2 rfl rfl)
theorem dX6_undo_5 : decode cX6_undo 5 = .ok (.aload_n 0, 1) := dk_42 (dk_at dksX6_undo_0 5 rfl rfl)
theorem dX6_undo_6 : decode cX6_undo 6 = .ok (.aload_n 0, 1) := dk_42 (dk_at dksX6_undo_0 6 rfl rfl)
theorem dX6_undo_7 : decode cX6_undo 7 = .ok (.getfield 219, 3) := dk_180 0 219 (dk_at dksX6_undo_0 7 rfl rfl)
theorem dX6_undo_10 : decode cX6_undo 10 = .ok (.ifCond .le 7, 3) := dk_158 0 7 (dk_at dksX6_undo_0 10 rfl rfl)
theorem dX6_undo_13 : decode cX6_undo 13 = .ok (.iconst 1, 1) := dk_4 (dk_at dksX6_undo_0 13 rfl rfl)
theorem dX6_undo_14 : decode cX6_undo 14 = .ok (.goto 4, 3) := dk_167 0 4 (dk_at dksX6_undo_0 14 rfl rfl)
theorem dX6_undo_17 : decode cX6_undo 17 = .ok (.iconst 0, 1) := dk_3 (dk_at dksX6_undo_0 17 rfl rfl)
theorem dX6_undo_18 : decode cX6_undo 18 = .ok (.iconst 1, 1) := dk_4 (dk_at dksX6_undo_0 18 rfl rfl)
theorem dX6_undo_19 : decode cX6_undo 19 = .ok (.invokevirtual 78, 3) := dk_182 0 78 (dk_at dksX6_undo_0 19 rfl rfl)
theorem dX6_undo_22 : decode cX6_undo 22 = .ok (.ifCond .ne 5, 3) := dk_154 0 5 (dk_at dksX6_undo_1 0 rfl rfl)
theorem dX6_undo_25 : decode cX6_undo 25 = .ok (.iconst 0, 1) := dk_3 (dk_at dksX6_undo_1 3 rfl rfl)
theorem dX6_undo_26 : decode cX6_undo 26 = .ok (.ireturn, 1) := dk_172 (dk_at dksX6_undo_1 4 rfl rfl)
theorem dX6_undo_27 : decode cX6_undo 27 = .ok (.aload_n 0, 1) := dk_42 (dk_at dksX6_undo_1 5 rfl rfl)
theorem dX6_undo_28 : decode cX6_undo 28 = .ok (.dup, 1) := dk_89 (dk_at dksX6_undo_1 6 rfl rfl)
theorem dX6_undo_29 : decode cX6_undo 29 = .ok (.getfield 219, 3) := dk_180 0 219 (dk_at dksX6_undo_1 7 rfl rfl)
theorem dX6_undo_32 : decode cX6_undo 32 = .ok (.iconst 1, 1) := dk_4 (dk_at dksX6_undo_1 10 rfl rfl)
theorem dX6_undo_33 : decode cX6_undo 33 = .ok (.isub, 1) := dk_100 (dk_at dksX6_undo_1 11 rfl rfl)
theorem dX6_undo_34 : decode cX6_undo 34 = .ok (.putfield 219, 3) := dk_181 0 219 (dk_at dksX6_undo_1 12 rfl rfl)
theorem dX6_undo_37 : decode cX6_undo 37 = .ok (.iconst 0, 1) := dk_3 (dk_at dksX6_undo_1 15 rfl rfl)
theorem dX6_undo_38 : decode cX6_undo 38 = .ok (.istore_n 1, 1) := dk_60 (dk_at dksX6_undo_1 16 rfl rfl)
theorem dX6_undo_39 : decode cX6_undo 39 = .ok (.iload_n 1, 1) := dk_27 (dk_at dksX6_undo_1 17 rfl rfl)
theorem dX6_undo_40 : decode cX6_undo 40 = .ok (.sipush 411, 3) := dk_17 1 155 (dk_at dksX6_undo_1 18 rfl rfl)
theorem dX6_undo_43 : decode cX6_undo 43 = .ok (.if_icmp .ge 30, 3) := dk_162 0 30 (dk_at dksX6_undo_1 21 rfl rfl)
theorem dX6_undo_46 : decode cX6_undo 46 = .ok (.aload_n 0, 1) := dk_42 (dk_at dksX6_undo_2 0 rfl rfl)
theorem dX6_undo_47 : decode cX6_undo 47 = .ok (.getfield 25, 3) := dk_180 0 25 (dk_at dksX6_undo_2 1 rfl rfl)
theorem dX6_undo_50 : decode cX6_undo 50 = .ok (.iload_n 1, 1) := dk_27 (dk_at dksX6_undo_2 4 rfl rfl)
theorem dX6_undo_51 : decode cX6_undo 51 = .ok (.aload_n 0, 1) := dk_42 (dk_at dksX6_undo_2 5 rfl rfl)
theorem dX6_undo_52 : decode cX6_undo 52 = .ok (.getfield 31, 3) := dk_180 0 31 (dk_at dksX6_undo_2 6 rfl rfl)
theorem dX6_undo_55 : decode cX6_undo 55 = .ok (.sipush 411, 3) := dk_17 1 155 (dk_at dksX6_undo_2 9 rfl rfl)
theorem dX6_undo_58 : decode cX6_undo 58 = .ok (.aload_n 0, 1) := dk_42 (dk_at dksX6_undo_2 12 rfl rfl)
theorem dX6_undo_59 : decode cX6_undo 59 = .ok (.getfield 219, 3) := dk_180 0 219 (dk_at dksX6_undo_2 13 rfl rfl)
theorem dX6_undo_62 : decode cX6_undo 62 = .ok (.imul, 1) := dk_104 (dk_at dksX6_undo_2 16 rfl rfl)
theorem dX6_undo_63 : decode cX6_undo 63 = .ok (.iload_n 1, 1) := dk_27 (dk_at dksX6_undo_2 17 rfl rfl)
theorem dX6_undo_64 : decode cX6_undo 64 = .ok (.iadd, 1) := dk_96 (dk_at dksX6_undo_2 18 rfl rfl)
theorem dX6_undo_65 : decode cX6_undo 65 = .ok (.iaload, 1) := dk_46 (dk_at dksX6_undo_2 19 rfl rfl)
theorem dX6_undo_66 : decode cX6_undo 66 = .ok (.iastore, 1) := dk_79 (dk_at dksX6_undo_2 20 rfl rfl)
theorem dX6_undo_67 : decode cX6_undo 67 = .ok (.iinc 1 1, 3) := dk_132 1 1 (dk_at dksX6_undo_2 21 rfl rfl)
theorem dX6_undo_70 : decode cX6_undo 70 = .ok (.goto (-31), 3) := dk_167 255 225 (dk_at dksX6_undo_3 0 rfl rfl)
theorem dX6_undo_73 : decode cX6_undo 73 = .ok (.aload_n 0, 1) := dk_42 (dk_at dksX6_undo_3 3 rfl rfl)
theorem dX6_undo_74 : decode cX6_undo 74 = .ok (.getfield 219, 3) := dk_180 0 219 (dk_at dksX6_undo_3 4 rfl rfl)
theorem dX6_undo_77 : decode cX6_undo 77 = .ok (.ireturn, 1) := dk_172 (dk_at dksX6_undo_3 7 rfl rfl)
def dkwX6_save_2 : List UInt8 := [167, 255, 228, 42, 180, 0, 37, 27, 4, 84, 177]
abbrev dktX6_save_2 : List UInt8 := dkwX6_save_2 ++ []
def dkwX6_save_1 : List UInt8 := [162, 0, 27, 42, 180, 0, 34, 17, 1, 155, 27, 104, 28, 96, 42, 180, 0, 25, 28, 46, 79, 132, 2, 1]
abbrev dktX6_save_1 : List UInt8 := dkwX6_save_1 ++ dktX6_save_2
def dkwX6_save_0 : List UInt8 := [42, 3, 181, 0, 72, 42, 27, 184, 1, 84, 4, 182, 0, 78, 154, 0, 4, 177, 3, 61, 28, 17, 1, 155]
abbrev dktX6_save_0 : List UInt8 := dkwX6_save_0 ++ dktX6_save_1
theorem dksX6_save_0 : cX6_save.data.toList.drop 0 = dktX6_save_0 := by decide +kernel
theorem dksX6_save_1 : cX6_save.data.toList.drop 24 = dktX6_save_1 := dk_seg dksX6_save_0 24 rfl rfl
theorem dksX6_save_2 : cX6_save.data.toList.drop 48 = dktX6_save_2 := dk_seg dksX6_save_1 24 rfl rfl
theorem dX6_save_0 : decode cX6_save 0 = .ok (.aload_n 0, 1) := dk_42 (dk_at dksX6_save_0 0 rfl rfl)
theorem dX6_save_1 : decode cX6_save 1 = .ok (.iconst 0, 1) := dk_3 (dk_at dksX6_save_0 1 rfl rfl)
theorem dX6_save_2 : decode cX6_save 2 = .ok (.putfield 72, 3) := dk_181 0 72 (dk_at dksX6_save_0 2 rfl rfl)
theorem dX6_save_5 : decode cX6_save 5 = .ok (.aload_n 0, 1) := dk_42 (dk_at dksX6_save_0 5 rfl rfl)
theorem dX6_save_6 : decode cX6_save 6 = .ok (.iload_n 1, 1) := dk_27 (dk_at dksX6_save_0 6 rfl rfl)
theorem dX6_save_7 : decode cX6_save 7 = .ok (.invokestatic 340, 3) := dk_184 1 84 (dk_at dksX6_save_0 7 rfl rfl)
theorem dX6_save_10 : decode cX6_save 10 = .ok (.iconst 1, 1) := dk_4 (dk_at dksX6_save_0 10 rfl rfl)
theorem dX6_save_11 : decode cX6_save 11 = .ok (.invokevirtual 78, 3) := dk_182 0 78 (dk_at dksX6_save_0 11 rfl rfl)
theorem dX6_save_14 : decode cX6_save 14 = .ok (.ifCond .ne 4, 3) := dk_154 0 4 (dk_at dksX6_save_0 14 rfl rfl)
theorem dX6_save_17 : decode cX6_save 17 = .ok (.return_, 1) := dk_177 (dk_at dksX6_save_0 17 rfl rfl)
theorem dX6_save_18 : decode cX6_save 18 = .ok (.iconst 0, 1) := dk_3 (dk_at dksX6_save_0 18 rfl rfl)
theorem dX6_save_19 : decode cX6_save 19 = .ok (.istore_n 2, 1) := dk_61 (dk_at dksX6_save_0 19 rfl rfl)
theorem dX6_save_20 : decode cX6_save 20 = .ok (.iload_n 2, 1) := dk_28 (dk_at dksX6_save_0 20 rfl rfl)
theorem dX6_save_21 : decode cX6_save 21 = .ok (.sipush 411, 3) := dk_17 1 155 (dk_at dksX6_save_0 21 rfl rfl)
theorem dX6_save_24 : decode cX6_save 24 = .ok (.if_icmp .ge 27, 3) := dk_162 0 27 (dk_at dksX6_save_1 0 rfl rfl)
theorem dX6_save_27 : decode cX6_save 27 = .ok (.aload_n 0, 1) := dk_42 (dk_at dksX6_save_1 3 rfl rfl)
theorem dX6_save_28 : decode cX6_save 28 = .ok (.getfield 34, 3) := dk_180 0 34 (dk_at dksX6_save_1 4 rfl rfl)
theorem dX6_save_31 : decode cX6_save 31 = .ok (.sipush 411, 3) := dk_17 1 155 (dk_at dksX6_save_1 7 rfl rfl)
theorem dX6_save_34 : decode cX6_save 34 = .ok (.iload_n 1, 1) := dk_27 (dk_at dksX6_save_1 10 rfl rfl)
theorem dX6_save_35 : decode cX6_save 35 = .ok (.imul, 1) := dk_104 (dk_at dksX6_save_1 11 rfl rfl)
theorem dX6_save_36 : decode cX6_save 36 = .ok (.iload_n 2, 1) := dk_28 (dk_at dksX6_save_1 12 rfl rfl)
theorem dX6_save_37 : decode cX6_save 37 = .ok (.iadd, 1) := dk_96 (dk_at dksX6_save_1 13 rfl rfl)
theorem dX6_save_38 : decode cX6_save 38 = .ok (.aload_n 0, 1) := dk_42 (dk_at dksX6_save_1 14 rfl rfl)
theorem dX6_save_39 : decode cX6_save 39 = .ok (.getfield 25, 3) := dk_180 0 25 (dk_at dksX6_save_1 15 rfl rfl)
theorem dX6_save_42 : decode cX6_save 42 = .ok (.iload_n 2, 1) := dk_28 (dk_at dksX6_save_1 18 rfl rfl)
theorem dX6_save_43 : decode cX6_save 43 = .ok (.iaload, 1) := dk_46 (dk_at dksX6_save_1 19 rfl rfl)
theorem dX6_save_44 : decode cX6_save 44 = .ok (.iastore, 1) := dk_79 (dk_at dksX6_save_1 20 rfl rfl)
theorem dX6_save_45 : decode cX6_save 45 = .ok (.iinc 2 1, 3) := dk_132 2 1 (dk_at dksX6_save_1 21 rfl rfl)
theorem dX6_save_48 : decode cX6_save 48 = .ok (.goto (-28), 3) := dk_167 255 228 (dk_at dksX6_save_2 0 rfl rfl)
theorem dX6_save_51 : decode cX6_save 51 = .ok (.aload_n 0, 1) := dk_42 (dk_at dksX6_save_2 3 rfl rfl)
theorem dX6_save_52 : decode cX6_save 52 = .ok (.getfield 37, 3) := dk_180 0 37 (dk_at dksX6_save_2 4 rfl rfl)
theorem dX6_save_55 : decode cX6_save 55 = .ok (.iload_n 1, 1) := dk_27 (dk_at dksX6_save_2 7 rfl rfl)
theorem dX6_save_56 : decode cX6_save 56 = .ok (.iconst 1, 1) := dk_4 (dk_at dksX6_save_2 8 rfl rfl)
theorem dX6_save_57 : decode cX6_save 57 = .ok (.bastore, 1) := dk_84 (dk_at dksX6_save_2 9 rfl rfl)
theorem dX6_save_58 : decode cX6_save 58 = .ok (.return_, 1) := dk_177 (dk_at dksX6_save_2 10 rfl rfl)
def dkwX6_isSlot_0 : List UInt8 := [26, 133, 9, 10, 184, 0, 82, 172]
abbrev dktX6_isSlot_0 : List UInt8 := dkwX6_isSlot_0 ++ []
theorem dksX6_isSlot_0 : cX6_isSlot.data.toList.drop 0 = dktX6_isSlot_0 := by decide +kernel
theorem dX6_isSlot_0 : decode cX6_isSlot 0 = .ok (.iload_n 0, 1) := dk_26 (dk_at dksX6_isSlot_0 0 rfl rfl)
theorem dX6_isSlot_1 : decode cX6_isSlot 1 = .ok (.i2l, 1) := dk_133 (dk_at dksX6_isSlot_0 1 rfl rfl)
theorem dX6_isSlot_2 : decode cX6_isSlot 2 = .ok (.lconst 0, 1) := dk_9 (dk_at dksX6_isSlot_0 2 rfl rfl)
theorem dX6_isSlot_3 : decode cX6_isSlot 3 = .ok (.lconst 1, 1) := dk_10 (dk_at dksX6_isSlot_0 3 rfl rfl)
theorem dX6_isSlot_4 : decode cX6_isSlot 4 = .ok (.invokestatic 82, 3) := dk_184 0 82 (dk_at dksX6_isSlot_0 4 rfl rfl)
theorem dX6_isSlot_7 : decode cX6_isSlot 7 = .ok (.ireturn, 1) := dk_172 (dk_at dksX6_isSlot_0 7 rfl rfl)
def dkwX6_restore_2 : List UInt8 := [180, 0, 34, 17, 1, 155, 27, 104, 28, 96, 46, 79, 132, 2, 1, 167, 255, 228, 42, 3, 181, 0, 219, 177]
abbrev dktX6_restore_2 : List UInt8 := dkwX6_restore_2 ++ []
def dkwX6_restore_1 : List UInt8 := [5, 182, 0, 78, 154, 0, 4, 177, 3, 61, 28, 17, 1, 155, 162, 0, 27, 42, 180, 0, 25, 28, 42]
abbrev dktX6_restore_1 : List UInt8 := dkwX6_restore_1 ++ dktX6_restore_2
def dkwX6_restore_0 : List UInt8 := [42, 3, 181, 0, 72, 42, 27, 184, 1, 84, 4, 182, 0, 78, 153, 0, 17, 42, 42, 180, 0, 37, 27, 51]
abbrev dktX6_restore_0 : List UInt8 := dkwX6_restore_0 ++ dktX6_restore_1
theorem dksX6_restore_0 : cX6_restore.data.toList.drop 0 = dktX6_restore_0 := by decide +kernel
theorem dksX6_restore_1 : cX6_restore.data.toList.drop 24 = dktX6_restore_1 := dk_seg dksX6_restore_0 24 rfl rfl
theorem dksX6_restore_2 : cX6_restore.data.toList.drop 47 = dktX6_restore_2 := dk_seg dksX6_restore_1 23 rfl rfl
theorem dX6_restore_0 : decode cX6_restore 0 = .ok (.aload_n 0, 1) := dk_42 (dk_at dksX6_restore_0 0 rfl rfl)
theorem dX6_restore_1 : decode cX6_restore 1 = .ok (.iconst 0, 1) := dk_3 (dk_at dksX6_restore_0 1 rfl rfl)
theorem dX6_restore_2 : decode cX6_restore 2 = .ok (.putfield 72, 3) := dk_181 0 72 (dk_at dksX6_restore_0 2 rfl rfl)
theorem dX6_restore_5 : decode cX6_restore 5 = .ok (.aload_n 0, 1) := dk_42 (dk_at dksX6_restore_0 5 rfl rfl)
theorem dX6_restore_6 : decode cX6_restore 6 = .ok (.iload_n 1, 1) := dk_27 (dk_at dksX6_restore_0 6 rfl rfl)
theorem dX6_restore_7 : decode cX6_restore 7 = .ok (.invokestatic 340, 3) := dk_184 1 84 (dk_at dksX6_restore_0 7 rfl rfl)
theorem dX6_restore_10 : decode cX6_restore 10 = .ok (.iconst 1, 1) := dk_4 (dk_at dksX6_restore_0 10 rfl rfl)
theorem dX6_restore_11 : decode cX6_restore 11 = .ok (.invokevirtual 78, 3) := dk_182 0 78 (dk_at dksX6_restore_0 11 rfl rfl)
theorem dX6_restore_14 : decode cX6_restore 14 = .ok (.ifCond .eq 17, 3) := dk_153 0 17 (dk_at dksX6_restore_0 14 rfl rfl)
theorem dX6_restore_17 : decode cX6_restore 17 = .ok (.aload_n 0, 1) := dk_42 (dk_at dksX6_restore_0 17 rfl rfl)
theorem dX6_restore_18 : decode cX6_restore 18 = .ok (.aload_n 0, 1) := dk_42 (dk_at dksX6_restore_0 18 rfl rfl)
theorem dX6_restore_19 : decode cX6_restore 19 = .ok (.getfield 37, 3) := dk_180 0 37 (dk_at dksX6_restore_0 19 rfl rfl)
theorem dX6_restore_22 : decode cX6_restore 22 = .ok (.iload_n 1, 1) := dk_27 (dk_at dksX6_restore_0 22 rfl rfl)
theorem dX6_restore_23 : decode cX6_restore 23 = .ok (.baload, 1) := dk_51 (dk_at dksX6_restore_0 23 rfl rfl)
theorem dX6_restore_24 : decode cX6_restore 24 = .ok (.iconst 2, 1) := dk_5 (dk_at dksX6_restore_1 0 rfl rfl)
theorem dX6_restore_25 : decode cX6_restore 25 = .ok (.invokevirtual 78, 3) := dk_182 0 78 (dk_at dksX6_restore_1 1 rfl rfl)
theorem dX6_restore_28 : decode cX6_restore 28 = .ok (.ifCond .ne 4, 3) := dk_154 0 4 (dk_at dksX6_restore_1 4 rfl rfl)
theorem dX6_restore_31 : decode cX6_restore 31 = .ok (.return_, 1) := dk_177 (dk_at dksX6_restore_1 7 rfl rfl)
theorem dX6_restore_32 : decode cX6_restore 32 = .ok (.iconst 0, 1) := dk_3 (dk_at dksX6_restore_1 8 rfl rfl)
theorem dX6_restore_33 : decode cX6_restore 33 = .ok (.istore_n 2, 1) := dk_61 (dk_at dksX6_restore_1 9 rfl rfl)
theorem dX6_restore_34 : decode cX6_restore 34 = .ok (.iload_n 2, 1) := dk_28 (dk_at dksX6_restore_1 10 rfl rfl)
theorem dX6_restore_35 : decode cX6_restore 35 = .ok (.sipush 411, 3) := dk_17 1 155 (dk_at dksX6_restore_1 11 rfl rfl)
theorem dX6_restore_38 : decode cX6_restore 38 = .ok (.if_icmp .ge 27, 3) := dk_162 0 27 (dk_at dksX6_restore_1 14 rfl rfl)
theorem dX6_restore_41 : decode cX6_restore 41 = .ok (.aload_n 0, 1) := dk_42 (dk_at dksX6_restore_1 17 rfl rfl)
theorem dX6_restore_42 : decode cX6_restore 42 = .ok (.getfield 25, 3) := dk_180 0 25 (dk_at dksX6_restore_1 18 rfl rfl)
theorem dX6_restore_45 : decode cX6_restore 45 = .ok (.iload_n 2, 1) := dk_28 (dk_at dksX6_restore_1 21 rfl rfl)
theorem dX6_restore_46 : decode cX6_restore 46 = .ok (.aload_n 0, 1) := dk_42 (dk_at dksX6_restore_1 22 rfl rfl)
theorem dX6_restore_47 : decode cX6_restore 47 = .ok (.getfield 34, 3) := dk_180 0 34 (dk_at dksX6_restore_2 0 rfl rfl)
theorem dX6_restore_50 : decode cX6_restore 50 = .ok (.sipush 411, 3) := dk_17 1 155 (dk_at dksX6_restore_2 3 rfl rfl)
theorem dX6_restore_53 : decode cX6_restore 53 = .ok (.iload_n 1, 1) := dk_27 (dk_at dksX6_restore_2 6 rfl rfl)
theorem dX6_restore_54 : decode cX6_restore 54 = .ok (.imul, 1) := dk_104 (dk_at dksX6_restore_2 7 rfl rfl)
theorem dX6_restore_55 : decode cX6_restore 55 = .ok (.iload_n 2, 1) := dk_28 (dk_at dksX6_restore_2 8 rfl rfl)
theorem dX6_restore_56 : decode cX6_restore 56 = .ok (.iadd, 1) := dk_96 (dk_at dksX6_restore_2 9 rfl rfl)
theorem dX6_restore_57 : decode cX6_restore 57 = .ok (.iaload, 1) := dk_46 (dk_at dksX6_restore_2 10 rfl rfl)
theorem dX6_restore_58 : decode cX6_restore 58 = .ok (.iastore, 1) := dk_79 (dk_at dksX6_restore_2 11 rfl rfl)
theorem dX6_restore_59 : decode cX6_restore 59 = .ok (.iinc 2 1, 3) := dk_132 2 1 (dk_at dksX6_restore_2 12 rfl rfl)
theorem dX6_restore_62 : decode cX6_restore 62 = .ok (.goto (-28), 3) := dk_167 255 228 (dk_at dksX6_restore_2 15 rfl rfl)
theorem dX6_restore_65 : decode cX6_restore 65 = .ok (.aload_n 0, 1) := dk_42 (dk_at dksX6_restore_2 18 rfl rfl)
theorem dX6_restore_66 : decode cX6_restore 66 = .ok (.iconst 0, 1) := dk_3 (dk_at dksX6_restore_2 19 rfl rfl)
theorem dX6_restore_67 : decode cX6_restore 67 = .ok (.putfield 219, 3) := dk_181 0 219 (dk_at dksX6_restore_2 20 rfl rfl)
theorem dX6_restore_70 : decode cX6_restore 70 = .ok (.return_, 1) := dk_177 (dk_at dksX6_restore_2 23 rfl rfl)
