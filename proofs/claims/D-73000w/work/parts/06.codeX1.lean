/-! CODES AND DECODE ROWS (claim/names) -/
set_option maxRecDepth 100000
abbrev cX1_init : ByteArray := prog_1_method_1_code
def yX1_init : MethodName := ⟨RX1, "<init>", "()V"⟩
def dkwX1_init_2 : List UInt8 := [188, 10, 181, 0, 30, 42, 6, 188, 11, 181, 0, 34, 177]
abbrev dktX1_init_2 : List UInt8 := dkwX1_init_2 ++ []
def dkwX1_init_1 : List UInt8 := [183, 0, 19, 181, 0, 20, 42, 187, 0, 17, 89, 183, 0, 19, 181, 0, 24, 42, 2, 181, 0, 27, 42, 7]
abbrev dktX1_init_1 : List UInt8 := dkwX1_init_1 ++ dktX1_init_2
def dkwX1_init_0 : List UInt8 := [42, 183, 0, 1, 42, 17, 3, 132, 188, 8, 181, 0, 9, 42, 2, 181, 0, 13, 42, 187, 0, 17, 89]
abbrev dktX1_init_0 : List UInt8 := dkwX1_init_0 ++ dktX1_init_1
theorem dksX1_init_0 : cX1_init.data.toList.drop 0 = dktX1_init_0 := by decide +kernel
theorem dksX1_init_1 : cX1_init.data.toList.drop 23 = dktX1_init_1 := dk_seg dksX1_init_0 23 rfl rfl
theorem dksX1_init_2 : cX1_init.data.toList.drop 47 = dktX1_init_2 := dk_seg dksX1_init_1 24 rfl rfl
theorem dX1_init_0 : decode cX1_init 0 = .ok (.aload_n 0, 1) := dk_42 (dk_at dksX1_init_0 0 rfl rfl)
theorem dX1_init_1 : decode cX1_init 1 = .ok (.invokespecial 1, 3) := dk_183 0 1 (dk_at dksX1_init_0 1 rfl rfl)
theorem dX1_init_4 : decode cX1_init 4 = .ok (.aload_n 0, 1) := dk_42 (dk_at dksX1_init_0 4 rfl rfl)
theorem dX1_init_5 : decode cX1_init 5 = .ok (.sipush 900, 3) := dk_17 3 132 (dk_at dksX1_init_0 5 rfl rfl)
theorem dX1_init_8 : decode cX1_init 8 = .ok (.newarray .byte, 2) := dk_188_8 (dk_at dksX1_init_0 8 rfl rfl)
theorem dX1_init_10 : decode cX1_init 10 = .ok (.putfield 9, 3) := dk_181 0 9 (dk_at dksX1_init_0 10 rfl rfl)
theorem dX1_init_13 : decode cX1_init 13 = .ok (.aload_n 0, 1) := dk_42 (dk_at dksX1_init_0 13 rfl rfl)
theorem dX1_init_14 : decode cX1_init 14 = .ok (.iconst (-1), 1) := dk_2 (dk_at dksX1_init_0 14 rfl rfl)
theorem dX1_init_15 : decode cX1_init 15 = .ok (.putfield 13, 3) := dk_181 0 13 (dk_at dksX1_init_0 15 rfl rfl)
theorem dX1_init_18 : decode cX1_init 18 = .ok (.aload_n 0, 1) := dk_42 (dk_at dksX1_init_0 18 rfl rfl)
theorem dX1_init_19 : decode cX1_init 19 = .ok (.new 17, 3) := dk_187 0 17 (dk_at dksX1_init_0 19 rfl rfl)
theorem dX1_init_22 : decode cX1_init 22 = .ok (.dup, 1) := dk_89 (dk_at dksX1_init_0 22 rfl rfl)
theorem dX1_init_23 : decode cX1_init 23 = .ok (.invokespecial 19, 3) := dk_183 0 19 (dk_at dksX1_init_1 0 rfl rfl)
theorem dX1_init_26 : decode cX1_init 26 = .ok (.putfield 20, 3) := dk_181 0 20 (dk_at dksX1_init_1 3 rfl rfl)
theorem dX1_init_29 : decode cX1_init 29 = .ok (.aload_n 0, 1) := dk_42 (dk_at dksX1_init_1 6 rfl rfl)
theorem dX1_init_30 : decode cX1_init 30 = .ok (.new 17, 3) := dk_187 0 17 (dk_at dksX1_init_1 7 rfl rfl)
theorem dX1_init_33 : decode cX1_init 33 = .ok (.dup, 1) := dk_89 (dk_at dksX1_init_1 10 rfl rfl)
theorem dX1_init_34 : decode cX1_init 34 = .ok (.invokespecial 19, 3) := dk_183 0 19 (dk_at dksX1_init_1 11 rfl rfl)
theorem dX1_init_37 : decode cX1_init 37 = .ok (.putfield 24, 3) := dk_181 0 24 (dk_at dksX1_init_1 14 rfl rfl)
theorem dX1_init_40 : decode cX1_init 40 = .ok (.aload_n 0, 1) := dk_42 (dk_at dksX1_init_1 17 rfl rfl)
theorem dX1_init_41 : decode cX1_init 41 = .ok (.iconst (-1), 1) := dk_2 (dk_at dksX1_init_1 18 rfl rfl)
theorem dX1_init_42 : decode cX1_init 42 = .ok (.putfield 27, 3) := dk_181 0 27 (dk_at dksX1_init_1 19 rfl rfl)
theorem dX1_init_45 : decode cX1_init 45 = .ok (.aload_n 0, 1) := dk_42 (dk_at dksX1_init_1 22 rfl rfl)
theorem dX1_init_46 : decode cX1_init 46 = .ok (.iconst 4, 1) := dk_7 (dk_at dksX1_init_1 23 rfl rfl)
theorem dX1_init_47 : decode cX1_init 47 = .ok (.newarray .int, 2) := dk_188_10 (dk_at dksX1_init_2 0 rfl rfl)
theorem dX1_init_49 : decode cX1_init 49 = .ok (.putfield 30, 3) := dk_181 0 30 (dk_at dksX1_init_2 2 rfl rfl)
theorem dX1_init_52 : decode cX1_init 52 = .ok (.aload_n 0, 1) := dk_42 (dk_at dksX1_init_2 5 rfl rfl)
theorem dX1_init_53 : decode cX1_init 53 = .ok (.iconst 3, 1) := dk_6 (dk_at dksX1_init_2 6 rfl rfl)
theorem dX1_init_54 : decode cX1_init 54 = .ok (.newarray .long, 2) := dk_188_11 (dk_at dksX1_init_2 7 rfl rfl)
theorem dX1_init_56 : decode cX1_init 56 = .ok (.putfield 34, 3) := dk_181 0 34 (dk_at dksX1_init_2 9 rfl rfl)
theorem dX1_init_59 : decode cX1_init 59 = .ok (.return_, 1) := dk_177 (dk_at dksX1_init_2 12 rfl rfl)
abbrev cX1_feed : ByteArray := prog_1_method_13_code
def yX1_feed : MethodName := ⟨RX1, "feed", "(IIIII)I"⟩
def dkwX1_feed_5 : List UInt8 := [180, 0, 58, 172]
abbrev dktX1_feed_5 : List UInt8 := dkwX1_feed_5 ++ []
def dkwX1_feed_4 : List UInt8 := [112, 104, 100, 124, 145, 84, 132, 6, 1, 167, 255, 172, 42, 89, 180, 0, 58, 16, 20, 96, 181, 0, 58, 42]
abbrev dktX1_feed_4 : List UInt8 := dkwX1_feed_4 ++ dktX1_feed_5
def dkwX1_feed_3 : List UInt8 := [21, 5, 54, 7, 42, 180, 0, 9, 42, 180, 0, 58, 21, 6, 96, 21, 7, 16, 24, 16, 8, 21, 6, 7]
abbrev dktX1_feed_3 : List UInt8 := dkwX1_feed_3 ++ dktX1_feed_4
def dkwX1_feed_2 : List UInt8 := [21, 6, 16, 12, 162, 0, 7, 29, 167, 0, 17, 21, 6, 16, 16, 162, 0, 8, 21, 4, 167, 0, 5]
abbrev dktX1_feed_2 : List UInt8 := dkwX1_feed_2 ++ dktX1_feed_3
def dkwX1_feed_1 : List UInt8 := [162, 0, 83, 21, 6, 7, 162, 0, 7, 27, 167, 0, 39, 21, 6, 16, 8, 162, 0, 7, 28, 167, 0, 28]
abbrev dktX1_feed_1 : List UInt8 := dkwX1_feed_1 ++ dktX1_feed_2
def dkwX1_feed_0 : List UInt8 := [42, 180, 0, 58, 16, 20, 96, 17, 3, 132, 164, 0, 5, 2, 172, 3, 54, 6, 21, 6, 16, 20]
abbrev dktX1_feed_0 : List UInt8 := dkwX1_feed_0 ++ dktX1_feed_1
theorem dksX1_feed_0 : cX1_feed.data.toList.drop 0 = dktX1_feed_0 := by decide +kernel
theorem dksX1_feed_1 : cX1_feed.data.toList.drop 22 = dktX1_feed_1 := dk_seg dksX1_feed_0 22 rfl rfl
theorem dksX1_feed_2 : cX1_feed.data.toList.drop 46 = dktX1_feed_2 := dk_seg dksX1_feed_1 24 rfl rfl
theorem dksX1_feed_3 : cX1_feed.data.toList.drop 69 = dktX1_feed_3 := dk_seg dksX1_feed_2 23 rfl rfl
theorem dksX1_feed_4 : cX1_feed.data.toList.drop 93 = dktX1_feed_4 := dk_seg dksX1_feed_3 24 rfl rfl
theorem dksX1_feed_5 : cX1_feed.data.toList.drop 117 = dktX1_feed_5 := dk_seg dksX1_feed_4 24 rfl rfl
theorem dX1_feed_0 : decode cX1_feed 0 = .ok (.aload_n 0, 1) := dk_42 (dk_at dksX1_feed_0 0 rfl rfl)
theorem dX1_feed_1 : decode cX1_feed 1 = .ok (.getfield 58, 3) := dk_180 0 58 (dk_at dksX1_feed_0 1 rfl rfl)
theorem dX1_feed_4 : decode cX1_feed 4 = .ok (.bipush 20, 2) := dk_16 20 (dk_at dksX1_feed_0 4 rfl rfl)
theorem dX1_feed_6 : decode cX1_feed 6 = .ok (.iadd, 1) := dk_96 (dk_at dksX1_feed_0 6 rfl rfl)
theorem dX1_feed_7 : decode cX1_feed 7 = .ok (.sipush 900, 3) := dk_17 3 132 (dk_at dksX1_feed_0 7 rfl rfl)
theorem dX1_feed_10 : decode cX1_feed 10 = .ok (.if_icmp .le 5, 3) := dk_164 0 5 (dk_at dksX1_feed_0 10 rfl rfl)
theorem dX1_feed_13 : decode cX1_feed 13 = .ok (.iconst (-1), 1) := dk_2 (dk_at dksX1_feed_0 13 rfl rfl)
theorem dX1_feed_14 : decode cX1_feed 14 = .ok (.ireturn, 1) := dk_172 (dk_at dksX1_feed_0 14 rfl rfl)
theorem dX1_feed_15 : decode cX1_feed 15 = .ok (.iconst 0, 1) := dk_3 (dk_at dksX1_feed_0 15 rfl rfl)
theorem dX1_feed_16 : decode cX1_feed 16 = .ok (.istore 6, 2) := dk_54 6 (dk_at dksX1_feed_0 16 rfl rfl)
theorem dX1_feed_18 : decode cX1_feed 18 = .ok (.iload 6, 2) := dk_21 6 (dk_at dksX1_feed_0 18 rfl rfl)
theorem dX1_feed_20 : decode cX1_feed 20 = .ok (.bipush 20, 2) := dk_16 20 (dk_at dksX1_feed_0 20 rfl rfl)
theorem dX1_feed_22 : decode cX1_feed 22 = .ok (.if_icmp .ge 83, 3) := dk_162 0 83 (dk_at dksX1_feed_1 0 rfl rfl)
theorem dX1_feed_25 : decode cX1_feed 25 = .ok (.iload 6, 2) := dk_21 6 (dk_at dksX1_feed_1 3 rfl rfl)
theorem dX1_feed_27 : decode cX1_feed 27 = .ok (.iconst 4, 1) := dk_7 (dk_at dksX1_feed_1 5 rfl rfl)
theorem dX1_feed_28 : decode cX1_feed 28 = .ok (.if_icmp .ge 7, 3) := dk_162 0 7 (dk_at dksX1_feed_1 6 rfl rfl)
theorem dX1_feed_31 : decode cX1_feed 31 = .ok (.iload_n 1, 1) := dk_27 (dk_at dksX1_feed_1 9 rfl rfl)
theorem dX1_feed_32 : decode cX1_feed 32 = .ok (.goto 39, 3) := dk_167 0 39 (dk_at dksX1_feed_1 10 rfl rfl)
theorem dX1_feed_35 : decode cX1_feed 35 = .ok (.iload 6, 2) := dk_21 6 (dk_at dksX1_feed_1 13 rfl rfl)
theorem dX1_feed_37 : decode cX1_feed 37 = .ok (.bipush 8, 2) := dk_16 8 (dk_at dksX1_feed_1 15 rfl rfl)
theorem dX1_feed_39 : decode cX1_feed 39 = .ok (.if_icmp .ge 7, 3) := dk_162 0 7 (dk_at dksX1_feed_1 17 rfl rfl)
theorem dX1_feed_42 : decode cX1_feed 42 = .ok (.iload_n 2, 1) := dk_28 (dk_at dksX1_feed_1 20 rfl rfl)
theorem dX1_feed_43 : decode cX1_feed 43 = .ok (.goto 28, 3) := dk_167 0 28 (dk_at dksX1_feed_1 21 rfl rfl)
theorem dX1_feed_46 : decode cX1_feed 46 = .ok (.iload 6, 2) := dk_21 6 (dk_at dksX1_feed_2 0 rfl rfl)
theorem dX1_feed_48 : decode cX1_feed 48 = .ok (.bipush 12, 2) := dk_16 12 (dk_at dksX1_feed_2 2 rfl rfl)
theorem dX1_feed_50 : decode cX1_feed 50 = .ok (.if_icmp .ge 7, 3) := dk_162 0 7 (dk_at dksX1_feed_2 4 rfl rfl)
theorem dX1_feed_53 : decode cX1_feed 53 = .ok (.iload_n 3, 1) := dk_29 (dk_at dksX1_feed_2 7 rfl rfl)
theorem dX1_feed_54 : decode cX1_feed 54 = .ok (.goto 17, 3) := dk_167 0 17 (dk_at dksX1_feed_2 8 rfl rfl)
theorem dX1_feed_57 : decode cX1_feed 57 = .ok (.iload 6, 2) := dk_21 6 (dk_at dksX1_feed_2 11 rfl rfl)
theorem dX1_feed_59 : decode cX1_feed 59 = .ok (.bipush 16, 2) := dk_16 16 (dk_at dksX1_feed_2 13 rfl rfl)
theorem dX1_feed_61 : decode cX1_feed 61 = .ok (.if_icmp .ge 8, 3) := dk_162 0 8 (dk_at dksX1_feed_2 15 rfl rfl)
theorem dX1_feed_64 : decode cX1_feed 64 = .ok (.iload 4, 2) := dk_21 4 (dk_at dksX1_feed_2 18 rfl rfl)
theorem dX1_feed_66 : decode cX1_feed 66 = .ok (.goto 5, 3) := dk_167 0 5 (dk_at dksX1_feed_2 20 rfl rfl)
theorem dX1_feed_69 : decode cX1_feed 69 = .ok (.iload 5, 2) := dk_21 5 (dk_at dksX1_feed_3 0 rfl rfl)
theorem dX1_feed_71 : decode cX1_feed 71 = .ok (.istore 7, 2) := dk_54 7 (dk_at dksX1_feed_3 2 rfl rfl)
theorem dX1_feed_73 : decode cX1_feed 73 = .ok (.aload_n 0, 1) := dk_42 (dk_at dksX1_feed_3 4 rfl rfl)
theorem dX1_feed_74 : decode cX1_feed 74 = .ok (.getfield 9, 3) := dk_180 0 9 (dk_at dksX1_feed_3 5 rfl rfl)
theorem dX1_feed_77 : decode cX1_feed 77 = .ok (.aload_n 0, 1) := dk_42 (dk_at dksX1_feed_3 8 rfl rfl)
theorem dX1_feed_78 : decode cX1_feed 78 = .ok (.getfield 58, 3) := dk_180 0 58 (dk_at dksX1_feed_3 9 rfl rfl)
theorem dX1_feed_81 : decode cX1_feed 81 = .ok (.iload 6, 2) := dk_21 6 (dk_at dksX1_feed_3 12 rfl rfl)
theorem dX1_feed_83 : decode cX1_feed 83 = .ok (.iadd, 1) := dk_96 (dk_at dksX1_feed_3 14 rfl rfl)
theorem dX1_feed_84 : decode cX1_feed 84 = .ok (.iload 7, 2) := dk_21 7 (dk_at dksX1_feed_3 15 rfl rfl)
theorem dX1_feed_86 : decode cX1_feed 86 = .ok (.bipush 24, 2) := dk_16 24 (dk_at dksX1_feed_3 17 rfl rfl)
theorem dX1_feed_88 : decode cX1_feed 88 = .ok (.bipush 8, 2) := dk_16 8 (dk_at dksX1_feed_3 19 rfl rfl)
theorem dX1_feed_90 : decode cX1_feed 90 = .ok (.iload 6, 2) := dk_21 6 (dk_at dksX1_feed_3 21 rfl rfl)
theorem dX1_feed_92 : decode cX1_feed 92 = .ok (.iconst 4, 1) := dk_7 (dk_at dksX1_feed_3 23 rfl rfl)
theorem dX1_feed_93 : decode cX1_feed 93 = .ok (.irem, 1) := dk_112 (dk_at dksX1_feed_4 0 rfl rfl)
theorem dX1_feed_94 : decode cX1_feed 94 = .ok (.imul, 1) := dk_104 (dk_at dksX1_feed_4 1 rfl rfl)
theorem dX1_feed_95 : decode cX1_feed 95 = .ok (.isub, 1) := dk_100 (dk_at dksX1_feed_4 2 rfl rfl)
theorem dX1_feed_96 : decode cX1_feed 96 = .ok (.iushr, 1) := dk_124 (dk_at dksX1_feed_4 3 rfl rfl)
theorem dX1_feed_97 : decode cX1_feed 97 = .ok (.i2b, 1) := dk_145 (dk_at dksX1_feed_4 4 rfl rfl)
theorem dX1_feed_98 : decode cX1_feed 98 = .ok (.bastore, 1) := dk_84 (dk_at dksX1_feed_4 5 rfl rfl)
theorem dX1_feed_99 : decode cX1_feed 99 = .ok (.iinc 6 1, 3) := dk_132 6 1 (dk_at dksX1_feed_4 6 rfl rfl)
theorem dX1_feed_102 : decode cX1_feed 102 = .ok (.goto (-84), 3) := dk_167 255 172 (dk_at dksX1_feed_4 9 rfl rfl)
theorem dX1_feed_105 : decode cX1_feed 105 = .ok (.aload_n 0, 1) := dk_42 (dk_at dksX1_feed_4 12 rfl rfl)
theorem dX1_feed_106 : decode cX1_feed 106 = .ok (.dup, 1) := dk_89 (dk_at dksX1_feed_4 13 rfl rfl)
theorem dX1_feed_107 : decode cX1_feed 107 = .ok (.getfield 58, 3) := dk_180 0 58 (dk_at dksX1_feed_4 14 rfl rfl)
theorem dX1_feed_110 : decode cX1_feed 110 = .ok (.bipush 20, 2) := dk_16 20 (dk_at dksX1_feed_4 17 rfl rfl)
theorem dX1_feed_112 : decode cX1_feed 112 = .ok (.iadd, 1) := dk_96 (dk_at dksX1_feed_4 19 rfl rfl)
theorem dX1_feed_113 : decode cX1_feed 113 = .ok (.putfield 58, 3) := dk_181 0 58 (dk_at dksX1_feed_4 20 rfl rfl)
theorem dX1_feed_116 : decode cX1_feed 116 = .ok (.aload_n 0, 1) := dk_42 (dk_at dksX1_feed_4 23 rfl rfl)
theorem dX1_feed_117 : decode cX1_feed 117 = .ok (.getfield 58, 3) := dk_180 0 58 (dk_at dksX1_feed_5 0 rfl rfl)
theorem dX1_feed_120 : decode cX1_feed 120 = .ok (.ireturn, 1) := dk_172 (dk_at dksX1_feed_5 3 rfl rfl)
abbrev cX1_town : ByteArray := prog_1_method_14_code
def yX1_town : MethodName := ⟨RX1, "town", "(I)I"⟩
def dkwX1_town_5 : List UInt8 := [42, 180, 0, 20, 182, 0, 109, 42, 180, 0, 24, 182, 0, 109, 42, 42, 182, 0, 112, 182, 0, 51, 172]
abbrev dktX1_town_5 : List UInt8 := dkwX1_town_5 ++ []
def dkwX1_town_4 : List UInt8 := [183, 0, 92, 181, 0, 95, 42, 180, 0, 95, 182, 0, 99, 42, 42, 180, 0, 95, 182, 0, 102, 181, 0, 106]
abbrev dktX1_town_4 : List UInt8 := dkwX1_town_4 ++ dktX1_town_5
def dkwX1_town_3 : List UInt8 := [180, 0, 83, 181, 0, 13, 2, 172, 42, 45, 181, 0, 86, 42, 187, 0, 90, 89, 42, 180, 0, 86]
abbrev dktX1_town_3 : List UInt8 := dkwX1_town_3 ++ dktX1_town_4
def dkwX1_town_2 : List UInt8 := [182, 0, 75, 78, 42, 44, 180, 0, 79, 181, 0, 82, 45, 199, 0, 18, 42, 7, 181, 0, 44, 42, 44]
abbrev dktX1_town_2 : List UInt8 := dkwX1_town_2 ++ dktX1_town_3
def dkwX1_town_1 : List UInt8 := [187, 0, 67, 89, 42, 180, 0, 9, 27, 183, 0, 69, 183, 0, 72, 77, 42, 3, 181, 0, 58, 44]
abbrev dktX1_town_1 : List UInt8 := dkwX1_town_1 ++ dktX1_town_2
def dkwX1_town_0 : List UInt8 := [27, 3, 42, 180, 0, 58, 184, 0, 61, 154, 0, 9, 42, 5, 182, 0, 47, 172, 187, 0, 65, 89]
abbrev dktX1_town_0 : List UInt8 := dkwX1_town_0 ++ dktX1_town_1
theorem dksX1_town_0 : cX1_town.data.toList.drop 0 = dktX1_town_0 := by decide +kernel
theorem dksX1_town_1 : cX1_town.data.toList.drop 22 = dktX1_town_1 := dk_seg dksX1_town_0 22 rfl rfl
theorem dksX1_town_2 : cX1_town.data.toList.drop 44 = dktX1_town_2 := dk_seg dksX1_town_1 22 rfl rfl
theorem dksX1_town_3 : cX1_town.data.toList.drop 67 = dktX1_town_3 := dk_seg dksX1_town_2 23 rfl rfl
theorem dksX1_town_4 : cX1_town.data.toList.drop 89 = dktX1_town_4 := dk_seg dksX1_town_3 22 rfl rfl
theorem dksX1_town_5 : cX1_town.data.toList.drop 113 = dktX1_town_5 := dk_seg dksX1_town_4 24 rfl rfl
theorem dX1_town_0 : decode cX1_town 0 = .ok (.iload_n 1, 1) := dk_27 (dk_at dksX1_town_0 0 rfl rfl)
theorem dX1_town_1 : decode cX1_town 1 = .ok (.iconst 0, 1) := dk_3 (dk_at dksX1_town_0 1 rfl rfl)
theorem dX1_town_2 : decode cX1_town 2 = .ok (.aload_n 0, 1) := dk_42 (dk_at dksX1_town_0 2 rfl rfl)
theorem dX1_town_3 : decode cX1_town 3 = .ok (.getfield 58, 3) := dk_180 0 58 (dk_at dksX1_town_0 3 rfl rfl)
theorem dX1_town_6 : decode cX1_town 6 = .ok (.invokestatic 61, 3) := dk_184 0 61 (dk_at dksX1_town_0 6 rfl rfl)
theorem dX1_town_9 : decode cX1_town 9 = .ok (.ifCond .ne 9, 3) := dk_154 0 9 (dk_at dksX1_town_0 9 rfl rfl)
theorem dX1_town_12 : decode cX1_town 12 = .ok (.aload_n 0, 1) := dk_42 (dk_at dksX1_town_0 12 rfl rfl)
theorem dX1_town_13 : decode cX1_town 13 = .ok (.iconst 2, 1) := dk_5 (dk_at dksX1_town_0 13 rfl rfl)
theorem dX1_town_14 : decode cX1_town 14 = .ok (.invokevirtual 47, 3) := dk_182 0 47 (dk_at dksX1_town_0 14 rfl rfl)
theorem dX1_town_17 : decode cX1_town 17 = .ok (.ireturn, 1) := dk_172 (dk_at dksX1_town_0 17 rfl rfl)
theorem dX1_town_18 : decode cX1_town 18 = .ok (.new 65, 3) := dk_187 0 65 (dk_at dksX1_town_0 18 rfl rfl)
theorem dX1_town_21 : decode cX1_town 21 = .ok (.dup, 1) := dk_89 (dk_at dksX1_town_0 21 rfl rfl)
theorem dX1_town_22 : decode cX1_town 22 = .ok (.new 67, 3) := dk_187 0 67 (dk_at dksX1_town_1 0 rfl rfl)
theorem dX1_town_25 : decode cX1_town 25 = .ok (.dup, 1) := dk_89 (dk_at dksX1_town_1 3 rfl rfl)
theorem dX1_town_26 : decode cX1_town 26 = .ok (.aload_n 0, 1) := dk_42 (dk_at dksX1_town_1 4 rfl rfl)
theorem dX1_town_27 : decode cX1_town 27 = .ok (.getfield 9, 3) := dk_180 0 9 (dk_at dksX1_town_1 5 rfl rfl)
theorem dX1_town_30 : decode cX1_town 30 = .ok (.iload_n 1, 1) := dk_27 (dk_at dksX1_town_1 8 rfl rfl)
theorem dX1_town_31 : decode cX1_town 31 = .ok (.invokespecial 69, 3) := dk_183 0 69 (dk_at dksX1_town_1 9 rfl rfl)
theorem dX1_town_34 : decode cX1_town 34 = .ok (.invokespecial 72, 3) := dk_183 0 72 (dk_at dksX1_town_1 12 rfl rfl)
theorem dX1_town_37 : decode cX1_town 37 = .ok (.astore_n 2, 1) := dk_77 (dk_at dksX1_town_1 15 rfl rfl)
theorem dX1_town_38 : decode cX1_town 38 = .ok (.aload_n 0, 1) := dk_42 (dk_at dksX1_town_1 16 rfl rfl)
theorem dX1_town_39 : decode cX1_town 39 = .ok (.iconst 0, 1) := dk_3 (dk_at dksX1_town_1 17 rfl rfl)
theorem dX1_town_40 : decode cX1_town 40 = .ok (.putfield 58, 3) := dk_181 0 58 (dk_at dksX1_town_1 18 rfl rfl)
theorem dX1_town_43 : decode cX1_town 43 = .ok (.aload_n 2, 1) := dk_44 (dk_at dksX1_town_1 21 rfl rfl)
theorem dX1_town_44 : decode cX1_town 44 = .ok (.invokevirtual 75, 3) := dk_182 0 75 (dk_at dksX1_town_2 0 rfl rfl)
theorem dX1_town_47 : decode cX1_town 47 = .ok (.astore_n 3, 1) := dk_78 (dk_at dksX1_town_2 3 rfl rfl)
theorem dX1_town_48 : decode cX1_town 48 = .ok (.aload_n 0, 1) := dk_42 (dk_at dksX1_town_2 4 rfl rfl)
theorem dX1_town_49 : decode cX1_town 49 = .ok (.aload_n 2, 1) := dk_44 (dk_at dksX1_town_2 5 rfl rfl)
theorem dX1_town_50 : decode cX1_town 50 = .ok (.getfield 79, 3) := dk_180 0 79 (dk_at dksX1_town_2 6 rfl rfl)
theorem dX1_town_53 : decode cX1_town 53 = .ok (.putfield 82, 3) := dk_181 0 82 (dk_at dksX1_town_2 9 rfl rfl)
theorem dX1_town_56 : decode cX1_town 56 = .ok (.aload_n 3, 1) := dk_45 (dk_at dksX1_town_2 12 rfl rfl)
theorem dX1_town_57 : decode cX1_town 57 = .ok (.ifnonnull 18, 3) := dk_199 0 18 (dk_at dksX1_town_2 13 rfl rfl)
theorem dX1_town_60 : decode cX1_town 60 = .ok (.aload_n 0, 1) := dk_42 (dk_at dksX1_town_2 16 rfl rfl)
theorem dX1_town_61 : decode cX1_town 61 = .ok (.iconst 4, 1) := dk_7 (dk_at dksX1_town_2 17 rfl rfl)
theorem dX1_town_62 : decode cX1_town 62 = .ok (.putfield 44, 3) := dk_181 0 44 (dk_at dksX1_town_2 18 rfl rfl)
theorem dX1_town_65 : decode cX1_town 65 = .ok (.aload_n 0, 1) := dk_42 (dk_at dksX1_town_2 21 rfl rfl)
theorem dX1_town_66 : decode cX1_town 66 = .ok (.aload_n 2, 1) := dk_44 (dk_at dksX1_town_2 22 rfl rfl)
theorem dX1_town_67 : decode cX1_town 67 = .ok (.getfield 83, 3) := dk_180 0 83 (dk_at dksX1_town_3 0 rfl rfl)
theorem dX1_town_70 : decode cX1_town 70 = .ok (.putfield 13, 3) := dk_181 0 13 (dk_at dksX1_town_3 3 rfl rfl)
theorem dX1_town_73 : decode cX1_town 73 = .ok (.iconst (-1), 1) := dk_2 (dk_at dksX1_town_3 6 rfl rfl)
theorem dX1_town_74 : decode cX1_town 74 = .ok (.ireturn, 1) := dk_172 (dk_at dksX1_town_3 7 rfl rfl)
theorem dX1_town_75 : decode cX1_town 75 = .ok (.aload_n 0, 1) := dk_42 (dk_at dksX1_town_3 8 rfl rfl)
theorem dX1_town_76 : decode cX1_town 76 = .ok (.aload_n 3, 1) := dk_45 (dk_at dksX1_town_3 9 rfl rfl)
theorem dX1_town_77 : decode cX1_town 77 = .ok (.putfield 86, 3) := dk_181 0 86 (dk_at dksX1_town_3 10 rfl rfl)
theorem dX1_town_80 : decode cX1_town 80 = .ok (.aload_n 0, 1) := dk_42 (dk_at dksX1_town_3 13 rfl rfl)
theorem dX1_town_81 : decode cX1_town 81 = .ok (.new 90, 3) := dk_187 0 90 (dk_at dksX1_town_3 14 rfl rfl)
theorem dX1_town_84 : decode cX1_town 84 = .ok (.dup, 1) := dk_89 (dk_at dksX1_town_3 17 rfl rfl)
theorem dX1_town_85 : decode cX1_town 85 = .ok (.aload_n 0, 1) := dk_42 (dk_at dksX1_town_3 18 rfl rfl)
theorem dX1_town_86 : decode cX1_town 86 = .ok (.getfield 86, 3) := dk_180 0 86 (dk_at dksX1_town_3 19 rfl rfl)
theorem dX1_town_89 : decode cX1_town 89 = .ok (.invokespecial 92, 3) := dk_183 0 92 (dk_at dksX1_town_4 0 rfl rfl)
theorem dX1_town_92 : decode cX1_town 92 = .ok (.putfield 95, 3) := dk_181 0 95 (dk_at dksX1_town_4 3 rfl rfl)
theorem dX1_town_95 : decode cX1_town 95 = .ok (.aload_n 0, 1) := dk_42 (dk_at dksX1_town_4 6 rfl rfl)
theorem dX1_town_96 : decode cX1_town 96 = .ok (.getfield 95, 3) := dk_180 0 95 (dk_at dksX1_town_4 7 rfl rfl)
theorem dX1_town_99 : decode cX1_town 99 = .ok (.invokevirtual 99, 3) := dk_182 0 99 (dk_at dksX1_town_4 10 rfl rfl)
theorem dX1_town_102 : decode cX1_town 102 = .ok (.aload_n 0, 1) := dk_42 (dk_at dksX1_town_4 13 rfl rfl)
theorem dX1_town_103 : decode cX1_town 103 = .ok (.aload_n 0, 1) := dk_42 (dk_at dksX1_town_4 14 rfl rfl)
theorem dX1_town_104 : decode cX1_town 104 = .ok (.getfield 95, 3) := dk_180 0 95 (dk_at dksX1_town_4 15 rfl rfl)
theorem dX1_town_107 : decode cX1_town 107 = .ok (.invokevirtual 102, 3) := dk_182 0 102 (dk_at dksX1_town_4 18 rfl rfl)
theorem dX1_town_110 : decode cX1_town 110 = .ok (.putfield 106, 3) := dk_181 0 106 (dk_at dksX1_town_4 21 rfl rfl)
theorem dX1_town_113 : decode cX1_town 113 = .ok (.aload_n 0, 1) := dk_42 (dk_at dksX1_town_5 0 rfl rfl)
theorem dX1_town_114 : decode cX1_town 114 = .ok (.getfield 20, 3) := dk_180 0 20 (dk_at dksX1_town_5 1 rfl rfl)
theorem dX1_town_117 : decode cX1_town 117 = .ok (.invokevirtual 109, 3) := dk_182 0 109 (dk_at dksX1_town_5 4 rfl rfl)
theorem dX1_town_120 : decode cX1_town 120 = .ok (.aload_n 0, 1) := dk_42 (dk_at dksX1_town_5 7 rfl rfl)
theorem dX1_town_121 : decode cX1_town 121 = .ok (.getfield 24, 3) := dk_180 0 24 (dk_at dksX1_town_5 8 rfl rfl)
theorem dX1_town_124 : decode cX1_town 124 = .ok (.invokevirtual 109, 3) := dk_182 0 109 (dk_at dksX1_town_5 11 rfl rfl)
theorem dX1_town_127 : decode cX1_town 127 = .ok (.aload_n 0, 1) := dk_42 (dk_at dksX1_town_5 14 rfl rfl)
theorem dX1_town_128 : decode cX1_town 128 = .ok (.aload_n 0, 1) := dk_42 (dk_at dksX1_town_5 15 rfl rfl)
theorem dX1_town_129 : decode cX1_town 129 = .ok (.invokevirtual 112, 3) := dk_182 0 112 (dk_at dksX1_town_5 16 rfl rfl)
theorem dX1_town_132 : decode cX1_town 132 = .ok (.invokevirtual 51, 3) := dk_182 0 51 (dk_at dksX1_town_5 19 rfl rfl)
theorem dX1_town_135 : decode cX1_town 135 = .ok (.ireturn, 1) := dk_172 (dk_at dksX1_town_5 22 rfl rfl)
abbrev cX1_in : ByteArray := prog_1_method_2_code
def yX1_in : MethodName := ⟨RX1, "in", "(III)Z"⟩
def dkwX1_in_0 : List UInt8 := [26, 27, 161, 0, 12, 26, 28, 163, 0, 7, 4, 167, 0, 4, 3, 172]
abbrev dktX1_in_0 : List UInt8 := dkwX1_in_0 ++ []
theorem dksX1_in_0 : cX1_in.data.toList.drop 0 = dktX1_in_0 := by decide +kernel
theorem dX1_in_0 : decode cX1_in 0 = .ok (.iload_n 0, 1) := dk_26 (dk_at dksX1_in_0 0 rfl rfl)
theorem dX1_in_1 : decode cX1_in 1 = .ok (.iload_n 1, 1) := dk_27 (dk_at dksX1_in_0 1 rfl rfl)
theorem dX1_in_2 : decode cX1_in 2 = .ok (.if_icmp .lt 12, 3) := dk_161 0 12 (dk_at dksX1_in_0 2 rfl rfl)
theorem dX1_in_5 : decode cX1_in 5 = .ok (.iload_n 0, 1) := dk_26 (dk_at dksX1_in_0 5 rfl rfl)
theorem dX1_in_6 : decode cX1_in 6 = .ok (.iload_n 2, 1) := dk_28 (dk_at dksX1_in_0 6 rfl rfl)
theorem dX1_in_7 : decode cX1_in 7 = .ok (.if_icmp .gt 7, 3) := dk_163 0 7 (dk_at dksX1_in_0 7 rfl rfl)
theorem dX1_in_10 : decode cX1_in 10 = .ok (.iconst 1, 1) := dk_4 (dk_at dksX1_in_0 10 rfl rfl)
theorem dX1_in_11 : decode cX1_in 11 = .ok (.goto 4, 3) := dk_167 0 4 (dk_at dksX1_in_0 11 rfl rfl)
theorem dX1_in_14 : decode cX1_in 14 = .ok (.iconst 0, 1) := dk_3 (dk_at dksX1_in_0 14 rfl rfl)
theorem dX1_in_15 : decode cX1_in 15 = .ok (.ireturn, 1) := dk_172 (dk_at dksX1_in_0 15 rfl rfl)
abbrev cX1_refused : ByteArray := prog_1_method_7_code
def yX1_refused : MethodName := ⟨RX1, "refused", "(I)I"⟩
def dkwX1_refused_0 : List UInt8 := [42, 27, 181, 0, 44, 42, 2, 181, 0, 13, 2, 172]
abbrev dktX1_refused_0 : List UInt8 := dkwX1_refused_0 ++ []
theorem dksX1_refused_0 : cX1_refused.data.toList.drop 0 = dktX1_refused_0 := by decide +kernel
theorem dX1_refused_0 : decode cX1_refused 0 = .ok (.aload_n 0, 1) := dk_42 (dk_at dksX1_refused_0 0 rfl rfl)
theorem dX1_refused_1 : decode cX1_refused 1 = .ok (.iload_n 1, 1) := dk_27 (dk_at dksX1_refused_0 1 rfl rfl)
theorem dX1_refused_2 : decode cX1_refused 2 = .ok (.putfield 44, 3) := dk_181 0 44 (dk_at dksX1_refused_0 2 rfl rfl)
theorem dX1_refused_5 : decode cX1_refused 5 = .ok (.aload_n 0, 1) := dk_42 (dk_at dksX1_refused_0 5 rfl rfl)
theorem dX1_refused_6 : decode cX1_refused 6 = .ok (.iconst (-1), 1) := dk_2 (dk_at dksX1_refused_0 6 rfl rfl)
theorem dX1_refused_7 : decode cX1_refused 7 = .ok (.putfield 13, 3) := dk_181 0 13 (dk_at dksX1_refused_0 7 rfl rfl)
theorem dX1_refused_10 : decode cX1_refused 10 = .ok (.iconst (-1), 1) := dk_2 (dk_at dksX1_refused_0 10 rfl rfl)
theorem dX1_refused_11 : decode cX1_refused 11 = .ok (.ireturn, 1) := dk_172 (dk_at dksX1_refused_0 11 rfl rfl)
abbrev cX1_places : ByteArray := prog_1_method_17_code
def yX1_places : MethodName := ⟨RX1, "places", "()I"⟩
def dkwX1_places_0 : List UInt8 := [42, 180, 0, 86, 180, 0, 116, 182, 0, 120, 172]
abbrev dktX1_places_0 : List UInt8 := dkwX1_places_0 ++ []
theorem dksX1_places_0 : cX1_places.data.toList.drop 0 = dktX1_places_0 := by decide +kernel
theorem dX1_places_0 : decode cX1_places 0 = .ok (.aload_n 0, 1) := dk_42 (dk_at dksX1_places_0 0 rfl rfl)
theorem dX1_places_1 : decode cX1_places 1 = .ok (.getfield 86, 3) := dk_180 0 86 (dk_at dksX1_places_0 1 rfl rfl)
theorem dX1_places_4 : decode cX1_places 4 = .ok (.getfield 116, 3) := dk_180 0 116 (dk_at dksX1_places_0 4 rfl rfl)
theorem dX1_places_7 : decode cX1_places 7 = .ok (.invokevirtual 120, 3) := dk_182 0 120 (dk_at dksX1_places_0 7 rfl rfl)
theorem dX1_places_10 : decode cX1_places 10 = .ok (.ireturn, 1) := dk_172 (dk_at dksX1_places_0 10 rfl rfl)
abbrev cX1_well : ByteArray := prog_1_method_10_code
def yX1_well : MethodName := ⟨RX1, "well", "(I)I"⟩
def dkwX1_well_0 : List UInt8 := [42, 3, 181, 0, 44, 42, 2, 181, 0, 13, 27, 172]
abbrev dktX1_well_0 : List UInt8 := dkwX1_well_0 ++ []
theorem dksX1_well_0 : cX1_well.data.toList.drop 0 = dktX1_well_0 := by decide +kernel
theorem dX1_well_0 : decode cX1_well 0 = .ok (.aload_n 0, 1) := dk_42 (dk_at dksX1_well_0 0 rfl rfl)
theorem dX1_well_1 : decode cX1_well 1 = .ok (.iconst 0, 1) := dk_3 (dk_at dksX1_well_0 1 rfl rfl)
theorem dX1_well_2 : decode cX1_well 2 = .ok (.putfield 44, 3) := dk_181 0 44 (dk_at dksX1_well_0 2 rfl rfl)
theorem dX1_well_5 : decode cX1_well 5 = .ok (.aload_n 0, 1) := dk_42 (dk_at dksX1_well_0 5 rfl rfl)
theorem dX1_well_6 : decode cX1_well 6 = .ok (.iconst (-1), 1) := dk_2 (dk_at dksX1_well_0 6 rfl rfl)
theorem dX1_well_7 : decode cX1_well 7 = .ok (.putfield 13, 3) := dk_181 0 13 (dk_at dksX1_well_0 7 rfl rfl)
theorem dX1_well_10 : decode cX1_well 10 = .ok (.iload_n 1, 1) := dk_27 (dk_at dksX1_well_0 10 rfl rfl)
theorem dX1_well_11 : decode cX1_well 11 = .ok (.ireturn, 1) := dk_172 (dk_at dksX1_well_0 11 rfl rfl)
abbrev cX1_fault : ByteArray := prog_1_method_15_code
def yX1_fault : MethodName := ⟨RX1, "fault", "()I"⟩
theorem dX1_fault_0 : decode cX1_fault 0 = .ok (.aload_n 0, 1) := by decide +kernel
theorem dX1_fault_1 : decode cX1_fault 1 = .ok (.getfield 82, 3) := by decide +kernel
theorem dX1_fault_4 : decode cX1_fault 4 = .ok (.ireturn, 1) := by decide +kernel
abbrev cX1_where : ByteArray := prog_1_method_16_code
def yX1_where : MethodName := ⟨RX1, "where", "()I"⟩
theorem dX1_where_0 : decode cX1_where 0 = .ok (.aload_n 0, 1) := by decide +kernel
theorem dX1_where_1 : decode cX1_where 1 = .ok (.getfield 13, 3) := by decide +kernel
theorem dX1_where_4 : decode cX1_where 4 = .ok (.ireturn, 1) := by decide +kernel
abbrev cX1_person : ByteArray := prog_1_method_35_code
def yX1_person : MethodName := ⟨RX1, "person", "(II)I"⟩
def dkwX1_person_5 : List UInt8 := [182, 0, 51, 172, 42, 42, 27, 182, 0, 254, 182, 0, 51, 172]
abbrev dktX1_person_5 : List UInt8 := dkwX1_person_5 ++ []
def dkwX1_person_4 : List UInt8 := [182, 0, 51, 172, 42, 45, 180, 0, 248, 182, 0, 51, 172, 42, 42, 180, 0, 95, 180, 0, 251, 27, 51]
abbrev dktX1_person_4 : List UInt8 := dkwX1_person_4 ++ dktX1_person_5
def dkwX1_person_3 : List UInt8 := [42, 45, 182, 0, 245, 182, 0, 51, 172, 42, 45, 180, 0, 170, 182, 0, 51, 172, 42, 45, 182, 0, 146]
abbrev dktX1_person_3 : List UInt8 := dkwX1_person_3 ++ dktX1_person_4
def dkwX1_person_2 : List UInt8 := [170, 0, 0, 0, 0, 0, 85, 0, 0, 0, 0, 0, 0, 0, 4, 0, 0, 0, 35, 0, 0, 0, 44, 0, 0, 0, 53, 0, 0, 0, 62, 0, 0, 0, 71]
abbrev dktX1_person_2 : List UInt8 := dkwX1_person_2 ++ dktX1_person_3
def dkwX1_person_1 : List UInt8 := [180, 0, 86, 27, 182, 0, 142, 78, 28]
abbrev dktX1_person_1 : List UInt8 := dkwX1_person_1 ++ dktX1_person_2
def dkwX1_person_0 : List UInt8 := [42, 27, 182, 0, 241, 153, 0, 12, 28, 3, 8, 184, 0, 61, 154, 0, 9, 42, 4, 182, 0, 47, 172, 42]
abbrev dktX1_person_0 : List UInt8 := dkwX1_person_0 ++ dktX1_person_1
theorem dksX1_person_0 : cX1_person.data.toList.drop 0 = dktX1_person_0 := by decide +kernel
theorem dksX1_person_1 : cX1_person.data.toList.drop 24 = dktX1_person_1 := dk_seg dksX1_person_0 24 rfl rfl
theorem dksX1_person_2 : cX1_person.data.toList.drop 33 = dktX1_person_2 := dk_seg dksX1_person_1 9 rfl rfl
theorem dksX1_person_3 : cX1_person.data.toList.drop 68 = dktX1_person_3 := dk_seg dksX1_person_2 35 rfl rfl
theorem dksX1_person_4 : cX1_person.data.toList.drop 91 = dktX1_person_4 := dk_seg dksX1_person_3 23 rfl rfl
theorem dksX1_person_5 : cX1_person.data.toList.drop 114 = dktX1_person_5 := dk_seg dksX1_person_4 23 rfl rfl
theorem dX1_person_0 : decode cX1_person 0 = .ok (.aload_n 0, 1) := dk_42 (dk_at dksX1_person_0 0 rfl rfl)
theorem dX1_person_1 : decode cX1_person 1 = .ok (.iload_n 1, 1) := dk_27 (dk_at dksX1_person_0 1 rfl rfl)
theorem dX1_person_2 : decode cX1_person 2 = .ok (.invokevirtual 241, 3) := dk_182 0 241 (dk_at dksX1_person_0 2 rfl rfl)
theorem dX1_person_5 : decode cX1_person 5 = .ok (.ifCond .eq 12, 3) := dk_153 0 12 (dk_at dksX1_person_0 5 rfl rfl)
theorem dX1_person_8 : decode cX1_person 8 = .ok (.iload_n 2, 1) := dk_28 (dk_at dksX1_person_0 8 rfl rfl)
theorem dX1_person_9 : decode cX1_person 9 = .ok (.iconst 0, 1) := dk_3 (dk_at dksX1_person_0 9 rfl rfl)
theorem dX1_person_10 : decode cX1_person 10 = .ok (.iconst 5, 1) := dk_8 (dk_at dksX1_person_0 10 rfl rfl)
theorem dX1_person_11 : decode cX1_person 11 = .ok (.invokestatic 61, 3) := dk_184 0 61 (dk_at dksX1_person_0 11 rfl rfl)
theorem dX1_person_14 : decode cX1_person 14 = .ok (.ifCond .ne 9, 3) := dk_154 0 9 (dk_at dksX1_person_0 14 rfl rfl)
theorem dX1_person_17 : decode cX1_person 17 = .ok (.aload_n 0, 1) := dk_42 (dk_at dksX1_person_0 17 rfl rfl)
theorem dX1_person_18 : decode cX1_person 18 = .ok (.iconst 1, 1) := dk_4 (dk_at dksX1_person_0 18 rfl rfl)
theorem dX1_person_19 : decode cX1_person 19 = .ok (.invokevirtual 47, 3) := dk_182 0 47 (dk_at dksX1_person_0 19 rfl rfl)
theorem dX1_person_22 : decode cX1_person 22 = .ok (.ireturn, 1) := dk_172 (dk_at dksX1_person_0 22 rfl rfl)
theorem dX1_person_23 : decode cX1_person 23 = .ok (.aload_n 0, 1) := dk_42 (dk_at dksX1_person_0 23 rfl rfl)
theorem dX1_person_24 : decode cX1_person 24 = .ok (.getfield 86, 3) := dk_180 0 86 (dk_at dksX1_person_1 0 rfl rfl)
theorem dX1_person_27 : decode cX1_person 27 = .ok (.iload_n 1, 1) := dk_27 (dk_at dksX1_person_1 3 rfl rfl)
theorem dX1_person_28 : decode cX1_person 28 = .ok (.invokevirtual 142, 3) := dk_182 0 142 (dk_at dksX1_person_1 4 rfl rfl)
theorem dX1_person_31 : decode cX1_person 31 = .ok (.astore_n 3, 1) := dk_78 (dk_at dksX1_person_1 7 rfl rfl)
theorem dX1_person_32 : decode cX1_person 32 = .ok (.iload_n 2, 1) := dk_28 (dk_at dksX1_person_1 8 rfl rfl)
theorem dX1_person_33 : decode cX1_person 33 = .ok (.tableswitch 85 0 4 #[35, 44, 53, 62, 71], 35) := by decide +kernel
theorem dX1_person_68 : decode cX1_person 68 = .ok (.aload_n 0, 1) := dk_42 (dk_at dksX1_person_3 0 rfl rfl)
theorem dX1_person_69 : decode cX1_person 69 = .ok (.aload_n 3, 1) := dk_45 (dk_at dksX1_person_3 1 rfl rfl)
theorem dX1_person_70 : decode cX1_person 70 = .ok (.invokevirtual 245, 3) := dk_182 0 245 (dk_at dksX1_person_3 2 rfl rfl)
theorem dX1_person_73 : decode cX1_person 73 = .ok (.invokevirtual 51, 3) := dk_182 0 51 (dk_at dksX1_person_3 5 rfl rfl)
theorem dX1_person_76 : decode cX1_person 76 = .ok (.ireturn, 1) := dk_172 (dk_at dksX1_person_3 8 rfl rfl)
theorem dX1_person_77 : decode cX1_person 77 = .ok (.aload_n 0, 1) := dk_42 (dk_at dksX1_person_3 9 rfl rfl)
theorem dX1_person_78 : decode cX1_person 78 = .ok (.aload_n 3, 1) := dk_45 (dk_at dksX1_person_3 10 rfl rfl)
theorem dX1_person_79 : decode cX1_person 79 = .ok (.getfield 170, 3) := dk_180 0 170 (dk_at dksX1_person_3 11 rfl rfl)
theorem dX1_person_82 : decode cX1_person 82 = .ok (.invokevirtual 51, 3) := dk_182 0 51 (dk_at dksX1_person_3 14 rfl rfl)
theorem dX1_person_85 : decode cX1_person 85 = .ok (.ireturn, 1) := dk_172 (dk_at dksX1_person_3 17 rfl rfl)
theorem dX1_person_86 : decode cX1_person 86 = .ok (.aload_n 0, 1) := dk_42 (dk_at dksX1_person_3 18 rfl rfl)
theorem dX1_person_87 : decode cX1_person 87 = .ok (.aload_n 3, 1) := dk_45 (dk_at dksX1_person_3 19 rfl rfl)
theorem dX1_person_88 : decode cX1_person 88 = .ok (.invokevirtual 146, 3) := dk_182 0 146 (dk_at dksX1_person_3 20 rfl rfl)
theorem dX1_person_91 : decode cX1_person 91 = .ok (.invokevirtual 51, 3) := dk_182 0 51 (dk_at dksX1_person_4 0 rfl rfl)
theorem dX1_person_94 : decode cX1_person 94 = .ok (.ireturn, 1) := dk_172 (dk_at dksX1_person_4 3 rfl rfl)
theorem dX1_person_95 : decode cX1_person 95 = .ok (.aload_n 0, 1) := dk_42 (dk_at dksX1_person_4 4 rfl rfl)
theorem dX1_person_96 : decode cX1_person 96 = .ok (.aload_n 3, 1) := dk_45 (dk_at dksX1_person_4 5 rfl rfl)
theorem dX1_person_97 : decode cX1_person 97 = .ok (.getfield 248, 3) := dk_180 0 248 (dk_at dksX1_person_4 6 rfl rfl)
theorem dX1_person_100 : decode cX1_person 100 = .ok (.invokevirtual 51, 3) := dk_182 0 51 (dk_at dksX1_person_4 9 rfl rfl)
theorem dX1_person_103 : decode cX1_person 103 = .ok (.ireturn, 1) := dk_172 (dk_at dksX1_person_4 12 rfl rfl)
theorem dX1_person_104 : decode cX1_person 104 = .ok (.aload_n 0, 1) := dk_42 (dk_at dksX1_person_4 13 rfl rfl)
theorem dX1_person_105 : decode cX1_person 105 = .ok (.aload_n 0, 1) := dk_42 (dk_at dksX1_person_4 14 rfl rfl)
theorem dX1_person_106 : decode cX1_person 106 = .ok (.getfield 95, 3) := dk_180 0 95 (dk_at dksX1_person_4 15 rfl rfl)
theorem dX1_person_109 : decode cX1_person 109 = .ok (.getfield 251, 3) := dk_180 0 251 (dk_at dksX1_person_4 18 rfl rfl)
theorem dX1_person_112 : decode cX1_person 112 = .ok (.iload_n 1, 1) := dk_27 (dk_at dksX1_person_4 21 rfl rfl)
theorem dX1_person_113 : decode cX1_person 113 = .ok (.baload, 1) := dk_51 (dk_at dksX1_person_4 22 rfl rfl)
theorem dX1_person_114 : decode cX1_person 114 = .ok (.invokevirtual 51, 3) := dk_182 0 51 (dk_at dksX1_person_5 0 rfl rfl)
theorem dX1_person_117 : decode cX1_person 117 = .ok (.ireturn, 1) := dk_172 (dk_at dksX1_person_5 3 rfl rfl)
theorem dX1_person_118 : decode cX1_person 118 = .ok (.aload_n 0, 1) := dk_42 (dk_at dksX1_person_5 4 rfl rfl)
theorem dX1_person_119 : decode cX1_person 119 = .ok (.aload_n 0, 1) := dk_42 (dk_at dksX1_person_5 5 rfl rfl)
theorem dX1_person_120 : decode cX1_person 120 = .ok (.iload_n 1, 1) := dk_27 (dk_at dksX1_person_5 6 rfl rfl)
theorem dX1_person_121 : decode cX1_person 121 = .ok (.invokevirtual 254, 3) := dk_182 0 254 (dk_at dksX1_person_5 7 rfl rfl)
theorem dX1_person_124 : decode cX1_person 124 = .ok (.invokevirtual 51, 3) := dk_182 0 51 (dk_at dksX1_person_5 10 rfl rfl)
theorem dX1_person_127 : decode cX1_person 127 = .ok (.ireturn, 1) := dk_172 (dk_at dksX1_person_5 13 rfl rfl)
abbrev cX1_isPerson : ByteArray := prog_1_method_22_code
def yX1_isPerson : MethodName := ⟨RX1, "isPerson", "(I)Z"⟩
def dkwX1_isPerson_1 : List UInt8 := [167, 0, 4, 3, 172]
abbrev dktX1_isPerson_1 : List UInt8 := dkwX1_isPerson_1 ++ []
def dkwX1_isPerson_0 : List UInt8 := [42, 180, 0, 86, 198, 0, 21, 27, 3, 42, 182, 0, 132, 4, 100, 184, 0, 61, 153, 0, 7, 4]
abbrev dktX1_isPerson_0 : List UInt8 := dkwX1_isPerson_0 ++ dktX1_isPerson_1
theorem dksX1_isPerson_0 : cX1_isPerson.data.toList.drop 0 = dktX1_isPerson_0 := by decide +kernel
theorem dksX1_isPerson_1 : cX1_isPerson.data.toList.drop 22 = dktX1_isPerson_1 := dk_seg dksX1_isPerson_0 22 rfl rfl
theorem dX1_isPerson_0 : decode cX1_isPerson 0 = .ok (.aload_n 0, 1) := dk_42 (dk_at dksX1_isPerson_0 0 rfl rfl)
theorem dX1_isPerson_1 : decode cX1_isPerson 1 = .ok (.getfield 86, 3) := dk_180 0 86 (dk_at dksX1_isPerson_0 1 rfl rfl)
theorem dX1_isPerson_4 : decode cX1_isPerson 4 = .ok (.ifnull 21, 3) := dk_198 0 21 (dk_at dksX1_isPerson_0 4 rfl rfl)
theorem dX1_isPerson_7 : decode cX1_isPerson 7 = .ok (.iload_n 1, 1) := dk_27 (dk_at dksX1_isPerson_0 7 rfl rfl)
theorem dX1_isPerson_8 : decode cX1_isPerson 8 = .ok (.iconst 0, 1) := dk_3 (dk_at dksX1_isPerson_0 8 rfl rfl)
theorem dX1_isPerson_9 : decode cX1_isPerson 9 = .ok (.aload_n 0, 1) := dk_42 (dk_at dksX1_isPerson_0 9 rfl rfl)
theorem dX1_isPerson_10 : decode cX1_isPerson 10 = .ok (.invokevirtual 132, 3) := dk_182 0 132 (dk_at dksX1_isPerson_0 10 rfl rfl)
theorem dX1_isPerson_13 : decode cX1_isPerson 13 = .ok (.iconst 1, 1) := dk_4 (dk_at dksX1_isPerson_0 13 rfl rfl)
theorem dX1_isPerson_14 : decode cX1_isPerson 14 = .ok (.isub, 1) := dk_100 (dk_at dksX1_isPerson_0 14 rfl rfl)
theorem dX1_isPerson_15 : decode cX1_isPerson 15 = .ok (.invokestatic 61, 3) := dk_184 0 61 (dk_at dksX1_isPerson_0 15 rfl rfl)
theorem dX1_isPerson_18 : decode cX1_isPerson 18 = .ok (.ifCond .eq 7, 3) := dk_153 0 7 (dk_at dksX1_isPerson_0 18 rfl rfl)
theorem dX1_isPerson_21 : decode cX1_isPerson 21 = .ok (.iconst 1, 1) := dk_4 (dk_at dksX1_isPerson_0 21 rfl rfl)
theorem dX1_isPerson_22 : decode cX1_isPerson 22 = .ok (.goto 4, 3) := dk_167 0 4 (dk_at dksX1_isPerson_1 0 rfl rfl)
theorem dX1_isPerson_25 : decode cX1_isPerson 25 = .ok (.iconst 0, 1) := dk_3 (dk_at dksX1_isPerson_1 3 rfl rfl)
theorem dX1_isPerson_26 : decode cX1_isPerson 26 = .ok (.ireturn, 1) := dk_172 (dk_at dksX1_isPerson_1 4 rfl rfl)
abbrev cX1_people : ByteArray := prog_1_method_18_code
def yX1_people : MethodName := ⟨RX1, "people", "()I"⟩
def dkwX1_people_0 : List UInt8 := [42, 180, 0, 86, 180, 0, 123, 182, 0, 120, 172]
abbrev dktX1_people_0 : List UInt8 := dkwX1_people_0 ++ []
theorem dksX1_people_0 : cX1_people.data.toList.drop 0 = dktX1_people_0 := by decide +kernel
theorem dX1_people_0 : decode cX1_people 0 = .ok (.aload_n 0, 1) := dk_42 (dk_at dksX1_people_0 0 rfl rfl)
theorem dX1_people_1 : decode cX1_people 1 = .ok (.getfield 86, 3) := dk_180 0 86 (dk_at dksX1_people_0 1 rfl rfl)
theorem dX1_people_4 : decode cX1_people 4 = .ok (.getfield 123, 3) := dk_180 0 123 (dk_at dksX1_people_0 4 rfl rfl)
theorem dX1_people_7 : decode cX1_people 7 = .ok (.invokevirtual 120, 3) := dk_182 0 120 (dk_at dksX1_people_0 7 rfl rfl)
theorem dX1_people_10 : decode cX1_people 10 = .ok (.ireturn, 1) := dk_172 (dk_at dksX1_people_0 10 rfl rfl)
abbrev cX1_quarrelsOf : ByteArray := prog_1_method_34_code
def yX1_quarrelsOf : MethodName := ⟨RX1, "quarrelsOf", "(I)I"⟩
def dkwX1_quarrelsOf_2 : List UInt8 := [167, 0, 4, 3, 128, 61, 132, 3, 1, 167, 255, 205, 28, 172]
abbrev dktX1_quarrelsOf_2 : List UInt8 := dkwX1_quarrelsOf_2 ++ []
def dkwX1_quarrelsOf_1 : List UInt8 := [27, 159, 0, 18, 42, 180, 0, 86, 29, 182, 0, 173, 180, 0, 185, 27, 160, 0, 9, 4, 29, 120]
abbrev dktX1_quarrelsOf_1 : List UInt8 := dkwX1_quarrelsOf_1 ++ dktX1_quarrelsOf_2
def dkwX1_quarrelsOf_0 : List UInt8 := [3, 61, 3, 62, 29, 42, 182, 0, 136, 162, 0, 49, 28, 42, 180, 0, 86, 29, 182, 0, 173, 180, 0, 177]
abbrev dktX1_quarrelsOf_0 : List UInt8 := dkwX1_quarrelsOf_0 ++ dktX1_quarrelsOf_1
theorem dksX1_quarrelsOf_0 : cX1_quarrelsOf.data.toList.drop 0 = dktX1_quarrelsOf_0 := by decide +kernel
theorem dksX1_quarrelsOf_1 : cX1_quarrelsOf.data.toList.drop 24 = dktX1_quarrelsOf_1 := dk_seg dksX1_quarrelsOf_0 24 rfl rfl
theorem dksX1_quarrelsOf_2 : cX1_quarrelsOf.data.toList.drop 46 = dktX1_quarrelsOf_2 := dk_seg dksX1_quarrelsOf_1 22 rfl rfl
theorem dX1_quarrelsOf_0 : decode cX1_quarrelsOf 0 = .ok (.iconst 0, 1) := dk_3 (dk_at dksX1_quarrelsOf_0 0 rfl rfl)
theorem dX1_quarrelsOf_1 : decode cX1_quarrelsOf 1 = .ok (.istore_n 2, 1) := dk_61 (dk_at dksX1_quarrelsOf_0 1 rfl rfl)
theorem dX1_quarrelsOf_2 : decode cX1_quarrelsOf 2 = .ok (.iconst 0, 1) := dk_3 (dk_at dksX1_quarrelsOf_0 2 rfl rfl)
theorem dX1_quarrelsOf_3 : decode cX1_quarrelsOf 3 = .ok (.istore_n 3, 1) := dk_62 (dk_at dksX1_quarrelsOf_0 3 rfl rfl)
theorem dX1_quarrelsOf_4 : decode cX1_quarrelsOf 4 = .ok (.iload_n 3, 1) := dk_29 (dk_at dksX1_quarrelsOf_0 4 rfl rfl)
theorem dX1_quarrelsOf_5 : decode cX1_quarrelsOf 5 = .ok (.aload_n 0, 1) := dk_42 (dk_at dksX1_quarrelsOf_0 5 rfl rfl)
theorem dX1_quarrelsOf_6 : decode cX1_quarrelsOf 6 = .ok (.invokevirtual 136, 3) := dk_182 0 136 (dk_at dksX1_quarrelsOf_0 6 rfl rfl)
theorem dX1_quarrelsOf_9 : decode cX1_quarrelsOf 9 = .ok (.if_icmp .ge 49, 3) := dk_162 0 49 (dk_at dksX1_quarrelsOf_0 9 rfl rfl)
theorem dX1_quarrelsOf_12 : decode cX1_quarrelsOf 12 = .ok (.iload_n 2, 1) := dk_28 (dk_at dksX1_quarrelsOf_0 12 rfl rfl)
theorem dX1_quarrelsOf_13 : decode cX1_quarrelsOf 13 = .ok (.aload_n 0, 1) := dk_42 (dk_at dksX1_quarrelsOf_0 13 rfl rfl)
theorem dX1_quarrelsOf_14 : decode cX1_quarrelsOf 14 = .ok (.getfield 86, 3) := dk_180 0 86 (dk_at dksX1_quarrelsOf_0 14 rfl rfl)
theorem dX1_quarrelsOf_17 : decode cX1_quarrelsOf 17 = .ok (.iload_n 3, 1) := dk_29 (dk_at dksX1_quarrelsOf_0 17 rfl rfl)
theorem dX1_quarrelsOf_18 : decode cX1_quarrelsOf 18 = .ok (.invokevirtual 173, 3) := dk_182 0 173 (dk_at dksX1_quarrelsOf_0 18 rfl rfl)
theorem dX1_quarrelsOf_21 : decode cX1_quarrelsOf 21 = .ok (.getfield 177, 3) := dk_180 0 177 (dk_at dksX1_quarrelsOf_0 21 rfl rfl)
theorem dX1_quarrelsOf_24 : decode cX1_quarrelsOf 24 = .ok (.iload_n 1, 1) := dk_27 (dk_at dksX1_quarrelsOf_1 0 rfl rfl)
theorem dX1_quarrelsOf_25 : decode cX1_quarrelsOf 25 = .ok (.if_icmp .eq 18, 3) := dk_159 0 18 (dk_at dksX1_quarrelsOf_1 1 rfl rfl)
theorem dX1_quarrelsOf_28 : decode cX1_quarrelsOf 28 = .ok (.aload_n 0, 1) := dk_42 (dk_at dksX1_quarrelsOf_1 4 rfl rfl)
theorem dX1_quarrelsOf_29 : decode cX1_quarrelsOf 29 = .ok (.getfield 86, 3) := dk_180 0 86 (dk_at dksX1_quarrelsOf_1 5 rfl rfl)
theorem dX1_quarrelsOf_32 : decode cX1_quarrelsOf 32 = .ok (.iload_n 3, 1) := dk_29 (dk_at dksX1_quarrelsOf_1 8 rfl rfl)
theorem dX1_quarrelsOf_33 : decode cX1_quarrelsOf 33 = .ok (.invokevirtual 173, 3) := dk_182 0 173 (dk_at dksX1_quarrelsOf_1 9 rfl rfl)
theorem dX1_quarrelsOf_36 : decode cX1_quarrelsOf 36 = .ok (.getfield 185, 3) := dk_180 0 185 (dk_at dksX1_quarrelsOf_1 12 rfl rfl)
theorem dX1_quarrelsOf_39 : decode cX1_quarrelsOf 39 = .ok (.iload_n 1, 1) := dk_27 (dk_at dksX1_quarrelsOf_1 15 rfl rfl)
theorem dX1_quarrelsOf_40 : decode cX1_quarrelsOf 40 = .ok (.if_icmp .ne 9, 3) := dk_160 0 9 (dk_at dksX1_quarrelsOf_1 16 rfl rfl)
theorem dX1_quarrelsOf_43 : decode cX1_quarrelsOf 43 = .ok (.iconst 1, 1) := dk_4 (dk_at dksX1_quarrelsOf_1 19 rfl rfl)
theorem dX1_quarrelsOf_44 : decode cX1_quarrelsOf 44 = .ok (.iload_n 3, 1) := dk_29 (dk_at dksX1_quarrelsOf_1 20 rfl rfl)
theorem dX1_quarrelsOf_45 : decode cX1_quarrelsOf 45 = .ok (.ishl, 1) := dk_120 (dk_at dksX1_quarrelsOf_1 21 rfl rfl)
theorem dX1_quarrelsOf_46 : decode cX1_quarrelsOf 46 = .ok (.goto 4, 3) := dk_167 0 4 (dk_at dksX1_quarrelsOf_2 0 rfl rfl)
theorem dX1_quarrelsOf_49 : decode cX1_quarrelsOf 49 = .ok (.iconst 0, 1) := dk_3 (dk_at dksX1_quarrelsOf_2 3 rfl rfl)
theorem dX1_quarrelsOf_50 : decode cX1_quarrelsOf 50 = .ok (.ior, 1) := dk_128 (dk_at dksX1_quarrelsOf_2 4 rfl rfl)
theorem dX1_quarrelsOf_51 : decode cX1_quarrelsOf 51 = .ok (.istore_n 2, 1) := dk_61 (dk_at dksX1_quarrelsOf_2 5 rfl rfl)
theorem dX1_quarrelsOf_52 : decode cX1_quarrelsOf 52 = .ok (.iinc 3 1, 3) := dk_132 3 1 (dk_at dksX1_quarrelsOf_2 6 rfl rfl)
theorem dX1_quarrelsOf_55 : decode cX1_quarrelsOf 55 = .ok (.goto (-51), 3) := dk_167 255 205 (dk_at dksX1_quarrelsOf_2 9 rfl rfl)
theorem dX1_quarrelsOf_58 : decode cX1_quarrelsOf 58 = .ok (.iload_n 2, 1) := dk_28 (dk_at dksX1_quarrelsOf_2 12 rfl rfl)
theorem dX1_quarrelsOf_59 : decode cX1_quarrelsOf 59 = .ok (.ireturn, 1) := dk_172 (dk_at dksX1_quarrelsOf_2 13 rfl rfl)
abbrev cX1_quarrels : ByteArray := prog_1_method_20_code
def yX1_quarrels : MethodName := ⟨RX1, "quarrels", "()I"⟩
def dkwX1_quarrels_0 : List UInt8 := [42, 180, 0, 86, 180, 0, 129, 182, 0, 120, 172]
abbrev dktX1_quarrels_0 : List UInt8 := dkwX1_quarrels_0 ++ []
theorem dksX1_quarrels_0 : cX1_quarrels.data.toList.drop 0 = dktX1_quarrels_0 := by decide +kernel
theorem dX1_quarrels_0 : decode cX1_quarrels 0 = .ok (.aload_n 0, 1) := dk_42 (dk_at dksX1_quarrels_0 0 rfl rfl)
theorem dX1_quarrels_1 : decode cX1_quarrels 1 = .ok (.getfield 86, 3) := dk_180 0 86 (dk_at dksX1_quarrels_0 1 rfl rfl)
theorem dX1_quarrels_4 : decode cX1_quarrels 4 = .ok (.getfield 129, 3) := dk_180 0 129 (dk_at dksX1_quarrels_0 4 rfl rfl)
theorem dX1_quarrels_7 : decode cX1_quarrels 7 = .ok (.invokevirtual 120, 3) := dk_182 0 120 (dk_at dksX1_quarrels_0 7 rfl rfl)
theorem dX1_quarrels_10 : decode cX1_quarrels 10 = .ok (.ireturn, 1) := dk_172 (dk_at dksX1_quarrels_0 10 rfl rfl)
abbrev cX1_sight : ByteArray := prog_1_method_36_code
def yX1_sight : MethodName := ⟨RX1, "sight", "(II)I"⟩
def dkwX1_sight_3 : List UInt8 := [184, 0, 151, 153, 0, 7, 4, 167, 0, 4, 3, 182, 0, 51, 172]
abbrev dktX1_sight_3 : List UInt8 := dkwX1_sight_3 ++ []
def dkwX1_sight_2 : List UInt8 := [167, 0, 34, 28, 4, 160, 0, 10, 45, 180, 1, 11, 167, 0, 22, 42, 180, 0, 95, 180, 1, 14, 27]
abbrev dktX1_sight_2 : List UInt8 := dkwX1_sight_2 ++ dktX1_sight_3
def dkwX1_sight_1 : List UInt8 := [180, 0, 86, 180, 0, 126, 27, 182, 1, 4, 192, 1, 8, 78, 42, 28, 154, 0, 10, 45, 180, 1, 10]
abbrev dktX1_sight_1 : List UInt8 := dkwX1_sight_1 ++ dktX1_sight_2
def dkwX1_sight_0 : List UInt8 := [42, 27, 182, 1, 1, 153, 0, 12, 28, 3, 5, 184, 0, 61, 154, 0, 9, 42, 4, 182, 0, 47, 172, 42]
abbrev dktX1_sight_0 : List UInt8 := dkwX1_sight_0 ++ dktX1_sight_1
theorem dksX1_sight_0 : cX1_sight.data.toList.drop 0 = dktX1_sight_0 := by decide +kernel
theorem dksX1_sight_1 : cX1_sight.data.toList.drop 24 = dktX1_sight_1 := dk_seg dksX1_sight_0 24 rfl rfl
theorem dksX1_sight_2 : cX1_sight.data.toList.drop 47 = dktX1_sight_2 := dk_seg dksX1_sight_1 23 rfl rfl
theorem dksX1_sight_3 : cX1_sight.data.toList.drop 70 = dktX1_sight_3 := dk_seg dksX1_sight_2 23 rfl rfl
theorem dX1_sight_0 : decode cX1_sight 0 = .ok (.aload_n 0, 1) := dk_42 (dk_at dksX1_sight_0 0 rfl rfl)
theorem dX1_sight_1 : decode cX1_sight 1 = .ok (.iload_n 1, 1) := dk_27 (dk_at dksX1_sight_0 1 rfl rfl)
theorem dX1_sight_2 : decode cX1_sight 2 = .ok (.invokevirtual 257, 3) := dk_182 1 1 (dk_at dksX1_sight_0 2 rfl rfl)
theorem dX1_sight_5 : decode cX1_sight 5 = .ok (.ifCond .eq 12, 3) := dk_153 0 12 (dk_at dksX1_sight_0 5 rfl rfl)
theorem dX1_sight_8 : decode cX1_sight 8 = .ok (.iload_n 2, 1) := dk_28 (dk_at dksX1_sight_0 8 rfl rfl)
theorem dX1_sight_9 : decode cX1_sight 9 = .ok (.iconst 0, 1) := dk_3 (dk_at dksX1_sight_0 9 rfl rfl)
theorem dX1_sight_10 : decode cX1_sight 10 = .ok (.iconst 2, 1) := dk_5 (dk_at dksX1_sight_0 10 rfl rfl)
theorem dX1_sight_11 : decode cX1_sight 11 = .ok (.invokestatic 61, 3) := dk_184 0 61 (dk_at dksX1_sight_0 11 rfl rfl)
theorem dX1_sight_14 : decode cX1_sight 14 = .ok (.ifCond .ne 9, 3) := dk_154 0 9 (dk_at dksX1_sight_0 14 rfl rfl)
theorem dX1_sight_17 : decode cX1_sight 17 = .ok (.aload_n 0, 1) := dk_42 (dk_at dksX1_sight_0 17 rfl rfl)
theorem dX1_sight_18 : decode cX1_sight 18 = .ok (.iconst 1, 1) := dk_4 (dk_at dksX1_sight_0 18 rfl rfl)
theorem dX1_sight_19 : decode cX1_sight 19 = .ok (.invokevirtual 47, 3) := dk_182 0 47 (dk_at dksX1_sight_0 19 rfl rfl)
theorem dX1_sight_22 : decode cX1_sight 22 = .ok (.ireturn, 1) := dk_172 (dk_at dksX1_sight_0 22 rfl rfl)
theorem dX1_sight_23 : decode cX1_sight 23 = .ok (.aload_n 0, 1) := dk_42 (dk_at dksX1_sight_0 23 rfl rfl)
theorem dX1_sight_24 : decode cX1_sight 24 = .ok (.getfield 86, 3) := dk_180 0 86 (dk_at dksX1_sight_1 0 rfl rfl)
theorem dX1_sight_27 : decode cX1_sight 27 = .ok (.getfield 126, 3) := dk_180 0 126 (dk_at dksX1_sight_1 3 rfl rfl)
theorem dX1_sight_30 : decode cX1_sight 30 = .ok (.iload_n 1, 1) := dk_27 (dk_at dksX1_sight_1 6 rfl rfl)
theorem dX1_sight_31 : decode cX1_sight 31 = .ok (.invokevirtual 260, 3) := dk_182 1 4 (dk_at dksX1_sight_1 7 rfl rfl)
theorem dX1_sight_34 : decode cX1_sight 34 = .ok (.checkcast 264, 3) := dk_192 1 8 (dk_at dksX1_sight_1 10 rfl rfl)
theorem dX1_sight_37 : decode cX1_sight 37 = .ok (.astore_n 3, 1) := dk_78 (dk_at dksX1_sight_1 13 rfl rfl)
theorem dX1_sight_38 : decode cX1_sight 38 = .ok (.aload_n 0, 1) := dk_42 (dk_at dksX1_sight_1 14 rfl rfl)
theorem dX1_sight_39 : decode cX1_sight 39 = .ok (.iload_n 2, 1) := dk_28 (dk_at dksX1_sight_1 15 rfl rfl)
theorem dX1_sight_40 : decode cX1_sight 40 = .ok (.ifCond .ne 10, 3) := dk_154 0 10 (dk_at dksX1_sight_1 16 rfl rfl)
theorem dX1_sight_43 : decode cX1_sight 43 = .ok (.aload_n 3, 1) := dk_45 (dk_at dksX1_sight_1 19 rfl rfl)
theorem dX1_sight_44 : decode cX1_sight 44 = .ok (.getfield 266, 3) := dk_180 1 10 (dk_at dksX1_sight_1 20 rfl rfl)
theorem dX1_sight_47 : decode cX1_sight 47 = .ok (.goto 34, 3) := dk_167 0 34 (dk_at dksX1_sight_2 0 rfl rfl)
theorem dX1_sight_50 : decode cX1_sight 50 = .ok (.iload_n 2, 1) := dk_28 (dk_at dksX1_sight_2 3 rfl rfl)
theorem dX1_sight_51 : decode cX1_sight 51 = .ok (.iconst 1, 1) := dk_4 (dk_at dksX1_sight_2 4 rfl rfl)
theorem dX1_sight_52 : decode cX1_sight 52 = .ok (.if_icmp .ne 10, 3) := dk_160 0 10 (dk_at dksX1_sight_2 5 rfl rfl)
theorem dX1_sight_55 : decode cX1_sight 55 = .ok (.aload_n 3, 1) := dk_45 (dk_at dksX1_sight_2 8 rfl rfl)
theorem dX1_sight_56 : decode cX1_sight 56 = .ok (.getfield 267, 3) := dk_180 1 11 (dk_at dksX1_sight_2 9 rfl rfl)
theorem dX1_sight_59 : decode cX1_sight 59 = .ok (.goto 22, 3) := dk_167 0 22 (dk_at dksX1_sight_2 12 rfl rfl)
theorem dX1_sight_62 : decode cX1_sight 62 = .ok (.aload_n 0, 1) := dk_42 (dk_at dksX1_sight_2 15 rfl rfl)
theorem dX1_sight_63 : decode cX1_sight 63 = .ok (.getfield 95, 3) := dk_180 0 95 (dk_at dksX1_sight_2 16 rfl rfl)
theorem dX1_sight_66 : decode cX1_sight 66 = .ok (.getfield 270, 3) := dk_180 1 14 (dk_at dksX1_sight_2 19 rfl rfl)
theorem dX1_sight_69 : decode cX1_sight 69 = .ok (.iload_n 1, 1) := dk_27 (dk_at dksX1_sight_2 22 rfl rfl)
theorem dX1_sight_70 : decode cX1_sight 70 = .ok (.invokestatic 151, 3) := dk_184 0 151 (dk_at dksX1_sight_3 0 rfl rfl)
theorem dX1_sight_73 : decode cX1_sight 73 = .ok (.ifCond .eq 7, 3) := dk_153 0 7 (dk_at dksX1_sight_3 3 rfl rfl)
theorem dX1_sight_76 : decode cX1_sight 76 = .ok (.iconst 1, 1) := dk_4 (dk_at dksX1_sight_3 6 rfl rfl)
theorem dX1_sight_77 : decode cX1_sight 77 = .ok (.goto 4, 3) := dk_167 0 4 (dk_at dksX1_sight_3 7 rfl rfl)
theorem dX1_sight_80 : decode cX1_sight 80 = .ok (.iconst 0, 1) := dk_3 (dk_at dksX1_sight_3 10 rfl rfl)
theorem dX1_sight_81 : decode cX1_sight 81 = .ok (.invokevirtual 51, 3) := dk_182 0 51 (dk_at dksX1_sight_3 11 rfl rfl)
theorem dX1_sight_84 : decode cX1_sight 84 = .ok (.ireturn, 1) := dk_172 (dk_at dksX1_sight_3 14 rfl rfl)
abbrev cX1_isSight : ByteArray := prog_1_method_23_code
def yX1_isSight : MethodName := ⟨RX1, "isSight", "(I)Z"⟩
def dkwX1_isSight_1 : List UInt8 := [167, 0, 4, 3, 172]
abbrev dktX1_isSight_1 : List UInt8 := dkwX1_isSight_1 ++ []
def dkwX1_isSight_0 : List UInt8 := [42, 180, 0, 86, 198, 0, 21, 27, 3, 42, 182, 0, 134, 4, 100, 184, 0, 61, 153, 0, 7, 4]
abbrev dktX1_isSight_0 : List UInt8 := dkwX1_isSight_0 ++ dktX1_isSight_1
theorem dksX1_isSight_0 : cX1_isSight.data.toList.drop 0 = dktX1_isSight_0 := by decide +kernel
theorem dksX1_isSight_1 : cX1_isSight.data.toList.drop 22 = dktX1_isSight_1 := dk_seg dksX1_isSight_0 22 rfl rfl
theorem dX1_isSight_0 : decode cX1_isSight 0 = .ok (.aload_n 0, 1) := dk_42 (dk_at dksX1_isSight_0 0 rfl rfl)
theorem dX1_isSight_1 : decode cX1_isSight 1 = .ok (.getfield 86, 3) := dk_180 0 86 (dk_at dksX1_isSight_0 1 rfl rfl)
theorem dX1_isSight_4 : decode cX1_isSight 4 = .ok (.ifnull 21, 3) := dk_198 0 21 (dk_at dksX1_isSight_0 4 rfl rfl)
theorem dX1_isSight_7 : decode cX1_isSight 7 = .ok (.iload_n 1, 1) := dk_27 (dk_at dksX1_isSight_0 7 rfl rfl)
theorem dX1_isSight_8 : decode cX1_isSight 8 = .ok (.iconst 0, 1) := dk_3 (dk_at dksX1_isSight_0 8 rfl rfl)
theorem dX1_isSight_9 : decode cX1_isSight 9 = .ok (.aload_n 0, 1) := dk_42 (dk_at dksX1_isSight_0 9 rfl rfl)
theorem dX1_isSight_10 : decode cX1_isSight 10 = .ok (.invokevirtual 134, 3) := dk_182 0 134 (dk_at dksX1_isSight_0 10 rfl rfl)
theorem dX1_isSight_13 : decode cX1_isSight 13 = .ok (.iconst 1, 1) := dk_4 (dk_at dksX1_isSight_0 13 rfl rfl)
theorem dX1_isSight_14 : decode cX1_isSight 14 = .ok (.isub, 1) := dk_100 (dk_at dksX1_isSight_0 14 rfl rfl)
theorem dX1_isSight_15 : decode cX1_isSight 15 = .ok (.invokestatic 61, 3) := dk_184 0 61 (dk_at dksX1_isSight_0 15 rfl rfl)
theorem dX1_isSight_18 : decode cX1_isSight 18 = .ok (.ifCond .eq 7, 3) := dk_153 0 7 (dk_at dksX1_isSight_0 18 rfl rfl)
theorem dX1_isSight_21 : decode cX1_isSight 21 = .ok (.iconst 1, 1) := dk_4 (dk_at dksX1_isSight_0 21 rfl rfl)
theorem dX1_isSight_22 : decode cX1_isSight 22 = .ok (.goto 4, 3) := dk_167 0 4 (dk_at dksX1_isSight_1 0 rfl rfl)
theorem dX1_isSight_25 : decode cX1_isSight 25 = .ok (.iconst 0, 1) := dk_3 (dk_at dksX1_isSight_1 3 rfl rfl)
theorem dX1_isSight_26 : decode cX1_isSight 26 = .ok (.ireturn, 1) := dk_172 (dk_at dksX1_isSight_1 4 rfl rfl)
abbrev cX1_sights : ByteArray := prog_1_method_19_code
def yX1_sights : MethodName := ⟨RX1, "sights", "()I"⟩
def dkwX1_sights_0 : List UInt8 := [42, 180, 0, 86, 180, 0, 126, 182, 0, 120, 172]
abbrev dktX1_sights_0 : List UInt8 := dkwX1_sights_0 ++ []
theorem dksX1_sights_0 : cX1_sights.data.toList.drop 0 = dktX1_sights_0 := by decide +kernel
theorem dX1_sights_0 : decode cX1_sights 0 = .ok (.aload_n 0, 1) := dk_42 (dk_at dksX1_sights_0 0 rfl rfl)
theorem dX1_sights_1 : decode cX1_sights 1 = .ok (.getfield 86, 3) := dk_180 0 86 (dk_at dksX1_sights_0 1 rfl rfl)
theorem dX1_sights_4 : decode cX1_sights 4 = .ok (.getfield 126, 3) := dk_180 0 126 (dk_at dksX1_sights_0 4 rfl rfl)
theorem dX1_sights_7 : decode cX1_sights 7 = .ok (.invokevirtual 120, 3) := dk_182 0 120 (dk_at dksX1_sights_0 7 rfl rfl)
theorem dX1_sights_10 : decode cX1_sights 10 = .ok (.ireturn, 1) := dk_172 (dk_at dksX1_sights_0 10 rfl rfl)
abbrev cX1_has : ByteArray := prog_1_method_3_code
def yX1_has : MethodName := ⟨RX1, "has", "(II)Z"⟩
def dkwX1_has_0 : List UInt8 := [26, 27, 122, 4, 126, 4, 160, 0, 7, 4, 167, 0, 4, 3, 172]
abbrev dktX1_has_0 : List UInt8 := dkwX1_has_0 ++ []
theorem dksX1_has_0 : cX1_has.data.toList.drop 0 = dktX1_has_0 := by decide +kernel
theorem dX1_has_0 : decode cX1_has 0 = .ok (.iload_n 0, 1) := dk_26 (dk_at dksX1_has_0 0 rfl rfl)
theorem dX1_has_1 : decode cX1_has 1 = .ok (.iload_n 1, 1) := dk_27 (dk_at dksX1_has_0 1 rfl rfl)
theorem dX1_has_2 : decode cX1_has 2 = .ok (.ishr, 1) := dk_122 (dk_at dksX1_has_0 2 rfl rfl)
theorem dX1_has_3 : decode cX1_has 3 = .ok (.iconst 1, 1) := dk_4 (dk_at dksX1_has_0 3 rfl rfl)
theorem dX1_has_4 : decode cX1_has 4 = .ok (.iand, 1) := dk_126 (dk_at dksX1_has_0 4 rfl rfl)
theorem dX1_has_5 : decode cX1_has 5 = .ok (.iconst 1, 1) := dk_4 (dk_at dksX1_has_0 5 rfl rfl)
theorem dX1_has_6 : decode cX1_has 6 = .ok (.if_icmp .ne 7, 3) := dk_160 0 7 (dk_at dksX1_has_0 6 rfl rfl)
theorem dX1_has_9 : decode cX1_has 9 = .ok (.iconst 1, 1) := dk_4 (dk_at dksX1_has_0 9 rfl rfl)
theorem dX1_has_10 : decode cX1_has 10 = .ok (.goto 4, 3) := dk_167 0 4 (dk_at dksX1_has_0 10 rfl rfl)
theorem dX1_has_13 : decode cX1_has 13 = .ok (.iconst 0, 1) := dk_3 (dk_at dksX1_has_0 13 rfl rfl)
theorem dX1_has_14 : decode cX1_has 14 = .ok (.ireturn, 1) := dk_172 (dk_at dksX1_has_0 14 rfl rfl)
abbrev cX1_quarrel : ByteArray := prog_1_method_37_code
def yX1_quarrel : MethodName := ⟨RX1, "quarrel", "(II)I"⟩
def dkwX1_quarrel_3 : List UInt8 := [160, 0, 10, 45, 180, 0, 230, 167, 0, 7, 45, 180, 0, 226, 182, 0, 51, 172]
abbrev dktX1_quarrel_3 : List UInt8 := dkwX1_quarrel_3 ++ []
def dkwX1_quarrel_2 : List UInt8 := [160, 0, 10, 45, 180, 0, 185, 167, 0, 31, 28, 5, 160, 0, 10, 45, 180, 0, 229, 167, 0, 19, 28, 6]
abbrev dktX1_quarrel_2 : List UInt8 := dkwX1_quarrel_2 ++ dktX1_quarrel_3
def dkwX1_quarrel_1 : List UInt8 := [180, 0, 86, 27, 182, 0, 173, 78, 42, 28, 154, 0, 10, 45, 180, 0, 177, 167, 0, 43, 28, 4]
abbrev dktX1_quarrel_1 : List UInt8 := dkwX1_quarrel_1 ++ dktX1_quarrel_2
def dkwX1_quarrel_0 : List UInt8 := [42, 27, 182, 1, 17, 153, 0, 12, 28, 3, 7, 184, 0, 61, 154, 0, 9, 42, 4, 182, 0, 47, 172, 42]
abbrev dktX1_quarrel_0 : List UInt8 := dkwX1_quarrel_0 ++ dktX1_quarrel_1
theorem dksX1_quarrel_0 : cX1_quarrel.data.toList.drop 0 = dktX1_quarrel_0 := by decide +kernel
theorem dksX1_quarrel_1 : cX1_quarrel.data.toList.drop 24 = dktX1_quarrel_1 := dk_seg dksX1_quarrel_0 24 rfl rfl
theorem dksX1_quarrel_2 : cX1_quarrel.data.toList.drop 46 = dktX1_quarrel_2 := dk_seg dksX1_quarrel_1 22 rfl rfl
theorem dksX1_quarrel_3 : cX1_quarrel.data.toList.drop 70 = dktX1_quarrel_3 := dk_seg dksX1_quarrel_2 24 rfl rfl
theorem dX1_quarrel_0 : decode cX1_quarrel 0 = .ok (.aload_n 0, 1) := dk_42 (dk_at dksX1_quarrel_0 0 rfl rfl)
theorem dX1_quarrel_1 : decode cX1_quarrel 1 = .ok (.iload_n 1, 1) := dk_27 (dk_at dksX1_quarrel_0 1 rfl rfl)
theorem dX1_quarrel_2 : decode cX1_quarrel 2 = .ok (.invokevirtual 273, 3) := dk_182 1 17 (dk_at dksX1_quarrel_0 2 rfl rfl)
theorem dX1_quarrel_5 : decode cX1_quarrel 5 = .ok (.ifCond .eq 12, 3) := dk_153 0 12 (dk_at dksX1_quarrel_0 5 rfl rfl)
theorem dX1_quarrel_8 : decode cX1_quarrel 8 = .ok (.iload_n 2, 1) := dk_28 (dk_at dksX1_quarrel_0 8 rfl rfl)
theorem dX1_quarrel_9 : decode cX1_quarrel 9 = .ok (.iconst 0, 1) := dk_3 (dk_at dksX1_quarrel_0 9 rfl rfl)
theorem dX1_quarrel_10 : decode cX1_quarrel 10 = .ok (.iconst 4, 1) := dk_7 (dk_at dksX1_quarrel_0 10 rfl rfl)
theorem dX1_quarrel_11 : decode cX1_quarrel 11 = .ok (.invokestatic 61, 3) := dk_184 0 61 (dk_at dksX1_quarrel_0 11 rfl rfl)
theorem dX1_quarrel_14 : decode cX1_quarrel 14 = .ok (.ifCond .ne 9, 3) := dk_154 0 9 (dk_at dksX1_quarrel_0 14 rfl rfl)
theorem dX1_quarrel_17 : decode cX1_quarrel 17 = .ok (.aload_n 0, 1) := dk_42 (dk_at dksX1_quarrel_0 17 rfl rfl)
theorem dX1_quarrel_18 : decode cX1_quarrel 18 = .ok (.iconst 1, 1) := dk_4 (dk_at dksX1_quarrel_0 18 rfl rfl)
theorem dX1_quarrel_19 : decode cX1_quarrel 19 = .ok (.invokevirtual 47, 3) := dk_182 0 47 (dk_at dksX1_quarrel_0 19 rfl rfl)
theorem dX1_quarrel_22 : decode cX1_quarrel 22 = .ok (.ireturn, 1) := dk_172 (dk_at dksX1_quarrel_0 22 rfl rfl)
theorem dX1_quarrel_23 : decode cX1_quarrel 23 = .ok (.aload_n 0, 1) := dk_42 (dk_at dksX1_quarrel_0 23 rfl rfl)
theorem dX1_quarrel_24 : decode cX1_quarrel 24 = .ok (.getfield 86, 3) := dk_180 0 86 (dk_at dksX1_quarrel_1 0 rfl rfl)
theorem dX1_quarrel_27 : decode cX1_quarrel 27 = .ok (.iload_n 1, 1) := dk_27 (dk_at dksX1_quarrel_1 3 rfl rfl)
theorem dX1_quarrel_28 : decode cX1_quarrel 28 = .ok (.invokevirtual 173, 3) := dk_182 0 173 (dk_at dksX1_quarrel_1 4 rfl rfl)
theorem dX1_quarrel_31 : decode cX1_quarrel 31 = .ok (.astore_n 3, 1) := dk_78 (dk_at dksX1_quarrel_1 7 rfl rfl)
theorem dX1_quarrel_32 : decode cX1_quarrel 32 = .ok (.aload_n 0, 1) := dk_42 (dk_at dksX1_quarrel_1 8 rfl rfl)
theorem dX1_quarrel_33 : decode cX1_quarrel 33 = .ok (.iload_n 2, 1) := dk_28 (dk_at dksX1_quarrel_1 9 rfl rfl)
theorem dX1_quarrel_34 : decode cX1_quarrel 34 = .ok (.ifCond .ne 10, 3) := dk_154 0 10 (dk_at dksX1_quarrel_1 10 rfl rfl)
theorem dX1_quarrel_37 : decode cX1_quarrel 37 = .ok (.aload_n 3, 1) := dk_45 (dk_at dksX1_quarrel_1 13 rfl rfl)
theorem dX1_quarrel_38 : decode cX1_quarrel 38 = .ok (.getfield 177, 3) := dk_180 0 177 (dk_at dksX1_quarrel_1 14 rfl rfl)
theorem dX1_quarrel_41 : decode cX1_quarrel 41 = .ok (.goto 43, 3) := dk_167 0 43 (dk_at dksX1_quarrel_1 17 rfl rfl)
theorem dX1_quarrel_44 : decode cX1_quarrel 44 = .ok (.iload_n 2, 1) := dk_28 (dk_at dksX1_quarrel_1 20 rfl rfl)
theorem dX1_quarrel_45 : decode cX1_quarrel 45 = .ok (.iconst 1, 1) := dk_4 (dk_at dksX1_quarrel_1 21 rfl rfl)
theorem dX1_quarrel_46 : decode cX1_quarrel 46 = .ok (.if_icmp .ne 10, 3) := dk_160 0 10 (dk_at dksX1_quarrel_2 0 rfl rfl)
theorem dX1_quarrel_49 : decode cX1_quarrel 49 = .ok (.aload_n 3, 1) := dk_45 (dk_at dksX1_quarrel_2 3 rfl rfl)
theorem dX1_quarrel_50 : decode cX1_quarrel 50 = .ok (.getfield 185, 3) := dk_180 0 185 (dk_at dksX1_quarrel_2 4 rfl rfl)
theorem dX1_quarrel_53 : decode cX1_quarrel 53 = .ok (.goto 31, 3) := dk_167 0 31 (dk_at dksX1_quarrel_2 7 rfl rfl)
theorem dX1_quarrel_56 : decode cX1_quarrel 56 = .ok (.iload_n 2, 1) := dk_28 (dk_at dksX1_quarrel_2 10 rfl rfl)
theorem dX1_quarrel_57 : decode cX1_quarrel 57 = .ok (.iconst 2, 1) := dk_5 (dk_at dksX1_quarrel_2 11 rfl rfl)
theorem dX1_quarrel_58 : decode cX1_quarrel 58 = .ok (.if_icmp .ne 10, 3) := dk_160 0 10 (dk_at dksX1_quarrel_2 12 rfl rfl)
theorem dX1_quarrel_61 : decode cX1_quarrel 61 = .ok (.aload_n 3, 1) := dk_45 (dk_at dksX1_quarrel_2 15 rfl rfl)
theorem dX1_quarrel_62 : decode cX1_quarrel 62 = .ok (.getfield 229, 3) := dk_180 0 229 (dk_at dksX1_quarrel_2 16 rfl rfl)
theorem dX1_quarrel_65 : decode cX1_quarrel 65 = .ok (.goto 19, 3) := dk_167 0 19 (dk_at dksX1_quarrel_2 19 rfl rfl)
theorem dX1_quarrel_68 : decode cX1_quarrel 68 = .ok (.iload_n 2, 1) := dk_28 (dk_at dksX1_quarrel_2 22 rfl rfl)
theorem dX1_quarrel_69 : decode cX1_quarrel 69 = .ok (.iconst 3, 1) := dk_6 (dk_at dksX1_quarrel_2 23 rfl rfl)
theorem dX1_quarrel_70 : decode cX1_quarrel 70 = .ok (.if_icmp .ne 10, 3) := dk_160 0 10 (dk_at dksX1_quarrel_3 0 rfl rfl)
theorem dX1_quarrel_73 : decode cX1_quarrel 73 = .ok (.aload_n 3, 1) := dk_45 (dk_at dksX1_quarrel_3 3 rfl rfl)
theorem dX1_quarrel_74 : decode cX1_quarrel 74 = .ok (.getfield 230, 3) := dk_180 0 230 (dk_at dksX1_quarrel_3 4 rfl rfl)
theorem dX1_quarrel_77 : decode cX1_quarrel 77 = .ok (.goto 7, 3) := dk_167 0 7 (dk_at dksX1_quarrel_3 7 rfl rfl)
theorem dX1_quarrel_80 : decode cX1_quarrel 80 = .ok (.aload_n 3, 1) := dk_45 (dk_at dksX1_quarrel_3 10 rfl rfl)
theorem dX1_quarrel_81 : decode cX1_quarrel 81 = .ok (.getfield 226, 3) := dk_180 0 226 (dk_at dksX1_quarrel_3 11 rfl rfl)
theorem dX1_quarrel_84 : decode cX1_quarrel 84 = .ok (.invokevirtual 51, 3) := dk_182 0 51 (dk_at dksX1_quarrel_3 14 rfl rfl)
theorem dX1_quarrel_87 : decode cX1_quarrel 87 = .ok (.ireturn, 1) := dk_172 (dk_at dksX1_quarrel_3 17 rfl rfl)
abbrev cX1_isQuarrel : ByteArray := prog_1_method_24_code
def yX1_isQuarrel : MethodName := ⟨RX1, "isQuarrel", "(I)Z"⟩
def dkwX1_isQuarrel_1 : List UInt8 := [167, 0, 4, 3, 172]
abbrev dktX1_isQuarrel_1 : List UInt8 := dkwX1_isQuarrel_1 ++ []
def dkwX1_isQuarrel_0 : List UInt8 := [42, 180, 0, 86, 198, 0, 21, 27, 3, 42, 182, 0, 136, 4, 100, 184, 0, 61, 153, 0, 7, 4]
abbrev dktX1_isQuarrel_0 : List UInt8 := dkwX1_isQuarrel_0 ++ dktX1_isQuarrel_1
theorem dksX1_isQuarrel_0 : cX1_isQuarrel.data.toList.drop 0 = dktX1_isQuarrel_0 := by decide +kernel
theorem dksX1_isQuarrel_1 : cX1_isQuarrel.data.toList.drop 22 = dktX1_isQuarrel_1 := dk_seg dksX1_isQuarrel_0 22 rfl rfl
theorem dX1_isQuarrel_0 : decode cX1_isQuarrel 0 = .ok (.aload_n 0, 1) := dk_42 (dk_at dksX1_isQuarrel_0 0 rfl rfl)
theorem dX1_isQuarrel_1 : decode cX1_isQuarrel 1 = .ok (.getfield 86, 3) := dk_180 0 86 (dk_at dksX1_isQuarrel_0 1 rfl rfl)
theorem dX1_isQuarrel_4 : decode cX1_isQuarrel 4 = .ok (.ifnull 21, 3) := dk_198 0 21 (dk_at dksX1_isQuarrel_0 4 rfl rfl)
theorem dX1_isQuarrel_7 : decode cX1_isQuarrel 7 = .ok (.iload_n 1, 1) := dk_27 (dk_at dksX1_isQuarrel_0 7 rfl rfl)
theorem dX1_isQuarrel_8 : decode cX1_isQuarrel 8 = .ok (.iconst 0, 1) := dk_3 (dk_at dksX1_isQuarrel_0 8 rfl rfl)
theorem dX1_isQuarrel_9 : decode cX1_isQuarrel 9 = .ok (.aload_n 0, 1) := dk_42 (dk_at dksX1_isQuarrel_0 9 rfl rfl)
theorem dX1_isQuarrel_10 : decode cX1_isQuarrel 10 = .ok (.invokevirtual 136, 3) := dk_182 0 136 (dk_at dksX1_isQuarrel_0 10 rfl rfl)
theorem dX1_isQuarrel_13 : decode cX1_isQuarrel 13 = .ok (.iconst 1, 1) := dk_4 (dk_at dksX1_isQuarrel_0 13 rfl rfl)
theorem dX1_isQuarrel_14 : decode cX1_isQuarrel 14 = .ok (.isub, 1) := dk_100 (dk_at dksX1_isQuarrel_0 14 rfl rfl)
theorem dX1_isQuarrel_15 : decode cX1_isQuarrel 15 = .ok (.invokestatic 61, 3) := dk_184 0 61 (dk_at dksX1_isQuarrel_0 15 rfl rfl)
theorem dX1_isQuarrel_18 : decode cX1_isQuarrel 18 = .ok (.ifCond .eq 7, 3) := dk_153 0 7 (dk_at dksX1_isQuarrel_0 18 rfl rfl)
theorem dX1_isQuarrel_21 : decode cX1_isQuarrel 21 = .ok (.iconst 1, 1) := dk_4 (dk_at dksX1_isQuarrel_0 21 rfl rfl)
theorem dX1_isQuarrel_22 : decode cX1_isQuarrel 22 = .ok (.goto 4, 3) := dk_167 0 4 (dk_at dksX1_isQuarrel_1 0 rfl rfl)
theorem dX1_isQuarrel_25 : decode cX1_isQuarrel 25 = .ok (.iconst 0, 1) := dk_3 (dk_at dksX1_isQuarrel_1 3 rfl rfl)
theorem dX1_isQuarrel_26 : decode cX1_isQuarrel 26 = .ok (.ireturn, 1) := dk_172 (dk_at dksX1_isQuarrel_1 4 rfl rfl)
abbrev cX1_at : ByteArray := prog_1_method_38_code
def yX1_at : MethodName := ⟨RX1, "at", "(II)I"⟩
def dkwX1_at_1 : List UInt8 := [167, 0, 16, 42, 42, 180, 0, 95, 27, 28, 182, 1, 24, 182, 0, 51, 172]
abbrev dktX1_at_1 : List UInt8 := dkwX1_at_1 ++ []
def dkwX1_at_0 : List UInt8 := [42, 42, 27, 182, 0, 241, 28, 3, 16, 59, 182, 1, 20, 62, 29, 158, 0, 11, 42, 29, 182, 0, 47]
abbrev dktX1_at_0 : List UInt8 := dkwX1_at_0 ++ dktX1_at_1
theorem dksX1_at_0 : cX1_at.data.toList.drop 0 = dktX1_at_0 := by decide +kernel
theorem dksX1_at_1 : cX1_at.data.toList.drop 23 = dktX1_at_1 := dk_seg dksX1_at_0 23 rfl rfl
theorem dX1_at_0 : decode cX1_at 0 = .ok (.aload_n 0, 1) := dk_42 (dk_at dksX1_at_0 0 rfl rfl)
theorem dX1_at_1 : decode cX1_at 1 = .ok (.aload_n 0, 1) := dk_42 (dk_at dksX1_at_0 1 rfl rfl)
theorem dX1_at_2 : decode cX1_at 2 = .ok (.iload_n 1, 1) := dk_27 (dk_at dksX1_at_0 2 rfl rfl)
theorem dX1_at_3 : decode cX1_at 3 = .ok (.invokevirtual 241, 3) := dk_182 0 241 (dk_at dksX1_at_0 3 rfl rfl)
theorem dX1_at_6 : decode cX1_at 6 = .ok (.iload_n 2, 1) := dk_28 (dk_at dksX1_at_0 6 rfl rfl)
theorem dX1_at_7 : decode cX1_at 7 = .ok (.iconst 0, 1) := dk_3 (dk_at dksX1_at_0 7 rfl rfl)
theorem dX1_at_8 : decode cX1_at 8 = .ok (.bipush 59, 2) := dk_16 59 (dk_at dksX1_at_0 8 rfl rfl)
theorem dX1_at_10 : decode cX1_at 10 = .ok (.invokevirtual 276, 3) := dk_182 1 20 (dk_at dksX1_at_0 10 rfl rfl)
theorem dX1_at_13 : decode cX1_at 13 = .ok (.istore_n 3, 1) := dk_62 (dk_at dksX1_at_0 13 rfl rfl)
theorem dX1_at_14 : decode cX1_at 14 = .ok (.iload_n 3, 1) := dk_29 (dk_at dksX1_at_0 14 rfl rfl)
theorem dX1_at_15 : decode cX1_at 15 = .ok (.ifCond .le 11, 3) := dk_158 0 11 (dk_at dksX1_at_0 15 rfl rfl)
theorem dX1_at_18 : decode cX1_at 18 = .ok (.aload_n 0, 1) := dk_42 (dk_at dksX1_at_0 18 rfl rfl)
theorem dX1_at_19 : decode cX1_at 19 = .ok (.iload_n 3, 1) := dk_29 (dk_at dksX1_at_0 19 rfl rfl)
theorem dX1_at_20 : decode cX1_at 20 = .ok (.invokevirtual 47, 3) := dk_182 0 47 (dk_at dksX1_at_0 20 rfl rfl)
theorem dX1_at_23 : decode cX1_at 23 = .ok (.goto 16, 3) := dk_167 0 16 (dk_at dksX1_at_1 0 rfl rfl)
theorem dX1_at_26 : decode cX1_at 26 = .ok (.aload_n 0, 1) := dk_42 (dk_at dksX1_at_1 3 rfl rfl)
theorem dX1_at_27 : decode cX1_at 27 = .ok (.aload_n 0, 1) := dk_42 (dk_at dksX1_at_1 4 rfl rfl)
theorem dX1_at_28 : decode cX1_at 28 = .ok (.getfield 95, 3) := dk_180 0 95 (dk_at dksX1_at_1 5 rfl rfl)
theorem dX1_at_31 : decode cX1_at 31 = .ok (.iload_n 1, 1) := dk_27 (dk_at dksX1_at_1 8 rfl rfl)
theorem dX1_at_32 : decode cX1_at 32 = .ok (.iload_n 2, 1) := dk_28 (dk_at dksX1_at_1 9 rfl rfl)
theorem dX1_at_33 : decode cX1_at 33 = .ok (.invokevirtual 280, 3) := dk_182 1 24 (dk_at dksX1_at_1 10 rfl rfl)
theorem dX1_at_36 : decode cX1_at 36 = .ok (.invokevirtual 51, 3) := dk_182 0 51 (dk_at dksX1_at_1 13 rfl rfl)
theorem dX1_at_39 : decode cX1_at 39 = .ok (.ireturn, 1) := dk_172 (dk_at dksX1_at_1 16 rfl rfl)
abbrev cX1_why : ByteArray := prog_1_method_25_code
def yX1_why : MethodName := ⟨RX1, "why", "(ZIII)I"⟩
def dkwX1_why_0 : List UInt8 := [27, 154, 0, 7, 4, 167, 0, 18, 28, 29, 21, 4, 184, 0, 61, 153, 0, 7, 3, 167, 0, 4, 5, 172]
abbrev dktX1_why_0 : List UInt8 := dkwX1_why_0 ++ []
theorem dksX1_why_0 : cX1_why.data.toList.drop 0 = dktX1_why_0 := by decide +kernel
theorem dX1_why_0 : decode cX1_why 0 = .ok (.iload_n 1, 1) := dk_27 (dk_at dksX1_why_0 0 rfl rfl)
theorem dX1_why_1 : decode cX1_why 1 = .ok (.ifCond .ne 7, 3) := dk_154 0 7 (dk_at dksX1_why_0 1 rfl rfl)
theorem dX1_why_4 : decode cX1_why 4 = .ok (.iconst 1, 1) := dk_4 (dk_at dksX1_why_0 4 rfl rfl)
theorem dX1_why_5 : decode cX1_why 5 = .ok (.goto 18, 3) := dk_167 0 18 (dk_at dksX1_why_0 5 rfl rfl)
theorem dX1_why_8 : decode cX1_why 8 = .ok (.iload_n 2, 1) := dk_28 (dk_at dksX1_why_0 8 rfl rfl)
theorem dX1_why_9 : decode cX1_why 9 = .ok (.iload_n 3, 1) := dk_29 (dk_at dksX1_why_0 9 rfl rfl)
theorem dX1_why_10 : decode cX1_why 10 = .ok (.iload 4, 2) := dk_21 4 (dk_at dksX1_why_0 10 rfl rfl)
theorem dX1_why_12 : decode cX1_why 12 = .ok (.invokestatic 61, 3) := dk_184 0 61 (dk_at dksX1_why_0 12 rfl rfl)
theorem dX1_why_15 : decode cX1_why 15 = .ok (.ifCond .eq 7, 3) := dk_153 0 7 (dk_at dksX1_why_0 15 rfl rfl)
theorem dX1_why_18 : decode cX1_why 18 = .ok (.iconst 0, 1) := dk_3 (dk_at dksX1_why_0 18 rfl rfl)
theorem dX1_why_19 : decode cX1_why 19 = .ok (.goto 4, 3) := dk_167 0 4 (dk_at dksX1_why_0 19 rfl rfl)
theorem dX1_why_22 : decode cX1_why 22 = .ok (.iconst 2, 1) := dk_5 (dk_at dksX1_why_0 22 rfl rfl)
theorem dX1_why_23 : decode cX1_why 23 = .ok (.ireturn, 1) := dk_172 (dk_at dksX1_why_0 23 rfl rfl)
abbrev cX1_into : ByteArray := prog_1_method_39_code
def yX1_into : MethodName := ⟨RX1, "into", "(I)I"⟩
def dkwX1_into_1 : List UInt8 := [4, 182, 0, 47, 172]
abbrev dktX1_into_1 : List UInt8 := dkwX1_into_1 ++ []
def dkwX1_into_0 : List UInt8 := [42, 27, 182, 1, 27, 153, 0, 18, 42, 42, 180, 0, 95, 27, 182, 1, 30, 182, 0, 51, 167, 0, 8, 42]
abbrev dktX1_into_0 : List UInt8 := dkwX1_into_0 ++ dktX1_into_1
theorem dksX1_into_0 : cX1_into.data.toList.drop 0 = dktX1_into_0 := by decide +kernel
theorem dksX1_into_1 : cX1_into.data.toList.drop 24 = dktX1_into_1 := dk_seg dksX1_into_0 24 rfl rfl
theorem dX1_into_0 : decode cX1_into 0 = .ok (.aload_n 0, 1) := dk_42 (dk_at dksX1_into_0 0 rfl rfl)
theorem dX1_into_1 : decode cX1_into 1 = .ok (.iload_n 1, 1) := dk_27 (dk_at dksX1_into_0 1 rfl rfl)
theorem dX1_into_2 : decode cX1_into 2 = .ok (.invokevirtual 283, 3) := dk_182 1 27 (dk_at dksX1_into_0 2 rfl rfl)
theorem dX1_into_5 : decode cX1_into 5 = .ok (.ifCond .eq 18, 3) := dk_153 0 18 (dk_at dksX1_into_0 5 rfl rfl)
theorem dX1_into_8 : decode cX1_into 8 = .ok (.aload_n 0, 1) := dk_42 (dk_at dksX1_into_0 8 rfl rfl)
theorem dX1_into_9 : decode cX1_into 9 = .ok (.aload_n 0, 1) := dk_42 (dk_at dksX1_into_0 9 rfl rfl)
theorem dX1_into_10 : decode cX1_into 10 = .ok (.getfield 95, 3) := dk_180 0 95 (dk_at dksX1_into_0 10 rfl rfl)
theorem dX1_into_13 : decode cX1_into 13 = .ok (.iload_n 1, 1) := dk_27 (dk_at dksX1_into_0 13 rfl rfl)
theorem dX1_into_14 : decode cX1_into 14 = .ok (.invokevirtual 286, 3) := dk_182 1 30 (dk_at dksX1_into_0 14 rfl rfl)
theorem dX1_into_17 : decode cX1_into 17 = .ok (.invokevirtual 51, 3) := dk_182 0 51 (dk_at dksX1_into_0 17 rfl rfl)
theorem dX1_into_20 : decode cX1_into 20 = .ok (.goto 8, 3) := dk_167 0 8 (dk_at dksX1_into_0 20 rfl rfl)
theorem dX1_into_23 : decode cX1_into 23 = .ok (.aload_n 0, 1) := dk_42 (dk_at dksX1_into_0 23 rfl rfl)
theorem dX1_into_24 : decode cX1_into 24 = .ok (.iconst 1, 1) := dk_4 (dk_at dksX1_into_1 0 rfl rfl)
theorem dX1_into_25 : decode cX1_into 25 = .ok (.invokevirtual 47, 3) := dk_182 0 47 (dk_at dksX1_into_1 1 rfl rfl)
theorem dX1_into_28 : decode cX1_into 28 = .ok (.ireturn, 1) := dk_172 (dk_at dksX1_into_1 4 rfl rfl)
abbrev cX1_isPlace : ByteArray := prog_1_method_21_code
def yX1_isPlace : MethodName := ⟨RX1, "isPlace", "(I)Z"⟩
def dkwX1_isPlace_1 : List UInt8 := [167, 0, 4, 3, 172]
abbrev dktX1_isPlace_1 : List UInt8 := dkwX1_isPlace_1 ++ []
def dkwX1_isPlace_0 : List UInt8 := [42, 180, 0, 86, 198, 0, 21, 27, 3, 42, 182, 0, 112, 4, 100, 184, 0, 61, 153, 0, 7, 4]
abbrev dktX1_isPlace_0 : List UInt8 := dkwX1_isPlace_0 ++ dktX1_isPlace_1
theorem dksX1_isPlace_0 : cX1_isPlace.data.toList.drop 0 = dktX1_isPlace_0 := by decide +kernel
theorem dksX1_isPlace_1 : cX1_isPlace.data.toList.drop 22 = dktX1_isPlace_1 := dk_seg dksX1_isPlace_0 22 rfl rfl
theorem dX1_isPlace_0 : decode cX1_isPlace 0 = .ok (.aload_n 0, 1) := dk_42 (dk_at dksX1_isPlace_0 0 rfl rfl)
theorem dX1_isPlace_1 : decode cX1_isPlace 1 = .ok (.getfield 86, 3) := dk_180 0 86 (dk_at dksX1_isPlace_0 1 rfl rfl)
theorem dX1_isPlace_4 : decode cX1_isPlace 4 = .ok (.ifnull 21, 3) := dk_198 0 21 (dk_at dksX1_isPlace_0 4 rfl rfl)
theorem dX1_isPlace_7 : decode cX1_isPlace 7 = .ok (.iload_n 1, 1) := dk_27 (dk_at dksX1_isPlace_0 7 rfl rfl)
theorem dX1_isPlace_8 : decode cX1_isPlace 8 = .ok (.iconst 0, 1) := dk_3 (dk_at dksX1_isPlace_0 8 rfl rfl)
theorem dX1_isPlace_9 : decode cX1_isPlace 9 = .ok (.aload_n 0, 1) := dk_42 (dk_at dksX1_isPlace_0 9 rfl rfl)
theorem dX1_isPlace_10 : decode cX1_isPlace 10 = .ok (.invokevirtual 112, 3) := dk_182 0 112 (dk_at dksX1_isPlace_0 10 rfl rfl)
theorem dX1_isPlace_13 : decode cX1_isPlace 13 = .ok (.iconst 1, 1) := dk_4 (dk_at dksX1_isPlace_0 13 rfl rfl)
theorem dX1_isPlace_14 : decode cX1_isPlace 14 = .ok (.isub, 1) := dk_100 (dk_at dksX1_isPlace_0 14 rfl rfl)
theorem dX1_isPlace_15 : decode cX1_isPlace 15 = .ok (.invokestatic 61, 3) := dk_184 0 61 (dk_at dksX1_isPlace_0 15 rfl rfl)
theorem dX1_isPlace_18 : decode cX1_isPlace 18 = .ok (.ifCond .eq 7, 3) := dk_153 0 7 (dk_at dksX1_isPlace_0 18 rfl rfl)
theorem dX1_isPlace_21 : decode cX1_isPlace 21 = .ok (.iconst 1, 1) := dk_4 (dk_at dksX1_isPlace_0 21 rfl rfl)
theorem dX1_isPlace_22 : decode cX1_isPlace 22 = .ok (.goto 4, 3) := dk_167 0 4 (dk_at dksX1_isPlace_1 0 rfl rfl)
theorem dX1_isPlace_25 : decode cX1_isPlace 25 = .ok (.iconst 0, 1) := dk_3 (dk_at dksX1_isPlace_1 3 rfl rfl)
theorem dX1_isPlace_26 : decode cX1_isPlace 26 = .ok (.ireturn, 1) := dk_172 (dk_at dksX1_isPlace_1 4 rfl rfl)
abbrev cX1_watchers : ByteArray := prog_1_method_40_code
def yX1_watchers : MethodName := ⟨RX1, "watchers", "(II)I"⟩
def dkwX1_watchers_1 : List UInt8 := [167, 0, 16, 42, 42, 180, 0, 95, 27, 28, 182, 0, 200, 182, 0, 51, 172]
abbrev dktX1_watchers_1 : List UInt8 := dkwX1_watchers_1 ++ []
def dkwX1_watchers_0 : List UInt8 := [42, 42, 27, 182, 1, 27, 28, 3, 16, 59, 182, 1, 20, 62, 29, 158, 0, 11, 42, 29, 182, 0, 47]
abbrev dktX1_watchers_0 : List UInt8 := dkwX1_watchers_0 ++ dktX1_watchers_1
theorem dksX1_watchers_0 : cX1_watchers.data.toList.drop 0 = dktX1_watchers_0 := by decide +kernel
theorem dksX1_watchers_1 : cX1_watchers.data.toList.drop 23 = dktX1_watchers_1 := dk_seg dksX1_watchers_0 23 rfl rfl
theorem dX1_watchers_0 : decode cX1_watchers 0 = .ok (.aload_n 0, 1) := dk_42 (dk_at dksX1_watchers_0 0 rfl rfl)
theorem dX1_watchers_1 : decode cX1_watchers 1 = .ok (.aload_n 0, 1) := dk_42 (dk_at dksX1_watchers_0 1 rfl rfl)
theorem dX1_watchers_2 : decode cX1_watchers 2 = .ok (.iload_n 1, 1) := dk_27 (dk_at dksX1_watchers_0 2 rfl rfl)
theorem dX1_watchers_3 : decode cX1_watchers 3 = .ok (.invokevirtual 283, 3) := dk_182 1 27 (dk_at dksX1_watchers_0 3 rfl rfl)
theorem dX1_watchers_6 : decode cX1_watchers 6 = .ok (.iload_n 2, 1) := dk_28 (dk_at dksX1_watchers_0 6 rfl rfl)
theorem dX1_watchers_7 : decode cX1_watchers 7 = .ok (.iconst 0, 1) := dk_3 (dk_at dksX1_watchers_0 7 rfl rfl)
theorem dX1_watchers_8 : decode cX1_watchers 8 = .ok (.bipush 59, 2) := dk_16 59 (dk_at dksX1_watchers_0 8 rfl rfl)
theorem dX1_watchers_10 : decode cX1_watchers 10 = .ok (.invokevirtual 276, 3) := dk_182 1 20 (dk_at dksX1_watchers_0 10 rfl rfl)
theorem dX1_watchers_13 : decode cX1_watchers 13 = .ok (.istore_n 3, 1) := dk_62 (dk_at dksX1_watchers_0 13 rfl rfl)
theorem dX1_watchers_14 : decode cX1_watchers 14 = .ok (.iload_n 3, 1) := dk_29 (dk_at dksX1_watchers_0 14 rfl rfl)
theorem dX1_watchers_15 : decode cX1_watchers 15 = .ok (.ifCond .le 11, 3) := dk_158 0 11 (dk_at dksX1_watchers_0 15 rfl rfl)
theorem dX1_watchers_18 : decode cX1_watchers 18 = .ok (.aload_n 0, 1) := dk_42 (dk_at dksX1_watchers_0 18 rfl rfl)
theorem dX1_watchers_19 : decode cX1_watchers 19 = .ok (.iload_n 3, 1) := dk_29 (dk_at dksX1_watchers_0 19 rfl rfl)
theorem dX1_watchers_20 : decode cX1_watchers 20 = .ok (.invokevirtual 47, 3) := dk_182 0 47 (dk_at dksX1_watchers_0 20 rfl rfl)
theorem dX1_watchers_23 : decode cX1_watchers 23 = .ok (.goto 16, 3) := dk_167 0 16 (dk_at dksX1_watchers_1 0 rfl rfl)
theorem dX1_watchers_26 : decode cX1_watchers 26 = .ok (.aload_n 0, 1) := dk_42 (dk_at dksX1_watchers_1 3 rfl rfl)
theorem dX1_watchers_27 : decode cX1_watchers 27 = .ok (.aload_n 0, 1) := dk_42 (dk_at dksX1_watchers_1 4 rfl rfl)
theorem dX1_watchers_28 : decode cX1_watchers 28 = .ok (.getfield 95, 3) := dk_180 0 95 (dk_at dksX1_watchers_1 5 rfl rfl)
theorem dX1_watchers_31 : decode cX1_watchers 31 = .ok (.iload_n 1, 1) := dk_27 (dk_at dksX1_watchers_1 8 rfl rfl)
theorem dX1_watchers_32 : decode cX1_watchers 32 = .ok (.iload_n 2, 1) := dk_28 (dk_at dksX1_watchers_1 9 rfl rfl)
theorem dX1_watchers_33 : decode cX1_watchers 33 = .ok (.invokevirtual 200, 3) := dk_182 0 200 (dk_at dksX1_watchers_1 10 rfl rfl)
theorem dX1_watchers_36 : decode cX1_watchers 36 = .ok (.invokevirtual 51, 3) := dk_182 0 51 (dk_at dksX1_watchers_1 13 rfl rfl)
theorem dX1_watchers_39 : decode cX1_watchers 39 = .ok (.ireturn, 1) := dk_172 (dk_at dksX1_watchers_1 16 rfl rfl)
abbrev cX1_eyes : ByteArray := prog_1_method_41_code
def yX1_eyes : MethodName := ⟨RX1, "eyes", "(II)I"⟩
def dkwX1_eyes_1 : List UInt8 := [167, 0, 20, 42, 42, 42, 180, 0, 95, 27, 28, 182, 0, 200, 182, 0, 218, 182, 0, 51, 172]
abbrev dktX1_eyes_1 : List UInt8 := dkwX1_eyes_1 ++ []
def dkwX1_eyes_0 : List UInt8 := [42, 42, 27, 182, 1, 27, 28, 3, 16, 59, 182, 1, 20, 62, 29, 158, 0, 11, 42, 29, 182, 0, 47]
abbrev dktX1_eyes_0 : List UInt8 := dkwX1_eyes_0 ++ dktX1_eyes_1
theorem dksX1_eyes_0 : cX1_eyes.data.toList.drop 0 = dktX1_eyes_0 := by decide +kernel
theorem dksX1_eyes_1 : cX1_eyes.data.toList.drop 23 = dktX1_eyes_1 := dk_seg dksX1_eyes_0 23 rfl rfl
theorem dX1_eyes_0 : decode cX1_eyes 0 = .ok (.aload_n 0, 1) := dk_42 (dk_at dksX1_eyes_0 0 rfl rfl)
theorem dX1_eyes_1 : decode cX1_eyes 1 = .ok (.aload_n 0, 1) := dk_42 (dk_at dksX1_eyes_0 1 rfl rfl)
theorem dX1_eyes_2 : decode cX1_eyes 2 = .ok (.iload_n 1, 1) := dk_27 (dk_at dksX1_eyes_0 2 rfl rfl)
theorem dX1_eyes_3 : decode cX1_eyes 3 = .ok (.invokevirtual 283, 3) := dk_182 1 27 (dk_at dksX1_eyes_0 3 rfl rfl)
theorem dX1_eyes_6 : decode cX1_eyes 6 = .ok (.iload_n 2, 1) := dk_28 (dk_at dksX1_eyes_0 6 rfl rfl)
theorem dX1_eyes_7 : decode cX1_eyes 7 = .ok (.iconst 0, 1) := dk_3 (dk_at dksX1_eyes_0 7 rfl rfl)
theorem dX1_eyes_8 : decode cX1_eyes 8 = .ok (.bipush 59, 2) := dk_16 59 (dk_at dksX1_eyes_0 8 rfl rfl)
theorem dX1_eyes_10 : decode cX1_eyes 10 = .ok (.invokevirtual 276, 3) := dk_182 1 20 (dk_at dksX1_eyes_0 10 rfl rfl)
theorem dX1_eyes_13 : decode cX1_eyes 13 = .ok (.istore_n 3, 1) := dk_62 (dk_at dksX1_eyes_0 13 rfl rfl)
theorem dX1_eyes_14 : decode cX1_eyes 14 = .ok (.iload_n 3, 1) := dk_29 (dk_at dksX1_eyes_0 14 rfl rfl)
theorem dX1_eyes_15 : decode cX1_eyes 15 = .ok (.ifCond .le 11, 3) := dk_158 0 11 (dk_at dksX1_eyes_0 15 rfl rfl)
theorem dX1_eyes_18 : decode cX1_eyes 18 = .ok (.aload_n 0, 1) := dk_42 (dk_at dksX1_eyes_0 18 rfl rfl)
theorem dX1_eyes_19 : decode cX1_eyes 19 = .ok (.iload_n 3, 1) := dk_29 (dk_at dksX1_eyes_0 19 rfl rfl)
theorem dX1_eyes_20 : decode cX1_eyes 20 = .ok (.invokevirtual 47, 3) := dk_182 0 47 (dk_at dksX1_eyes_0 20 rfl rfl)
theorem dX1_eyes_23 : decode cX1_eyes 23 = .ok (.goto 20, 3) := dk_167 0 20 (dk_at dksX1_eyes_1 0 rfl rfl)
theorem dX1_eyes_26 : decode cX1_eyes 26 = .ok (.aload_n 0, 1) := dk_42 (dk_at dksX1_eyes_1 3 rfl rfl)
theorem dX1_eyes_27 : decode cX1_eyes 27 = .ok (.aload_n 0, 1) := dk_42 (dk_at dksX1_eyes_1 4 rfl rfl)
theorem dX1_eyes_28 : decode cX1_eyes 28 = .ok (.aload_n 0, 1) := dk_42 (dk_at dksX1_eyes_1 5 rfl rfl)
theorem dX1_eyes_29 : decode cX1_eyes 29 = .ok (.getfield 95, 3) := dk_180 0 95 (dk_at dksX1_eyes_1 6 rfl rfl)
theorem dX1_eyes_32 : decode cX1_eyes 32 = .ok (.iload_n 1, 1) := dk_27 (dk_at dksX1_eyes_1 9 rfl rfl)
theorem dX1_eyes_33 : decode cX1_eyes 33 = .ok (.iload_n 2, 1) := dk_28 (dk_at dksX1_eyes_1 10 rfl rfl)
theorem dX1_eyes_34 : decode cX1_eyes 34 = .ok (.invokevirtual 200, 3) := dk_182 0 200 (dk_at dksX1_eyes_1 11 rfl rfl)
theorem dX1_eyes_37 : decode cX1_eyes 37 = .ok (.invokevirtual 218, 3) := dk_182 0 218 (dk_at dksX1_eyes_1 14 rfl rfl)
theorem dX1_eyes_40 : decode cX1_eyes 40 = .ok (.invokevirtual 51, 3) := dk_182 0 51 (dk_at dksX1_eyes_1 17 rfl rfl)
theorem dX1_eyes_43 : decode cX1_eyes 43 = .ok (.ireturn, 1) := dk_172 (dk_at dksX1_eyes_1 20 rfl rfl)
abbrev cX1_eyesOfAll : ByteArray := prog_1_method_28_code
def yX1_eyesOfAll : MethodName := ⟨RX1, "eyesOfAll", "(I)I"⟩
def dkwX1_eyesOfAll_1 : List UInt8 := [182, 0, 155, 167, 0, 4, 3, 96, 61, 132, 3, 1, 167, 255, 225, 28, 172]
abbrev dktX1_eyesOfAll_1 : List UInt8 := dkwX1_eyesOfAll_1 ++ []
def dkwX1_eyesOfAll_0 : List UInt8 := [3, 61, 3, 62, 29, 42, 182, 0, 132, 162, 0, 29, 28, 27, 29, 184, 0, 151, 153, 0, 11, 42, 29]
abbrev dktX1_eyesOfAll_0 : List UInt8 := dkwX1_eyesOfAll_0 ++ dktX1_eyesOfAll_1
theorem dksX1_eyesOfAll_0 : cX1_eyesOfAll.data.toList.drop 0 = dktX1_eyesOfAll_0 := by decide +kernel
theorem dksX1_eyesOfAll_1 : cX1_eyesOfAll.data.toList.drop 23 = dktX1_eyesOfAll_1 := dk_seg dksX1_eyesOfAll_0 23 rfl rfl
theorem dX1_eyesOfAll_0 : decode cX1_eyesOfAll 0 = .ok (.iconst 0, 1) := dk_3 (dk_at dksX1_eyesOfAll_0 0 rfl rfl)
theorem dX1_eyesOfAll_1 : decode cX1_eyesOfAll 1 = .ok (.istore_n 2, 1) := dk_61 (dk_at dksX1_eyesOfAll_0 1 rfl rfl)
theorem dX1_eyesOfAll_2 : decode cX1_eyesOfAll 2 = .ok (.iconst 0, 1) := dk_3 (dk_at dksX1_eyesOfAll_0 2 rfl rfl)
theorem dX1_eyesOfAll_3 : decode cX1_eyesOfAll 3 = .ok (.istore_n 3, 1) := dk_62 (dk_at dksX1_eyesOfAll_0 3 rfl rfl)
theorem dX1_eyesOfAll_4 : decode cX1_eyesOfAll 4 = .ok (.iload_n 3, 1) := dk_29 (dk_at dksX1_eyesOfAll_0 4 rfl rfl)
theorem dX1_eyesOfAll_5 : decode cX1_eyesOfAll 5 = .ok (.aload_n 0, 1) := dk_42 (dk_at dksX1_eyesOfAll_0 5 rfl rfl)
theorem dX1_eyesOfAll_6 : decode cX1_eyesOfAll 6 = .ok (.invokevirtual 132, 3) := dk_182 0 132 (dk_at dksX1_eyesOfAll_0 6 rfl rfl)
theorem dX1_eyesOfAll_9 : decode cX1_eyesOfAll 9 = .ok (.if_icmp .ge 29, 3) := dk_162 0 29 (dk_at dksX1_eyesOfAll_0 9 rfl rfl)
theorem dX1_eyesOfAll_12 : decode cX1_eyesOfAll 12 = .ok (.iload_n 2, 1) := dk_28 (dk_at dksX1_eyesOfAll_0 12 rfl rfl)
theorem dX1_eyesOfAll_13 : decode cX1_eyesOfAll 13 = .ok (.iload_n 1, 1) := dk_27 (dk_at dksX1_eyesOfAll_0 13 rfl rfl)
theorem dX1_eyesOfAll_14 : decode cX1_eyesOfAll 14 = .ok (.iload_n 3, 1) := dk_29 (dk_at dksX1_eyesOfAll_0 14 rfl rfl)
theorem dX1_eyesOfAll_15 : decode cX1_eyesOfAll 15 = .ok (.invokestatic 151, 3) := dk_184 0 151 (dk_at dksX1_eyesOfAll_0 15 rfl rfl)
theorem dX1_eyesOfAll_18 : decode cX1_eyesOfAll 18 = .ok (.ifCond .eq 11, 3) := dk_153 0 11 (dk_at dksX1_eyesOfAll_0 18 rfl rfl)
theorem dX1_eyesOfAll_21 : decode cX1_eyesOfAll 21 = .ok (.aload_n 0, 1) := dk_42 (dk_at dksX1_eyesOfAll_0 21 rfl rfl)
theorem dX1_eyesOfAll_22 : decode cX1_eyesOfAll 22 = .ok (.iload_n 3, 1) := dk_29 (dk_at dksX1_eyesOfAll_0 22 rfl rfl)
theorem dX1_eyesOfAll_23 : decode cX1_eyesOfAll 23 = .ok (.invokevirtual 155, 3) := dk_182 0 155 (dk_at dksX1_eyesOfAll_1 0 rfl rfl)
theorem dX1_eyesOfAll_26 : decode cX1_eyesOfAll 26 = .ok (.goto 4, 3) := dk_167 0 4 (dk_at dksX1_eyesOfAll_1 3 rfl rfl)
theorem dX1_eyesOfAll_29 : decode cX1_eyesOfAll 29 = .ok (.iconst 0, 1) := dk_3 (dk_at dksX1_eyesOfAll_1 6 rfl rfl)
theorem dX1_eyesOfAll_30 : decode cX1_eyesOfAll 30 = .ok (.iadd, 1) := dk_96 (dk_at dksX1_eyesOfAll_1 7 rfl rfl)
theorem dX1_eyesOfAll_31 : decode cX1_eyesOfAll 31 = .ok (.istore_n 2, 1) := dk_61 (dk_at dksX1_eyesOfAll_1 8 rfl rfl)
theorem dX1_eyesOfAll_32 : decode cX1_eyesOfAll 32 = .ok (.iinc 3 1, 3) := dk_132 3 1 (dk_at dksX1_eyesOfAll_1 9 rfl rfl)
theorem dX1_eyesOfAll_35 : decode cX1_eyesOfAll 35 = .ok (.goto (-31), 3) := dk_167 255 225 (dk_at dksX1_eyesOfAll_1 12 rfl rfl)
theorem dX1_eyesOfAll_38 : decode cX1_eyesOfAll 38 = .ok (.iload_n 2, 1) := dk_28 (dk_at dksX1_eyesOfAll_1 15 rfl rfl)
theorem dX1_eyesOfAll_39 : decode cX1_eyesOfAll 39 = .ok (.ireturn, 1) := dk_172 (dk_at dksX1_eyesOfAll_1 16 rfl rfl)
abbrev cX1_eyesOf : ByteArray := prog_1_method_27_code
def yX1_eyesOf : MethodName := ⟨RX1, "eyesOf", "(I)I"⟩
def dkwX1_eyesOf_0 : List UInt8 := [27, 42, 180, 0, 27, 160, 0, 7, 5, 167, 0, 14, 42, 180, 0, 86, 27, 182, 0, 142, 182, 0, 146, 172]
abbrev dktX1_eyesOf_0 : List UInt8 := dkwX1_eyesOf_0 ++ []
theorem dksX1_eyesOf_0 : cX1_eyesOf.data.toList.drop 0 = dktX1_eyesOf_0 := by decide +kernel
theorem dX1_eyesOf_0 : decode cX1_eyesOf 0 = .ok (.iload_n 1, 1) := dk_27 (dk_at dksX1_eyesOf_0 0 rfl rfl)
theorem dX1_eyesOf_1 : decode cX1_eyesOf 1 = .ok (.aload_n 0, 1) := dk_42 (dk_at dksX1_eyesOf_0 1 rfl rfl)
theorem dX1_eyesOf_2 : decode cX1_eyesOf 2 = .ok (.getfield 27, 3) := dk_180 0 27 (dk_at dksX1_eyesOf_0 2 rfl rfl)
theorem dX1_eyesOf_5 : decode cX1_eyesOf 5 = .ok (.if_icmp .ne 7, 3) := dk_160 0 7 (dk_at dksX1_eyesOf_0 5 rfl rfl)
theorem dX1_eyesOf_8 : decode cX1_eyesOf 8 = .ok (.iconst 2, 1) := dk_5 (dk_at dksX1_eyesOf_0 8 rfl rfl)
theorem dX1_eyesOf_9 : decode cX1_eyesOf 9 = .ok (.goto 14, 3) := dk_167 0 14 (dk_at dksX1_eyesOf_0 9 rfl rfl)
theorem dX1_eyesOf_12 : decode cX1_eyesOf 12 = .ok (.aload_n 0, 1) := dk_42 (dk_at dksX1_eyesOf_0 12 rfl rfl)
theorem dX1_eyesOf_13 : decode cX1_eyesOf 13 = .ok (.getfield 86, 3) := dk_180 0 86 (dk_at dksX1_eyesOf_0 13 rfl rfl)
theorem dX1_eyesOf_16 : decode cX1_eyesOf 16 = .ok (.iload_n 1, 1) := dk_27 (dk_at dksX1_eyesOf_0 16 rfl rfl)
theorem dX1_eyesOf_17 : decode cX1_eyesOf 17 = .ok (.invokevirtual 142, 3) := dk_182 0 142 (dk_at dksX1_eyesOf_0 17 rfl rfl)
theorem dX1_eyesOf_20 : decode cX1_eyesOf 20 = .ok (.invokevirtual 146, 3) := dk_182 0 146 (dk_at dksX1_eyesOf_0 20 rfl rfl)
theorem dX1_eyesOf_23 : decode cX1_eyesOf 23 = .ok (.ireturn, 1) := dk_172 (dk_at dksX1_eyesOf_0 23 rfl rfl)
abbrev cX1_hidden : ByteArray := prog_1_method_42_code
def yX1_hidden : MethodName := ⟨RX1, "hidden", "(I)I"⟩
def dkwX1_hidden_3 : List UInt8 := [3, 128, 62, 132, 4, 1, 167, 255, 216, 42, 29, 182, 0, 51, 172]
abbrev dktX1_hidden_3 : List UInt8 := dkwX1_hidden_3 ++ []
def dkwX1_hidden_2 : List UInt8 := [42, 42, 180, 0, 95, 21, 4, 27, 182, 0, 200, 182, 0, 218, 154, 0, 10, 4, 21, 4, 120, 167, 0, 4]
abbrev dktX1_hidden_2 : List UInt8 := dkwX1_hidden_2 ++ dktX1_hidden_3
def dkwX1_hidden_1 : List UInt8 := [158, 0, 9, 42, 28, 182, 0, 47, 172, 3, 62, 3, 54, 4, 21, 4, 42, 182, 0, 112, 162, 0, 37, 29]
abbrev dktX1_hidden_1 : List UInt8 := dkwX1_hidden_1 ++ dktX1_hidden_2
def dkwX1_hidden_0 : List UInt8 := [42, 42, 180, 0, 86, 198, 0, 7, 4, 167, 0, 4, 3, 27, 3, 16, 59, 182, 1, 20, 61, 28]
abbrev dktX1_hidden_0 : List UInt8 := dkwX1_hidden_0 ++ dktX1_hidden_1
theorem dksX1_hidden_0 : cX1_hidden.data.toList.drop 0 = dktX1_hidden_0 := by decide +kernel
theorem dksX1_hidden_1 : cX1_hidden.data.toList.drop 22 = dktX1_hidden_1 := dk_seg dksX1_hidden_0 22 rfl rfl
theorem dksX1_hidden_2 : cX1_hidden.data.toList.drop 46 = dktX1_hidden_2 := dk_seg dksX1_hidden_1 24 rfl rfl
theorem dksX1_hidden_3 : cX1_hidden.data.toList.drop 70 = dktX1_hidden_3 := dk_seg dksX1_hidden_2 24 rfl rfl
theorem dX1_hidden_0 : decode cX1_hidden 0 = .ok (.aload_n 0, 1) := dk_42 (dk_at dksX1_hidden_0 0 rfl rfl)
theorem dX1_hidden_1 : decode cX1_hidden 1 = .ok (.aload_n 0, 1) := dk_42 (dk_at dksX1_hidden_0 1 rfl rfl)
theorem dX1_hidden_2 : decode cX1_hidden 2 = .ok (.getfield 86, 3) := dk_180 0 86 (dk_at dksX1_hidden_0 2 rfl rfl)
theorem dX1_hidden_5 : decode cX1_hidden 5 = .ok (.ifnull 7, 3) := dk_198 0 7 (dk_at dksX1_hidden_0 5 rfl rfl)
theorem dX1_hidden_8 : decode cX1_hidden 8 = .ok (.iconst 1, 1) := dk_4 (dk_at dksX1_hidden_0 8 rfl rfl)
theorem dX1_hidden_9 : decode cX1_hidden 9 = .ok (.goto 4, 3) := dk_167 0 4 (dk_at dksX1_hidden_0 9 rfl rfl)
theorem dX1_hidden_12 : decode cX1_hidden 12 = .ok (.iconst 0, 1) := dk_3 (dk_at dksX1_hidden_0 12 rfl rfl)
theorem dX1_hidden_13 : decode cX1_hidden 13 = .ok (.iload_n 1, 1) := dk_27 (dk_at dksX1_hidden_0 13 rfl rfl)
theorem dX1_hidden_14 : decode cX1_hidden 14 = .ok (.iconst 0, 1) := dk_3 (dk_at dksX1_hidden_0 14 rfl rfl)
theorem dX1_hidden_15 : decode cX1_hidden 15 = .ok (.bipush 59, 2) := dk_16 59 (dk_at dksX1_hidden_0 15 rfl rfl)
theorem dX1_hidden_17 : decode cX1_hidden 17 = .ok (.invokevirtual 276, 3) := dk_182 1 20 (dk_at dksX1_hidden_0 17 rfl rfl)
theorem dX1_hidden_20 : decode cX1_hidden 20 = .ok (.istore_n 2, 1) := dk_61 (dk_at dksX1_hidden_0 20 rfl rfl)
theorem dX1_hidden_21 : decode cX1_hidden 21 = .ok (.iload_n 2, 1) := dk_28 (dk_at dksX1_hidden_0 21 rfl rfl)
theorem dX1_hidden_22 : decode cX1_hidden 22 = .ok (.ifCond .le 9, 3) := dk_158 0 9 (dk_at dksX1_hidden_1 0 rfl rfl)
theorem dX1_hidden_25 : decode cX1_hidden 25 = .ok (.aload_n 0, 1) := dk_42 (dk_at dksX1_hidden_1 3 rfl rfl)
theorem dX1_hidden_26 : decode cX1_hidden 26 = .ok (.iload_n 2, 1) := dk_28 (dk_at dksX1_hidden_1 4 rfl rfl)
theorem dX1_hidden_27 : decode cX1_hidden 27 = .ok (.invokevirtual 47, 3) := dk_182 0 47 (dk_at dksX1_hidden_1 5 rfl rfl)
theorem dX1_hidden_30 : decode cX1_hidden 30 = .ok (.ireturn, 1) := dk_172 (dk_at dksX1_hidden_1 8 rfl rfl)
theorem dX1_hidden_31 : decode cX1_hidden 31 = .ok (.iconst 0, 1) := dk_3 (dk_at dksX1_hidden_1 9 rfl rfl)
theorem dX1_hidden_32 : decode cX1_hidden 32 = .ok (.istore_n 3, 1) := dk_62 (dk_at dksX1_hidden_1 10 rfl rfl)
theorem dX1_hidden_33 : decode cX1_hidden 33 = .ok (.iconst 0, 1) := dk_3 (dk_at dksX1_hidden_1 11 rfl rfl)
theorem dX1_hidden_34 : decode cX1_hidden 34 = .ok (.istore 4, 2) := dk_54 4 (dk_at dksX1_hidden_1 12 rfl rfl)
theorem dX1_hidden_36 : decode cX1_hidden 36 = .ok (.iload 4, 2) := dk_21 4 (dk_at dksX1_hidden_1 14 rfl rfl)
theorem dX1_hidden_38 : decode cX1_hidden 38 = .ok (.aload_n 0, 1) := dk_42 (dk_at dksX1_hidden_1 16 rfl rfl)
theorem dX1_hidden_39 : decode cX1_hidden 39 = .ok (.invokevirtual 112, 3) := dk_182 0 112 (dk_at dksX1_hidden_1 17 rfl rfl)
theorem dX1_hidden_42 : decode cX1_hidden 42 = .ok (.if_icmp .ge 37, 3) := dk_162 0 37 (dk_at dksX1_hidden_1 20 rfl rfl)
theorem dX1_hidden_45 : decode cX1_hidden 45 = .ok (.iload_n 3, 1) := dk_29 (dk_at dksX1_hidden_1 23 rfl rfl)
theorem dX1_hidden_46 : decode cX1_hidden 46 = .ok (.aload_n 0, 1) := dk_42 (dk_at dksX1_hidden_2 0 rfl rfl)
theorem dX1_hidden_47 : decode cX1_hidden 47 = .ok (.aload_n 0, 1) := dk_42 (dk_at dksX1_hidden_2 1 rfl rfl)
theorem dX1_hidden_48 : decode cX1_hidden 48 = .ok (.getfield 95, 3) := dk_180 0 95 (dk_at dksX1_hidden_2 2 rfl rfl)
theorem dX1_hidden_51 : decode cX1_hidden 51 = .ok (.iload 4, 2) := dk_21 4 (dk_at dksX1_hidden_2 5 rfl rfl)
theorem dX1_hidden_53 : decode cX1_hidden 53 = .ok (.iload_n 1, 1) := dk_27 (dk_at dksX1_hidden_2 7 rfl rfl)
theorem dX1_hidden_54 : decode cX1_hidden 54 = .ok (.invokevirtual 200, 3) := dk_182 0 200 (dk_at dksX1_hidden_2 8 rfl rfl)
theorem dX1_hidden_57 : decode cX1_hidden 57 = .ok (.invokevirtual 218, 3) := dk_182 0 218 (dk_at dksX1_hidden_2 11 rfl rfl)
theorem dX1_hidden_60 : decode cX1_hidden 60 = .ok (.ifCond .ne 10, 3) := dk_154 0 10 (dk_at dksX1_hidden_2 14 rfl rfl)
theorem dX1_hidden_63 : decode cX1_hidden 63 = .ok (.iconst 1, 1) := dk_4 (dk_at dksX1_hidden_2 17 rfl rfl)
theorem dX1_hidden_64 : decode cX1_hidden 64 = .ok (.iload 4, 2) := dk_21 4 (dk_at dksX1_hidden_2 18 rfl rfl)
theorem dX1_hidden_66 : decode cX1_hidden 66 = .ok (.ishl, 1) := dk_120 (dk_at dksX1_hidden_2 20 rfl rfl)
theorem dX1_hidden_67 : decode cX1_hidden 67 = .ok (.goto 4, 3) := dk_167 0 4 (dk_at dksX1_hidden_2 21 rfl rfl)
theorem dX1_hidden_70 : decode cX1_hidden 70 = .ok (.iconst 0, 1) := dk_3 (dk_at dksX1_hidden_3 0 rfl rfl)
theorem dX1_hidden_71 : decode cX1_hidden 71 = .ok (.ior, 1) := dk_128 (dk_at dksX1_hidden_3 1 rfl rfl)
theorem dX1_hidden_72 : decode cX1_hidden 72 = .ok (.istore_n 3, 1) := dk_62 (dk_at dksX1_hidden_3 2 rfl rfl)
theorem dX1_hidden_73 : decode cX1_hidden 73 = .ok (.iinc 4 1, 3) := dk_132 4 1 (dk_at dksX1_hidden_3 3 rfl rfl)
theorem dX1_hidden_76 : decode cX1_hidden 76 = .ok (.goto (-40), 3) := dk_167 255 216 (dk_at dksX1_hidden_3 6 rfl rfl)
theorem dX1_hidden_79 : decode cX1_hidden 79 = .ok (.aload_n 0, 1) := dk_42 (dk_at dksX1_hidden_3 9 rfl rfl)
theorem dX1_hidden_80 : decode cX1_hidden 80 = .ok (.iload_n 3, 1) := dk_29 (dk_at dksX1_hidden_3 10 rfl rfl)
theorem dX1_hidden_81 : decode cX1_hidden 81 = .ok (.invokevirtual 51, 3) := dk_182 0 51 (dk_at dksX1_hidden_3 11 rfl rfl)
theorem dX1_hidden_84 : decode cX1_hidden 84 = .ok (.ireturn, 1) := dk_172 (dk_at dksX1_hidden_3 14 rfl rfl)
abbrev cX1_square : ByteArray := prog_1_method_43_code
def yX1_square : MethodName := ⟨RX1, "square", "()I"⟩
def dkwX1_square_3 : List UInt8 := [167, 0, 8, 21, 4, 61, 29, 60, 132, 3, 1, 167, 255, 193, 42, 27, 182, 0, 51, 172]
abbrev dktX1_square_3 : List UInt8 := dkwX1_square_3 ++ []
def dkwX1_square_2 : List UInt8 := [21, 5, 182, 0, 200, 182, 0, 218, 96, 54, 4, 132, 5, 1, 167, 255, 227, 21, 4, 28, 163, 0, 6]
abbrev dktX1_square_2 : List UInt8 := dkwX1_square_2 ++ dktX1_square_3
def dkwX1_square_1 : List UInt8 := [162, 0, 61, 3, 54, 4, 3, 54, 5, 21, 5, 16, 59, 163, 0, 28, 21, 4, 42, 42, 180, 0, 95, 29]
abbrev dktX1_square_1 : List UInt8 := dkwX1_square_1 ++ dktX1_square_2
def dkwX1_square_0 : List UInt8 := [42, 180, 0, 86, 199, 0, 9, 42, 4, 182, 0, 47, 172, 3, 60, 2, 61, 3, 62, 29, 42, 182, 0, 112]
abbrev dktX1_square_0 : List UInt8 := dkwX1_square_0 ++ dktX1_square_1
theorem dksX1_square_0 : cX1_square.data.toList.drop 0 = dktX1_square_0 := by decide +kernel
theorem dksX1_square_1 : cX1_square.data.toList.drop 24 = dktX1_square_1 := dk_seg dksX1_square_0 24 rfl rfl
theorem dksX1_square_2 : cX1_square.data.toList.drop 48 = dktX1_square_2 := dk_seg dksX1_square_1 24 rfl rfl
theorem dksX1_square_3 : cX1_square.data.toList.drop 71 = dktX1_square_3 := dk_seg dksX1_square_2 23 rfl rfl
theorem dX1_square_0 : decode cX1_square 0 = .ok (.aload_n 0, 1) := dk_42 (dk_at dksX1_square_0 0 rfl rfl)
theorem dX1_square_1 : decode cX1_square 1 = .ok (.getfield 86, 3) := dk_180 0 86 (dk_at dksX1_square_0 1 rfl rfl)
theorem dX1_square_4 : decode cX1_square 4 = .ok (.ifnonnull 9, 3) := dk_199 0 9 (dk_at dksX1_square_0 4 rfl rfl)
theorem dX1_square_7 : decode cX1_square 7 = .ok (.aload_n 0, 1) := dk_42 (dk_at dksX1_square_0 7 rfl rfl)
theorem dX1_square_8 : decode cX1_square 8 = .ok (.iconst 1, 1) := dk_4 (dk_at dksX1_square_0 8 rfl rfl)
theorem dX1_square_9 : decode cX1_square 9 = .ok (.invokevirtual 47, 3) := dk_182 0 47 (dk_at dksX1_square_0 9 rfl rfl)
theorem dX1_square_12 : decode cX1_square 12 = .ok (.ireturn, 1) := dk_172 (dk_at dksX1_square_0 12 rfl rfl)
theorem dX1_square_13 : decode cX1_square 13 = .ok (.iconst 0, 1) := dk_3 (dk_at dksX1_square_0 13 rfl rfl)
theorem dX1_square_14 : decode cX1_square 14 = .ok (.istore_n 1, 1) := dk_60 (dk_at dksX1_square_0 14 rfl rfl)
theorem dX1_square_15 : decode cX1_square 15 = .ok (.iconst (-1), 1) := dk_2 (dk_at dksX1_square_0 15 rfl rfl)
theorem dX1_square_16 : decode cX1_square 16 = .ok (.istore_n 2, 1) := dk_61 (dk_at dksX1_square_0 16 rfl rfl)
theorem dX1_square_17 : decode cX1_square 17 = .ok (.iconst 0, 1) := dk_3 (dk_at dksX1_square_0 17 rfl rfl)
theorem dX1_square_18 : decode cX1_square 18 = .ok (.istore_n 3, 1) := dk_62 (dk_at dksX1_square_0 18 rfl rfl)
theorem dX1_square_19 : decode cX1_square 19 = .ok (.iload_n 3, 1) := dk_29 (dk_at dksX1_square_0 19 rfl rfl)
theorem dX1_square_20 : decode cX1_square 20 = .ok (.aload_n 0, 1) := dk_42 (dk_at dksX1_square_0 20 rfl rfl)
theorem dX1_square_21 : decode cX1_square 21 = .ok (.invokevirtual 112, 3) := dk_182 0 112 (dk_at dksX1_square_0 21 rfl rfl)
theorem dX1_square_24 : decode cX1_square 24 = .ok (.if_icmp .ge 61, 3) := dk_162 0 61 (dk_at dksX1_square_1 0 rfl rfl)
theorem dX1_square_27 : decode cX1_square 27 = .ok (.iconst 0, 1) := dk_3 (dk_at dksX1_square_1 3 rfl rfl)
theorem dX1_square_28 : decode cX1_square 28 = .ok (.istore 4, 2) := dk_54 4 (dk_at dksX1_square_1 4 rfl rfl)
theorem dX1_square_30 : decode cX1_square 30 = .ok (.iconst 0, 1) := dk_3 (dk_at dksX1_square_1 6 rfl rfl)
theorem dX1_square_31 : decode cX1_square 31 = .ok (.istore 5, 2) := dk_54 5 (dk_at dksX1_square_1 7 rfl rfl)
theorem dX1_square_33 : decode cX1_square 33 = .ok (.iload 5, 2) := dk_21 5 (dk_at dksX1_square_1 9 rfl rfl)
theorem dX1_square_35 : decode cX1_square 35 = .ok (.bipush 59, 2) := dk_16 59 (dk_at dksX1_square_1 11 rfl rfl)
theorem dX1_square_37 : decode cX1_square 37 = .ok (.if_icmp .gt 28, 3) := dk_163 0 28 (dk_at dksX1_square_1 13 rfl rfl)
theorem dX1_square_40 : decode cX1_square 40 = .ok (.iload 4, 2) := dk_21 4 (dk_at dksX1_square_1 16 rfl rfl)
theorem dX1_square_42 : decode cX1_square 42 = .ok (.aload_n 0, 1) := dk_42 (dk_at dksX1_square_1 18 rfl rfl)
theorem dX1_square_43 : decode cX1_square 43 = .ok (.aload_n 0, 1) := dk_42 (dk_at dksX1_square_1 19 rfl rfl)
theorem dX1_square_44 : decode cX1_square 44 = .ok (.getfield 95, 3) := dk_180 0 95 (dk_at dksX1_square_1 20 rfl rfl)
theorem dX1_square_47 : decode cX1_square 47 = .ok (.iload_n 3, 1) := dk_29 (dk_at dksX1_square_1 23 rfl rfl)
theorem dX1_square_48 : decode cX1_square 48 = .ok (.iload 5, 2) := dk_21 5 (dk_at dksX1_square_2 0 rfl rfl)
theorem dX1_square_50 : decode cX1_square 50 = .ok (.invokevirtual 200, 3) := dk_182 0 200 (dk_at dksX1_square_2 2 rfl rfl)
theorem dX1_square_53 : decode cX1_square 53 = .ok (.invokevirtual 218, 3) := dk_182 0 218 (dk_at dksX1_square_2 5 rfl rfl)
theorem dX1_square_56 : decode cX1_square 56 = .ok (.iadd, 1) := dk_96 (dk_at dksX1_square_2 8 rfl rfl)
theorem dX1_square_57 : decode cX1_square 57 = .ok (.istore 4, 2) := dk_54 4 (dk_at dksX1_square_2 9 rfl rfl)
theorem dX1_square_59 : decode cX1_square 59 = .ok (.iinc 5 1, 3) := dk_132 5 1 (dk_at dksX1_square_2 11 rfl rfl)
theorem dX1_square_62 : decode cX1_square 62 = .ok (.goto (-29), 3) := dk_167 255 227 (dk_at dksX1_square_2 14 rfl rfl)
theorem dX1_square_65 : decode cX1_square 65 = .ok (.iload 4, 2) := dk_21 4 (dk_at dksX1_square_2 17 rfl rfl)
theorem dX1_square_67 : decode cX1_square 67 = .ok (.iload_n 2, 1) := dk_28 (dk_at dksX1_square_2 19 rfl rfl)
theorem dX1_square_68 : decode cX1_square 68 = .ok (.if_icmp .gt 6, 3) := dk_163 0 6 (dk_at dksX1_square_2 20 rfl rfl)
theorem dX1_square_71 : decode cX1_square 71 = .ok (.goto 8, 3) := dk_167 0 8 (dk_at dksX1_square_3 0 rfl rfl)
theorem dX1_square_74 : decode cX1_square 74 = .ok (.iload 4, 2) := dk_21 4 (dk_at dksX1_square_3 3 rfl rfl)
theorem dX1_square_76 : decode cX1_square 76 = .ok (.istore_n 2, 1) := dk_61 (dk_at dksX1_square_3 5 rfl rfl)
theorem dX1_square_77 : decode cX1_square 77 = .ok (.iload_n 3, 1) := dk_29 (dk_at dksX1_square_3 6 rfl rfl)
theorem dX1_square_78 : decode cX1_square 78 = .ok (.istore_n 1, 1) := dk_60 (dk_at dksX1_square_3 7 rfl rfl)
theorem dX1_square_79 : decode cX1_square 79 = .ok (.iinc 3 1, 3) := dk_132 3 1 (dk_at dksX1_square_3 8 rfl rfl)
theorem dX1_square_82 : decode cX1_square 82 = .ok (.goto (-63), 3) := dk_167 255 193 (dk_at dksX1_square_3 11 rfl rfl)
theorem dX1_square_85 : decode cX1_square 85 = .ok (.aload_n 0, 1) := dk_42 (dk_at dksX1_square_3 14 rfl rfl)
theorem dX1_square_86 : decode cX1_square 86 = .ok (.iload_n 1, 1) := dk_27 (dk_at dksX1_square_3 15 rfl rfl)
theorem dX1_square_87 : decode cX1_square 87 = .ok (.invokevirtual 51, 3) := dk_182 0 51 (dk_at dksX1_square_3 16 rfl rfl)
theorem dX1_square_90 : decode cX1_square 90 = .ok (.ireturn, 1) := dk_172 (dk_at dksX1_square_3 19 rfl rfl)
abbrev cX1_ends : ByteArray := prog_1_method_44_code
def yX1_ends : MethodName := ⟨RX1, "ends", "(I)I"⟩
def dkwX1_ends_1 : List UInt8 := [182, 0, 47, 172]
abbrev dktX1_ends_1 : List UInt8 := dkwX1_ends_1 ++ []
def dkwX1_ends_0 : List UInt8 := [42, 27, 182, 1, 17, 153, 0, 15, 42, 42, 27, 182, 1, 32, 182, 0, 51, 167, 0, 8, 42, 4]
abbrev dktX1_ends_0 : List UInt8 := dkwX1_ends_0 ++ dktX1_ends_1
theorem dksX1_ends_0 : cX1_ends.data.toList.drop 0 = dktX1_ends_0 := by decide +kernel
theorem dksX1_ends_1 : cX1_ends.data.toList.drop 22 = dktX1_ends_1 := dk_seg dksX1_ends_0 22 rfl rfl
theorem dX1_ends_0 : decode cX1_ends 0 = .ok (.aload_n 0, 1) := dk_42 (dk_at dksX1_ends_0 0 rfl rfl)
theorem dX1_ends_1 : decode cX1_ends 1 = .ok (.iload_n 1, 1) := dk_27 (dk_at dksX1_ends_0 1 rfl rfl)
theorem dX1_ends_2 : decode cX1_ends 2 = .ok (.invokevirtual 273, 3) := dk_182 1 17 (dk_at dksX1_ends_0 2 rfl rfl)
theorem dX1_ends_5 : decode cX1_ends 5 = .ok (.ifCond .eq 15, 3) := dk_153 0 15 (dk_at dksX1_ends_0 5 rfl rfl)
theorem dX1_ends_8 : decode cX1_ends 8 = .ok (.aload_n 0, 1) := dk_42 (dk_at dksX1_ends_0 8 rfl rfl)
theorem dX1_ends_9 : decode cX1_ends 9 = .ok (.aload_n 0, 1) := dk_42 (dk_at dksX1_ends_0 9 rfl rfl)
theorem dX1_ends_10 : decode cX1_ends 10 = .ok (.iload_n 1, 1) := dk_27 (dk_at dksX1_ends_0 10 rfl rfl)
theorem dX1_ends_11 : decode cX1_ends 11 = .ok (.invokevirtual 288, 3) := dk_182 1 32 (dk_at dksX1_ends_0 11 rfl rfl)
theorem dX1_ends_14 : decode cX1_ends 14 = .ok (.invokevirtual 51, 3) := dk_182 0 51 (dk_at dksX1_ends_0 14 rfl rfl)
theorem dX1_ends_17 : decode cX1_ends 17 = .ok (.goto 8, 3) := dk_167 0 8 (dk_at dksX1_ends_0 17 rfl rfl)
theorem dX1_ends_20 : decode cX1_ends 20 = .ok (.aload_n 0, 1) := dk_42 (dk_at dksX1_ends_0 20 rfl rfl)
theorem dX1_ends_21 : decode cX1_ends 21 = .ok (.iconst 1, 1) := dk_4 (dk_at dksX1_ends_0 21 rfl rfl)
theorem dX1_ends_22 : decode cX1_ends 22 = .ok (.invokevirtual 47, 3) := dk_182 0 47 (dk_at dksX1_ends_1 0 rfl rfl)
theorem dX1_ends_25 : decode cX1_ends 25 = .ok (.ireturn, 1) := dk_172 (dk_at dksX1_ends_1 3 rfl rfl)
abbrev cX1_brawlsNow : ByteArray := prog_1_method_32_code
def yX1_brawlsNow : MethodName := ⟨RX1, "brawlsNow", "(I)I"⟩
def dkwX1_brawlsNow_0 : List UInt8 := [42, 42, 180, 0, 95, 27, 182, 0, 237, 172]
abbrev dktX1_brawlsNow_0 : List UInt8 := dkwX1_brawlsNow_0 ++ []
theorem dksX1_brawlsNow_0 : cX1_brawlsNow.data.toList.drop 0 = dktX1_brawlsNow_0 := by decide +kernel
theorem dX1_brawlsNow_0 : decode cX1_brawlsNow 0 = .ok (.aload_n 0, 1) := dk_42 (dk_at dksX1_brawlsNow_0 0 rfl rfl)
theorem dX1_brawlsNow_1 : decode cX1_brawlsNow 1 = .ok (.aload_n 0, 1) := dk_42 (dk_at dksX1_brawlsNow_0 1 rfl rfl)
theorem dX1_brawlsNow_2 : decode cX1_brawlsNow 2 = .ok (.getfield 95, 3) := dk_180 0 95 (dk_at dksX1_brawlsNow_0 2 rfl rfl)
theorem dX1_brawlsNow_5 : decode cX1_brawlsNow 5 = .ok (.iload_n 1, 1) := dk_27 (dk_at dksX1_brawlsNow_0 5 rfl rfl)
theorem dX1_brawlsNow_6 : decode cX1_brawlsNow 6 = .ok (.invokevirtual 237, 3) := dk_182 0 237 (dk_at dksX1_brawlsNow_0 6 rfl rfl)
theorem dX1_brawlsNow_9 : decode cX1_brawlsNow 9 = .ok (.ireturn, 1) := dk_172 (dk_at dksX1_brawlsNow_0 9 rfl rfl)
abbrev cX1_brawlsOn : ByteArray := prog_1_method_31_code
def yX1_brawlsOn : MethodName := ⟨RX1, "brawlsOn", "(LThirdWitness$Scene;I)I"⟩
def dkwX1_brawlsOn_1 : List UInt8 := [180, 0, 230, 182, 0, 233, 172]
abbrev dktX1_brawlsOn_1 : List UInt8 := dkwX1_brawlsOn_1 ++ []
def dkwX1_brawlsOn_0 : List UInt8 := [42, 43, 28, 42, 180, 0, 86, 28, 182, 0, 173, 180, 0, 229, 42, 180, 0, 86, 28, 182, 0, 173]
abbrev dktX1_brawlsOn_0 : List UInt8 := dkwX1_brawlsOn_0 ++ dktX1_brawlsOn_1
theorem dksX1_brawlsOn_0 : cX1_brawlsOn.data.toList.drop 0 = dktX1_brawlsOn_0 := by decide +kernel
theorem dksX1_brawlsOn_1 : cX1_brawlsOn.data.toList.drop 22 = dktX1_brawlsOn_1 := dk_seg dksX1_brawlsOn_0 22 rfl rfl
theorem dX1_brawlsOn_0 : decode cX1_brawlsOn 0 = .ok (.aload_n 0, 1) := dk_42 (dk_at dksX1_brawlsOn_0 0 rfl rfl)
theorem dX1_brawlsOn_1 : decode cX1_brawlsOn 1 = .ok (.aload_n 1, 1) := dk_43 (dk_at dksX1_brawlsOn_0 1 rfl rfl)
theorem dX1_brawlsOn_2 : decode cX1_brawlsOn 2 = .ok (.iload_n 2, 1) := dk_28 (dk_at dksX1_brawlsOn_0 2 rfl rfl)
theorem dX1_brawlsOn_3 : decode cX1_brawlsOn 3 = .ok (.aload_n 0, 1) := dk_42 (dk_at dksX1_brawlsOn_0 3 rfl rfl)
theorem dX1_brawlsOn_4 : decode cX1_brawlsOn 4 = .ok (.getfield 86, 3) := dk_180 0 86 (dk_at dksX1_brawlsOn_0 4 rfl rfl)
theorem dX1_brawlsOn_7 : decode cX1_brawlsOn 7 = .ok (.iload_n 2, 1) := dk_28 (dk_at dksX1_brawlsOn_0 7 rfl rfl)
theorem dX1_brawlsOn_8 : decode cX1_brawlsOn 8 = .ok (.invokevirtual 173, 3) := dk_182 0 173 (dk_at dksX1_brawlsOn_0 8 rfl rfl)
theorem dX1_brawlsOn_11 : decode cX1_brawlsOn 11 = .ok (.getfield 229, 3) := dk_180 0 229 (dk_at dksX1_brawlsOn_0 11 rfl rfl)
theorem dX1_brawlsOn_14 : decode cX1_brawlsOn 14 = .ok (.aload_n 0, 1) := dk_42 (dk_at dksX1_brawlsOn_0 14 rfl rfl)
theorem dX1_brawlsOn_15 : decode cX1_brawlsOn 15 = .ok (.getfield 86, 3) := dk_180 0 86 (dk_at dksX1_brawlsOn_0 15 rfl rfl)
theorem dX1_brawlsOn_18 : decode cX1_brawlsOn 18 = .ok (.iload_n 2, 1) := dk_28 (dk_at dksX1_brawlsOn_0 18 rfl rfl)
theorem dX1_brawlsOn_19 : decode cX1_brawlsOn 19 = .ok (.invokevirtual 173, 3) := dk_182 0 173 (dk_at dksX1_brawlsOn_0 19 rfl rfl)
theorem dX1_brawlsOn_22 : decode cX1_brawlsOn 22 = .ok (.getfield 230, 3) := dk_180 0 230 (dk_at dksX1_brawlsOn_1 0 rfl rfl)
theorem dX1_brawlsOn_25 : decode cX1_brawlsOn 25 = .ok (.invokevirtual 233, 3) := dk_182 0 233 (dk_at dksX1_brawlsOn_1 3 rfl rfl)
theorem dX1_brawlsOn_28 : decode cX1_brawlsOn 28 = .ok (.ireturn, 1) := dk_172 (dk_at dksX1_brawlsOn_1 6 rfl rfl)
abbrev cX1_brawls : ByteArray := prog_1_method_30_code
def yX1_brawls : MethodName := ⟨RX1, "brawls", "(LThirdWitness$Scene;III)I"⟩
def dkwX1_brawls_11 : List UInt8 := [167, 0, 4, 5, 172, 132, 7, 1, 167, 255, 52, 42, 16, 254, 181, 0, 215, 16, 254, 172]
abbrev dktX1_brawls_11 : List UInt8 := dkwX1_brawls_11 ++ []
def dkwX1_brawls_10 : List UInt8 := [42, 180, 0, 191, 184, 0, 221, 25, 5, 180, 0, 226, 161, 0, 16, 42, 180, 0, 191, 158, 0, 7, 4]
abbrev dktX1_brawls_10 : List UInt8 := dkwX1_brawls_10 ++ dktX1_brawls_11
def dkwX1_brawls_9 : List UInt8 := [21, 9, 181, 0, 194, 132, 9, 255, 167, 255, 232, 3, 172, 42, 89, 180, 0, 191, 21, 6, 96, 181, 0, 191]
abbrev dktX1_brawls_9 : List UInt8 := dkwX1_brawls_9 ++ dktX1_brawls_10
def dkwX1_brawls_8 : List UInt8 := [182, 0, 132, 4, 100, 54, 9, 21, 9, 155, 0, 25, 21, 8, 21, 9, 184, 0, 151, 153, 0, 9, 42]
abbrev dktX1_brawls_8 : List UInt8 := dkwX1_brawls_8 ++ dktX1_brawls_9
def dkwX1_brawls_7 : List UInt8 := [181, 0, 215, 42, 42, 180, 0, 188, 182, 0, 218, 5, 42, 180, 0, 197, 104, 96, 16, 6, 161, 0, 40, 42]
abbrev dktX1_brawls_7 : List UInt8 := dkwX1_brawls_7 ++ dktX1_brawls_8
def dkwX1_brawls_6 : List UInt8 := [180, 0, 86, 180, 0, 214, 162, 0, 13, 42, 89, 180, 0, 197, 4, 96, 181, 0, 197, 42, 21, 7]
abbrev dktX1_brawls_6 : List UInt8 := dkwX1_brawls_6 ++ dktX1_brawls_7
def dkwX1_brawls_5 : List UInt8 := [153, 0, 41, 42, 42, 180, 0, 208, 184, 0, 211, 181, 0, 208, 42, 180, 0, 208, 16, 100, 112, 42]
abbrev dktX1_brawls_5 : List UInt8 := dkwX1_brawls_5 ++ dktX1_brawls_6
def dkwX1_brawls_4 : List UInt8 := [180, 0, 188, 2, 130, 126, 54, 8, 42, 89, 180, 0, 188, 21, 8, 128, 181, 0, 188, 42, 180, 0, 204]
abbrev dktX1_brawls_4 : List UInt8 := dkwX1_brawls_4 ++ dktX1_brawls_5
def dkwX1_brawls_3 : List UInt8 := [182, 0, 200, 4, 25, 5, 180, 0, 177, 120, 2, 130, 126, 4, 25, 5, 180, 0, 185, 120, 2, 130, 126, 42]
abbrev dktX1_brawls_3 : List UInt8 := dkwX1_brawls_3 ++ dktX1_brawls_4
def dkwX1_brawls_2 : List UInt8 := [181, 0, 194, 42, 3, 181, 0, 197, 21, 4, 54, 7, 21, 7, 16, 59, 163, 0, 203, 43, 29, 21, 7]
abbrev dktX1_brawls_2 : List UInt8 := dkwX1_brawls_2 ++ dktX1_brawls_3
def dkwX1_brawls_1 : List UInt8 := [180, 0, 185, 182, 0, 182, 100, 54, 6, 42, 3, 181, 0, 188, 42, 3, 181, 0, 191, 42, 16, 254]
abbrev dktX1_brawls_1 : List UInt8 := dkwX1_brawls_1 ++ dktX1_brawls_2
def dkwX1_brawls_0 : List UInt8 := [42, 180, 0, 86, 28, 182, 0, 173, 58, 5, 42, 25, 5, 180, 0, 177, 182, 0, 182, 42, 25, 5]
abbrev dktX1_brawls_0 : List UInt8 := dkwX1_brawls_0 ++ dktX1_brawls_1
theorem dksX1_brawls_0 : cX1_brawls.data.toList.drop 0 = dktX1_brawls_0 := by decide +kernel
theorem dksX1_brawls_1 : cX1_brawls.data.toList.drop 22 = dktX1_brawls_1 := dk_seg dksX1_brawls_0 22 rfl rfl
theorem dksX1_brawls_2 : cX1_brawls.data.toList.drop 44 = dktX1_brawls_2 := dk_seg dksX1_brawls_1 22 rfl rfl
theorem dksX1_brawls_3 : cX1_brawls.data.toList.drop 67 = dktX1_brawls_3 := dk_seg dksX1_brawls_2 23 rfl rfl
theorem dksX1_brawls_4 : cX1_brawls.data.toList.drop 91 = dktX1_brawls_4 := dk_seg dksX1_brawls_3 24 rfl rfl
theorem dksX1_brawls_5 : cX1_brawls.data.toList.drop 114 = dktX1_brawls_5 := dk_seg dksX1_brawls_4 23 rfl rfl
theorem dksX1_brawls_6 : cX1_brawls.data.toList.drop 136 = dktX1_brawls_6 := dk_seg dksX1_brawls_5 22 rfl rfl
theorem dksX1_brawls_7 : cX1_brawls.data.toList.drop 158 = dktX1_brawls_7 := dk_seg dksX1_brawls_6 22 rfl rfl
theorem dksX1_brawls_8 : cX1_brawls.data.toList.drop 182 = dktX1_brawls_8 := dk_seg dksX1_brawls_7 24 rfl rfl
theorem dksX1_brawls_9 : cX1_brawls.data.toList.drop 205 = dktX1_brawls_9 := dk_seg dksX1_brawls_8 23 rfl rfl
theorem dksX1_brawls_10 : cX1_brawls.data.toList.drop 229 = dktX1_brawls_10 := dk_seg dksX1_brawls_9 24 rfl rfl
theorem dksX1_brawls_11 : cX1_brawls.data.toList.drop 252 = dktX1_brawls_11 := dk_seg dksX1_brawls_10 23 rfl rfl
theorem dX1_brawls_0 : decode cX1_brawls 0 = .ok (.aload_n 0, 1) := dk_42 (dk_at dksX1_brawls_0 0 rfl rfl)
theorem dX1_brawls_1 : decode cX1_brawls 1 = .ok (.getfield 86, 3) := dk_180 0 86 (dk_at dksX1_brawls_0 1 rfl rfl)
theorem dX1_brawls_4 : decode cX1_brawls 4 = .ok (.iload_n 2, 1) := dk_28 (dk_at dksX1_brawls_0 4 rfl rfl)
theorem dX1_brawls_5 : decode cX1_brawls 5 = .ok (.invokevirtual 173, 3) := dk_182 0 173 (dk_at dksX1_brawls_0 5 rfl rfl)
theorem dX1_brawls_8 : decode cX1_brawls 8 = .ok (.astore 5, 2) := dk_58 5 (dk_at dksX1_brawls_0 8 rfl rfl)
theorem dX1_brawls_10 : decode cX1_brawls 10 = .ok (.aload_n 0, 1) := dk_42 (dk_at dksX1_brawls_0 10 rfl rfl)
theorem dX1_brawls_11 : decode cX1_brawls 11 = .ok (.aload 5, 2) := dk_25 5 (dk_at dksX1_brawls_0 11 rfl rfl)
theorem dX1_brawls_13 : decode cX1_brawls 13 = .ok (.getfield 177, 3) := dk_180 0 177 (dk_at dksX1_brawls_0 13 rfl rfl)
theorem dX1_brawls_16 : decode cX1_brawls 16 = .ok (.invokevirtual 182, 3) := dk_182 0 182 (dk_at dksX1_brawls_0 16 rfl rfl)
theorem dX1_brawls_19 : decode cX1_brawls 19 = .ok (.aload_n 0, 1) := dk_42 (dk_at dksX1_brawls_0 19 rfl rfl)
theorem dX1_brawls_20 : decode cX1_brawls 20 = .ok (.aload 5, 2) := dk_25 5 (dk_at dksX1_brawls_0 20 rfl rfl)
theorem dX1_brawls_22 : decode cX1_brawls 22 = .ok (.getfield 185, 3) := dk_180 0 185 (dk_at dksX1_brawls_1 0 rfl rfl)
theorem dX1_brawls_25 : decode cX1_brawls 25 = .ok (.invokevirtual 182, 3) := dk_182 0 182 (dk_at dksX1_brawls_1 3 rfl rfl)
theorem dX1_brawls_28 : decode cX1_brawls 28 = .ok (.isub, 1) := dk_100 (dk_at dksX1_brawls_1 6 rfl rfl)
theorem dX1_brawls_29 : decode cX1_brawls 29 = .ok (.istore 6, 2) := dk_54 6 (dk_at dksX1_brawls_1 7 rfl rfl)
theorem dX1_brawls_31 : decode cX1_brawls 31 = .ok (.aload_n 0, 1) := dk_42 (dk_at dksX1_brawls_1 9 rfl rfl)
theorem dX1_brawls_32 : decode cX1_brawls 32 = .ok (.iconst 0, 1) := dk_3 (dk_at dksX1_brawls_1 10 rfl rfl)
theorem dX1_brawls_33 : decode cX1_brawls 33 = .ok (.putfield 188, 3) := dk_181 0 188 (dk_at dksX1_brawls_1 11 rfl rfl)
theorem dX1_brawls_36 : decode cX1_brawls 36 = .ok (.aload_n 0, 1) := dk_42 (dk_at dksX1_brawls_1 14 rfl rfl)
theorem dX1_brawls_37 : decode cX1_brawls 37 = .ok (.iconst 0, 1) := dk_3 (dk_at dksX1_brawls_1 15 rfl rfl)
theorem dX1_brawls_38 : decode cX1_brawls 38 = .ok (.putfield 191, 3) := dk_181 0 191 (dk_at dksX1_brawls_1 16 rfl rfl)
theorem dX1_brawls_41 : decode cX1_brawls 41 = .ok (.aload_n 0, 1) := dk_42 (dk_at dksX1_brawls_1 19 rfl rfl)
theorem dX1_brawls_42 : decode cX1_brawls 42 = .ok (.bipush (-2), 2) := dk_16 254 (dk_at dksX1_brawls_1 20 rfl rfl)
theorem dX1_brawls_44 : decode cX1_brawls 44 = .ok (.putfield 194, 3) := dk_181 0 194 (dk_at dksX1_brawls_2 0 rfl rfl)
theorem dX1_brawls_47 : decode cX1_brawls 47 = .ok (.aload_n 0, 1) := dk_42 (dk_at dksX1_brawls_2 3 rfl rfl)
theorem dX1_brawls_48 : decode cX1_brawls 48 = .ok (.iconst 0, 1) := dk_3 (dk_at dksX1_brawls_2 4 rfl rfl)
theorem dX1_brawls_49 : decode cX1_brawls 49 = .ok (.putfield 197, 3) := dk_181 0 197 (dk_at dksX1_brawls_2 5 rfl rfl)
theorem dX1_brawls_52 : decode cX1_brawls 52 = .ok (.iload 4, 2) := dk_21 4 (dk_at dksX1_brawls_2 8 rfl rfl)
theorem dX1_brawls_54 : decode cX1_brawls 54 = .ok (.istore 7, 2) := dk_54 7 (dk_at dksX1_brawls_2 10 rfl rfl)
theorem dX1_brawls_56 : decode cX1_brawls 56 = .ok (.iload 7, 2) := dk_21 7 (dk_at dksX1_brawls_2 12 rfl rfl)
theorem dX1_brawls_58 : decode cX1_brawls 58 = .ok (.bipush 59, 2) := dk_16 59 (dk_at dksX1_brawls_2 14 rfl rfl)
theorem dX1_brawls_60 : decode cX1_brawls 60 = .ok (.if_icmp .gt 203, 3) := dk_163 0 203 (dk_at dksX1_brawls_2 16 rfl rfl)
theorem dX1_brawls_63 : decode cX1_brawls 63 = .ok (.aload_n 1, 1) := dk_43 (dk_at dksX1_brawls_2 19 rfl rfl)
theorem dX1_brawls_64 : decode cX1_brawls 64 = .ok (.iload_n 3, 1) := dk_29 (dk_at dksX1_brawls_2 20 rfl rfl)
theorem dX1_brawls_65 : decode cX1_brawls 65 = .ok (.iload 7, 2) := dk_21 7 (dk_at dksX1_brawls_2 21 rfl rfl)
theorem dX1_brawls_67 : decode cX1_brawls 67 = .ok (.invokevirtual 200, 3) := dk_182 0 200 (dk_at dksX1_brawls_3 0 rfl rfl)
theorem dX1_brawls_70 : decode cX1_brawls 70 = .ok (.iconst 1, 1) := dk_4 (dk_at dksX1_brawls_3 3 rfl rfl)
theorem dX1_brawls_71 : decode cX1_brawls 71 = .ok (.aload 5, 2) := dk_25 5 (dk_at dksX1_brawls_3 4 rfl rfl)
theorem dX1_brawls_73 : decode cX1_brawls 73 = .ok (.getfield 177, 3) := dk_180 0 177 (dk_at dksX1_brawls_3 6 rfl rfl)
theorem dX1_brawls_76 : decode cX1_brawls 76 = .ok (.ishl, 1) := dk_120 (dk_at dksX1_brawls_3 9 rfl rfl)
theorem dX1_brawls_77 : decode cX1_brawls 77 = .ok (.iconst (-1), 1) := dk_2 (dk_at dksX1_brawls_3 10 rfl rfl)
theorem dX1_brawls_78 : decode cX1_brawls 78 = .ok (.ixor, 1) := dk_130 (dk_at dksX1_brawls_3 11 rfl rfl)
theorem dX1_brawls_79 : decode cX1_brawls 79 = .ok (.iand, 1) := dk_126 (dk_at dksX1_brawls_3 12 rfl rfl)
theorem dX1_brawls_80 : decode cX1_brawls 80 = .ok (.iconst 1, 1) := dk_4 (dk_at dksX1_brawls_3 13 rfl rfl)
theorem dX1_brawls_81 : decode cX1_brawls 81 = .ok (.aload 5, 2) := dk_25 5 (dk_at dksX1_brawls_3 14 rfl rfl)
theorem dX1_brawls_83 : decode cX1_brawls 83 = .ok (.getfield 185, 3) := dk_180 0 185 (dk_at dksX1_brawls_3 16 rfl rfl)
theorem dX1_brawls_86 : decode cX1_brawls 86 = .ok (.ishl, 1) := dk_120 (dk_at dksX1_brawls_3 19 rfl rfl)
theorem dX1_brawls_87 : decode cX1_brawls 87 = .ok (.iconst (-1), 1) := dk_2 (dk_at dksX1_brawls_3 20 rfl rfl)
theorem dX1_brawls_88 : decode cX1_brawls 88 = .ok (.ixor, 1) := dk_130 (dk_at dksX1_brawls_3 21 rfl rfl)
theorem dX1_brawls_89 : decode cX1_brawls 89 = .ok (.iand, 1) := dk_126 (dk_at dksX1_brawls_3 22 rfl rfl)
theorem dX1_brawls_90 : decode cX1_brawls 90 = .ok (.aload_n 0, 1) := dk_42 (dk_at dksX1_brawls_3 23 rfl rfl)
theorem dX1_brawls_91 : decode cX1_brawls 91 = .ok (.getfield 188, 3) := dk_180 0 188 (dk_at dksX1_brawls_4 0 rfl rfl)
theorem dX1_brawls_94 : decode cX1_brawls 94 = .ok (.iconst (-1), 1) := dk_2 (dk_at dksX1_brawls_4 3 rfl rfl)
theorem dX1_brawls_95 : decode cX1_brawls 95 = .ok (.ixor, 1) := dk_130 (dk_at dksX1_brawls_4 4 rfl rfl)
theorem dX1_brawls_96 : decode cX1_brawls 96 = .ok (.iand, 1) := dk_126 (dk_at dksX1_brawls_4 5 rfl rfl)
theorem dX1_brawls_97 : decode cX1_brawls 97 = .ok (.istore 8, 2) := dk_54 8 (dk_at dksX1_brawls_4 6 rfl rfl)
theorem dX1_brawls_99 : decode cX1_brawls 99 = .ok (.aload_n 0, 1) := dk_42 (dk_at dksX1_brawls_4 8 rfl rfl)
theorem dX1_brawls_100 : decode cX1_brawls 100 = .ok (.dup, 1) := dk_89 (dk_at dksX1_brawls_4 9 rfl rfl)
theorem dX1_brawls_101 : decode cX1_brawls 101 = .ok (.getfield 188, 3) := dk_180 0 188 (dk_at dksX1_brawls_4 10 rfl rfl)
theorem dX1_brawls_104 : decode cX1_brawls 104 = .ok (.iload 8, 2) := dk_21 8 (dk_at dksX1_brawls_4 13 rfl rfl)
theorem dX1_brawls_106 : decode cX1_brawls 106 = .ok (.ior, 1) := dk_128 (dk_at dksX1_brawls_4 15 rfl rfl)
theorem dX1_brawls_107 : decode cX1_brawls 107 = .ok (.putfield 188, 3) := dk_181 0 188 (dk_at dksX1_brawls_4 16 rfl rfl)
theorem dX1_brawls_110 : decode cX1_brawls 110 = .ok (.aload_n 0, 1) := dk_42 (dk_at dksX1_brawls_4 19 rfl rfl)
theorem dX1_brawls_111 : decode cX1_brawls 111 = .ok (.getfield 204, 3) := dk_180 0 204 (dk_at dksX1_brawls_4 20 rfl rfl)
theorem dX1_brawls_114 : decode cX1_brawls 114 = .ok (.ifCond .eq 41, 3) := dk_153 0 41 (dk_at dksX1_brawls_5 0 rfl rfl)
theorem dX1_brawls_117 : decode cX1_brawls 117 = .ok (.aload_n 0, 1) := dk_42 (dk_at dksX1_brawls_5 3 rfl rfl)
theorem dX1_brawls_118 : decode cX1_brawls 118 = .ok (.aload_n 0, 1) := dk_42 (dk_at dksX1_brawls_5 4 rfl rfl)
theorem dX1_brawls_119 : decode cX1_brawls 119 = .ok (.getfield 208, 3) := dk_180 0 208 (dk_at dksX1_brawls_5 5 rfl rfl)
theorem dX1_brawls_122 : decode cX1_brawls 122 = .ok (.invokestatic 211, 3) := dk_184 0 211 (dk_at dksX1_brawls_5 8 rfl rfl)
theorem dX1_brawls_125 : decode cX1_brawls 125 = .ok (.putfield 208, 3) := dk_181 0 208 (dk_at dksX1_brawls_5 11 rfl rfl)
theorem dX1_brawls_128 : decode cX1_brawls 128 = .ok (.aload_n 0, 1) := dk_42 (dk_at dksX1_brawls_5 14 rfl rfl)
theorem dX1_brawls_129 : decode cX1_brawls 129 = .ok (.getfield 208, 3) := dk_180 0 208 (dk_at dksX1_brawls_5 15 rfl rfl)
theorem dX1_brawls_132 : decode cX1_brawls 132 = .ok (.bipush 100, 2) := dk_16 100 (dk_at dksX1_brawls_5 18 rfl rfl)
theorem dX1_brawls_134 : decode cX1_brawls 134 = .ok (.irem, 1) := dk_112 (dk_at dksX1_brawls_5 20 rfl rfl)
theorem dX1_brawls_135 : decode cX1_brawls 135 = .ok (.aload_n 0, 1) := dk_42 (dk_at dksX1_brawls_5 21 rfl rfl)
theorem dX1_brawls_136 : decode cX1_brawls 136 = .ok (.getfield 86, 3) := dk_180 0 86 (dk_at dksX1_brawls_6 0 rfl rfl)
theorem dX1_brawls_139 : decode cX1_brawls 139 = .ok (.getfield 214, 3) := dk_180 0 214 (dk_at dksX1_brawls_6 3 rfl rfl)
theorem dX1_brawls_142 : decode cX1_brawls 142 = .ok (.if_icmp .ge 13, 3) := dk_162 0 13 (dk_at dksX1_brawls_6 6 rfl rfl)
theorem dX1_brawls_145 : decode cX1_brawls 145 = .ok (.aload_n 0, 1) := dk_42 (dk_at dksX1_brawls_6 9 rfl rfl)
theorem dX1_brawls_146 : decode cX1_brawls 146 = .ok (.dup, 1) := dk_89 (dk_at dksX1_brawls_6 10 rfl rfl)
theorem dX1_brawls_147 : decode cX1_brawls 147 = .ok (.getfield 197, 3) := dk_180 0 197 (dk_at dksX1_brawls_6 11 rfl rfl)
theorem dX1_brawls_150 : decode cX1_brawls 150 = .ok (.iconst 1, 1) := dk_4 (dk_at dksX1_brawls_6 14 rfl rfl)
theorem dX1_brawls_151 : decode cX1_brawls 151 = .ok (.iadd, 1) := dk_96 (dk_at dksX1_brawls_6 15 rfl rfl)
theorem dX1_brawls_152 : decode cX1_brawls 152 = .ok (.putfield 197, 3) := dk_181 0 197 (dk_at dksX1_brawls_6 16 rfl rfl)
theorem dX1_brawls_155 : decode cX1_brawls 155 = .ok (.aload_n 0, 1) := dk_42 (dk_at dksX1_brawls_6 19 rfl rfl)
theorem dX1_brawls_156 : decode cX1_brawls 156 = .ok (.iload 7, 2) := dk_21 7 (dk_at dksX1_brawls_6 20 rfl rfl)
theorem dX1_brawls_158 : decode cX1_brawls 158 = .ok (.putfield 215, 3) := dk_181 0 215 (dk_at dksX1_brawls_7 0 rfl rfl)
theorem dX1_brawls_161 : decode cX1_brawls 161 = .ok (.aload_n 0, 1) := dk_42 (dk_at dksX1_brawls_7 3 rfl rfl)
theorem dX1_brawls_162 : decode cX1_brawls 162 = .ok (.aload_n 0, 1) := dk_42 (dk_at dksX1_brawls_7 4 rfl rfl)
theorem dX1_brawls_163 : decode cX1_brawls 163 = .ok (.getfield 188, 3) := dk_180 0 188 (dk_at dksX1_brawls_7 5 rfl rfl)
theorem dX1_brawls_166 : decode cX1_brawls 166 = .ok (.invokevirtual 218, 3) := dk_182 0 218 (dk_at dksX1_brawls_7 8 rfl rfl)
theorem dX1_brawls_169 : decode cX1_brawls 169 = .ok (.iconst 2, 1) := dk_5 (dk_at dksX1_brawls_7 11 rfl rfl)
theorem dX1_brawls_170 : decode cX1_brawls 170 = .ok (.aload_n 0, 1) := dk_42 (dk_at dksX1_brawls_7 12 rfl rfl)
theorem dX1_brawls_171 : decode cX1_brawls 171 = .ok (.getfield 197, 3) := dk_180 0 197 (dk_at dksX1_brawls_7 13 rfl rfl)
theorem dX1_brawls_174 : decode cX1_brawls 174 = .ok (.imul, 1) := dk_104 (dk_at dksX1_brawls_7 16 rfl rfl)
theorem dX1_brawls_175 : decode cX1_brawls 175 = .ok (.iadd, 1) := dk_96 (dk_at dksX1_brawls_7 17 rfl rfl)
theorem dX1_brawls_176 : decode cX1_brawls 176 = .ok (.bipush 6, 2) := dk_16 6 (dk_at dksX1_brawls_7 18 rfl rfl)
theorem dX1_brawls_178 : decode cX1_brawls 178 = .ok (.if_icmp .lt 40, 3) := dk_161 0 40 (dk_at dksX1_brawls_7 20 rfl rfl)
theorem dX1_brawls_181 : decode cX1_brawls 181 = .ok (.aload_n 0, 1) := dk_42 (dk_at dksX1_brawls_7 23 rfl rfl)
theorem dX1_brawls_182 : decode cX1_brawls 182 = .ok (.invokevirtual 132, 3) := dk_182 0 132 (dk_at dksX1_brawls_8 0 rfl rfl)
theorem dX1_brawls_185 : decode cX1_brawls 185 = .ok (.iconst 1, 1) := dk_4 (dk_at dksX1_brawls_8 3 rfl rfl)
theorem dX1_brawls_186 : decode cX1_brawls 186 = .ok (.isub, 1) := dk_100 (dk_at dksX1_brawls_8 4 rfl rfl)
theorem dX1_brawls_187 : decode cX1_brawls 187 = .ok (.istore 9, 2) := dk_54 9 (dk_at dksX1_brawls_8 5 rfl rfl)
theorem dX1_brawls_189 : decode cX1_brawls 189 = .ok (.iload 9, 2) := dk_21 9 (dk_at dksX1_brawls_8 7 rfl rfl)
theorem dX1_brawls_191 : decode cX1_brawls 191 = .ok (.ifCond .lt 25, 3) := dk_155 0 25 (dk_at dksX1_brawls_8 9 rfl rfl)
theorem dX1_brawls_194 : decode cX1_brawls 194 = .ok (.iload 8, 2) := dk_21 8 (dk_at dksX1_brawls_8 12 rfl rfl)
theorem dX1_brawls_196 : decode cX1_brawls 196 = .ok (.iload 9, 2) := dk_21 9 (dk_at dksX1_brawls_8 14 rfl rfl)
theorem dX1_brawls_198 : decode cX1_brawls 198 = .ok (.invokestatic 151, 3) := dk_184 0 151 (dk_at dksX1_brawls_8 16 rfl rfl)
theorem dX1_brawls_201 : decode cX1_brawls 201 = .ok (.ifCond .eq 9, 3) := dk_153 0 9 (dk_at dksX1_brawls_8 19 rfl rfl)
theorem dX1_brawls_204 : decode cX1_brawls 204 = .ok (.aload_n 0, 1) := dk_42 (dk_at dksX1_brawls_8 22 rfl rfl)
theorem dX1_brawls_205 : decode cX1_brawls 205 = .ok (.iload 9, 2) := dk_21 9 (dk_at dksX1_brawls_9 0 rfl rfl)
theorem dX1_brawls_207 : decode cX1_brawls 207 = .ok (.putfield 194, 3) := dk_181 0 194 (dk_at dksX1_brawls_9 2 rfl rfl)
theorem dX1_brawls_210 : decode cX1_brawls 210 = .ok (.iinc 9 (-1), 3) := dk_132 9 255 (dk_at dksX1_brawls_9 5 rfl rfl)
theorem dX1_brawls_213 : decode cX1_brawls 213 = .ok (.goto (-24), 3) := dk_167 255 232 (dk_at dksX1_brawls_9 8 rfl rfl)
theorem dX1_brawls_216 : decode cX1_brawls 216 = .ok (.iconst 0, 1) := dk_3 (dk_at dksX1_brawls_9 11 rfl rfl)
theorem dX1_brawls_217 : decode cX1_brawls 217 = .ok (.ireturn, 1) := dk_172 (dk_at dksX1_brawls_9 12 rfl rfl)
theorem dX1_brawls_218 : decode cX1_brawls 218 = .ok (.aload_n 0, 1) := dk_42 (dk_at dksX1_brawls_9 13 rfl rfl)
theorem dX1_brawls_219 : decode cX1_brawls 219 = .ok (.dup, 1) := dk_89 (dk_at dksX1_brawls_9 14 rfl rfl)
theorem dX1_brawls_220 : decode cX1_brawls 220 = .ok (.getfield 191, 3) := dk_180 0 191 (dk_at dksX1_brawls_9 15 rfl rfl)
theorem dX1_brawls_223 : decode cX1_brawls 223 = .ok (.iload 6, 2) := dk_21 6 (dk_at dksX1_brawls_9 18 rfl rfl)
theorem dX1_brawls_225 : decode cX1_brawls 225 = .ok (.iadd, 1) := dk_96 (dk_at dksX1_brawls_9 20 rfl rfl)
theorem dX1_brawls_226 : decode cX1_brawls 226 = .ok (.putfield 191, 3) := dk_181 0 191 (dk_at dksX1_brawls_9 21 rfl rfl)
theorem dX1_brawls_229 : decode cX1_brawls 229 = .ok (.aload_n 0, 1) := dk_42 (dk_at dksX1_brawls_10 0 rfl rfl)
theorem dX1_brawls_230 : decode cX1_brawls 230 = .ok (.getfield 191, 3) := dk_180 0 191 (dk_at dksX1_brawls_10 1 rfl rfl)
theorem dX1_brawls_233 : decode cX1_brawls 233 = .ok (.invokestatic 221, 3) := dk_184 0 221 (dk_at dksX1_brawls_10 4 rfl rfl)
theorem dX1_brawls_236 : decode cX1_brawls 236 = .ok (.aload 5, 2) := dk_25 5 (dk_at dksX1_brawls_10 7 rfl rfl)
theorem dX1_brawls_238 : decode cX1_brawls 238 = .ok (.getfield 226, 3) := dk_180 0 226 (dk_at dksX1_brawls_10 9 rfl rfl)
theorem dX1_brawls_241 : decode cX1_brawls 241 = .ok (.if_icmp .lt 16, 3) := dk_161 0 16 (dk_at dksX1_brawls_10 12 rfl rfl)
theorem dX1_brawls_244 : decode cX1_brawls 244 = .ok (.aload_n 0, 1) := dk_42 (dk_at dksX1_brawls_10 15 rfl rfl)
theorem dX1_brawls_245 : decode cX1_brawls 245 = .ok (.getfield 191, 3) := dk_180 0 191 (dk_at dksX1_brawls_10 16 rfl rfl)
theorem dX1_brawls_248 : decode cX1_brawls 248 = .ok (.ifCond .le 7, 3) := dk_158 0 7 (dk_at dksX1_brawls_10 19 rfl rfl)
theorem dX1_brawls_251 : decode cX1_brawls 251 = .ok (.iconst 1, 1) := dk_4 (dk_at dksX1_brawls_10 22 rfl rfl)
theorem dX1_brawls_252 : decode cX1_brawls 252 = .ok (.goto 4, 3) := dk_167 0 4 (dk_at dksX1_brawls_11 0 rfl rfl)
theorem dX1_brawls_255 : decode cX1_brawls 255 = .ok (.iconst 2, 1) := dk_5 (dk_at dksX1_brawls_11 3 rfl rfl)
theorem dX1_brawls_256 : decode cX1_brawls 256 = .ok (.ireturn, 1) := dk_172 (dk_at dksX1_brawls_11 4 rfl rfl)
theorem dX1_brawls_257 : decode cX1_brawls 257 = .ok (.iinc 7 1, 3) := dk_132 7 1 (dk_at dksX1_brawls_11 5 rfl rfl)
theorem dX1_brawls_260 : decode cX1_brawls 260 = .ok (.goto (-204), 3) := dk_167 255 52 (dk_at dksX1_brawls_11 8 rfl rfl)
theorem dX1_brawls_263 : decode cX1_brawls 263 = .ok (.aload_n 0, 1) := dk_42 (dk_at dksX1_brawls_11 11 rfl rfl)
theorem dX1_brawls_264 : decode cX1_brawls 264 = .ok (.bipush (-2), 2) := dk_16 254 (dk_at dksX1_brawls_11 12 rfl rfl)
theorem dX1_brawls_266 : decode cX1_brawls 266 = .ok (.putfield 215, 3) := dk_181 0 215 (dk_at dksX1_brawls_11 14 rfl rfl)
theorem dX1_brawls_269 : decode cX1_brawls 269 = .ok (.bipush (-2), 2) := dk_16 254 (dk_at dksX1_brawls_11 17 rfl rfl)
theorem dX1_brawls_271 : decode cX1_brawls 271 = .ok (.ireturn, 1) := dk_172 (dk_at dksX1_brawls_11 19 rfl rfl)
abbrev cX1_witOf : ByteArray := prog_1_method_29_code
def yX1_witOf : MethodName := ⟨RX1, "witOf", "(I)I"⟩
def dkwX1_witOf_2 : List UInt8 := [180, 0, 167, 172, 132, 2, 1, 167, 255, 206, 42, 180, 0, 86, 27, 182, 0, 142, 180, 0, 170, 172]
abbrev dktX1_witOf_2 : List UInt8 := dkwX1_witOf_2 ++ []
def dkwX1_witOf_1 : List UInt8 := [160, 0, 26, 42, 180, 0, 164, 28, 184, 0, 151, 153, 0, 15, 42, 180, 0, 86, 27, 182, 0, 142]
abbrev dktX1_witOf_1 : List UInt8 := dkwX1_witOf_1 ++ dktX1_witOf_2
def dkwX1_witOf_0 : List UInt8 := [3, 61, 28, 42, 180, 0, 86, 180, 0, 158, 162, 0, 45, 42, 180, 0, 86, 180, 0, 161, 28, 46, 27]
abbrev dktX1_witOf_0 : List UInt8 := dkwX1_witOf_0 ++ dktX1_witOf_1
theorem dksX1_witOf_0 : cX1_witOf.data.toList.drop 0 = dktX1_witOf_0 := by decide +kernel
theorem dksX1_witOf_1 : cX1_witOf.data.toList.drop 23 = dktX1_witOf_1 := dk_seg dksX1_witOf_0 23 rfl rfl
theorem dksX1_witOf_2 : cX1_witOf.data.toList.drop 45 = dktX1_witOf_2 := dk_seg dksX1_witOf_1 22 rfl rfl
theorem dX1_witOf_0 : decode cX1_witOf 0 = .ok (.iconst 0, 1) := dk_3 (dk_at dksX1_witOf_0 0 rfl rfl)
theorem dX1_witOf_1 : decode cX1_witOf 1 = .ok (.istore_n 2, 1) := dk_61 (dk_at dksX1_witOf_0 1 rfl rfl)
theorem dX1_witOf_2 : decode cX1_witOf 2 = .ok (.iload_n 2, 1) := dk_28 (dk_at dksX1_witOf_0 2 rfl rfl)
theorem dX1_witOf_3 : decode cX1_witOf 3 = .ok (.aload_n 0, 1) := dk_42 (dk_at dksX1_witOf_0 3 rfl rfl)
theorem dX1_witOf_4 : decode cX1_witOf 4 = .ok (.getfield 86, 3) := dk_180 0 86 (dk_at dksX1_witOf_0 4 rfl rfl)
theorem dX1_witOf_7 : decode cX1_witOf 7 = .ok (.getfield 158, 3) := dk_180 0 158 (dk_at dksX1_witOf_0 7 rfl rfl)
theorem dX1_witOf_10 : decode cX1_witOf 10 = .ok (.if_icmp .ge 45, 3) := dk_162 0 45 (dk_at dksX1_witOf_0 10 rfl rfl)
theorem dX1_witOf_13 : decode cX1_witOf 13 = .ok (.aload_n 0, 1) := dk_42 (dk_at dksX1_witOf_0 13 rfl rfl)
theorem dX1_witOf_14 : decode cX1_witOf 14 = .ok (.getfield 86, 3) := dk_180 0 86 (dk_at dksX1_witOf_0 14 rfl rfl)
theorem dX1_witOf_17 : decode cX1_witOf 17 = .ok (.getfield 161, 3) := dk_180 0 161 (dk_at dksX1_witOf_0 17 rfl rfl)
theorem dX1_witOf_20 : decode cX1_witOf 20 = .ok (.iload_n 2, 1) := dk_28 (dk_at dksX1_witOf_0 20 rfl rfl)
theorem dX1_witOf_21 : decode cX1_witOf 21 = .ok (.iaload, 1) := dk_46 (dk_at dksX1_witOf_0 21 rfl rfl)
theorem dX1_witOf_22 : decode cX1_witOf 22 = .ok (.iload_n 1, 1) := dk_27 (dk_at dksX1_witOf_0 22 rfl rfl)
theorem dX1_witOf_23 : decode cX1_witOf 23 = .ok (.if_icmp .ne 26, 3) := dk_160 0 26 (dk_at dksX1_witOf_1 0 rfl rfl)
theorem dX1_witOf_26 : decode cX1_witOf 26 = .ok (.aload_n 0, 1) := dk_42 (dk_at dksX1_witOf_1 3 rfl rfl)
theorem dX1_witOf_27 : decode cX1_witOf 27 = .ok (.getfield 164, 3) := dk_180 0 164 (dk_at dksX1_witOf_1 4 rfl rfl)
theorem dX1_witOf_30 : decode cX1_witOf 30 = .ok (.iload_n 2, 1) := dk_28 (dk_at dksX1_witOf_1 7 rfl rfl)
theorem dX1_witOf_31 : decode cX1_witOf 31 = .ok (.invokestatic 151, 3) := dk_184 0 151 (dk_at dksX1_witOf_1 8 rfl rfl)
theorem dX1_witOf_34 : decode cX1_witOf 34 = .ok (.ifCond .eq 15, 3) := dk_153 0 15 (dk_at dksX1_witOf_1 11 rfl rfl)
theorem dX1_witOf_37 : decode cX1_witOf 37 = .ok (.aload_n 0, 1) := dk_42 (dk_at dksX1_witOf_1 14 rfl rfl)
theorem dX1_witOf_38 : decode cX1_witOf 38 = .ok (.getfield 86, 3) := dk_180 0 86 (dk_at dksX1_witOf_1 15 rfl rfl)
theorem dX1_witOf_41 : decode cX1_witOf 41 = .ok (.iload_n 1, 1) := dk_27 (dk_at dksX1_witOf_1 18 rfl rfl)
theorem dX1_witOf_42 : decode cX1_witOf 42 = .ok (.invokevirtual 142, 3) := dk_182 0 142 (dk_at dksX1_witOf_1 19 rfl rfl)
theorem dX1_witOf_45 : decode cX1_witOf 45 = .ok (.getfield 167, 3) := dk_180 0 167 (dk_at dksX1_witOf_2 0 rfl rfl)
theorem dX1_witOf_48 : decode cX1_witOf 48 = .ok (.ireturn, 1) := dk_172 (dk_at dksX1_witOf_2 3 rfl rfl)
theorem dX1_witOf_49 : decode cX1_witOf 49 = .ok (.iinc 2 1, 3) := dk_132 2 1 (dk_at dksX1_witOf_2 4 rfl rfl)
theorem dX1_witOf_52 : decode cX1_witOf 52 = .ok (.goto (-50), 3) := dk_167 255 206 (dk_at dksX1_witOf_2 7 rfl rfl)
theorem dX1_witOf_55 : decode cX1_witOf 55 = .ok (.aload_n 0, 1) := dk_42 (dk_at dksX1_witOf_2 10 rfl rfl)
theorem dX1_witOf_56 : decode cX1_witOf 56 = .ok (.getfield 86, 3) := dk_180 0 86 (dk_at dksX1_witOf_2 11 rfl rfl)
theorem dX1_witOf_59 : decode cX1_witOf 59 = .ok (.iload_n 1, 1) := dk_27 (dk_at dksX1_witOf_2 14 rfl rfl)
theorem dX1_witOf_60 : decode cX1_witOf 60 = .ok (.invokevirtual 142, 3) := dk_182 0 142 (dk_at dksX1_witOf_2 15 rfl rfl)
theorem dX1_witOf_63 : decode cX1_witOf 63 = .ok (.getfield 170, 3) := dk_180 0 170 (dk_at dksX1_witOf_2 18 rfl rfl)
theorem dX1_witOf_66 : decode cX1_witOf 66 = .ok (.ireturn, 1) := dk_172 (dk_at dksX1_witOf_2 21 rfl rfl)
abbrev cX1_drawOf : ByteArray := prog_1_method_6_code
def yX1_drawOf : MethodName := ⟨RX1, "drawOf", "(I)I"⟩
def dkwX1_drawOf_0 : List UInt8 := [20, 0, 38, 26, 133, 105, 20, 0, 40, 97, 20, 0, 42, 113, 136, 172]
abbrev dktX1_drawOf_0 : List UInt8 := dkwX1_drawOf_0 ++ []
theorem dksX1_drawOf_0 : cX1_drawOf.data.toList.drop 0 = dktX1_drawOf_0 := by decide +kernel
theorem dX1_drawOf_0 : decode cX1_drawOf 0 = .ok (.ldc2_w 38, 3) := dk_20 0 38 (dk_at dksX1_drawOf_0 0 rfl rfl)
theorem dX1_drawOf_3 : decode cX1_drawOf 3 = .ok (.iload_n 0, 1) := dk_26 (dk_at dksX1_drawOf_0 3 rfl rfl)
theorem dX1_drawOf_4 : decode cX1_drawOf 4 = .ok (.i2l, 1) := dk_133 (dk_at dksX1_drawOf_0 4 rfl rfl)
theorem dX1_drawOf_5 : decode cX1_drawOf 5 = .ok (.lmul, 1) := dk_105 (dk_at dksX1_drawOf_0 5 rfl rfl)
theorem dX1_drawOf_6 : decode cX1_drawOf 6 = .ok (.ldc2_w 40, 3) := dk_20 0 40 (dk_at dksX1_drawOf_0 6 rfl rfl)
theorem dX1_drawOf_9 : decode cX1_drawOf 9 = .ok (.ladd, 1) := dk_97 (dk_at dksX1_drawOf_0 9 rfl rfl)
theorem dX1_drawOf_10 : decode cX1_drawOf 10 = .ok (.ldc2_w 42, 3) := dk_20 0 42 (dk_at dksX1_drawOf_0 10 rfl rfl)
theorem dX1_drawOf_13 : decode cX1_drawOf 13 = .ok (.lrem, 1) := dk_113 (dk_at dksX1_drawOf_0 13 rfl rfl)
theorem dX1_drawOf_14 : decode cX1_drawOf 14 = .ok (.l2i, 1) := dk_136 (dk_at dksX1_drawOf_0 14 rfl rfl)
theorem dX1_drawOf_15 : decode cX1_drawOf 15 = .ok (.ireturn, 1) := dk_172 (dk_at dksX1_drawOf_0 15 rfl rfl)
abbrev cX1_endsAt : ByteArray := prog_1_method_45_code
def yX1_endsAt : MethodName := ⟨RX1, "endsAt", "(I)I"⟩
def dkwX1_endsAt_1 : List UInt8 := [180, 0, 215, 182, 0, 51, 172]
abbrev dktX1_endsAt_1 : List UInt8 := dkwX1_endsAt_1 ++ []
def dkwX1_endsAt_0 : List UInt8 := [42, 27, 182, 1, 17, 154, 0, 9, 42, 4, 182, 0, 47, 172, 42, 27, 182, 1, 32, 87, 42, 42]
abbrev dktX1_endsAt_0 : List UInt8 := dkwX1_endsAt_0 ++ dktX1_endsAt_1
theorem dksX1_endsAt_0 : cX1_endsAt.data.toList.drop 0 = dktX1_endsAt_0 := by decide +kernel
theorem dksX1_endsAt_1 : cX1_endsAt.data.toList.drop 22 = dktX1_endsAt_1 := dk_seg dksX1_endsAt_0 22 rfl rfl
theorem dX1_endsAt_0 : decode cX1_endsAt 0 = .ok (.aload_n 0, 1) := dk_42 (dk_at dksX1_endsAt_0 0 rfl rfl)
theorem dX1_endsAt_1 : decode cX1_endsAt 1 = .ok (.iload_n 1, 1) := dk_27 (dk_at dksX1_endsAt_0 1 rfl rfl)
theorem dX1_endsAt_2 : decode cX1_endsAt 2 = .ok (.invokevirtual 273, 3) := dk_182 1 17 (dk_at dksX1_endsAt_0 2 rfl rfl)
theorem dX1_endsAt_5 : decode cX1_endsAt 5 = .ok (.ifCond .ne 9, 3) := dk_154 0 9 (dk_at dksX1_endsAt_0 5 rfl rfl)
theorem dX1_endsAt_8 : decode cX1_endsAt 8 = .ok (.aload_n 0, 1) := dk_42 (dk_at dksX1_endsAt_0 8 rfl rfl)
theorem dX1_endsAt_9 : decode cX1_endsAt 9 = .ok (.iconst 1, 1) := dk_4 (dk_at dksX1_endsAt_0 9 rfl rfl)
theorem dX1_endsAt_10 : decode cX1_endsAt 10 = .ok (.invokevirtual 47, 3) := dk_182 0 47 (dk_at dksX1_endsAt_0 10 rfl rfl)
theorem dX1_endsAt_13 : decode cX1_endsAt 13 = .ok (.ireturn, 1) := dk_172 (dk_at dksX1_endsAt_0 13 rfl rfl)
theorem dX1_endsAt_14 : decode cX1_endsAt 14 = .ok (.aload_n 0, 1) := dk_42 (dk_at dksX1_endsAt_0 14 rfl rfl)
theorem dX1_endsAt_15 : decode cX1_endsAt 15 = .ok (.iload_n 1, 1) := dk_27 (dk_at dksX1_endsAt_0 15 rfl rfl)
theorem dX1_endsAt_16 : decode cX1_endsAt 16 = .ok (.invokevirtual 288, 3) := dk_182 1 32 (dk_at dksX1_endsAt_0 16 rfl rfl)
theorem dX1_endsAt_19 : decode cX1_endsAt 19 = .ok (.pop, 1) := dk_87 (dk_at dksX1_endsAt_0 19 rfl rfl)
theorem dX1_endsAt_20 : decode cX1_endsAt 20 = .ok (.aload_n 0, 1) := dk_42 (dk_at dksX1_endsAt_0 20 rfl rfl)
theorem dX1_endsAt_21 : decode cX1_endsAt 21 = .ok (.aload_n 0, 1) := dk_42 (dk_at dksX1_endsAt_0 21 rfl rfl)
theorem dX1_endsAt_22 : decode cX1_endsAt 22 = .ok (.getfield 215, 3) := dk_180 0 215 (dk_at dksX1_endsAt_1 0 rfl rfl)
theorem dX1_endsAt_25 : decode cX1_endsAt 25 = .ok (.invokevirtual 51, 3) := dk_182 0 51 (dk_at dksX1_endsAt_1 3 rfl rfl)
theorem dX1_endsAt_28 : decode cX1_endsAt 28 = .ok (.ireturn, 1) := dk_172 (dk_at dksX1_endsAt_1 6 rfl rfl)
abbrev cX1_lead : ByteArray := prog_1_method_46_code
def yX1_lead : MethodName := ⟨RX1, "lead", "(I)I"⟩
def dkwX1_lead_1 : List UInt8 := [42, 180, 0, 191, 96, 182, 0, 51, 172]
abbrev dktX1_lead_1 : List UInt8 := dkwX1_lead_1 ++ []
def dkwX1_lead_0 : List UInt8 := [42, 27, 182, 1, 17, 154, 0, 9, 42, 4, 182, 0, 47, 172, 42, 27, 182, 1, 32, 87, 42, 17, 3, 232]
abbrev dktX1_lead_0 : List UInt8 := dkwX1_lead_0 ++ dktX1_lead_1
theorem dksX1_lead_0 : cX1_lead.data.toList.drop 0 = dktX1_lead_0 := by decide +kernel
theorem dksX1_lead_1 : cX1_lead.data.toList.drop 24 = dktX1_lead_1 := dk_seg dksX1_lead_0 24 rfl rfl
theorem dX1_lead_0 : decode cX1_lead 0 = .ok (.aload_n 0, 1) := dk_42 (dk_at dksX1_lead_0 0 rfl rfl)
theorem dX1_lead_1 : decode cX1_lead 1 = .ok (.iload_n 1, 1) := dk_27 (dk_at dksX1_lead_0 1 rfl rfl)
theorem dX1_lead_2 : decode cX1_lead 2 = .ok (.invokevirtual 273, 3) := dk_182 1 17 (dk_at dksX1_lead_0 2 rfl rfl)
theorem dX1_lead_5 : decode cX1_lead 5 = .ok (.ifCond .ne 9, 3) := dk_154 0 9 (dk_at dksX1_lead_0 5 rfl rfl)
theorem dX1_lead_8 : decode cX1_lead 8 = .ok (.aload_n 0, 1) := dk_42 (dk_at dksX1_lead_0 8 rfl rfl)
theorem dX1_lead_9 : decode cX1_lead 9 = .ok (.iconst 1, 1) := dk_4 (dk_at dksX1_lead_0 9 rfl rfl)
theorem dX1_lead_10 : decode cX1_lead 10 = .ok (.invokevirtual 47, 3) := dk_182 0 47 (dk_at dksX1_lead_0 10 rfl rfl)
theorem dX1_lead_13 : decode cX1_lead 13 = .ok (.ireturn, 1) := dk_172 (dk_at dksX1_lead_0 13 rfl rfl)
theorem dX1_lead_14 : decode cX1_lead 14 = .ok (.aload_n 0, 1) := dk_42 (dk_at dksX1_lead_0 14 rfl rfl)
theorem dX1_lead_15 : decode cX1_lead 15 = .ok (.iload_n 1, 1) := dk_27 (dk_at dksX1_lead_0 15 rfl rfl)
theorem dX1_lead_16 : decode cX1_lead 16 = .ok (.invokevirtual 288, 3) := dk_182 1 32 (dk_at dksX1_lead_0 16 rfl rfl)
theorem dX1_lead_19 : decode cX1_lead 19 = .ok (.pop, 1) := dk_87 (dk_at dksX1_lead_0 19 rfl rfl)
theorem dX1_lead_20 : decode cX1_lead 20 = .ok (.aload_n 0, 1) := dk_42 (dk_at dksX1_lead_0 20 rfl rfl)
theorem dX1_lead_21 : decode cX1_lead 21 = .ok (.sipush 1000, 3) := dk_17 3 232 (dk_at dksX1_lead_0 21 rfl rfl)
theorem dX1_lead_24 : decode cX1_lead 24 = .ok (.aload_n 0, 1) := dk_42 (dk_at dksX1_lead_1 0 rfl rfl)
theorem dX1_lead_25 : decode cX1_lead 25 = .ok (.getfield 191, 3) := dk_180 0 191 (dk_at dksX1_lead_1 1 rfl rfl)
theorem dX1_lead_28 : decode cX1_lead 28 = .ok (.iadd, 1) := dk_96 (dk_at dksX1_lead_1 4 rfl rfl)
theorem dX1_lead_29 : decode cX1_lead 29 = .ok (.invokevirtual 51, 3) := dk_182 0 51 (dk_at dksX1_lead_1 5 rfl rfl)
theorem dX1_lead_32 : decode cX1_lead 32 = .ok (.ireturn, 1) := dk_172 (dk_at dksX1_lead_1 8 rfl rfl)
abbrev cX1_seen : ByteArray := prog_1_method_47_code
def yX1_seen : MethodName := ⟨RX1, "seen", "(I)I"⟩
def dkwX1_seen_1 : List UInt8 := [180, 0, 188, 182, 0, 51, 172]
abbrev dktX1_seen_1 : List UInt8 := dkwX1_seen_1 ++ []
def dkwX1_seen_0 : List UInt8 := [42, 27, 182, 1, 17, 154, 0, 9, 42, 4, 182, 0, 47, 172, 42, 27, 182, 1, 32, 87, 42, 42]
abbrev dktX1_seen_0 : List UInt8 := dkwX1_seen_0 ++ dktX1_seen_1
theorem dksX1_seen_0 : cX1_seen.data.toList.drop 0 = dktX1_seen_0 := by decide +kernel
theorem dksX1_seen_1 : cX1_seen.data.toList.drop 22 = dktX1_seen_1 := dk_seg dksX1_seen_0 22 rfl rfl
theorem dX1_seen_0 : decode cX1_seen 0 = .ok (.aload_n 0, 1) := dk_42 (dk_at dksX1_seen_0 0 rfl rfl)
theorem dX1_seen_1 : decode cX1_seen 1 = .ok (.iload_n 1, 1) := dk_27 (dk_at dksX1_seen_0 1 rfl rfl)
theorem dX1_seen_2 : decode cX1_seen 2 = .ok (.invokevirtual 273, 3) := dk_182 1 17 (dk_at dksX1_seen_0 2 rfl rfl)
theorem dX1_seen_5 : decode cX1_seen 5 = .ok (.ifCond .ne 9, 3) := dk_154 0 9 (dk_at dksX1_seen_0 5 rfl rfl)
theorem dX1_seen_8 : decode cX1_seen 8 = .ok (.aload_n 0, 1) := dk_42 (dk_at dksX1_seen_0 8 rfl rfl)
theorem dX1_seen_9 : decode cX1_seen 9 = .ok (.iconst 1, 1) := dk_4 (dk_at dksX1_seen_0 9 rfl rfl)
theorem dX1_seen_10 : decode cX1_seen 10 = .ok (.invokevirtual 47, 3) := dk_182 0 47 (dk_at dksX1_seen_0 10 rfl rfl)
theorem dX1_seen_13 : decode cX1_seen 13 = .ok (.ireturn, 1) := dk_172 (dk_at dksX1_seen_0 13 rfl rfl)
theorem dX1_seen_14 : decode cX1_seen 14 = .ok (.aload_n 0, 1) := dk_42 (dk_at dksX1_seen_0 14 rfl rfl)
theorem dX1_seen_15 : decode cX1_seen 15 = .ok (.iload_n 1, 1) := dk_27 (dk_at dksX1_seen_0 15 rfl rfl)
theorem dX1_seen_16 : decode cX1_seen 16 = .ok (.invokevirtual 288, 3) := dk_182 1 32 (dk_at dksX1_seen_0 16 rfl rfl)
theorem dX1_seen_19 : decode cX1_seen 19 = .ok (.pop, 1) := dk_87 (dk_at dksX1_seen_0 19 rfl rfl)
theorem dX1_seen_20 : decode cX1_seen 20 = .ok (.aload_n 0, 1) := dk_42 (dk_at dksX1_seen_0 20 rfl rfl)
theorem dX1_seen_21 : decode cX1_seen 21 = .ok (.aload_n 0, 1) := dk_42 (dk_at dksX1_seen_0 21 rfl rfl)
theorem dX1_seen_22 : decode cX1_seen 22 = .ok (.getfield 188, 3) := dk_180 0 188 (dk_at dksX1_seen_1 0 rfl rfl)
theorem dX1_seen_25 : decode cX1_seen 25 = .ok (.invokevirtual 51, 3) := dk_182 0 51 (dk_at dksX1_seen_1 3 rfl rfl)
theorem dX1_seen_28 : decode cX1_seen 28 = .ok (.ireturn, 1) := dk_172 (dk_at dksX1_seen_1 6 rfl rfl)
abbrev cX1_third : ByteArray := prog_1_method_48_code
def yX1_third : MethodName := ⟨RX1, "third", "(I)I"⟩
def dkwX1_third_1 : List UInt8 := [180, 0, 194, 182, 0, 51, 172]
abbrev dktX1_third_1 : List UInt8 := dkwX1_third_1 ++ []
def dkwX1_third_0 : List UInt8 := [42, 27, 182, 1, 17, 154, 0, 9, 42, 4, 182, 0, 47, 172, 42, 27, 182, 1, 32, 87, 42, 42]
abbrev dktX1_third_0 : List UInt8 := dkwX1_third_0 ++ dktX1_third_1
theorem dksX1_third_0 : cX1_third.data.toList.drop 0 = dktX1_third_0 := by decide +kernel
theorem dksX1_third_1 : cX1_third.data.toList.drop 22 = dktX1_third_1 := dk_seg dksX1_third_0 22 rfl rfl
theorem dX1_third_0 : decode cX1_third 0 = .ok (.aload_n 0, 1) := dk_42 (dk_at dksX1_third_0 0 rfl rfl)
theorem dX1_third_1 : decode cX1_third 1 = .ok (.iload_n 1, 1) := dk_27 (dk_at dksX1_third_0 1 rfl rfl)
theorem dX1_third_2 : decode cX1_third 2 = .ok (.invokevirtual 273, 3) := dk_182 1 17 (dk_at dksX1_third_0 2 rfl rfl)
theorem dX1_third_5 : decode cX1_third 5 = .ok (.ifCond .ne 9, 3) := dk_154 0 9 (dk_at dksX1_third_0 5 rfl rfl)
theorem dX1_third_8 : decode cX1_third 8 = .ok (.aload_n 0, 1) := dk_42 (dk_at dksX1_third_0 8 rfl rfl)
theorem dX1_third_9 : decode cX1_third 9 = .ok (.iconst 1, 1) := dk_4 (dk_at dksX1_third_0 9 rfl rfl)
theorem dX1_third_10 : decode cX1_third 10 = .ok (.invokevirtual 47, 3) := dk_182 0 47 (dk_at dksX1_third_0 10 rfl rfl)
theorem dX1_third_13 : decode cX1_third 13 = .ok (.ireturn, 1) := dk_172 (dk_at dksX1_third_0 13 rfl rfl)
theorem dX1_third_14 : decode cX1_third 14 = .ok (.aload_n 0, 1) := dk_42 (dk_at dksX1_third_0 14 rfl rfl)
theorem dX1_third_15 : decode cX1_third 15 = .ok (.iload_n 1, 1) := dk_27 (dk_at dksX1_third_0 15 rfl rfl)
theorem dX1_third_16 : decode cX1_third 16 = .ok (.invokevirtual 288, 3) := dk_182 1 32 (dk_at dksX1_third_0 16 rfl rfl)
theorem dX1_third_19 : decode cX1_third 19 = .ok (.pop, 1) := dk_87 (dk_at dksX1_third_0 19 rfl rfl)
theorem dX1_third_20 : decode cX1_third 20 = .ok (.aload_n 0, 1) := dk_42 (dk_at dksX1_third_0 20 rfl rfl)
theorem dX1_third_21 : decode cX1_third 21 = .ok (.aload_n 0, 1) := dk_42 (dk_at dksX1_third_0 21 rfl rfl)
theorem dX1_third_22 : decode cX1_third 22 = .ok (.getfield 194, 3) := dk_180 0 194 (dk_at dksX1_third_1 0 rfl rfl)
theorem dX1_third_25 : decode cX1_third 25 = .ok (.invokevirtual 51, 3) := dk_182 0 51 (dk_at dksX1_third_1 3 rfl rfl)
theorem dX1_third_28 : decode cX1_third 28 = .ok (.ireturn, 1) := dk_172 (dk_at dksX1_third_1 6 rfl rfl)
abbrev cX1_won : ByteArray := prog_1_method_49_code
def yX1_won : MethodName := ⟨RX1, "won", "()I"⟩
def dkwX1_won_2 : List UInt8 := [167, 255, 227, 42, 27, 182, 0, 51, 172]
abbrev dktX1_won_2 : List UInt8 := dkwX1_won_2 ++ []
def dkwX1_won_1 : List UInt8 := [162, 0, 27, 27, 42, 28, 182, 1, 32, 158, 0, 9, 4, 28, 120, 167, 0, 4, 3, 128, 60, 132, 2, 1]
abbrev dktX1_won_1 : List UInt8 := dkwX1_won_1 ++ dktX1_won_2
def dkwX1_won_0 : List UInt8 := [42, 180, 0, 86, 199, 0, 9, 42, 4, 182, 0, 47, 172, 3, 60, 3, 61, 28, 42, 182, 0, 136]
abbrev dktX1_won_0 : List UInt8 := dkwX1_won_0 ++ dktX1_won_1
theorem dksX1_won_0 : cX1_won.data.toList.drop 0 = dktX1_won_0 := by decide +kernel
theorem dksX1_won_1 : cX1_won.data.toList.drop 22 = dktX1_won_1 := dk_seg dksX1_won_0 22 rfl rfl
theorem dksX1_won_2 : cX1_won.data.toList.drop 46 = dktX1_won_2 := dk_seg dksX1_won_1 24 rfl rfl
theorem dX1_won_0 : decode cX1_won 0 = .ok (.aload_n 0, 1) := dk_42 (dk_at dksX1_won_0 0 rfl rfl)
theorem dX1_won_1 : decode cX1_won 1 = .ok (.getfield 86, 3) := dk_180 0 86 (dk_at dksX1_won_0 1 rfl rfl)
theorem dX1_won_4 : decode cX1_won 4 = .ok (.ifnonnull 9, 3) := dk_199 0 9 (dk_at dksX1_won_0 4 rfl rfl)
theorem dX1_won_7 : decode cX1_won 7 = .ok (.aload_n 0, 1) := dk_42 (dk_at dksX1_won_0 7 rfl rfl)
theorem dX1_won_8 : decode cX1_won 8 = .ok (.iconst 1, 1) := dk_4 (dk_at dksX1_won_0 8 rfl rfl)
theorem dX1_won_9 : decode cX1_won 9 = .ok (.invokevirtual 47, 3) := dk_182 0 47 (dk_at dksX1_won_0 9 rfl rfl)
theorem dX1_won_12 : decode cX1_won 12 = .ok (.ireturn, 1) := dk_172 (dk_at dksX1_won_0 12 rfl rfl)
theorem dX1_won_13 : decode cX1_won 13 = .ok (.iconst 0, 1) := dk_3 (dk_at dksX1_won_0 13 rfl rfl)
theorem dX1_won_14 : decode cX1_won 14 = .ok (.istore_n 1, 1) := dk_60 (dk_at dksX1_won_0 14 rfl rfl)
theorem dX1_won_15 : decode cX1_won 15 = .ok (.iconst 0, 1) := dk_3 (dk_at dksX1_won_0 15 rfl rfl)
theorem dX1_won_16 : decode cX1_won 16 = .ok (.istore_n 2, 1) := dk_61 (dk_at dksX1_won_0 16 rfl rfl)
theorem dX1_won_17 : decode cX1_won 17 = .ok (.iload_n 2, 1) := dk_28 (dk_at dksX1_won_0 17 rfl rfl)
theorem dX1_won_18 : decode cX1_won 18 = .ok (.aload_n 0, 1) := dk_42 (dk_at dksX1_won_0 18 rfl rfl)
theorem dX1_won_19 : decode cX1_won 19 = .ok (.invokevirtual 136, 3) := dk_182 0 136 (dk_at dksX1_won_0 19 rfl rfl)
theorem dX1_won_22 : decode cX1_won 22 = .ok (.if_icmp .ge 27, 3) := dk_162 0 27 (dk_at dksX1_won_1 0 rfl rfl)
theorem dX1_won_25 : decode cX1_won 25 = .ok (.iload_n 1, 1) := dk_27 (dk_at dksX1_won_1 3 rfl rfl)
theorem dX1_won_26 : decode cX1_won 26 = .ok (.aload_n 0, 1) := dk_42 (dk_at dksX1_won_1 4 rfl rfl)
theorem dX1_won_27 : decode cX1_won 27 = .ok (.iload_n 2, 1) := dk_28 (dk_at dksX1_won_1 5 rfl rfl)
theorem dX1_won_28 : decode cX1_won 28 = .ok (.invokevirtual 288, 3) := dk_182 1 32 (dk_at dksX1_won_1 6 rfl rfl)
theorem dX1_won_31 : decode cX1_won 31 = .ok (.ifCond .le 9, 3) := dk_158 0 9 (dk_at dksX1_won_1 9 rfl rfl)
theorem dX1_won_34 : decode cX1_won 34 = .ok (.iconst 1, 1) := dk_4 (dk_at dksX1_won_1 12 rfl rfl)
theorem dX1_won_35 : decode cX1_won 35 = .ok (.iload_n 2, 1) := dk_28 (dk_at dksX1_won_1 13 rfl rfl)
theorem dX1_won_36 : decode cX1_won 36 = .ok (.ishl, 1) := dk_120 (dk_at dksX1_won_1 14 rfl rfl)
theorem dX1_won_37 : decode cX1_won 37 = .ok (.goto 4, 3) := dk_167 0 4 (dk_at dksX1_won_1 15 rfl rfl)
theorem dX1_won_40 : decode cX1_won 40 = .ok (.iconst 0, 1) := dk_3 (dk_at dksX1_won_1 18 rfl rfl)
theorem dX1_won_41 : decode cX1_won 41 = .ok (.ior, 1) := dk_128 (dk_at dksX1_won_1 19 rfl rfl)
theorem dX1_won_42 : decode cX1_won 42 = .ok (.istore_n 1, 1) := dk_60 (dk_at dksX1_won_1 20 rfl rfl)
theorem dX1_won_43 : decode cX1_won 43 = .ok (.iinc 2 1, 3) := dk_132 2 1 (dk_at dksX1_won_1 21 rfl rfl)
theorem dX1_won_46 : decode cX1_won 46 = .ok (.goto (-29), 3) := dk_167 255 227 (dk_at dksX1_won_2 0 rfl rfl)
theorem dX1_won_49 : decode cX1_won 49 = .ok (.aload_n 0, 1) := dk_42 (dk_at dksX1_won_2 3 rfl rfl)
theorem dX1_won_50 : decode cX1_won 50 = .ok (.iload_n 1, 1) := dk_27 (dk_at dksX1_won_2 4 rfl rfl)
theorem dX1_won_51 : decode cX1_won 51 = .ok (.invokevirtual 51, 3) := dk_182 0 51 (dk_at dksX1_won_2 5 rfl rfl)
theorem dX1_won_54 : decode cX1_won 54 = .ok (.ireturn, 1) := dk_172 (dk_at dksX1_won_2 8 rfl rfl)
abbrev cX1_nurse : ByteArray := prog_1_method_50_code
def yX1_nurse : MethodName := ⟨RX1, "nurse", "()I"⟩
def dkwX1_nurse_3 : List UInt8 := [132, 3, 1, 167, 255, 213, 42, 2, 181, 0, 27, 42, 28, 182, 0, 51, 172]
abbrev dktX1_nurse_3 : List UInt8 := dkwX1_nurse_3 ++ []
def dkwX1_nurse_2 : List UInt8 := [182, 1, 35, 184, 1, 39, 54, 4, 21, 4, 27, 163, 0, 6, 167, 0, 8, 21, 4, 60, 29, 61]
abbrev dktX1_nurse_2 : List UInt8 := dkwX1_nurse_2 ++ dktX1_nurse_3
def dkwX1_nurse_1 : List UInt8 := [60, 16, 254, 61, 3, 62, 29, 42, 182, 0, 132, 162, 0, 41, 42, 29, 181, 0, 27, 42, 42, 180, 0, 95]
abbrev dktX1_nurse_1 : List UInt8 := dkwX1_nurse_1 ++ dktX1_nurse_2
def dkwX1_nurse_0 : List UInt8 := [42, 180, 0, 86, 199, 0, 9, 42, 4, 182, 0, 47, 172, 42, 42, 180, 0, 95, 182, 1, 35, 184, 1, 39]
abbrev dktX1_nurse_0 : List UInt8 := dkwX1_nurse_0 ++ dktX1_nurse_1
theorem dksX1_nurse_0 : cX1_nurse.data.toList.drop 0 = dktX1_nurse_0 := by decide +kernel
theorem dksX1_nurse_1 : cX1_nurse.data.toList.drop 24 = dktX1_nurse_1 := dk_seg dksX1_nurse_0 24 rfl rfl
theorem dksX1_nurse_2 : cX1_nurse.data.toList.drop 48 = dktX1_nurse_2 := dk_seg dksX1_nurse_1 24 rfl rfl
theorem dksX1_nurse_3 : cX1_nurse.data.toList.drop 70 = dktX1_nurse_3 := dk_seg dksX1_nurse_2 22 rfl rfl
theorem dX1_nurse_0 : decode cX1_nurse 0 = .ok (.aload_n 0, 1) := dk_42 (dk_at dksX1_nurse_0 0 rfl rfl)
theorem dX1_nurse_1 : decode cX1_nurse 1 = .ok (.getfield 86, 3) := dk_180 0 86 (dk_at dksX1_nurse_0 1 rfl rfl)
theorem dX1_nurse_4 : decode cX1_nurse 4 = .ok (.ifnonnull 9, 3) := dk_199 0 9 (dk_at dksX1_nurse_0 4 rfl rfl)
theorem dX1_nurse_7 : decode cX1_nurse 7 = .ok (.aload_n 0, 1) := dk_42 (dk_at dksX1_nurse_0 7 rfl rfl)
theorem dX1_nurse_8 : decode cX1_nurse 8 = .ok (.iconst 1, 1) := dk_4 (dk_at dksX1_nurse_0 8 rfl rfl)
theorem dX1_nurse_9 : decode cX1_nurse 9 = .ok (.invokevirtual 47, 3) := dk_182 0 47 (dk_at dksX1_nurse_0 9 rfl rfl)
theorem dX1_nurse_12 : decode cX1_nurse 12 = .ok (.ireturn, 1) := dk_172 (dk_at dksX1_nurse_0 12 rfl rfl)
theorem dX1_nurse_13 : decode cX1_nurse 13 = .ok (.aload_n 0, 1) := dk_42 (dk_at dksX1_nurse_0 13 rfl rfl)
theorem dX1_nurse_14 : decode cX1_nurse 14 = .ok (.aload_n 0, 1) := dk_42 (dk_at dksX1_nurse_0 14 rfl rfl)
theorem dX1_nurse_15 : decode cX1_nurse 15 = .ok (.getfield 95, 3) := dk_180 0 95 (dk_at dksX1_nurse_0 15 rfl rfl)
theorem dX1_nurse_18 : decode cX1_nurse 18 = .ok (.invokevirtual 291, 3) := dk_182 1 35 (dk_at dksX1_nurse_0 18 rfl rfl)
theorem dX1_nurse_21 : decode cX1_nurse 21 = .ok (.invokestatic 295, 3) := dk_184 1 39 (dk_at dksX1_nurse_0 21 rfl rfl)
theorem dX1_nurse_24 : decode cX1_nurse 24 = .ok (.istore_n 1, 1) := dk_60 (dk_at dksX1_nurse_1 0 rfl rfl)
theorem dX1_nurse_25 : decode cX1_nurse 25 = .ok (.bipush (-2), 2) := dk_16 254 (dk_at dksX1_nurse_1 1 rfl rfl)
theorem dX1_nurse_27 : decode cX1_nurse 27 = .ok (.istore_n 2, 1) := dk_61 (dk_at dksX1_nurse_1 3 rfl rfl)
theorem dX1_nurse_28 : decode cX1_nurse 28 = .ok (.iconst 0, 1) := dk_3 (dk_at dksX1_nurse_1 4 rfl rfl)
theorem dX1_nurse_29 : decode cX1_nurse 29 = .ok (.istore_n 3, 1) := dk_62 (dk_at dksX1_nurse_1 5 rfl rfl)
theorem dX1_nurse_30 : decode cX1_nurse 30 = .ok (.iload_n 3, 1) := dk_29 (dk_at dksX1_nurse_1 6 rfl rfl)
theorem dX1_nurse_31 : decode cX1_nurse 31 = .ok (.aload_n 0, 1) := dk_42 (dk_at dksX1_nurse_1 7 rfl rfl)
theorem dX1_nurse_32 : decode cX1_nurse 32 = .ok (.invokevirtual 132, 3) := dk_182 0 132 (dk_at dksX1_nurse_1 8 rfl rfl)
theorem dX1_nurse_35 : decode cX1_nurse 35 = .ok (.if_icmp .ge 41, 3) := dk_162 0 41 (dk_at dksX1_nurse_1 11 rfl rfl)
theorem dX1_nurse_38 : decode cX1_nurse 38 = .ok (.aload_n 0, 1) := dk_42 (dk_at dksX1_nurse_1 14 rfl rfl)
theorem dX1_nurse_39 : decode cX1_nurse 39 = .ok (.iload_n 3, 1) := dk_29 (dk_at dksX1_nurse_1 15 rfl rfl)
theorem dX1_nurse_40 : decode cX1_nurse 40 = .ok (.putfield 27, 3) := dk_181 0 27 (dk_at dksX1_nurse_1 16 rfl rfl)
theorem dX1_nurse_43 : decode cX1_nurse 43 = .ok (.aload_n 0, 1) := dk_42 (dk_at dksX1_nurse_1 19 rfl rfl)
theorem dX1_nurse_44 : decode cX1_nurse 44 = .ok (.aload_n 0, 1) := dk_42 (dk_at dksX1_nurse_1 20 rfl rfl)
theorem dX1_nurse_45 : decode cX1_nurse 45 = .ok (.getfield 95, 3) := dk_180 0 95 (dk_at dksX1_nurse_1 21 rfl rfl)
theorem dX1_nurse_48 : decode cX1_nurse 48 = .ok (.invokevirtual 291, 3) := dk_182 1 35 (dk_at dksX1_nurse_2 0 rfl rfl)
theorem dX1_nurse_51 : decode cX1_nurse 51 = .ok (.invokestatic 295, 3) := dk_184 1 39 (dk_at dksX1_nurse_2 3 rfl rfl)
theorem dX1_nurse_54 : decode cX1_nurse 54 = .ok (.istore 4, 2) := dk_54 4 (dk_at dksX1_nurse_2 6 rfl rfl)
theorem dX1_nurse_56 : decode cX1_nurse 56 = .ok (.iload 4, 2) := dk_21 4 (dk_at dksX1_nurse_2 8 rfl rfl)
theorem dX1_nurse_58 : decode cX1_nurse 58 = .ok (.iload_n 1, 1) := dk_27 (dk_at dksX1_nurse_2 10 rfl rfl)
theorem dX1_nurse_59 : decode cX1_nurse 59 = .ok (.if_icmp .gt 6, 3) := dk_163 0 6 (dk_at dksX1_nurse_2 11 rfl rfl)
theorem dX1_nurse_62 : decode cX1_nurse 62 = .ok (.goto 8, 3) := dk_167 0 8 (dk_at dksX1_nurse_2 14 rfl rfl)
theorem dX1_nurse_65 : decode cX1_nurse 65 = .ok (.iload 4, 2) := dk_21 4 (dk_at dksX1_nurse_2 17 rfl rfl)
theorem dX1_nurse_67 : decode cX1_nurse 67 = .ok (.istore_n 1, 1) := dk_60 (dk_at dksX1_nurse_2 19 rfl rfl)
theorem dX1_nurse_68 : decode cX1_nurse 68 = .ok (.iload_n 3, 1) := dk_29 (dk_at dksX1_nurse_2 20 rfl rfl)
theorem dX1_nurse_69 : decode cX1_nurse 69 = .ok (.istore_n 2, 1) := dk_61 (dk_at dksX1_nurse_2 21 rfl rfl)
theorem dX1_nurse_70 : decode cX1_nurse 70 = .ok (.iinc 3 1, 3) := dk_132 3 1 (dk_at dksX1_nurse_3 0 rfl rfl)
theorem dX1_nurse_73 : decode cX1_nurse 73 = .ok (.goto (-43), 3) := dk_167 255 213 (dk_at dksX1_nurse_3 3 rfl rfl)
theorem dX1_nurse_76 : decode cX1_nurse 76 = .ok (.aload_n 0, 1) := dk_42 (dk_at dksX1_nurse_3 6 rfl rfl)
theorem dX1_nurse_77 : decode cX1_nurse 77 = .ok (.iconst (-1), 1) := dk_2 (dk_at dksX1_nurse_3 7 rfl rfl)
theorem dX1_nurse_78 : decode cX1_nurse 78 = .ok (.putfield 27, 3) := dk_181 0 27 (dk_at dksX1_nurse_3 8 rfl rfl)
theorem dX1_nurse_81 : decode cX1_nurse 81 = .ok (.aload_n 0, 1) := dk_42 (dk_at dksX1_nurse_3 11 rfl rfl)
theorem dX1_nurse_82 : decode cX1_nurse 82 = .ok (.iload_n 2, 1) := dk_28 (dk_at dksX1_nurse_3 12 rfl rfl)
theorem dX1_nurse_83 : decode cX1_nurse 83 = .ok (.invokevirtual 51, 3) := dk_182 0 51 (dk_at dksX1_nurse_3 13 rfl rfl)
theorem dX1_nurse_86 : decode cX1_nurse 86 = .ok (.ireturn, 1) := dk_172 (dk_at dksX1_nurse_3 16 rfl rfl)
abbrev cX1_stoppedOn : ByteArray := prog_1_method_33_code
def yX1_stoppedOn : MethodName := ⟨RX1, "stoppedOn", "(LThirdWitness$Scene;)I"⟩
def dkwX1_stoppedOn_1 : List UInt8 := [120, 167, 0, 4, 3, 128, 61, 132, 3, 1, 167, 255, 226, 28, 172]
abbrev dktX1_stoppedOn_1 : List UInt8 := dkwX1_stoppedOn_1 ++ []
def dkwX1_stoppedOn_0 : List UInt8 := [3, 61, 3, 62, 29, 42, 182, 0, 136, 162, 0, 28, 28, 42, 43, 29, 182, 0, 237, 154, 0, 9, 4, 29]
abbrev dktX1_stoppedOn_0 : List UInt8 := dkwX1_stoppedOn_0 ++ dktX1_stoppedOn_1
theorem dksX1_stoppedOn_0 : cX1_stoppedOn.data.toList.drop 0 = dktX1_stoppedOn_0 := by decide +kernel
theorem dksX1_stoppedOn_1 : cX1_stoppedOn.data.toList.drop 24 = dktX1_stoppedOn_1 := dk_seg dksX1_stoppedOn_0 24 rfl rfl
theorem dX1_stoppedOn_0 : decode cX1_stoppedOn 0 = .ok (.iconst 0, 1) := dk_3 (dk_at dksX1_stoppedOn_0 0 rfl rfl)
theorem dX1_stoppedOn_1 : decode cX1_stoppedOn 1 = .ok (.istore_n 2, 1) := dk_61 (dk_at dksX1_stoppedOn_0 1 rfl rfl)
theorem dX1_stoppedOn_2 : decode cX1_stoppedOn 2 = .ok (.iconst 0, 1) := dk_3 (dk_at dksX1_stoppedOn_0 2 rfl rfl)
theorem dX1_stoppedOn_3 : decode cX1_stoppedOn 3 = .ok (.istore_n 3, 1) := dk_62 (dk_at dksX1_stoppedOn_0 3 rfl rfl)
theorem dX1_stoppedOn_4 : decode cX1_stoppedOn 4 = .ok (.iload_n 3, 1) := dk_29 (dk_at dksX1_stoppedOn_0 4 rfl rfl)
theorem dX1_stoppedOn_5 : decode cX1_stoppedOn 5 = .ok (.aload_n 0, 1) := dk_42 (dk_at dksX1_stoppedOn_0 5 rfl rfl)
theorem dX1_stoppedOn_6 : decode cX1_stoppedOn 6 = .ok (.invokevirtual 136, 3) := dk_182 0 136 (dk_at dksX1_stoppedOn_0 6 rfl rfl)
theorem dX1_stoppedOn_9 : decode cX1_stoppedOn 9 = .ok (.if_icmp .ge 28, 3) := dk_162 0 28 (dk_at dksX1_stoppedOn_0 9 rfl rfl)
theorem dX1_stoppedOn_12 : decode cX1_stoppedOn 12 = .ok (.iload_n 2, 1) := dk_28 (dk_at dksX1_stoppedOn_0 12 rfl rfl)
theorem dX1_stoppedOn_13 : decode cX1_stoppedOn 13 = .ok (.aload_n 0, 1) := dk_42 (dk_at dksX1_stoppedOn_0 13 rfl rfl)
theorem dX1_stoppedOn_14 : decode cX1_stoppedOn 14 = .ok (.aload_n 1, 1) := dk_43 (dk_at dksX1_stoppedOn_0 14 rfl rfl)
theorem dX1_stoppedOn_15 : decode cX1_stoppedOn 15 = .ok (.iload_n 3, 1) := dk_29 (dk_at dksX1_stoppedOn_0 15 rfl rfl)
theorem dX1_stoppedOn_16 : decode cX1_stoppedOn 16 = .ok (.invokevirtual 237, 3) := dk_182 0 237 (dk_at dksX1_stoppedOn_0 16 rfl rfl)
theorem dX1_stoppedOn_19 : decode cX1_stoppedOn 19 = .ok (.ifCond .ne 9, 3) := dk_154 0 9 (dk_at dksX1_stoppedOn_0 19 rfl rfl)
theorem dX1_stoppedOn_22 : decode cX1_stoppedOn 22 = .ok (.iconst 1, 1) := dk_4 (dk_at dksX1_stoppedOn_0 22 rfl rfl)
theorem dX1_stoppedOn_23 : decode cX1_stoppedOn 23 = .ok (.iload_n 3, 1) := dk_29 (dk_at dksX1_stoppedOn_0 23 rfl rfl)
theorem dX1_stoppedOn_24 : decode cX1_stoppedOn 24 = .ok (.ishl, 1) := dk_120 (dk_at dksX1_stoppedOn_1 0 rfl rfl)
theorem dX1_stoppedOn_25 : decode cX1_stoppedOn 25 = .ok (.goto 4, 3) := dk_167 0 4 (dk_at dksX1_stoppedOn_1 1 rfl rfl)
theorem dX1_stoppedOn_28 : decode cX1_stoppedOn 28 = .ok (.iconst 0, 1) := dk_3 (dk_at dksX1_stoppedOn_1 4 rfl rfl)
theorem dX1_stoppedOn_29 : decode cX1_stoppedOn 29 = .ok (.ior, 1) := dk_128 (dk_at dksX1_stoppedOn_1 5 rfl rfl)
theorem dX1_stoppedOn_30 : decode cX1_stoppedOn 30 = .ok (.istore_n 2, 1) := dk_61 (dk_at dksX1_stoppedOn_1 6 rfl rfl)
theorem dX1_stoppedOn_31 : decode cX1_stoppedOn 31 = .ok (.iinc 3 1, 3) := dk_132 3 1 (dk_at dksX1_stoppedOn_1 7 rfl rfl)
theorem dX1_stoppedOn_34 : decode cX1_stoppedOn 34 = .ok (.goto (-30), 3) := dk_167 255 226 (dk_at dksX1_stoppedOn_1 10 rfl rfl)
theorem dX1_stoppedOn_37 : decode cX1_stoppedOn 37 = .ok (.iload_n 2, 1) := dk_28 (dk_at dksX1_stoppedOn_1 13 rfl rfl)
theorem dX1_stoppedOn_38 : decode cX1_stoppedOn 38 = .ok (.ireturn, 1) := dk_172 (dk_at dksX1_stoppedOn_1 14 rfl rfl)
abbrev cX1_bits : ByteArray := prog_1_method_4_code
def yX1_bits : MethodName := ⟨RX1, "bits", "(I)I"⟩
def dkwX1_bits_0 : List UInt8 := [3, 60, 26, 61, 28, 153, 0, 15, 132, 1, 1, 28, 28, 4, 100, 126, 61, 167, 255, 243, 27, 172]
abbrev dktX1_bits_0 : List UInt8 := dkwX1_bits_0 ++ []
theorem dksX1_bits_0 : cX1_bits.data.toList.drop 0 = dktX1_bits_0 := by decide +kernel
theorem dX1_bits_0 : decode cX1_bits 0 = .ok (.iconst 0, 1) := dk_3 (dk_at dksX1_bits_0 0 rfl rfl)
theorem dX1_bits_1 : decode cX1_bits 1 = .ok (.istore_n 1, 1) := dk_60 (dk_at dksX1_bits_0 1 rfl rfl)
theorem dX1_bits_2 : decode cX1_bits 2 = .ok (.iload_n 0, 1) := dk_26 (dk_at dksX1_bits_0 2 rfl rfl)
theorem dX1_bits_3 : decode cX1_bits 3 = .ok (.istore_n 2, 1) := dk_61 (dk_at dksX1_bits_0 3 rfl rfl)
theorem dX1_bits_4 : decode cX1_bits 4 = .ok (.iload_n 2, 1) := dk_28 (dk_at dksX1_bits_0 4 rfl rfl)
theorem dX1_bits_5 : decode cX1_bits 5 = .ok (.ifCond .eq 15, 3) := dk_153 0 15 (dk_at dksX1_bits_0 5 rfl rfl)
theorem dX1_bits_8 : decode cX1_bits 8 = .ok (.iinc 1 1, 3) := dk_132 1 1 (dk_at dksX1_bits_0 8 rfl rfl)
theorem dX1_bits_11 : decode cX1_bits 11 = .ok (.iload_n 2, 1) := dk_28 (dk_at dksX1_bits_0 11 rfl rfl)
theorem dX1_bits_12 : decode cX1_bits 12 = .ok (.iload_n 2, 1) := dk_28 (dk_at dksX1_bits_0 12 rfl rfl)
theorem dX1_bits_13 : decode cX1_bits 13 = .ok (.iconst 1, 1) := dk_4 (dk_at dksX1_bits_0 13 rfl rfl)
theorem dX1_bits_14 : decode cX1_bits 14 = .ok (.isub, 1) := dk_100 (dk_at dksX1_bits_0 14 rfl rfl)
theorem dX1_bits_15 : decode cX1_bits 15 = .ok (.iand, 1) := dk_126 (dk_at dksX1_bits_0 15 rfl rfl)
theorem dX1_bits_16 : decode cX1_bits 16 = .ok (.istore_n 2, 1) := dk_61 (dk_at dksX1_bits_0 16 rfl rfl)
theorem dX1_bits_17 : decode cX1_bits 17 = .ok (.goto (-13), 3) := dk_167 255 243 (dk_at dksX1_bits_0 17 rfl rfl)
theorem dX1_bits_20 : decode cX1_bits 20 = .ok (.iload_n 1, 1) := dk_27 (dk_at dksX1_bits_0 20 rfl rfl)
theorem dX1_bits_21 : decode cX1_bits 21 = .ok (.ireturn, 1) := dk_172 (dk_at dksX1_bits_0 21 rfl rfl)
abbrev cX1_endsIf : ByteArray := prog_1_method_52_code
def yX1_endsIf : MethodName := ⟨RX1, "endsIf", "(III)I"⟩
def dkwX1_endsIf_2 : List UInt8 := [180, 0, 95, 27, 28, 29, 182, 0, 233, 182, 0, 51, 172]
abbrev dktX1_endsIf_2 : List UInt8 := dkwX1_endsIf_2 ++ []
def dkwX1_endsIf_1 : List UInt8 := [16, 59, 182, 1, 20, 54, 4, 21, 4, 158, 0, 12, 42, 21, 4, 182, 0, 47, 167, 0, 18, 42, 42, 42]
abbrev dktX1_endsIf_1 : List UInt8 := dkwX1_endsIf_1 ++ dktX1_endsIf_2
def dkwX1_endsIf_0 : List UInt8 := [42, 42, 27, 182, 1, 17, 153, 0, 15, 42, 28, 182, 1, 27, 153, 0, 7, 4, 167, 0, 4, 3, 29, 3]
abbrev dktX1_endsIf_0 : List UInt8 := dkwX1_endsIf_0 ++ dktX1_endsIf_1
theorem dksX1_endsIf_0 : cX1_endsIf.data.toList.drop 0 = dktX1_endsIf_0 := by decide +kernel
theorem dksX1_endsIf_1 : cX1_endsIf.data.toList.drop 24 = dktX1_endsIf_1 := dk_seg dksX1_endsIf_0 24 rfl rfl
theorem dksX1_endsIf_2 : cX1_endsIf.data.toList.drop 48 = dktX1_endsIf_2 := dk_seg dksX1_endsIf_1 24 rfl rfl
theorem dX1_endsIf_0 : decode cX1_endsIf 0 = .ok (.aload_n 0, 1) := dk_42 (dk_at dksX1_endsIf_0 0 rfl rfl)
theorem dX1_endsIf_1 : decode cX1_endsIf 1 = .ok (.aload_n 0, 1) := dk_42 (dk_at dksX1_endsIf_0 1 rfl rfl)
theorem dX1_endsIf_2 : decode cX1_endsIf 2 = .ok (.iload_n 1, 1) := dk_27 (dk_at dksX1_endsIf_0 2 rfl rfl)
theorem dX1_endsIf_3 : decode cX1_endsIf 3 = .ok (.invokevirtual 273, 3) := dk_182 1 17 (dk_at dksX1_endsIf_0 3 rfl rfl)
theorem dX1_endsIf_6 : decode cX1_endsIf 6 = .ok (.ifCond .eq 15, 3) := dk_153 0 15 (dk_at dksX1_endsIf_0 6 rfl rfl)
theorem dX1_endsIf_9 : decode cX1_endsIf 9 = .ok (.aload_n 0, 1) := dk_42 (dk_at dksX1_endsIf_0 9 rfl rfl)
theorem dX1_endsIf_10 : decode cX1_endsIf 10 = .ok (.iload_n 2, 1) := dk_28 (dk_at dksX1_endsIf_0 10 rfl rfl)
theorem dX1_endsIf_11 : decode cX1_endsIf 11 = .ok (.invokevirtual 283, 3) := dk_182 1 27 (dk_at dksX1_endsIf_0 11 rfl rfl)
theorem dX1_endsIf_14 : decode cX1_endsIf 14 = .ok (.ifCond .eq 7, 3) := dk_153 0 7 (dk_at dksX1_endsIf_0 14 rfl rfl)
theorem dX1_endsIf_17 : decode cX1_endsIf 17 = .ok (.iconst 1, 1) := dk_4 (dk_at dksX1_endsIf_0 17 rfl rfl)
theorem dX1_endsIf_18 : decode cX1_endsIf 18 = .ok (.goto 4, 3) := dk_167 0 4 (dk_at dksX1_endsIf_0 18 rfl rfl)
theorem dX1_endsIf_21 : decode cX1_endsIf 21 = .ok (.iconst 0, 1) := dk_3 (dk_at dksX1_endsIf_0 21 rfl rfl)
theorem dX1_endsIf_22 : decode cX1_endsIf 22 = .ok (.iload_n 3, 1) := dk_29 (dk_at dksX1_endsIf_0 22 rfl rfl)
theorem dX1_endsIf_23 : decode cX1_endsIf 23 = .ok (.iconst 0, 1) := dk_3 (dk_at dksX1_endsIf_0 23 rfl rfl)
theorem dX1_endsIf_24 : decode cX1_endsIf 24 = .ok (.bipush 59, 2) := dk_16 59 (dk_at dksX1_endsIf_1 0 rfl rfl)
theorem dX1_endsIf_26 : decode cX1_endsIf 26 = .ok (.invokevirtual 276, 3) := dk_182 1 20 (dk_at dksX1_endsIf_1 2 rfl rfl)
theorem dX1_endsIf_29 : decode cX1_endsIf 29 = .ok (.istore 4, 2) := dk_54 4 (dk_at dksX1_endsIf_1 5 rfl rfl)
theorem dX1_endsIf_31 : decode cX1_endsIf 31 = .ok (.iload 4, 2) := dk_21 4 (dk_at dksX1_endsIf_1 7 rfl rfl)
theorem dX1_endsIf_33 : decode cX1_endsIf 33 = .ok (.ifCond .le 12, 3) := dk_158 0 12 (dk_at dksX1_endsIf_1 9 rfl rfl)
theorem dX1_endsIf_36 : decode cX1_endsIf 36 = .ok (.aload_n 0, 1) := dk_42 (dk_at dksX1_endsIf_1 12 rfl rfl)
theorem dX1_endsIf_37 : decode cX1_endsIf 37 = .ok (.iload 4, 2) := dk_21 4 (dk_at dksX1_endsIf_1 13 rfl rfl)
theorem dX1_endsIf_39 : decode cX1_endsIf 39 = .ok (.invokevirtual 47, 3) := dk_182 0 47 (dk_at dksX1_endsIf_1 15 rfl rfl)
theorem dX1_endsIf_42 : decode cX1_endsIf 42 = .ok (.goto 18, 3) := dk_167 0 18 (dk_at dksX1_endsIf_1 18 rfl rfl)
theorem dX1_endsIf_45 : decode cX1_endsIf 45 = .ok (.aload_n 0, 1) := dk_42 (dk_at dksX1_endsIf_1 21 rfl rfl)
theorem dX1_endsIf_46 : decode cX1_endsIf 46 = .ok (.aload_n 0, 1) := dk_42 (dk_at dksX1_endsIf_1 22 rfl rfl)
theorem dX1_endsIf_47 : decode cX1_endsIf 47 = .ok (.aload_n 0, 1) := dk_42 (dk_at dksX1_endsIf_1 23 rfl rfl)
theorem dX1_endsIf_48 : decode cX1_endsIf 48 = .ok (.getfield 95, 3) := dk_180 0 95 (dk_at dksX1_endsIf_2 0 rfl rfl)
theorem dX1_endsIf_51 : decode cX1_endsIf 51 = .ok (.iload_n 1, 1) := dk_27 (dk_at dksX1_endsIf_2 3 rfl rfl)
theorem dX1_endsIf_52 : decode cX1_endsIf 52 = .ok (.iload_n 2, 1) := dk_28 (dk_at dksX1_endsIf_2 4 rfl rfl)
theorem dX1_endsIf_53 : decode cX1_endsIf 53 = .ok (.iload_n 3, 1) := dk_29 (dk_at dksX1_endsIf_2 5 rfl rfl)
theorem dX1_endsIf_54 : decode cX1_endsIf 54 = .ok (.invokevirtual 233, 3) := dk_182 0 233 (dk_at dksX1_endsIf_2 6 rfl rfl)
theorem dX1_endsIf_57 : decode cX1_endsIf 57 = .ok (.invokevirtual 51, 3) := dk_182 0 51 (dk_at dksX1_endsIf_2 9 rfl rfl)
theorem dX1_endsIf_60 : decode cX1_endsIf 60 = .ok (.ireturn, 1) := dk_172 (dk_at dksX1_endsIf_2 12 rfl rfl)
abbrev cX1_cellars : ByteArray := prog_1_method_53_code
def yX1_cellars : MethodName := ⟨RX1, "cellars", "(I)I"⟩
def dkwX1_cellars_3 : List UInt8 := [42, 28, 182, 0, 51, 172]
abbrev dktX1_cellars_3 : List UInt8 := dkwX1_cellars_3 ++ []
def dkwX1_cellars_2 : List UInt8 := [182, 0, 233, 184, 1, 42, 153, 0, 9, 4, 29, 120, 167, 0, 4, 3, 128, 61, 132, 3, 1, 167, 255, 208]
abbrev dktX1_cellars_2 : List UInt8 := dkwX1_cellars_2 ++ dktX1_cellars_3
def dkwX1_cellars_1 : List UInt8 := [162, 0, 46, 28, 42, 42, 180, 0, 95, 27, 29, 42, 180, 0, 86, 27, 182, 0, 173, 180, 0, 230]
abbrev dktX1_cellars_1 : List UInt8 := dkwX1_cellars_1 ++ dktX1_cellars_2
def dkwX1_cellars_0 : List UInt8 := [42, 27, 182, 1, 17, 154, 0, 9, 42, 4, 182, 0, 47, 172, 3, 61, 3, 62, 29, 42, 182, 0, 112]
abbrev dktX1_cellars_0 : List UInt8 := dkwX1_cellars_0 ++ dktX1_cellars_1
theorem dksX1_cellars_0 : cX1_cellars.data.toList.drop 0 = dktX1_cellars_0 := by decide +kernel
theorem dksX1_cellars_1 : cX1_cellars.data.toList.drop 23 = dktX1_cellars_1 := dk_seg dksX1_cellars_0 23 rfl rfl
theorem dksX1_cellars_2 : cX1_cellars.data.toList.drop 45 = dktX1_cellars_2 := dk_seg dksX1_cellars_1 22 rfl rfl
theorem dksX1_cellars_3 : cX1_cellars.data.toList.drop 69 = dktX1_cellars_3 := dk_seg dksX1_cellars_2 24 rfl rfl
theorem dX1_cellars_0 : decode cX1_cellars 0 = .ok (.aload_n 0, 1) := dk_42 (dk_at dksX1_cellars_0 0 rfl rfl)
theorem dX1_cellars_1 : decode cX1_cellars 1 = .ok (.iload_n 1, 1) := dk_27 (dk_at dksX1_cellars_0 1 rfl rfl)
theorem dX1_cellars_2 : decode cX1_cellars 2 = .ok (.invokevirtual 273, 3) := dk_182 1 17 (dk_at dksX1_cellars_0 2 rfl rfl)
theorem dX1_cellars_5 : decode cX1_cellars 5 = .ok (.ifCond .ne 9, 3) := dk_154 0 9 (dk_at dksX1_cellars_0 5 rfl rfl)
theorem dX1_cellars_8 : decode cX1_cellars 8 = .ok (.aload_n 0, 1) := dk_42 (dk_at dksX1_cellars_0 8 rfl rfl)
theorem dX1_cellars_9 : decode cX1_cellars 9 = .ok (.iconst 1, 1) := dk_4 (dk_at dksX1_cellars_0 9 rfl rfl)
theorem dX1_cellars_10 : decode cX1_cellars 10 = .ok (.invokevirtual 47, 3) := dk_182 0 47 (dk_at dksX1_cellars_0 10 rfl rfl)
theorem dX1_cellars_13 : decode cX1_cellars 13 = .ok (.ireturn, 1) := dk_172 (dk_at dksX1_cellars_0 13 rfl rfl)
theorem dX1_cellars_14 : decode cX1_cellars 14 = .ok (.iconst 0, 1) := dk_3 (dk_at dksX1_cellars_0 14 rfl rfl)
theorem dX1_cellars_15 : decode cX1_cellars 15 = .ok (.istore_n 2, 1) := dk_61 (dk_at dksX1_cellars_0 15 rfl rfl)
theorem dX1_cellars_16 : decode cX1_cellars 16 = .ok (.iconst 0, 1) := dk_3 (dk_at dksX1_cellars_0 16 rfl rfl)
theorem dX1_cellars_17 : decode cX1_cellars 17 = .ok (.istore_n 3, 1) := dk_62 (dk_at dksX1_cellars_0 17 rfl rfl)
theorem dX1_cellars_18 : decode cX1_cellars 18 = .ok (.iload_n 3, 1) := dk_29 (dk_at dksX1_cellars_0 18 rfl rfl)
theorem dX1_cellars_19 : decode cX1_cellars 19 = .ok (.aload_n 0, 1) := dk_42 (dk_at dksX1_cellars_0 19 rfl rfl)
theorem dX1_cellars_20 : decode cX1_cellars 20 = .ok (.invokevirtual 112, 3) := dk_182 0 112 (dk_at dksX1_cellars_0 20 rfl rfl)
theorem dX1_cellars_23 : decode cX1_cellars 23 = .ok (.if_icmp .ge 46, 3) := dk_162 0 46 (dk_at dksX1_cellars_1 0 rfl rfl)
theorem dX1_cellars_26 : decode cX1_cellars 26 = .ok (.iload_n 2, 1) := dk_28 (dk_at dksX1_cellars_1 3 rfl rfl)
theorem dX1_cellars_27 : decode cX1_cellars 27 = .ok (.aload_n 0, 1) := dk_42 (dk_at dksX1_cellars_1 4 rfl rfl)
theorem dX1_cellars_28 : decode cX1_cellars 28 = .ok (.aload_n 0, 1) := dk_42 (dk_at dksX1_cellars_1 5 rfl rfl)
theorem dX1_cellars_29 : decode cX1_cellars 29 = .ok (.getfield 95, 3) := dk_180 0 95 (dk_at dksX1_cellars_1 6 rfl rfl)
theorem dX1_cellars_32 : decode cX1_cellars 32 = .ok (.iload_n 1, 1) := dk_27 (dk_at dksX1_cellars_1 9 rfl rfl)
theorem dX1_cellars_33 : decode cX1_cellars 33 = .ok (.iload_n 3, 1) := dk_29 (dk_at dksX1_cellars_1 10 rfl rfl)
theorem dX1_cellars_34 : decode cX1_cellars 34 = .ok (.aload_n 0, 1) := dk_42 (dk_at dksX1_cellars_1 11 rfl rfl)
theorem dX1_cellars_35 : decode cX1_cellars 35 = .ok (.getfield 86, 3) := dk_180 0 86 (dk_at dksX1_cellars_1 12 rfl rfl)
theorem dX1_cellars_38 : decode cX1_cellars 38 = .ok (.iload_n 1, 1) := dk_27 (dk_at dksX1_cellars_1 15 rfl rfl)
theorem dX1_cellars_39 : decode cX1_cellars 39 = .ok (.invokevirtual 173, 3) := dk_182 0 173 (dk_at dksX1_cellars_1 16 rfl rfl)
theorem dX1_cellars_42 : decode cX1_cellars 42 = .ok (.getfield 230, 3) := dk_180 0 230 (dk_at dksX1_cellars_1 19 rfl rfl)
theorem dX1_cellars_45 : decode cX1_cellars 45 = .ok (.invokevirtual 233, 3) := dk_182 0 233 (dk_at dksX1_cellars_2 0 rfl rfl)
theorem dX1_cellars_48 : decode cX1_cellars 48 = .ok (.invokestatic 298, 3) := dk_184 1 42 (dk_at dksX1_cellars_2 3 rfl rfl)
theorem dX1_cellars_51 : decode cX1_cellars 51 = .ok (.ifCond .eq 9, 3) := dk_153 0 9 (dk_at dksX1_cellars_2 6 rfl rfl)
theorem dX1_cellars_54 : decode cX1_cellars 54 = .ok (.iconst 1, 1) := dk_4 (dk_at dksX1_cellars_2 9 rfl rfl)
theorem dX1_cellars_55 : decode cX1_cellars 55 = .ok (.iload_n 3, 1) := dk_29 (dk_at dksX1_cellars_2 10 rfl rfl)
theorem dX1_cellars_56 : decode cX1_cellars 56 = .ok (.ishl, 1) := dk_120 (dk_at dksX1_cellars_2 11 rfl rfl)
theorem dX1_cellars_57 : decode cX1_cellars 57 = .ok (.goto 4, 3) := dk_167 0 4 (dk_at dksX1_cellars_2 12 rfl rfl)
theorem dX1_cellars_60 : decode cX1_cellars 60 = .ok (.iconst 0, 1) := dk_3 (dk_at dksX1_cellars_2 15 rfl rfl)
theorem dX1_cellars_61 : decode cX1_cellars 61 = .ok (.ior, 1) := dk_128 (dk_at dksX1_cellars_2 16 rfl rfl)
theorem dX1_cellars_62 : decode cX1_cellars 62 = .ok (.istore_n 2, 1) := dk_61 (dk_at dksX1_cellars_2 17 rfl rfl)
theorem dX1_cellars_63 : decode cX1_cellars 63 = .ok (.iinc 3 1, 3) := dk_132 3 1 (dk_at dksX1_cellars_2 18 rfl rfl)
theorem dX1_cellars_66 : decode cX1_cellars 66 = .ok (.goto (-48), 3) := dk_167 255 208 (dk_at dksX1_cellars_2 21 rfl rfl)
theorem dX1_cellars_69 : decode cX1_cellars 69 = .ok (.aload_n 0, 1) := dk_42 (dk_at dksX1_cellars_3 0 rfl rfl)
theorem dX1_cellars_70 : decode cX1_cellars 70 = .ok (.iload_n 2, 1) := dk_28 (dk_at dksX1_cellars_3 1 rfl rfl)
theorem dX1_cellars_71 : decode cX1_cellars 71 = .ok (.invokevirtual 51, 3) := dk_182 0 51 (dk_at dksX1_cellars_3 2 rfl rfl)
theorem dX1_cellars_74 : decode cX1_cellars 74 = .ok (.ireturn, 1) := dk_172 (dk_at dksX1_cellars_3 5 rfl rfl)
abbrev cX1_isWon : ByteArray := prog_1_method_51_code
def yX1_isWon : MethodName := ⟨RX1, "isWon", "(I)Z"⟩
def dkwX1_isWon_0 : List UInt8 := [26, 158, 0, 7, 4, 167, 0, 4, 3, 172]
abbrev dktX1_isWon_0 : List UInt8 := dkwX1_isWon_0 ++ []
theorem dksX1_isWon_0 : cX1_isWon.data.toList.drop 0 = dktX1_isWon_0 := by decide +kernel
theorem dX1_isWon_0 : decode cX1_isWon 0 = .ok (.iload_n 0, 1) := dk_26 (dk_at dksX1_isWon_0 0 rfl rfl)
theorem dX1_isWon_1 : decode cX1_isWon 1 = .ok (.ifCond .le 7, 3) := dk_158 0 7 (dk_at dksX1_isWon_0 1 rfl rfl)
theorem dX1_isWon_4 : decode cX1_isWon 4 = .ok (.iconst 1, 1) := dk_4 (dk_at dksX1_isWon_0 4 rfl rfl)
theorem dX1_isWon_5 : decode cX1_isWon 5 = .ok (.goto 4, 3) := dk_167 0 4 (dk_at dksX1_isWon_0 5 rfl rfl)
theorem dX1_isWon_8 : decode cX1_isWon 8 = .ok (.iconst 0, 1) := dk_3 (dk_at dksX1_isWon_0 8 rfl rfl)
theorem dX1_isWon_9 : decode cX1_isWon 9 = .ok (.ireturn, 1) := dk_172 (dk_at dksX1_isWon_0 9 rfl rfl)
abbrev cX1_hour : ByteArray := prog_1_method_54_code
def yX1_hour : MethodName := ⟨RX1, "hou\x72", "(I)I"⟩
def dkwX1_hour_2 : List UInt8 := [153, 0, 9, 42, 28, 182, 0, 51, 172, 132, 2, 1, 167, 255, 214, 42, 16, 254, 182, 0, 51, 172]
abbrev dktX1_hour_2 : List UInt8 := dkwX1_hour_2 ++ []
def dkwX1_hour_1 : List UInt8 := [180, 0, 95, 27, 42, 180, 0, 86, 27, 182, 0, 173, 180, 0, 229, 28, 182, 0, 233, 184, 1, 42]
abbrev dktX1_hour_1 : List UInt8 := dkwX1_hour_1 ++ dktX1_hour_2
def dkwX1_hour_0 : List UInt8 := [42, 27, 182, 1, 17, 154, 0, 9, 42, 4, 182, 0, 47, 172, 3, 61, 28, 16, 59, 163, 0, 42, 42, 42]
abbrev dktX1_hour_0 : List UInt8 := dkwX1_hour_0 ++ dktX1_hour_1
theorem dksX1_hour_0 : cX1_hour.data.toList.drop 0 = dktX1_hour_0 := by decide +kernel
theorem dksX1_hour_1 : cX1_hour.data.toList.drop 24 = dktX1_hour_1 := dk_seg dksX1_hour_0 24 rfl rfl
theorem dksX1_hour_2 : cX1_hour.data.toList.drop 46 = dktX1_hour_2 := dk_seg dksX1_hour_1 22 rfl rfl
theorem dX1_hour_0 : decode cX1_hour 0 = .ok (.aload_n 0, 1) := dk_42 (dk_at dksX1_hour_0 0 rfl rfl)
theorem dX1_hour_1 : decode cX1_hour 1 = .ok (.iload_n 1, 1) := dk_27 (dk_at dksX1_hour_0 1 rfl rfl)
theorem dX1_hour_2 : decode cX1_hour 2 = .ok (.invokevirtual 273, 3) := dk_182 1 17 (dk_at dksX1_hour_0 2 rfl rfl)
theorem dX1_hour_5 : decode cX1_hour 5 = .ok (.ifCond .ne 9, 3) := dk_154 0 9 (dk_at dksX1_hour_0 5 rfl rfl)
theorem dX1_hour_8 : decode cX1_hour 8 = .ok (.aload_n 0, 1) := dk_42 (dk_at dksX1_hour_0 8 rfl rfl)
theorem dX1_hour_9 : decode cX1_hour 9 = .ok (.iconst 1, 1) := dk_4 (dk_at dksX1_hour_0 9 rfl rfl)
theorem dX1_hour_10 : decode cX1_hour 10 = .ok (.invokevirtual 47, 3) := dk_182 0 47 (dk_at dksX1_hour_0 10 rfl rfl)
theorem dX1_hour_13 : decode cX1_hour 13 = .ok (.ireturn, 1) := dk_172 (dk_at dksX1_hour_0 13 rfl rfl)
theorem dX1_hour_14 : decode cX1_hour 14 = .ok (.iconst 0, 1) := dk_3 (dk_at dksX1_hour_0 14 rfl rfl)
theorem dX1_hour_15 : decode cX1_hour 15 = .ok (.istore_n 2, 1) := dk_61 (dk_at dksX1_hour_0 15 rfl rfl)
theorem dX1_hour_16 : decode cX1_hour 16 = .ok (.iload_n 2, 1) := dk_28 (dk_at dksX1_hour_0 16 rfl rfl)
theorem dX1_hour_17 : decode cX1_hour 17 = .ok (.bipush 59, 2) := dk_16 59 (dk_at dksX1_hour_0 17 rfl rfl)
theorem dX1_hour_19 : decode cX1_hour 19 = .ok (.if_icmp .gt 42, 3) := dk_163 0 42 (dk_at dksX1_hour_0 19 rfl rfl)
theorem dX1_hour_22 : decode cX1_hour 22 = .ok (.aload_n 0, 1) := dk_42 (dk_at dksX1_hour_0 22 rfl rfl)
theorem dX1_hour_23 : decode cX1_hour 23 = .ok (.aload_n 0, 1) := dk_42 (dk_at dksX1_hour_0 23 rfl rfl)
theorem dX1_hour_24 : decode cX1_hour 24 = .ok (.getfield 95, 3) := dk_180 0 95 (dk_at dksX1_hour_1 0 rfl rfl)
theorem dX1_hour_27 : decode cX1_hour 27 = .ok (.iload_n 1, 1) := dk_27 (dk_at dksX1_hour_1 3 rfl rfl)
theorem dX1_hour_28 : decode cX1_hour 28 = .ok (.aload_n 0, 1) := dk_42 (dk_at dksX1_hour_1 4 rfl rfl)
theorem dX1_hour_29 : decode cX1_hour 29 = .ok (.getfield 86, 3) := dk_180 0 86 (dk_at dksX1_hour_1 5 rfl rfl)
theorem dX1_hour_32 : decode cX1_hour 32 = .ok (.iload_n 1, 1) := dk_27 (dk_at dksX1_hour_1 8 rfl rfl)
theorem dX1_hour_33 : decode cX1_hour 33 = .ok (.invokevirtual 173, 3) := dk_182 0 173 (dk_at dksX1_hour_1 9 rfl rfl)
theorem dX1_hour_36 : decode cX1_hour 36 = .ok (.getfield 229, 3) := dk_180 0 229 (dk_at dksX1_hour_1 12 rfl rfl)
theorem dX1_hour_39 : decode cX1_hour 39 = .ok (.iload_n 2, 1) := dk_28 (dk_at dksX1_hour_1 15 rfl rfl)
theorem dX1_hour_40 : decode cX1_hour 40 = .ok (.invokevirtual 233, 3) := dk_182 0 233 (dk_at dksX1_hour_1 16 rfl rfl)
theorem dX1_hour_43 : decode cX1_hour 43 = .ok (.invokestatic 298, 3) := dk_184 1 42 (dk_at dksX1_hour_1 19 rfl rfl)
theorem dX1_hour_46 : decode cX1_hour 46 = .ok (.ifCond .eq 9, 3) := dk_153 0 9 (dk_at dksX1_hour_2 0 rfl rfl)
theorem dX1_hour_49 : decode cX1_hour 49 = .ok (.aload_n 0, 1) := dk_42 (dk_at dksX1_hour_2 3 rfl rfl)
theorem dX1_hour_50 : decode cX1_hour 50 = .ok (.iload_n 2, 1) := dk_28 (dk_at dksX1_hour_2 4 rfl rfl)
theorem dX1_hour_51 : decode cX1_hour 51 = .ok (.invokevirtual 51, 3) := dk_182 0 51 (dk_at dksX1_hour_2 5 rfl rfl)
theorem dX1_hour_54 : decode cX1_hour 54 = .ok (.ireturn, 1) := dk_172 (dk_at dksX1_hour_2 8 rfl rfl)
theorem dX1_hour_55 : decode cX1_hour 55 = .ok (.iinc 2 1, 3) := dk_132 2 1 (dk_at dksX1_hour_2 9 rfl rfl)
theorem dX1_hour_58 : decode cX1_hour 58 = .ok (.goto (-42), 3) := dk_167 255 214 (dk_at dksX1_hour_2 12 rfl rfl)
theorem dX1_hour_61 : decode cX1_hour 61 = .ok (.aload_n 0, 1) := dk_42 (dk_at dksX1_hour_2 15 rfl rfl)
theorem dX1_hour_62 : decode cX1_hour 62 = .ok (.bipush (-2), 2) := dk_16 254 (dk_at dksX1_hour_2 16 rfl rfl)
theorem dX1_hour_64 : decode cX1_hour 64 = .ok (.invokevirtual 51, 3) := dk_182 0 51 (dk_at dksX1_hour_2 18 rfl rfl)
theorem dX1_hour_67 : decode cX1_hour 67 = .ok (.ireturn, 1) := dk_172 (dk_at dksX1_hour_2 21 rfl rfl)
abbrev cX1_longest : ByteArray := prog_1_method_55_code
def yX1_longest : MethodName := ⟨RX1, "longest", "(I)I"⟩
def dkwX1_longest_4 : List UInt8 := [182, 0, 51, 172]
abbrev dktX1_longest_4 : List UInt8 := dkwX1_longest_4 ++ []
def dkwX1_longest_3 : List UInt8 := [21, 5, 29, 163, 0, 6, 167, 0, 9, 21, 5, 62, 21, 4, 61, 132, 4, 1, 167, 255, 190, 42, 28]
abbrev dktX1_longest_3 : List UInt8 := dkwX1_longest_3 ++ dktX1_longest_4
def dkwX1_longest_2 : List UInt8 := [180, 0, 230, 182, 0, 233, 16, 254, 160, 0, 9, 17, 39, 15, 167, 0, 7, 42, 180, 0, 215, 54, 5]
abbrev dktX1_longest_2 : List UInt8 := dkwX1_longest_2 ++ dktX1_longest_3
def dkwX1_longest_1 : List UInt8 := [182, 0, 112, 162, 0, 63, 42, 42, 180, 0, 95, 27, 21, 4, 42, 180, 0, 86, 27, 182, 0, 173]
abbrev dktX1_longest_1 : List UInt8 := dkwX1_longest_1 ++ dktX1_longest_2
def dkwX1_longest_0 : List UInt8 := [42, 27, 182, 1, 17, 154, 0, 9, 42, 4, 182, 0, 47, 172, 3, 61, 2, 62, 3, 54, 4, 21, 4, 42]
abbrev dktX1_longest_0 : List UInt8 := dkwX1_longest_0 ++ dktX1_longest_1
theorem dksX1_longest_0 : cX1_longest.data.toList.drop 0 = dktX1_longest_0 := by decide +kernel
theorem dksX1_longest_1 : cX1_longest.data.toList.drop 24 = dktX1_longest_1 := dk_seg dksX1_longest_0 24 rfl rfl
theorem dksX1_longest_2 : cX1_longest.data.toList.drop 46 = dktX1_longest_2 := dk_seg dksX1_longest_1 22 rfl rfl
theorem dksX1_longest_3 : cX1_longest.data.toList.drop 69 = dktX1_longest_3 := dk_seg dksX1_longest_2 23 rfl rfl
theorem dksX1_longest_4 : cX1_longest.data.toList.drop 92 = dktX1_longest_4 := dk_seg dksX1_longest_3 23 rfl rfl
theorem dX1_longest_0 : decode cX1_longest 0 = .ok (.aload_n 0, 1) := dk_42 (dk_at dksX1_longest_0 0 rfl rfl)
theorem dX1_longest_1 : decode cX1_longest 1 = .ok (.iload_n 1, 1) := dk_27 (dk_at dksX1_longest_0 1 rfl rfl)
theorem dX1_longest_2 : decode cX1_longest 2 = .ok (.invokevirtual 273, 3) := dk_182 1 17 (dk_at dksX1_longest_0 2 rfl rfl)
theorem dX1_longest_5 : decode cX1_longest 5 = .ok (.ifCond .ne 9, 3) := dk_154 0 9 (dk_at dksX1_longest_0 5 rfl rfl)
theorem dX1_longest_8 : decode cX1_longest 8 = .ok (.aload_n 0, 1) := dk_42 (dk_at dksX1_longest_0 8 rfl rfl)
theorem dX1_longest_9 : decode cX1_longest 9 = .ok (.iconst 1, 1) := dk_4 (dk_at dksX1_longest_0 9 rfl rfl)
theorem dX1_longest_10 : decode cX1_longest 10 = .ok (.invokevirtual 47, 3) := dk_182 0 47 (dk_at dksX1_longest_0 10 rfl rfl)
theorem dX1_longest_13 : decode cX1_longest 13 = .ok (.ireturn, 1) := dk_172 (dk_at dksX1_longest_0 13 rfl rfl)
theorem dX1_longest_14 : decode cX1_longest 14 = .ok (.iconst 0, 1) := dk_3 (dk_at dksX1_longest_0 14 rfl rfl)
theorem dX1_longest_15 : decode cX1_longest 15 = .ok (.istore_n 2, 1) := dk_61 (dk_at dksX1_longest_0 15 rfl rfl)
theorem dX1_longest_16 : decode cX1_longest 16 = .ok (.iconst (-1), 1) := dk_2 (dk_at dksX1_longest_0 16 rfl rfl)
theorem dX1_longest_17 : decode cX1_longest 17 = .ok (.istore_n 3, 1) := dk_62 (dk_at dksX1_longest_0 17 rfl rfl)
theorem dX1_longest_18 : decode cX1_longest 18 = .ok (.iconst 0, 1) := dk_3 (dk_at dksX1_longest_0 18 rfl rfl)
theorem dX1_longest_19 : decode cX1_longest 19 = .ok (.istore 4, 2) := dk_54 4 (dk_at dksX1_longest_0 19 rfl rfl)
theorem dX1_longest_21 : decode cX1_longest 21 = .ok (.iload 4, 2) := dk_21 4 (dk_at dksX1_longest_0 21 rfl rfl)
theorem dX1_longest_23 : decode cX1_longest 23 = .ok (.aload_n 0, 1) := dk_42 (dk_at dksX1_longest_0 23 rfl rfl)
theorem dX1_longest_24 : decode cX1_longest 24 = .ok (.invokevirtual 112, 3) := dk_182 0 112 (dk_at dksX1_longest_1 0 rfl rfl)
theorem dX1_longest_27 : decode cX1_longest 27 = .ok (.if_icmp .ge 63, 3) := dk_162 0 63 (dk_at dksX1_longest_1 3 rfl rfl)
theorem dX1_longest_30 : decode cX1_longest 30 = .ok (.aload_n 0, 1) := dk_42 (dk_at dksX1_longest_1 6 rfl rfl)
theorem dX1_longest_31 : decode cX1_longest 31 = .ok (.aload_n 0, 1) := dk_42 (dk_at dksX1_longest_1 7 rfl rfl)
theorem dX1_longest_32 : decode cX1_longest 32 = .ok (.getfield 95, 3) := dk_180 0 95 (dk_at dksX1_longest_1 8 rfl rfl)
theorem dX1_longest_35 : decode cX1_longest 35 = .ok (.iload_n 1, 1) := dk_27 (dk_at dksX1_longest_1 11 rfl rfl)
theorem dX1_longest_36 : decode cX1_longest 36 = .ok (.iload 4, 2) := dk_21 4 (dk_at dksX1_longest_1 12 rfl rfl)
theorem dX1_longest_38 : decode cX1_longest 38 = .ok (.aload_n 0, 1) := dk_42 (dk_at dksX1_longest_1 14 rfl rfl)
theorem dX1_longest_39 : decode cX1_longest 39 = .ok (.getfield 86, 3) := dk_180 0 86 (dk_at dksX1_longest_1 15 rfl rfl)
theorem dX1_longest_42 : decode cX1_longest 42 = .ok (.iload_n 1, 1) := dk_27 (dk_at dksX1_longest_1 18 rfl rfl)
theorem dX1_longest_43 : decode cX1_longest 43 = .ok (.invokevirtual 173, 3) := dk_182 0 173 (dk_at dksX1_longest_1 19 rfl rfl)
theorem dX1_longest_46 : decode cX1_longest 46 = .ok (.getfield 230, 3) := dk_180 0 230 (dk_at dksX1_longest_2 0 rfl rfl)
theorem dX1_longest_49 : decode cX1_longest 49 = .ok (.invokevirtual 233, 3) := dk_182 0 233 (dk_at dksX1_longest_2 3 rfl rfl)
theorem dX1_longest_52 : decode cX1_longest 52 = .ok (.bipush (-2), 2) := dk_16 254 (dk_at dksX1_longest_2 6 rfl rfl)
theorem dX1_longest_54 : decode cX1_longest 54 = .ok (.if_icmp .ne 9, 3) := dk_160 0 9 (dk_at dksX1_longest_2 8 rfl rfl)
theorem dX1_longest_57 : decode cX1_longest 57 = .ok (.sipush 9999, 3) := dk_17 39 15 (dk_at dksX1_longest_2 11 rfl rfl)
theorem dX1_longest_60 : decode cX1_longest 60 = .ok (.goto 7, 3) := dk_167 0 7 (dk_at dksX1_longest_2 14 rfl rfl)
theorem dX1_longest_63 : decode cX1_longest 63 = .ok (.aload_n 0, 1) := dk_42 (dk_at dksX1_longest_2 17 rfl rfl)
theorem dX1_longest_64 : decode cX1_longest 64 = .ok (.getfield 215, 3) := dk_180 0 215 (dk_at dksX1_longest_2 18 rfl rfl)
theorem dX1_longest_67 : decode cX1_longest 67 = .ok (.istore 5, 2) := dk_54 5 (dk_at dksX1_longest_2 21 rfl rfl)
theorem dX1_longest_69 : decode cX1_longest 69 = .ok (.iload 5, 2) := dk_21 5 (dk_at dksX1_longest_3 0 rfl rfl)
theorem dX1_longest_71 : decode cX1_longest 71 = .ok (.iload_n 3, 1) := dk_29 (dk_at dksX1_longest_3 2 rfl rfl)
theorem dX1_longest_72 : decode cX1_longest 72 = .ok (.if_icmp .gt 6, 3) := dk_163 0 6 (dk_at dksX1_longest_3 3 rfl rfl)
theorem dX1_longest_75 : decode cX1_longest 75 = .ok (.goto 9, 3) := dk_167 0 9 (dk_at dksX1_longest_3 6 rfl rfl)
theorem dX1_longest_78 : decode cX1_longest 78 = .ok (.iload 5, 2) := dk_21 5 (dk_at dksX1_longest_3 9 rfl rfl)
theorem dX1_longest_80 : decode cX1_longest 80 = .ok (.istore_n 3, 1) := dk_62 (dk_at dksX1_longest_3 11 rfl rfl)
theorem dX1_longest_81 : decode cX1_longest 81 = .ok (.iload 4, 2) := dk_21 4 (dk_at dksX1_longest_3 12 rfl rfl)
theorem dX1_longest_83 : decode cX1_longest 83 = .ok (.istore_n 2, 1) := dk_61 (dk_at dksX1_longest_3 14 rfl rfl)
theorem dX1_longest_84 : decode cX1_longest 84 = .ok (.iinc 4 1, 3) := dk_132 4 1 (dk_at dksX1_longest_3 15 rfl rfl)
theorem dX1_longest_87 : decode cX1_longest 87 = .ok (.goto (-66), 3) := dk_167 255 190 (dk_at dksX1_longest_3 18 rfl rfl)
theorem dX1_longest_90 : decode cX1_longest 90 = .ok (.aload_n 0, 1) := dk_42 (dk_at dksX1_longest_3 21 rfl rfl)
theorem dX1_longest_91 : decode cX1_longest 91 = .ok (.iload_n 2, 1) := dk_28 (dk_at dksX1_longest_3 22 rfl rfl)
theorem dX1_longest_92 : decode cX1_longest 92 = .ok (.invokevirtual 51, 3) := dk_182 0 51 (dk_at dksX1_longest_4 0 rfl rfl)
theorem dX1_longest_95 : decode cX1_longest 95 = .ok (.ireturn, 1) := dk_172 (dk_at dksX1_longest_4 3 rfl rfl)
abbrev cX1_moor : ByteArray := prog_1_method_56_code
def yX1_moor : MethodName := ⟨RX1, "moo\x72", "(I)I"⟩
def dkwX1_moor_3 : List UInt8 := [167, 255, 203, 42, 16, 254, 182, 0, 51, 172]
abbrev dktX1_moor_3 : List UInt8 := dkwX1_moor_3 ++ []
def dkwX1_moor_2 : List UInt8 := [153, 0, 14, 42, 16, 10, 28, 104, 29, 96, 182, 0, 51, 172, 132, 3, 1, 167, 255, 217, 132, 2, 1]
abbrev dktX1_moor_2 : List UInt8 := dkwX1_moor_2 ++ dktX1_moor_3
def dkwX1_moor_1 : List UInt8 := [29, 42, 182, 0, 112, 162, 0, 37, 42, 42, 180, 0, 95, 27, 29, 28, 182, 0, 233, 184, 1, 42]
abbrev dktX1_moor_1 : List UInt8 := dkwX1_moor_1 ++ dktX1_moor_2
def dkwX1_moor_0 : List UInt8 := [42, 27, 182, 1, 17, 154, 0, 9, 42, 4, 182, 0, 47, 172, 3, 61, 28, 16, 59, 163, 0, 53, 3, 62]
abbrev dktX1_moor_0 : List UInt8 := dkwX1_moor_0 ++ dktX1_moor_1
theorem dksX1_moor_0 : cX1_moor.data.toList.drop 0 = dktX1_moor_0 := by decide +kernel
theorem dksX1_moor_1 : cX1_moor.data.toList.drop 24 = dktX1_moor_1 := dk_seg dksX1_moor_0 24 rfl rfl
theorem dksX1_moor_2 : cX1_moor.data.toList.drop 46 = dktX1_moor_2 := dk_seg dksX1_moor_1 22 rfl rfl
theorem dksX1_moor_3 : cX1_moor.data.toList.drop 69 = dktX1_moor_3 := dk_seg dksX1_moor_2 23 rfl rfl
theorem dX1_moor_0 : decode cX1_moor 0 = .ok (.aload_n 0, 1) := dk_42 (dk_at dksX1_moor_0 0 rfl rfl)
theorem dX1_moor_1 : decode cX1_moor 1 = .ok (.iload_n 1, 1) := dk_27 (dk_at dksX1_moor_0 1 rfl rfl)
theorem dX1_moor_2 : decode cX1_moor 2 = .ok (.invokevirtual 273, 3) := dk_182 1 17 (dk_at dksX1_moor_0 2 rfl rfl)
theorem dX1_moor_5 : decode cX1_moor 5 = .ok (.ifCond .ne 9, 3) := dk_154 0 9 (dk_at dksX1_moor_0 5 rfl rfl)
theorem dX1_moor_8 : decode cX1_moor 8 = .ok (.aload_n 0, 1) := dk_42 (dk_at dksX1_moor_0 8 rfl rfl)
theorem dX1_moor_9 : decode cX1_moor 9 = .ok (.iconst 1, 1) := dk_4 (dk_at dksX1_moor_0 9 rfl rfl)
theorem dX1_moor_10 : decode cX1_moor 10 = .ok (.invokevirtual 47, 3) := dk_182 0 47 (dk_at dksX1_moor_0 10 rfl rfl)
theorem dX1_moor_13 : decode cX1_moor 13 = .ok (.ireturn, 1) := dk_172 (dk_at dksX1_moor_0 13 rfl rfl)
theorem dX1_moor_14 : decode cX1_moor 14 = .ok (.iconst 0, 1) := dk_3 (dk_at dksX1_moor_0 14 rfl rfl)
theorem dX1_moor_15 : decode cX1_moor 15 = .ok (.istore_n 2, 1) := dk_61 (dk_at dksX1_moor_0 15 rfl rfl)
theorem dX1_moor_16 : decode cX1_moor 16 = .ok (.iload_n 2, 1) := dk_28 (dk_at dksX1_moor_0 16 rfl rfl)
theorem dX1_moor_17 : decode cX1_moor 17 = .ok (.bipush 59, 2) := dk_16 59 (dk_at dksX1_moor_0 17 rfl rfl)
theorem dX1_moor_19 : decode cX1_moor 19 = .ok (.if_icmp .gt 53, 3) := dk_163 0 53 (dk_at dksX1_moor_0 19 rfl rfl)
theorem dX1_moor_22 : decode cX1_moor 22 = .ok (.iconst 0, 1) := dk_3 (dk_at dksX1_moor_0 22 rfl rfl)
theorem dX1_moor_23 : decode cX1_moor 23 = .ok (.istore_n 3, 1) := dk_62 (dk_at dksX1_moor_0 23 rfl rfl)
theorem dX1_moor_24 : decode cX1_moor 24 = .ok (.iload_n 3, 1) := dk_29 (dk_at dksX1_moor_1 0 rfl rfl)
theorem dX1_moor_25 : decode cX1_moor 25 = .ok (.aload_n 0, 1) := dk_42 (dk_at dksX1_moor_1 1 rfl rfl)
theorem dX1_moor_26 : decode cX1_moor 26 = .ok (.invokevirtual 112, 3) := dk_182 0 112 (dk_at dksX1_moor_1 2 rfl rfl)
theorem dX1_moor_29 : decode cX1_moor 29 = .ok (.if_icmp .ge 37, 3) := dk_162 0 37 (dk_at dksX1_moor_1 5 rfl rfl)
theorem dX1_moor_32 : decode cX1_moor 32 = .ok (.aload_n 0, 1) := dk_42 (dk_at dksX1_moor_1 8 rfl rfl)
theorem dX1_moor_33 : decode cX1_moor 33 = .ok (.aload_n 0, 1) := dk_42 (dk_at dksX1_moor_1 9 rfl rfl)
theorem dX1_moor_34 : decode cX1_moor 34 = .ok (.getfield 95, 3) := dk_180 0 95 (dk_at dksX1_moor_1 10 rfl rfl)
theorem dX1_moor_37 : decode cX1_moor 37 = .ok (.iload_n 1, 1) := dk_27 (dk_at dksX1_moor_1 13 rfl rfl)
theorem dX1_moor_38 : decode cX1_moor 38 = .ok (.iload_n 3, 1) := dk_29 (dk_at dksX1_moor_1 14 rfl rfl)
theorem dX1_moor_39 : decode cX1_moor 39 = .ok (.iload_n 2, 1) := dk_28 (dk_at dksX1_moor_1 15 rfl rfl)
theorem dX1_moor_40 : decode cX1_moor 40 = .ok (.invokevirtual 233, 3) := dk_182 0 233 (dk_at dksX1_moor_1 16 rfl rfl)
theorem dX1_moor_43 : decode cX1_moor 43 = .ok (.invokestatic 298, 3) := dk_184 1 42 (dk_at dksX1_moor_1 19 rfl rfl)
theorem dX1_moor_46 : decode cX1_moor 46 = .ok (.ifCond .eq 14, 3) := dk_153 0 14 (dk_at dksX1_moor_2 0 rfl rfl)
theorem dX1_moor_49 : decode cX1_moor 49 = .ok (.aload_n 0, 1) := dk_42 (dk_at dksX1_moor_2 3 rfl rfl)
theorem dX1_moor_50 : decode cX1_moor 50 = .ok (.bipush 10, 2) := dk_16 10 (dk_at dksX1_moor_2 4 rfl rfl)
theorem dX1_moor_52 : decode cX1_moor 52 = .ok (.iload_n 2, 1) := dk_28 (dk_at dksX1_moor_2 6 rfl rfl)
theorem dX1_moor_53 : decode cX1_moor 53 = .ok (.imul, 1) := dk_104 (dk_at dksX1_moor_2 7 rfl rfl)
theorem dX1_moor_54 : decode cX1_moor 54 = .ok (.iload_n 3, 1) := dk_29 (dk_at dksX1_moor_2 8 rfl rfl)
theorem dX1_moor_55 : decode cX1_moor 55 = .ok (.iadd, 1) := dk_96 (dk_at dksX1_moor_2 9 rfl rfl)
theorem dX1_moor_56 : decode cX1_moor 56 = .ok (.invokevirtual 51, 3) := dk_182 0 51 (dk_at dksX1_moor_2 10 rfl rfl)
theorem dX1_moor_59 : decode cX1_moor 59 = .ok (.ireturn, 1) := dk_172 (dk_at dksX1_moor_2 13 rfl rfl)
theorem dX1_moor_60 : decode cX1_moor 60 = .ok (.iinc 3 1, 3) := dk_132 3 1 (dk_at dksX1_moor_2 14 rfl rfl)
theorem dX1_moor_63 : decode cX1_moor 63 = .ok (.goto (-39), 3) := dk_167 255 217 (dk_at dksX1_moor_2 17 rfl rfl)
theorem dX1_moor_66 : decode cX1_moor 66 = .ok (.iinc 2 1, 3) := dk_132 2 1 (dk_at dksX1_moor_2 20 rfl rfl)
theorem dX1_moor_69 : decode cX1_moor 69 = .ok (.goto (-53), 3) := dk_167 255 203 (dk_at dksX1_moor_3 0 rfl rfl)
theorem dX1_moor_72 : decode cX1_moor 72 = .ok (.aload_n 0, 1) := dk_42 (dk_at dksX1_moor_3 3 rfl rfl)
theorem dX1_moor_73 : decode cX1_moor 73 = .ok (.bipush (-2), 2) := dk_16 254 (dk_at dksX1_moor_3 4 rfl rfl)
theorem dX1_moor_75 : decode cX1_moor 75 = .ok (.invokevirtual 51, 3) := dk_182 0 51 (dk_at dksX1_moor_3 6 rfl rfl)
theorem dX1_moor_78 : decode cX1_moor 78 = .ok (.ireturn, 1) := dk_172 (dk_at dksX1_moor_3 9 rfl rfl)
abbrev cX1_bricks : ByteArray := prog_1_method_57_code
def yX1_bricks : MethodName := ⟨RX1, "bricks", "(I)I"⟩
def dkwX1_bricks_4 : List UInt8 := [61, 132, 3, 1, 167, 255, 181, 42, 28, 182, 0, 51, 172]
abbrev dktX1_bricks_4 : List UInt8 := dkwX1_bricks_4 ++ []
def dkwX1_bricks_3 : List UInt8 := [180, 1, 14, 29, 128, 181, 1, 14, 42, 42, 180, 0, 106, 27, 182, 0, 237, 184, 1, 42, 153, 0, 5, 29]
abbrev dktX1_bricks_3 : List UInt8 := dkwX1_bricks_3 ++ dktX1_bricks_4
def dkwX1_bricks_2 : List UInt8 := [159, 0, 17, 29, 184, 1, 39, 28, 184, 1, 39, 161, 0, 6, 167, 0, 33, 42, 182, 1, 45, 89]
abbrev dktX1_bricks_2 : List UInt8 := dkwX1_bricks_2 ++ dktX1_bricks_3
def dkwX1_bricks_1 : List UInt8 := [182, 0, 134, 120, 162, 0, 71, 29, 42, 180, 0, 95, 180, 1, 14, 126, 154, 0, 53, 28, 16, 254]
abbrev dktX1_bricks_1 : List UInt8 := dkwX1_bricks_1 ++ dktX1_bricks_2
def dkwX1_bricks_0 : List UInt8 := [42, 27, 182, 1, 17, 154, 0, 9, 42, 4, 182, 0, 47, 172, 16, 254, 61, 3, 62, 29, 4, 42]
abbrev dktX1_bricks_0 : List UInt8 := dkwX1_bricks_0 ++ dktX1_bricks_1
theorem dksX1_bricks_0 : cX1_bricks.data.toList.drop 0 = dktX1_bricks_0 := by decide +kernel
theorem dksX1_bricks_1 : cX1_bricks.data.toList.drop 22 = dktX1_bricks_1 := dk_seg dksX1_bricks_0 22 rfl rfl
theorem dksX1_bricks_2 : cX1_bricks.data.toList.drop 44 = dktX1_bricks_2 := dk_seg dksX1_bricks_1 22 rfl rfl
theorem dksX1_bricks_3 : cX1_bricks.data.toList.drop 66 = dktX1_bricks_3 := dk_seg dksX1_bricks_2 22 rfl rfl
theorem dksX1_bricks_4 : cX1_bricks.data.toList.drop 90 = dktX1_bricks_4 := dk_seg dksX1_bricks_3 24 rfl rfl
theorem dX1_bricks_0 : decode cX1_bricks 0 = .ok (.aload_n 0, 1) := dk_42 (dk_at dksX1_bricks_0 0 rfl rfl)
theorem dX1_bricks_1 : decode cX1_bricks 1 = .ok (.iload_n 1, 1) := dk_27 (dk_at dksX1_bricks_0 1 rfl rfl)
theorem dX1_bricks_2 : decode cX1_bricks 2 = .ok (.invokevirtual 273, 3) := dk_182 1 17 (dk_at dksX1_bricks_0 2 rfl rfl)
theorem dX1_bricks_5 : decode cX1_bricks 5 = .ok (.ifCond .ne 9, 3) := dk_154 0 9 (dk_at dksX1_bricks_0 5 rfl rfl)
theorem dX1_bricks_8 : decode cX1_bricks 8 = .ok (.aload_n 0, 1) := dk_42 (dk_at dksX1_bricks_0 8 rfl rfl)
theorem dX1_bricks_9 : decode cX1_bricks 9 = .ok (.iconst 1, 1) := dk_4 (dk_at dksX1_bricks_0 9 rfl rfl)
theorem dX1_bricks_10 : decode cX1_bricks 10 = .ok (.invokevirtual 47, 3) := dk_182 0 47 (dk_at dksX1_bricks_0 10 rfl rfl)
theorem dX1_bricks_13 : decode cX1_bricks 13 = .ok (.ireturn, 1) := dk_172 (dk_at dksX1_bricks_0 13 rfl rfl)
theorem dX1_bricks_14 : decode cX1_bricks 14 = .ok (.bipush (-2), 2) := dk_16 254 (dk_at dksX1_bricks_0 14 rfl rfl)
theorem dX1_bricks_16 : decode cX1_bricks 16 = .ok (.istore_n 2, 1) := dk_61 (dk_at dksX1_bricks_0 16 rfl rfl)
theorem dX1_bricks_17 : decode cX1_bricks 17 = .ok (.iconst 0, 1) := dk_3 (dk_at dksX1_bricks_0 17 rfl rfl)
theorem dX1_bricks_18 : decode cX1_bricks 18 = .ok (.istore_n 3, 1) := dk_62 (dk_at dksX1_bricks_0 18 rfl rfl)
theorem dX1_bricks_19 : decode cX1_bricks 19 = .ok (.iload_n 3, 1) := dk_29 (dk_at dksX1_bricks_0 19 rfl rfl)
theorem dX1_bricks_20 : decode cX1_bricks 20 = .ok (.iconst 1, 1) := dk_4 (dk_at dksX1_bricks_0 20 rfl rfl)
theorem dX1_bricks_21 : decode cX1_bricks 21 = .ok (.aload_n 0, 1) := dk_42 (dk_at dksX1_bricks_0 21 rfl rfl)
theorem dX1_bricks_22 : decode cX1_bricks 22 = .ok (.invokevirtual 134, 3) := dk_182 0 134 (dk_at dksX1_bricks_1 0 rfl rfl)
theorem dX1_bricks_25 : decode cX1_bricks 25 = .ok (.ishl, 1) := dk_120 (dk_at dksX1_bricks_1 3 rfl rfl)
theorem dX1_bricks_26 : decode cX1_bricks 26 = .ok (.if_icmp .ge 71, 3) := dk_162 0 71 (dk_at dksX1_bricks_1 4 rfl rfl)
theorem dX1_bricks_29 : decode cX1_bricks 29 = .ok (.iload_n 3, 1) := dk_29 (dk_at dksX1_bricks_1 7 rfl rfl)
theorem dX1_bricks_30 : decode cX1_bricks 30 = .ok (.aload_n 0, 1) := dk_42 (dk_at dksX1_bricks_1 8 rfl rfl)
theorem dX1_bricks_31 : decode cX1_bricks 31 = .ok (.getfield 95, 3) := dk_180 0 95 (dk_at dksX1_bricks_1 9 rfl rfl)
theorem dX1_bricks_34 : decode cX1_bricks 34 = .ok (.getfield 270, 3) := dk_180 1 14 (dk_at dksX1_bricks_1 12 rfl rfl)
theorem dX1_bricks_37 : decode cX1_bricks 37 = .ok (.iand, 1) := dk_126 (dk_at dksX1_bricks_1 15 rfl rfl)
theorem dX1_bricks_38 : decode cX1_bricks 38 = .ok (.ifCond .ne 53, 3) := dk_154 0 53 (dk_at dksX1_bricks_1 16 rfl rfl)
theorem dX1_bricks_41 : decode cX1_bricks 41 = .ok (.iload_n 2, 1) := dk_28 (dk_at dksX1_bricks_1 19 rfl rfl)
theorem dX1_bricks_42 : decode cX1_bricks 42 = .ok (.bipush (-2), 2) := dk_16 254 (dk_at dksX1_bricks_1 20 rfl rfl)
theorem dX1_bricks_44 : decode cX1_bricks 44 = .ok (.if_icmp .eq 17, 3) := dk_159 0 17 (dk_at dksX1_bricks_2 0 rfl rfl)
theorem dX1_bricks_47 : decode cX1_bricks 47 = .ok (.iload_n 3, 1) := dk_29 (dk_at dksX1_bricks_2 3 rfl rfl)
theorem dX1_bricks_48 : decode cX1_bricks 48 = .ok (.invokestatic 295, 3) := dk_184 1 39 (dk_at dksX1_bricks_2 4 rfl rfl)
theorem dX1_bricks_51 : decode cX1_bricks 51 = .ok (.iload_n 2, 1) := dk_28 (dk_at dksX1_bricks_2 7 rfl rfl)
theorem dX1_bricks_52 : decode cX1_bricks 52 = .ok (.invokestatic 295, 3) := dk_184 1 39 (dk_at dksX1_bricks_2 8 rfl rfl)
theorem dX1_bricks_55 : decode cX1_bricks 55 = .ok (.if_icmp .lt 6, 3) := dk_161 0 6 (dk_at dksX1_bricks_2 11 rfl rfl)
theorem dX1_bricks_58 : decode cX1_bricks 58 = .ok (.goto 33, 3) := dk_167 0 33 (dk_at dksX1_bricks_2 14 rfl rfl)
theorem dX1_bricks_61 : decode cX1_bricks 61 = .ok (.aload_n 0, 1) := dk_42 (dk_at dksX1_bricks_2 17 rfl rfl)
theorem dX1_bricks_62 : decode cX1_bricks 62 = .ok (.invokevirtual 301, 3) := dk_182 1 45 (dk_at dksX1_bricks_2 18 rfl rfl)
theorem dX1_bricks_65 : decode cX1_bricks 65 = .ok (.dup, 1) := dk_89 (dk_at dksX1_bricks_2 21 rfl rfl)
theorem dX1_bricks_66 : decode cX1_bricks 66 = .ok (.getfield 270, 3) := dk_180 1 14 (dk_at dksX1_bricks_3 0 rfl rfl)
theorem dX1_bricks_69 : decode cX1_bricks 69 = .ok (.iload_n 3, 1) := dk_29 (dk_at dksX1_bricks_3 3 rfl rfl)
theorem dX1_bricks_70 : decode cX1_bricks 70 = .ok (.ior, 1) := dk_128 (dk_at dksX1_bricks_3 4 rfl rfl)
theorem dX1_bricks_71 : decode cX1_bricks 71 = .ok (.putfield 270, 3) := dk_181 1 14 (dk_at dksX1_bricks_3 5 rfl rfl)
theorem dX1_bricks_74 : decode cX1_bricks 74 = .ok (.aload_n 0, 1) := dk_42 (dk_at dksX1_bricks_3 8 rfl rfl)
theorem dX1_bricks_75 : decode cX1_bricks 75 = .ok (.aload_n 0, 1) := dk_42 (dk_at dksX1_bricks_3 9 rfl rfl)
theorem dX1_bricks_76 : decode cX1_bricks 76 = .ok (.getfield 106, 3) := dk_180 0 106 (dk_at dksX1_bricks_3 10 rfl rfl)
theorem dX1_bricks_79 : decode cX1_bricks 79 = .ok (.iload_n 1, 1) := dk_27 (dk_at dksX1_bricks_3 13 rfl rfl)
theorem dX1_bricks_80 : decode cX1_bricks 80 = .ok (.invokevirtual 237, 3) := dk_182 0 237 (dk_at dksX1_bricks_3 14 rfl rfl)
theorem dX1_bricks_83 : decode cX1_bricks 83 = .ok (.invokestatic 298, 3) := dk_184 1 42 (dk_at dksX1_bricks_3 17 rfl rfl)
theorem dX1_bricks_86 : decode cX1_bricks 86 = .ok (.ifCond .eq 5, 3) := dk_153 0 5 (dk_at dksX1_bricks_3 20 rfl rfl)
theorem dX1_bricks_89 : decode cX1_bricks 89 = .ok (.iload_n 3, 1) := dk_29 (dk_at dksX1_bricks_3 23 rfl rfl)
theorem dX1_bricks_90 : decode cX1_bricks 90 = .ok (.istore_n 2, 1) := dk_61 (dk_at dksX1_bricks_4 0 rfl rfl)
theorem dX1_bricks_91 : decode cX1_bricks 91 = .ok (.iinc 3 1, 3) := dk_132 3 1 (dk_at dksX1_bricks_4 1 rfl rfl)
theorem dX1_bricks_94 : decode cX1_bricks 94 = .ok (.goto (-75), 3) := dk_167 255 181 (dk_at dksX1_bricks_4 4 rfl rfl)
theorem dX1_bricks_97 : decode cX1_bricks 97 = .ok (.aload_n 0, 1) := dk_42 (dk_at dksX1_bricks_4 7 rfl rfl)
theorem dX1_bricks_98 : decode cX1_bricks 98 = .ok (.iload_n 2, 1) := dk_28 (dk_at dksX1_bricks_4 8 rfl rfl)
theorem dX1_bricks_99 : decode cX1_bricks 99 = .ok (.invokevirtual 51, 3) := dk_182 0 51 (dk_at dksX1_bricks_4 9 rfl rfl)
theorem dX1_bricks_102 : decode cX1_bricks 102 = .ok (.ireturn, 1) := dk_172 (dk_at dksX1_bricks_4 12 rfl rfl)
abbrev cX1_tries : ByteArray := prog_1_method_26_code
def yX1_tries : MethodName := ⟨RX1, "tries", "()LThirdWitness$Scene;"⟩
def dkwX1_tries_0 : List UInt8 := [42, 180, 0, 106, 42, 180, 0, 95, 182, 0, 138, 42, 180, 0, 106, 176]
abbrev dktX1_tries_0 : List UInt8 := dkwX1_tries_0 ++ []
theorem dksX1_tries_0 : cX1_tries.data.toList.drop 0 = dktX1_tries_0 := by decide +kernel
theorem dX1_tries_0 : decode cX1_tries 0 = .ok (.aload_n 0, 1) := dk_42 (dk_at dksX1_tries_0 0 rfl rfl)
theorem dX1_tries_1 : decode cX1_tries 1 = .ok (.getfield 106, 3) := dk_180 0 106 (dk_at dksX1_tries_0 1 rfl rfl)
theorem dX1_tries_4 : decode cX1_tries 4 = .ok (.aload_n 0, 1) := dk_42 (dk_at dksX1_tries_0 4 rfl rfl)
theorem dX1_tries_5 : decode cX1_tries 5 = .ok (.getfield 95, 3) := dk_180 0 95 (dk_at dksX1_tries_0 5 rfl rfl)
theorem dX1_tries_8 : decode cX1_tries 8 = .ok (.invokevirtual 138, 3) := dk_182 0 138 (dk_at dksX1_tries_0 8 rfl rfl)
theorem dX1_tries_11 : decode cX1_tries 11 = .ok (.aload_n 0, 1) := dk_42 (dk_at dksX1_tries_0 11 rfl rfl)
theorem dX1_tries_12 : decode cX1_tries 12 = .ok (.getfield 106, 3) := dk_180 0 106 (dk_at dksX1_tries_0 12 rfl rfl)
theorem dX1_tries_15 : decode cX1_tries 15 = .ok (.areturn, 1) := dk_176 (dk_at dksX1_tries_0 15 rfl rfl)
abbrev cX1_stoppers : ByteArray := prog_1_method_61_code
def yX1_stoppers : MethodName := ⟨RX1, "stoppers", "(I)I"⟩
def dkwX1_stoppers_1 : List UInt8 := [182, 0, 47, 172]
abbrev dktX1_stoppers_1 : List UInt8 := dkwX1_stoppers_1 ++ []
def dkwX1_stoppers_0 : List UInt8 := [42, 27, 182, 1, 17, 153, 0, 15, 42, 42, 27, 182, 1, 54, 182, 0, 51, 167, 0, 8, 42, 4]
abbrev dktX1_stoppers_0 : List UInt8 := dkwX1_stoppers_0 ++ dktX1_stoppers_1
theorem dksX1_stoppers_0 : cX1_stoppers.data.toList.drop 0 = dktX1_stoppers_0 := by decide +kernel
theorem dksX1_stoppers_1 : cX1_stoppers.data.toList.drop 22 = dktX1_stoppers_1 := dk_seg dksX1_stoppers_0 22 rfl rfl
theorem dX1_stoppers_0 : decode cX1_stoppers 0 = .ok (.aload_n 0, 1) := dk_42 (dk_at dksX1_stoppers_0 0 rfl rfl)
theorem dX1_stoppers_1 : decode cX1_stoppers 1 = .ok (.iload_n 1, 1) := dk_27 (dk_at dksX1_stoppers_0 1 rfl rfl)
theorem dX1_stoppers_2 : decode cX1_stoppers 2 = .ok (.invokevirtual 273, 3) := dk_182 1 17 (dk_at dksX1_stoppers_0 2 rfl rfl)
theorem dX1_stoppers_5 : decode cX1_stoppers 5 = .ok (.ifCond .eq 15, 3) := dk_153 0 15 (dk_at dksX1_stoppers_0 5 rfl rfl)
theorem dX1_stoppers_8 : decode cX1_stoppers 8 = .ok (.aload_n 0, 1) := dk_42 (dk_at dksX1_stoppers_0 8 rfl rfl)
theorem dX1_stoppers_9 : decode cX1_stoppers 9 = .ok (.aload_n 0, 1) := dk_42 (dk_at dksX1_stoppers_0 9 rfl rfl)
theorem dX1_stoppers_10 : decode cX1_stoppers 10 = .ok (.iload_n 1, 1) := dk_27 (dk_at dksX1_stoppers_0 10 rfl rfl)
theorem dX1_stoppers_11 : decode cX1_stoppers 11 = .ok (.invokevirtual 310, 3) := dk_182 1 54 (dk_at dksX1_stoppers_0 11 rfl rfl)
theorem dX1_stoppers_14 : decode cX1_stoppers 14 = .ok (.invokevirtual 51, 3) := dk_182 0 51 (dk_at dksX1_stoppers_0 14 rfl rfl)
theorem dX1_stoppers_17 : decode cX1_stoppers 17 = .ok (.goto 8, 3) := dk_167 0 8 (dk_at dksX1_stoppers_0 17 rfl rfl)
theorem dX1_stoppers_20 : decode cX1_stoppers 20 = .ok (.aload_n 0, 1) := dk_42 (dk_at dksX1_stoppers_0 20 rfl rfl)
theorem dX1_stoppers_21 : decode cX1_stoppers 21 = .ok (.iconst 1, 1) := dk_4 (dk_at dksX1_stoppers_0 21 rfl rfl)
theorem dX1_stoppers_22 : decode cX1_stoppers 22 = .ok (.invokevirtual 47, 3) := dk_182 0 47 (dk_at dksX1_stoppers_1 0 rfl rfl)
theorem dX1_stoppers_25 : decode cX1_stoppers 25 = .ok (.ireturn, 1) := dk_172 (dk_at dksX1_stoppers_1 3 rfl rfl)
abbrev cX1_stopsBy : ByteArray := prog_1_method_60_code
def yX1_stopsBy : MethodName := ⟨RX1, "stopsBy", "(I)I"⟩
def dkwX1_stopsBy_5 : List UInt8 := [21, 4, 62, 132, 4, 1, 167, 255, 145, 29, 172]
abbrev dktX1_stopsBy_5 : List UInt8 := dkwX1_stopsBy_5 ++ []
def dkwX1_stopsBy_4 : List UInt8 := [180, 0, 229, 145, 84, 132, 5, 1, 167, 255, 212, 42, 42, 180, 0, 106, 27, 182, 0, 237, 154, 0, 6]
abbrev dktX1_stopsBy_4 : List UInt8 := dkwX1_stopsBy_4 ++ dktX1_stopsBy_5
def dkwX1_stopsBy_3 : List UInt8 := [184, 0, 151, 153, 0, 25, 42, 180, 0, 106, 180, 0, 251, 21, 5, 42, 180, 0, 86, 27, 182, 0, 173]
abbrev dktX1_stopsBy_3 : List UInt8 := dkwX1_stopsBy_3 ++ dktX1_stopsBy_4
def dkwX1_stopsBy_2 : List UInt8 := [167, 0, 73, 42, 182, 1, 45, 87, 3, 54, 5, 21, 5, 42, 182, 0, 132, 162, 0, 41, 21, 4, 21, 5]
abbrev dktX1_stopsBy_2 : List UInt8 := dkwX1_stopsBy_2 ++ dktX1_stopsBy_3
def dkwX1_stopsBy_1 : List UInt8 := [154, 0, 96, 29, 16, 254, 159, 0, 20, 42, 21, 4, 182, 1, 51, 42, 29, 182, 1, 51, 161, 0, 6]
abbrev dktX1_stopsBy_1 : List UInt8 := dkwX1_stopsBy_1 ++ dktX1_stopsBy_2
def dkwX1_stopsBy_0 : List UInt8 := [42, 27, 182, 1, 48, 61, 16, 254, 62, 3, 54, 4, 21, 4, 28, 163, 0, 111, 21, 4, 28, 2, 130, 126]
abbrev dktX1_stopsBy_0 : List UInt8 := dkwX1_stopsBy_0 ++ dktX1_stopsBy_1
theorem dksX1_stopsBy_0 : cX1_stopsBy.data.toList.drop 0 = dktX1_stopsBy_0 := by decide +kernel
theorem dksX1_stopsBy_1 : cX1_stopsBy.data.toList.drop 24 = dktX1_stopsBy_1 := dk_seg dksX1_stopsBy_0 24 rfl rfl
theorem dksX1_stopsBy_2 : cX1_stopsBy.data.toList.drop 47 = dktX1_stopsBy_2 := dk_seg dksX1_stopsBy_1 23 rfl rfl
theorem dksX1_stopsBy_3 : cX1_stopsBy.data.toList.drop 71 = dktX1_stopsBy_3 := dk_seg dksX1_stopsBy_2 24 rfl rfl
theorem dksX1_stopsBy_4 : cX1_stopsBy.data.toList.drop 94 = dktX1_stopsBy_4 := dk_seg dksX1_stopsBy_3 23 rfl rfl
theorem dksX1_stopsBy_5 : cX1_stopsBy.data.toList.drop 117 = dktX1_stopsBy_5 := dk_seg dksX1_stopsBy_4 23 rfl rfl
theorem dX1_stopsBy_0 : decode cX1_stopsBy 0 = .ok (.aload_n 0, 1) := dk_42 (dk_at dksX1_stopsBy_0 0 rfl rfl)
theorem dX1_stopsBy_1 : decode cX1_stopsBy 1 = .ok (.iload_n 1, 1) := dk_27 (dk_at dksX1_stopsBy_0 1 rfl rfl)
theorem dX1_stopsBy_2 : decode cX1_stopsBy 2 = .ok (.invokevirtual 304, 3) := dk_182 1 48 (dk_at dksX1_stopsBy_0 2 rfl rfl)
theorem dX1_stopsBy_5 : decode cX1_stopsBy 5 = .ok (.istore_n 2, 1) := dk_61 (dk_at dksX1_stopsBy_0 5 rfl rfl)
theorem dX1_stopsBy_6 : decode cX1_stopsBy 6 = .ok (.bipush (-2), 2) := dk_16 254 (dk_at dksX1_stopsBy_0 6 rfl rfl)
theorem dX1_stopsBy_8 : decode cX1_stopsBy 8 = .ok (.istore_n 3, 1) := dk_62 (dk_at dksX1_stopsBy_0 8 rfl rfl)
theorem dX1_stopsBy_9 : decode cX1_stopsBy 9 = .ok (.iconst 0, 1) := dk_3 (dk_at dksX1_stopsBy_0 9 rfl rfl)
theorem dX1_stopsBy_10 : decode cX1_stopsBy 10 = .ok (.istore 4, 2) := dk_54 4 (dk_at dksX1_stopsBy_0 10 rfl rfl)
theorem dX1_stopsBy_12 : decode cX1_stopsBy 12 = .ok (.iload 4, 2) := dk_21 4 (dk_at dksX1_stopsBy_0 12 rfl rfl)
theorem dX1_stopsBy_14 : decode cX1_stopsBy 14 = .ok (.iload_n 2, 1) := dk_28 (dk_at dksX1_stopsBy_0 14 rfl rfl)
theorem dX1_stopsBy_15 : decode cX1_stopsBy 15 = .ok (.if_icmp .gt 111, 3) := dk_163 0 111 (dk_at dksX1_stopsBy_0 15 rfl rfl)
theorem dX1_stopsBy_18 : decode cX1_stopsBy 18 = .ok (.iload 4, 2) := dk_21 4 (dk_at dksX1_stopsBy_0 18 rfl rfl)
theorem dX1_stopsBy_20 : decode cX1_stopsBy 20 = .ok (.iload_n 2, 1) := dk_28 (dk_at dksX1_stopsBy_0 20 rfl rfl)
theorem dX1_stopsBy_21 : decode cX1_stopsBy 21 = .ok (.iconst (-1), 1) := dk_2 (dk_at dksX1_stopsBy_0 21 rfl rfl)
theorem dX1_stopsBy_22 : decode cX1_stopsBy 22 = .ok (.ixor, 1) := dk_130 (dk_at dksX1_stopsBy_0 22 rfl rfl)
theorem dX1_stopsBy_23 : decode cX1_stopsBy 23 = .ok (.iand, 1) := dk_126 (dk_at dksX1_stopsBy_0 23 rfl rfl)
theorem dX1_stopsBy_24 : decode cX1_stopsBy 24 = .ok (.ifCond .ne 96, 3) := dk_154 0 96 (dk_at dksX1_stopsBy_1 0 rfl rfl)
theorem dX1_stopsBy_27 : decode cX1_stopsBy 27 = .ok (.iload_n 3, 1) := dk_29 (dk_at dksX1_stopsBy_1 3 rfl rfl)
theorem dX1_stopsBy_28 : decode cX1_stopsBy 28 = .ok (.bipush (-2), 2) := dk_16 254 (dk_at dksX1_stopsBy_1 4 rfl rfl)
theorem dX1_stopsBy_30 : decode cX1_stopsBy 30 = .ok (.if_icmp .eq 20, 3) := dk_159 0 20 (dk_at dksX1_stopsBy_1 6 rfl rfl)
theorem dX1_stopsBy_33 : decode cX1_stopsBy 33 = .ok (.aload_n 0, 1) := dk_42 (dk_at dksX1_stopsBy_1 9 rfl rfl)
theorem dX1_stopsBy_34 : decode cX1_stopsBy 34 = .ok (.iload 4, 2) := dk_21 4 (dk_at dksX1_stopsBy_1 10 rfl rfl)
theorem dX1_stopsBy_36 : decode cX1_stopsBy 36 = .ok (.invokevirtual 307, 3) := dk_182 1 51 (dk_at dksX1_stopsBy_1 12 rfl rfl)
theorem dX1_stopsBy_39 : decode cX1_stopsBy 39 = .ok (.aload_n 0, 1) := dk_42 (dk_at dksX1_stopsBy_1 15 rfl rfl)
theorem dX1_stopsBy_40 : decode cX1_stopsBy 40 = .ok (.iload_n 3, 1) := dk_29 (dk_at dksX1_stopsBy_1 16 rfl rfl)
theorem dX1_stopsBy_41 : decode cX1_stopsBy 41 = .ok (.invokevirtual 307, 3) := dk_182 1 51 (dk_at dksX1_stopsBy_1 17 rfl rfl)
theorem dX1_stopsBy_44 : decode cX1_stopsBy 44 = .ok (.if_icmp .lt 6, 3) := dk_161 0 6 (dk_at dksX1_stopsBy_1 20 rfl rfl)
theorem dX1_stopsBy_47 : decode cX1_stopsBy 47 = .ok (.goto 73, 3) := dk_167 0 73 (dk_at dksX1_stopsBy_2 0 rfl rfl)
theorem dX1_stopsBy_50 : decode cX1_stopsBy 50 = .ok (.aload_n 0, 1) := dk_42 (dk_at dksX1_stopsBy_2 3 rfl rfl)
theorem dX1_stopsBy_51 : decode cX1_stopsBy 51 = .ok (.invokevirtual 301, 3) := dk_182 1 45 (dk_at dksX1_stopsBy_2 4 rfl rfl)
theorem dX1_stopsBy_54 : decode cX1_stopsBy 54 = .ok (.pop, 1) := dk_87 (dk_at dksX1_stopsBy_2 7 rfl rfl)
theorem dX1_stopsBy_55 : decode cX1_stopsBy 55 = .ok (.iconst 0, 1) := dk_3 (dk_at dksX1_stopsBy_2 8 rfl rfl)
theorem dX1_stopsBy_56 : decode cX1_stopsBy 56 = .ok (.istore 5, 2) := dk_54 5 (dk_at dksX1_stopsBy_2 9 rfl rfl)
theorem dX1_stopsBy_58 : decode cX1_stopsBy 58 = .ok (.iload 5, 2) := dk_21 5 (dk_at dksX1_stopsBy_2 11 rfl rfl)
theorem dX1_stopsBy_60 : decode cX1_stopsBy 60 = .ok (.aload_n 0, 1) := dk_42 (dk_at dksX1_stopsBy_2 13 rfl rfl)
theorem dX1_stopsBy_61 : decode cX1_stopsBy 61 = .ok (.invokevirtual 132, 3) := dk_182 0 132 (dk_at dksX1_stopsBy_2 14 rfl rfl)
theorem dX1_stopsBy_64 : decode cX1_stopsBy 64 = .ok (.if_icmp .ge 41, 3) := dk_162 0 41 (dk_at dksX1_stopsBy_2 17 rfl rfl)
theorem dX1_stopsBy_67 : decode cX1_stopsBy 67 = .ok (.iload 4, 2) := dk_21 4 (dk_at dksX1_stopsBy_2 20 rfl rfl)
theorem dX1_stopsBy_69 : decode cX1_stopsBy 69 = .ok (.iload 5, 2) := dk_21 5 (dk_at dksX1_stopsBy_2 22 rfl rfl)
theorem dX1_stopsBy_71 : decode cX1_stopsBy 71 = .ok (.invokestatic 151, 3) := dk_184 0 151 (dk_at dksX1_stopsBy_3 0 rfl rfl)
theorem dX1_stopsBy_74 : decode cX1_stopsBy 74 = .ok (.ifCond .eq 25, 3) := dk_153 0 25 (dk_at dksX1_stopsBy_3 3 rfl rfl)
theorem dX1_stopsBy_77 : decode cX1_stopsBy 77 = .ok (.aload_n 0, 1) := dk_42 (dk_at dksX1_stopsBy_3 6 rfl rfl)
theorem dX1_stopsBy_78 : decode cX1_stopsBy 78 = .ok (.getfield 106, 3) := dk_180 0 106 (dk_at dksX1_stopsBy_3 7 rfl rfl)
theorem dX1_stopsBy_81 : decode cX1_stopsBy 81 = .ok (.getfield 251, 3) := dk_180 0 251 (dk_at dksX1_stopsBy_3 10 rfl rfl)
theorem dX1_stopsBy_84 : decode cX1_stopsBy 84 = .ok (.iload 5, 2) := dk_21 5 (dk_at dksX1_stopsBy_3 13 rfl rfl)
theorem dX1_stopsBy_86 : decode cX1_stopsBy 86 = .ok (.aload_n 0, 1) := dk_42 (dk_at dksX1_stopsBy_3 15 rfl rfl)
theorem dX1_stopsBy_87 : decode cX1_stopsBy 87 = .ok (.getfield 86, 3) := dk_180 0 86 (dk_at dksX1_stopsBy_3 16 rfl rfl)
theorem dX1_stopsBy_90 : decode cX1_stopsBy 90 = .ok (.iload_n 1, 1) := dk_27 (dk_at dksX1_stopsBy_3 19 rfl rfl)
theorem dX1_stopsBy_91 : decode cX1_stopsBy 91 = .ok (.invokevirtual 173, 3) := dk_182 0 173 (dk_at dksX1_stopsBy_3 20 rfl rfl)
theorem dX1_stopsBy_94 : decode cX1_stopsBy 94 = .ok (.getfield 229, 3) := dk_180 0 229 (dk_at dksX1_stopsBy_4 0 rfl rfl)
theorem dX1_stopsBy_97 : decode cX1_stopsBy 97 = .ok (.i2b, 1) := dk_145 (dk_at dksX1_stopsBy_4 3 rfl rfl)
theorem dX1_stopsBy_98 : decode cX1_stopsBy 98 = .ok (.bastore, 1) := dk_84 (dk_at dksX1_stopsBy_4 4 rfl rfl)
theorem dX1_stopsBy_99 : decode cX1_stopsBy 99 = .ok (.iinc 5 1, 3) := dk_132 5 1 (dk_at dksX1_stopsBy_4 5 rfl rfl)
theorem dX1_stopsBy_102 : decode cX1_stopsBy 102 = .ok (.goto (-44), 3) := dk_167 255 212 (dk_at dksX1_stopsBy_4 8 rfl rfl)
theorem dX1_stopsBy_105 : decode cX1_stopsBy 105 = .ok (.aload_n 0, 1) := dk_42 (dk_at dksX1_stopsBy_4 11 rfl rfl)
theorem dX1_stopsBy_106 : decode cX1_stopsBy 106 = .ok (.aload_n 0, 1) := dk_42 (dk_at dksX1_stopsBy_4 12 rfl rfl)
theorem dX1_stopsBy_107 : decode cX1_stopsBy 107 = .ok (.getfield 106, 3) := dk_180 0 106 (dk_at dksX1_stopsBy_4 13 rfl rfl)
theorem dX1_stopsBy_110 : decode cX1_stopsBy 110 = .ok (.iload_n 1, 1) := dk_27 (dk_at dksX1_stopsBy_4 16 rfl rfl)
theorem dX1_stopsBy_111 : decode cX1_stopsBy 111 = .ok (.invokevirtual 237, 3) := dk_182 0 237 (dk_at dksX1_stopsBy_4 17 rfl rfl)
theorem dX1_stopsBy_114 : decode cX1_stopsBy 114 = .ok (.ifCond .ne 6, 3) := dk_154 0 6 (dk_at dksX1_stopsBy_4 20 rfl rfl)
theorem dX1_stopsBy_117 : decode cX1_stopsBy 117 = .ok (.iload 4, 2) := dk_21 4 (dk_at dksX1_stopsBy_5 0 rfl rfl)
theorem dX1_stopsBy_119 : decode cX1_stopsBy 119 = .ok (.istore_n 3, 1) := dk_62 (dk_at dksX1_stopsBy_5 2 rfl rfl)
theorem dX1_stopsBy_120 : decode cX1_stopsBy 120 = .ok (.iinc 4 1, 3) := dk_132 4 1 (dk_at dksX1_stopsBy_5 3 rfl rfl)
theorem dX1_stopsBy_123 : decode cX1_stopsBy 123 = .ok (.goto (-111), 3) := dk_167 255 145 (dk_at dksX1_stopsBy_5 6 rfl rfl)
theorem dX1_stopsBy_126 : decode cX1_stopsBy 126 = .ok (.iload_n 3, 1) := dk_29 (dk_at dksX1_stopsBy_5 9 rfl rfl)
theorem dX1_stopsBy_127 : decode cX1_stopsBy 127 = .ok (.ireturn, 1) := dk_172 (dk_at dksX1_stopsBy_5 10 rfl rfl)
abbrev cX1_free : ByteArray := prog_1_method_59_code
def yX1_free : MethodName := ⟨RX1, "free", "(I)I"⟩
def dkwX1_free_2 : List UInt8 := [27, 184, 0, 151, 154, 0, 9, 4, 29, 120, 167, 0, 4, 3, 128, 61, 132, 3, 1, 167, 255, 193, 28, 172]
abbrev dktX1_free_2 : List UInt8 := dkwX1_free_2 ++ []
def dkwX1_free_1 : List UInt8 := [16, 254, 159, 0, 35, 42, 180, 0, 95, 180, 0, 251, 29, 51, 16, 254, 160, 0, 21, 42, 29, 182, 0, 254]
abbrev dktX1_free_1 : List UInt8 := dkwX1_free_1 ++ dktX1_free_2
def dkwX1_free_0 : List UInt8 := [3, 61, 3, 62, 29, 42, 182, 0, 132, 162, 0, 61, 28, 42, 180, 0, 86, 29, 182, 0, 142, 180, 0, 248]
abbrev dktX1_free_0 : List UInt8 := dkwX1_free_0 ++ dktX1_free_1
theorem dksX1_free_0 : cX1_free.data.toList.drop 0 = dktX1_free_0 := by decide +kernel
theorem dksX1_free_1 : cX1_free.data.toList.drop 24 = dktX1_free_1 := dk_seg dksX1_free_0 24 rfl rfl
theorem dksX1_free_2 : cX1_free.data.toList.drop 48 = dktX1_free_2 := dk_seg dksX1_free_1 24 rfl rfl
theorem dX1_free_0 : decode cX1_free 0 = .ok (.iconst 0, 1) := dk_3 (dk_at dksX1_free_0 0 rfl rfl)
theorem dX1_free_1 : decode cX1_free 1 = .ok (.istore_n 2, 1) := dk_61 (dk_at dksX1_free_0 1 rfl rfl)
theorem dX1_free_2 : decode cX1_free 2 = .ok (.iconst 0, 1) := dk_3 (dk_at dksX1_free_0 2 rfl rfl)
theorem dX1_free_3 : decode cX1_free 3 = .ok (.istore_n 3, 1) := dk_62 (dk_at dksX1_free_0 3 rfl rfl)
theorem dX1_free_4 : decode cX1_free 4 = .ok (.iload_n 3, 1) := dk_29 (dk_at dksX1_free_0 4 rfl rfl)
theorem dX1_free_5 : decode cX1_free 5 = .ok (.aload_n 0, 1) := dk_42 (dk_at dksX1_free_0 5 rfl rfl)
theorem dX1_free_6 : decode cX1_free 6 = .ok (.invokevirtual 132, 3) := dk_182 0 132 (dk_at dksX1_free_0 6 rfl rfl)
theorem dX1_free_9 : decode cX1_free 9 = .ok (.if_icmp .ge 61, 3) := dk_162 0 61 (dk_at dksX1_free_0 9 rfl rfl)
theorem dX1_free_12 : decode cX1_free 12 = .ok (.iload_n 2, 1) := dk_28 (dk_at dksX1_free_0 12 rfl rfl)
theorem dX1_free_13 : decode cX1_free 13 = .ok (.aload_n 0, 1) := dk_42 (dk_at dksX1_free_0 13 rfl rfl)
theorem dX1_free_14 : decode cX1_free 14 = .ok (.getfield 86, 3) := dk_180 0 86 (dk_at dksX1_free_0 14 rfl rfl)
theorem dX1_free_17 : decode cX1_free 17 = .ok (.iload_n 3, 1) := dk_29 (dk_at dksX1_free_0 17 rfl rfl)
theorem dX1_free_18 : decode cX1_free 18 = .ok (.invokevirtual 142, 3) := dk_182 0 142 (dk_at dksX1_free_0 18 rfl rfl)
theorem dX1_free_21 : decode cX1_free 21 = .ok (.getfield 248, 3) := dk_180 0 248 (dk_at dksX1_free_0 21 rfl rfl)
theorem dX1_free_24 : decode cX1_free 24 = .ok (.bipush (-2), 2) := dk_16 254 (dk_at dksX1_free_1 0 rfl rfl)
theorem dX1_free_26 : decode cX1_free 26 = .ok (.if_icmp .eq 35, 3) := dk_159 0 35 (dk_at dksX1_free_1 2 rfl rfl)
theorem dX1_free_29 : decode cX1_free 29 = .ok (.aload_n 0, 1) := dk_42 (dk_at dksX1_free_1 5 rfl rfl)
theorem dX1_free_30 : decode cX1_free 30 = .ok (.getfield 95, 3) := dk_180 0 95 (dk_at dksX1_free_1 6 rfl rfl)
theorem dX1_free_33 : decode cX1_free 33 = .ok (.getfield 251, 3) := dk_180 0 251 (dk_at dksX1_free_1 9 rfl rfl)
theorem dX1_free_36 : decode cX1_free 36 = .ok (.iload_n 3, 1) := dk_29 (dk_at dksX1_free_1 12 rfl rfl)
theorem dX1_free_37 : decode cX1_free 37 = .ok (.baload, 1) := dk_51 (dk_at dksX1_free_1 13 rfl rfl)
theorem dX1_free_38 : decode cX1_free 38 = .ok (.bipush (-2), 2) := dk_16 254 (dk_at dksX1_free_1 14 rfl rfl)
theorem dX1_free_40 : decode cX1_free 40 = .ok (.if_icmp .ne 21, 3) := dk_160 0 21 (dk_at dksX1_free_1 16 rfl rfl)
theorem dX1_free_43 : decode cX1_free 43 = .ok (.aload_n 0, 1) := dk_42 (dk_at dksX1_free_1 19 rfl rfl)
theorem dX1_free_44 : decode cX1_free 44 = .ok (.iload_n 3, 1) := dk_29 (dk_at dksX1_free_1 20 rfl rfl)
theorem dX1_free_45 : decode cX1_free 45 = .ok (.invokevirtual 254, 3) := dk_182 0 254 (dk_at dksX1_free_1 21 rfl rfl)
theorem dX1_free_48 : decode cX1_free 48 = .ok (.iload_n 1, 1) := dk_27 (dk_at dksX1_free_2 0 rfl rfl)
theorem dX1_free_49 : decode cX1_free 49 = .ok (.invokestatic 151, 3) := dk_184 0 151 (dk_at dksX1_free_2 1 rfl rfl)
theorem dX1_free_52 : decode cX1_free 52 = .ok (.ifCond .ne 9, 3) := dk_154 0 9 (dk_at dksX1_free_2 4 rfl rfl)
theorem dX1_free_55 : decode cX1_free 55 = .ok (.iconst 1, 1) := dk_4 (dk_at dksX1_free_2 7 rfl rfl)
theorem dX1_free_56 : decode cX1_free 56 = .ok (.iload_n 3, 1) := dk_29 (dk_at dksX1_free_2 8 rfl rfl)
theorem dX1_free_57 : decode cX1_free 57 = .ok (.ishl, 1) := dk_120 (dk_at dksX1_free_2 9 rfl rfl)
theorem dX1_free_58 : decode cX1_free 58 = .ok (.goto 4, 3) := dk_167 0 4 (dk_at dksX1_free_2 10 rfl rfl)
theorem dX1_free_61 : decode cX1_free 61 = .ok (.iconst 0, 1) := dk_3 (dk_at dksX1_free_2 13 rfl rfl)
theorem dX1_free_62 : decode cX1_free 62 = .ok (.ior, 1) := dk_128 (dk_at dksX1_free_2 14 rfl rfl)
theorem dX1_free_63 : decode cX1_free 63 = .ok (.istore_n 2, 1) := dk_61 (dk_at dksX1_free_2 15 rfl rfl)
theorem dX1_free_64 : decode cX1_free 64 = .ok (.iinc 3 1, 3) := dk_132 3 1 (dk_at dksX1_free_2 16 rfl rfl)
theorem dX1_free_67 : decode cX1_free 67 = .ok (.goto (-63), 3) := dk_167 255 193 (dk_at dksX1_free_2 19 rfl rfl)
theorem dX1_free_70 : decode cX1_free 70 = .ok (.iload_n 2, 1) := dk_28 (dk_at dksX1_free_2 22 rfl rfl)
theorem dX1_free_71 : decode cX1_free 71 = .ok (.ireturn, 1) := dk_172 (dk_at dksX1_free_2 23 rfl rfl)
abbrev cX1_priceOf : ByteArray := prog_1_method_58_code
def yX1_priceOf : MethodName := ⟨RX1, "priceOf", "(I)I"⟩
def dkwX1_priceOf_1 : List UInt8 := [180, 0, 86, 29, 182, 0, 142, 180, 0, 248, 167, 0, 4, 3, 96, 61, 132, 3, 1, 167, 255, 219, 28, 172]
abbrev dktX1_priceOf_1 : List UInt8 := dkwX1_priceOf_1 ++ []
def dkwX1_priceOf_0 : List UInt8 := [3, 61, 3, 62, 29, 42, 182, 0, 132, 162, 0, 35, 28, 27, 29, 184, 0, 151, 153, 0, 17, 42]
abbrev dktX1_priceOf_0 : List UInt8 := dkwX1_priceOf_0 ++ dktX1_priceOf_1
theorem dksX1_priceOf_0 : cX1_priceOf.data.toList.drop 0 = dktX1_priceOf_0 := by decide +kernel
theorem dksX1_priceOf_1 : cX1_priceOf.data.toList.drop 22 = dktX1_priceOf_1 := dk_seg dksX1_priceOf_0 22 rfl rfl
theorem dX1_priceOf_0 : decode cX1_priceOf 0 = .ok (.iconst 0, 1) := dk_3 (dk_at dksX1_priceOf_0 0 rfl rfl)
theorem dX1_priceOf_1 : decode cX1_priceOf 1 = .ok (.istore_n 2, 1) := dk_61 (dk_at dksX1_priceOf_0 1 rfl rfl)
theorem dX1_priceOf_2 : decode cX1_priceOf 2 = .ok (.iconst 0, 1) := dk_3 (dk_at dksX1_priceOf_0 2 rfl rfl)
theorem dX1_priceOf_3 : decode cX1_priceOf 3 = .ok (.istore_n 3, 1) := dk_62 (dk_at dksX1_priceOf_0 3 rfl rfl)
theorem dX1_priceOf_4 : decode cX1_priceOf 4 = .ok (.iload_n 3, 1) := dk_29 (dk_at dksX1_priceOf_0 4 rfl rfl)
theorem dX1_priceOf_5 : decode cX1_priceOf 5 = .ok (.aload_n 0, 1) := dk_42 (dk_at dksX1_priceOf_0 5 rfl rfl)
theorem dX1_priceOf_6 : decode cX1_priceOf 6 = .ok (.invokevirtual 132, 3) := dk_182 0 132 (dk_at dksX1_priceOf_0 6 rfl rfl)
theorem dX1_priceOf_9 : decode cX1_priceOf 9 = .ok (.if_icmp .ge 35, 3) := dk_162 0 35 (dk_at dksX1_priceOf_0 9 rfl rfl)
theorem dX1_priceOf_12 : decode cX1_priceOf 12 = .ok (.iload_n 2, 1) := dk_28 (dk_at dksX1_priceOf_0 12 rfl rfl)
theorem dX1_priceOf_13 : decode cX1_priceOf 13 = .ok (.iload_n 1, 1) := dk_27 (dk_at dksX1_priceOf_0 13 rfl rfl)
theorem dX1_priceOf_14 : decode cX1_priceOf 14 = .ok (.iload_n 3, 1) := dk_29 (dk_at dksX1_priceOf_0 14 rfl rfl)
theorem dX1_priceOf_15 : decode cX1_priceOf 15 = .ok (.invokestatic 151, 3) := dk_184 0 151 (dk_at dksX1_priceOf_0 15 rfl rfl)
theorem dX1_priceOf_18 : decode cX1_priceOf 18 = .ok (.ifCond .eq 17, 3) := dk_153 0 17 (dk_at dksX1_priceOf_0 18 rfl rfl)
theorem dX1_priceOf_21 : decode cX1_priceOf 21 = .ok (.aload_n 0, 1) := dk_42 (dk_at dksX1_priceOf_0 21 rfl rfl)
theorem dX1_priceOf_22 : decode cX1_priceOf 22 = .ok (.getfield 86, 3) := dk_180 0 86 (dk_at dksX1_priceOf_1 0 rfl rfl)
theorem dX1_priceOf_25 : decode cX1_priceOf 25 = .ok (.iload_n 3, 1) := dk_29 (dk_at dksX1_priceOf_1 3 rfl rfl)
theorem dX1_priceOf_26 : decode cX1_priceOf 26 = .ok (.invokevirtual 142, 3) := dk_182 0 142 (dk_at dksX1_priceOf_1 4 rfl rfl)
theorem dX1_priceOf_29 : decode cX1_priceOf 29 = .ok (.getfield 248, 3) := dk_180 0 248 (dk_at dksX1_priceOf_1 7 rfl rfl)
theorem dX1_priceOf_32 : decode cX1_priceOf 32 = .ok (.goto 4, 3) := dk_167 0 4 (dk_at dksX1_priceOf_1 10 rfl rfl)
theorem dX1_priceOf_35 : decode cX1_priceOf 35 = .ok (.iconst 0, 1) := dk_3 (dk_at dksX1_priceOf_1 13 rfl rfl)
theorem dX1_priceOf_36 : decode cX1_priceOf 36 = .ok (.iadd, 1) := dk_96 (dk_at dksX1_priceOf_1 14 rfl rfl)
theorem dX1_priceOf_37 : decode cX1_priceOf 37 = .ok (.istore_n 2, 1) := dk_61 (dk_at dksX1_priceOf_1 15 rfl rfl)
theorem dX1_priceOf_38 : decode cX1_priceOf 38 = .ok (.iinc 3 1, 3) := dk_132 3 1 (dk_at dksX1_priceOf_1 16 rfl rfl)
theorem dX1_priceOf_41 : decode cX1_priceOf 41 = .ok (.goto (-37), 3) := dk_167 255 219 (dk_at dksX1_priceOf_1 19 rfl rfl)
theorem dX1_priceOf_44 : decode cX1_priceOf 44 = .ok (.iload_n 2, 1) := dk_28 (dk_at dksX1_priceOf_1 22 rfl rfl)
theorem dX1_priceOf_45 : decode cX1_priceOf 45 = .ok (.ireturn, 1) := dk_172 (dk_at dksX1_priceOf_1 23 rfl rfl)
abbrev cX1_price : ByteArray := prog_1_method_62_code
def yX1_price : MethodName := ⟨RX1, "price", "(I)I"⟩
def dkwX1_price_1 : List UInt8 := [160, 0, 8, 16, 254, 167, 0, 8, 42, 28, 182, 1, 51, 182, 0, 51, 172]
abbrev dktX1_price_1 : List UInt8 := dkwX1_price_1 ++ []
def dkwX1_price_0 : List UInt8 := [42, 27, 182, 1, 17, 154, 0, 9, 42, 4, 182, 0, 47, 172, 42, 27, 182, 1, 54, 61, 42, 28, 16, 254]
abbrev dktX1_price_0 : List UInt8 := dkwX1_price_0 ++ dktX1_price_1
theorem dksX1_price_0 : cX1_price.data.toList.drop 0 = dktX1_price_0 := by decide +kernel
theorem dksX1_price_1 : cX1_price.data.toList.drop 24 = dktX1_price_1 := dk_seg dksX1_price_0 24 rfl rfl
theorem dX1_price_0 : decode cX1_price 0 = .ok (.aload_n 0, 1) := dk_42 (dk_at dksX1_price_0 0 rfl rfl)
theorem dX1_price_1 : decode cX1_price 1 = .ok (.iload_n 1, 1) := dk_27 (dk_at dksX1_price_0 1 rfl rfl)
theorem dX1_price_2 : decode cX1_price 2 = .ok (.invokevirtual 273, 3) := dk_182 1 17 (dk_at dksX1_price_0 2 rfl rfl)
theorem dX1_price_5 : decode cX1_price 5 = .ok (.ifCond .ne 9, 3) := dk_154 0 9 (dk_at dksX1_price_0 5 rfl rfl)
theorem dX1_price_8 : decode cX1_price 8 = .ok (.aload_n 0, 1) := dk_42 (dk_at dksX1_price_0 8 rfl rfl)
theorem dX1_price_9 : decode cX1_price 9 = .ok (.iconst 1, 1) := dk_4 (dk_at dksX1_price_0 9 rfl rfl)
theorem dX1_price_10 : decode cX1_price 10 = .ok (.invokevirtual 47, 3) := dk_182 0 47 (dk_at dksX1_price_0 10 rfl rfl)
theorem dX1_price_13 : decode cX1_price 13 = .ok (.ireturn, 1) := dk_172 (dk_at dksX1_price_0 13 rfl rfl)
theorem dX1_price_14 : decode cX1_price 14 = .ok (.aload_n 0, 1) := dk_42 (dk_at dksX1_price_0 14 rfl rfl)
theorem dX1_price_15 : decode cX1_price 15 = .ok (.iload_n 1, 1) := dk_27 (dk_at dksX1_price_0 15 rfl rfl)
theorem dX1_price_16 : decode cX1_price 16 = .ok (.invokevirtual 310, 3) := dk_182 1 54 (dk_at dksX1_price_0 16 rfl rfl)
theorem dX1_price_19 : decode cX1_price 19 = .ok (.istore_n 2, 1) := dk_61 (dk_at dksX1_price_0 19 rfl rfl)
theorem dX1_price_20 : decode cX1_price 20 = .ok (.aload_n 0, 1) := dk_42 (dk_at dksX1_price_0 20 rfl rfl)
theorem dX1_price_21 : decode cX1_price 21 = .ok (.iload_n 2, 1) := dk_28 (dk_at dksX1_price_0 21 rfl rfl)
theorem dX1_price_22 : decode cX1_price 22 = .ok (.bipush (-2), 2) := dk_16 254 (dk_at dksX1_price_0 22 rfl rfl)
theorem dX1_price_24 : decode cX1_price 24 = .ok (.if_icmp .ne 8, 3) := dk_160 0 8 (dk_at dksX1_price_1 0 rfl rfl)
theorem dX1_price_27 : decode cX1_price 27 = .ok (.bipush (-2), 2) := dk_16 254 (dk_at dksX1_price_1 3 rfl rfl)
theorem dX1_price_29 : decode cX1_price 29 = .ok (.goto 8, 3) := dk_167 0 8 (dk_at dksX1_price_1 5 rfl rfl)
theorem dX1_price_32 : decode cX1_price 32 = .ok (.aload_n 0, 1) := dk_42 (dk_at dksX1_price_1 8 rfl rfl)
theorem dX1_price_33 : decode cX1_price 33 = .ok (.iload_n 2, 1) := dk_28 (dk_at dksX1_price_1 9 rfl rfl)
theorem dX1_price_34 : decode cX1_price 34 = .ok (.invokevirtual 307, 3) := dk_182 1 51 (dk_at dksX1_price_1 10 rfl rfl)
theorem dX1_price_37 : decode cX1_price 37 = .ok (.invokevirtual 51, 3) := dk_182 0 51 (dk_at dksX1_price_1 13 rfl rfl)
theorem dX1_price_40 : decode cX1_price 40 = .ok (.ireturn, 1) := dk_172 (dk_at dksX1_price_1 16 rfl rfl)
abbrev cX1_stoppedIf : ByteArray := prog_1_method_64_code
def yX1_stoppedIf : MethodName := ⟨RX1, "stoppedIf", "(II)I"⟩
def dkwX1_stoppedIf_2 : List UInt8 := [42, 27, 28, 182, 1, 57, 182, 0, 51, 172]
abbrev dktX1_stoppedIf_2 : List UInt8 := dkwX1_stoppedIf_2 ++ []
def dkwX1_stoppedIf_1 : List UInt8 := [180, 0, 86, 27, 182, 0, 142, 180, 0, 248, 16, 254, 160, 0, 11, 42, 8, 182, 0, 47, 167, 0, 13, 42]
abbrev dktX1_stoppedIf_1 : List UInt8 := dkwX1_stoppedIf_1 ++ dktX1_stoppedIf_2
def dkwX1_stoppedIf_0 : List UInt8 := [42, 27, 182, 0, 241, 153, 0, 11, 42, 28, 182, 1, 27, 154, 0, 9, 42, 4, 182, 0, 47, 172, 42]
abbrev dktX1_stoppedIf_0 : List UInt8 := dkwX1_stoppedIf_0 ++ dktX1_stoppedIf_1
theorem dksX1_stoppedIf_0 : cX1_stoppedIf.data.toList.drop 0 = dktX1_stoppedIf_0 := by decide +kernel
theorem dksX1_stoppedIf_1 : cX1_stoppedIf.data.toList.drop 23 = dktX1_stoppedIf_1 := dk_seg dksX1_stoppedIf_0 23 rfl rfl
theorem dksX1_stoppedIf_2 : cX1_stoppedIf.data.toList.drop 47 = dktX1_stoppedIf_2 := dk_seg dksX1_stoppedIf_1 24 rfl rfl
theorem dX1_stoppedIf_0 : decode cX1_stoppedIf 0 = .ok (.aload_n 0, 1) := dk_42 (dk_at dksX1_stoppedIf_0 0 rfl rfl)
theorem dX1_stoppedIf_1 : decode cX1_stoppedIf 1 = .ok (.iload_n 1, 1) := dk_27 (dk_at dksX1_stoppedIf_0 1 rfl rfl)
theorem dX1_stoppedIf_2 : decode cX1_stoppedIf 2 = .ok (.invokevirtual 241, 3) := dk_182 0 241 (dk_at dksX1_stoppedIf_0 2 rfl rfl)
theorem dX1_stoppedIf_5 : decode cX1_stoppedIf 5 = .ok (.ifCond .eq 11, 3) := dk_153 0 11 (dk_at dksX1_stoppedIf_0 5 rfl rfl)
theorem dX1_stoppedIf_8 : decode cX1_stoppedIf 8 = .ok (.aload_n 0, 1) := dk_42 (dk_at dksX1_stoppedIf_0 8 rfl rfl)
theorem dX1_stoppedIf_9 : decode cX1_stoppedIf 9 = .ok (.iload_n 2, 1) := dk_28 (dk_at dksX1_stoppedIf_0 9 rfl rfl)
theorem dX1_stoppedIf_10 : decode cX1_stoppedIf 10 = .ok (.invokevirtual 283, 3) := dk_182 1 27 (dk_at dksX1_stoppedIf_0 10 rfl rfl)
theorem dX1_stoppedIf_13 : decode cX1_stoppedIf 13 = .ok (.ifCond .ne 9, 3) := dk_154 0 9 (dk_at dksX1_stoppedIf_0 13 rfl rfl)
theorem dX1_stoppedIf_16 : decode cX1_stoppedIf 16 = .ok (.aload_n 0, 1) := dk_42 (dk_at dksX1_stoppedIf_0 16 rfl rfl)
theorem dX1_stoppedIf_17 : decode cX1_stoppedIf 17 = .ok (.iconst 1, 1) := dk_4 (dk_at dksX1_stoppedIf_0 17 rfl rfl)
theorem dX1_stoppedIf_18 : decode cX1_stoppedIf 18 = .ok (.invokevirtual 47, 3) := dk_182 0 47 (dk_at dksX1_stoppedIf_0 18 rfl rfl)
theorem dX1_stoppedIf_21 : decode cX1_stoppedIf 21 = .ok (.ireturn, 1) := dk_172 (dk_at dksX1_stoppedIf_0 21 rfl rfl)
theorem dX1_stoppedIf_22 : decode cX1_stoppedIf 22 = .ok (.aload_n 0, 1) := dk_42 (dk_at dksX1_stoppedIf_0 22 rfl rfl)
theorem dX1_stoppedIf_23 : decode cX1_stoppedIf 23 = .ok (.getfield 86, 3) := dk_180 0 86 (dk_at dksX1_stoppedIf_1 0 rfl rfl)
theorem dX1_stoppedIf_26 : decode cX1_stoppedIf 26 = .ok (.iload_n 1, 1) := dk_27 (dk_at dksX1_stoppedIf_1 3 rfl rfl)
theorem dX1_stoppedIf_27 : decode cX1_stoppedIf 27 = .ok (.invokevirtual 142, 3) := dk_182 0 142 (dk_at dksX1_stoppedIf_1 4 rfl rfl)
theorem dX1_stoppedIf_30 : decode cX1_stoppedIf 30 = .ok (.getfield 248, 3) := dk_180 0 248 (dk_at dksX1_stoppedIf_1 7 rfl rfl)
theorem dX1_stoppedIf_33 : decode cX1_stoppedIf 33 = .ok (.bipush (-2), 2) := dk_16 254 (dk_at dksX1_stoppedIf_1 10 rfl rfl)
theorem dX1_stoppedIf_35 : decode cX1_stoppedIf 35 = .ok (.if_icmp .ne 11, 3) := dk_160 0 11 (dk_at dksX1_stoppedIf_1 12 rfl rfl)
theorem dX1_stoppedIf_38 : decode cX1_stoppedIf 38 = .ok (.aload_n 0, 1) := dk_42 (dk_at dksX1_stoppedIf_1 15 rfl rfl)
theorem dX1_stoppedIf_39 : decode cX1_stoppedIf 39 = .ok (.iconst 5, 1) := dk_8 (dk_at dksX1_stoppedIf_1 16 rfl rfl)
theorem dX1_stoppedIf_40 : decode cX1_stoppedIf 40 = .ok (.invokevirtual 47, 3) := dk_182 0 47 (dk_at dksX1_stoppedIf_1 17 rfl rfl)
theorem dX1_stoppedIf_43 : decode cX1_stoppedIf 43 = .ok (.goto 13, 3) := dk_167 0 13 (dk_at dksX1_stoppedIf_1 20 rfl rfl)
theorem dX1_stoppedIf_46 : decode cX1_stoppedIf 46 = .ok (.aload_n 0, 1) := dk_42 (dk_at dksX1_stoppedIf_1 23 rfl rfl)
theorem dX1_stoppedIf_47 : decode cX1_stoppedIf 47 = .ok (.aload_n 0, 1) := dk_42 (dk_at dksX1_stoppedIf_2 0 rfl rfl)
theorem dX1_stoppedIf_48 : decode cX1_stoppedIf 48 = .ok (.iload_n 1, 1) := dk_27 (dk_at dksX1_stoppedIf_2 1 rfl rfl)
theorem dX1_stoppedIf_49 : decode cX1_stoppedIf 49 = .ok (.iload_n 2, 1) := dk_28 (dk_at dksX1_stoppedIf_2 2 rfl rfl)
theorem dX1_stoppedIf_50 : decode cX1_stoppedIf 50 = .ok (.invokevirtual 313, 3) := dk_182 1 57 (dk_at dksX1_stoppedIf_2 3 rfl rfl)
theorem dX1_stoppedIf_53 : decode cX1_stoppedIf 53 = .ok (.invokevirtual 51, 3) := dk_182 0 51 (dk_at dksX1_stoppedIf_2 6 rfl rfl)
theorem dX1_stoppedIf_56 : decode cX1_stoppedIf 56 = .ok (.ireturn, 1) := dk_172 (dk_at dksX1_stoppedIf_2 9 rfl rfl)
abbrev cX1_stoppedWith : ByteArray := prog_1_method_63_code
def yX1_stoppedWith : MethodName := ⟨RX1, "stoppedWith", "(II)I"⟩
def dkwX1_stoppedWith_0 : List UInt8 := [42, 182, 1, 45, 180, 0, 251, 27, 28, 145, 84, 42, 42, 180, 0, 106, 182, 1, 35, 172]
abbrev dktX1_stoppedWith_0 : List UInt8 := dkwX1_stoppedWith_0 ++ []
theorem dksX1_stoppedWith_0 : cX1_stoppedWith.data.toList.drop 0 = dktX1_stoppedWith_0 := by decide +kernel
theorem dX1_stoppedWith_0 : decode cX1_stoppedWith 0 = .ok (.aload_n 0, 1) := dk_42 (dk_at dksX1_stoppedWith_0 0 rfl rfl)
theorem dX1_stoppedWith_1 : decode cX1_stoppedWith 1 = .ok (.invokevirtual 301, 3) := dk_182 1 45 (dk_at dksX1_stoppedWith_0 1 rfl rfl)
theorem dX1_stoppedWith_4 : decode cX1_stoppedWith 4 = .ok (.getfield 251, 3) := dk_180 0 251 (dk_at dksX1_stoppedWith_0 4 rfl rfl)
theorem dX1_stoppedWith_7 : decode cX1_stoppedWith 7 = .ok (.iload_n 1, 1) := dk_27 (dk_at dksX1_stoppedWith_0 7 rfl rfl)
theorem dX1_stoppedWith_8 : decode cX1_stoppedWith 8 = .ok (.iload_n 2, 1) := dk_28 (dk_at dksX1_stoppedWith_0 8 rfl rfl)
theorem dX1_stoppedWith_9 : decode cX1_stoppedWith 9 = .ok (.i2b, 1) := dk_145 (dk_at dksX1_stoppedWith_0 9 rfl rfl)
theorem dX1_stoppedWith_10 : decode cX1_stoppedWith 10 = .ok (.bastore, 1) := dk_84 (dk_at dksX1_stoppedWith_0 10 rfl rfl)
theorem dX1_stoppedWith_11 : decode cX1_stoppedWith 11 = .ok (.aload_n 0, 1) := dk_42 (dk_at dksX1_stoppedWith_0 11 rfl rfl)
theorem dX1_stoppedWith_12 : decode cX1_stoppedWith 12 = .ok (.aload_n 0, 1) := dk_42 (dk_at dksX1_stoppedWith_0 12 rfl rfl)
theorem dX1_stoppedWith_13 : decode cX1_stoppedWith 13 = .ok (.getfield 106, 3) := dk_180 0 106 (dk_at dksX1_stoppedWith_0 13 rfl rfl)
theorem dX1_stoppedWith_16 : decode cX1_stoppedWith 16 = .ok (.invokevirtual 291, 3) := dk_182 1 35 (dk_at dksX1_stoppedWith_0 16 rfl rfl)
theorem dX1_stoppedWith_19 : decode cX1_stoppedWith 19 = .ok (.ireturn, 1) := dk_172 (dk_at dksX1_stoppedWith_0 19 rfl rfl)
abbrev cX1_bestHire : ByteArray := prog_1_method_65_code
def yX1_bestHire : MethodName := ⟨RX1, "bestHire", "()I"⟩
def dkwX1_bestHire_4 : List UInt8 := [21, 4, 96, 61, 132, 4, 1, 167, 255, 196, 132, 3, 1, 167, 255, 179, 42, 28, 182, 0, 51, 172]
abbrev dktX1_bestHire_4 : List UInt8 := dkwX1_bestHire_4 ++ []
def dkwX1_bestHire_3 : List UInt8 := [182, 1, 57, 184, 1, 39, 54, 5, 21, 5, 27, 163, 0, 6, 167, 0, 14, 21, 5, 60, 16, 10, 29, 104]
abbrev dktX1_bestHire_3 : List UInt8 := dkwX1_bestHire_3 ++ dktX1_bestHire_4
def dkwX1_bestHire_2 : List UInt8 := [162, 0, 57, 42, 180, 0, 86, 29, 182, 0, 142, 180, 0, 248, 16, 254, 159, 0, 41, 42, 29, 21, 4]
abbrev dktX1_bestHire_2 : List UInt8 := dkwX1_bestHire_2 ++ dktX1_bestHire_3
def dkwX1_bestHire_1 : List UInt8 := [60, 16, 254, 61, 3, 62, 29, 42, 182, 0, 132, 162, 0, 75, 3, 54, 4, 21, 4, 42, 182, 0, 112]
abbrev dktX1_bestHire_1 : List UInt8 := dkwX1_bestHire_1 ++ dktX1_bestHire_2
def dkwX1_bestHire_0 : List UInt8 := [42, 180, 0, 86, 199, 0, 9, 42, 4, 182, 0, 47, 172, 42, 42, 180, 0, 95, 182, 1, 35, 184, 1, 39]
abbrev dktX1_bestHire_0 : List UInt8 := dkwX1_bestHire_0 ++ dktX1_bestHire_1
theorem dksX1_bestHire_0 : cX1_bestHire.data.toList.drop 0 = dktX1_bestHire_0 := by decide +kernel
theorem dksX1_bestHire_1 : cX1_bestHire.data.toList.drop 24 = dktX1_bestHire_1 := dk_seg dksX1_bestHire_0 24 rfl rfl
theorem dksX1_bestHire_2 : cX1_bestHire.data.toList.drop 47 = dktX1_bestHire_2 := dk_seg dksX1_bestHire_1 23 rfl rfl
theorem dksX1_bestHire_3 : cX1_bestHire.data.toList.drop 70 = dktX1_bestHire_3 := dk_seg dksX1_bestHire_2 23 rfl rfl
theorem dksX1_bestHire_4 : cX1_bestHire.data.toList.drop 94 = dktX1_bestHire_4 := dk_seg dksX1_bestHire_3 24 rfl rfl
theorem dX1_bestHire_0 : decode cX1_bestHire 0 = .ok (.aload_n 0, 1) := dk_42 (dk_at dksX1_bestHire_0 0 rfl rfl)
theorem dX1_bestHire_1 : decode cX1_bestHire 1 = .ok (.getfield 86, 3) := dk_180 0 86 (dk_at dksX1_bestHire_0 1 rfl rfl)
theorem dX1_bestHire_4 : decode cX1_bestHire 4 = .ok (.ifnonnull 9, 3) := dk_199 0 9 (dk_at dksX1_bestHire_0 4 rfl rfl)
theorem dX1_bestHire_7 : decode cX1_bestHire 7 = .ok (.aload_n 0, 1) := dk_42 (dk_at dksX1_bestHire_0 7 rfl rfl)
theorem dX1_bestHire_8 : decode cX1_bestHire 8 = .ok (.iconst 1, 1) := dk_4 (dk_at dksX1_bestHire_0 8 rfl rfl)
theorem dX1_bestHire_9 : decode cX1_bestHire 9 = .ok (.invokevirtual 47, 3) := dk_182 0 47 (dk_at dksX1_bestHire_0 9 rfl rfl)
theorem dX1_bestHire_12 : decode cX1_bestHire 12 = .ok (.ireturn, 1) := dk_172 (dk_at dksX1_bestHire_0 12 rfl rfl)
theorem dX1_bestHire_13 : decode cX1_bestHire 13 = .ok (.aload_n 0, 1) := dk_42 (dk_at dksX1_bestHire_0 13 rfl rfl)
theorem dX1_bestHire_14 : decode cX1_bestHire 14 = .ok (.aload_n 0, 1) := dk_42 (dk_at dksX1_bestHire_0 14 rfl rfl)
theorem dX1_bestHire_15 : decode cX1_bestHire 15 = .ok (.getfield 95, 3) := dk_180 0 95 (dk_at dksX1_bestHire_0 15 rfl rfl)
theorem dX1_bestHire_18 : decode cX1_bestHire 18 = .ok (.invokevirtual 291, 3) := dk_182 1 35 (dk_at dksX1_bestHire_0 18 rfl rfl)
theorem dX1_bestHire_21 : decode cX1_bestHire 21 = .ok (.invokestatic 295, 3) := dk_184 1 39 (dk_at dksX1_bestHire_0 21 rfl rfl)
theorem dX1_bestHire_24 : decode cX1_bestHire 24 = .ok (.istore_n 1, 1) := dk_60 (dk_at dksX1_bestHire_1 0 rfl rfl)
theorem dX1_bestHire_25 : decode cX1_bestHire 25 = .ok (.bipush (-2), 2) := dk_16 254 (dk_at dksX1_bestHire_1 1 rfl rfl)
theorem dX1_bestHire_27 : decode cX1_bestHire 27 = .ok (.istore_n 2, 1) := dk_61 (dk_at dksX1_bestHire_1 3 rfl rfl)
theorem dX1_bestHire_28 : decode cX1_bestHire 28 = .ok (.iconst 0, 1) := dk_3 (dk_at dksX1_bestHire_1 4 rfl rfl)
theorem dX1_bestHire_29 : decode cX1_bestHire 29 = .ok (.istore_n 3, 1) := dk_62 (dk_at dksX1_bestHire_1 5 rfl rfl)
theorem dX1_bestHire_30 : decode cX1_bestHire 30 = .ok (.iload_n 3, 1) := dk_29 (dk_at dksX1_bestHire_1 6 rfl rfl)
theorem dX1_bestHire_31 : decode cX1_bestHire 31 = .ok (.aload_n 0, 1) := dk_42 (dk_at dksX1_bestHire_1 7 rfl rfl)
theorem dX1_bestHire_32 : decode cX1_bestHire 32 = .ok (.invokevirtual 132, 3) := dk_182 0 132 (dk_at dksX1_bestHire_1 8 rfl rfl)
theorem dX1_bestHire_35 : decode cX1_bestHire 35 = .ok (.if_icmp .ge 75, 3) := dk_162 0 75 (dk_at dksX1_bestHire_1 11 rfl rfl)
theorem dX1_bestHire_38 : decode cX1_bestHire 38 = .ok (.iconst 0, 1) := dk_3 (dk_at dksX1_bestHire_1 14 rfl rfl)
theorem dX1_bestHire_39 : decode cX1_bestHire 39 = .ok (.istore 4, 2) := dk_54 4 (dk_at dksX1_bestHire_1 15 rfl rfl)
theorem dX1_bestHire_41 : decode cX1_bestHire 41 = .ok (.iload 4, 2) := dk_21 4 (dk_at dksX1_bestHire_1 17 rfl rfl)
theorem dX1_bestHire_43 : decode cX1_bestHire 43 = .ok (.aload_n 0, 1) := dk_42 (dk_at dksX1_bestHire_1 19 rfl rfl)
theorem dX1_bestHire_44 : decode cX1_bestHire 44 = .ok (.invokevirtual 112, 3) := dk_182 0 112 (dk_at dksX1_bestHire_1 20 rfl rfl)
theorem dX1_bestHire_47 : decode cX1_bestHire 47 = .ok (.if_icmp .ge 57, 3) := dk_162 0 57 (dk_at dksX1_bestHire_2 0 rfl rfl)
theorem dX1_bestHire_50 : decode cX1_bestHire 50 = .ok (.aload_n 0, 1) := dk_42 (dk_at dksX1_bestHire_2 3 rfl rfl)
theorem dX1_bestHire_51 : decode cX1_bestHire 51 = .ok (.getfield 86, 3) := dk_180 0 86 (dk_at dksX1_bestHire_2 4 rfl rfl)
theorem dX1_bestHire_54 : decode cX1_bestHire 54 = .ok (.iload_n 3, 1) := dk_29 (dk_at dksX1_bestHire_2 7 rfl rfl)
theorem dX1_bestHire_55 : decode cX1_bestHire 55 = .ok (.invokevirtual 142, 3) := dk_182 0 142 (dk_at dksX1_bestHire_2 8 rfl rfl)
theorem dX1_bestHire_58 : decode cX1_bestHire 58 = .ok (.getfield 248, 3) := dk_180 0 248 (dk_at dksX1_bestHire_2 11 rfl rfl)
theorem dX1_bestHire_61 : decode cX1_bestHire 61 = .ok (.bipush (-2), 2) := dk_16 254 (dk_at dksX1_bestHire_2 14 rfl rfl)
theorem dX1_bestHire_63 : decode cX1_bestHire 63 = .ok (.if_icmp .eq 41, 3) := dk_159 0 41 (dk_at dksX1_bestHire_2 16 rfl rfl)
theorem dX1_bestHire_66 : decode cX1_bestHire 66 = .ok (.aload_n 0, 1) := dk_42 (dk_at dksX1_bestHire_2 19 rfl rfl)
theorem dX1_bestHire_67 : decode cX1_bestHire 67 = .ok (.iload_n 3, 1) := dk_29 (dk_at dksX1_bestHire_2 20 rfl rfl)
theorem dX1_bestHire_68 : decode cX1_bestHire 68 = .ok (.iload 4, 2) := dk_21 4 (dk_at dksX1_bestHire_2 21 rfl rfl)
theorem dX1_bestHire_70 : decode cX1_bestHire 70 = .ok (.invokevirtual 313, 3) := dk_182 1 57 (dk_at dksX1_bestHire_3 0 rfl rfl)
theorem dX1_bestHire_73 : decode cX1_bestHire 73 = .ok (.invokestatic 295, 3) := dk_184 1 39 (dk_at dksX1_bestHire_3 3 rfl rfl)
theorem dX1_bestHire_76 : decode cX1_bestHire 76 = .ok (.istore 5, 2) := dk_54 5 (dk_at dksX1_bestHire_3 6 rfl rfl)
theorem dX1_bestHire_78 : decode cX1_bestHire 78 = .ok (.iload 5, 2) := dk_21 5 (dk_at dksX1_bestHire_3 8 rfl rfl)
theorem dX1_bestHire_80 : decode cX1_bestHire 80 = .ok (.iload_n 1, 1) := dk_27 (dk_at dksX1_bestHire_3 10 rfl rfl)
theorem dX1_bestHire_81 : decode cX1_bestHire 81 = .ok (.if_icmp .gt 6, 3) := dk_163 0 6 (dk_at dksX1_bestHire_3 11 rfl rfl)
theorem dX1_bestHire_84 : decode cX1_bestHire 84 = .ok (.goto 14, 3) := dk_167 0 14 (dk_at dksX1_bestHire_3 14 rfl rfl)
theorem dX1_bestHire_87 : decode cX1_bestHire 87 = .ok (.iload 5, 2) := dk_21 5 (dk_at dksX1_bestHire_3 17 rfl rfl)
theorem dX1_bestHire_89 : decode cX1_bestHire 89 = .ok (.istore_n 1, 1) := dk_60 (dk_at dksX1_bestHire_3 19 rfl rfl)
theorem dX1_bestHire_90 : decode cX1_bestHire 90 = .ok (.bipush 10, 2) := dk_16 10 (dk_at dksX1_bestHire_3 20 rfl rfl)
theorem dX1_bestHire_92 : decode cX1_bestHire 92 = .ok (.iload_n 3, 1) := dk_29 (dk_at dksX1_bestHire_3 22 rfl rfl)
theorem dX1_bestHire_93 : decode cX1_bestHire 93 = .ok (.imul, 1) := dk_104 (dk_at dksX1_bestHire_3 23 rfl rfl)
theorem dX1_bestHire_94 : decode cX1_bestHire 94 = .ok (.iload 4, 2) := dk_21 4 (dk_at dksX1_bestHire_4 0 rfl rfl)
theorem dX1_bestHire_96 : decode cX1_bestHire 96 = .ok (.iadd, 1) := dk_96 (dk_at dksX1_bestHire_4 2 rfl rfl)
theorem dX1_bestHire_97 : decode cX1_bestHire 97 = .ok (.istore_n 2, 1) := dk_61 (dk_at dksX1_bestHire_4 3 rfl rfl)
theorem dX1_bestHire_98 : decode cX1_bestHire 98 = .ok (.iinc 4 1, 3) := dk_132 4 1 (dk_at dksX1_bestHire_4 4 rfl rfl)
theorem dX1_bestHire_101 : decode cX1_bestHire 101 = .ok (.goto (-60), 3) := dk_167 255 196 (dk_at dksX1_bestHire_4 7 rfl rfl)
theorem dX1_bestHire_104 : decode cX1_bestHire 104 = .ok (.iinc 3 1, 3) := dk_132 3 1 (dk_at dksX1_bestHire_4 10 rfl rfl)
theorem dX1_bestHire_107 : decode cX1_bestHire 107 = .ok (.goto (-77), 3) := dk_167 255 179 (dk_at dksX1_bestHire_4 13 rfl rfl)
theorem dX1_bestHire_110 : decode cX1_bestHire 110 = .ok (.aload_n 0, 1) := dk_42 (dk_at dksX1_bestHire_4 16 rfl rfl)
theorem dX1_bestHire_111 : decode cX1_bestHire 111 = .ok (.iload_n 2, 1) := dk_28 (dk_at dksX1_bestHire_4 17 rfl rfl)
theorem dX1_bestHire_112 : decode cX1_bestHire 112 = .ok (.invokevirtual 51, 3) := dk_182 0 51 (dk_at dksX1_bestHire_4 18 rfl rfl)
theorem dX1_bestHire_115 : decode cX1_bestHire 115 = .ok (.ireturn, 1) := dk_172 (dk_at dksX1_bestHire_4 21 rfl rfl)
abbrev cX1_fits : ByteArray := prog_1_method_68_code
def yX1_fits : MethodName := ⟨RX1, "fits", "()I"⟩
def dkwX1_fits_1 : List UInt8 := [182, 0, 51, 172]
abbrev dktX1_fits_1 : List UInt8 := dkwX1_fits_1 ++ []
def dkwX1_fits_0 : List UInt8 := [42, 180, 0, 86, 199, 0, 9, 42, 4, 182, 0, 47, 172, 42, 2, 182, 1, 75, 87, 42, 42, 180, 1, 63]
abbrev dktX1_fits_0 : List UInt8 := dkwX1_fits_0 ++ dktX1_fits_1
theorem dksX1_fits_0 : cX1_fits.data.toList.drop 0 = dktX1_fits_0 := by decide +kernel
theorem dksX1_fits_1 : cX1_fits.data.toList.drop 24 = dktX1_fits_1 := dk_seg dksX1_fits_0 24 rfl rfl
theorem dX1_fits_0 : decode cX1_fits 0 = .ok (.aload_n 0, 1) := dk_42 (dk_at dksX1_fits_0 0 rfl rfl)
theorem dX1_fits_1 : decode cX1_fits 1 = .ok (.getfield 86, 3) := dk_180 0 86 (dk_at dksX1_fits_0 1 rfl rfl)
theorem dX1_fits_4 : decode cX1_fits 4 = .ok (.ifnonnull 9, 3) := dk_199 0 9 (dk_at dksX1_fits_0 4 rfl rfl)
theorem dX1_fits_7 : decode cX1_fits 7 = .ok (.aload_n 0, 1) := dk_42 (dk_at dksX1_fits_0 7 rfl rfl)
theorem dX1_fits_8 : decode cX1_fits 8 = .ok (.iconst 1, 1) := dk_4 (dk_at dksX1_fits_0 8 rfl rfl)
theorem dX1_fits_9 : decode cX1_fits 9 = .ok (.invokevirtual 47, 3) := dk_182 0 47 (dk_at dksX1_fits_0 9 rfl rfl)
theorem dX1_fits_12 : decode cX1_fits 12 = .ok (.ireturn, 1) := dk_172 (dk_at dksX1_fits_0 12 rfl rfl)
theorem dX1_fits_13 : decode cX1_fits 13 = .ok (.aload_n 0, 1) := dk_42 (dk_at dksX1_fits_0 13 rfl rfl)
theorem dX1_fits_14 : decode cX1_fits 14 = .ok (.iconst (-1), 1) := dk_2 (dk_at dksX1_fits_0 14 rfl rfl)
theorem dX1_fits_15 : decode cX1_fits 15 = .ok (.invokevirtual 331, 3) := dk_182 1 75 (dk_at dksX1_fits_0 15 rfl rfl)
theorem dX1_fits_18 : decode cX1_fits 18 = .ok (.pop, 1) := dk_87 (dk_at dksX1_fits_0 18 rfl rfl)
theorem dX1_fits_19 : decode cX1_fits 19 = .ok (.aload_n 0, 1) := dk_42 (dk_at dksX1_fits_0 19 rfl rfl)
theorem dX1_fits_20 : decode cX1_fits 20 = .ok (.aload_n 0, 1) := dk_42 (dk_at dksX1_fits_0 20 rfl rfl)
theorem dX1_fits_21 : decode cX1_fits 21 = .ok (.getfield 319, 3) := dk_180 1 63 (dk_at dksX1_fits_0 21 rfl rfl)
theorem dX1_fits_24 : decode cX1_fits 24 = .ok (.invokevirtual 51, 3) := dk_182 0 51 (dk_at dksX1_fits_1 0 rfl rfl)
theorem dX1_fits_27 : decode cX1_fits 27 = .ok (.ireturn, 1) := dk_172 (dk_at dksX1_fits_1 3 rfl rfl)
abbrev cX1_fitting : ByteArray := prog_1_method_67_code
def yX1_fitting : MethodName := ⟨RX1, "fitting", "(I)I"⟩
def dkwX1_fitting_7 : List UInt8 := [167, 255, 142, 42, 180, 1, 63, 154, 0, 8, 42, 3, 181, 1, 69, 28, 172]
abbrev dktX1_fitting_7 : List UInt8 := dkwX1_fitting_7 ++ []
def dkwX1_fitting_6 : List UInt8 := [21, 4, 184, 0, 151, 153, 0, 7, 4, 167, 0, 4, 3, 96, 79, 132, 4, 1, 167, 255, 217, 132, 3, 1]
abbrev dktX1_fitting_6 : List UInt8 := dkwX1_fitting_6 ++ dktX1_fitting_7
def dkwX1_fitting_5 : List UInt8 := [3, 54, 4, 21, 4, 42, 180, 0, 86, 180, 0, 158, 162, 0, 33, 42, 180, 0, 30, 21, 4, 92, 46, 29]
abbrev dktX1_fitting_5 : List UInt8 := dkwX1_fitting_5 ++ dktX1_fitting_6
def dkwX1_fitting_4 : List UInt8 := [96, 181, 1, 63, 42, 89, 180, 1, 66, 29, 128, 181, 1, 66, 42, 89, 180, 1, 69, 29, 126, 181, 1, 69]
abbrev dktX1_fitting_4 : List UInt8 := dkwX1_fitting_4 ++ dktX1_fitting_5
def dkwX1_fitting_3 : List UInt8 := [16, 254, 159, 0, 6, 167, 0, 88, 42, 180, 1, 63, 27, 160, 0, 5, 29, 61, 42, 89, 180, 1, 63, 4]
abbrev dktX1_fitting_3 : List UInt8 := dkwX1_fitting_3 ++ dktX1_fitting_4
def dkwX1_fitting_2 : List UInt8 := [167, 255, 241, 3, 62, 29, 4, 42, 180, 0, 86, 180, 0, 158, 120, 162, 0, 107, 42, 29, 182, 1, 72]
abbrev dktX1_fitting_2 : List UInt8 := dkwX1_fitting_2 ++ dktX1_fitting_3
def dkwX1_fitting_1 : List UInt8 := [181, 1, 69, 16, 254, 61, 3, 62, 29, 7, 162, 0, 16, 42, 180, 0, 30, 29, 3, 79, 132, 3, 1]
abbrev dktX1_fitting_1 : List UInt8 := dkwX1_fitting_1 ++ dktX1_fitting_2
def dkwX1_fitting_0 : List UInt8 := [42, 3, 181, 1, 63, 42, 3, 181, 1, 66, 42, 4, 42, 180, 0, 86, 180, 0, 158, 120, 4, 100]
abbrev dktX1_fitting_0 : List UInt8 := dkwX1_fitting_0 ++ dktX1_fitting_1
theorem dksX1_fitting_0 : cX1_fitting.data.toList.drop 0 = dktX1_fitting_0 := by decide +kernel
theorem dksX1_fitting_1 : cX1_fitting.data.toList.drop 22 = dktX1_fitting_1 := dk_seg dksX1_fitting_0 22 rfl rfl
theorem dksX1_fitting_2 : cX1_fitting.data.toList.drop 45 = dktX1_fitting_2 := dk_seg dksX1_fitting_1 23 rfl rfl
theorem dksX1_fitting_3 : cX1_fitting.data.toList.drop 68 = dktX1_fitting_3 := dk_seg dksX1_fitting_2 23 rfl rfl
theorem dksX1_fitting_4 : cX1_fitting.data.toList.drop 92 = dktX1_fitting_4 := dk_seg dksX1_fitting_3 24 rfl rfl
theorem dksX1_fitting_5 : cX1_fitting.data.toList.drop 116 = dktX1_fitting_5 := dk_seg dksX1_fitting_4 24 rfl rfl
theorem dksX1_fitting_6 : cX1_fitting.data.toList.drop 140 = dktX1_fitting_6 := dk_seg dksX1_fitting_5 24 rfl rfl
theorem dksX1_fitting_7 : cX1_fitting.data.toList.drop 164 = dktX1_fitting_7 := dk_seg dksX1_fitting_6 24 rfl rfl
theorem dX1_fitting_0 : decode cX1_fitting 0 = .ok (.aload_n 0, 1) := dk_42 (dk_at dksX1_fitting_0 0 rfl rfl)
theorem dX1_fitting_1 : decode cX1_fitting 1 = .ok (.iconst 0, 1) := dk_3 (dk_at dksX1_fitting_0 1 rfl rfl)
theorem dX1_fitting_2 : decode cX1_fitting 2 = .ok (.putfield 319, 3) := dk_181 1 63 (dk_at dksX1_fitting_0 2 rfl rfl)
theorem dX1_fitting_5 : decode cX1_fitting 5 = .ok (.aload_n 0, 1) := dk_42 (dk_at dksX1_fitting_0 5 rfl rfl)
theorem dX1_fitting_6 : decode cX1_fitting 6 = .ok (.iconst 0, 1) := dk_3 (dk_at dksX1_fitting_0 6 rfl rfl)
theorem dX1_fitting_7 : decode cX1_fitting 7 = .ok (.putfield 322, 3) := dk_181 1 66 (dk_at dksX1_fitting_0 7 rfl rfl)
theorem dX1_fitting_10 : decode cX1_fitting 10 = .ok (.aload_n 0, 1) := dk_42 (dk_at dksX1_fitting_0 10 rfl rfl)
theorem dX1_fitting_11 : decode cX1_fitting 11 = .ok (.iconst 1, 1) := dk_4 (dk_at dksX1_fitting_0 11 rfl rfl)
theorem dX1_fitting_12 : decode cX1_fitting 12 = .ok (.aload_n 0, 1) := dk_42 (dk_at dksX1_fitting_0 12 rfl rfl)
theorem dX1_fitting_13 : decode cX1_fitting 13 = .ok (.getfield 86, 3) := dk_180 0 86 (dk_at dksX1_fitting_0 13 rfl rfl)
theorem dX1_fitting_16 : decode cX1_fitting 16 = .ok (.getfield 158, 3) := dk_180 0 158 (dk_at dksX1_fitting_0 16 rfl rfl)
theorem dX1_fitting_19 : decode cX1_fitting 19 = .ok (.ishl, 1) := dk_120 (dk_at dksX1_fitting_0 19 rfl rfl)
theorem dX1_fitting_20 : decode cX1_fitting 20 = .ok (.iconst 1, 1) := dk_4 (dk_at dksX1_fitting_0 20 rfl rfl)
theorem dX1_fitting_21 : decode cX1_fitting 21 = .ok (.isub, 1) := dk_100 (dk_at dksX1_fitting_0 21 rfl rfl)
theorem dX1_fitting_22 : decode cX1_fitting 22 = .ok (.putfield 325, 3) := dk_181 1 69 (dk_at dksX1_fitting_1 0 rfl rfl)
theorem dX1_fitting_25 : decode cX1_fitting 25 = .ok (.bipush (-2), 2) := dk_16 254 (dk_at dksX1_fitting_1 3 rfl rfl)
theorem dX1_fitting_27 : decode cX1_fitting 27 = .ok (.istore_n 2, 1) := dk_61 (dk_at dksX1_fitting_1 5 rfl rfl)
theorem dX1_fitting_28 : decode cX1_fitting 28 = .ok (.iconst 0, 1) := dk_3 (dk_at dksX1_fitting_1 6 rfl rfl)
theorem dX1_fitting_29 : decode cX1_fitting 29 = .ok (.istore_n 3, 1) := dk_62 (dk_at dksX1_fitting_1 7 rfl rfl)
theorem dX1_fitting_30 : decode cX1_fitting 30 = .ok (.iload_n 3, 1) := dk_29 (dk_at dksX1_fitting_1 8 rfl rfl)
theorem dX1_fitting_31 : decode cX1_fitting 31 = .ok (.iconst 4, 1) := dk_7 (dk_at dksX1_fitting_1 9 rfl rfl)
theorem dX1_fitting_32 : decode cX1_fitting 32 = .ok (.if_icmp .ge 16, 3) := dk_162 0 16 (dk_at dksX1_fitting_1 10 rfl rfl)
theorem dX1_fitting_35 : decode cX1_fitting 35 = .ok (.aload_n 0, 1) := dk_42 (dk_at dksX1_fitting_1 13 rfl rfl)
theorem dX1_fitting_36 : decode cX1_fitting 36 = .ok (.getfield 30, 3) := dk_180 0 30 (dk_at dksX1_fitting_1 14 rfl rfl)
theorem dX1_fitting_39 : decode cX1_fitting 39 = .ok (.iload_n 3, 1) := dk_29 (dk_at dksX1_fitting_1 17 rfl rfl)
theorem dX1_fitting_40 : decode cX1_fitting 40 = .ok (.iconst 0, 1) := dk_3 (dk_at dksX1_fitting_1 18 rfl rfl)
theorem dX1_fitting_41 : decode cX1_fitting 41 = .ok (.iastore, 1) := dk_79 (dk_at dksX1_fitting_1 19 rfl rfl)
theorem dX1_fitting_42 : decode cX1_fitting 42 = .ok (.iinc 3 1, 3) := dk_132 3 1 (dk_at dksX1_fitting_1 20 rfl rfl)
theorem dX1_fitting_45 : decode cX1_fitting 45 = .ok (.goto (-15), 3) := dk_167 255 241 (dk_at dksX1_fitting_2 0 rfl rfl)
theorem dX1_fitting_48 : decode cX1_fitting 48 = .ok (.iconst 0, 1) := dk_3 (dk_at dksX1_fitting_2 3 rfl rfl)
theorem dX1_fitting_49 : decode cX1_fitting 49 = .ok (.istore_n 3, 1) := dk_62 (dk_at dksX1_fitting_2 4 rfl rfl)
theorem dX1_fitting_50 : decode cX1_fitting 50 = .ok (.iload_n 3, 1) := dk_29 (dk_at dksX1_fitting_2 5 rfl rfl)
theorem dX1_fitting_51 : decode cX1_fitting 51 = .ok (.iconst 1, 1) := dk_4 (dk_at dksX1_fitting_2 6 rfl rfl)
theorem dX1_fitting_52 : decode cX1_fitting 52 = .ok (.aload_n 0, 1) := dk_42 (dk_at dksX1_fitting_2 7 rfl rfl)
theorem dX1_fitting_53 : decode cX1_fitting 53 = .ok (.getfield 86, 3) := dk_180 0 86 (dk_at dksX1_fitting_2 8 rfl rfl)
theorem dX1_fitting_56 : decode cX1_fitting 56 = .ok (.getfield 158, 3) := dk_180 0 158 (dk_at dksX1_fitting_2 11 rfl rfl)
theorem dX1_fitting_59 : decode cX1_fitting 59 = .ok (.ishl, 1) := dk_120 (dk_at dksX1_fitting_2 14 rfl rfl)
theorem dX1_fitting_60 : decode cX1_fitting 60 = .ok (.if_icmp .ge 107, 3) := dk_162 0 107 (dk_at dksX1_fitting_2 15 rfl rfl)
theorem dX1_fitting_63 : decode cX1_fitting 63 = .ok (.aload_n 0, 1) := dk_42 (dk_at dksX1_fitting_2 18 rfl rfl)
theorem dX1_fitting_64 : decode cX1_fitting 64 = .ok (.iload_n 3, 1) := dk_29 (dk_at dksX1_fitting_2 19 rfl rfl)
theorem dX1_fitting_65 : decode cX1_fitting 65 = .ok (.invokevirtual 328, 3) := dk_182 1 72 (dk_at dksX1_fitting_2 20 rfl rfl)
theorem dX1_fitting_68 : decode cX1_fitting 68 = .ok (.bipush (-2), 2) := dk_16 254 (dk_at dksX1_fitting_3 0 rfl rfl)
theorem dX1_fitting_70 : decode cX1_fitting 70 = .ok (.if_icmp .eq 6, 3) := dk_159 0 6 (dk_at dksX1_fitting_3 2 rfl rfl)
theorem dX1_fitting_73 : decode cX1_fitting 73 = .ok (.goto 88, 3) := dk_167 0 88 (dk_at dksX1_fitting_3 5 rfl rfl)
theorem dX1_fitting_76 : decode cX1_fitting 76 = .ok (.aload_n 0, 1) := dk_42 (dk_at dksX1_fitting_3 8 rfl rfl)
theorem dX1_fitting_77 : decode cX1_fitting 77 = .ok (.getfield 319, 3) := dk_180 1 63 (dk_at dksX1_fitting_3 9 rfl rfl)
theorem dX1_fitting_80 : decode cX1_fitting 80 = .ok (.iload_n 1, 1) := dk_27 (dk_at dksX1_fitting_3 12 rfl rfl)
theorem dX1_fitting_81 : decode cX1_fitting 81 = .ok (.if_icmp .ne 5, 3) := dk_160 0 5 (dk_at dksX1_fitting_3 13 rfl rfl)
theorem dX1_fitting_84 : decode cX1_fitting 84 = .ok (.iload_n 3, 1) := dk_29 (dk_at dksX1_fitting_3 16 rfl rfl)
theorem dX1_fitting_85 : decode cX1_fitting 85 = .ok (.istore_n 2, 1) := dk_61 (dk_at dksX1_fitting_3 17 rfl rfl)
theorem dX1_fitting_86 : decode cX1_fitting 86 = .ok (.aload_n 0, 1) := dk_42 (dk_at dksX1_fitting_3 18 rfl rfl)
theorem dX1_fitting_87 : decode cX1_fitting 87 = .ok (.dup, 1) := dk_89 (dk_at dksX1_fitting_3 19 rfl rfl)
theorem dX1_fitting_88 : decode cX1_fitting 88 = .ok (.getfield 319, 3) := dk_180 1 63 (dk_at dksX1_fitting_3 20 rfl rfl)
theorem dX1_fitting_91 : decode cX1_fitting 91 = .ok (.iconst 1, 1) := dk_4 (dk_at dksX1_fitting_3 23 rfl rfl)
theorem dX1_fitting_92 : decode cX1_fitting 92 = .ok (.iadd, 1) := dk_96 (dk_at dksX1_fitting_4 0 rfl rfl)
theorem dX1_fitting_93 : decode cX1_fitting 93 = .ok (.putfield 319, 3) := dk_181 1 63 (dk_at dksX1_fitting_4 1 rfl rfl)
theorem dX1_fitting_96 : decode cX1_fitting 96 = .ok (.aload_n 0, 1) := dk_42 (dk_at dksX1_fitting_4 4 rfl rfl)
theorem dX1_fitting_97 : decode cX1_fitting 97 = .ok (.dup, 1) := dk_89 (dk_at dksX1_fitting_4 5 rfl rfl)
theorem dX1_fitting_98 : decode cX1_fitting 98 = .ok (.getfield 322, 3) := dk_180 1 66 (dk_at dksX1_fitting_4 6 rfl rfl)
theorem dX1_fitting_101 : decode cX1_fitting 101 = .ok (.iload_n 3, 1) := dk_29 (dk_at dksX1_fitting_4 9 rfl rfl)
theorem dX1_fitting_102 : decode cX1_fitting 102 = .ok (.ior, 1) := dk_128 (dk_at dksX1_fitting_4 10 rfl rfl)
theorem dX1_fitting_103 : decode cX1_fitting 103 = .ok (.putfield 322, 3) := dk_181 1 66 (dk_at dksX1_fitting_4 11 rfl rfl)
theorem dX1_fitting_106 : decode cX1_fitting 106 = .ok (.aload_n 0, 1) := dk_42 (dk_at dksX1_fitting_4 14 rfl rfl)
theorem dX1_fitting_107 : decode cX1_fitting 107 = .ok (.dup, 1) := dk_89 (dk_at dksX1_fitting_4 15 rfl rfl)
theorem dX1_fitting_108 : decode cX1_fitting 108 = .ok (.getfield 325, 3) := dk_180 1 69 (dk_at dksX1_fitting_4 16 rfl rfl)
theorem dX1_fitting_111 : decode cX1_fitting 111 = .ok (.iload_n 3, 1) := dk_29 (dk_at dksX1_fitting_4 19 rfl rfl)
theorem dX1_fitting_112 : decode cX1_fitting 112 = .ok (.iand, 1) := dk_126 (dk_at dksX1_fitting_4 20 rfl rfl)
theorem dX1_fitting_113 : decode cX1_fitting 113 = .ok (.putfield 325, 3) := dk_181 1 69 (dk_at dksX1_fitting_4 21 rfl rfl)
theorem dX1_fitting_116 : decode cX1_fitting 116 = .ok (.iconst 0, 1) := dk_3 (dk_at dksX1_fitting_5 0 rfl rfl)
theorem dX1_fitting_117 : decode cX1_fitting 117 = .ok (.istore 4, 2) := dk_54 4 (dk_at dksX1_fitting_5 1 rfl rfl)
theorem dX1_fitting_119 : decode cX1_fitting 119 = .ok (.iload 4, 2) := dk_21 4 (dk_at dksX1_fitting_5 3 rfl rfl)
theorem dX1_fitting_121 : decode cX1_fitting 121 = .ok (.aload_n 0, 1) := dk_42 (dk_at dksX1_fitting_5 5 rfl rfl)
theorem dX1_fitting_122 : decode cX1_fitting 122 = .ok (.getfield 86, 3) := dk_180 0 86 (dk_at dksX1_fitting_5 6 rfl rfl)
theorem dX1_fitting_125 : decode cX1_fitting 125 = .ok (.getfield 158, 3) := dk_180 0 158 (dk_at dksX1_fitting_5 9 rfl rfl)
theorem dX1_fitting_128 : decode cX1_fitting 128 = .ok (.if_icmp .ge 33, 3) := dk_162 0 33 (dk_at dksX1_fitting_5 12 rfl rfl)
theorem dX1_fitting_131 : decode cX1_fitting 131 = .ok (.aload_n 0, 1) := dk_42 (dk_at dksX1_fitting_5 15 rfl rfl)
theorem dX1_fitting_132 : decode cX1_fitting 132 = .ok (.getfield 30, 3) := dk_180 0 30 (dk_at dksX1_fitting_5 16 rfl rfl)
theorem dX1_fitting_135 : decode cX1_fitting 135 = .ok (.iload 4, 2) := dk_21 4 (dk_at dksX1_fitting_5 19 rfl rfl)
theorem dX1_fitting_137 : decode cX1_fitting 137 = .ok (.dup2, 1) := dk_92 (dk_at dksX1_fitting_5 21 rfl rfl)
theorem dX1_fitting_138 : decode cX1_fitting 138 = .ok (.iaload, 1) := dk_46 (dk_at dksX1_fitting_5 22 rfl rfl)
theorem dX1_fitting_139 : decode cX1_fitting 139 = .ok (.iload_n 3, 1) := dk_29 (dk_at dksX1_fitting_5 23 rfl rfl)
theorem dX1_fitting_140 : decode cX1_fitting 140 = .ok (.iload 4, 2) := dk_21 4 (dk_at dksX1_fitting_6 0 rfl rfl)
theorem dX1_fitting_142 : decode cX1_fitting 142 = .ok (.invokestatic 151, 3) := dk_184 0 151 (dk_at dksX1_fitting_6 2 rfl rfl)
theorem dX1_fitting_145 : decode cX1_fitting 145 = .ok (.ifCond .eq 7, 3) := dk_153 0 7 (dk_at dksX1_fitting_6 5 rfl rfl)
theorem dX1_fitting_148 : decode cX1_fitting 148 = .ok (.iconst 1, 1) := dk_4 (dk_at dksX1_fitting_6 8 rfl rfl)
theorem dX1_fitting_149 : decode cX1_fitting 149 = .ok (.goto 4, 3) := dk_167 0 4 (dk_at dksX1_fitting_6 9 rfl rfl)
theorem dX1_fitting_152 : decode cX1_fitting 152 = .ok (.iconst 0, 1) := dk_3 (dk_at dksX1_fitting_6 12 rfl rfl)
theorem dX1_fitting_153 : decode cX1_fitting 153 = .ok (.iadd, 1) := dk_96 (dk_at dksX1_fitting_6 13 rfl rfl)
theorem dX1_fitting_154 : decode cX1_fitting 154 = .ok (.iastore, 1) := dk_79 (dk_at dksX1_fitting_6 14 rfl rfl)
theorem dX1_fitting_155 : decode cX1_fitting 155 = .ok (.iinc 4 1, 3) := dk_132 4 1 (dk_at dksX1_fitting_6 15 rfl rfl)
theorem dX1_fitting_158 : decode cX1_fitting 158 = .ok (.goto (-39), 3) := dk_167 255 217 (dk_at dksX1_fitting_6 18 rfl rfl)
theorem dX1_fitting_161 : decode cX1_fitting 161 = .ok (.iinc 3 1, 3) := dk_132 3 1 (dk_at dksX1_fitting_6 21 rfl rfl)
theorem dX1_fitting_164 : decode cX1_fitting 164 = .ok (.goto (-114), 3) := dk_167 255 142 (dk_at dksX1_fitting_7 0 rfl rfl)
theorem dX1_fitting_167 : decode cX1_fitting 167 = .ok (.aload_n 0, 1) := dk_42 (dk_at dksX1_fitting_7 3 rfl rfl)
theorem dX1_fitting_168 : decode cX1_fitting 168 = .ok (.getfield 319, 3) := dk_180 1 63 (dk_at dksX1_fitting_7 4 rfl rfl)
theorem dX1_fitting_171 : decode cX1_fitting 171 = .ok (.ifCond .ne 8, 3) := dk_154 0 8 (dk_at dksX1_fitting_7 7 rfl rfl)
theorem dX1_fitting_174 : decode cX1_fitting 174 = .ok (.aload_n 0, 1) := dk_42 (dk_at dksX1_fitting_7 10 rfl rfl)
theorem dX1_fitting_175 : decode cX1_fitting 175 = .ok (.iconst 0, 1) := dk_3 (dk_at dksX1_fitting_7 11 rfl rfl)
theorem dX1_fitting_176 : decode cX1_fitting 176 = .ok (.putfield 325, 3) := dk_181 1 69 (dk_at dksX1_fitting_7 12 rfl rfl)
theorem dX1_fitting_179 : decode cX1_fitting 179 = .ok (.iload_n 2, 1) := dk_28 (dk_at dksX1_fitting_7 15 rfl rfl)
theorem dX1_fitting_180 : decode cX1_fitting 180 = .ok (.ireturn, 1) := dk_172 (dk_at dksX1_fitting_7 16 rfl rfl)
abbrev cX1_wrongEnd : ByteArray := prog_1_method_66_code
def yX1_wrongEnd : MethodName := ⟨RX1, "wrongEnd", "(I)I"⟩
def dkwX1_wrongEnd_3 : List UInt8 := [159, 0, 5, 29, 61, 132, 3, 255, 167, 255, 201, 42, 3, 181, 0, 164, 28, 172]
abbrev dktX1_wrongEnd_3 : List UInt8 := dkwX1_wrongEnd_3 ++ []
def dkwX1_wrongEnd_2 : List UInt8 := [180, 0, 106, 29, 182, 0, 237, 87, 42, 180, 0, 215, 42, 180, 0, 86, 29, 182, 0, 173, 180, 1, 60]
abbrev dktX1_wrongEnd_2 : List UInt8 := dkwX1_wrongEnd_2 ++ dktX1_wrongEnd_3
def dkwX1_wrongEnd_1 : List UInt8 := [155, 0, 57, 42, 180, 0, 86, 29, 182, 0, 173, 180, 1, 60, 2, 160, 0, 6, 167, 0, 33, 42, 42]
abbrev dktX1_wrongEnd_1 : List UInt8 := dkwX1_wrongEnd_1 ++ dktX1_wrongEnd_2
def dkwX1_wrongEnd_0 : List UInt8 := [42, 180, 0, 106, 182, 0, 99, 42, 27, 181, 0, 164, 16, 254, 61, 42, 182, 0, 136, 4, 100, 62, 29]
abbrev dktX1_wrongEnd_0 : List UInt8 := dkwX1_wrongEnd_0 ++ dktX1_wrongEnd_1
theorem dksX1_wrongEnd_0 : cX1_wrongEnd.data.toList.drop 0 = dktX1_wrongEnd_0 := by decide +kernel
theorem dksX1_wrongEnd_1 : cX1_wrongEnd.data.toList.drop 23 = dktX1_wrongEnd_1 := dk_seg dksX1_wrongEnd_0 23 rfl rfl
theorem dksX1_wrongEnd_2 : cX1_wrongEnd.data.toList.drop 46 = dktX1_wrongEnd_2 := dk_seg dksX1_wrongEnd_1 23 rfl rfl
theorem dksX1_wrongEnd_3 : cX1_wrongEnd.data.toList.drop 69 = dktX1_wrongEnd_3 := dk_seg dksX1_wrongEnd_2 23 rfl rfl
theorem dX1_wrongEnd_0 : decode cX1_wrongEnd 0 = .ok (.aload_n 0, 1) := dk_42 (dk_at dksX1_wrongEnd_0 0 rfl rfl)
theorem dX1_wrongEnd_1 : decode cX1_wrongEnd 1 = .ok (.getfield 106, 3) := dk_180 0 106 (dk_at dksX1_wrongEnd_0 1 rfl rfl)
theorem dX1_wrongEnd_4 : decode cX1_wrongEnd 4 = .ok (.invokevirtual 99, 3) := dk_182 0 99 (dk_at dksX1_wrongEnd_0 4 rfl rfl)
theorem dX1_wrongEnd_7 : decode cX1_wrongEnd 7 = .ok (.aload_n 0, 1) := dk_42 (dk_at dksX1_wrongEnd_0 7 rfl rfl)
theorem dX1_wrongEnd_8 : decode cX1_wrongEnd 8 = .ok (.iload_n 1, 1) := dk_27 (dk_at dksX1_wrongEnd_0 8 rfl rfl)
theorem dX1_wrongEnd_9 : decode cX1_wrongEnd 9 = .ok (.putfield 164, 3) := dk_181 0 164 (dk_at dksX1_wrongEnd_0 9 rfl rfl)
theorem dX1_wrongEnd_12 : decode cX1_wrongEnd 12 = .ok (.bipush (-2), 2) := dk_16 254 (dk_at dksX1_wrongEnd_0 12 rfl rfl)
theorem dX1_wrongEnd_14 : decode cX1_wrongEnd 14 = .ok (.istore_n 2, 1) := dk_61 (dk_at dksX1_wrongEnd_0 14 rfl rfl)
theorem dX1_wrongEnd_15 : decode cX1_wrongEnd 15 = .ok (.aload_n 0, 1) := dk_42 (dk_at dksX1_wrongEnd_0 15 rfl rfl)
theorem dX1_wrongEnd_16 : decode cX1_wrongEnd 16 = .ok (.invokevirtual 136, 3) := dk_182 0 136 (dk_at dksX1_wrongEnd_0 16 rfl rfl)
theorem dX1_wrongEnd_19 : decode cX1_wrongEnd 19 = .ok (.iconst 1, 1) := dk_4 (dk_at dksX1_wrongEnd_0 19 rfl rfl)
theorem dX1_wrongEnd_20 : decode cX1_wrongEnd 20 = .ok (.isub, 1) := dk_100 (dk_at dksX1_wrongEnd_0 20 rfl rfl)
theorem dX1_wrongEnd_21 : decode cX1_wrongEnd 21 = .ok (.istore_n 3, 1) := dk_62 (dk_at dksX1_wrongEnd_0 21 rfl rfl)
theorem dX1_wrongEnd_22 : decode cX1_wrongEnd 22 = .ok (.iload_n 3, 1) := dk_29 (dk_at dksX1_wrongEnd_0 22 rfl rfl)
theorem dX1_wrongEnd_23 : decode cX1_wrongEnd 23 = .ok (.ifCond .lt 57, 3) := dk_155 0 57 (dk_at dksX1_wrongEnd_1 0 rfl rfl)
theorem dX1_wrongEnd_26 : decode cX1_wrongEnd 26 = .ok (.aload_n 0, 1) := dk_42 (dk_at dksX1_wrongEnd_1 3 rfl rfl)
theorem dX1_wrongEnd_27 : decode cX1_wrongEnd 27 = .ok (.getfield 86, 3) := dk_180 0 86 (dk_at dksX1_wrongEnd_1 4 rfl rfl)
theorem dX1_wrongEnd_30 : decode cX1_wrongEnd 30 = .ok (.iload_n 3, 1) := dk_29 (dk_at dksX1_wrongEnd_1 7 rfl rfl)
theorem dX1_wrongEnd_31 : decode cX1_wrongEnd 31 = .ok (.invokevirtual 173, 3) := dk_182 0 173 (dk_at dksX1_wrongEnd_1 8 rfl rfl)
theorem dX1_wrongEnd_34 : decode cX1_wrongEnd 34 = .ok (.getfield 316, 3) := dk_180 1 60 (dk_at dksX1_wrongEnd_1 11 rfl rfl)
theorem dX1_wrongEnd_37 : decode cX1_wrongEnd 37 = .ok (.iconst (-1), 1) := dk_2 (dk_at dksX1_wrongEnd_1 14 rfl rfl)
theorem dX1_wrongEnd_38 : decode cX1_wrongEnd 38 = .ok (.if_icmp .ne 6, 3) := dk_160 0 6 (dk_at dksX1_wrongEnd_1 15 rfl rfl)
theorem dX1_wrongEnd_41 : decode cX1_wrongEnd 41 = .ok (.goto 33, 3) := dk_167 0 33 (dk_at dksX1_wrongEnd_1 18 rfl rfl)
theorem dX1_wrongEnd_44 : decode cX1_wrongEnd 44 = .ok (.aload_n 0, 1) := dk_42 (dk_at dksX1_wrongEnd_1 21 rfl rfl)
theorem dX1_wrongEnd_45 : decode cX1_wrongEnd 45 = .ok (.aload_n 0, 1) := dk_42 (dk_at dksX1_wrongEnd_1 22 rfl rfl)
theorem dX1_wrongEnd_46 : decode cX1_wrongEnd 46 = .ok (.getfield 106, 3) := dk_180 0 106 (dk_at dksX1_wrongEnd_2 0 rfl rfl)
theorem dX1_wrongEnd_49 : decode cX1_wrongEnd 49 = .ok (.iload_n 3, 1) := dk_29 (dk_at dksX1_wrongEnd_2 3 rfl rfl)
theorem dX1_wrongEnd_50 : decode cX1_wrongEnd 50 = .ok (.invokevirtual 237, 3) := dk_182 0 237 (dk_at dksX1_wrongEnd_2 4 rfl rfl)
theorem dX1_wrongEnd_53 : decode cX1_wrongEnd 53 = .ok (.pop, 1) := dk_87 (dk_at dksX1_wrongEnd_2 7 rfl rfl)
theorem dX1_wrongEnd_54 : decode cX1_wrongEnd 54 = .ok (.aload_n 0, 1) := dk_42 (dk_at dksX1_wrongEnd_2 8 rfl rfl)
theorem dX1_wrongEnd_55 : decode cX1_wrongEnd 55 = .ok (.getfield 215, 3) := dk_180 0 215 (dk_at dksX1_wrongEnd_2 9 rfl rfl)
theorem dX1_wrongEnd_58 : decode cX1_wrongEnd 58 = .ok (.aload_n 0, 1) := dk_42 (dk_at dksX1_wrongEnd_2 12 rfl rfl)
theorem dX1_wrongEnd_59 : decode cX1_wrongEnd 59 = .ok (.getfield 86, 3) := dk_180 0 86 (dk_at dksX1_wrongEnd_2 13 rfl rfl)
theorem dX1_wrongEnd_62 : decode cX1_wrongEnd 62 = .ok (.iload_n 3, 1) := dk_29 (dk_at dksX1_wrongEnd_2 16 rfl rfl)
theorem dX1_wrongEnd_63 : decode cX1_wrongEnd 63 = .ok (.invokevirtual 173, 3) := dk_182 0 173 (dk_at dksX1_wrongEnd_2 17 rfl rfl)
theorem dX1_wrongEnd_66 : decode cX1_wrongEnd 66 = .ok (.getfield 316, 3) := dk_180 1 60 (dk_at dksX1_wrongEnd_2 20 rfl rfl)
theorem dX1_wrongEnd_69 : decode cX1_wrongEnd 69 = .ok (.if_icmp .eq 5, 3) := dk_159 0 5 (dk_at dksX1_wrongEnd_3 0 rfl rfl)
theorem dX1_wrongEnd_72 : decode cX1_wrongEnd 72 = .ok (.iload_n 3, 1) := dk_29 (dk_at dksX1_wrongEnd_3 3 rfl rfl)
theorem dX1_wrongEnd_73 : decode cX1_wrongEnd 73 = .ok (.istore_n 2, 1) := dk_61 (dk_at dksX1_wrongEnd_3 4 rfl rfl)
theorem dX1_wrongEnd_74 : decode cX1_wrongEnd 74 = .ok (.iinc 3 (-1), 3) := dk_132 3 255 (dk_at dksX1_wrongEnd_3 5 rfl rfl)
theorem dX1_wrongEnd_77 : decode cX1_wrongEnd 77 = .ok (.goto (-55), 3) := dk_167 255 201 (dk_at dksX1_wrongEnd_3 8 rfl rfl)
theorem dX1_wrongEnd_80 : decode cX1_wrongEnd 80 = .ok (.aload_n 0, 1) := dk_42 (dk_at dksX1_wrongEnd_3 11 rfl rfl)
theorem dX1_wrongEnd_81 : decode cX1_wrongEnd 81 = .ok (.iconst 0, 1) := dk_3 (dk_at dksX1_wrongEnd_3 12 rfl rfl)
theorem dX1_wrongEnd_82 : decode cX1_wrongEnd 82 = .ok (.putfield 164, 3) := dk_181 0 164 (dk_at dksX1_wrongEnd_3 13 rfl rfl)
theorem dX1_wrongEnd_85 : decode cX1_wrongEnd 85 = .ok (.iload_n 2, 1) := dk_28 (dk_at dksX1_wrongEnd_3 16 rfl rfl)
theorem dX1_wrongEnd_86 : decode cX1_wrongEnd 86 = .ok (.ireturn, 1) := dk_172 (dk_at dksX1_wrongEnd_3 17 rfl rfl)
abbrev cX1_fitAt : ByteArray := prog_1_method_69_code
def yX1_fitAt : MethodName := ⟨RX1, "fitAt", "(I)I"⟩
def dkwX1_fitAt_1 : List UInt8 := [16, 254, 160, 0, 11, 42, 4, 182, 0, 47, 167, 0, 8, 42, 28, 182, 0, 51, 172]
abbrev dktX1_fitAt_1 : List UInt8 := dkwX1_fitAt_1 ++ []
def dkwX1_fitAt_0 : List UInt8 := [42, 180, 0, 86, 198, 0, 7, 27, 156, 0, 9, 42, 4, 182, 0, 47, 172, 42, 27, 182, 1, 75, 61, 28]
abbrev dktX1_fitAt_0 : List UInt8 := dkwX1_fitAt_0 ++ dktX1_fitAt_1
theorem dksX1_fitAt_0 : cX1_fitAt.data.toList.drop 0 = dktX1_fitAt_0 := by decide +kernel
theorem dksX1_fitAt_1 : cX1_fitAt.data.toList.drop 24 = dktX1_fitAt_1 := dk_seg dksX1_fitAt_0 24 rfl rfl
theorem dX1_fitAt_0 : decode cX1_fitAt 0 = .ok (.aload_n 0, 1) := dk_42 (dk_at dksX1_fitAt_0 0 rfl rfl)
theorem dX1_fitAt_1 : decode cX1_fitAt 1 = .ok (.getfield 86, 3) := dk_180 0 86 (dk_at dksX1_fitAt_0 1 rfl rfl)
theorem dX1_fitAt_4 : decode cX1_fitAt 4 = .ok (.ifnull 7, 3) := dk_198 0 7 (dk_at dksX1_fitAt_0 4 rfl rfl)
theorem dX1_fitAt_7 : decode cX1_fitAt 7 = .ok (.iload_n 1, 1) := dk_27 (dk_at dksX1_fitAt_0 7 rfl rfl)
theorem dX1_fitAt_8 : decode cX1_fitAt 8 = .ok (.ifCond .ge 9, 3) := dk_156 0 9 (dk_at dksX1_fitAt_0 8 rfl rfl)
theorem dX1_fitAt_11 : decode cX1_fitAt 11 = .ok (.aload_n 0, 1) := dk_42 (dk_at dksX1_fitAt_0 11 rfl rfl)
theorem dX1_fitAt_12 : decode cX1_fitAt 12 = .ok (.iconst 1, 1) := dk_4 (dk_at dksX1_fitAt_0 12 rfl rfl)
theorem dX1_fitAt_13 : decode cX1_fitAt 13 = .ok (.invokevirtual 47, 3) := dk_182 0 47 (dk_at dksX1_fitAt_0 13 rfl rfl)
theorem dX1_fitAt_16 : decode cX1_fitAt 16 = .ok (.ireturn, 1) := dk_172 (dk_at dksX1_fitAt_0 16 rfl rfl)
theorem dX1_fitAt_17 : decode cX1_fitAt 17 = .ok (.aload_n 0, 1) := dk_42 (dk_at dksX1_fitAt_0 17 rfl rfl)
theorem dX1_fitAt_18 : decode cX1_fitAt 18 = .ok (.iload_n 1, 1) := dk_27 (dk_at dksX1_fitAt_0 18 rfl rfl)
theorem dX1_fitAt_19 : decode cX1_fitAt 19 = .ok (.invokevirtual 331, 3) := dk_182 1 75 (dk_at dksX1_fitAt_0 19 rfl rfl)
theorem dX1_fitAt_22 : decode cX1_fitAt 22 = .ok (.istore_n 2, 1) := dk_61 (dk_at dksX1_fitAt_0 22 rfl rfl)
theorem dX1_fitAt_23 : decode cX1_fitAt 23 = .ok (.iload_n 2, 1) := dk_28 (dk_at dksX1_fitAt_0 23 rfl rfl)
theorem dX1_fitAt_24 : decode cX1_fitAt 24 = .ok (.bipush (-2), 2) := dk_16 254 (dk_at dksX1_fitAt_1 0 rfl rfl)
theorem dX1_fitAt_26 : decode cX1_fitAt 26 = .ok (.if_icmp .ne 11, 3) := dk_160 0 11 (dk_at dksX1_fitAt_1 2 rfl rfl)
theorem dX1_fitAt_29 : decode cX1_fitAt 29 = .ok (.aload_n 0, 1) := dk_42 (dk_at dksX1_fitAt_1 5 rfl rfl)
theorem dX1_fitAt_30 : decode cX1_fitAt 30 = .ok (.iconst 1, 1) := dk_4 (dk_at dksX1_fitAt_1 6 rfl rfl)
theorem dX1_fitAt_31 : decode cX1_fitAt 31 = .ok (.invokevirtual 47, 3) := dk_182 0 47 (dk_at dksX1_fitAt_1 7 rfl rfl)
theorem dX1_fitAt_34 : decode cX1_fitAt 34 = .ok (.goto 8, 3) := dk_167 0 8 (dk_at dksX1_fitAt_1 10 rfl rfl)
theorem dX1_fitAt_37 : decode cX1_fitAt 37 = .ok (.aload_n 0, 1) := dk_42 (dk_at dksX1_fitAt_1 13 rfl rfl)
theorem dX1_fitAt_38 : decode cX1_fitAt 38 = .ok (.iload_n 2, 1) := dk_28 (dk_at dksX1_fitAt_1 14 rfl rfl)
theorem dX1_fitAt_39 : decode cX1_fitAt 39 = .ok (.invokevirtual 51, 3) := dk_182 0 51 (dk_at dksX1_fitAt_1 15 rfl rfl)
theorem dX1_fitAt_42 : decode cX1_fitAt 42 = .ok (.ireturn, 1) := dk_172 (dk_at dksX1_fitAt_1 18 rfl rfl)
abbrev cX1_could : ByteArray := prog_1_method_70_code
def yX1_could : MethodName := ⟨RX1, "could", "()I"⟩
def dkwX1_could_1 : List UInt8 := [182, 0, 51, 172]
abbrev dktX1_could_1 : List UInt8 := dkwX1_could_1 ++ []
def dkwX1_could_0 : List UInt8 := [42, 180, 0, 86, 199, 0, 9, 42, 4, 182, 0, 47, 172, 42, 2, 182, 1, 75, 87, 42, 42, 180, 1, 66]
abbrev dktX1_could_0 : List UInt8 := dkwX1_could_0 ++ dktX1_could_1
theorem dksX1_could_0 : cX1_could.data.toList.drop 0 = dktX1_could_0 := by decide +kernel
theorem dksX1_could_1 : cX1_could.data.toList.drop 24 = dktX1_could_1 := dk_seg dksX1_could_0 24 rfl rfl
theorem dX1_could_0 : decode cX1_could 0 = .ok (.aload_n 0, 1) := dk_42 (dk_at dksX1_could_0 0 rfl rfl)
theorem dX1_could_1 : decode cX1_could 1 = .ok (.getfield 86, 3) := dk_180 0 86 (dk_at dksX1_could_0 1 rfl rfl)
theorem dX1_could_4 : decode cX1_could 4 = .ok (.ifnonnull 9, 3) := dk_199 0 9 (dk_at dksX1_could_0 4 rfl rfl)
theorem dX1_could_7 : decode cX1_could 7 = .ok (.aload_n 0, 1) := dk_42 (dk_at dksX1_could_0 7 rfl rfl)
theorem dX1_could_8 : decode cX1_could 8 = .ok (.iconst 1, 1) := dk_4 (dk_at dksX1_could_0 8 rfl rfl)
theorem dX1_could_9 : decode cX1_could 9 = .ok (.invokevirtual 47, 3) := dk_182 0 47 (dk_at dksX1_could_0 9 rfl rfl)
theorem dX1_could_12 : decode cX1_could 12 = .ok (.ireturn, 1) := dk_172 (dk_at dksX1_could_0 12 rfl rfl)
theorem dX1_could_13 : decode cX1_could 13 = .ok (.aload_n 0, 1) := dk_42 (dk_at dksX1_could_0 13 rfl rfl)
theorem dX1_could_14 : decode cX1_could 14 = .ok (.iconst (-1), 1) := dk_2 (dk_at dksX1_could_0 14 rfl rfl)
theorem dX1_could_15 : decode cX1_could 15 = .ok (.invokevirtual 331, 3) := dk_182 1 75 (dk_at dksX1_could_0 15 rfl rfl)
theorem dX1_could_18 : decode cX1_could 18 = .ok (.pop, 1) := dk_87 (dk_at dksX1_could_0 18 rfl rfl)
theorem dX1_could_19 : decode cX1_could 19 = .ok (.aload_n 0, 1) := dk_42 (dk_at dksX1_could_0 19 rfl rfl)
theorem dX1_could_20 : decode cX1_could 20 = .ok (.aload_n 0, 1) := dk_42 (dk_at dksX1_could_0 20 rfl rfl)
theorem dX1_could_21 : decode cX1_could 21 = .ok (.getfield 322, 3) := dk_180 1 66 (dk_at dksX1_could_0 21 rfl rfl)
theorem dX1_could_24 : decode cX1_could 24 = .ok (.invokevirtual 51, 3) := dk_182 0 51 (dk_at dksX1_could_1 0 rfl rfl)
theorem dX1_could_27 : decode cX1_could 27 = .ok (.ireturn, 1) := dk_172 (dk_at dksX1_could_1 3 rfl rfl)
abbrev cX1_surely : ByteArray := prog_1_method_71_code
def yX1_surely : MethodName := ⟨RX1, "surely", "()I"⟩
def dkwX1_surely_1 : List UInt8 := [182, 0, 51, 172]
abbrev dktX1_surely_1 : List UInt8 := dkwX1_surely_1 ++ []
def dkwX1_surely_0 : List UInt8 := [42, 180, 0, 86, 199, 0, 9, 42, 4, 182, 0, 47, 172, 42, 2, 182, 1, 75, 87, 42, 42, 180, 1, 69]
abbrev dktX1_surely_0 : List UInt8 := dkwX1_surely_0 ++ dktX1_surely_1
theorem dksX1_surely_0 : cX1_surely.data.toList.drop 0 = dktX1_surely_0 := by decide +kernel
theorem dksX1_surely_1 : cX1_surely.data.toList.drop 24 = dktX1_surely_1 := dk_seg dksX1_surely_0 24 rfl rfl
theorem dX1_surely_0 : decode cX1_surely 0 = .ok (.aload_n 0, 1) := dk_42 (dk_at dksX1_surely_0 0 rfl rfl)
theorem dX1_surely_1 : decode cX1_surely 1 = .ok (.getfield 86, 3) := dk_180 0 86 (dk_at dksX1_surely_0 1 rfl rfl)
theorem dX1_surely_4 : decode cX1_surely 4 = .ok (.ifnonnull 9, 3) := dk_199 0 9 (dk_at dksX1_surely_0 4 rfl rfl)
theorem dX1_surely_7 : decode cX1_surely 7 = .ok (.aload_n 0, 1) := dk_42 (dk_at dksX1_surely_0 7 rfl rfl)
theorem dX1_surely_8 : decode cX1_surely 8 = .ok (.iconst 1, 1) := dk_4 (dk_at dksX1_surely_0 8 rfl rfl)
theorem dX1_surely_9 : decode cX1_surely 9 = .ok (.invokevirtual 47, 3) := dk_182 0 47 (dk_at dksX1_surely_0 9 rfl rfl)
theorem dX1_surely_12 : decode cX1_surely 12 = .ok (.ireturn, 1) := dk_172 (dk_at dksX1_surely_0 12 rfl rfl)
theorem dX1_surely_13 : decode cX1_surely 13 = .ok (.aload_n 0, 1) := dk_42 (dk_at dksX1_surely_0 13 rfl rfl)
theorem dX1_surely_14 : decode cX1_surely 14 = .ok (.iconst (-1), 1) := dk_2 (dk_at dksX1_surely_0 14 rfl rfl)
theorem dX1_surely_15 : decode cX1_surely 15 = .ok (.invokevirtual 331, 3) := dk_182 1 75 (dk_at dksX1_surely_0 15 rfl rfl)
theorem dX1_surely_18 : decode cX1_surely 18 = .ok (.pop, 1) := dk_87 (dk_at dksX1_surely_0 18 rfl rfl)
theorem dX1_surely_19 : decode cX1_surely 19 = .ok (.aload_n 0, 1) := dk_42 (dk_at dksX1_surely_0 19 rfl rfl)
theorem dX1_surely_20 : decode cX1_surely 20 = .ok (.aload_n 0, 1) := dk_42 (dk_at dksX1_surely_0 20 rfl rfl)
theorem dX1_surely_21 : decode cX1_surely 21 = .ok (.getfield 325, 3) := dk_180 1 69 (dk_at dksX1_surely_0 21 rfl rfl)
theorem dX1_surely_24 : decode cX1_surely 24 = .ok (.invokevirtual 51, 3) := dk_182 0 51 (dk_at dksX1_surely_1 0 rfl rfl)
theorem dX1_surely_27 : decode cX1_surely 27 = .ok (.ireturn, 1) := dk_172 (dk_at dksX1_surely_1 3 rfl rfl)
abbrev cX1_ask : ByteArray := prog_1_method_73_code
def yX1_ask : MethodName := ⟨RX1, "ask", "()I"⟩
def dkwX1_ask_0 : List UInt8 := [42, 180, 0, 86, 199, 0, 11, 42, 4, 182, 0, 47, 167, 0, 11, 42, 42, 182, 1, 84, 182, 0, 51, 172]
abbrev dktX1_ask_0 : List UInt8 := dkwX1_ask_0 ++ []
theorem dksX1_ask_0 : cX1_ask.data.toList.drop 0 = dktX1_ask_0 := by decide +kernel
theorem dX1_ask_0 : decode cX1_ask 0 = .ok (.aload_n 0, 1) := dk_42 (dk_at dksX1_ask_0 0 rfl rfl)
theorem dX1_ask_1 : decode cX1_ask 1 = .ok (.getfield 86, 3) := dk_180 0 86 (dk_at dksX1_ask_0 1 rfl rfl)
theorem dX1_ask_4 : decode cX1_ask 4 = .ok (.ifnonnull 11, 3) := dk_199 0 11 (dk_at dksX1_ask_0 4 rfl rfl)
theorem dX1_ask_7 : decode cX1_ask 7 = .ok (.aload_n 0, 1) := dk_42 (dk_at dksX1_ask_0 7 rfl rfl)
theorem dX1_ask_8 : decode cX1_ask 8 = .ok (.iconst 1, 1) := dk_4 (dk_at dksX1_ask_0 8 rfl rfl)
theorem dX1_ask_9 : decode cX1_ask 9 = .ok (.invokevirtual 47, 3) := dk_182 0 47 (dk_at dksX1_ask_0 9 rfl rfl)
theorem dX1_ask_12 : decode cX1_ask 12 = .ok (.goto 11, 3) := dk_167 0 11 (dk_at dksX1_ask_0 12 rfl rfl)
theorem dX1_ask_15 : decode cX1_ask 15 = .ok (.aload_n 0, 1) := dk_42 (dk_at dksX1_ask_0 15 rfl rfl)
theorem dX1_ask_16 : decode cX1_ask 16 = .ok (.aload_n 0, 1) := dk_42 (dk_at dksX1_ask_0 16 rfl rfl)
theorem dX1_ask_17 : decode cX1_ask 17 = .ok (.invokevirtual 340, 3) := dk_182 1 84 (dk_at dksX1_ask_0 17 rfl rfl)
theorem dX1_ask_20 : decode cX1_ask 20 = .ok (.invokevirtual 51, 3) := dk_182 0 51 (dk_at dksX1_ask_0 20 rfl rfl)
theorem dX1_ask_23 : decode cX1_ask 23 = .ok (.ireturn, 1) := dk_172 (dk_at dksX1_ask_0 23 rfl rfl)
abbrev cX1_asks : ByteArray := prog_1_method_72_code
def yX1_asks : MethodName := ⟨RX1, "asks", "()I"⟩
def dkwX1_asks_3 : List UInt8 := [167, 0, 10, 28, 60, 42, 29, 181, 1, 78, 132, 2, 1, 167, 255, 190, 27, 172]
abbrev dktX1_asks_3 : List UInt8 := dkwX1_asks_3 ++ []
def dkwX1_asks_2 : List UInt8 := [180, 0, 30, 28, 46, 100, 184, 1, 81, 62, 27, 16, 254, 159, 0, 14, 29, 42, 180, 1, 78, 161, 0, 6]
abbrev dktX1_asks_2 : List UInt8 := dkwX1_asks_2 ++ dktX1_asks_3
def dkwX1_asks_1 : List UInt8 := [180, 0, 158, 162, 0, 61, 42, 180, 1, 63, 158, 0, 54, 42, 180, 0, 30, 28, 46, 42, 180, 1, 63, 42]
abbrev dktX1_asks_1 : List UInt8 := dkwX1_asks_1 ++ dktX1_asks_2
def dkwX1_asks_0 : List UInt8 := [42, 2, 182, 1, 75, 87, 16, 254, 60, 42, 16, 254, 181, 1, 78, 3, 61, 28, 42, 180, 0, 86]
abbrev dktX1_asks_0 : List UInt8 := dkwX1_asks_0 ++ dktX1_asks_1
theorem dksX1_asks_0 : cX1_asks.data.toList.drop 0 = dktX1_asks_0 := by decide +kernel
theorem dksX1_asks_1 : cX1_asks.data.toList.drop 22 = dktX1_asks_1 := dk_seg dksX1_asks_0 22 rfl rfl
theorem dksX1_asks_2 : cX1_asks.data.toList.drop 46 = dktX1_asks_2 := dk_seg dksX1_asks_1 24 rfl rfl
theorem dksX1_asks_3 : cX1_asks.data.toList.drop 70 = dktX1_asks_3 := dk_seg dksX1_asks_2 24 rfl rfl
theorem dX1_asks_0 : decode cX1_asks 0 = .ok (.aload_n 0, 1) := dk_42 (dk_at dksX1_asks_0 0 rfl rfl)
theorem dX1_asks_1 : decode cX1_asks 1 = .ok (.iconst (-1), 1) := dk_2 (dk_at dksX1_asks_0 1 rfl rfl)
theorem dX1_asks_2 : decode cX1_asks 2 = .ok (.invokevirtual 331, 3) := dk_182 1 75 (dk_at dksX1_asks_0 2 rfl rfl)
theorem dX1_asks_5 : decode cX1_asks 5 = .ok (.pop, 1) := dk_87 (dk_at dksX1_asks_0 5 rfl rfl)
theorem dX1_asks_6 : decode cX1_asks 6 = .ok (.bipush (-2), 2) := dk_16 254 (dk_at dksX1_asks_0 6 rfl rfl)
theorem dX1_asks_8 : decode cX1_asks 8 = .ok (.istore_n 1, 1) := dk_60 (dk_at dksX1_asks_0 8 rfl rfl)
theorem dX1_asks_9 : decode cX1_asks 9 = .ok (.aload_n 0, 1) := dk_42 (dk_at dksX1_asks_0 9 rfl rfl)
theorem dX1_asks_10 : decode cX1_asks 10 = .ok (.bipush (-2), 2) := dk_16 254 (dk_at dksX1_asks_0 10 rfl rfl)
theorem dX1_asks_12 : decode cX1_asks 12 = .ok (.putfield 334, 3) := dk_181 1 78 (dk_at dksX1_asks_0 12 rfl rfl)
theorem dX1_asks_15 : decode cX1_asks 15 = .ok (.iconst 0, 1) := dk_3 (dk_at dksX1_asks_0 15 rfl rfl)
theorem dX1_asks_16 : decode cX1_asks 16 = .ok (.istore_n 2, 1) := dk_61 (dk_at dksX1_asks_0 16 rfl rfl)
theorem dX1_asks_17 : decode cX1_asks 17 = .ok (.iload_n 2, 1) := dk_28 (dk_at dksX1_asks_0 17 rfl rfl)
theorem dX1_asks_18 : decode cX1_asks 18 = .ok (.aload_n 0, 1) := dk_42 (dk_at dksX1_asks_0 18 rfl rfl)
theorem dX1_asks_19 : decode cX1_asks 19 = .ok (.getfield 86, 3) := dk_180 0 86 (dk_at dksX1_asks_0 19 rfl rfl)
theorem dX1_asks_22 : decode cX1_asks 22 = .ok (.getfield 158, 3) := dk_180 0 158 (dk_at dksX1_asks_1 0 rfl rfl)
theorem dX1_asks_25 : decode cX1_asks 25 = .ok (.if_icmp .ge 61, 3) := dk_162 0 61 (dk_at dksX1_asks_1 3 rfl rfl)
theorem dX1_asks_28 : decode cX1_asks 28 = .ok (.aload_n 0, 1) := dk_42 (dk_at dksX1_asks_1 6 rfl rfl)
theorem dX1_asks_29 : decode cX1_asks 29 = .ok (.getfield 319, 3) := dk_180 1 63 (dk_at dksX1_asks_1 7 rfl rfl)
theorem dX1_asks_32 : decode cX1_asks 32 = .ok (.ifCond .le 54, 3) := dk_158 0 54 (dk_at dksX1_asks_1 10 rfl rfl)
theorem dX1_asks_35 : decode cX1_asks 35 = .ok (.aload_n 0, 1) := dk_42 (dk_at dksX1_asks_1 13 rfl rfl)
theorem dX1_asks_36 : decode cX1_asks 36 = .ok (.getfield 30, 3) := dk_180 0 30 (dk_at dksX1_asks_1 14 rfl rfl)
theorem dX1_asks_39 : decode cX1_asks 39 = .ok (.iload_n 2, 1) := dk_28 (dk_at dksX1_asks_1 17 rfl rfl)
theorem dX1_asks_40 : decode cX1_asks 40 = .ok (.iaload, 1) := dk_46 (dk_at dksX1_asks_1 18 rfl rfl)
theorem dX1_asks_41 : decode cX1_asks 41 = .ok (.aload_n 0, 1) := dk_42 (dk_at dksX1_asks_1 19 rfl rfl)
theorem dX1_asks_42 : decode cX1_asks 42 = .ok (.getfield 319, 3) := dk_180 1 63 (dk_at dksX1_asks_1 20 rfl rfl)
theorem dX1_asks_45 : decode cX1_asks 45 = .ok (.aload_n 0, 1) := dk_42 (dk_at dksX1_asks_1 23 rfl rfl)
theorem dX1_asks_46 : decode cX1_asks 46 = .ok (.getfield 30, 3) := dk_180 0 30 (dk_at dksX1_asks_2 0 rfl rfl)
theorem dX1_asks_49 : decode cX1_asks 49 = .ok (.iload_n 2, 1) := dk_28 (dk_at dksX1_asks_2 3 rfl rfl)
theorem dX1_asks_50 : decode cX1_asks 50 = .ok (.iaload, 1) := dk_46 (dk_at dksX1_asks_2 4 rfl rfl)
theorem dX1_asks_51 : decode cX1_asks 51 = .ok (.isub, 1) := dk_100 (dk_at dksX1_asks_2 5 rfl rfl)
theorem dX1_asks_52 : decode cX1_asks 52 = .ok (.invokestatic 337, 3) := dk_184 1 81 (dk_at dksX1_asks_2 6 rfl rfl)
theorem dX1_asks_55 : decode cX1_asks 55 = .ok (.istore_n 3, 1) := dk_62 (dk_at dksX1_asks_2 9 rfl rfl)
theorem dX1_asks_56 : decode cX1_asks 56 = .ok (.iload_n 1, 1) := dk_27 (dk_at dksX1_asks_2 10 rfl rfl)
theorem dX1_asks_57 : decode cX1_asks 57 = .ok (.bipush (-2), 2) := dk_16 254 (dk_at dksX1_asks_2 11 rfl rfl)
theorem dX1_asks_59 : decode cX1_asks 59 = .ok (.if_icmp .eq 14, 3) := dk_159 0 14 (dk_at dksX1_asks_2 13 rfl rfl)
theorem dX1_asks_62 : decode cX1_asks 62 = .ok (.iload_n 3, 1) := dk_29 (dk_at dksX1_asks_2 16 rfl rfl)
theorem dX1_asks_63 : decode cX1_asks 63 = .ok (.aload_n 0, 1) := dk_42 (dk_at dksX1_asks_2 17 rfl rfl)
theorem dX1_asks_64 : decode cX1_asks 64 = .ok (.getfield 334, 3) := dk_180 1 78 (dk_at dksX1_asks_2 18 rfl rfl)
theorem dX1_asks_67 : decode cX1_asks 67 = .ok (.if_icmp .lt 6, 3) := dk_161 0 6 (dk_at dksX1_asks_2 21 rfl rfl)
theorem dX1_asks_70 : decode cX1_asks 70 = .ok (.goto 10, 3) := dk_167 0 10 (dk_at dksX1_asks_3 0 rfl rfl)
theorem dX1_asks_73 : decode cX1_asks 73 = .ok (.iload_n 2, 1) := dk_28 (dk_at dksX1_asks_3 3 rfl rfl)
theorem dX1_asks_74 : decode cX1_asks 74 = .ok (.istore_n 1, 1) := dk_60 (dk_at dksX1_asks_3 4 rfl rfl)
theorem dX1_asks_75 : decode cX1_asks 75 = .ok (.aload_n 0, 1) := dk_42 (dk_at dksX1_asks_3 5 rfl rfl)
theorem dX1_asks_76 : decode cX1_asks 76 = .ok (.iload_n 3, 1) := dk_29 (dk_at dksX1_asks_3 6 rfl rfl)
theorem dX1_asks_77 : decode cX1_asks 77 = .ok (.putfield 334, 3) := dk_181 1 78 (dk_at dksX1_asks_3 7 rfl rfl)
theorem dX1_asks_80 : decode cX1_asks 80 = .ok (.iinc 2 1, 3) := dk_132 2 1 (dk_at dksX1_asks_3 10 rfl rfl)
theorem dX1_asks_83 : decode cX1_asks 83 = .ok (.goto (-66), 3) := dk_167 255 190 (dk_at dksX1_asks_3 13 rfl rfl)
theorem dX1_asks_86 : decode cX1_asks 86 = .ok (.iload_n 1, 1) := dk_27 (dk_at dksX1_asks_3 16 rfl rfl)
theorem dX1_asks_87 : decode cX1_asks 87 = .ok (.ireturn, 1) := dk_172 (dk_at dksX1_asks_3 17 rfl rfl)
abbrev cX1_askLeaves : ByteArray := prog_1_method_74_code
def yX1_askLeaves : MethodName := ⟨RX1, "askLeaves", "()I"⟩
def dkwX1_askLeaves_1 : List UInt8 := [182, 0, 51, 172]
abbrev dktX1_askLeaves_1 : List UInt8 := dkwX1_askLeaves_1 ++ []
def dkwX1_askLeaves_0 : List UInt8 := [42, 180, 0, 86, 199, 0, 9, 42, 4, 182, 0, 47, 172, 42, 182, 1, 84, 87, 42, 42, 180, 1, 78]
abbrev dktX1_askLeaves_0 : List UInt8 := dkwX1_askLeaves_0 ++ dktX1_askLeaves_1
theorem dksX1_askLeaves_0 : cX1_askLeaves.data.toList.drop 0 = dktX1_askLeaves_0 := by decide +kernel
theorem dksX1_askLeaves_1 : cX1_askLeaves.data.toList.drop 23 = dktX1_askLeaves_1 := dk_seg dksX1_askLeaves_0 23 rfl rfl
theorem dX1_askLeaves_0 : decode cX1_askLeaves 0 = .ok (.aload_n 0, 1) := dk_42 (dk_at dksX1_askLeaves_0 0 rfl rfl)
theorem dX1_askLeaves_1 : decode cX1_askLeaves 1 = .ok (.getfield 86, 3) := dk_180 0 86 (dk_at dksX1_askLeaves_0 1 rfl rfl)
theorem dX1_askLeaves_4 : decode cX1_askLeaves 4 = .ok (.ifnonnull 9, 3) := dk_199 0 9 (dk_at dksX1_askLeaves_0 4 rfl rfl)
theorem dX1_askLeaves_7 : decode cX1_askLeaves 7 = .ok (.aload_n 0, 1) := dk_42 (dk_at dksX1_askLeaves_0 7 rfl rfl)
theorem dX1_askLeaves_8 : decode cX1_askLeaves 8 = .ok (.iconst 1, 1) := dk_4 (dk_at dksX1_askLeaves_0 8 rfl rfl)
theorem dX1_askLeaves_9 : decode cX1_askLeaves 9 = .ok (.invokevirtual 47, 3) := dk_182 0 47 (dk_at dksX1_askLeaves_0 9 rfl rfl)
theorem dX1_askLeaves_12 : decode cX1_askLeaves 12 = .ok (.ireturn, 1) := dk_172 (dk_at dksX1_askLeaves_0 12 rfl rfl)
theorem dX1_askLeaves_13 : decode cX1_askLeaves 13 = .ok (.aload_n 0, 1) := dk_42 (dk_at dksX1_askLeaves_0 13 rfl rfl)
theorem dX1_askLeaves_14 : decode cX1_askLeaves 14 = .ok (.invokevirtual 340, 3) := dk_182 1 84 (dk_at dksX1_askLeaves_0 14 rfl rfl)
theorem dX1_askLeaves_17 : decode cX1_askLeaves 17 = .ok (.pop, 1) := dk_87 (dk_at dksX1_askLeaves_0 17 rfl rfl)
theorem dX1_askLeaves_18 : decode cX1_askLeaves 18 = .ok (.aload_n 0, 1) := dk_42 (dk_at dksX1_askLeaves_0 18 rfl rfl)
theorem dX1_askLeaves_19 : decode cX1_askLeaves 19 = .ok (.aload_n 0, 1) := dk_42 (dk_at dksX1_askLeaves_0 19 rfl rfl)
theorem dX1_askLeaves_20 : decode cX1_askLeaves 20 = .ok (.getfield 334, 3) := dk_180 1 78 (dk_at dksX1_askLeaves_0 20 rfl rfl)
theorem dX1_askLeaves_23 : decode cX1_askLeaves 23 = .ok (.invokevirtual 51, 3) := dk_182 0 51 (dk_at dksX1_askLeaves_1 0 rfl rfl)
theorem dX1_askLeaves_26 : decode cX1_askLeaves 26 = .ok (.ireturn, 1) := dk_172 (dk_at dksX1_askLeaves_1 3 rfl rfl)
abbrev cX1_judge : ByteArray := prog_1_method_75_code
def yX1_judge : MethodName := ⟨RX1, "judge", "()I"⟩
def dkwX1_judge_1 : List UInt8 := [172]
abbrev dktX1_judge_1 : List UInt8 := dkwX1_judge_1 ++ []
def dkwX1_judge_0 : List UInt8 := [42, 180, 0, 86, 199, 0, 11, 42, 4, 182, 0, 47, 167, 0, 12, 42, 42, 3, 182, 1, 72, 182, 0, 51]
abbrev dktX1_judge_0 : List UInt8 := dkwX1_judge_0 ++ dktX1_judge_1
theorem dksX1_judge_0 : cX1_judge.data.toList.drop 0 = dktX1_judge_0 := by decide +kernel
theorem dksX1_judge_1 : cX1_judge.data.toList.drop 24 = dktX1_judge_1 := dk_seg dksX1_judge_0 24 rfl rfl
theorem dX1_judge_0 : decode cX1_judge 0 = .ok (.aload_n 0, 1) := dk_42 (dk_at dksX1_judge_0 0 rfl rfl)
theorem dX1_judge_1 : decode cX1_judge 1 = .ok (.getfield 86, 3) := dk_180 0 86 (dk_at dksX1_judge_0 1 rfl rfl)
theorem dX1_judge_4 : decode cX1_judge 4 = .ok (.ifnonnull 11, 3) := dk_199 0 11 (dk_at dksX1_judge_0 4 rfl rfl)
theorem dX1_judge_7 : decode cX1_judge 7 = .ok (.aload_n 0, 1) := dk_42 (dk_at dksX1_judge_0 7 rfl rfl)
theorem dX1_judge_8 : decode cX1_judge 8 = .ok (.iconst 1, 1) := dk_4 (dk_at dksX1_judge_0 8 rfl rfl)
theorem dX1_judge_9 : decode cX1_judge 9 = .ok (.invokevirtual 47, 3) := dk_182 0 47 (dk_at dksX1_judge_0 9 rfl rfl)
theorem dX1_judge_12 : decode cX1_judge 12 = .ok (.goto 12, 3) := dk_167 0 12 (dk_at dksX1_judge_0 12 rfl rfl)
theorem dX1_judge_15 : decode cX1_judge 15 = .ok (.aload_n 0, 1) := dk_42 (dk_at dksX1_judge_0 15 rfl rfl)
theorem dX1_judge_16 : decode cX1_judge 16 = .ok (.aload_n 0, 1) := dk_42 (dk_at dksX1_judge_0 16 rfl rfl)
theorem dX1_judge_17 : decode cX1_judge 17 = .ok (.iconst 0, 1) := dk_3 (dk_at dksX1_judge_0 17 rfl rfl)
theorem dX1_judge_18 : decode cX1_judge 18 = .ok (.invokevirtual 328, 3) := dk_182 1 72 (dk_at dksX1_judge_0 18 rfl rfl)
theorem dX1_judge_21 : decode cX1_judge 21 = .ok (.invokevirtual 51, 3) := dk_182 0 51 (dk_at dksX1_judge_0 21 rfl rfl)
theorem dX1_judge_24 : decode cX1_judge 24 = .ok (.ireturn, 1) := dk_172 (dk_at dksX1_judge_1 0 rfl rfl)
abbrev cX1_swings : ByteArray := prog_1_method_77_code
def yX1_swings : MethodName := ⟨RX1, "swings", "(IIIZ)J"⟩
def dkwX1_swings_6 : List UInt8 := [132, 9, 1, 167, 255, 200, 42, 21, 8, 133, 10, 21, 7, 184, 1, 39, 121, 21, 4, 182, 1, 91, 173]
abbrev dktX1_swings_6 : List UInt8 := dkwX1_swings_6 ++ []
def dkwX1_swings_5 : List UInt8 := [21, 9, 4, 27, 120, 128, 182, 0, 218, 16, 6, 161, 0, 7, 4, 167, 0, 4, 3, 96, 54, 8]
abbrev dktX1_swings_5 : List UInt8 := dkwX1_swings_5 ++ dktX1_swings_6
def dkwX1_swings_4 : List UInt8 := [21, 8, 21, 9, 21, 7, 2, 130, 126, 154, 0, 33, 42, 21, 9, 182, 0, 218, 16, 6, 162, 0, 22, 42]
abbrev dktX1_swings_4 : List UInt8 := dkwX1_swings_4 ++ dktX1_swings_5
def dkwX1_swings_3 : List UInt8 := [21, 6, 4, 27, 120, 2, 130, 126, 54, 7, 3, 54, 8, 3, 54, 9, 21, 9, 21, 7, 163, 0, 55]
abbrev dktX1_swings_3 : List UInt8 := dkwX1_swings_3 ++ dktX1_swings_4
def dkwX1_swings_2 : List UInt8 := [182, 0, 200, 54, 6, 21, 6, 27, 184, 0, 151, 154, 0, 12, 42, 9, 10, 21, 4, 182, 1, 91, 173]
abbrev dktX1_swings_2 : List UInt8 := dkwX1_swings_2 ++ dktX1_swings_3
def dkwX1_swings_1 : List UInt8 := [182, 1, 87, 54, 5, 21, 5, 158, 0, 11, 42, 21, 5, 182, 0, 47, 133, 173, 42, 180, 0, 95, 28, 29]
abbrev dktX1_swings_1 : List UInt8 := dkwX1_swings_1 ++ dktX1_swings_2
def dkwX1_swings_0 : List UInt8 := [42, 42, 27, 182, 0, 241, 153, 0, 15, 42, 28, 182, 1, 27, 153, 0, 7, 4, 167, 0, 4, 3, 29]
abbrev dktX1_swings_0 : List UInt8 := dkwX1_swings_0 ++ dktX1_swings_1
theorem dksX1_swings_0 : cX1_swings.data.toList.drop 0 = dktX1_swings_0 := by decide +kernel
theorem dksX1_swings_1 : cX1_swings.data.toList.drop 23 = dktX1_swings_1 := dk_seg dksX1_swings_0 23 rfl rfl
theorem dksX1_swings_2 : cX1_swings.data.toList.drop 47 = dktX1_swings_2 := dk_seg dksX1_swings_1 24 rfl rfl
theorem dksX1_swings_3 : cX1_swings.data.toList.drop 70 = dktX1_swings_3 := dk_seg dksX1_swings_2 23 rfl rfl
theorem dksX1_swings_4 : cX1_swings.data.toList.drop 93 = dktX1_swings_4 := dk_seg dksX1_swings_3 23 rfl rfl
theorem dksX1_swings_5 : cX1_swings.data.toList.drop 117 = dktX1_swings_5 := dk_seg dksX1_swings_4 24 rfl rfl
theorem dksX1_swings_6 : cX1_swings.data.toList.drop 139 = dktX1_swings_6 := dk_seg dksX1_swings_5 22 rfl rfl
theorem dX1_swings_0 : decode cX1_swings 0 = .ok (.aload_n 0, 1) := dk_42 (dk_at dksX1_swings_0 0 rfl rfl)
theorem dX1_swings_1 : decode cX1_swings 1 = .ok (.aload_n 0, 1) := dk_42 (dk_at dksX1_swings_0 1 rfl rfl)
theorem dX1_swings_2 : decode cX1_swings 2 = .ok (.iload_n 1, 1) := dk_27 (dk_at dksX1_swings_0 2 rfl rfl)
theorem dX1_swings_3 : decode cX1_swings 3 = .ok (.invokevirtual 241, 3) := dk_182 0 241 (dk_at dksX1_swings_0 3 rfl rfl)
theorem dX1_swings_6 : decode cX1_swings 6 = .ok (.ifCond .eq 15, 3) := dk_153 0 15 (dk_at dksX1_swings_0 6 rfl rfl)
theorem dX1_swings_9 : decode cX1_swings 9 = .ok (.aload_n 0, 1) := dk_42 (dk_at dksX1_swings_0 9 rfl rfl)
theorem dX1_swings_10 : decode cX1_swings 10 = .ok (.iload_n 2, 1) := dk_28 (dk_at dksX1_swings_0 10 rfl rfl)
theorem dX1_swings_11 : decode cX1_swings 11 = .ok (.invokevirtual 283, 3) := dk_182 1 27 (dk_at dksX1_swings_0 11 rfl rfl)
theorem dX1_swings_14 : decode cX1_swings 14 = .ok (.ifCond .eq 7, 3) := dk_153 0 7 (dk_at dksX1_swings_0 14 rfl rfl)
theorem dX1_swings_17 : decode cX1_swings 17 = .ok (.iconst 1, 1) := dk_4 (dk_at dksX1_swings_0 17 rfl rfl)
theorem dX1_swings_18 : decode cX1_swings 18 = .ok (.goto 4, 3) := dk_167 0 4 (dk_at dksX1_swings_0 18 rfl rfl)
theorem dX1_swings_21 : decode cX1_swings 21 = .ok (.iconst 0, 1) := dk_3 (dk_at dksX1_swings_0 21 rfl rfl)
theorem dX1_swings_22 : decode cX1_swings 22 = .ok (.iload_n 3, 1) := dk_29 (dk_at dksX1_swings_0 22 rfl rfl)
theorem dX1_swings_23 : decode cX1_swings 23 = .ok (.invokevirtual 343, 3) := dk_182 1 87 (dk_at dksX1_swings_1 0 rfl rfl)
theorem dX1_swings_26 : decode cX1_swings 26 = .ok (.istore 5, 2) := dk_54 5 (dk_at dksX1_swings_1 3 rfl rfl)
theorem dX1_swings_28 : decode cX1_swings 28 = .ok (.iload 5, 2) := dk_21 5 (dk_at dksX1_swings_1 5 rfl rfl)
theorem dX1_swings_30 : decode cX1_swings 30 = .ok (.ifCond .le 11, 3) := dk_158 0 11 (dk_at dksX1_swings_1 7 rfl rfl)
theorem dX1_swings_33 : decode cX1_swings 33 = .ok (.aload_n 0, 1) := dk_42 (dk_at dksX1_swings_1 10 rfl rfl)
theorem dX1_swings_34 : decode cX1_swings 34 = .ok (.iload 5, 2) := dk_21 5 (dk_at dksX1_swings_1 11 rfl rfl)
theorem dX1_swings_36 : decode cX1_swings 36 = .ok (.invokevirtual 47, 3) := dk_182 0 47 (dk_at dksX1_swings_1 13 rfl rfl)
theorem dX1_swings_39 : decode cX1_swings 39 = .ok (.i2l, 1) := dk_133 (dk_at dksX1_swings_1 16 rfl rfl)
theorem dX1_swings_40 : decode cX1_swings 40 = .ok (.lreturn, 1) := dk_173 (dk_at dksX1_swings_1 17 rfl rfl)
theorem dX1_swings_41 : decode cX1_swings 41 = .ok (.aload_n 0, 1) := dk_42 (dk_at dksX1_swings_1 18 rfl rfl)
theorem dX1_swings_42 : decode cX1_swings 42 = .ok (.getfield 95, 3) := dk_180 0 95 (dk_at dksX1_swings_1 19 rfl rfl)
theorem dX1_swings_45 : decode cX1_swings 45 = .ok (.iload_n 2, 1) := dk_28 (dk_at dksX1_swings_1 22 rfl rfl)
theorem dX1_swings_46 : decode cX1_swings 46 = .ok (.iload_n 3, 1) := dk_29 (dk_at dksX1_swings_1 23 rfl rfl)
theorem dX1_swings_47 : decode cX1_swings 47 = .ok (.invokevirtual 200, 3) := dk_182 0 200 (dk_at dksX1_swings_2 0 rfl rfl)
theorem dX1_swings_50 : decode cX1_swings 50 = .ok (.istore 6, 2) := dk_54 6 (dk_at dksX1_swings_2 3 rfl rfl)
theorem dX1_swings_52 : decode cX1_swings 52 = .ok (.iload 6, 2) := dk_21 6 (dk_at dksX1_swings_2 5 rfl rfl)
theorem dX1_swings_54 : decode cX1_swings 54 = .ok (.iload_n 1, 1) := dk_27 (dk_at dksX1_swings_2 7 rfl rfl)
theorem dX1_swings_55 : decode cX1_swings 55 = .ok (.invokestatic 151, 3) := dk_184 0 151 (dk_at dksX1_swings_2 8 rfl rfl)
theorem dX1_swings_58 : decode cX1_swings 58 = .ok (.ifCond .ne 12, 3) := dk_154 0 12 (dk_at dksX1_swings_2 11 rfl rfl)
theorem dX1_swings_61 : decode cX1_swings 61 = .ok (.aload_n 0, 1) := dk_42 (dk_at dksX1_swings_2 14 rfl rfl)
theorem dX1_swings_62 : decode cX1_swings 62 = .ok (.lconst 0, 1) := dk_9 (dk_at dksX1_swings_2 15 rfl rfl)
theorem dX1_swings_63 : decode cX1_swings 63 = .ok (.lconst 1, 1) := dk_10 (dk_at dksX1_swings_2 16 rfl rfl)
theorem dX1_swings_64 : decode cX1_swings 64 = .ok (.iload 4, 2) := dk_21 4 (dk_at dksX1_swings_2 17 rfl rfl)
theorem dX1_swings_66 : decode cX1_swings 66 = .ok (.invokevirtual 347, 3) := dk_182 1 91 (dk_at dksX1_swings_2 19 rfl rfl)
theorem dX1_swings_69 : decode cX1_swings 69 = .ok (.lreturn, 1) := dk_173 (dk_at dksX1_swings_2 22 rfl rfl)
theorem dX1_swings_70 : decode cX1_swings 70 = .ok (.iload 6, 2) := dk_21 6 (dk_at dksX1_swings_3 0 rfl rfl)
theorem dX1_swings_72 : decode cX1_swings 72 = .ok (.iconst 1, 1) := dk_4 (dk_at dksX1_swings_3 2 rfl rfl)
theorem dX1_swings_73 : decode cX1_swings 73 = .ok (.iload_n 1, 1) := dk_27 (dk_at dksX1_swings_3 3 rfl rfl)
theorem dX1_swings_74 : decode cX1_swings 74 = .ok (.ishl, 1) := dk_120 (dk_at dksX1_swings_3 4 rfl rfl)
theorem dX1_swings_75 : decode cX1_swings 75 = .ok (.iconst (-1), 1) := dk_2 (dk_at dksX1_swings_3 5 rfl rfl)
theorem dX1_swings_76 : decode cX1_swings 76 = .ok (.ixor, 1) := dk_130 (dk_at dksX1_swings_3 6 rfl rfl)
theorem dX1_swings_77 : decode cX1_swings 77 = .ok (.iand, 1) := dk_126 (dk_at dksX1_swings_3 7 rfl rfl)
theorem dX1_swings_78 : decode cX1_swings 78 = .ok (.istore 7, 2) := dk_54 7 (dk_at dksX1_swings_3 8 rfl rfl)
theorem dX1_swings_80 : decode cX1_swings 80 = .ok (.iconst 0, 1) := dk_3 (dk_at dksX1_swings_3 10 rfl rfl)
theorem dX1_swings_81 : decode cX1_swings 81 = .ok (.istore 8, 2) := dk_54 8 (dk_at dksX1_swings_3 11 rfl rfl)
theorem dX1_swings_83 : decode cX1_swings 83 = .ok (.iconst 0, 1) := dk_3 (dk_at dksX1_swings_3 13 rfl rfl)
theorem dX1_swings_84 : decode cX1_swings 84 = .ok (.istore 9, 2) := dk_54 9 (dk_at dksX1_swings_3 14 rfl rfl)
theorem dX1_swings_86 : decode cX1_swings 86 = .ok (.iload 9, 2) := dk_21 9 (dk_at dksX1_swings_3 16 rfl rfl)
theorem dX1_swings_88 : decode cX1_swings 88 = .ok (.iload 7, 2) := dk_21 7 (dk_at dksX1_swings_3 18 rfl rfl)
theorem dX1_swings_90 : decode cX1_swings 90 = .ok (.if_icmp .gt 55, 3) := dk_163 0 55 (dk_at dksX1_swings_3 20 rfl rfl)
theorem dX1_swings_93 : decode cX1_swings 93 = .ok (.iload 8, 2) := dk_21 8 (dk_at dksX1_swings_4 0 rfl rfl)
theorem dX1_swings_95 : decode cX1_swings 95 = .ok (.iload 9, 2) := dk_21 9 (dk_at dksX1_swings_4 2 rfl rfl)
theorem dX1_swings_97 : decode cX1_swings 97 = .ok (.iload 7, 2) := dk_21 7 (dk_at dksX1_swings_4 4 rfl rfl)
theorem dX1_swings_99 : decode cX1_swings 99 = .ok (.iconst (-1), 1) := dk_2 (dk_at dksX1_swings_4 6 rfl rfl)
theorem dX1_swings_100 : decode cX1_swings 100 = .ok (.ixor, 1) := dk_130 (dk_at dksX1_swings_4 7 rfl rfl)
theorem dX1_swings_101 : decode cX1_swings 101 = .ok (.iand, 1) := dk_126 (dk_at dksX1_swings_4 8 rfl rfl)
theorem dX1_swings_102 : decode cX1_swings 102 = .ok (.ifCond .ne 33, 3) := dk_154 0 33 (dk_at dksX1_swings_4 9 rfl rfl)
theorem dX1_swings_105 : decode cX1_swings 105 = .ok (.aload_n 0, 1) := dk_42 (dk_at dksX1_swings_4 12 rfl rfl)
theorem dX1_swings_106 : decode cX1_swings 106 = .ok (.iload 9, 2) := dk_21 9 (dk_at dksX1_swings_4 13 rfl rfl)
theorem dX1_swings_108 : decode cX1_swings 108 = .ok (.invokevirtual 218, 3) := dk_182 0 218 (dk_at dksX1_swings_4 15 rfl rfl)
theorem dX1_swings_111 : decode cX1_swings 111 = .ok (.bipush 6, 2) := dk_16 6 (dk_at dksX1_swings_4 18 rfl rfl)
theorem dX1_swings_113 : decode cX1_swings 113 = .ok (.if_icmp .ge 22, 3) := dk_162 0 22 (dk_at dksX1_swings_4 20 rfl rfl)
theorem dX1_swings_116 : decode cX1_swings 116 = .ok (.aload_n 0, 1) := dk_42 (dk_at dksX1_swings_4 23 rfl rfl)
theorem dX1_swings_117 : decode cX1_swings 117 = .ok (.iload 9, 2) := dk_21 9 (dk_at dksX1_swings_5 0 rfl rfl)
theorem dX1_swings_119 : decode cX1_swings 119 = .ok (.iconst 1, 1) := dk_4 (dk_at dksX1_swings_5 2 rfl rfl)
theorem dX1_swings_120 : decode cX1_swings 120 = .ok (.iload_n 1, 1) := dk_27 (dk_at dksX1_swings_5 3 rfl rfl)
theorem dX1_swings_121 : decode cX1_swings 121 = .ok (.ishl, 1) := dk_120 (dk_at dksX1_swings_5 4 rfl rfl)
theorem dX1_swings_122 : decode cX1_swings 122 = .ok (.ior, 1) := dk_128 (dk_at dksX1_swings_5 5 rfl rfl)
theorem dX1_swings_123 : decode cX1_swings 123 = .ok (.invokevirtual 218, 3) := dk_182 0 218 (dk_at dksX1_swings_5 6 rfl rfl)
theorem dX1_swings_126 : decode cX1_swings 126 = .ok (.bipush 6, 2) := dk_16 6 (dk_at dksX1_swings_5 9 rfl rfl)
theorem dX1_swings_128 : decode cX1_swings 128 = .ok (.if_icmp .lt 7, 3) := dk_161 0 7 (dk_at dksX1_swings_5 11 rfl rfl)
theorem dX1_swings_131 : decode cX1_swings 131 = .ok (.iconst 1, 1) := dk_4 (dk_at dksX1_swings_5 14 rfl rfl)
theorem dX1_swings_132 : decode cX1_swings 132 = .ok (.goto 4, 3) := dk_167 0 4 (dk_at dksX1_swings_5 15 rfl rfl)
theorem dX1_swings_135 : decode cX1_swings 135 = .ok (.iconst 0, 1) := dk_3 (dk_at dksX1_swings_5 18 rfl rfl)
theorem dX1_swings_136 : decode cX1_swings 136 = .ok (.iadd, 1) := dk_96 (dk_at dksX1_swings_5 19 rfl rfl)
theorem dX1_swings_137 : decode cX1_swings 137 = .ok (.istore 8, 2) := dk_54 8 (dk_at dksX1_swings_5 20 rfl rfl)
theorem dX1_swings_139 : decode cX1_swings 139 = .ok (.iinc 9 1, 3) := dk_132 9 1 (dk_at dksX1_swings_6 0 rfl rfl)
theorem dX1_swings_142 : decode cX1_swings 142 = .ok (.goto (-56), 3) := dk_167 255 200 (dk_at dksX1_swings_6 3 rfl rfl)
theorem dX1_swings_145 : decode cX1_swings 145 = .ok (.aload_n 0, 1) := dk_42 (dk_at dksX1_swings_6 6 rfl rfl)
theorem dX1_swings_146 : decode cX1_swings 146 = .ok (.iload 8, 2) := dk_21 8 (dk_at dksX1_swings_6 7 rfl rfl)
theorem dX1_swings_148 : decode cX1_swings 148 = .ok (.i2l, 1) := dk_133 (dk_at dksX1_swings_6 9 rfl rfl)
theorem dX1_swings_149 : decode cX1_swings 149 = .ok (.lconst 1, 1) := dk_10 (dk_at dksX1_swings_6 10 rfl rfl)
theorem dX1_swings_150 : decode cX1_swings 150 = .ok (.iload 7, 2) := dk_21 7 (dk_at dksX1_swings_6 11 rfl rfl)
theorem dX1_swings_152 : decode cX1_swings 152 = .ok (.invokestatic 295, 3) := dk_184 1 39 (dk_at dksX1_swings_6 13 rfl rfl)
theorem dX1_swings_155 : decode cX1_swings 155 = .ok (.lshl, 1) := dk_121 (dk_at dksX1_swings_6 16 rfl rfl)
theorem dX1_swings_156 : decode cX1_swings 156 = .ok (.iload 4, 2) := dk_21 4 (dk_at dksX1_swings_6 17 rfl rfl)
theorem dX1_swings_158 : decode cX1_swings 158 = .ok (.invokevirtual 347, 3) := dk_182 1 91 (dk_at dksX1_swings_6 19 rfl rfl)
theorem dX1_swings_161 : decode cX1_swings 161 = .ok (.lreturn, 1) := dk_173 (dk_at dksX1_swings_6 22 rfl rfl)
abbrev cX1_whyMinute : ByteArray := prog_1_method_76_code
def yX1_whyMinute : MethodName := ⟨RX1, "whyMinute", "(ZI)I"⟩
def dkwX1_whyMinute_0 : List UInt8 := [42, 27, 28, 3, 16, 59, 182, 1, 20, 172]
abbrev dktX1_whyMinute_0 : List UInt8 := dkwX1_whyMinute_0 ++ []
theorem dksX1_whyMinute_0 : cX1_whyMinute.data.toList.drop 0 = dktX1_whyMinute_0 := by decide +kernel
theorem dX1_whyMinute_0 : decode cX1_whyMinute 0 = .ok (.aload_n 0, 1) := dk_42 (dk_at dksX1_whyMinute_0 0 rfl rfl)
theorem dX1_whyMinute_1 : decode cX1_whyMinute 1 = .ok (.iload_n 1, 1) := dk_27 (dk_at dksX1_whyMinute_0 1 rfl rfl)
theorem dX1_whyMinute_2 : decode cX1_whyMinute 2 = .ok (.iload_n 2, 1) := dk_28 (dk_at dksX1_whyMinute_0 2 rfl rfl)
theorem dX1_whyMinute_3 : decode cX1_whyMinute 3 = .ok (.iconst 0, 1) := dk_3 (dk_at dksX1_whyMinute_0 3 rfl rfl)
theorem dX1_whyMinute_4 : decode cX1_whyMinute 4 = .ok (.bipush 59, 2) := dk_16 59 (dk_at dksX1_whyMinute_0 4 rfl rfl)
theorem dX1_whyMinute_6 : decode cX1_whyMinute 6 = .ok (.invokevirtual 276, 3) := dk_182 1 20 (dk_at dksX1_whyMinute_0 6 rfl rfl)
theorem dX1_whyMinute_9 : decode cX1_whyMinute 9 = .ok (.ireturn, 1) := dk_172 (dk_at dksX1_whyMinute_0 9 rfl rfl)
abbrev cX1_fraction : ByteArray := prog_1_method_12_code
def yX1_fraction : MethodName := ⟨RX1, "fraction", "(JJZ)J"⟩
def dkwX1_fraction_0 : List UInt8 := [42, 3, 182, 0, 51, 87, 21, 5, 153, 0, 7, 33, 167, 0, 4, 31, 31, 33, 184, 0, 54, 109, 173]
abbrev dktX1_fraction_0 : List UInt8 := dkwX1_fraction_0 ++ []
theorem dksX1_fraction_0 : cX1_fraction.data.toList.drop 0 = dktX1_fraction_0 := by decide +kernel
theorem dX1_fraction_0 : decode cX1_fraction 0 = .ok (.aload_n 0, 1) := dk_42 (dk_at dksX1_fraction_0 0 rfl rfl)
theorem dX1_fraction_1 : decode cX1_fraction 1 = .ok (.iconst 0, 1) := dk_3 (dk_at dksX1_fraction_0 1 rfl rfl)
theorem dX1_fraction_2 : decode cX1_fraction 2 = .ok (.invokevirtual 51, 3) := dk_182 0 51 (dk_at dksX1_fraction_0 2 rfl rfl)
theorem dX1_fraction_5 : decode cX1_fraction 5 = .ok (.pop, 1) := dk_87 (dk_at dksX1_fraction_0 5 rfl rfl)
theorem dX1_fraction_6 : decode cX1_fraction 6 = .ok (.iload 5, 2) := dk_21 5 (dk_at dksX1_fraction_0 6 rfl rfl)
theorem dX1_fraction_8 : decode cX1_fraction 8 = .ok (.ifCond .eq 7, 3) := dk_153 0 7 (dk_at dksX1_fraction_0 8 rfl rfl)
theorem dX1_fraction_11 : decode cX1_fraction 11 = .ok (.lload_n 3, 1) := dk_33 (dk_at dksX1_fraction_0 11 rfl rfl)
theorem dX1_fraction_12 : decode cX1_fraction 12 = .ok (.goto 4, 3) := dk_167 0 4 (dk_at dksX1_fraction_0 12 rfl rfl)
theorem dX1_fraction_15 : decode cX1_fraction 15 = .ok (.lload_n 1, 1) := dk_31 (dk_at dksX1_fraction_0 15 rfl rfl)
theorem dX1_fraction_16 : decode cX1_fraction 16 = .ok (.lload_n 1, 1) := dk_31 (dk_at dksX1_fraction_0 16 rfl rfl)
theorem dX1_fraction_17 : decode cX1_fraction 17 = .ok (.lload_n 3, 1) := dk_33 (dk_at dksX1_fraction_0 17 rfl rfl)
theorem dX1_fraction_18 : decode cX1_fraction 18 = .ok (.invokestatic 54, 3) := dk_184 0 54 (dk_at dksX1_fraction_0 18 rfl rfl)
theorem dX1_fraction_21 : decode cX1_fraction 21 = .ok (.ldiv, 1) := dk_109 (dk_at dksX1_fraction_0 21 rfl rfl)
theorem dX1_fraction_22 : decode cX1_fraction 22 = .ok (.lreturn, 1) := dk_173 (dk_at dksX1_fraction_0 22 rfl rfl)
abbrev cX1_common : ByteArray := prog_1_method_5_code
def yX1_common : MethodName := ⟨RX1, "common", "(JJ)J"⟩
def dkwX1_common_1 : List UInt8 := [22, 8, 55, 6, 167, 255, 234, 22, 4, 173]
abbrev dktX1_common_1 : List UInt8 := dkwX1_common_1 ++ []
def dkwX1_common_0 : List UInt8 := [30, 55, 4, 32, 55, 6, 22, 6, 9, 148, 153, 0, 21, 22, 4, 22, 6, 113, 55, 8, 22, 6, 55, 4]
abbrev dktX1_common_0 : List UInt8 := dkwX1_common_0 ++ dktX1_common_1
theorem dksX1_common_0 : cX1_common.data.toList.drop 0 = dktX1_common_0 := by decide +kernel
theorem dksX1_common_1 : cX1_common.data.toList.drop 24 = dktX1_common_1 := dk_seg dksX1_common_0 24 rfl rfl
theorem dX1_common_0 : decode cX1_common 0 = .ok (.lload_n 0, 1) := dk_30 (dk_at dksX1_common_0 0 rfl rfl)
theorem dX1_common_1 : decode cX1_common 1 = .ok (.lstore 4, 2) := dk_55 4 (dk_at dksX1_common_0 1 rfl rfl)
theorem dX1_common_3 : decode cX1_common 3 = .ok (.lload_n 2, 1) := dk_32 (dk_at dksX1_common_0 3 rfl rfl)
theorem dX1_common_4 : decode cX1_common 4 = .ok (.lstore 6, 2) := dk_55 6 (dk_at dksX1_common_0 4 rfl rfl)
theorem dX1_common_6 : decode cX1_common 6 = .ok (.lload 6, 2) := dk_22 6 (dk_at dksX1_common_0 6 rfl rfl)
theorem dX1_common_8 : decode cX1_common 8 = .ok (.lconst 0, 1) := dk_9 (dk_at dksX1_common_0 8 rfl rfl)
theorem dX1_common_9 : decode cX1_common 9 = .ok (.lcmp, 1) := dk_148 (dk_at dksX1_common_0 9 rfl rfl)
theorem dX1_common_10 : decode cX1_common 10 = .ok (.ifCond .eq 21, 3) := dk_153 0 21 (dk_at dksX1_common_0 10 rfl rfl)
theorem dX1_common_13 : decode cX1_common 13 = .ok (.lload 4, 2) := dk_22 4 (dk_at dksX1_common_0 13 rfl rfl)
theorem dX1_common_15 : decode cX1_common 15 = .ok (.lload 6, 2) := dk_22 6 (dk_at dksX1_common_0 15 rfl rfl)
theorem dX1_common_17 : decode cX1_common 17 = .ok (.lrem, 1) := dk_113 (dk_at dksX1_common_0 17 rfl rfl)
theorem dX1_common_18 : decode cX1_common 18 = .ok (.lstore 8, 2) := dk_55 8 (dk_at dksX1_common_0 18 rfl rfl)
theorem dX1_common_20 : decode cX1_common 20 = .ok (.lload 6, 2) := dk_22 6 (dk_at dksX1_common_0 20 rfl rfl)
theorem dX1_common_22 : decode cX1_common 22 = .ok (.lstore 4, 2) := dk_55 4 (dk_at dksX1_common_0 22 rfl rfl)
theorem dX1_common_24 : decode cX1_common 24 = .ok (.lload 8, 2) := dk_22 8 (dk_at dksX1_common_1 0 rfl rfl)
theorem dX1_common_26 : decode cX1_common 26 = .ok (.lstore 6, 2) := dk_55 6 (dk_at dksX1_common_1 2 rfl rfl)
theorem dX1_common_28 : decode cX1_common 28 = .ok (.goto (-22), 3) := dk_167 255 234 (dk_at dksX1_common_1 4 rfl rfl)
theorem dX1_common_31 : decode cX1_common 31 = .ok (.lload 4, 2) := dk_22 4 (dk_at dksX1_common_1 7 rfl rfl)
theorem dX1_common_33 : decode cX1_common 33 = .ok (.lreturn, 1) := dk_173 (dk_at dksX1_common_1 9 rfl rfl)
abbrev cX1_three : ByteArray := prog_1_method_78_code
def yX1_three : MethodName := ⟨RX1, "three", "(II)I"⟩
def dkwX1_three_4 : List UInt8 := [132, 6, 1, 167, 255, 201, 42, 21, 5, 182, 0, 51, 172]
abbrev dktX1_three_4 : List UInt8 := dkwX1_three_4 ++ []
def dkwX1_three_3 : List UInt8 := [16, 254, 159, 0, 16, 21, 6, 184, 1, 39, 21, 5, 184, 1, 39, 162, 0, 7, 21, 6, 54, 5]
abbrev dktX1_three_3 : List UInt8 := dkwX1_three_3 ++ dktX1_three_4
def dkwX1_three_2 : List UInt8 := [21, 6, 21, 4, 2, 130, 126, 154, 0, 38, 42, 21, 6, 182, 0, 218, 16, 6, 161, 0, 27, 21, 5]
abbrev dktX1_three_2 : List UInt8 := dkwX1_three_2 ++ dktX1_three_3
def dkwX1_three_1 : List UInt8 := [180, 0, 95, 27, 28, 182, 0, 200, 54, 4, 16, 254, 54, 5, 3, 54, 6, 21, 6, 21, 4, 163, 0, 54]
abbrev dktX1_three_1 : List UInt8 := dkwX1_three_1 ++ dktX1_three_2
def dkwX1_three_0 : List UInt8 := [42, 42, 27, 182, 1, 27, 28, 182, 1, 87, 62, 29, 158, 0, 9, 42, 29, 182, 0, 47, 172, 42]
abbrev dktX1_three_0 : List UInt8 := dkwX1_three_0 ++ dktX1_three_1
theorem dksX1_three_0 : cX1_three.data.toList.drop 0 = dktX1_three_0 := by decide +kernel
theorem dksX1_three_1 : cX1_three.data.toList.drop 22 = dktX1_three_1 := dk_seg dksX1_three_0 22 rfl rfl
theorem dksX1_three_2 : cX1_three.data.toList.drop 46 = dktX1_three_2 := dk_seg dksX1_three_1 24 rfl rfl
theorem dksX1_three_3 : cX1_three.data.toList.drop 69 = dktX1_three_3 := dk_seg dksX1_three_2 23 rfl rfl
theorem dksX1_three_4 : cX1_three.data.toList.drop 91 = dktX1_three_4 := dk_seg dksX1_three_3 22 rfl rfl
theorem dX1_three_0 : decode cX1_three 0 = .ok (.aload_n 0, 1) := dk_42 (dk_at dksX1_three_0 0 rfl rfl)
theorem dX1_three_1 : decode cX1_three 1 = .ok (.aload_n 0, 1) := dk_42 (dk_at dksX1_three_0 1 rfl rfl)
theorem dX1_three_2 : decode cX1_three 2 = .ok (.iload_n 1, 1) := dk_27 (dk_at dksX1_three_0 2 rfl rfl)
theorem dX1_three_3 : decode cX1_three 3 = .ok (.invokevirtual 283, 3) := dk_182 1 27 (dk_at dksX1_three_0 3 rfl rfl)
theorem dX1_three_6 : decode cX1_three 6 = .ok (.iload_n 2, 1) := dk_28 (dk_at dksX1_three_0 6 rfl rfl)
theorem dX1_three_7 : decode cX1_three 7 = .ok (.invokevirtual 343, 3) := dk_182 1 87 (dk_at dksX1_three_0 7 rfl rfl)
theorem dX1_three_10 : decode cX1_three 10 = .ok (.istore_n 3, 1) := dk_62 (dk_at dksX1_three_0 10 rfl rfl)
theorem dX1_three_11 : decode cX1_three 11 = .ok (.iload_n 3, 1) := dk_29 (dk_at dksX1_three_0 11 rfl rfl)
theorem dX1_three_12 : decode cX1_three 12 = .ok (.ifCond .le 9, 3) := dk_158 0 9 (dk_at dksX1_three_0 12 rfl rfl)
theorem dX1_three_15 : decode cX1_three 15 = .ok (.aload_n 0, 1) := dk_42 (dk_at dksX1_three_0 15 rfl rfl)
theorem dX1_three_16 : decode cX1_three 16 = .ok (.iload_n 3, 1) := dk_29 (dk_at dksX1_three_0 16 rfl rfl)
theorem dX1_three_17 : decode cX1_three 17 = .ok (.invokevirtual 47, 3) := dk_182 0 47 (dk_at dksX1_three_0 17 rfl rfl)
theorem dX1_three_20 : decode cX1_three 20 = .ok (.ireturn, 1) := dk_172 (dk_at dksX1_three_0 20 rfl rfl)
theorem dX1_three_21 : decode cX1_three 21 = .ok (.aload_n 0, 1) := dk_42 (dk_at dksX1_three_0 21 rfl rfl)
theorem dX1_three_22 : decode cX1_three 22 = .ok (.getfield 95, 3) := dk_180 0 95 (dk_at dksX1_three_1 0 rfl rfl)
theorem dX1_three_25 : decode cX1_three 25 = .ok (.iload_n 1, 1) := dk_27 (dk_at dksX1_three_1 3 rfl rfl)
theorem dX1_three_26 : decode cX1_three 26 = .ok (.iload_n 2, 1) := dk_28 (dk_at dksX1_three_1 4 rfl rfl)
theorem dX1_three_27 : decode cX1_three 27 = .ok (.invokevirtual 200, 3) := dk_182 0 200 (dk_at dksX1_three_1 5 rfl rfl)
theorem dX1_three_30 : decode cX1_three 30 = .ok (.istore 4, 2) := dk_54 4 (dk_at dksX1_three_1 8 rfl rfl)
theorem dX1_three_32 : decode cX1_three 32 = .ok (.bipush (-2), 2) := dk_16 254 (dk_at dksX1_three_1 10 rfl rfl)
theorem dX1_three_34 : decode cX1_three 34 = .ok (.istore 5, 2) := dk_54 5 (dk_at dksX1_three_1 12 rfl rfl)
theorem dX1_three_36 : decode cX1_three 36 = .ok (.iconst 0, 1) := dk_3 (dk_at dksX1_three_1 14 rfl rfl)
theorem dX1_three_37 : decode cX1_three 37 = .ok (.istore 6, 2) := dk_54 6 (dk_at dksX1_three_1 15 rfl rfl)
theorem dX1_three_39 : decode cX1_three 39 = .ok (.iload 6, 2) := dk_21 6 (dk_at dksX1_three_1 17 rfl rfl)
theorem dX1_three_41 : decode cX1_three 41 = .ok (.iload 4, 2) := dk_21 4 (dk_at dksX1_three_1 19 rfl rfl)
theorem dX1_three_43 : decode cX1_three 43 = .ok (.if_icmp .gt 54, 3) := dk_163 0 54 (dk_at dksX1_three_1 21 rfl rfl)
theorem dX1_three_46 : decode cX1_three 46 = .ok (.iload 6, 2) := dk_21 6 (dk_at dksX1_three_2 0 rfl rfl)
theorem dX1_three_48 : decode cX1_three 48 = .ok (.iload 4, 2) := dk_21 4 (dk_at dksX1_three_2 2 rfl rfl)
theorem dX1_three_50 : decode cX1_three 50 = .ok (.iconst (-1), 1) := dk_2 (dk_at dksX1_three_2 4 rfl rfl)
theorem dX1_three_51 : decode cX1_three 51 = .ok (.ixor, 1) := dk_130 (dk_at dksX1_three_2 5 rfl rfl)
theorem dX1_three_52 : decode cX1_three 52 = .ok (.iand, 1) := dk_126 (dk_at dksX1_three_2 6 rfl rfl)
theorem dX1_three_53 : decode cX1_three 53 = .ok (.ifCond .ne 38, 3) := dk_154 0 38 (dk_at dksX1_three_2 7 rfl rfl)
theorem dX1_three_56 : decode cX1_three 56 = .ok (.aload_n 0, 1) := dk_42 (dk_at dksX1_three_2 10 rfl rfl)
theorem dX1_three_57 : decode cX1_three 57 = .ok (.iload 6, 2) := dk_21 6 (dk_at dksX1_three_2 11 rfl rfl)
theorem dX1_three_59 : decode cX1_three 59 = .ok (.invokevirtual 218, 3) := dk_182 0 218 (dk_at dksX1_three_2 13 rfl rfl)
theorem dX1_three_62 : decode cX1_three 62 = .ok (.bipush 6, 2) := dk_16 6 (dk_at dksX1_three_2 16 rfl rfl)
theorem dX1_three_64 : decode cX1_three 64 = .ok (.if_icmp .lt 27, 3) := dk_161 0 27 (dk_at dksX1_three_2 18 rfl rfl)
theorem dX1_three_67 : decode cX1_three 67 = .ok (.iload 5, 2) := dk_21 5 (dk_at dksX1_three_2 21 rfl rfl)
theorem dX1_three_69 : decode cX1_three 69 = .ok (.bipush (-2), 2) := dk_16 254 (dk_at dksX1_three_3 0 rfl rfl)
theorem dX1_three_71 : decode cX1_three 71 = .ok (.if_icmp .eq 16, 3) := dk_159 0 16 (dk_at dksX1_three_3 2 rfl rfl)
theorem dX1_three_74 : decode cX1_three 74 = .ok (.iload 6, 2) := dk_21 6 (dk_at dksX1_three_3 5 rfl rfl)
theorem dX1_three_76 : decode cX1_three 76 = .ok (.invokestatic 295, 3) := dk_184 1 39 (dk_at dksX1_three_3 7 rfl rfl)
theorem dX1_three_79 : decode cX1_three 79 = .ok (.iload 5, 2) := dk_21 5 (dk_at dksX1_three_3 10 rfl rfl)
theorem dX1_three_81 : decode cX1_three 81 = .ok (.invokestatic 295, 3) := dk_184 1 39 (dk_at dksX1_three_3 12 rfl rfl)
theorem dX1_three_84 : decode cX1_three 84 = .ok (.if_icmp .ge 7, 3) := dk_162 0 7 (dk_at dksX1_three_3 15 rfl rfl)
theorem dX1_three_87 : decode cX1_three 87 = .ok (.iload 6, 2) := dk_21 6 (dk_at dksX1_three_3 18 rfl rfl)
theorem dX1_three_89 : decode cX1_three 89 = .ok (.istore 5, 2) := dk_54 5 (dk_at dksX1_three_3 20 rfl rfl)
theorem dX1_three_91 : decode cX1_three 91 = .ok (.iinc 6 1, 3) := dk_132 6 1 (dk_at dksX1_three_4 0 rfl rfl)
theorem dX1_three_94 : decode cX1_three 94 = .ok (.goto (-55), 3) := dk_167 255 201 (dk_at dksX1_three_4 3 rfl rfl)
theorem dX1_three_97 : decode cX1_three 97 = .ok (.aload_n 0, 1) := dk_42 (dk_at dksX1_three_4 6 rfl rfl)
theorem dX1_three_98 : decode cX1_three 98 = .ok (.iload 5, 2) := dk_21 5 (dk_at dksX1_three_4 7 rfl rfl)
theorem dX1_three_100 : decode cX1_three 100 = .ok (.invokevirtual 51, 3) := dk_182 0 51 (dk_at dksX1_three_4 9 rfl rfl)
theorem dX1_three_103 : decode cX1_three 103 = .ok (.ireturn, 1) := dk_172 (dk_at dksX1_three_4 12 rfl rfl)
abbrev cX1_says : ByteArray := prog_1_method_81_code
def yX1_says : MethodName := ⟨RX1, "says", "(IZZZ)I"⟩
def dkwX1_says_1 : List UInt8 := [21, 4, 153, 0, 12, 27, 29, 28, 184, 1, 101, 167, 0, 9, 27, 28, 29, 184, 1, 101, 182, 0, 51, 172]
abbrev dktX1_says_1 : List UInt8 := dkwX1_says_1 ++ []
def dkwX1_says_0 : List UInt8 := [42, 27, 182, 1, 95, 54, 5, 21, 5, 158, 0, 14, 42, 21, 5, 16, 156, 182, 1, 98, 167, 0, 27, 42]
abbrev dktX1_says_0 : List UInt8 := dkwX1_says_0 ++ dktX1_says_1
theorem dksX1_says_0 : cX1_says.data.toList.drop 0 = dktX1_says_0 := by decide +kernel
theorem dksX1_says_1 : cX1_says.data.toList.drop 24 = dktX1_says_1 := dk_seg dksX1_says_0 24 rfl rfl
theorem dX1_says_0 : decode cX1_says 0 = .ok (.aload_n 0, 1) := dk_42 (dk_at dksX1_says_0 0 rfl rfl)
theorem dX1_says_1 : decode cX1_says 1 = .ok (.iload_n 1, 1) := dk_27 (dk_at dksX1_says_0 1 rfl rfl)
theorem dX1_says_2 : decode cX1_says 2 = .ok (.invokevirtual 351, 3) := dk_182 1 95 (dk_at dksX1_says_0 2 rfl rfl)
theorem dX1_says_5 : decode cX1_says 5 = .ok (.istore 5, 2) := dk_54 5 (dk_at dksX1_says_0 5 rfl rfl)
theorem dX1_says_7 : decode cX1_says 7 = .ok (.iload 5, 2) := dk_21 5 (dk_at dksX1_says_0 7 rfl rfl)
theorem dX1_says_9 : decode cX1_says 9 = .ok (.ifCond .le 14, 3) := dk_158 0 14 (dk_at dksX1_says_0 9 rfl rfl)
theorem dX1_says_12 : decode cX1_says 12 = .ok (.aload_n 0, 1) := dk_42 (dk_at dksX1_says_0 12 rfl rfl)
theorem dX1_says_13 : decode cX1_says 13 = .ok (.iload 5, 2) := dk_21 5 (dk_at dksX1_says_0 13 rfl rfl)
theorem dX1_says_15 : decode cX1_says 15 = .ok (.bipush (-100), 2) := dk_16 156 (dk_at dksX1_says_0 15 rfl rfl)
theorem dX1_says_17 : decode cX1_says 17 = .ok (.invokevirtual 354, 3) := dk_182 1 98 (dk_at dksX1_says_0 17 rfl rfl)
theorem dX1_says_20 : decode cX1_says 20 = .ok (.goto 27, 3) := dk_167 0 27 (dk_at dksX1_says_0 20 rfl rfl)
theorem dX1_says_23 : decode cX1_says 23 = .ok (.aload_n 0, 1) := dk_42 (dk_at dksX1_says_0 23 rfl rfl)
theorem dX1_says_24 : decode cX1_says 24 = .ok (.iload 4, 2) := dk_21 4 (dk_at dksX1_says_1 0 rfl rfl)
theorem dX1_says_26 : decode cX1_says 26 = .ok (.ifCond .eq 12, 3) := dk_153 0 12 (dk_at dksX1_says_1 2 rfl rfl)
theorem dX1_says_29 : decode cX1_says 29 = .ok (.iload_n 1, 1) := dk_27 (dk_at dksX1_says_1 5 rfl rfl)
theorem dX1_says_30 : decode cX1_says 30 = .ok (.iload_n 3, 1) := dk_29 (dk_at dksX1_says_1 6 rfl rfl)
theorem dX1_says_31 : decode cX1_says 31 = .ok (.iload_n 2, 1) := dk_28 (dk_at dksX1_says_1 7 rfl rfl)
theorem dX1_says_32 : decode cX1_says 32 = .ok (.invokestatic 357, 3) := dk_184 1 101 (dk_at dksX1_says_1 8 rfl rfl)
theorem dX1_says_35 : decode cX1_says 35 = .ok (.goto 9, 3) := dk_167 0 9 (dk_at dksX1_says_1 11 rfl rfl)
theorem dX1_says_38 : decode cX1_says 38 = .ok (.iload_n 1, 1) := dk_27 (dk_at dksX1_says_1 14 rfl rfl)
theorem dX1_says_39 : decode cX1_says 39 = .ok (.iload_n 2, 1) := dk_28 (dk_at dksX1_says_1 15 rfl rfl)
theorem dX1_says_40 : decode cX1_says 40 = .ok (.iload_n 3, 1) := dk_29 (dk_at dksX1_says_1 16 rfl rfl)
theorem dX1_says_41 : decode cX1_says 41 = .ok (.invokestatic 357, 3) := dk_184 1 101 (dk_at dksX1_says_1 17 rfl rfl)
theorem dX1_says_44 : decode cX1_says 44 = .ok (.invokevirtual 51, 3) := dk_182 0 51 (dk_at dksX1_says_1 20 rfl rfl)
theorem dX1_says_47 : decode cX1_says 47 = .ok (.ireturn, 1) := dk_172 (dk_at dksX1_says_1 23 rfl rfl)
abbrev cX1_whyHeat : ByteArray := prog_1_method_80_code
def yX1_whyHeat : MethodName := ⟨RX1, "whyHeat", "(I)I"⟩
def dkwX1_whyHeat_0 : List UInt8 := [42, 42, 180, 0, 86, 198, 0, 7, 4, 167, 0, 4, 3, 27, 3, 16, 9, 182, 1, 20, 172]
abbrev dktX1_whyHeat_0 : List UInt8 := dkwX1_whyHeat_0 ++ []
theorem dksX1_whyHeat_0 : cX1_whyHeat.data.toList.drop 0 = dktX1_whyHeat_0 := by decide +kernel
theorem dX1_whyHeat_0 : decode cX1_whyHeat 0 = .ok (.aload_n 0, 1) := dk_42 (dk_at dksX1_whyHeat_0 0 rfl rfl)
theorem dX1_whyHeat_1 : decode cX1_whyHeat 1 = .ok (.aload_n 0, 1) := dk_42 (dk_at dksX1_whyHeat_0 1 rfl rfl)
theorem dX1_whyHeat_2 : decode cX1_whyHeat 2 = .ok (.getfield 86, 3) := dk_180 0 86 (dk_at dksX1_whyHeat_0 2 rfl rfl)
theorem dX1_whyHeat_5 : decode cX1_whyHeat 5 = .ok (.ifnull 7, 3) := dk_198 0 7 (dk_at dksX1_whyHeat_0 5 rfl rfl)
theorem dX1_whyHeat_8 : decode cX1_whyHeat 8 = .ok (.iconst 1, 1) := dk_4 (dk_at dksX1_whyHeat_0 8 rfl rfl)
theorem dX1_whyHeat_9 : decode cX1_whyHeat 9 = .ok (.goto 4, 3) := dk_167 0 4 (dk_at dksX1_whyHeat_0 9 rfl rfl)
theorem dX1_whyHeat_12 : decode cX1_whyHeat 12 = .ok (.iconst 0, 1) := dk_3 (dk_at dksX1_whyHeat_0 12 rfl rfl)
theorem dX1_whyHeat_13 : decode cX1_whyHeat 13 = .ok (.iload_n 1, 1) := dk_27 (dk_at dksX1_whyHeat_0 13 rfl rfl)
theorem dX1_whyHeat_14 : decode cX1_whyHeat 14 = .ok (.iconst 0, 1) := dk_3 (dk_at dksX1_whyHeat_0 14 rfl rfl)
theorem dX1_whyHeat_15 : decode cX1_whyHeat 15 = .ok (.bipush 9, 2) := dk_16 9 (dk_at dksX1_whyHeat_0 15 rfl rfl)
theorem dX1_whyHeat_17 : decode cX1_whyHeat 17 = .ok (.invokevirtual 276, 3) := dk_182 1 20 (dk_at dksX1_whyHeat_0 17 rfl rfl)
theorem dX1_whyHeat_20 : decode cX1_whyHeat 20 = .ok (.ireturn, 1) := dk_172 (dk_at dksX1_whyHeat_0 20 rfl rfl)
abbrev cX1_refusedBy : ByteArray := prog_1_method_8_code
def yX1_refusedBy : MethodName := ⟨RX1, "refusedBy", "(II)I"⟩
def dkwX1_refusedBy_0 : List UInt8 := [42, 27, 182, 0, 47, 87, 28, 172]
abbrev dktX1_refusedBy_0 : List UInt8 := dkwX1_refusedBy_0 ++ []
theorem dksX1_refusedBy_0 : cX1_refusedBy.data.toList.drop 0 = dktX1_refusedBy_0 := by decide +kernel
theorem dX1_refusedBy_0 : decode cX1_refusedBy 0 = .ok (.aload_n 0, 1) := dk_42 (dk_at dksX1_refusedBy_0 0 rfl rfl)
theorem dX1_refusedBy_1 : decode cX1_refusedBy 1 = .ok (.iload_n 1, 1) := dk_27 (dk_at dksX1_refusedBy_0 1 rfl rfl)
theorem dX1_refusedBy_2 : decode cX1_refusedBy 2 = .ok (.invokevirtual 47, 3) := dk_182 0 47 (dk_at dksX1_refusedBy_0 2 rfl rfl)
theorem dX1_refusedBy_5 : decode cX1_refusedBy 5 = .ok (.pop, 1) := dk_87 (dk_at dksX1_refusedBy_0 5 rfl rfl)
theorem dX1_refusedBy_6 : decode cX1_refusedBy 6 = .ok (.iload_n 2, 1) := dk_28 (dk_at dksX1_refusedBy_0 6 rfl rfl)
theorem dX1_refusedBy_7 : decode cX1_refusedBy 7 = .ok (.ireturn, 1) := dk_172 (dk_at dksX1_refusedBy_0 7 rfl rfl)
abbrev cX1_gets : ByteArray := prog_1_method_79_code
def yX1_gets : MethodName := ⟨RX1, "gets", "(IZZ)I"⟩
def dkwX1_gets_1 : List UInt8 := [167, 0, 4, 5, 172]
abbrev dktX1_gets_1 : List UInt8 := dkwX1_gets_1 ++ []
def dkwX1_gets_0 : List UInt8 := [27, 153, 0, 17, 28, 153, 0, 9, 4, 26, 100, 167, 0, 17, 7, 167, 0, 13, 28, 153, 0, 8, 26, 116]
abbrev dktX1_gets_0 : List UInt8 := dkwX1_gets_0 ++ dktX1_gets_1
theorem dksX1_gets_0 : cX1_gets.data.toList.drop 0 = dktX1_gets_0 := by decide +kernel
theorem dksX1_gets_1 : cX1_gets.data.toList.drop 24 = dktX1_gets_1 := dk_seg dksX1_gets_0 24 rfl rfl
theorem dX1_gets_0 : decode cX1_gets 0 = .ok (.iload_n 1, 1) := dk_27 (dk_at dksX1_gets_0 0 rfl rfl)
theorem dX1_gets_1 : decode cX1_gets 1 = .ok (.ifCond .eq 17, 3) := dk_153 0 17 (dk_at dksX1_gets_0 1 rfl rfl)
theorem dX1_gets_4 : decode cX1_gets 4 = .ok (.iload_n 2, 1) := dk_28 (dk_at dksX1_gets_0 4 rfl rfl)
theorem dX1_gets_5 : decode cX1_gets 5 = .ok (.ifCond .eq 9, 3) := dk_153 0 9 (dk_at dksX1_gets_0 5 rfl rfl)
theorem dX1_gets_8 : decode cX1_gets 8 = .ok (.iconst 1, 1) := dk_4 (dk_at dksX1_gets_0 8 rfl rfl)
theorem dX1_gets_9 : decode cX1_gets 9 = .ok (.iload_n 0, 1) := dk_26 (dk_at dksX1_gets_0 9 rfl rfl)
theorem dX1_gets_10 : decode cX1_gets 10 = .ok (.isub, 1) := dk_100 (dk_at dksX1_gets_0 10 rfl rfl)
theorem dX1_gets_11 : decode cX1_gets 11 = .ok (.goto 17, 3) := dk_167 0 17 (dk_at dksX1_gets_0 11 rfl rfl)
theorem dX1_gets_14 : decode cX1_gets 14 = .ok (.iconst 4, 1) := dk_7 (dk_at dksX1_gets_0 14 rfl rfl)
theorem dX1_gets_15 : decode cX1_gets 15 = .ok (.goto 13, 3) := dk_167 0 13 (dk_at dksX1_gets_0 15 rfl rfl)
theorem dX1_gets_18 : decode cX1_gets 18 = .ok (.iload_n 2, 1) := dk_28 (dk_at dksX1_gets_0 18 rfl rfl)
theorem dX1_gets_19 : decode cX1_gets 19 = .ok (.ifCond .eq 8, 3) := dk_153 0 8 (dk_at dksX1_gets_0 19 rfl rfl)
theorem dX1_gets_22 : decode cX1_gets 22 = .ok (.iload_n 0, 1) := dk_26 (dk_at dksX1_gets_0 22 rfl rfl)
theorem dX1_gets_23 : decode cX1_gets 23 = .ok (.ineg, 1) := dk_116 (dk_at dksX1_gets_0 23 rfl rfl)
theorem dX1_gets_24 : decode cX1_gets 24 = .ok (.goto 4, 3) := dk_167 0 4 (dk_at dksX1_gets_1 0 rfl rfl)
theorem dX1_gets_27 : decode cX1_gets 27 = .ok (.iconst 2, 1) := dk_5 (dk_at dksX1_gets_1 3 rfl rfl)
theorem dX1_gets_28 : decode cX1_gets 28 = .ok (.ireturn, 1) := dk_172 (dk_at dksX1_gets_1 4 rfl rfl)
abbrev cX1_rests : ByteArray := prog_1_method_83_code
def yX1_rests : MethodName := ⟨RX1, "rests", "(I)I"⟩
def dkwX1_rests_2 : List UInt8 := [167, 255, 230, 42, 29, 182, 0, 51, 172]
abbrev dktX1_rests_2 : List UInt8 := dkwX1_rests_2 ++ []
def dkwX1_rests_1 : List UInt8 := [162, 0, 26, 29, 27, 21, 4, 184, 1, 105, 153, 0, 7, 4, 167, 0, 4, 3, 96, 62, 132, 4, 1]
abbrev dktX1_rests_1 : List UInt8 := dkwX1_rests_1 ++ dktX1_rests_2
def dkwX1_rests_0 : List UInt8 := [42, 27, 182, 1, 95, 61, 28, 158, 0, 9, 42, 28, 182, 0, 47, 172, 3, 62, 3, 54, 4, 21, 4, 7]
abbrev dktX1_rests_0 : List UInt8 := dkwX1_rests_0 ++ dktX1_rests_1
theorem dksX1_rests_0 : cX1_rests.data.toList.drop 0 = dktX1_rests_0 := by decide +kernel
theorem dksX1_rests_1 : cX1_rests.data.toList.drop 24 = dktX1_rests_1 := dk_seg dksX1_rests_0 24 rfl rfl
theorem dksX1_rests_2 : cX1_rests.data.toList.drop 47 = dktX1_rests_2 := dk_seg dksX1_rests_1 23 rfl rfl
theorem dX1_rests_0 : decode cX1_rests 0 = .ok (.aload_n 0, 1) := dk_42 (dk_at dksX1_rests_0 0 rfl rfl)
theorem dX1_rests_1 : decode cX1_rests 1 = .ok (.iload_n 1, 1) := dk_27 (dk_at dksX1_rests_0 1 rfl rfl)
theorem dX1_rests_2 : decode cX1_rests 2 = .ok (.invokevirtual 351, 3) := dk_182 1 95 (dk_at dksX1_rests_0 2 rfl rfl)
theorem dX1_rests_5 : decode cX1_rests 5 = .ok (.istore_n 2, 1) := dk_61 (dk_at dksX1_rests_0 5 rfl rfl)
theorem dX1_rests_6 : decode cX1_rests 6 = .ok (.iload_n 2, 1) := dk_28 (dk_at dksX1_rests_0 6 rfl rfl)
theorem dX1_rests_7 : decode cX1_rests 7 = .ok (.ifCond .le 9, 3) := dk_158 0 9 (dk_at dksX1_rests_0 7 rfl rfl)
theorem dX1_rests_10 : decode cX1_rests 10 = .ok (.aload_n 0, 1) := dk_42 (dk_at dksX1_rests_0 10 rfl rfl)
theorem dX1_rests_11 : decode cX1_rests 11 = .ok (.iload_n 2, 1) := dk_28 (dk_at dksX1_rests_0 11 rfl rfl)
theorem dX1_rests_12 : decode cX1_rests 12 = .ok (.invokevirtual 47, 3) := dk_182 0 47 (dk_at dksX1_rests_0 12 rfl rfl)
theorem dX1_rests_15 : decode cX1_rests 15 = .ok (.ireturn, 1) := dk_172 (dk_at dksX1_rests_0 15 rfl rfl)
theorem dX1_rests_16 : decode cX1_rests 16 = .ok (.iconst 0, 1) := dk_3 (dk_at dksX1_rests_0 16 rfl rfl)
theorem dX1_rests_17 : decode cX1_rests 17 = .ok (.istore_n 3, 1) := dk_62 (dk_at dksX1_rests_0 17 rfl rfl)
theorem dX1_rests_18 : decode cX1_rests 18 = .ok (.iconst 0, 1) := dk_3 (dk_at dksX1_rests_0 18 rfl rfl)
theorem dX1_rests_19 : decode cX1_rests 19 = .ok (.istore 4, 2) := dk_54 4 (dk_at dksX1_rests_0 19 rfl rfl)
theorem dX1_rests_21 : decode cX1_rests 21 = .ok (.iload 4, 2) := dk_21 4 (dk_at dksX1_rests_0 21 rfl rfl)
theorem dX1_rests_23 : decode cX1_rests 23 = .ok (.iconst 4, 1) := dk_7 (dk_at dksX1_rests_0 23 rfl rfl)
theorem dX1_rests_24 : decode cX1_rests 24 = .ok (.if_icmp .ge 26, 3) := dk_162 0 26 (dk_at dksX1_rests_1 0 rfl rfl)
theorem dX1_rests_27 : decode cX1_rests 27 = .ok (.iload_n 3, 1) := dk_29 (dk_at dksX1_rests_1 3 rfl rfl)
theorem dX1_rests_28 : decode cX1_rests 28 = .ok (.iload_n 1, 1) := dk_27 (dk_at dksX1_rests_1 4 rfl rfl)
theorem dX1_rests_29 : decode cX1_rests 29 = .ok (.iload 4, 2) := dk_21 4 (dk_at dksX1_rests_1 5 rfl rfl)
theorem dX1_rests_31 : decode cX1_rests 31 = .ok (.invokestatic 361, 3) := dk_184 1 105 (dk_at dksX1_rests_1 7 rfl rfl)
theorem dX1_rests_34 : decode cX1_rests 34 = .ok (.ifCond .eq 7, 3) := dk_153 0 7 (dk_at dksX1_rests_1 10 rfl rfl)
theorem dX1_rests_37 : decode cX1_rests 37 = .ok (.iconst 1, 1) := dk_4 (dk_at dksX1_rests_1 13 rfl rfl)
theorem dX1_rests_38 : decode cX1_rests 38 = .ok (.goto 4, 3) := dk_167 0 4 (dk_at dksX1_rests_1 14 rfl rfl)
theorem dX1_rests_41 : decode cX1_rests 41 = .ok (.iconst 0, 1) := dk_3 (dk_at dksX1_rests_1 17 rfl rfl)
theorem dX1_rests_42 : decode cX1_rests 42 = .ok (.iadd, 1) := dk_96 (dk_at dksX1_rests_1 18 rfl rfl)
theorem dX1_rests_43 : decode cX1_rests 43 = .ok (.istore_n 3, 1) := dk_62 (dk_at dksX1_rests_1 19 rfl rfl)
theorem dX1_rests_44 : decode cX1_rests 44 = .ok (.iinc 4 1, 3) := dk_132 4 1 (dk_at dksX1_rests_1 20 rfl rfl)
theorem dX1_rests_47 : decode cX1_rests 47 = .ok (.goto (-26), 3) := dk_167 255 230 (dk_at dksX1_rests_2 0 rfl rfl)
theorem dX1_rests_50 : decode cX1_rests 50 = .ok (.aload_n 0, 1) := dk_42 (dk_at dksX1_rests_2 3 rfl rfl)
theorem dX1_rests_51 : decode cX1_rests 51 = .ok (.iload_n 3, 1) := dk_29 (dk_at dksX1_rests_2 4 rfl rfl)
theorem dX1_rests_52 : decode cX1_rests 52 = .ok (.invokevirtual 51, 3) := dk_182 0 51 (dk_at dksX1_rests_2 5 rfl rfl)
theorem dX1_rests_55 : decode cX1_rests 55 = .ok (.ireturn, 1) := dk_172 (dk_at dksX1_rests_2 8 rfl rfl)
abbrev cX1_isRest : ByteArray := prog_1_method_82_code
def yX1_isRest : MethodName := ⟨RX1, "isRest", "(II)Z"⟩
def dkwX1_isRest_3 : List UInt8 := [167, 0, 4, 3, 172]
abbrev dktX1_isRest_3 : List UInt8 := dkwX1_isRest_3 ++ []
def dkwX1_isRest_2 : List UInt8 := [29, 154, 0, 7, 4, 167, 0, 4, 3, 28, 184, 1, 101, 26, 29, 28, 184, 1, 101, 163, 0, 7, 4]
abbrev dktX1_isRest_2 : List UInt8 := dkwX1_isRest_2 ++ dktX1_isRest_3
def dkwX1_isRest_1 : List UInt8 := [26, 28, 154, 0, 7, 4, 167, 0, 4, 3, 29, 184, 1, 101, 26, 28, 29, 184, 1, 101, 163, 0, 30, 26]
abbrev dktX1_isRest_1 : List UInt8 := dkwX1_isRest_1 ++ dktX1_isRest_2
def dkwX1_isRest_0 : List UInt8 := [27, 4, 164, 0, 7, 4, 167, 0, 4, 3, 61, 27, 5, 112, 4, 160, 0, 7, 4, 167, 0, 4, 3, 62]
abbrev dktX1_isRest_0 : List UInt8 := dkwX1_isRest_0 ++ dktX1_isRest_1
theorem dksX1_isRest_0 : cX1_isRest.data.toList.drop 0 = dktX1_isRest_0 := by decide +kernel
theorem dksX1_isRest_1 : cX1_isRest.data.toList.drop 24 = dktX1_isRest_1 := dk_seg dksX1_isRest_0 24 rfl rfl
theorem dksX1_isRest_2 : cX1_isRest.data.toList.drop 48 = dktX1_isRest_2 := dk_seg dksX1_isRest_1 24 rfl rfl
theorem dksX1_isRest_3 : cX1_isRest.data.toList.drop 71 = dktX1_isRest_3 := dk_seg dksX1_isRest_2 23 rfl rfl
theorem dX1_isRest_0 : decode cX1_isRest 0 = .ok (.iload_n 1, 1) := dk_27 (dk_at dksX1_isRest_0 0 rfl rfl)
theorem dX1_isRest_1 : decode cX1_isRest 1 = .ok (.iconst 1, 1) := dk_4 (dk_at dksX1_isRest_0 1 rfl rfl)
theorem dX1_isRest_2 : decode cX1_isRest 2 = .ok (.if_icmp .le 7, 3) := dk_164 0 7 (dk_at dksX1_isRest_0 2 rfl rfl)
theorem dX1_isRest_5 : decode cX1_isRest 5 = .ok (.iconst 1, 1) := dk_4 (dk_at dksX1_isRest_0 5 rfl rfl)
theorem dX1_isRest_6 : decode cX1_isRest 6 = .ok (.goto 4, 3) := dk_167 0 4 (dk_at dksX1_isRest_0 6 rfl rfl)
theorem dX1_isRest_9 : decode cX1_isRest 9 = .ok (.iconst 0, 1) := dk_3 (dk_at dksX1_isRest_0 9 rfl rfl)
theorem dX1_isRest_10 : decode cX1_isRest 10 = .ok (.istore_n 2, 1) := dk_61 (dk_at dksX1_isRest_0 10 rfl rfl)
theorem dX1_isRest_11 : decode cX1_isRest 11 = .ok (.iload_n 1, 1) := dk_27 (dk_at dksX1_isRest_0 11 rfl rfl)
theorem dX1_isRest_12 : decode cX1_isRest 12 = .ok (.iconst 2, 1) := dk_5 (dk_at dksX1_isRest_0 12 rfl rfl)
theorem dX1_isRest_13 : decode cX1_isRest 13 = .ok (.irem, 1) := dk_112 (dk_at dksX1_isRest_0 13 rfl rfl)
theorem dX1_isRest_14 : decode cX1_isRest 14 = .ok (.iconst 1, 1) := dk_4 (dk_at dksX1_isRest_0 14 rfl rfl)
theorem dX1_isRest_15 : decode cX1_isRest 15 = .ok (.if_icmp .ne 7, 3) := dk_160 0 7 (dk_at dksX1_isRest_0 15 rfl rfl)
theorem dX1_isRest_18 : decode cX1_isRest 18 = .ok (.iconst 1, 1) := dk_4 (dk_at dksX1_isRest_0 18 rfl rfl)
theorem dX1_isRest_19 : decode cX1_isRest 19 = .ok (.goto 4, 3) := dk_167 0 4 (dk_at dksX1_isRest_0 19 rfl rfl)
theorem dX1_isRest_22 : decode cX1_isRest 22 = .ok (.iconst 0, 1) := dk_3 (dk_at dksX1_isRest_0 22 rfl rfl)
theorem dX1_isRest_23 : decode cX1_isRest 23 = .ok (.istore_n 3, 1) := dk_62 (dk_at dksX1_isRest_0 23 rfl rfl)
theorem dX1_isRest_24 : decode cX1_isRest 24 = .ok (.iload_n 0, 1) := dk_26 (dk_at dksX1_isRest_1 0 rfl rfl)
theorem dX1_isRest_25 : decode cX1_isRest 25 = .ok (.iload_n 2, 1) := dk_28 (dk_at dksX1_isRest_1 1 rfl rfl)
theorem dX1_isRest_26 : decode cX1_isRest 26 = .ok (.ifCond .ne 7, 3) := dk_154 0 7 (dk_at dksX1_isRest_1 2 rfl rfl)
theorem dX1_isRest_29 : decode cX1_isRest 29 = .ok (.iconst 1, 1) := dk_4 (dk_at dksX1_isRest_1 5 rfl rfl)
theorem dX1_isRest_30 : decode cX1_isRest 30 = .ok (.goto 4, 3) := dk_167 0 4 (dk_at dksX1_isRest_1 6 rfl rfl)
theorem dX1_isRest_33 : decode cX1_isRest 33 = .ok (.iconst 0, 1) := dk_3 (dk_at dksX1_isRest_1 9 rfl rfl)
theorem dX1_isRest_34 : decode cX1_isRest 34 = .ok (.iload_n 3, 1) := dk_29 (dk_at dksX1_isRest_1 10 rfl rfl)
theorem dX1_isRest_35 : decode cX1_isRest 35 = .ok (.invokestatic 357, 3) := dk_184 1 101 (dk_at dksX1_isRest_1 11 rfl rfl)
theorem dX1_isRest_38 : decode cX1_isRest 38 = .ok (.iload_n 0, 1) := dk_26 (dk_at dksX1_isRest_1 14 rfl rfl)
theorem dX1_isRest_39 : decode cX1_isRest 39 = .ok (.iload_n 2, 1) := dk_28 (dk_at dksX1_isRest_1 15 rfl rfl)
theorem dX1_isRest_40 : decode cX1_isRest 40 = .ok (.iload_n 3, 1) := dk_29 (dk_at dksX1_isRest_1 16 rfl rfl)
theorem dX1_isRest_41 : decode cX1_isRest 41 = .ok (.invokestatic 357, 3) := dk_184 1 101 (dk_at dksX1_isRest_1 17 rfl rfl)
theorem dX1_isRest_44 : decode cX1_isRest 44 = .ok (.if_icmp .gt 30, 3) := dk_163 0 30 (dk_at dksX1_isRest_1 20 rfl rfl)
theorem dX1_isRest_47 : decode cX1_isRest 47 = .ok (.iload_n 0, 1) := dk_26 (dk_at dksX1_isRest_1 23 rfl rfl)
theorem dX1_isRest_48 : decode cX1_isRest 48 = .ok (.iload_n 3, 1) := dk_29 (dk_at dksX1_isRest_2 0 rfl rfl)
theorem dX1_isRest_49 : decode cX1_isRest 49 = .ok (.ifCond .ne 7, 3) := dk_154 0 7 (dk_at dksX1_isRest_2 1 rfl rfl)
theorem dX1_isRest_52 : decode cX1_isRest 52 = .ok (.iconst 1, 1) := dk_4 (dk_at dksX1_isRest_2 4 rfl rfl)
theorem dX1_isRest_53 : decode cX1_isRest 53 = .ok (.goto 4, 3) := dk_167 0 4 (dk_at dksX1_isRest_2 5 rfl rfl)
theorem dX1_isRest_56 : decode cX1_isRest 56 = .ok (.iconst 0, 1) := dk_3 (dk_at dksX1_isRest_2 8 rfl rfl)
theorem dX1_isRest_57 : decode cX1_isRest 57 = .ok (.iload_n 2, 1) := dk_28 (dk_at dksX1_isRest_2 9 rfl rfl)
theorem dX1_isRest_58 : decode cX1_isRest 58 = .ok (.invokestatic 357, 3) := dk_184 1 101 (dk_at dksX1_isRest_2 10 rfl rfl)
theorem dX1_isRest_61 : decode cX1_isRest 61 = .ok (.iload_n 0, 1) := dk_26 (dk_at dksX1_isRest_2 13 rfl rfl)
theorem dX1_isRest_62 : decode cX1_isRest 62 = .ok (.iload_n 3, 1) := dk_29 (dk_at dksX1_isRest_2 14 rfl rfl)
theorem dX1_isRest_63 : decode cX1_isRest 63 = .ok (.iload_n 2, 1) := dk_28 (dk_at dksX1_isRest_2 15 rfl rfl)
theorem dX1_isRest_64 : decode cX1_isRest 64 = .ok (.invokestatic 357, 3) := dk_184 1 101 (dk_at dksX1_isRest_2 16 rfl rfl)
theorem dX1_isRest_67 : decode cX1_isRest 67 = .ok (.if_icmp .gt 7, 3) := dk_163 0 7 (dk_at dksX1_isRest_2 19 rfl rfl)
theorem dX1_isRest_70 : decode cX1_isRest 70 = .ok (.iconst 1, 1) := dk_4 (dk_at dksX1_isRest_2 22 rfl rfl)
theorem dX1_isRest_71 : decode cX1_isRest 71 = .ok (.goto 4, 3) := dk_167 0 4 (dk_at dksX1_isRest_3 0 rfl rfl)
theorem dX1_isRest_74 : decode cX1_isRest 74 = .ok (.iconst 0, 1) := dk_3 (dk_at dksX1_isRest_3 3 rfl rfl)
theorem dX1_isRest_75 : decode cX1_isRest 75 = .ok (.ireturn, 1) := dk_172 (dk_at dksX1_isRest_3 4 rfl rfl)
abbrev cX1_rest : ByteArray := prog_1_method_84_code
def yX1_rest : MethodName := ⟨RX1, "rest", "(I)I"⟩
def dkwX1_rest_2 : List UInt8 := [132, 3, 1, 167, 255, 225, 42, 16, 254, 182, 0, 51, 172]
abbrev dktX1_rest_2 : List UInt8 := dkwX1_rest_2 ++ []
def dkwX1_rest_1 : List UInt8 := [29, 184, 1, 105, 153, 0, 18, 42, 16, 10, 29, 5, 108, 104, 29, 5, 112, 96, 182, 0, 51, 172]
abbrev dktX1_rest_1 : List UInt8 := dkwX1_rest_1 ++ dktX1_rest_2
def dkwX1_rest_0 : List UInt8 := [42, 27, 182, 1, 95, 61, 28, 158, 0, 9, 42, 28, 182, 0, 47, 172, 3, 62, 29, 7, 162, 0, 32, 27]
abbrev dktX1_rest_0 : List UInt8 := dkwX1_rest_0 ++ dktX1_rest_1
theorem dksX1_rest_0 : cX1_rest.data.toList.drop 0 = dktX1_rest_0 := by decide +kernel
theorem dksX1_rest_1 : cX1_rest.data.toList.drop 24 = dktX1_rest_1 := dk_seg dksX1_rest_0 24 rfl rfl
theorem dksX1_rest_2 : cX1_rest.data.toList.drop 46 = dktX1_rest_2 := dk_seg dksX1_rest_1 22 rfl rfl
theorem dX1_rest_0 : decode cX1_rest 0 = .ok (.aload_n 0, 1) := dk_42 (dk_at dksX1_rest_0 0 rfl rfl)
theorem dX1_rest_1 : decode cX1_rest 1 = .ok (.iload_n 1, 1) := dk_27 (dk_at dksX1_rest_0 1 rfl rfl)
theorem dX1_rest_2 : decode cX1_rest 2 = .ok (.invokevirtual 351, 3) := dk_182 1 95 (dk_at dksX1_rest_0 2 rfl rfl)
theorem dX1_rest_5 : decode cX1_rest 5 = .ok (.istore_n 2, 1) := dk_61 (dk_at dksX1_rest_0 5 rfl rfl)
theorem dX1_rest_6 : decode cX1_rest 6 = .ok (.iload_n 2, 1) := dk_28 (dk_at dksX1_rest_0 6 rfl rfl)
theorem dX1_rest_7 : decode cX1_rest 7 = .ok (.ifCond .le 9, 3) := dk_158 0 9 (dk_at dksX1_rest_0 7 rfl rfl)
theorem dX1_rest_10 : decode cX1_rest 10 = .ok (.aload_n 0, 1) := dk_42 (dk_at dksX1_rest_0 10 rfl rfl)
theorem dX1_rest_11 : decode cX1_rest 11 = .ok (.iload_n 2, 1) := dk_28 (dk_at dksX1_rest_0 11 rfl rfl)
theorem dX1_rest_12 : decode cX1_rest 12 = .ok (.invokevirtual 47, 3) := dk_182 0 47 (dk_at dksX1_rest_0 12 rfl rfl)
theorem dX1_rest_15 : decode cX1_rest 15 = .ok (.ireturn, 1) := dk_172 (dk_at dksX1_rest_0 15 rfl rfl)
theorem dX1_rest_16 : decode cX1_rest 16 = .ok (.iconst 0, 1) := dk_3 (dk_at dksX1_rest_0 16 rfl rfl)
theorem dX1_rest_17 : decode cX1_rest 17 = .ok (.istore_n 3, 1) := dk_62 (dk_at dksX1_rest_0 17 rfl rfl)
theorem dX1_rest_18 : decode cX1_rest 18 = .ok (.iload_n 3, 1) := dk_29 (dk_at dksX1_rest_0 18 rfl rfl)
theorem dX1_rest_19 : decode cX1_rest 19 = .ok (.iconst 4, 1) := dk_7 (dk_at dksX1_rest_0 19 rfl rfl)
theorem dX1_rest_20 : decode cX1_rest 20 = .ok (.if_icmp .ge 32, 3) := dk_162 0 32 (dk_at dksX1_rest_0 20 rfl rfl)
theorem dX1_rest_23 : decode cX1_rest 23 = .ok (.iload_n 1, 1) := dk_27 (dk_at dksX1_rest_0 23 rfl rfl)
theorem dX1_rest_24 : decode cX1_rest 24 = .ok (.iload_n 3, 1) := dk_29 (dk_at dksX1_rest_1 0 rfl rfl)
theorem dX1_rest_25 : decode cX1_rest 25 = .ok (.invokestatic 361, 3) := dk_184 1 105 (dk_at dksX1_rest_1 1 rfl rfl)
theorem dX1_rest_28 : decode cX1_rest 28 = .ok (.ifCond .eq 18, 3) := dk_153 0 18 (dk_at dksX1_rest_1 4 rfl rfl)
theorem dX1_rest_31 : decode cX1_rest 31 = .ok (.aload_n 0, 1) := dk_42 (dk_at dksX1_rest_1 7 rfl rfl)
theorem dX1_rest_32 : decode cX1_rest 32 = .ok (.bipush 10, 2) := dk_16 10 (dk_at dksX1_rest_1 8 rfl rfl)
theorem dX1_rest_34 : decode cX1_rest 34 = .ok (.iload_n 3, 1) := dk_29 (dk_at dksX1_rest_1 10 rfl rfl)
theorem dX1_rest_35 : decode cX1_rest 35 = .ok (.iconst 2, 1) := dk_5 (dk_at dksX1_rest_1 11 rfl rfl)
theorem dX1_rest_36 : decode cX1_rest 36 = .ok (.idiv, 1) := dk_108 (dk_at dksX1_rest_1 12 rfl rfl)
theorem dX1_rest_37 : decode cX1_rest 37 = .ok (.imul, 1) := dk_104 (dk_at dksX1_rest_1 13 rfl rfl)
theorem dX1_rest_38 : decode cX1_rest 38 = .ok (.iload_n 3, 1) := dk_29 (dk_at dksX1_rest_1 14 rfl rfl)
theorem dX1_rest_39 : decode cX1_rest 39 = .ok (.iconst 2, 1) := dk_5 (dk_at dksX1_rest_1 15 rfl rfl)
theorem dX1_rest_40 : decode cX1_rest 40 = .ok (.irem, 1) := dk_112 (dk_at dksX1_rest_1 16 rfl rfl)
theorem dX1_rest_41 : decode cX1_rest 41 = .ok (.iadd, 1) := dk_96 (dk_at dksX1_rest_1 17 rfl rfl)
theorem dX1_rest_42 : decode cX1_rest 42 = .ok (.invokevirtual 51, 3) := dk_182 0 51 (dk_at dksX1_rest_1 18 rfl rfl)
theorem dX1_rest_45 : decode cX1_rest 45 = .ok (.ireturn, 1) := dk_172 (dk_at dksX1_rest_1 21 rfl rfl)
theorem dX1_rest_46 : decode cX1_rest 46 = .ok (.iinc 3 1, 3) := dk_132 3 1 (dk_at dksX1_rest_2 0 rfl rfl)
theorem dX1_rest_49 : decode cX1_rest 49 = .ok (.goto (-31), 3) := dk_167 255 225 (dk_at dksX1_rest_2 3 rfl rfl)
theorem dX1_rest_52 : decode cX1_rest 52 = .ok (.aload_n 0, 1) := dk_42 (dk_at dksX1_rest_2 6 rfl rfl)
theorem dX1_rest_53 : decode cX1_rest 53 = .ok (.bipush (-2), 2) := dk_16 254 (dk_at dksX1_rest_2 7 rfl rfl)
theorem dX1_rest_55 : decode cX1_rest 55 = .ok (.invokevirtual 51, 3) := dk_182 0 51 (dk_at dksX1_rest_2 9 rfl rfl)
theorem dX1_rest_58 : decode cX1_rest 58 = .ok (.ireturn, 1) := dk_172 (dk_at dksX1_rest_2 12 rfl rfl)
abbrev cX1_lasts : ByteArray := prog_1_method_85_code
def yX1_lasts : MethodName := ⟨RX1, "lasts", "(IIZ)J"⟩
def dkwX1_lasts_14 : List UInt8 := [173]
abbrev dktX1_lasts_14 : List UInt8 := dkwX1_lasts_14 ++ []
def dkwX1_lasts_13 : List UInt8 := [180, 0, 34, 21, 12, 47, 97, 55, 10, 132, 12, 1, 167, 255, 231, 42, 22, 10, 22, 7, 29, 182, 1, 91]
abbrev dktX1_lasts_13 : List UInt8 := dkwX1_lasts_13 ++ dktX1_lasts_14
def dkwX1_lasts_12 : List UInt8 := [167, 255, 83, 9, 55, 10, 3, 54, 12, 21, 12, 42, 180, 0, 34, 190, 162, 0, 21, 22, 10, 42]
abbrev dktX1_lasts_12 : List UInt8 := dkwX1_lasts_12 ++ dktX1_lasts_13
def dkwX1_lasts_11 : List UInt8 := [104, 96, 16, 6, 161, 0, 7, 9, 167, 0, 5, 22, 12, 80, 132, 11, 255, 167, 255, 170, 132, 10, 1]
abbrev dktX1_lasts_11 : List UInt8 := dkwX1_lasts_11 ++ dktX1_lasts_12
def dkwX1_lasts_10 : List UInt8 := [133, 105, 167, 0, 4, 9, 97, 55, 12, 42, 180, 0, 34, 21, 11, 42, 21, 9, 182, 0, 218, 5, 21, 11]
abbrev dktX1_lasts_10 : List UInt8 := dkwX1_lasts_10 ++ dktX1_lasts_11
def dkwX1_lasts_9 : List UInt8 := [100, 133, 105, 21, 11, 158, 0, 24, 42, 180, 0, 34, 21, 11, 4, 100, 47, 42, 180, 0, 86, 180, 0, 214]
abbrev dktX1_lasts_9 : List UInt8 := dkwX1_lasts_9 ++ dktX1_lasts_10
def dkwX1_lasts_8 : List UInt8 := [100, 54, 11, 21, 11, 155, 0, 87, 42, 180, 0, 34, 21, 11, 47, 16, 100, 42, 180, 0, 86, 180, 0, 214]
abbrev dktX1_lasts_8 : List UInt8 := dkwX1_lasts_8 ++ dktX1_lasts_9
def dkwX1_lasts_7 : List UInt8 := [180, 0, 185, 120, 2, 130, 126, 128, 54, 9, 22, 7, 20, 1, 108, 105, 55, 7, 42, 180, 0, 34, 190, 4]
abbrev dktX1_lasts_7 : List UInt8 := dkwX1_lasts_7 ++ dktX1_lasts_8
def dkwX1_lasts_6 : List UInt8 := [180, 0, 230, 21, 10, 96, 182, 0, 200, 4, 25, 5, 180, 0, 177, 120, 2, 130, 126, 4, 25, 5]
abbrev dktX1_lasts_6 : List UInt8 := dkwX1_lasts_6 ++ dktX1_lasts_7
def dkwX1_lasts_5 : List UInt8 := [180, 0, 230, 21, 10, 96, 21, 6, 163, 0, 160, 21, 9, 42, 180, 0, 95, 25, 5, 180, 0, 229, 25, 5]
abbrev dktX1_lasts_5 : List UInt8 := dkwX1_lasts_5 ++ dktX1_lasts_6
def dkwX1_lasts_4 : List UInt8 := [167, 0, 4, 9, 80, 132, 10, 1, 167, 255, 226, 3, 54, 10, 21, 10, 28, 162, 0, 173, 25, 5]
abbrev dktX1_lasts_4 : List UInt8 := dkwX1_lasts_4 ++ dktX1_lasts_5
def dkwX1_lasts_3 : List UInt8 := [21, 10, 42, 180, 0, 34, 190, 162, 0, 26, 42, 180, 0, 34, 21, 10, 21, 10, 154, 0, 7, 10]
abbrev dktX1_lasts_3 : List UInt8 := dkwX1_lasts_3 ++ dktX1_lasts_4
def dkwX1_lasts_2 : List UInt8 := [153, 0, 10, 42, 180, 0, 215, 167, 0, 5, 16, 59, 54, 6, 10, 55, 7, 3, 54, 9, 3, 54, 10]
abbrev dktX1_lasts_2 : List UInt8 := dkwX1_lasts_2 ++ dktX1_lasts_3
def dkwX1_lasts_1 : List UInt8 := [182, 0, 47, 133, 173, 42, 180, 0, 86, 27, 182, 0, 173, 58, 5, 42, 27, 182, 1, 32, 184, 1, 42]
abbrev dktX1_lasts_1 : List UInt8 := dkwX1_lasts_1 ++ dktX1_lasts_2
def dkwX1_lasts_0 : List UInt8 := [42, 42, 27, 182, 1, 17, 28, 3, 16, 6, 182, 1, 20, 54, 4, 21, 4, 158, 0, 11, 42, 21, 4]
abbrev dktX1_lasts_0 : List UInt8 := dkwX1_lasts_0 ++ dktX1_lasts_1
theorem dksX1_lasts_0 : cX1_lasts.data.toList.drop 0 = dktX1_lasts_0 := by decide +kernel
theorem dksX1_lasts_1 : cX1_lasts.data.toList.drop 23 = dktX1_lasts_1 := dk_seg dksX1_lasts_0 23 rfl rfl
theorem dksX1_lasts_2 : cX1_lasts.data.toList.drop 46 = dktX1_lasts_2 := dk_seg dksX1_lasts_1 23 rfl rfl
theorem dksX1_lasts_3 : cX1_lasts.data.toList.drop 69 = dktX1_lasts_3 := dk_seg dksX1_lasts_2 23 rfl rfl
theorem dksX1_lasts_4 : cX1_lasts.data.toList.drop 91 = dktX1_lasts_4 := dk_seg dksX1_lasts_3 22 rfl rfl
theorem dksX1_lasts_5 : cX1_lasts.data.toList.drop 113 = dktX1_lasts_5 := dk_seg dksX1_lasts_4 22 rfl rfl
theorem dksX1_lasts_6 : cX1_lasts.data.toList.drop 137 = dktX1_lasts_6 := dk_seg dksX1_lasts_5 24 rfl rfl
theorem dksX1_lasts_7 : cX1_lasts.data.toList.drop 159 = dktX1_lasts_7 := dk_seg dksX1_lasts_6 22 rfl rfl
theorem dksX1_lasts_8 : cX1_lasts.data.toList.drop 183 = dktX1_lasts_8 := dk_seg dksX1_lasts_7 24 rfl rfl
theorem dksX1_lasts_9 : cX1_lasts.data.toList.drop 207 = dktX1_lasts_9 := dk_seg dksX1_lasts_8 24 rfl rfl
theorem dksX1_lasts_10 : cX1_lasts.data.toList.drop 231 = dktX1_lasts_10 := dk_seg dksX1_lasts_9 24 rfl rfl
theorem dksX1_lasts_11 : cX1_lasts.data.toList.drop 255 = dktX1_lasts_11 := dk_seg dksX1_lasts_10 24 rfl rfl
theorem dksX1_lasts_12 : cX1_lasts.data.toList.drop 278 = dktX1_lasts_12 := dk_seg dksX1_lasts_11 23 rfl rfl
theorem dksX1_lasts_13 : cX1_lasts.data.toList.drop 300 = dktX1_lasts_13 := dk_seg dksX1_lasts_12 22 rfl rfl
theorem dksX1_lasts_14 : cX1_lasts.data.toList.drop 324 = dktX1_lasts_14 := dk_seg dksX1_lasts_13 24 rfl rfl
theorem dX1_lasts_0 : decode cX1_lasts 0 = .ok (.aload_n 0, 1) := dk_42 (dk_at dksX1_lasts_0 0 rfl rfl)
theorem dX1_lasts_1 : decode cX1_lasts 1 = .ok (.aload_n 0, 1) := dk_42 (dk_at dksX1_lasts_0 1 rfl rfl)
theorem dX1_lasts_2 : decode cX1_lasts 2 = .ok (.iload_n 1, 1) := dk_27 (dk_at dksX1_lasts_0 2 rfl rfl)
theorem dX1_lasts_3 : decode cX1_lasts 3 = .ok (.invokevirtual 273, 3) := dk_182 1 17 (dk_at dksX1_lasts_0 3 rfl rfl)
theorem dX1_lasts_6 : decode cX1_lasts 6 = .ok (.iload_n 2, 1) := dk_28 (dk_at dksX1_lasts_0 6 rfl rfl)
theorem dX1_lasts_7 : decode cX1_lasts 7 = .ok (.iconst 0, 1) := dk_3 (dk_at dksX1_lasts_0 7 rfl rfl)
theorem dX1_lasts_8 : decode cX1_lasts 8 = .ok (.bipush 6, 2) := dk_16 6 (dk_at dksX1_lasts_0 8 rfl rfl)
theorem dX1_lasts_10 : decode cX1_lasts 10 = .ok (.invokevirtual 276, 3) := dk_182 1 20 (dk_at dksX1_lasts_0 10 rfl rfl)
theorem dX1_lasts_13 : decode cX1_lasts 13 = .ok (.istore 4, 2) := dk_54 4 (dk_at dksX1_lasts_0 13 rfl rfl)
theorem dX1_lasts_15 : decode cX1_lasts 15 = .ok (.iload 4, 2) := dk_21 4 (dk_at dksX1_lasts_0 15 rfl rfl)
theorem dX1_lasts_17 : decode cX1_lasts 17 = .ok (.ifCond .le 11, 3) := dk_158 0 11 (dk_at dksX1_lasts_0 17 rfl rfl)
theorem dX1_lasts_20 : decode cX1_lasts 20 = .ok (.aload_n 0, 1) := dk_42 (dk_at dksX1_lasts_0 20 rfl rfl)
theorem dX1_lasts_21 : decode cX1_lasts 21 = .ok (.iload 4, 2) := dk_21 4 (dk_at dksX1_lasts_0 21 rfl rfl)
theorem dX1_lasts_23 : decode cX1_lasts 23 = .ok (.invokevirtual 47, 3) := dk_182 0 47 (dk_at dksX1_lasts_1 0 rfl rfl)
theorem dX1_lasts_26 : decode cX1_lasts 26 = .ok (.i2l, 1) := dk_133 (dk_at dksX1_lasts_1 3 rfl rfl)
theorem dX1_lasts_27 : decode cX1_lasts 27 = .ok (.lreturn, 1) := dk_173 (dk_at dksX1_lasts_1 4 rfl rfl)
theorem dX1_lasts_28 : decode cX1_lasts 28 = .ok (.aload_n 0, 1) := dk_42 (dk_at dksX1_lasts_1 5 rfl rfl)
theorem dX1_lasts_29 : decode cX1_lasts 29 = .ok (.getfield 86, 3) := dk_180 0 86 (dk_at dksX1_lasts_1 6 rfl rfl)
theorem dX1_lasts_32 : decode cX1_lasts 32 = .ok (.iload_n 1, 1) := dk_27 (dk_at dksX1_lasts_1 9 rfl rfl)
theorem dX1_lasts_33 : decode cX1_lasts 33 = .ok (.invokevirtual 173, 3) := dk_182 0 173 (dk_at dksX1_lasts_1 10 rfl rfl)
theorem dX1_lasts_36 : decode cX1_lasts 36 = .ok (.astore 5, 2) := dk_58 5 (dk_at dksX1_lasts_1 13 rfl rfl)
theorem dX1_lasts_38 : decode cX1_lasts 38 = .ok (.aload_n 0, 1) := dk_42 (dk_at dksX1_lasts_1 15 rfl rfl)
theorem dX1_lasts_39 : decode cX1_lasts 39 = .ok (.iload_n 1, 1) := dk_27 (dk_at dksX1_lasts_1 16 rfl rfl)
theorem dX1_lasts_40 : decode cX1_lasts 40 = .ok (.invokevirtual 288, 3) := dk_182 1 32 (dk_at dksX1_lasts_1 17 rfl rfl)
theorem dX1_lasts_43 : decode cX1_lasts 43 = .ok (.invokestatic 298, 3) := dk_184 1 42 (dk_at dksX1_lasts_1 20 rfl rfl)
theorem dX1_lasts_46 : decode cX1_lasts 46 = .ok (.ifCond .eq 10, 3) := dk_153 0 10 (dk_at dksX1_lasts_2 0 rfl rfl)
theorem dX1_lasts_49 : decode cX1_lasts 49 = .ok (.aload_n 0, 1) := dk_42 (dk_at dksX1_lasts_2 3 rfl rfl)
theorem dX1_lasts_50 : decode cX1_lasts 50 = .ok (.getfield 215, 3) := dk_180 0 215 (dk_at dksX1_lasts_2 4 rfl rfl)
theorem dX1_lasts_53 : decode cX1_lasts 53 = .ok (.goto 5, 3) := dk_167 0 5 (dk_at dksX1_lasts_2 7 rfl rfl)
theorem dX1_lasts_56 : decode cX1_lasts 56 = .ok (.bipush 59, 2) := dk_16 59 (dk_at dksX1_lasts_2 10 rfl rfl)
theorem dX1_lasts_58 : decode cX1_lasts 58 = .ok (.istore 6, 2) := dk_54 6 (dk_at dksX1_lasts_2 12 rfl rfl)
theorem dX1_lasts_60 : decode cX1_lasts 60 = .ok (.lconst 1, 1) := dk_10 (dk_at dksX1_lasts_2 14 rfl rfl)
theorem dX1_lasts_61 : decode cX1_lasts 61 = .ok (.lstore 7, 2) := dk_55 7 (dk_at dksX1_lasts_2 15 rfl rfl)
theorem dX1_lasts_63 : decode cX1_lasts 63 = .ok (.iconst 0, 1) := dk_3 (dk_at dksX1_lasts_2 17 rfl rfl)
theorem dX1_lasts_64 : decode cX1_lasts 64 = .ok (.istore 9, 2) := dk_54 9 (dk_at dksX1_lasts_2 18 rfl rfl)
theorem dX1_lasts_66 : decode cX1_lasts 66 = .ok (.iconst 0, 1) := dk_3 (dk_at dksX1_lasts_2 20 rfl rfl)
theorem dX1_lasts_67 : decode cX1_lasts 67 = .ok (.istore 10, 2) := dk_54 10 (dk_at dksX1_lasts_2 21 rfl rfl)
theorem dX1_lasts_69 : decode cX1_lasts 69 = .ok (.iload 10, 2) := dk_21 10 (dk_at dksX1_lasts_3 0 rfl rfl)
theorem dX1_lasts_71 : decode cX1_lasts 71 = .ok (.aload_n 0, 1) := dk_42 (dk_at dksX1_lasts_3 2 rfl rfl)
theorem dX1_lasts_72 : decode cX1_lasts 72 = .ok (.getfield 34, 3) := dk_180 0 34 (dk_at dksX1_lasts_3 3 rfl rfl)
theorem dX1_lasts_75 : decode cX1_lasts 75 = .ok (.arraylength, 1) := dk_190 (dk_at dksX1_lasts_3 6 rfl rfl)
theorem dX1_lasts_76 : decode cX1_lasts 76 = .ok (.if_icmp .ge 26, 3) := dk_162 0 26 (dk_at dksX1_lasts_3 7 rfl rfl)
theorem dX1_lasts_79 : decode cX1_lasts 79 = .ok (.aload_n 0, 1) := dk_42 (dk_at dksX1_lasts_3 10 rfl rfl)
theorem dX1_lasts_80 : decode cX1_lasts 80 = .ok (.getfield 34, 3) := dk_180 0 34 (dk_at dksX1_lasts_3 11 rfl rfl)
theorem dX1_lasts_83 : decode cX1_lasts 83 = .ok (.iload 10, 2) := dk_21 10 (dk_at dksX1_lasts_3 14 rfl rfl)
theorem dX1_lasts_85 : decode cX1_lasts 85 = .ok (.iload 10, 2) := dk_21 10 (dk_at dksX1_lasts_3 16 rfl rfl)
theorem dX1_lasts_87 : decode cX1_lasts 87 = .ok (.ifCond .ne 7, 3) := dk_154 0 7 (dk_at dksX1_lasts_3 18 rfl rfl)
theorem dX1_lasts_90 : decode cX1_lasts 90 = .ok (.lconst 1, 1) := dk_10 (dk_at dksX1_lasts_3 21 rfl rfl)
theorem dX1_lasts_91 : decode cX1_lasts 91 = .ok (.goto 4, 3) := dk_167 0 4 (dk_at dksX1_lasts_4 0 rfl rfl)
theorem dX1_lasts_94 : decode cX1_lasts 94 = .ok (.lconst 0, 1) := dk_9 (dk_at dksX1_lasts_4 3 rfl rfl)
theorem dX1_lasts_95 : decode cX1_lasts 95 = .ok (.lastore, 1) := dk_80 (dk_at dksX1_lasts_4 4 rfl rfl)
theorem dX1_lasts_96 : decode cX1_lasts 96 = .ok (.iinc 10 1, 3) := dk_132 10 1 (dk_at dksX1_lasts_4 5 rfl rfl)
theorem dX1_lasts_99 : decode cX1_lasts 99 = .ok (.goto (-30), 3) := dk_167 255 226 (dk_at dksX1_lasts_4 8 rfl rfl)
theorem dX1_lasts_102 : decode cX1_lasts 102 = .ok (.iconst 0, 1) := dk_3 (dk_at dksX1_lasts_4 11 rfl rfl)
theorem dX1_lasts_103 : decode cX1_lasts 103 = .ok (.istore 10, 2) := dk_54 10 (dk_at dksX1_lasts_4 12 rfl rfl)
theorem dX1_lasts_105 : decode cX1_lasts 105 = .ok (.iload 10, 2) := dk_21 10 (dk_at dksX1_lasts_4 14 rfl rfl)
theorem dX1_lasts_107 : decode cX1_lasts 107 = .ok (.iload_n 2, 1) := dk_28 (dk_at dksX1_lasts_4 16 rfl rfl)
theorem dX1_lasts_108 : decode cX1_lasts 108 = .ok (.if_icmp .ge 173, 3) := dk_162 0 173 (dk_at dksX1_lasts_4 17 rfl rfl)
theorem dX1_lasts_111 : decode cX1_lasts 111 = .ok (.aload 5, 2) := dk_25 5 (dk_at dksX1_lasts_4 20 rfl rfl)
theorem dX1_lasts_113 : decode cX1_lasts 113 = .ok (.getfield 230, 3) := dk_180 0 230 (dk_at dksX1_lasts_5 0 rfl rfl)
theorem dX1_lasts_116 : decode cX1_lasts 116 = .ok (.iload 10, 2) := dk_21 10 (dk_at dksX1_lasts_5 3 rfl rfl)
theorem dX1_lasts_118 : decode cX1_lasts 118 = .ok (.iadd, 1) := dk_96 (dk_at dksX1_lasts_5 5 rfl rfl)
theorem dX1_lasts_119 : decode cX1_lasts 119 = .ok (.iload 6, 2) := dk_21 6 (dk_at dksX1_lasts_5 6 rfl rfl)
theorem dX1_lasts_121 : decode cX1_lasts 121 = .ok (.if_icmp .gt 160, 3) := dk_163 0 160 (dk_at dksX1_lasts_5 8 rfl rfl)
theorem dX1_lasts_124 : decode cX1_lasts 124 = .ok (.iload 9, 2) := dk_21 9 (dk_at dksX1_lasts_5 11 rfl rfl)
theorem dX1_lasts_126 : decode cX1_lasts 126 = .ok (.aload_n 0, 1) := dk_42 (dk_at dksX1_lasts_5 13 rfl rfl)
theorem dX1_lasts_127 : decode cX1_lasts 127 = .ok (.getfield 95, 3) := dk_180 0 95 (dk_at dksX1_lasts_5 14 rfl rfl)
theorem dX1_lasts_130 : decode cX1_lasts 130 = .ok (.aload 5, 2) := dk_25 5 (dk_at dksX1_lasts_5 17 rfl rfl)
theorem dX1_lasts_132 : decode cX1_lasts 132 = .ok (.getfield 229, 3) := dk_180 0 229 (dk_at dksX1_lasts_5 19 rfl rfl)
theorem dX1_lasts_135 : decode cX1_lasts 135 = .ok (.aload 5, 2) := dk_25 5 (dk_at dksX1_lasts_5 22 rfl rfl)
theorem dX1_lasts_137 : decode cX1_lasts 137 = .ok (.getfield 230, 3) := dk_180 0 230 (dk_at dksX1_lasts_6 0 rfl rfl)
theorem dX1_lasts_140 : decode cX1_lasts 140 = .ok (.iload 10, 2) := dk_21 10 (dk_at dksX1_lasts_6 3 rfl rfl)
theorem dX1_lasts_142 : decode cX1_lasts 142 = .ok (.iadd, 1) := dk_96 (dk_at dksX1_lasts_6 5 rfl rfl)
theorem dX1_lasts_143 : decode cX1_lasts 143 = .ok (.invokevirtual 200, 3) := dk_182 0 200 (dk_at dksX1_lasts_6 6 rfl rfl)
theorem dX1_lasts_146 : decode cX1_lasts 146 = .ok (.iconst 1, 1) := dk_4 (dk_at dksX1_lasts_6 9 rfl rfl)
theorem dX1_lasts_147 : decode cX1_lasts 147 = .ok (.aload 5, 2) := dk_25 5 (dk_at dksX1_lasts_6 10 rfl rfl)
theorem dX1_lasts_149 : decode cX1_lasts 149 = .ok (.getfield 177, 3) := dk_180 0 177 (dk_at dksX1_lasts_6 12 rfl rfl)
theorem dX1_lasts_152 : decode cX1_lasts 152 = .ok (.ishl, 1) := dk_120 (dk_at dksX1_lasts_6 15 rfl rfl)
theorem dX1_lasts_153 : decode cX1_lasts 153 = .ok (.iconst (-1), 1) := dk_2 (dk_at dksX1_lasts_6 16 rfl rfl)
theorem dX1_lasts_154 : decode cX1_lasts 154 = .ok (.ixor, 1) := dk_130 (dk_at dksX1_lasts_6 17 rfl rfl)
theorem dX1_lasts_155 : decode cX1_lasts 155 = .ok (.iand, 1) := dk_126 (dk_at dksX1_lasts_6 18 rfl rfl)
theorem dX1_lasts_156 : decode cX1_lasts 156 = .ok (.iconst 1, 1) := dk_4 (dk_at dksX1_lasts_6 19 rfl rfl)
theorem dX1_lasts_157 : decode cX1_lasts 157 = .ok (.aload 5, 2) := dk_25 5 (dk_at dksX1_lasts_6 20 rfl rfl)
theorem dX1_lasts_159 : decode cX1_lasts 159 = .ok (.getfield 185, 3) := dk_180 0 185 (dk_at dksX1_lasts_7 0 rfl rfl)
theorem dX1_lasts_162 : decode cX1_lasts 162 = .ok (.ishl, 1) := dk_120 (dk_at dksX1_lasts_7 3 rfl rfl)
theorem dX1_lasts_163 : decode cX1_lasts 163 = .ok (.iconst (-1), 1) := dk_2 (dk_at dksX1_lasts_7 4 rfl rfl)
theorem dX1_lasts_164 : decode cX1_lasts 164 = .ok (.ixor, 1) := dk_130 (dk_at dksX1_lasts_7 5 rfl rfl)
theorem dX1_lasts_165 : decode cX1_lasts 165 = .ok (.iand, 1) := dk_126 (dk_at dksX1_lasts_7 6 rfl rfl)
theorem dX1_lasts_166 : decode cX1_lasts 166 = .ok (.ior, 1) := dk_128 (dk_at dksX1_lasts_7 7 rfl rfl)
theorem dX1_lasts_167 : decode cX1_lasts 167 = .ok (.istore 9, 2) := dk_54 9 (dk_at dksX1_lasts_7 8 rfl rfl)
theorem dX1_lasts_169 : decode cX1_lasts 169 = .ok (.lload 7, 2) := dk_22 7 (dk_at dksX1_lasts_7 10 rfl rfl)
theorem dX1_lasts_171 : decode cX1_lasts 171 = .ok (.ldc2_w 364, 3) := dk_20 1 108 (dk_at dksX1_lasts_7 12 rfl rfl)
theorem dX1_lasts_174 : decode cX1_lasts 174 = .ok (.lmul, 1) := dk_105 (dk_at dksX1_lasts_7 15 rfl rfl)
theorem dX1_lasts_175 : decode cX1_lasts 175 = .ok (.lstore 7, 2) := dk_55 7 (dk_at dksX1_lasts_7 16 rfl rfl)
theorem dX1_lasts_177 : decode cX1_lasts 177 = .ok (.aload_n 0, 1) := dk_42 (dk_at dksX1_lasts_7 18 rfl rfl)
theorem dX1_lasts_178 : decode cX1_lasts 178 = .ok (.getfield 34, 3) := dk_180 0 34 (dk_at dksX1_lasts_7 19 rfl rfl)
theorem dX1_lasts_181 : decode cX1_lasts 181 = .ok (.arraylength, 1) := dk_190 (dk_at dksX1_lasts_7 22 rfl rfl)
theorem dX1_lasts_182 : decode cX1_lasts 182 = .ok (.iconst 1, 1) := dk_4 (dk_at dksX1_lasts_7 23 rfl rfl)
theorem dX1_lasts_183 : decode cX1_lasts 183 = .ok (.isub, 1) := dk_100 (dk_at dksX1_lasts_8 0 rfl rfl)
theorem dX1_lasts_184 : decode cX1_lasts 184 = .ok (.istore 11, 2) := dk_54 11 (dk_at dksX1_lasts_8 1 rfl rfl)
theorem dX1_lasts_186 : decode cX1_lasts 186 = .ok (.iload 11, 2) := dk_21 11 (dk_at dksX1_lasts_8 3 rfl rfl)
theorem dX1_lasts_188 : decode cX1_lasts 188 = .ok (.ifCond .lt 87, 3) := dk_155 0 87 (dk_at dksX1_lasts_8 5 rfl rfl)
theorem dX1_lasts_191 : decode cX1_lasts 191 = .ok (.aload_n 0, 1) := dk_42 (dk_at dksX1_lasts_8 8 rfl rfl)
theorem dX1_lasts_192 : decode cX1_lasts 192 = .ok (.getfield 34, 3) := dk_180 0 34 (dk_at dksX1_lasts_8 9 rfl rfl)
theorem dX1_lasts_195 : decode cX1_lasts 195 = .ok (.iload 11, 2) := dk_21 11 (dk_at dksX1_lasts_8 12 rfl rfl)
theorem dX1_lasts_197 : decode cX1_lasts 197 = .ok (.laload, 1) := dk_47 (dk_at dksX1_lasts_8 14 rfl rfl)
theorem dX1_lasts_198 : decode cX1_lasts 198 = .ok (.bipush 100, 2) := dk_16 100 (dk_at dksX1_lasts_8 15 rfl rfl)
theorem dX1_lasts_200 : decode cX1_lasts 200 = .ok (.aload_n 0, 1) := dk_42 (dk_at dksX1_lasts_8 17 rfl rfl)
theorem dX1_lasts_201 : decode cX1_lasts 201 = .ok (.getfield 86, 3) := dk_180 0 86 (dk_at dksX1_lasts_8 18 rfl rfl)
theorem dX1_lasts_204 : decode cX1_lasts 204 = .ok (.getfield 214, 3) := dk_180 0 214 (dk_at dksX1_lasts_8 21 rfl rfl)
theorem dX1_lasts_207 : decode cX1_lasts 207 = .ok (.isub, 1) := dk_100 (dk_at dksX1_lasts_9 0 rfl rfl)
theorem dX1_lasts_208 : decode cX1_lasts 208 = .ok (.i2l, 1) := dk_133 (dk_at dksX1_lasts_9 1 rfl rfl)
theorem dX1_lasts_209 : decode cX1_lasts 209 = .ok (.lmul, 1) := dk_105 (dk_at dksX1_lasts_9 2 rfl rfl)
theorem dX1_lasts_210 : decode cX1_lasts 210 = .ok (.iload 11, 2) := dk_21 11 (dk_at dksX1_lasts_9 3 rfl rfl)
theorem dX1_lasts_212 : decode cX1_lasts 212 = .ok (.ifCond .le 24, 3) := dk_158 0 24 (dk_at dksX1_lasts_9 5 rfl rfl)
theorem dX1_lasts_215 : decode cX1_lasts 215 = .ok (.aload_n 0, 1) := dk_42 (dk_at dksX1_lasts_9 8 rfl rfl)
theorem dX1_lasts_216 : decode cX1_lasts 216 = .ok (.getfield 34, 3) := dk_180 0 34 (dk_at dksX1_lasts_9 9 rfl rfl)
theorem dX1_lasts_219 : decode cX1_lasts 219 = .ok (.iload 11, 2) := dk_21 11 (dk_at dksX1_lasts_9 12 rfl rfl)
theorem dX1_lasts_221 : decode cX1_lasts 221 = .ok (.iconst 1, 1) := dk_4 (dk_at dksX1_lasts_9 14 rfl rfl)
theorem dX1_lasts_222 : decode cX1_lasts 222 = .ok (.isub, 1) := dk_100 (dk_at dksX1_lasts_9 15 rfl rfl)
theorem dX1_lasts_223 : decode cX1_lasts 223 = .ok (.laload, 1) := dk_47 (dk_at dksX1_lasts_9 16 rfl rfl)
theorem dX1_lasts_224 : decode cX1_lasts 224 = .ok (.aload_n 0, 1) := dk_42 (dk_at dksX1_lasts_9 17 rfl rfl)
theorem dX1_lasts_225 : decode cX1_lasts 225 = .ok (.getfield 86, 3) := dk_180 0 86 (dk_at dksX1_lasts_9 18 rfl rfl)
theorem dX1_lasts_228 : decode cX1_lasts 228 = .ok (.getfield 214, 3) := dk_180 0 214 (dk_at dksX1_lasts_9 21 rfl rfl)
theorem dX1_lasts_231 : decode cX1_lasts 231 = .ok (.i2l, 1) := dk_133 (dk_at dksX1_lasts_10 0 rfl rfl)
theorem dX1_lasts_232 : decode cX1_lasts 232 = .ok (.lmul, 1) := dk_105 (dk_at dksX1_lasts_10 1 rfl rfl)
theorem dX1_lasts_233 : decode cX1_lasts 233 = .ok (.goto 4, 3) := dk_167 0 4 (dk_at dksX1_lasts_10 2 rfl rfl)
theorem dX1_lasts_236 : decode cX1_lasts 236 = .ok (.lconst 0, 1) := dk_9 (dk_at dksX1_lasts_10 5 rfl rfl)
theorem dX1_lasts_237 : decode cX1_lasts 237 = .ok (.ladd, 1) := dk_97 (dk_at dksX1_lasts_10 6 rfl rfl)
theorem dX1_lasts_238 : decode cX1_lasts 238 = .ok (.lstore 12, 2) := dk_55 12 (dk_at dksX1_lasts_10 7 rfl rfl)
theorem dX1_lasts_240 : decode cX1_lasts 240 = .ok (.aload_n 0, 1) := dk_42 (dk_at dksX1_lasts_10 9 rfl rfl)
theorem dX1_lasts_241 : decode cX1_lasts 241 = .ok (.getfield 34, 3) := dk_180 0 34 (dk_at dksX1_lasts_10 10 rfl rfl)
theorem dX1_lasts_244 : decode cX1_lasts 244 = .ok (.iload 11, 2) := dk_21 11 (dk_at dksX1_lasts_10 13 rfl rfl)
theorem dX1_lasts_246 : decode cX1_lasts 246 = .ok (.aload_n 0, 1) := dk_42 (dk_at dksX1_lasts_10 15 rfl rfl)
theorem dX1_lasts_247 : decode cX1_lasts 247 = .ok (.iload 9, 2) := dk_21 9 (dk_at dksX1_lasts_10 16 rfl rfl)
theorem dX1_lasts_249 : decode cX1_lasts 249 = .ok (.invokevirtual 218, 3) := dk_182 0 218 (dk_at dksX1_lasts_10 18 rfl rfl)
theorem dX1_lasts_252 : decode cX1_lasts 252 = .ok (.iconst 2, 1) := dk_5 (dk_at dksX1_lasts_10 21 rfl rfl)
theorem dX1_lasts_253 : decode cX1_lasts 253 = .ok (.iload 11, 2) := dk_21 11 (dk_at dksX1_lasts_10 22 rfl rfl)
theorem dX1_lasts_255 : decode cX1_lasts 255 = .ok (.imul, 1) := dk_104 (dk_at dksX1_lasts_11 0 rfl rfl)
theorem dX1_lasts_256 : decode cX1_lasts 256 = .ok (.iadd, 1) := dk_96 (dk_at dksX1_lasts_11 1 rfl rfl)
theorem dX1_lasts_257 : decode cX1_lasts 257 = .ok (.bipush 6, 2) := dk_16 6 (dk_at dksX1_lasts_11 2 rfl rfl)
theorem dX1_lasts_259 : decode cX1_lasts 259 = .ok (.if_icmp .lt 7, 3) := dk_161 0 7 (dk_at dksX1_lasts_11 4 rfl rfl)
theorem dX1_lasts_262 : decode cX1_lasts 262 = .ok (.lconst 0, 1) := dk_9 (dk_at dksX1_lasts_11 7 rfl rfl)
theorem dX1_lasts_263 : decode cX1_lasts 263 = .ok (.goto 5, 3) := dk_167 0 5 (dk_at dksX1_lasts_11 8 rfl rfl)
theorem dX1_lasts_266 : decode cX1_lasts 266 = .ok (.lload 12, 2) := dk_22 12 (dk_at dksX1_lasts_11 11 rfl rfl)
theorem dX1_lasts_268 : decode cX1_lasts 268 = .ok (.lastore, 1) := dk_80 (dk_at dksX1_lasts_11 13 rfl rfl)
theorem dX1_lasts_269 : decode cX1_lasts 269 = .ok (.iinc 11 (-1), 3) := dk_132 11 255 (dk_at dksX1_lasts_11 14 rfl rfl)
theorem dX1_lasts_272 : decode cX1_lasts 272 = .ok (.goto (-86), 3) := dk_167 255 170 (dk_at dksX1_lasts_11 17 rfl rfl)
theorem dX1_lasts_275 : decode cX1_lasts 275 = .ok (.iinc 10 1, 3) := dk_132 10 1 (dk_at dksX1_lasts_11 20 rfl rfl)
theorem dX1_lasts_278 : decode cX1_lasts 278 = .ok (.goto (-173), 3) := dk_167 255 83 (dk_at dksX1_lasts_12 0 rfl rfl)
theorem dX1_lasts_281 : decode cX1_lasts 281 = .ok (.lconst 0, 1) := dk_9 (dk_at dksX1_lasts_12 3 rfl rfl)
theorem dX1_lasts_282 : decode cX1_lasts 282 = .ok (.lstore 10, 2) := dk_55 10 (dk_at dksX1_lasts_12 4 rfl rfl)
theorem dX1_lasts_284 : decode cX1_lasts 284 = .ok (.iconst 0, 1) := dk_3 (dk_at dksX1_lasts_12 6 rfl rfl)
theorem dX1_lasts_285 : decode cX1_lasts 285 = .ok (.istore 12, 2) := dk_54 12 (dk_at dksX1_lasts_12 7 rfl rfl)
theorem dX1_lasts_287 : decode cX1_lasts 287 = .ok (.iload 12, 2) := dk_21 12 (dk_at dksX1_lasts_12 9 rfl rfl)
theorem dX1_lasts_289 : decode cX1_lasts 289 = .ok (.aload_n 0, 1) := dk_42 (dk_at dksX1_lasts_12 11 rfl rfl)
theorem dX1_lasts_290 : decode cX1_lasts 290 = .ok (.getfield 34, 3) := dk_180 0 34 (dk_at dksX1_lasts_12 12 rfl rfl)
theorem dX1_lasts_293 : decode cX1_lasts 293 = .ok (.arraylength, 1) := dk_190 (dk_at dksX1_lasts_12 15 rfl rfl)
theorem dX1_lasts_294 : decode cX1_lasts 294 = .ok (.if_icmp .ge 21, 3) := dk_162 0 21 (dk_at dksX1_lasts_12 16 rfl rfl)
theorem dX1_lasts_297 : decode cX1_lasts 297 = .ok (.lload 10, 2) := dk_22 10 (dk_at dksX1_lasts_12 19 rfl rfl)
theorem dX1_lasts_299 : decode cX1_lasts 299 = .ok (.aload_n 0, 1) := dk_42 (dk_at dksX1_lasts_12 21 rfl rfl)
theorem dX1_lasts_300 : decode cX1_lasts 300 = .ok (.getfield 34, 3) := dk_180 0 34 (dk_at dksX1_lasts_13 0 rfl rfl)
theorem dX1_lasts_303 : decode cX1_lasts 303 = .ok (.iload 12, 2) := dk_21 12 (dk_at dksX1_lasts_13 3 rfl rfl)
theorem dX1_lasts_305 : decode cX1_lasts 305 = .ok (.laload, 1) := dk_47 (dk_at dksX1_lasts_13 5 rfl rfl)
theorem dX1_lasts_306 : decode cX1_lasts 306 = .ok (.ladd, 1) := dk_97 (dk_at dksX1_lasts_13 6 rfl rfl)
theorem dX1_lasts_307 : decode cX1_lasts 307 = .ok (.lstore 10, 2) := dk_55 10 (dk_at dksX1_lasts_13 7 rfl rfl)
theorem dX1_lasts_309 : decode cX1_lasts 309 = .ok (.iinc 12 1, 3) := dk_132 12 1 (dk_at dksX1_lasts_13 9 rfl rfl)
theorem dX1_lasts_312 : decode cX1_lasts 312 = .ok (.goto (-25), 3) := dk_167 255 231 (dk_at dksX1_lasts_13 12 rfl rfl)
theorem dX1_lasts_315 : decode cX1_lasts 315 = .ok (.aload_n 0, 1) := dk_42 (dk_at dksX1_lasts_13 15 rfl rfl)
theorem dX1_lasts_316 : decode cX1_lasts 316 = .ok (.lload 10, 2) := dk_22 10 (dk_at dksX1_lasts_13 16 rfl rfl)
theorem dX1_lasts_318 : decode cX1_lasts 318 = .ok (.lload 7, 2) := dk_22 7 (dk_at dksX1_lasts_13 18 rfl rfl)
theorem dX1_lasts_320 : decode cX1_lasts 320 = .ok (.iload_n 3, 1) := dk_29 (dk_at dksX1_lasts_13 20 rfl rfl)
theorem dX1_lasts_321 : decode cX1_lasts 321 = .ok (.invokevirtual 347, 3) := dk_182 1 91 (dk_at dksX1_lasts_13 21 rfl rfl)
theorem dX1_lasts_324 : decode cX1_lasts 324 = .ok (.lreturn, 1) := dk_173 (dk_at dksX1_lasts_14 0 rfl rfl)
abbrev cX1_endsBy : ByteArray := prog_1_method_88_code
def yX1_endsBy : MethodName := ⟨RX1, "endsBy", "(II)I"⟩
def dkwX1_endsBy_1 : List UInt8 := [27, 182, 1, 114, 182, 0, 51, 172]
abbrev dktX1_endsBy_1 : List UInt8 := dkwX1_endsBy_1 ++ []
def dkwX1_endsBy_0 : List UInt8 := [42, 27, 28, 182, 1, 111, 62, 29, 158, 0, 9, 42, 29, 182, 0, 47, 172, 42, 28, 181, 0, 208, 42, 42]
abbrev dktX1_endsBy_0 : List UInt8 := dkwX1_endsBy_0 ++ dktX1_endsBy_1
theorem dksX1_endsBy_0 : cX1_endsBy.data.toList.drop 0 = dktX1_endsBy_0 := by decide +kernel
theorem dksX1_endsBy_1 : cX1_endsBy.data.toList.drop 24 = dktX1_endsBy_1 := dk_seg dksX1_endsBy_0 24 rfl rfl
theorem dX1_endsBy_0 : decode cX1_endsBy 0 = .ok (.aload_n 0, 1) := dk_42 (dk_at dksX1_endsBy_0 0 rfl rfl)
theorem dX1_endsBy_1 : decode cX1_endsBy 1 = .ok (.iload_n 1, 1) := dk_27 (dk_at dksX1_endsBy_0 1 rfl rfl)
theorem dX1_endsBy_2 : decode cX1_endsBy 2 = .ok (.iload_n 2, 1) := dk_28 (dk_at dksX1_endsBy_0 2 rfl rfl)
theorem dX1_endsBy_3 : decode cX1_endsBy 3 = .ok (.invokevirtual 367, 3) := dk_182 1 111 (dk_at dksX1_endsBy_0 3 rfl rfl)
theorem dX1_endsBy_6 : decode cX1_endsBy 6 = .ok (.istore_n 3, 1) := dk_62 (dk_at dksX1_endsBy_0 6 rfl rfl)
theorem dX1_endsBy_7 : decode cX1_endsBy 7 = .ok (.iload_n 3, 1) := dk_29 (dk_at dksX1_endsBy_0 7 rfl rfl)
theorem dX1_endsBy_8 : decode cX1_endsBy 8 = .ok (.ifCond .le 9, 3) := dk_158 0 9 (dk_at dksX1_endsBy_0 8 rfl rfl)
theorem dX1_endsBy_11 : decode cX1_endsBy 11 = .ok (.aload_n 0, 1) := dk_42 (dk_at dksX1_endsBy_0 11 rfl rfl)
theorem dX1_endsBy_12 : decode cX1_endsBy 12 = .ok (.iload_n 3, 1) := dk_29 (dk_at dksX1_endsBy_0 12 rfl rfl)
theorem dX1_endsBy_13 : decode cX1_endsBy 13 = .ok (.invokevirtual 47, 3) := dk_182 0 47 (dk_at dksX1_endsBy_0 13 rfl rfl)
theorem dX1_endsBy_16 : decode cX1_endsBy 16 = .ok (.ireturn, 1) := dk_172 (dk_at dksX1_endsBy_0 16 rfl rfl)
theorem dX1_endsBy_17 : decode cX1_endsBy 17 = .ok (.aload_n 0, 1) := dk_42 (dk_at dksX1_endsBy_0 17 rfl rfl)
theorem dX1_endsBy_18 : decode cX1_endsBy 18 = .ok (.iload_n 2, 1) := dk_28 (dk_at dksX1_endsBy_0 18 rfl rfl)
theorem dX1_endsBy_19 : decode cX1_endsBy 19 = .ok (.putfield 208, 3) := dk_181 0 208 (dk_at dksX1_endsBy_0 19 rfl rfl)
theorem dX1_endsBy_22 : decode cX1_endsBy 22 = .ok (.aload_n 0, 1) := dk_42 (dk_at dksX1_endsBy_0 22 rfl rfl)
theorem dX1_endsBy_23 : decode cX1_endsBy 23 = .ok (.aload_n 0, 1) := dk_42 (dk_at dksX1_endsBy_0 23 rfl rfl)
theorem dX1_endsBy_24 : decode cX1_endsBy 24 = .ok (.iload_n 1, 1) := dk_27 (dk_at dksX1_endsBy_1 0 rfl rfl)
theorem dX1_endsBy_25 : decode cX1_endsBy 25 = .ok (.invokevirtual 370, 3) := dk_182 1 114 (dk_at dksX1_endsBy_1 1 rfl rfl)
theorem dX1_endsBy_28 : decode cX1_endsBy 28 = .ok (.invokevirtual 51, 3) := dk_182 0 51 (dk_at dksX1_endsBy_1 4 rfl rfl)
theorem dX1_endsBy_31 : decode cX1_endsBy 31 = .ok (.ireturn, 1) := dk_172 (dk_at dksX1_endsBy_1 7 rfl rfl)
abbrev cX1_whySeed : ByteArray := prog_1_method_87_code
def yX1_whySeed : MethodName := ⟨RX1, "whySeed", "(II)I"⟩
def dkwX1_whySeed_0 : List UInt8 := [42, 42, 27, 182, 1, 17, 28, 3, 19, 1, 110, 182, 1, 20, 172]
abbrev dktX1_whySeed_0 : List UInt8 := dkwX1_whySeed_0 ++ []
theorem dksX1_whySeed_0 : cX1_whySeed.data.toList.drop 0 = dktX1_whySeed_0 := by decide +kernel
theorem dX1_whySeed_0 : decode cX1_whySeed 0 = .ok (.aload_n 0, 1) := dk_42 (dk_at dksX1_whySeed_0 0 rfl rfl)
theorem dX1_whySeed_1 : decode cX1_whySeed 1 = .ok (.aload_n 0, 1) := dk_42 (dk_at dksX1_whySeed_0 1 rfl rfl)
theorem dX1_whySeed_2 : decode cX1_whySeed 2 = .ok (.iload_n 1, 1) := dk_27 (dk_at dksX1_whySeed_0 2 rfl rfl)
theorem dX1_whySeed_3 : decode cX1_whySeed 3 = .ok (.invokevirtual 273, 3) := dk_182 1 17 (dk_at dksX1_whySeed_0 3 rfl rfl)
theorem dX1_whySeed_6 : decode cX1_whySeed 6 = .ok (.iload_n 2, 1) := dk_28 (dk_at dksX1_whySeed_0 6 rfl rfl)
theorem dX1_whySeed_7 : decode cX1_whySeed 7 = .ok (.iconst 0, 1) := dk_3 (dk_at dksX1_whySeed_0 7 rfl rfl)
theorem dX1_whySeed_8 : decode cX1_whySeed 8 = .ok (.ldc_w 366, 3) := dk_19 1 110 (dk_at dksX1_whySeed_0 8 rfl rfl)
theorem dX1_whySeed_11 : decode cX1_whySeed 11 = .ok (.invokevirtual 276, 3) := dk_182 1 20 (dk_at dksX1_whySeed_0 11 rfl rfl)
theorem dX1_whySeed_14 : decode cX1_whySeed 14 = .ok (.ireturn, 1) := dk_172 (dk_at dksX1_whySeed_0 14 rfl rfl)
abbrev cX1_brawlsBy : ByteArray := prog_1_method_86_code
def yX1_brawlsBy : MethodName := ⟨RX1, "brawlsBy", "(I)I"⟩
def dkwX1_brawlsBy_0 : List UInt8 := [42, 4, 181, 0, 204, 42, 27, 182, 1, 32, 61, 42, 3, 181, 0, 204, 28, 172]
abbrev dktX1_brawlsBy_0 : List UInt8 := dkwX1_brawlsBy_0 ++ []
theorem dksX1_brawlsBy_0 : cX1_brawlsBy.data.toList.drop 0 = dktX1_brawlsBy_0 := by decide +kernel
theorem dX1_brawlsBy_0 : decode cX1_brawlsBy 0 = .ok (.aload_n 0, 1) := dk_42 (dk_at dksX1_brawlsBy_0 0 rfl rfl)
theorem dX1_brawlsBy_1 : decode cX1_brawlsBy 1 = .ok (.iconst 1, 1) := dk_4 (dk_at dksX1_brawlsBy_0 1 rfl rfl)
theorem dX1_brawlsBy_2 : decode cX1_brawlsBy 2 = .ok (.putfield 204, 3) := dk_181 0 204 (dk_at dksX1_brawlsBy_0 2 rfl rfl)
theorem dX1_brawlsBy_5 : decode cX1_brawlsBy 5 = .ok (.aload_n 0, 1) := dk_42 (dk_at dksX1_brawlsBy_0 5 rfl rfl)
theorem dX1_brawlsBy_6 : decode cX1_brawlsBy 6 = .ok (.iload_n 1, 1) := dk_27 (dk_at dksX1_brawlsBy_0 6 rfl rfl)
theorem dX1_brawlsBy_7 : decode cX1_brawlsBy 7 = .ok (.invokevirtual 288, 3) := dk_182 1 32 (dk_at dksX1_brawlsBy_0 7 rfl rfl)
theorem dX1_brawlsBy_10 : decode cX1_brawlsBy 10 = .ok (.istore_n 2, 1) := dk_61 (dk_at dksX1_brawlsBy_0 10 rfl rfl)
theorem dX1_brawlsBy_11 : decode cX1_brawlsBy 11 = .ok (.aload_n 0, 1) := dk_42 (dk_at dksX1_brawlsBy_0 11 rfl rfl)
theorem dX1_brawlsBy_12 : decode cX1_brawlsBy 12 = .ok (.iconst 0, 1) := dk_3 (dk_at dksX1_brawlsBy_0 12 rfl rfl)
theorem dX1_brawlsBy_13 : decode cX1_brawlsBy 13 = .ok (.putfield 204, 3) := dk_181 0 204 (dk_at dksX1_brawlsBy_0 13 rfl rfl)
theorem dX1_brawlsBy_16 : decode cX1_brawlsBy 16 = .ok (.iload_n 2, 1) := dk_28 (dk_at dksX1_brawlsBy_0 16 rfl rfl)
theorem dX1_brawlsBy_17 : decode cX1_brawlsBy 17 = .ok (.ireturn, 1) := dk_172 (dk_at dksX1_brawlsBy_0 17 rfl rfl)
abbrev cX1_endsByAt : ByteArray := prog_1_method_89_code
def yX1_endsByAt : MethodName := ⟨RX1, "endsByAt", "(II)I"⟩
def dkwX1_endsByAt_1 : List UInt8 := [182, 1, 114, 87, 42, 42, 180, 0, 215, 182, 0, 51, 172]
abbrev dktX1_endsByAt_1 : List UInt8 := dkwX1_endsByAt_1 ++ []
def dkwX1_endsByAt_0 : List UInt8 := [42, 27, 28, 182, 1, 111, 62, 29, 158, 0, 9, 42, 29, 182, 0, 47, 172, 42, 28, 181, 0, 208, 42, 27]
abbrev dktX1_endsByAt_0 : List UInt8 := dkwX1_endsByAt_0 ++ dktX1_endsByAt_1
theorem dksX1_endsByAt_0 : cX1_endsByAt.data.toList.drop 0 = dktX1_endsByAt_0 := by decide +kernel
theorem dksX1_endsByAt_1 : cX1_endsByAt.data.toList.drop 24 = dktX1_endsByAt_1 := dk_seg dksX1_endsByAt_0 24 rfl rfl
theorem dX1_endsByAt_0 : decode cX1_endsByAt 0 = .ok (.aload_n 0, 1) := dk_42 (dk_at dksX1_endsByAt_0 0 rfl rfl)
theorem dX1_endsByAt_1 : decode cX1_endsByAt 1 = .ok (.iload_n 1, 1) := dk_27 (dk_at dksX1_endsByAt_0 1 rfl rfl)
theorem dX1_endsByAt_2 : decode cX1_endsByAt 2 = .ok (.iload_n 2, 1) := dk_28 (dk_at dksX1_endsByAt_0 2 rfl rfl)
theorem dX1_endsByAt_3 : decode cX1_endsByAt 3 = .ok (.invokevirtual 367, 3) := dk_182 1 111 (dk_at dksX1_endsByAt_0 3 rfl rfl)
theorem dX1_endsByAt_6 : decode cX1_endsByAt 6 = .ok (.istore_n 3, 1) := dk_62 (dk_at dksX1_endsByAt_0 6 rfl rfl)
theorem dX1_endsByAt_7 : decode cX1_endsByAt 7 = .ok (.iload_n 3, 1) := dk_29 (dk_at dksX1_endsByAt_0 7 rfl rfl)
theorem dX1_endsByAt_8 : decode cX1_endsByAt 8 = .ok (.ifCond .le 9, 3) := dk_158 0 9 (dk_at dksX1_endsByAt_0 8 rfl rfl)
theorem dX1_endsByAt_11 : decode cX1_endsByAt 11 = .ok (.aload_n 0, 1) := dk_42 (dk_at dksX1_endsByAt_0 11 rfl rfl)
theorem dX1_endsByAt_12 : decode cX1_endsByAt 12 = .ok (.iload_n 3, 1) := dk_29 (dk_at dksX1_endsByAt_0 12 rfl rfl)
theorem dX1_endsByAt_13 : decode cX1_endsByAt 13 = .ok (.invokevirtual 47, 3) := dk_182 0 47 (dk_at dksX1_endsByAt_0 13 rfl rfl)
theorem dX1_endsByAt_16 : decode cX1_endsByAt 16 = .ok (.ireturn, 1) := dk_172 (dk_at dksX1_endsByAt_0 16 rfl rfl)
theorem dX1_endsByAt_17 : decode cX1_endsByAt 17 = .ok (.aload_n 0, 1) := dk_42 (dk_at dksX1_endsByAt_0 17 rfl rfl)
theorem dX1_endsByAt_18 : decode cX1_endsByAt 18 = .ok (.iload_n 2, 1) := dk_28 (dk_at dksX1_endsByAt_0 18 rfl rfl)
theorem dX1_endsByAt_19 : decode cX1_endsByAt 19 = .ok (.putfield 208, 3) := dk_181 0 208 (dk_at dksX1_endsByAt_0 19 rfl rfl)
theorem dX1_endsByAt_22 : decode cX1_endsByAt 22 = .ok (.aload_n 0, 1) := dk_42 (dk_at dksX1_endsByAt_0 22 rfl rfl)
theorem dX1_endsByAt_23 : decode cX1_endsByAt 23 = .ok (.iload_n 1, 1) := dk_27 (dk_at dksX1_endsByAt_0 23 rfl rfl)
theorem dX1_endsByAt_24 : decode cX1_endsByAt 24 = .ok (.invokevirtual 370, 3) := dk_182 1 114 (dk_at dksX1_endsByAt_1 0 rfl rfl)
theorem dX1_endsByAt_27 : decode cX1_endsByAt 27 = .ok (.pop, 1) := dk_87 (dk_at dksX1_endsByAt_1 3 rfl rfl)
theorem dX1_endsByAt_28 : decode cX1_endsByAt 28 = .ok (.aload_n 0, 1) := dk_42 (dk_at dksX1_endsByAt_1 4 rfl rfl)
theorem dX1_endsByAt_29 : decode cX1_endsByAt 29 = .ok (.aload_n 0, 1) := dk_42 (dk_at dksX1_endsByAt_1 5 rfl rfl)
theorem dX1_endsByAt_30 : decode cX1_endsByAt 30 = .ok (.getfield 215, 3) := dk_180 0 215 (dk_at dksX1_endsByAt_1 6 rfl rfl)
theorem dX1_endsByAt_33 : decode cX1_endsByAt 33 = .ok (.invokevirtual 51, 3) := dk_182 0 51 (dk_at dksX1_endsByAt_1 9 rfl rfl)
theorem dX1_endsByAt_36 : decode cX1_endsByAt 36 = .ok (.ireturn, 1) := dk_172 (dk_at dksX1_endsByAt_1 12 rfl rfl)
abbrev cX1_wins : ByteArray := prog_1_method_90_code
def yX1_wins : MethodName := ⟨RX1, "wins", "(III)I"⟩
def dkwX1_wins_3 : List UInt8 := [96, 54, 5, 132, 6, 1, 167, 255, 226, 42, 21, 5, 182, 0, 51, 172]
abbrev dktX1_wins_3 : List UInt8 := dkwX1_wins_3 ++ []
def dkwX1_wins_2 : List UInt8 := [21, 6, 29, 162, 0, 30, 21, 5, 42, 27, 182, 1, 114, 184, 1, 42, 153, 0, 7, 4, 167, 0, 4, 3]
abbrev dktX1_wins_2 : List UInt8 := dkwX1_wins_2 ++ dktX1_wins_3
def dkwX1_wins_1 : List UInt8 := [21, 4, 158, 0, 10, 42, 21, 4, 182, 0, 47, 172, 42, 28, 181, 0, 208, 3, 54, 5, 3, 54, 6]
abbrev dktX1_wins_1 : List UInt8 := dkwX1_wins_1 ++ dktX1_wins_2
def dkwX1_wins_0 : List UInt8 := [42, 27, 28, 182, 1, 111, 54, 4, 21, 4, 154, 0, 14, 42, 4, 29, 3, 16, 30, 182, 1, 20, 54, 4]
abbrev dktX1_wins_0 : List UInt8 := dkwX1_wins_0 ++ dktX1_wins_1
theorem dksX1_wins_0 : cX1_wins.data.toList.drop 0 = dktX1_wins_0 := by decide +kernel
theorem dksX1_wins_1 : cX1_wins.data.toList.drop 24 = dktX1_wins_1 := dk_seg dksX1_wins_0 24 rfl rfl
theorem dksX1_wins_2 : cX1_wins.data.toList.drop 47 = dktX1_wins_2 := dk_seg dksX1_wins_1 23 rfl rfl
theorem dksX1_wins_3 : cX1_wins.data.toList.drop 71 = dktX1_wins_3 := dk_seg dksX1_wins_2 24 rfl rfl
theorem dX1_wins_0 : decode cX1_wins 0 = .ok (.aload_n 0, 1) := dk_42 (dk_at dksX1_wins_0 0 rfl rfl)
theorem dX1_wins_1 : decode cX1_wins 1 = .ok (.iload_n 1, 1) := dk_27 (dk_at dksX1_wins_0 1 rfl rfl)
theorem dX1_wins_2 : decode cX1_wins 2 = .ok (.iload_n 2, 1) := dk_28 (dk_at dksX1_wins_0 2 rfl rfl)
theorem dX1_wins_3 : decode cX1_wins 3 = .ok (.invokevirtual 367, 3) := dk_182 1 111 (dk_at dksX1_wins_0 3 rfl rfl)
theorem dX1_wins_6 : decode cX1_wins 6 = .ok (.istore 4, 2) := dk_54 4 (dk_at dksX1_wins_0 6 rfl rfl)
theorem dX1_wins_8 : decode cX1_wins 8 = .ok (.iload 4, 2) := dk_21 4 (dk_at dksX1_wins_0 8 rfl rfl)
theorem dX1_wins_10 : decode cX1_wins 10 = .ok (.ifCond .ne 14, 3) := dk_154 0 14 (dk_at dksX1_wins_0 10 rfl rfl)
theorem dX1_wins_13 : decode cX1_wins 13 = .ok (.aload_n 0, 1) := dk_42 (dk_at dksX1_wins_0 13 rfl rfl)
theorem dX1_wins_14 : decode cX1_wins 14 = .ok (.iconst 1, 1) := dk_4 (dk_at dksX1_wins_0 14 rfl rfl)
theorem dX1_wins_15 : decode cX1_wins 15 = .ok (.iload_n 3, 1) := dk_29 (dk_at dksX1_wins_0 15 rfl rfl)
theorem dX1_wins_16 : decode cX1_wins 16 = .ok (.iconst 0, 1) := dk_3 (dk_at dksX1_wins_0 16 rfl rfl)
theorem dX1_wins_17 : decode cX1_wins 17 = .ok (.bipush 30, 2) := dk_16 30 (dk_at dksX1_wins_0 17 rfl rfl)
theorem dX1_wins_19 : decode cX1_wins 19 = .ok (.invokevirtual 276, 3) := dk_182 1 20 (dk_at dksX1_wins_0 19 rfl rfl)
theorem dX1_wins_22 : decode cX1_wins 22 = .ok (.istore 4, 2) := dk_54 4 (dk_at dksX1_wins_0 22 rfl rfl)
theorem dX1_wins_24 : decode cX1_wins 24 = .ok (.iload 4, 2) := dk_21 4 (dk_at dksX1_wins_1 0 rfl rfl)
theorem dX1_wins_26 : decode cX1_wins 26 = .ok (.ifCond .le 10, 3) := dk_158 0 10 (dk_at dksX1_wins_1 2 rfl rfl)
theorem dX1_wins_29 : decode cX1_wins 29 = .ok (.aload_n 0, 1) := dk_42 (dk_at dksX1_wins_1 5 rfl rfl)
theorem dX1_wins_30 : decode cX1_wins 30 = .ok (.iload 4, 2) := dk_21 4 (dk_at dksX1_wins_1 6 rfl rfl)
theorem dX1_wins_32 : decode cX1_wins 32 = .ok (.invokevirtual 47, 3) := dk_182 0 47 (dk_at dksX1_wins_1 8 rfl rfl)
theorem dX1_wins_35 : decode cX1_wins 35 = .ok (.ireturn, 1) := dk_172 (dk_at dksX1_wins_1 11 rfl rfl)
theorem dX1_wins_36 : decode cX1_wins 36 = .ok (.aload_n 0, 1) := dk_42 (dk_at dksX1_wins_1 12 rfl rfl)
theorem dX1_wins_37 : decode cX1_wins 37 = .ok (.iload_n 2, 1) := dk_28 (dk_at dksX1_wins_1 13 rfl rfl)
theorem dX1_wins_38 : decode cX1_wins 38 = .ok (.putfield 208, 3) := dk_181 0 208 (dk_at dksX1_wins_1 14 rfl rfl)
theorem dX1_wins_41 : decode cX1_wins 41 = .ok (.iconst 0, 1) := dk_3 (dk_at dksX1_wins_1 17 rfl rfl)
theorem dX1_wins_42 : decode cX1_wins 42 = .ok (.istore 5, 2) := dk_54 5 (dk_at dksX1_wins_1 18 rfl rfl)
theorem dX1_wins_44 : decode cX1_wins 44 = .ok (.iconst 0, 1) := dk_3 (dk_at dksX1_wins_1 20 rfl rfl)
theorem dX1_wins_45 : decode cX1_wins 45 = .ok (.istore 6, 2) := dk_54 6 (dk_at dksX1_wins_1 21 rfl rfl)
theorem dX1_wins_47 : decode cX1_wins 47 = .ok (.iload 6, 2) := dk_21 6 (dk_at dksX1_wins_2 0 rfl rfl)
theorem dX1_wins_49 : decode cX1_wins 49 = .ok (.iload_n 3, 1) := dk_29 (dk_at dksX1_wins_2 2 rfl rfl)
theorem dX1_wins_50 : decode cX1_wins 50 = .ok (.if_icmp .ge 30, 3) := dk_162 0 30 (dk_at dksX1_wins_2 3 rfl rfl)
theorem dX1_wins_53 : decode cX1_wins 53 = .ok (.iload 5, 2) := dk_21 5 (dk_at dksX1_wins_2 6 rfl rfl)
theorem dX1_wins_55 : decode cX1_wins 55 = .ok (.aload_n 0, 1) := dk_42 (dk_at dksX1_wins_2 8 rfl rfl)
theorem dX1_wins_56 : decode cX1_wins 56 = .ok (.iload_n 1, 1) := dk_27 (dk_at dksX1_wins_2 9 rfl rfl)
theorem dX1_wins_57 : decode cX1_wins 57 = .ok (.invokevirtual 370, 3) := dk_182 1 114 (dk_at dksX1_wins_2 10 rfl rfl)
theorem dX1_wins_60 : decode cX1_wins 60 = .ok (.invokestatic 298, 3) := dk_184 1 42 (dk_at dksX1_wins_2 13 rfl rfl)
theorem dX1_wins_63 : decode cX1_wins 63 = .ok (.ifCond .eq 7, 3) := dk_153 0 7 (dk_at dksX1_wins_2 16 rfl rfl)
theorem dX1_wins_66 : decode cX1_wins 66 = .ok (.iconst 1, 1) := dk_4 (dk_at dksX1_wins_2 19 rfl rfl)
theorem dX1_wins_67 : decode cX1_wins 67 = .ok (.goto 4, 3) := dk_167 0 4 (dk_at dksX1_wins_2 20 rfl rfl)
theorem dX1_wins_70 : decode cX1_wins 70 = .ok (.iconst 0, 1) := dk_3 (dk_at dksX1_wins_2 23 rfl rfl)
theorem dX1_wins_71 : decode cX1_wins 71 = .ok (.iadd, 1) := dk_96 (dk_at dksX1_wins_3 0 rfl rfl)
theorem dX1_wins_72 : decode cX1_wins 72 = .ok (.istore 5, 2) := dk_54 5 (dk_at dksX1_wins_3 1 rfl rfl)
theorem dX1_wins_74 : decode cX1_wins 74 = .ok (.iinc 6 1, 3) := dk_132 6 1 (dk_at dksX1_wins_3 3 rfl rfl)
theorem dX1_wins_77 : decode cX1_wins 77 = .ok (.goto (-30), 3) := dk_167 255 226 (dk_at dksX1_wins_3 6 rfl rfl)
theorem dX1_wins_80 : decode cX1_wins 80 = .ok (.aload_n 0, 1) := dk_42 (dk_at dksX1_wins_3 9 rfl rfl)
theorem dX1_wins_81 : decode cX1_wins 81 = .ok (.iload 5, 2) := dk_21 5 (dk_at dksX1_wins_3 10 rfl rfl)
theorem dX1_wins_83 : decode cX1_wins 83 = .ok (.invokevirtual 51, 3) := dk_182 0 51 (dk_at dksX1_wins_3 12 rfl rfl)
theorem dX1_wins_86 : decode cX1_wins 86 = .ok (.ireturn, 1) := dk_172 (dk_at dksX1_wins_3 15 rfl rfl)
abbrev cX1_brick : ByteArray := prog_1_method_93_code
def yX1_brick : MethodName := ⟨RX1, "brick", "(I)Z"⟩
def dkwX1_brick_0 : List UInt8 := [42, 27, 4, 182, 1, 134, 172]
abbrev dktX1_brick_0 : List UInt8 := dkwX1_brick_0 ++ []
theorem dksX1_brick_0 : cX1_brick.data.toList.drop 0 = dktX1_brick_0 := by decide +kernel
theorem dX1_brick_0 : decode cX1_brick 0 = .ok (.aload_n 0, 1) := dk_42 (dk_at dksX1_brick_0 0 rfl rfl)
theorem dX1_brick_1 : decode cX1_brick 1 = .ok (.iload_n 1, 1) := dk_27 (dk_at dksX1_brick_0 1 rfl rfl)
theorem dX1_brick_2 : decode cX1_brick 2 = .ok (.iconst 1, 1) := dk_4 (dk_at dksX1_brick_0 2 rfl rfl)
theorem dX1_brick_3 : decode cX1_brick 3 = .ok (.invokevirtual 390, 3) := dk_182 1 134 (dk_at dksX1_brick_0 3 rfl rfl)
theorem dX1_brick_6 : decode cX1_brick 6 = .ok (.ireturn, 1) := dk_172 (dk_at dksX1_brick_0 6 rfl rfl)
abbrev cX1_bricksUp : ByteArray := prog_1_method_92_code
def yX1_bricksUp : MethodName := ⟨RX1, "bricksUp", "(IZ)Z"⟩
def dkwX1_bricksUp_2 : List UInt8 := [180, 1, 14, 4, 27, 120, 130, 181, 1, 14, 42, 182, 1, 130, 172]
abbrev dktX1_bricksUp_2 : List UInt8 := dkwX1_bricksUp_2 ++ []
def dkwX1_bricksUp_1 : List UInt8 := [184, 0, 151, 28, 160, 0, 9, 42, 8, 182, 1, 124, 172, 42, 182, 1, 127, 42, 180, 0, 95, 89]
abbrev dktX1_bricksUp_1 : List UInt8 := dkwX1_bricksUp_1 ++ dktX1_bricksUp_2
def dkwX1_bricksUp_0 : List UInt8 := [42, 27, 182, 1, 1, 154, 0, 9, 42, 4, 182, 1, 124, 172, 42, 180, 0, 95, 180, 1, 14, 27]
abbrev dktX1_bricksUp_0 : List UInt8 := dkwX1_bricksUp_0 ++ dktX1_bricksUp_1
theorem dksX1_bricksUp_0 : cX1_bricksUp.data.toList.drop 0 = dktX1_bricksUp_0 := by decide +kernel
theorem dksX1_bricksUp_1 : cX1_bricksUp.data.toList.drop 22 = dktX1_bricksUp_1 := dk_seg dksX1_bricksUp_0 22 rfl rfl
theorem dksX1_bricksUp_2 : cX1_bricksUp.data.toList.drop 44 = dktX1_bricksUp_2 := dk_seg dksX1_bricksUp_1 22 rfl rfl
theorem dX1_bricksUp_0 : decode cX1_bricksUp 0 = .ok (.aload_n 0, 1) := dk_42 (dk_at dksX1_bricksUp_0 0 rfl rfl)
theorem dX1_bricksUp_1 : decode cX1_bricksUp 1 = .ok (.iload_n 1, 1) := dk_27 (dk_at dksX1_bricksUp_0 1 rfl rfl)
theorem dX1_bricksUp_2 : decode cX1_bricksUp 2 = .ok (.invokevirtual 257, 3) := dk_182 1 1 (dk_at dksX1_bricksUp_0 2 rfl rfl)
theorem dX1_bricksUp_5 : decode cX1_bricksUp 5 = .ok (.ifCond .ne 9, 3) := dk_154 0 9 (dk_at dksX1_bricksUp_0 5 rfl rfl)
theorem dX1_bricksUp_8 : decode cX1_bricksUp 8 = .ok (.aload_n 0, 1) := dk_42 (dk_at dksX1_bricksUp_0 8 rfl rfl)
theorem dX1_bricksUp_9 : decode cX1_bricksUp 9 = .ok (.iconst 1, 1) := dk_4 (dk_at dksX1_bricksUp_0 9 rfl rfl)
theorem dX1_bricksUp_10 : decode cX1_bricksUp 10 = .ok (.invokevirtual 380, 3) := dk_182 1 124 (dk_at dksX1_bricksUp_0 10 rfl rfl)
theorem dX1_bricksUp_13 : decode cX1_bricksUp 13 = .ok (.ireturn, 1) := dk_172 (dk_at dksX1_bricksUp_0 13 rfl rfl)
theorem dX1_bricksUp_14 : decode cX1_bricksUp 14 = .ok (.aload_n 0, 1) := dk_42 (dk_at dksX1_bricksUp_0 14 rfl rfl)
theorem dX1_bricksUp_15 : decode cX1_bricksUp 15 = .ok (.getfield 95, 3) := dk_180 0 95 (dk_at dksX1_bricksUp_0 15 rfl rfl)
theorem dX1_bricksUp_18 : decode cX1_bricksUp 18 = .ok (.getfield 270, 3) := dk_180 1 14 (dk_at dksX1_bricksUp_0 18 rfl rfl)
theorem dX1_bricksUp_21 : decode cX1_bricksUp 21 = .ok (.iload_n 1, 1) := dk_27 (dk_at dksX1_bricksUp_0 21 rfl rfl)
theorem dX1_bricksUp_22 : decode cX1_bricksUp 22 = .ok (.invokestatic 151, 3) := dk_184 0 151 (dk_at dksX1_bricksUp_1 0 rfl rfl)
theorem dX1_bricksUp_25 : decode cX1_bricksUp 25 = .ok (.iload_n 2, 1) := dk_28 (dk_at dksX1_bricksUp_1 3 rfl rfl)
theorem dX1_bricksUp_26 : decode cX1_bricksUp 26 = .ok (.if_icmp .ne 9, 3) := dk_160 0 9 (dk_at dksX1_bricksUp_1 4 rfl rfl)
theorem dX1_bricksUp_29 : decode cX1_bricksUp 29 = .ok (.aload_n 0, 1) := dk_42 (dk_at dksX1_bricksUp_1 7 rfl rfl)
theorem dX1_bricksUp_30 : decode cX1_bricksUp 30 = .ok (.iconst 5, 1) := dk_8 (dk_at dksX1_bricksUp_1 8 rfl rfl)
theorem dX1_bricksUp_31 : decode cX1_bricksUp 31 = .ok (.invokevirtual 380, 3) := dk_182 1 124 (dk_at dksX1_bricksUp_1 9 rfl rfl)
theorem dX1_bricksUp_34 : decode cX1_bricksUp 34 = .ok (.ireturn, 1) := dk_172 (dk_at dksX1_bricksUp_1 12 rfl rfl)
theorem dX1_bricksUp_35 : decode cX1_bricksUp 35 = .ok (.aload_n 0, 1) := dk_42 (dk_at dksX1_bricksUp_1 13 rfl rfl)
theorem dX1_bricksUp_36 : decode cX1_bricksUp 36 = .ok (.invokevirtual 383, 3) := dk_182 1 127 (dk_at dksX1_bricksUp_1 14 rfl rfl)
theorem dX1_bricksUp_39 : decode cX1_bricksUp 39 = .ok (.aload_n 0, 1) := dk_42 (dk_at dksX1_bricksUp_1 17 rfl rfl)
theorem dX1_bricksUp_40 : decode cX1_bricksUp 40 = .ok (.getfield 95, 3) := dk_180 0 95 (dk_at dksX1_bricksUp_1 18 rfl rfl)
theorem dX1_bricksUp_43 : decode cX1_bricksUp 43 = .ok (.dup, 1) := dk_89 (dk_at dksX1_bricksUp_1 21 rfl rfl)
theorem dX1_bricksUp_44 : decode cX1_bricksUp 44 = .ok (.getfield 270, 3) := dk_180 1 14 (dk_at dksX1_bricksUp_2 0 rfl rfl)
theorem dX1_bricksUp_47 : decode cX1_bricksUp 47 = .ok (.iconst 1, 1) := dk_4 (dk_at dksX1_bricksUp_2 3 rfl rfl)
theorem dX1_bricksUp_48 : decode cX1_bricksUp 48 = .ok (.iload_n 1, 1) := dk_27 (dk_at dksX1_bricksUp_2 4 rfl rfl)
theorem dX1_bricksUp_49 : decode cX1_bricksUp 49 = .ok (.ishl, 1) := dk_120 (dk_at dksX1_bricksUp_2 5 rfl rfl)
theorem dX1_bricksUp_50 : decode cX1_bricksUp 50 = .ok (.ixor, 1) := dk_130 (dk_at dksX1_bricksUp_2 6 rfl rfl)
theorem dX1_bricksUp_51 : decode cX1_bricksUp 51 = .ok (.putfield 270, 3) := dk_181 1 14 (dk_at dksX1_bricksUp_2 7 rfl rfl)
theorem dX1_bricksUp_54 : decode cX1_bricksUp 54 = .ok (.aload_n 0, 1) := dk_42 (dk_at dksX1_bricksUp_2 10 rfl rfl)
theorem dX1_bricksUp_55 : decode cX1_bricksUp 55 = .ok (.invokevirtual 386, 3) := dk_182 1 130 (dk_at dksX1_bricksUp_2 11 rfl rfl)
theorem dX1_bricksUp_58 : decode cX1_bricksUp 58 = .ok (.ireturn, 1) := dk_172 (dk_at dksX1_bricksUp_2 14 rfl rfl)
abbrev cX1_denied : ByteArray := prog_1_method_9_code
def yX1_denied : MethodName := ⟨RX1, "denied", "(I)Z"⟩
def dkwX1_denied_0 : List UInt8 := [42, 27, 182, 0, 47, 87, 3, 172]
abbrev dktX1_denied_0 : List UInt8 := dkwX1_denied_0 ++ []
theorem dksX1_denied_0 : cX1_denied.data.toList.drop 0 = dktX1_denied_0 := by decide +kernel
theorem dX1_denied_0 : decode cX1_denied 0 = .ok (.aload_n 0, 1) := dk_42 (dk_at dksX1_denied_0 0 rfl rfl)
theorem dX1_denied_1 : decode cX1_denied 1 = .ok (.iload_n 1, 1) := dk_27 (dk_at dksX1_denied_0 1 rfl rfl)
theorem dX1_denied_2 : decode cX1_denied 2 = .ok (.invokevirtual 47, 3) := dk_182 0 47 (dk_at dksX1_denied_0 2 rfl rfl)
theorem dX1_denied_5 : decode cX1_denied 5 = .ok (.pop, 1) := dk_87 (dk_at dksX1_denied_0 5 rfl rfl)
theorem dX1_denied_6 : decode cX1_denied 6 = .ok (.iconst 0, 1) := dk_3 (dk_at dksX1_denied_0 6 rfl rfl)
theorem dX1_denied_7 : decode cX1_denied 7 = .ok (.ireturn, 1) := dk_172 (dk_at dksX1_denied_0 7 rfl rfl)
abbrev cX1_remembers : ByteArray := prog_1_method_91_code
def yX1_remembers : MethodName := ⟨RX1, "remembers", "()V"⟩
def dkwX1_remembers_1 : List UInt8 := [180, 0, 20, 42, 180, 0, 95, 182, 1, 120, 87, 42, 42, 180, 0, 95, 182, 0, 102, 181, 0, 95, 177]
abbrev dktX1_remembers_1 : List UInt8 := dkwX1_remembers_1 ++ []
def dkwX1_remembers_0 : List UInt8 := [42, 180, 0, 20, 182, 0, 120, 16, 16, 160, 0, 12, 42, 180, 0, 20, 3, 182, 1, 117, 87, 42]
abbrev dktX1_remembers_0 : List UInt8 := dkwX1_remembers_0 ++ dktX1_remembers_1
theorem dksX1_remembers_0 : cX1_remembers.data.toList.drop 0 = dktX1_remembers_0 := by decide +kernel
theorem dksX1_remembers_1 : cX1_remembers.data.toList.drop 22 = dktX1_remembers_1 := dk_seg dksX1_remembers_0 22 rfl rfl
theorem dX1_remembers_0 : decode cX1_remembers 0 = .ok (.aload_n 0, 1) := dk_42 (dk_at dksX1_remembers_0 0 rfl rfl)
theorem dX1_remembers_1 : decode cX1_remembers 1 = .ok (.getfield 20, 3) := dk_180 0 20 (dk_at dksX1_remembers_0 1 rfl rfl)
theorem dX1_remembers_4 : decode cX1_remembers 4 = .ok (.invokevirtual 120, 3) := dk_182 0 120 (dk_at dksX1_remembers_0 4 rfl rfl)
theorem dX1_remembers_7 : decode cX1_remembers 7 = .ok (.bipush 16, 2) := dk_16 16 (dk_at dksX1_remembers_0 7 rfl rfl)
theorem dX1_remembers_9 : decode cX1_remembers 9 = .ok (.if_icmp .ne 12, 3) := dk_160 0 12 (dk_at dksX1_remembers_0 9 rfl rfl)
theorem dX1_remembers_12 : decode cX1_remembers 12 = .ok (.aload_n 0, 1) := dk_42 (dk_at dksX1_remembers_0 12 rfl rfl)
theorem dX1_remembers_13 : decode cX1_remembers 13 = .ok (.getfield 20, 3) := dk_180 0 20 (dk_at dksX1_remembers_0 13 rfl rfl)
theorem dX1_remembers_16 : decode cX1_remembers 16 = .ok (.iconst 0, 1) := dk_3 (dk_at dksX1_remembers_0 16 rfl rfl)
theorem dX1_remembers_17 : decode cX1_remembers 17 = .ok (.invokevirtual 373, 3) := dk_182 1 117 (dk_at dksX1_remembers_0 17 rfl rfl)
theorem dX1_remembers_20 : decode cX1_remembers 20 = .ok (.pop, 1) := dk_87 (dk_at dksX1_remembers_0 20 rfl rfl)
theorem dX1_remembers_21 : decode cX1_remembers 21 = .ok (.aload_n 0, 1) := dk_42 (dk_at dksX1_remembers_0 21 rfl rfl)
theorem dX1_remembers_22 : decode cX1_remembers 22 = .ok (.getfield 20, 3) := dk_180 0 20 (dk_at dksX1_remembers_1 0 rfl rfl)
theorem dX1_remembers_25 : decode cX1_remembers 25 = .ok (.aload_n 0, 1) := dk_42 (dk_at dksX1_remembers_1 3 rfl rfl)
theorem dX1_remembers_26 : decode cX1_remembers 26 = .ok (.getfield 95, 3) := dk_180 0 95 (dk_at dksX1_remembers_1 4 rfl rfl)
theorem dX1_remembers_29 : decode cX1_remembers 29 = .ok (.invokevirtual 376, 3) := dk_182 1 120 (dk_at dksX1_remembers_1 7 rfl rfl)
theorem dX1_remembers_32 : decode cX1_remembers 32 = .ok (.pop, 1) := dk_87 (dk_at dksX1_remembers_1 10 rfl rfl)
theorem dX1_remembers_33 : decode cX1_remembers 33 = .ok (.aload_n 0, 1) := dk_42 (dk_at dksX1_remembers_1 11 rfl rfl)
theorem dX1_remembers_34 : decode cX1_remembers 34 = .ok (.aload_n 0, 1) := dk_42 (dk_at dksX1_remembers_1 12 rfl rfl)
theorem dX1_remembers_35 : decode cX1_remembers 35 = .ok (.getfield 95, 3) := dk_180 0 95 (dk_at dksX1_remembers_1 13 rfl rfl)
theorem dX1_remembers_38 : decode cX1_remembers 38 = .ok (.invokevirtual 102, 3) := dk_182 0 102 (dk_at dksX1_remembers_1 16 rfl rfl)
theorem dX1_remembers_41 : decode cX1_remembers 41 = .ok (.putfield 95, 3) := dk_181 0 95 (dk_at dksX1_remembers_1 19 rfl rfl)
theorem dX1_remembers_44 : decode cX1_remembers 44 = .ok (.return_, 1) := dk_177 (dk_at dksX1_remembers_1 22 rfl rfl)
abbrev cX1_granted : ByteArray := prog_1_method_11_code
def yX1_granted : MethodName := ⟨RX1, "granted", "()Z"⟩
def dkwX1_granted_0 : List UInt8 := [42, 3, 182, 0, 51, 87, 4, 172]
abbrev dktX1_granted_0 : List UInt8 := dkwX1_granted_0 ++ []
theorem dksX1_granted_0 : cX1_granted.data.toList.drop 0 = dktX1_granted_0 := by decide +kernel
theorem dX1_granted_0 : decode cX1_granted 0 = .ok (.aload_n 0, 1) := dk_42 (dk_at dksX1_granted_0 0 rfl rfl)
theorem dX1_granted_1 : decode cX1_granted 1 = .ok (.iconst 0, 1) := dk_3 (dk_at dksX1_granted_0 1 rfl rfl)
theorem dX1_granted_2 : decode cX1_granted 2 = .ok (.invokevirtual 51, 3) := dk_182 0 51 (dk_at dksX1_granted_0 2 rfl rfl)
theorem dX1_granted_5 : decode cX1_granted 5 = .ok (.pop, 1) := dk_87 (dk_at dksX1_granted_0 5 rfl rfl)
theorem dX1_granted_6 : decode cX1_granted 6 = .ok (.iconst 1, 1) := dk_4 (dk_at dksX1_granted_0 6 rfl rfl)
theorem dX1_granted_7 : decode cX1_granted 7 = .ok (.ireturn, 1) := dk_172 (dk_at dksX1_granted_0 7 rfl rfl)
abbrev cX1_open : ByteArray := prog_1_method_94_code
def yX1_open : MethodName := ⟨RX1, "open", "(I)Z"⟩
def dkwX1_open_0 : List UInt8 := [42, 27, 3, 182, 1, 134, 172]
abbrev dktX1_open_0 : List UInt8 := dkwX1_open_0 ++ []
theorem dksX1_open_0 : cX1_open.data.toList.drop 0 = dktX1_open_0 := by decide +kernel
theorem dX1_open_0 : decode cX1_open 0 = .ok (.aload_n 0, 1) := dk_42 (dk_at dksX1_open_0 0 rfl rfl)
theorem dX1_open_1 : decode cX1_open 1 = .ok (.iload_n 1, 1) := dk_27 (dk_at dksX1_open_0 1 rfl rfl)
theorem dX1_open_2 : decode cX1_open 2 = .ok (.iconst 0, 1) := dk_3 (dk_at dksX1_open_0 2 rfl rfl)
theorem dX1_open_3 : decode cX1_open 3 = .ok (.invokevirtual 390, 3) := dk_182 1 134 (dk_at dksX1_open_0 3 rfl rfl)
theorem dX1_open_6 : decode cX1_open 6 = .ok (.ireturn, 1) := dk_172 (dk_at dksX1_open_0 6 rfl rfl)
abbrev cX1_hire : ByteArray := prog_1_method_95_code
def yX1_hire : MethodName := ⟨RX1, "hire", "(II)I"⟩
def dkwX1_hire_3 : List UInt8 := [28, 145, 84, 42, 180, 0, 95, 89, 180, 1, 138, 29, 96, 181, 1, 138, 42, 29, 182, 0, 51, 172]
abbrev dktX1_hire_3 : List UInt8 := dkwX1_hire_3 ++ []
def dkwX1_hire_2 : List UInt8 := [27, 51, 28, 160, 0, 9, 42, 8, 182, 0, 47, 172, 42, 182, 1, 127, 42, 180, 0, 95, 180, 0, 251, 27]
abbrev dktX1_hire_2 : List UInt8 := dkwX1_hire_2 ++ dktX1_hire_3
def dkwX1_hire_1 : List UInt8 := [180, 0, 86, 27, 182, 0, 142, 180, 0, 248, 62, 29, 16, 254, 159, 0, 16, 42, 180, 0, 95, 180, 0, 251]
abbrev dktX1_hire_1 : List UInt8 := dkwX1_hire_1 ++ dktX1_hire_2
def dkwX1_hire_0 : List UInt8 := [42, 27, 182, 0, 241, 153, 0, 11, 42, 28, 182, 1, 27, 154, 0, 9, 42, 4, 182, 0, 47, 172, 42]
abbrev dktX1_hire_0 : List UInt8 := dkwX1_hire_0 ++ dktX1_hire_1
theorem dksX1_hire_0 : cX1_hire.data.toList.drop 0 = dktX1_hire_0 := by decide +kernel
theorem dksX1_hire_1 : cX1_hire.data.toList.drop 23 = dktX1_hire_1 := dk_seg dksX1_hire_0 23 rfl rfl
theorem dksX1_hire_2 : cX1_hire.data.toList.drop 47 = dktX1_hire_2 := dk_seg dksX1_hire_1 24 rfl rfl
theorem dksX1_hire_3 : cX1_hire.data.toList.drop 71 = dktX1_hire_3 := dk_seg dksX1_hire_2 24 rfl rfl
theorem dX1_hire_0 : decode cX1_hire 0 = .ok (.aload_n 0, 1) := dk_42 (dk_at dksX1_hire_0 0 rfl rfl)
theorem dX1_hire_1 : decode cX1_hire 1 = .ok (.iload_n 1, 1) := dk_27 (dk_at dksX1_hire_0 1 rfl rfl)
theorem dX1_hire_2 : decode cX1_hire 2 = .ok (.invokevirtual 241, 3) := dk_182 0 241 (dk_at dksX1_hire_0 2 rfl rfl)
theorem dX1_hire_5 : decode cX1_hire 5 = .ok (.ifCond .eq 11, 3) := dk_153 0 11 (dk_at dksX1_hire_0 5 rfl rfl)
theorem dX1_hire_8 : decode cX1_hire 8 = .ok (.aload_n 0, 1) := dk_42 (dk_at dksX1_hire_0 8 rfl rfl)
theorem dX1_hire_9 : decode cX1_hire 9 = .ok (.iload_n 2, 1) := dk_28 (dk_at dksX1_hire_0 9 rfl rfl)
theorem dX1_hire_10 : decode cX1_hire 10 = .ok (.invokevirtual 283, 3) := dk_182 1 27 (dk_at dksX1_hire_0 10 rfl rfl)
theorem dX1_hire_13 : decode cX1_hire 13 = .ok (.ifCond .ne 9, 3) := dk_154 0 9 (dk_at dksX1_hire_0 13 rfl rfl)
theorem dX1_hire_16 : decode cX1_hire 16 = .ok (.aload_n 0, 1) := dk_42 (dk_at dksX1_hire_0 16 rfl rfl)
theorem dX1_hire_17 : decode cX1_hire 17 = .ok (.iconst 1, 1) := dk_4 (dk_at dksX1_hire_0 17 rfl rfl)
theorem dX1_hire_18 : decode cX1_hire 18 = .ok (.invokevirtual 47, 3) := dk_182 0 47 (dk_at dksX1_hire_0 18 rfl rfl)
theorem dX1_hire_21 : decode cX1_hire 21 = .ok (.ireturn, 1) := dk_172 (dk_at dksX1_hire_0 21 rfl rfl)
theorem dX1_hire_22 : decode cX1_hire 22 = .ok (.aload_n 0, 1) := dk_42 (dk_at dksX1_hire_0 22 rfl rfl)
theorem dX1_hire_23 : decode cX1_hire 23 = .ok (.getfield 86, 3) := dk_180 0 86 (dk_at dksX1_hire_1 0 rfl rfl)
theorem dX1_hire_26 : decode cX1_hire 26 = .ok (.iload_n 1, 1) := dk_27 (dk_at dksX1_hire_1 3 rfl rfl)
theorem dX1_hire_27 : decode cX1_hire 27 = .ok (.invokevirtual 142, 3) := dk_182 0 142 (dk_at dksX1_hire_1 4 rfl rfl)
theorem dX1_hire_30 : decode cX1_hire 30 = .ok (.getfield 248, 3) := dk_180 0 248 (dk_at dksX1_hire_1 7 rfl rfl)
theorem dX1_hire_33 : decode cX1_hire 33 = .ok (.istore_n 3, 1) := dk_62 (dk_at dksX1_hire_1 10 rfl rfl)
theorem dX1_hire_34 : decode cX1_hire 34 = .ok (.iload_n 3, 1) := dk_29 (dk_at dksX1_hire_1 11 rfl rfl)
theorem dX1_hire_35 : decode cX1_hire 35 = .ok (.bipush (-2), 2) := dk_16 254 (dk_at dksX1_hire_1 12 rfl rfl)
theorem dX1_hire_37 : decode cX1_hire 37 = .ok (.if_icmp .eq 16, 3) := dk_159 0 16 (dk_at dksX1_hire_1 14 rfl rfl)
theorem dX1_hire_40 : decode cX1_hire 40 = .ok (.aload_n 0, 1) := dk_42 (dk_at dksX1_hire_1 17 rfl rfl)
theorem dX1_hire_41 : decode cX1_hire 41 = .ok (.getfield 95, 3) := dk_180 0 95 (dk_at dksX1_hire_1 18 rfl rfl)
theorem dX1_hire_44 : decode cX1_hire 44 = .ok (.getfield 251, 3) := dk_180 0 251 (dk_at dksX1_hire_1 21 rfl rfl)
theorem dX1_hire_47 : decode cX1_hire 47 = .ok (.iload_n 1, 1) := dk_27 (dk_at dksX1_hire_2 0 rfl rfl)
theorem dX1_hire_48 : decode cX1_hire 48 = .ok (.baload, 1) := dk_51 (dk_at dksX1_hire_2 1 rfl rfl)
theorem dX1_hire_49 : decode cX1_hire 49 = .ok (.iload_n 2, 1) := dk_28 (dk_at dksX1_hire_2 2 rfl rfl)
theorem dX1_hire_50 : decode cX1_hire 50 = .ok (.if_icmp .ne 9, 3) := dk_160 0 9 (dk_at dksX1_hire_2 3 rfl rfl)
theorem dX1_hire_53 : decode cX1_hire 53 = .ok (.aload_n 0, 1) := dk_42 (dk_at dksX1_hire_2 6 rfl rfl)
theorem dX1_hire_54 : decode cX1_hire 54 = .ok (.iconst 5, 1) := dk_8 (dk_at dksX1_hire_2 7 rfl rfl)
theorem dX1_hire_55 : decode cX1_hire 55 = .ok (.invokevirtual 47, 3) := dk_182 0 47 (dk_at dksX1_hire_2 8 rfl rfl)
theorem dX1_hire_58 : decode cX1_hire 58 = .ok (.ireturn, 1) := dk_172 (dk_at dksX1_hire_2 11 rfl rfl)
theorem dX1_hire_59 : decode cX1_hire 59 = .ok (.aload_n 0, 1) := dk_42 (dk_at dksX1_hire_2 12 rfl rfl)
theorem dX1_hire_60 : decode cX1_hire 60 = .ok (.invokevirtual 383, 3) := dk_182 1 127 (dk_at dksX1_hire_2 13 rfl rfl)
theorem dX1_hire_63 : decode cX1_hire 63 = .ok (.aload_n 0, 1) := dk_42 (dk_at dksX1_hire_2 16 rfl rfl)
theorem dX1_hire_64 : decode cX1_hire 64 = .ok (.getfield 95, 3) := dk_180 0 95 (dk_at dksX1_hire_2 17 rfl rfl)
theorem dX1_hire_67 : decode cX1_hire 67 = .ok (.getfield 251, 3) := dk_180 0 251 (dk_at dksX1_hire_2 20 rfl rfl)
theorem dX1_hire_70 : decode cX1_hire 70 = .ok (.iload_n 1, 1) := dk_27 (dk_at dksX1_hire_2 23 rfl rfl)
theorem dX1_hire_71 : decode cX1_hire 71 = .ok (.iload_n 2, 1) := dk_28 (dk_at dksX1_hire_3 0 rfl rfl)
theorem dX1_hire_72 : decode cX1_hire 72 = .ok (.i2b, 1) := dk_145 (dk_at dksX1_hire_3 1 rfl rfl)
theorem dX1_hire_73 : decode cX1_hire 73 = .ok (.bastore, 1) := dk_84 (dk_at dksX1_hire_3 2 rfl rfl)
theorem dX1_hire_74 : decode cX1_hire 74 = .ok (.aload_n 0, 1) := dk_42 (dk_at dksX1_hire_3 3 rfl rfl)
theorem dX1_hire_75 : decode cX1_hire 75 = .ok (.getfield 95, 3) := dk_180 0 95 (dk_at dksX1_hire_3 4 rfl rfl)
theorem dX1_hire_78 : decode cX1_hire 78 = .ok (.dup, 1) := dk_89 (dk_at dksX1_hire_3 7 rfl rfl)
theorem dX1_hire_79 : decode cX1_hire 79 = .ok (.getfield 394, 3) := dk_180 1 138 (dk_at dksX1_hire_3 8 rfl rfl)
theorem dX1_hire_82 : decode cX1_hire 82 = .ok (.iload_n 3, 1) := dk_29 (dk_at dksX1_hire_3 11 rfl rfl)
theorem dX1_hire_83 : decode cX1_hire 83 = .ok (.iadd, 1) := dk_96 (dk_at dksX1_hire_3 12 rfl rfl)
theorem dX1_hire_84 : decode cX1_hire 84 = .ok (.putfield 394, 3) := dk_181 1 138 (dk_at dksX1_hire_3 13 rfl rfl)
theorem dX1_hire_87 : decode cX1_hire 87 = .ok (.aload_n 0, 1) := dk_42 (dk_at dksX1_hire_3 16 rfl rfl)
theorem dX1_hire_88 : decode cX1_hire 88 = .ok (.iload_n 3, 1) := dk_29 (dk_at dksX1_hire_3 17 rfl rfl)
theorem dX1_hire_89 : decode cX1_hire 89 = .ok (.invokevirtual 51, 3) := dk_182 0 51 (dk_at dksX1_hire_3 18 rfl rfl)
theorem dX1_hire_92 : decode cX1_hire 92 = .ok (.ireturn, 1) := dk_172 (dk_at dksX1_hire_3 21 rfl rfl)
abbrev cX1_dismiss : ByteArray := prog_1_method_96_code
def yX1_dismiss : MethodName := ⟨RX1, "dismiss", "(I)Z"⟩
def dkwX1_dismiss_2 : List UInt8 := [16, 254, 84, 42, 182, 1, 130, 172]
abbrev dktX1_dismiss_2 : List UInt8 := dkwX1_dismiss_2 ++ []
def dkwX1_dismiss_1 : List UInt8 := [16, 254, 160, 0, 9, 42, 8, 182, 1, 124, 172, 42, 182, 1, 127, 42, 180, 0, 95, 180, 0, 251, 27]
abbrev dktX1_dismiss_1 : List UInt8 := dkwX1_dismiss_1 ++ dktX1_dismiss_2
def dkwX1_dismiss_0 : List UInt8 := [42, 27, 182, 0, 241, 154, 0, 9, 42, 4, 182, 1, 124, 172, 42, 180, 0, 95, 180, 0, 251, 27, 51]
abbrev dktX1_dismiss_0 : List UInt8 := dkwX1_dismiss_0 ++ dktX1_dismiss_1
theorem dksX1_dismiss_0 : cX1_dismiss.data.toList.drop 0 = dktX1_dismiss_0 := by decide +kernel
theorem dksX1_dismiss_1 : cX1_dismiss.data.toList.drop 23 = dktX1_dismiss_1 := dk_seg dksX1_dismiss_0 23 rfl rfl
theorem dksX1_dismiss_2 : cX1_dismiss.data.toList.drop 46 = dktX1_dismiss_2 := dk_seg dksX1_dismiss_1 23 rfl rfl
theorem dX1_dismiss_0 : decode cX1_dismiss 0 = .ok (.aload_n 0, 1) := dk_42 (dk_at dksX1_dismiss_0 0 rfl rfl)
theorem dX1_dismiss_1 : decode cX1_dismiss 1 = .ok (.iload_n 1, 1) := dk_27 (dk_at dksX1_dismiss_0 1 rfl rfl)
theorem dX1_dismiss_2 : decode cX1_dismiss 2 = .ok (.invokevirtual 241, 3) := dk_182 0 241 (dk_at dksX1_dismiss_0 2 rfl rfl)
theorem dX1_dismiss_5 : decode cX1_dismiss 5 = .ok (.ifCond .ne 9, 3) := dk_154 0 9 (dk_at dksX1_dismiss_0 5 rfl rfl)
theorem dX1_dismiss_8 : decode cX1_dismiss 8 = .ok (.aload_n 0, 1) := dk_42 (dk_at dksX1_dismiss_0 8 rfl rfl)
theorem dX1_dismiss_9 : decode cX1_dismiss 9 = .ok (.iconst 1, 1) := dk_4 (dk_at dksX1_dismiss_0 9 rfl rfl)
theorem dX1_dismiss_10 : decode cX1_dismiss 10 = .ok (.invokevirtual 380, 3) := dk_182 1 124 (dk_at dksX1_dismiss_0 10 rfl rfl)
theorem dX1_dismiss_13 : decode cX1_dismiss 13 = .ok (.ireturn, 1) := dk_172 (dk_at dksX1_dismiss_0 13 rfl rfl)
theorem dX1_dismiss_14 : decode cX1_dismiss 14 = .ok (.aload_n 0, 1) := dk_42 (dk_at dksX1_dismiss_0 14 rfl rfl)
theorem dX1_dismiss_15 : decode cX1_dismiss 15 = .ok (.getfield 95, 3) := dk_180 0 95 (dk_at dksX1_dismiss_0 15 rfl rfl)
theorem dX1_dismiss_18 : decode cX1_dismiss 18 = .ok (.getfield 251, 3) := dk_180 0 251 (dk_at dksX1_dismiss_0 18 rfl rfl)
theorem dX1_dismiss_21 : decode cX1_dismiss 21 = .ok (.iload_n 1, 1) := dk_27 (dk_at dksX1_dismiss_0 21 rfl rfl)
theorem dX1_dismiss_22 : decode cX1_dismiss 22 = .ok (.baload, 1) := dk_51 (dk_at dksX1_dismiss_0 22 rfl rfl)
theorem dX1_dismiss_23 : decode cX1_dismiss 23 = .ok (.bipush (-2), 2) := dk_16 254 (dk_at dksX1_dismiss_1 0 rfl rfl)
theorem dX1_dismiss_25 : decode cX1_dismiss 25 = .ok (.if_icmp .ne 9, 3) := dk_160 0 9 (dk_at dksX1_dismiss_1 2 rfl rfl)
theorem dX1_dismiss_28 : decode cX1_dismiss 28 = .ok (.aload_n 0, 1) := dk_42 (dk_at dksX1_dismiss_1 5 rfl rfl)
theorem dX1_dismiss_29 : decode cX1_dismiss 29 = .ok (.iconst 5, 1) := dk_8 (dk_at dksX1_dismiss_1 6 rfl rfl)
theorem dX1_dismiss_30 : decode cX1_dismiss 30 = .ok (.invokevirtual 380, 3) := dk_182 1 124 (dk_at dksX1_dismiss_1 7 rfl rfl)
theorem dX1_dismiss_33 : decode cX1_dismiss 33 = .ok (.ireturn, 1) := dk_172 (dk_at dksX1_dismiss_1 10 rfl rfl)
theorem dX1_dismiss_34 : decode cX1_dismiss 34 = .ok (.aload_n 0, 1) := dk_42 (dk_at dksX1_dismiss_1 11 rfl rfl)
theorem dX1_dismiss_35 : decode cX1_dismiss 35 = .ok (.invokevirtual 383, 3) := dk_182 1 127 (dk_at dksX1_dismiss_1 12 rfl rfl)
theorem dX1_dismiss_38 : decode cX1_dismiss 38 = .ok (.aload_n 0, 1) := dk_42 (dk_at dksX1_dismiss_1 15 rfl rfl)
theorem dX1_dismiss_39 : decode cX1_dismiss 39 = .ok (.getfield 95, 3) := dk_180 0 95 (dk_at dksX1_dismiss_1 16 rfl rfl)
theorem dX1_dismiss_42 : decode cX1_dismiss 42 = .ok (.getfield 251, 3) := dk_180 0 251 (dk_at dksX1_dismiss_1 19 rfl rfl)
theorem dX1_dismiss_45 : decode cX1_dismiss 45 = .ok (.iload_n 1, 1) := dk_27 (dk_at dksX1_dismiss_1 22 rfl rfl)
theorem dX1_dismiss_46 : decode cX1_dismiss 46 = .ok (.bipush (-2), 2) := dk_16 254 (dk_at dksX1_dismiss_2 0 rfl rfl)
theorem dX1_dismiss_48 : decode cX1_dismiss 48 = .ok (.bastore, 1) := dk_84 (dk_at dksX1_dismiss_2 2 rfl rfl)
theorem dX1_dismiss_49 : decode cX1_dismiss 49 = .ok (.aload_n 0, 1) := dk_42 (dk_at dksX1_dismiss_2 3 rfl rfl)
theorem dX1_dismiss_50 : decode cX1_dismiss 50 = .ok (.invokevirtual 386, 3) := dk_182 1 130 (dk_at dksX1_dismiss_2 4 rfl rfl)
theorem dX1_dismiss_53 : decode cX1_dismiss 53 = .ok (.ireturn, 1) := dk_172 (dk_at dksX1_dismiss_2 7 rfl rfl)
abbrev cX1_spent : ByteArray := prog_1_method_97_code
def yX1_spent : MethodName := ⟨RX1, "spent", "()I"⟩
def dkwX1_spent_1 : List UInt8 := [182, 0, 51, 172]
abbrev dktX1_spent_1 : List UInt8 := dkwX1_spent_1 ++ []
def dkwX1_spent_0 : List UInt8 := [42, 180, 0, 86, 199, 0, 11, 42, 4, 182, 0, 47, 167, 0, 14, 42, 42, 180, 0, 95, 180, 1, 138]
abbrev dktX1_spent_0 : List UInt8 := dkwX1_spent_0 ++ dktX1_spent_1
theorem dksX1_spent_0 : cX1_spent.data.toList.drop 0 = dktX1_spent_0 := by decide +kernel
theorem dksX1_spent_1 : cX1_spent.data.toList.drop 23 = dktX1_spent_1 := dk_seg dksX1_spent_0 23 rfl rfl
theorem dX1_spent_0 : decode cX1_spent 0 = .ok (.aload_n 0, 1) := dk_42 (dk_at dksX1_spent_0 0 rfl rfl)
theorem dX1_spent_1 : decode cX1_spent 1 = .ok (.getfield 86, 3) := dk_180 0 86 (dk_at dksX1_spent_0 1 rfl rfl)
theorem dX1_spent_4 : decode cX1_spent 4 = .ok (.ifnonnull 11, 3) := dk_199 0 11 (dk_at dksX1_spent_0 4 rfl rfl)
theorem dX1_spent_7 : decode cX1_spent 7 = .ok (.aload_n 0, 1) := dk_42 (dk_at dksX1_spent_0 7 rfl rfl)
theorem dX1_spent_8 : decode cX1_spent 8 = .ok (.iconst 1, 1) := dk_4 (dk_at dksX1_spent_0 8 rfl rfl)
theorem dX1_spent_9 : decode cX1_spent 9 = .ok (.invokevirtual 47, 3) := dk_182 0 47 (dk_at dksX1_spent_0 9 rfl rfl)
theorem dX1_spent_12 : decode cX1_spent 12 = .ok (.goto 14, 3) := dk_167 0 14 (dk_at dksX1_spent_0 12 rfl rfl)
theorem dX1_spent_15 : decode cX1_spent 15 = .ok (.aload_n 0, 1) := dk_42 (dk_at dksX1_spent_0 15 rfl rfl)
theorem dX1_spent_16 : decode cX1_spent 16 = .ok (.aload_n 0, 1) := dk_42 (dk_at dksX1_spent_0 16 rfl rfl)
theorem dX1_spent_17 : decode cX1_spent 17 = .ok (.getfield 95, 3) := dk_180 0 95 (dk_at dksX1_spent_0 17 rfl rfl)
theorem dX1_spent_20 : decode cX1_spent 20 = .ok (.getfield 394, 3) := dk_180 1 138 (dk_at dksX1_spent_0 20 rfl rfl)
theorem dX1_spent_23 : decode cX1_spent 23 = .ok (.invokevirtual 51, 3) := dk_182 0 51 (dk_at dksX1_spent_1 0 rfl rfl)
theorem dX1_spent_26 : decode cX1_spent 26 = .ok (.ireturn, 1) := dk_172 (dk_at dksX1_spent_1 3 rfl rfl)
abbrev cX1_undo : ByteArray := prog_1_method_98_code
def yX1_undo : MethodName := ⟨RX1, "undo", "()Z"⟩
def dkwX1_undo_1 : List UInt8 := [180, 0, 20, 182, 0, 120, 4, 100, 182, 1, 117, 192, 0, 90, 181, 0, 95, 42, 182, 1, 130, 172]
abbrev dktX1_undo_1 : List UInt8 := dkwX1_undo_1 ++ []
def dkwX1_undo_0 : List UInt8 := [42, 180, 0, 20, 182, 1, 141, 153, 0, 10, 42, 16, 6, 182, 1, 124, 172, 42, 42, 180, 0, 20, 42]
abbrev dktX1_undo_0 : List UInt8 := dkwX1_undo_0 ++ dktX1_undo_1
theorem dksX1_undo_0 : cX1_undo.data.toList.drop 0 = dktX1_undo_0 := by decide +kernel
theorem dksX1_undo_1 : cX1_undo.data.toList.drop 23 = dktX1_undo_1 := dk_seg dksX1_undo_0 23 rfl rfl
theorem dX1_undo_0 : decode cX1_undo 0 = .ok (.aload_n 0, 1) := dk_42 (dk_at dksX1_undo_0 0 rfl rfl)
theorem dX1_undo_1 : decode cX1_undo 1 = .ok (.getfield 20, 3) := dk_180 0 20 (dk_at dksX1_undo_0 1 rfl rfl)
theorem dX1_undo_4 : decode cX1_undo 4 = .ok (.invokevirtual 397, 3) := dk_182 1 141 (dk_at dksX1_undo_0 4 rfl rfl)
theorem dX1_undo_7 : decode cX1_undo 7 = .ok (.ifCond .eq 10, 3) := dk_153 0 10 (dk_at dksX1_undo_0 7 rfl rfl)
theorem dX1_undo_10 : decode cX1_undo 10 = .ok (.aload_n 0, 1) := dk_42 (dk_at dksX1_undo_0 10 rfl rfl)
theorem dX1_undo_11 : decode cX1_undo 11 = .ok (.bipush 6, 2) := dk_16 6 (dk_at dksX1_undo_0 11 rfl rfl)
theorem dX1_undo_13 : decode cX1_undo 13 = .ok (.invokevirtual 380, 3) := dk_182 1 124 (dk_at dksX1_undo_0 13 rfl rfl)
theorem dX1_undo_16 : decode cX1_undo 16 = .ok (.ireturn, 1) := dk_172 (dk_at dksX1_undo_0 16 rfl rfl)
theorem dX1_undo_17 : decode cX1_undo 17 = .ok (.aload_n 0, 1) := dk_42 (dk_at dksX1_undo_0 17 rfl rfl)
theorem dX1_undo_18 : decode cX1_undo 18 = .ok (.aload_n 0, 1) := dk_42 (dk_at dksX1_undo_0 18 rfl rfl)
theorem dX1_undo_19 : decode cX1_undo 19 = .ok (.getfield 20, 3) := dk_180 0 20 (dk_at dksX1_undo_0 19 rfl rfl)
theorem dX1_undo_22 : decode cX1_undo 22 = .ok (.aload_n 0, 1) := dk_42 (dk_at dksX1_undo_0 22 rfl rfl)
theorem dX1_undo_23 : decode cX1_undo 23 = .ok (.getfield 20, 3) := dk_180 0 20 (dk_at dksX1_undo_1 0 rfl rfl)
theorem dX1_undo_26 : decode cX1_undo 26 = .ok (.invokevirtual 120, 3) := dk_182 0 120 (dk_at dksX1_undo_1 3 rfl rfl)
theorem dX1_undo_29 : decode cX1_undo 29 = .ok (.iconst 1, 1) := dk_4 (dk_at dksX1_undo_1 6 rfl rfl)
theorem dX1_undo_30 : decode cX1_undo 30 = .ok (.isub, 1) := dk_100 (dk_at dksX1_undo_1 7 rfl rfl)
theorem dX1_undo_31 : decode cX1_undo 31 = .ok (.invokevirtual 373, 3) := dk_182 1 117 (dk_at dksX1_undo_1 8 rfl rfl)
theorem dX1_undo_34 : decode cX1_undo 34 = .ok (.checkcast 90, 3) := dk_192 0 90 (dk_at dksX1_undo_1 11 rfl rfl)
theorem dX1_undo_37 : decode cX1_undo 37 = .ok (.putfield 95, 3) := dk_181 0 95 (dk_at dksX1_undo_1 14 rfl rfl)
theorem dX1_undo_40 : decode cX1_undo 40 = .ok (.aload_n 0, 1) := dk_42 (dk_at dksX1_undo_1 17 rfl rfl)
theorem dX1_undo_41 : decode cX1_undo 41 = .ok (.invokevirtual 386, 3) := dk_182 1 130 (dk_at dksX1_undo_1 18 rfl rfl)
theorem dX1_undo_44 : decode cX1_undo 44 = .ok (.ireturn, 1) := dk_172 (dk_at dksX1_undo_1 21 rfl rfl)
abbrev cX1_image : ByteArray := prog_1_method_99_code
def yX1_image : MethodName := ⟨RX1, "image", "()I"⟩
def dkwX1_image_2 : List UInt8 := [180, 0, 24, 182, 0, 120, 4, 100, 182, 0, 51, 172]
abbrev dktX1_image_2 : List UInt8 := dkwX1_image_2 ++ []
def dkwX1_image_1 : List UInt8 := [42, 6, 182, 0, 47, 172, 42, 180, 0, 24, 42, 180, 0, 95, 182, 0, 102, 182, 1, 120, 87, 42, 42]
abbrev dktX1_image_1 : List UInt8 := dkwX1_image_1 ++ dktX1_image_2
def dkwX1_image_0 : List UInt8 := [42, 180, 0, 86, 199, 0, 9, 42, 4, 182, 0, 47, 172, 42, 180, 0, 24, 182, 0, 120, 6, 160, 0, 9]
abbrev dktX1_image_0 : List UInt8 := dkwX1_image_0 ++ dktX1_image_1
theorem dksX1_image_0 : cX1_image.data.toList.drop 0 = dktX1_image_0 := by decide +kernel
theorem dksX1_image_1 : cX1_image.data.toList.drop 24 = dktX1_image_1 := dk_seg dksX1_image_0 24 rfl rfl
theorem dksX1_image_2 : cX1_image.data.toList.drop 47 = dktX1_image_2 := dk_seg dksX1_image_1 23 rfl rfl
theorem dX1_image_0 : decode cX1_image 0 = .ok (.aload_n 0, 1) := dk_42 (dk_at dksX1_image_0 0 rfl rfl)
theorem dX1_image_1 : decode cX1_image 1 = .ok (.getfield 86, 3) := dk_180 0 86 (dk_at dksX1_image_0 1 rfl rfl)
theorem dX1_image_4 : decode cX1_image 4 = .ok (.ifnonnull 9, 3) := dk_199 0 9 (dk_at dksX1_image_0 4 rfl rfl)
theorem dX1_image_7 : decode cX1_image 7 = .ok (.aload_n 0, 1) := dk_42 (dk_at dksX1_image_0 7 rfl rfl)
theorem dX1_image_8 : decode cX1_image 8 = .ok (.iconst 1, 1) := dk_4 (dk_at dksX1_image_0 8 rfl rfl)
theorem dX1_image_9 : decode cX1_image 9 = .ok (.invokevirtual 47, 3) := dk_182 0 47 (dk_at dksX1_image_0 9 rfl rfl)
theorem dX1_image_12 : decode cX1_image 12 = .ok (.ireturn, 1) := dk_172 (dk_at dksX1_image_0 12 rfl rfl)
theorem dX1_image_13 : decode cX1_image 13 = .ok (.aload_n 0, 1) := dk_42 (dk_at dksX1_image_0 13 rfl rfl)
theorem dX1_image_14 : decode cX1_image 14 = .ok (.getfield 24, 3) := dk_180 0 24 (dk_at dksX1_image_0 14 rfl rfl)
theorem dX1_image_17 : decode cX1_image 17 = .ok (.invokevirtual 120, 3) := dk_182 0 120 (dk_at dksX1_image_0 17 rfl rfl)
theorem dX1_image_20 : decode cX1_image 20 = .ok (.iconst 3, 1) := dk_6 (dk_at dksX1_image_0 20 rfl rfl)
theorem dX1_image_21 : decode cX1_image 21 = .ok (.if_icmp .ne 9, 3) := dk_160 0 9 (dk_at dksX1_image_0 21 rfl rfl)
theorem dX1_image_24 : decode cX1_image 24 = .ok (.aload_n 0, 1) := dk_42 (dk_at dksX1_image_1 0 rfl rfl)
theorem dX1_image_25 : decode cX1_image 25 = .ok (.iconst 3, 1) := dk_6 (dk_at dksX1_image_1 1 rfl rfl)
theorem dX1_image_26 : decode cX1_image 26 = .ok (.invokevirtual 47, 3) := dk_182 0 47 (dk_at dksX1_image_1 2 rfl rfl)
theorem dX1_image_29 : decode cX1_image 29 = .ok (.ireturn, 1) := dk_172 (dk_at dksX1_image_1 5 rfl rfl)
theorem dX1_image_30 : decode cX1_image 30 = .ok (.aload_n 0, 1) := dk_42 (dk_at dksX1_image_1 6 rfl rfl)
theorem dX1_image_31 : decode cX1_image 31 = .ok (.getfield 24, 3) := dk_180 0 24 (dk_at dksX1_image_1 7 rfl rfl)
theorem dX1_image_34 : decode cX1_image 34 = .ok (.aload_n 0, 1) := dk_42 (dk_at dksX1_image_1 10 rfl rfl)
theorem dX1_image_35 : decode cX1_image 35 = .ok (.getfield 95, 3) := dk_180 0 95 (dk_at dksX1_image_1 11 rfl rfl)
theorem dX1_image_38 : decode cX1_image 38 = .ok (.invokevirtual 102, 3) := dk_182 0 102 (dk_at dksX1_image_1 14 rfl rfl)
theorem dX1_image_41 : decode cX1_image 41 = .ok (.invokevirtual 376, 3) := dk_182 1 120 (dk_at dksX1_image_1 17 rfl rfl)
theorem dX1_image_44 : decode cX1_image 44 = .ok (.pop, 1) := dk_87 (dk_at dksX1_image_1 20 rfl rfl)
theorem dX1_image_45 : decode cX1_image 45 = .ok (.aload_n 0, 1) := dk_42 (dk_at dksX1_image_1 21 rfl rfl)
theorem dX1_image_46 : decode cX1_image 46 = .ok (.aload_n 0, 1) := dk_42 (dk_at dksX1_image_1 22 rfl rfl)
theorem dX1_image_47 : decode cX1_image 47 = .ok (.getfield 24, 3) := dk_180 0 24 (dk_at dksX1_image_2 0 rfl rfl)
theorem dX1_image_50 : decode cX1_image 50 = .ok (.invokevirtual 120, 3) := dk_182 0 120 (dk_at dksX1_image_2 3 rfl rfl)
theorem dX1_image_53 : decode cX1_image 53 = .ok (.iconst 1, 1) := dk_4 (dk_at dksX1_image_2 6 rfl rfl)
theorem dX1_image_54 : decode cX1_image 54 = .ok (.isub, 1) := dk_100 (dk_at dksX1_image_2 7 rfl rfl)
theorem dX1_image_55 : decode cX1_image 55 = .ok (.invokevirtual 51, 3) := dk_182 0 51 (dk_at dksX1_image_2 8 rfl rfl)
theorem dX1_image_58 : decode cX1_image 58 = .ok (.ireturn, 1) := dk_172 (dk_at dksX1_image_2 11 rfl rfl)
abbrev cX1_back : ByteArray := prog_1_method_100_code
def yX1_back : MethodName := ⟨RX1, "back", "(I)Z"⟩
def dkwX1_back_2 : List UInt8 := [42, 182, 1, 130, 172]
abbrev dktX1_back_2 : List UInt8 := dkwX1_back_2 ++ []
def dkwX1_back_1 : List UInt8 := [42, 180, 0, 24, 27, 182, 1, 4, 192, 0, 90, 182, 0, 102, 181, 0, 95, 42, 180, 0, 20, 182, 0, 109]
abbrev dktX1_back_1 : List UInt8 := dkwX1_back_1 ++ dktX1_back_2
def dkwX1_back_0 : List UInt8 := [27, 3, 42, 180, 0, 24, 182, 0, 120, 4, 100, 184, 0, 61, 154, 0, 9, 42, 4, 182, 1, 124, 172, 42]
abbrev dktX1_back_0 : List UInt8 := dkwX1_back_0 ++ dktX1_back_1
theorem dksX1_back_0 : cX1_back.data.toList.drop 0 = dktX1_back_0 := by decide +kernel
theorem dksX1_back_1 : cX1_back.data.toList.drop 24 = dktX1_back_1 := dk_seg dksX1_back_0 24 rfl rfl
theorem dksX1_back_2 : cX1_back.data.toList.drop 48 = dktX1_back_2 := dk_seg dksX1_back_1 24 rfl rfl
theorem dX1_back_0 : decode cX1_back 0 = .ok (.iload_n 1, 1) := dk_27 (dk_at dksX1_back_0 0 rfl rfl)
theorem dX1_back_1 : decode cX1_back 1 = .ok (.iconst 0, 1) := dk_3 (dk_at dksX1_back_0 1 rfl rfl)
theorem dX1_back_2 : decode cX1_back 2 = .ok (.aload_n 0, 1) := dk_42 (dk_at dksX1_back_0 2 rfl rfl)
theorem dX1_back_3 : decode cX1_back 3 = .ok (.getfield 24, 3) := dk_180 0 24 (dk_at dksX1_back_0 3 rfl rfl)
theorem dX1_back_6 : decode cX1_back 6 = .ok (.invokevirtual 120, 3) := dk_182 0 120 (dk_at dksX1_back_0 6 rfl rfl)
theorem dX1_back_9 : decode cX1_back 9 = .ok (.iconst 1, 1) := dk_4 (dk_at dksX1_back_0 9 rfl rfl)
theorem dX1_back_10 : decode cX1_back 10 = .ok (.isub, 1) := dk_100 (dk_at dksX1_back_0 10 rfl rfl)
theorem dX1_back_11 : decode cX1_back 11 = .ok (.invokestatic 61, 3) := dk_184 0 61 (dk_at dksX1_back_0 11 rfl rfl)
theorem dX1_back_14 : decode cX1_back 14 = .ok (.ifCond .ne 9, 3) := dk_154 0 9 (dk_at dksX1_back_0 14 rfl rfl)
theorem dX1_back_17 : decode cX1_back 17 = .ok (.aload_n 0, 1) := dk_42 (dk_at dksX1_back_0 17 rfl rfl)
theorem dX1_back_18 : decode cX1_back 18 = .ok (.iconst 1, 1) := dk_4 (dk_at dksX1_back_0 18 rfl rfl)
theorem dX1_back_19 : decode cX1_back 19 = .ok (.invokevirtual 380, 3) := dk_182 1 124 (dk_at dksX1_back_0 19 rfl rfl)
theorem dX1_back_22 : decode cX1_back 22 = .ok (.ireturn, 1) := dk_172 (dk_at dksX1_back_0 22 rfl rfl)
theorem dX1_back_23 : decode cX1_back 23 = .ok (.aload_n 0, 1) := dk_42 (dk_at dksX1_back_0 23 rfl rfl)
theorem dX1_back_24 : decode cX1_back 24 = .ok (.aload_n 0, 1) := dk_42 (dk_at dksX1_back_1 0 rfl rfl)
theorem dX1_back_25 : decode cX1_back 25 = .ok (.getfield 24, 3) := dk_180 0 24 (dk_at dksX1_back_1 1 rfl rfl)
theorem dX1_back_28 : decode cX1_back 28 = .ok (.iload_n 1, 1) := dk_27 (dk_at dksX1_back_1 4 rfl rfl)
theorem dX1_back_29 : decode cX1_back 29 = .ok (.invokevirtual 260, 3) := dk_182 1 4 (dk_at dksX1_back_1 5 rfl rfl)
theorem dX1_back_32 : decode cX1_back 32 = .ok (.checkcast 90, 3) := dk_192 0 90 (dk_at dksX1_back_1 8 rfl rfl)
theorem dX1_back_35 : decode cX1_back 35 = .ok (.invokevirtual 102, 3) := dk_182 0 102 (dk_at dksX1_back_1 11 rfl rfl)
theorem dX1_back_38 : decode cX1_back 38 = .ok (.putfield 95, 3) := dk_181 0 95 (dk_at dksX1_back_1 14 rfl rfl)
theorem dX1_back_41 : decode cX1_back 41 = .ok (.aload_n 0, 1) := dk_42 (dk_at dksX1_back_1 17 rfl rfl)
theorem dX1_back_42 : decode cX1_back 42 = .ok (.getfield 20, 3) := dk_180 0 20 (dk_at dksX1_back_1 18 rfl rfl)
theorem dX1_back_45 : decode cX1_back 45 = .ok (.invokevirtual 109, 3) := dk_182 0 109 (dk_at dksX1_back_1 21 rfl rfl)
theorem dX1_back_48 : decode cX1_back 48 = .ok (.aload_n 0, 1) := dk_42 (dk_at dksX1_back_2 0 rfl rfl)
theorem dX1_back_49 : decode cX1_back 49 = .ok (.invokevirtual 386, 3) := dk_182 1 130 (dk_at dksX1_back_2 1 rfl rfl)
theorem dX1_back_52 : decode cX1_back 52 = .ok (.ireturn, 1) := dk_172 (dk_at dksX1_back_2 4 rfl rfl)
abbrev cX1_size : ByteArray := prog_1_method_102_code
def yX1_size : MethodName := ⟨RX1, "size", "(I)I"⟩
def dkwX1_size_6 : List UInt8 := [182, 0, 120, 172]
abbrev dktX1_size_6 : List UInt8 := dkwX1_size_6 ++ []
def dkwX1_size_5 : List UInt8 := [180, 0, 158, 172, 42, 180, 0, 86, 180, 1, 153, 172, 42, 180, 0, 20, 182, 0, 120, 172, 42, 180, 0, 24]
abbrev dktX1_size_5 : List UInt8 := dkwX1_size_5 ++ dktX1_size_6
def dkwX1_size_4 : List UInt8 := [180, 0, 86, 180, 1, 147, 172, 42, 182, 0, 136, 172, 42, 180, 0, 86, 180, 1, 150, 172, 42, 180, 0, 86]
abbrev dktX1_size_4 : List UInt8 := dkwX1_size_4 ++ dktX1_size_5
def dkwX1_size_3 : List UInt8 := [42, 180, 0, 86, 180, 0, 214, 172, 42, 182, 0, 112, 172, 42, 182, 0, 134, 172, 42, 182, 0, 132, 172, 42]
abbrev dktX1_size_3 : List UInt8 := dkwX1_size_3 ++ dktX1_size_4
def dkwX1_size_2 : List UInt8 := [170, 0, 0, 0, 0, 0, 123, 0, 0, 0, 0, 0, 0, 0, 9, 0, 0, 0, 55, 0, 0, 0, 63, 0, 0, 0, 68, 0, 0, 0, 73, 0, 0, 0, 78, 0, 0, 0, 86, 0, 0, 0, 91, 0, 0, 0, 99, 0, 0, 0, 107, 0, 0, 0, 115]
abbrev dktX1_size_2 : List UInt8 := dkwX1_size_2 ++ dktX1_size_3
def dkwX1_size_1 : List UInt8 := [180, 0, 86, 199, 0, 5, 3, 172, 27]
abbrev dktX1_size_1 : List UInt8 := dkwX1_size_1 ++ dktX1_size_2
def dkwX1_size_0 : List UInt8 := [27, 16, 11, 160, 0, 8, 42, 180, 0, 58, 172, 27, 3, 16, 10, 184, 0, 61, 154, 0, 5, 2, 172, 42]
abbrev dktX1_size_0 : List UInt8 := dkwX1_size_0 ++ dktX1_size_1
theorem dksX1_size_0 : cX1_size.data.toList.drop 0 = dktX1_size_0 := by decide +kernel
theorem dksX1_size_1 : cX1_size.data.toList.drop 24 = dktX1_size_1 := dk_seg dksX1_size_0 24 rfl rfl
theorem dksX1_size_2 : cX1_size.data.toList.drop 33 = dktX1_size_2 := dk_seg dksX1_size_1 9 rfl rfl
theorem dksX1_size_3 : cX1_size.data.toList.drop 88 = dktX1_size_3 := dk_seg dksX1_size_2 55 rfl rfl
theorem dksX1_size_4 : cX1_size.data.toList.drop 112 = dktX1_size_4 := dk_seg dksX1_size_3 24 rfl rfl
theorem dksX1_size_5 : cX1_size.data.toList.drop 136 = dktX1_size_5 := dk_seg dksX1_size_4 24 rfl rfl
theorem dksX1_size_6 : cX1_size.data.toList.drop 160 = dktX1_size_6 := dk_seg dksX1_size_5 24 rfl rfl
theorem dX1_size_0 : decode cX1_size 0 = .ok (.iload_n 1, 1) := dk_27 (dk_at dksX1_size_0 0 rfl rfl)
theorem dX1_size_1 : decode cX1_size 1 = .ok (.bipush 11, 2) := dk_16 11 (dk_at dksX1_size_0 1 rfl rfl)
theorem dX1_size_3 : decode cX1_size 3 = .ok (.if_icmp .ne 8, 3) := dk_160 0 8 (dk_at dksX1_size_0 3 rfl rfl)
theorem dX1_size_6 : decode cX1_size 6 = .ok (.aload_n 0, 1) := dk_42 (dk_at dksX1_size_0 6 rfl rfl)
theorem dX1_size_7 : decode cX1_size 7 = .ok (.getfield 58, 3) := dk_180 0 58 (dk_at dksX1_size_0 7 rfl rfl)
theorem dX1_size_10 : decode cX1_size 10 = .ok (.ireturn, 1) := dk_172 (dk_at dksX1_size_0 10 rfl rfl)
theorem dX1_size_11 : decode cX1_size 11 = .ok (.iload_n 1, 1) := dk_27 (dk_at dksX1_size_0 11 rfl rfl)
theorem dX1_size_12 : decode cX1_size 12 = .ok (.iconst 0, 1) := dk_3 (dk_at dksX1_size_0 12 rfl rfl)
theorem dX1_size_13 : decode cX1_size 13 = .ok (.bipush 10, 2) := dk_16 10 (dk_at dksX1_size_0 13 rfl rfl)
theorem dX1_size_15 : decode cX1_size 15 = .ok (.invokestatic 61, 3) := dk_184 0 61 (dk_at dksX1_size_0 15 rfl rfl)
theorem dX1_size_18 : decode cX1_size 18 = .ok (.ifCond .ne 5, 3) := dk_154 0 5 (dk_at dksX1_size_0 18 rfl rfl)
theorem dX1_size_21 : decode cX1_size 21 = .ok (.iconst (-1), 1) := dk_2 (dk_at dksX1_size_0 21 rfl rfl)
theorem dX1_size_22 : decode cX1_size 22 = .ok (.ireturn, 1) := dk_172 (dk_at dksX1_size_0 22 rfl rfl)
theorem dX1_size_23 : decode cX1_size 23 = .ok (.aload_n 0, 1) := dk_42 (dk_at dksX1_size_0 23 rfl rfl)
theorem dX1_size_24 : decode cX1_size 24 = .ok (.getfield 86, 3) := dk_180 0 86 (dk_at dksX1_size_1 0 rfl rfl)
theorem dX1_size_27 : decode cX1_size 27 = .ok (.ifnonnull 5, 3) := dk_199 0 5 (dk_at dksX1_size_1 3 rfl rfl)
theorem dX1_size_30 : decode cX1_size 30 = .ok (.iconst 0, 1) := dk_3 (dk_at dksX1_size_1 6 rfl rfl)
theorem dX1_size_31 : decode cX1_size 31 = .ok (.ireturn, 1) := dk_172 (dk_at dksX1_size_1 7 rfl rfl)
theorem dX1_size_32 : decode cX1_size 32 = .ok (.iload_n 1, 1) := dk_27 (dk_at dksX1_size_1 8 rfl rfl)
theorem dX1_size_33 : decode cX1_size 33 = .ok (.tableswitch 123 0 9 #[55, 63, 68, 73, 78, 86, 91, 99, 107, 115], 55) := by decide +kernel
theorem dX1_size_88 : decode cX1_size 88 = .ok (.aload_n 0, 1) := dk_42 (dk_at dksX1_size_3 0 rfl rfl)
theorem dX1_size_89 : decode cX1_size 89 = .ok (.getfield 86, 3) := dk_180 0 86 (dk_at dksX1_size_3 1 rfl rfl)
theorem dX1_size_92 : decode cX1_size 92 = .ok (.getfield 214, 3) := dk_180 0 214 (dk_at dksX1_size_3 4 rfl rfl)
theorem dX1_size_95 : decode cX1_size 95 = .ok (.ireturn, 1) := dk_172 (dk_at dksX1_size_3 7 rfl rfl)
theorem dX1_size_96 : decode cX1_size 96 = .ok (.aload_n 0, 1) := dk_42 (dk_at dksX1_size_3 8 rfl rfl)
theorem dX1_size_97 : decode cX1_size 97 = .ok (.invokevirtual 112, 3) := dk_182 0 112 (dk_at dksX1_size_3 9 rfl rfl)
theorem dX1_size_100 : decode cX1_size 100 = .ok (.ireturn, 1) := dk_172 (dk_at dksX1_size_3 12 rfl rfl)
theorem dX1_size_101 : decode cX1_size 101 = .ok (.aload_n 0, 1) := dk_42 (dk_at dksX1_size_3 13 rfl rfl)
theorem dX1_size_102 : decode cX1_size 102 = .ok (.invokevirtual 134, 3) := dk_182 0 134 (dk_at dksX1_size_3 14 rfl rfl)
theorem dX1_size_105 : decode cX1_size 105 = .ok (.ireturn, 1) := dk_172 (dk_at dksX1_size_3 17 rfl rfl)
theorem dX1_size_106 : decode cX1_size 106 = .ok (.aload_n 0, 1) := dk_42 (dk_at dksX1_size_3 18 rfl rfl)
theorem dX1_size_107 : decode cX1_size 107 = .ok (.invokevirtual 132, 3) := dk_182 0 132 (dk_at dksX1_size_3 19 rfl rfl)
theorem dX1_size_110 : decode cX1_size 110 = .ok (.ireturn, 1) := dk_172 (dk_at dksX1_size_3 22 rfl rfl)
theorem dX1_size_111 : decode cX1_size 111 = .ok (.aload_n 0, 1) := dk_42 (dk_at dksX1_size_3 23 rfl rfl)
theorem dX1_size_112 : decode cX1_size 112 = .ok (.getfield 86, 3) := dk_180 0 86 (dk_at dksX1_size_4 0 rfl rfl)
theorem dX1_size_115 : decode cX1_size 115 = .ok (.getfield 403, 3) := dk_180 1 147 (dk_at dksX1_size_4 3 rfl rfl)
theorem dX1_size_118 : decode cX1_size 118 = .ok (.ireturn, 1) := dk_172 (dk_at dksX1_size_4 6 rfl rfl)
theorem dX1_size_119 : decode cX1_size 119 = .ok (.aload_n 0, 1) := dk_42 (dk_at dksX1_size_4 7 rfl rfl)
theorem dX1_size_120 : decode cX1_size 120 = .ok (.invokevirtual 136, 3) := dk_182 0 136 (dk_at dksX1_size_4 8 rfl rfl)
theorem dX1_size_123 : decode cX1_size 123 = .ok (.ireturn, 1) := dk_172 (dk_at dksX1_size_4 11 rfl rfl)
theorem dX1_size_124 : decode cX1_size 124 = .ok (.aload_n 0, 1) := dk_42 (dk_at dksX1_size_4 12 rfl rfl)
theorem dX1_size_125 : decode cX1_size 125 = .ok (.getfield 86, 3) := dk_180 0 86 (dk_at dksX1_size_4 13 rfl rfl)
theorem dX1_size_128 : decode cX1_size 128 = .ok (.getfield 406, 3) := dk_180 1 150 (dk_at dksX1_size_4 16 rfl rfl)
theorem dX1_size_131 : decode cX1_size 131 = .ok (.ireturn, 1) := dk_172 (dk_at dksX1_size_4 19 rfl rfl)
theorem dX1_size_132 : decode cX1_size 132 = .ok (.aload_n 0, 1) := dk_42 (dk_at dksX1_size_4 20 rfl rfl)
theorem dX1_size_133 : decode cX1_size 133 = .ok (.getfield 86, 3) := dk_180 0 86 (dk_at dksX1_size_4 21 rfl rfl)
theorem dX1_size_136 : decode cX1_size 136 = .ok (.getfield 158, 3) := dk_180 0 158 (dk_at dksX1_size_5 0 rfl rfl)
theorem dX1_size_139 : decode cX1_size 139 = .ok (.ireturn, 1) := dk_172 (dk_at dksX1_size_5 3 rfl rfl)
theorem dX1_size_140 : decode cX1_size 140 = .ok (.aload_n 0, 1) := dk_42 (dk_at dksX1_size_5 4 rfl rfl)
theorem dX1_size_141 : decode cX1_size 141 = .ok (.getfield 86, 3) := dk_180 0 86 (dk_at dksX1_size_5 5 rfl rfl)
theorem dX1_size_144 : decode cX1_size 144 = .ok (.getfield 409, 3) := dk_180 1 153 (dk_at dksX1_size_5 8 rfl rfl)
theorem dX1_size_147 : decode cX1_size 147 = .ok (.ireturn, 1) := dk_172 (dk_at dksX1_size_5 11 rfl rfl)
theorem dX1_size_148 : decode cX1_size 148 = .ok (.aload_n 0, 1) := dk_42 (dk_at dksX1_size_5 12 rfl rfl)
theorem dX1_size_149 : decode cX1_size 149 = .ok (.getfield 20, 3) := dk_180 0 20 (dk_at dksX1_size_5 13 rfl rfl)
theorem dX1_size_152 : decode cX1_size 152 = .ok (.invokevirtual 120, 3) := dk_182 0 120 (dk_at dksX1_size_5 16 rfl rfl)
theorem dX1_size_155 : decode cX1_size 155 = .ok (.ireturn, 1) := dk_172 (dk_at dksX1_size_5 19 rfl rfl)
theorem dX1_size_156 : decode cX1_size 156 = .ok (.aload_n 0, 1) := dk_42 (dk_at dksX1_size_5 20 rfl rfl)
theorem dX1_size_157 : decode cX1_size 157 = .ok (.getfield 24, 3) := dk_180 0 24 (dk_at dksX1_size_5 21 rfl rfl)
theorem dX1_size_160 : decode cX1_size 160 = .ok (.invokevirtual 120, 3) := dk_182 0 120 (dk_at dksX1_size_6 0 rfl rfl)
theorem dX1_size_163 : decode cX1_size 163 = .ok (.ireturn, 1) := dk_172 (dk_at dksX1_size_6 3 rfl rfl)
abbrev cX1_trouble : ByteArray := prog_1_method_103_code
def yX1_trouble : MethodName := ⟨RX1, "trouble", "()I"⟩
theorem dX1_trouble_0 : decode cX1_trouble 0 = .ok (.aload_n 0, 1) := by decide +kernel
theorem dX1_trouble_1 : decode cX1_trouble 1 = .ok (.getfield 44, 3) := by decide +kernel
theorem dX1_trouble_4 : decode cX1_trouble 4 = .ok (.ireturn, 1) := by decide +kernel
abbrev cX1_led : ByteArray := prog_1_method_101_code
def yX1_led : MethodName := ⟨RX1, "led", "(I)I"⟩
def dkwX1_led_2 : List UInt8 := [187, 1, 144, 89, 183, 1, 146, 191]
abbrev dktX1_led_2 : List UInt8 := dkwX1_led_2 ++ []
def dkwX1_led_1 : List UInt8 := [16, 254, 159, 0, 6, 167, 0, 13, 28, 27, 160, 0, 5, 29, 172, 132, 2, 1, 132, 3, 1, 167, 255, 215]
abbrev dktX1_led_1 : List UInt8 := dkwX1_led_1 ++ dktX1_led_2
def dkwX1_led_0 : List UInt8 := [3, 61, 3, 62, 42, 180, 0, 86, 198, 0, 40, 29, 42, 182, 0, 136, 162, 0, 32, 42, 29, 182, 1, 32]
abbrev dktX1_led_0 : List UInt8 := dkwX1_led_0 ++ dktX1_led_1
theorem dksX1_led_0 : cX1_led.data.toList.drop 0 = dktX1_led_0 := by decide +kernel
theorem dksX1_led_1 : cX1_led.data.toList.drop 24 = dktX1_led_1 := dk_seg dksX1_led_0 24 rfl rfl
theorem dksX1_led_2 : cX1_led.data.toList.drop 48 = dktX1_led_2 := dk_seg dksX1_led_1 24 rfl rfl
theorem dX1_led_0 : decode cX1_led 0 = .ok (.iconst 0, 1) := dk_3 (dk_at dksX1_led_0 0 rfl rfl)
theorem dX1_led_1 : decode cX1_led 1 = .ok (.istore_n 2, 1) := dk_61 (dk_at dksX1_led_0 1 rfl rfl)
theorem dX1_led_2 : decode cX1_led 2 = .ok (.iconst 0, 1) := dk_3 (dk_at dksX1_led_0 2 rfl rfl)
theorem dX1_led_3 : decode cX1_led 3 = .ok (.istore_n 3, 1) := dk_62 (dk_at dksX1_led_0 3 rfl rfl)
theorem dX1_led_4 : decode cX1_led 4 = .ok (.aload_n 0, 1) := dk_42 (dk_at dksX1_led_0 4 rfl rfl)
theorem dX1_led_5 : decode cX1_led 5 = .ok (.getfield 86, 3) := dk_180 0 86 (dk_at dksX1_led_0 5 rfl rfl)
theorem dX1_led_8 : decode cX1_led 8 = .ok (.ifnull 40, 3) := dk_198 0 40 (dk_at dksX1_led_0 8 rfl rfl)
theorem dX1_led_11 : decode cX1_led 11 = .ok (.iload_n 3, 1) := dk_29 (dk_at dksX1_led_0 11 rfl rfl)
theorem dX1_led_12 : decode cX1_led 12 = .ok (.aload_n 0, 1) := dk_42 (dk_at dksX1_led_0 12 rfl rfl)
theorem dX1_led_13 : decode cX1_led 13 = .ok (.invokevirtual 136, 3) := dk_182 0 136 (dk_at dksX1_led_0 13 rfl rfl)
theorem dX1_led_16 : decode cX1_led 16 = .ok (.if_icmp .ge 32, 3) := dk_162 0 32 (dk_at dksX1_led_0 16 rfl rfl)
theorem dX1_led_19 : decode cX1_led 19 = .ok (.aload_n 0, 1) := dk_42 (dk_at dksX1_led_0 19 rfl rfl)
theorem dX1_led_20 : decode cX1_led 20 = .ok (.iload_n 3, 1) := dk_29 (dk_at dksX1_led_0 20 rfl rfl)
theorem dX1_led_21 : decode cX1_led 21 = .ok (.invokevirtual 288, 3) := dk_182 1 32 (dk_at dksX1_led_0 21 rfl rfl)
theorem dX1_led_24 : decode cX1_led 24 = .ok (.bipush (-2), 2) := dk_16 254 (dk_at dksX1_led_1 0 rfl rfl)
theorem dX1_led_26 : decode cX1_led 26 = .ok (.if_icmp .eq 6, 3) := dk_159 0 6 (dk_at dksX1_led_1 2 rfl rfl)
theorem dX1_led_29 : decode cX1_led 29 = .ok (.goto 13, 3) := dk_167 0 13 (dk_at dksX1_led_1 5 rfl rfl)
theorem dX1_led_32 : decode cX1_led 32 = .ok (.iload_n 2, 1) := dk_28 (dk_at dksX1_led_1 8 rfl rfl)
theorem dX1_led_33 : decode cX1_led 33 = .ok (.iload_n 1, 1) := dk_27 (dk_at dksX1_led_1 9 rfl rfl)
theorem dX1_led_34 : decode cX1_led 34 = .ok (.if_icmp .ne 5, 3) := dk_160 0 5 (dk_at dksX1_led_1 10 rfl rfl)
theorem dX1_led_37 : decode cX1_led 37 = .ok (.iload_n 3, 1) := dk_29 (dk_at dksX1_led_1 13 rfl rfl)
theorem dX1_led_38 : decode cX1_led 38 = .ok (.ireturn, 1) := dk_172 (dk_at dksX1_led_1 14 rfl rfl)
theorem dX1_led_39 : decode cX1_led 39 = .ok (.iinc 2 1, 3) := dk_132 2 1 (dk_at dksX1_led_1 15 rfl rfl)
theorem dX1_led_42 : decode cX1_led 42 = .ok (.iinc 3 1, 3) := dk_132 3 1 (dk_at dksX1_led_1 18 rfl rfl)
theorem dX1_led_45 : decode cX1_led 45 = .ok (.goto (-41), 3) := dk_167 255 215 (dk_at dksX1_led_1 21 rfl rfl)
theorem dX1_led_48 : decode cX1_led 48 = .ok (.new 400, 3) := dk_187 1 144 (dk_at dksX1_led_2 0 rfl rfl)
theorem dX1_led_51 : decode cX1_led 51 = .ok (.dup, 1) := dk_89 (dk_at dksX1_led_2 3 rfl rfl)
theorem dX1_led_52 : decode cX1_led 52 = .ok (.invokespecial 402, 3) := dk_183 1 146 (dk_at dksX1_led_2 4 rfl rfl)
theorem dX1_led_55 : decode cX1_led 55 = .ok (.athrow, 1) := dk_191 (dk_at dksX1_led_2 7 rfl rfl)
