/-! CODES AND DECODE ROWS (claim/names) -/
set_option maxRecDepth 100000
abbrev cX2_init : ByteArray := prog_15_method_1_code
def yX2_init : MethodName := ⟨RX2, "<init>", "()V"⟩
def dkwX2_init_4 : List UInt8 := [7, 188, 10, 181, 0, 44, 177]
abbrev dktX2_init_4 : List UInt8 := dkwX2_init_4 ++ []
def dkwX2_init_3 : List UInt8 := [16, 8, 188, 10, 181, 0, 35, 42, 16, 6, 188, 10, 181, 0, 38, 42, 16, 6, 188, 10, 181, 0, 41, 42]
abbrev dktX2_init_3 : List UInt8 := dkwX2_init_3 ++ dktX2_init_4
def dkwX2_init_2 : List UInt8 := [188, 10, 181, 0, 26, 42, 17, 0, 128, 188, 10, 181, 0, 29, 42, 16, 24, 188, 10, 181, 0, 32, 42]
abbrev dktX2_init_2 : List UInt8 := dkwX2_init_2 ++ dktX2_init_3
def dkwX2_init_1 : List UInt8 := [181, 0, 17, 42, 17, 0, 241, 188, 10, 181, 0, 20, 42, 17, 0, 241, 188, 10, 181, 0, 23, 42, 16, 8]
abbrev dktX2_init_1 : List UInt8 := dkwX2_init_1 ++ dktX2_init_2
def dkwX2_init_0 : List UInt8 := [42, 183, 0, 1, 42, 17, 3, 132, 188, 10, 181, 0, 7, 42, 2, 181, 0, 13, 42, 16, 8, 188, 10]
abbrev dktX2_init_0 : List UInt8 := dkwX2_init_0 ++ dktX2_init_1
theorem dksX2_init_0 : cX2_init.data.toList.drop 0 = dktX2_init_0 := by decide +kernel
theorem dksX2_init_1 : cX2_init.data.toList.drop 23 = dktX2_init_1 := dk_seg dksX2_init_0 23 rfl rfl
theorem dksX2_init_2 : cX2_init.data.toList.drop 47 = dktX2_init_2 := dk_seg dksX2_init_1 24 rfl rfl
theorem dksX2_init_3 : cX2_init.data.toList.drop 70 = dktX2_init_3 := dk_seg dksX2_init_2 23 rfl rfl
theorem dksX2_init_4 : cX2_init.data.toList.drop 94 = dktX2_init_4 := dk_seg dksX2_init_3 24 rfl rfl
theorem dX2_init_0 : decode cX2_init 0 = .ok (.aload_n 0, 1) := dk_42 (dk_at dksX2_init_0 0 rfl rfl)
theorem dX2_init_1 : decode cX2_init 1 = .ok (.invokespecial 1, 3) := dk_183 0 1 (dk_at dksX2_init_0 1 rfl rfl)
theorem dX2_init_4 : decode cX2_init 4 = .ok (.aload_n 0, 1) := dk_42 (dk_at dksX2_init_0 4 rfl rfl)
theorem dX2_init_5 : decode cX2_init 5 = .ok (.sipush 900, 3) := dk_17 3 132 (dk_at dksX2_init_0 5 rfl rfl)
theorem dX2_init_8 : decode cX2_init 8 = .ok (.newarray .int, 2) := dk_188_10 (dk_at dksX2_init_0 8 rfl rfl)
theorem dX2_init_10 : decode cX2_init 10 = .ok (.putfield 7, 3) := dk_181 0 7 (dk_at dksX2_init_0 10 rfl rfl)
theorem dX2_init_13 : decode cX2_init 13 = .ok (.aload_n 0, 1) := dk_42 (dk_at dksX2_init_0 13 rfl rfl)
theorem dX2_init_14 : decode cX2_init 14 = .ok (.iconst (-1), 1) := dk_2 (dk_at dksX2_init_0 14 rfl rfl)
theorem dX2_init_15 : decode cX2_init 15 = .ok (.putfield 13, 3) := dk_181 0 13 (dk_at dksX2_init_0 15 rfl rfl)
theorem dX2_init_18 : decode cX2_init 18 = .ok (.aload_n 0, 1) := dk_42 (dk_at dksX2_init_0 18 rfl rfl)
theorem dX2_init_19 : decode cX2_init 19 = .ok (.bipush 8, 2) := dk_16 8 (dk_at dksX2_init_0 19 rfl rfl)
theorem dX2_init_21 : decode cX2_init 21 = .ok (.newarray .int, 2) := dk_188_10 (dk_at dksX2_init_0 21 rfl rfl)
theorem dX2_init_23 : decode cX2_init 23 = .ok (.putfield 17, 3) := dk_181 0 17 (dk_at dksX2_init_1 0 rfl rfl)
theorem dX2_init_26 : decode cX2_init 26 = .ok (.aload_n 0, 1) := dk_42 (dk_at dksX2_init_1 3 rfl rfl)
theorem dX2_init_27 : decode cX2_init 27 = .ok (.sipush 241, 3) := dk_17 0 241 (dk_at dksX2_init_1 4 rfl rfl)
theorem dX2_init_30 : decode cX2_init 30 = .ok (.newarray .int, 2) := dk_188_10 (dk_at dksX2_init_1 7 rfl rfl)
theorem dX2_init_32 : decode cX2_init 32 = .ok (.putfield 20, 3) := dk_181 0 20 (dk_at dksX2_init_1 9 rfl rfl)
theorem dX2_init_35 : decode cX2_init 35 = .ok (.aload_n 0, 1) := dk_42 (dk_at dksX2_init_1 12 rfl rfl)
theorem dX2_init_36 : decode cX2_init 36 = .ok (.sipush 241, 3) := dk_17 0 241 (dk_at dksX2_init_1 13 rfl rfl)
theorem dX2_init_39 : decode cX2_init 39 = .ok (.newarray .int, 2) := dk_188_10 (dk_at dksX2_init_1 16 rfl rfl)
theorem dX2_init_41 : decode cX2_init 41 = .ok (.putfield 23, 3) := dk_181 0 23 (dk_at dksX2_init_1 18 rfl rfl)
theorem dX2_init_44 : decode cX2_init 44 = .ok (.aload_n 0, 1) := dk_42 (dk_at dksX2_init_1 21 rfl rfl)
theorem dX2_init_45 : decode cX2_init 45 = .ok (.bipush 8, 2) := dk_16 8 (dk_at dksX2_init_1 22 rfl rfl)
theorem dX2_init_47 : decode cX2_init 47 = .ok (.newarray .int, 2) := dk_188_10 (dk_at dksX2_init_2 0 rfl rfl)
theorem dX2_init_49 : decode cX2_init 49 = .ok (.putfield 26, 3) := dk_181 0 26 (dk_at dksX2_init_2 2 rfl rfl)
theorem dX2_init_52 : decode cX2_init 52 = .ok (.aload_n 0, 1) := dk_42 (dk_at dksX2_init_2 5 rfl rfl)
theorem dX2_init_53 : decode cX2_init 53 = .ok (.sipush 128, 3) := dk_17 0 128 (dk_at dksX2_init_2 6 rfl rfl)
theorem dX2_init_56 : decode cX2_init 56 = .ok (.newarray .int, 2) := dk_188_10 (dk_at dksX2_init_2 9 rfl rfl)
theorem dX2_init_58 : decode cX2_init 58 = .ok (.putfield 29, 3) := dk_181 0 29 (dk_at dksX2_init_2 11 rfl rfl)
theorem dX2_init_61 : decode cX2_init 61 = .ok (.aload_n 0, 1) := dk_42 (dk_at dksX2_init_2 14 rfl rfl)
theorem dX2_init_62 : decode cX2_init 62 = .ok (.bipush 24, 2) := dk_16 24 (dk_at dksX2_init_2 15 rfl rfl)
theorem dX2_init_64 : decode cX2_init 64 = .ok (.newarray .int, 2) := dk_188_10 (dk_at dksX2_init_2 17 rfl rfl)
theorem dX2_init_66 : decode cX2_init 66 = .ok (.putfield 32, 3) := dk_181 0 32 (dk_at dksX2_init_2 19 rfl rfl)
theorem dX2_init_69 : decode cX2_init 69 = .ok (.aload_n 0, 1) := dk_42 (dk_at dksX2_init_2 22 rfl rfl)
theorem dX2_init_70 : decode cX2_init 70 = .ok (.bipush 8, 2) := dk_16 8 (dk_at dksX2_init_3 0 rfl rfl)
theorem dX2_init_72 : decode cX2_init 72 = .ok (.newarray .int, 2) := dk_188_10 (dk_at dksX2_init_3 2 rfl rfl)
theorem dX2_init_74 : decode cX2_init 74 = .ok (.putfield 35, 3) := dk_181 0 35 (dk_at dksX2_init_3 4 rfl rfl)
theorem dX2_init_77 : decode cX2_init 77 = .ok (.aload_n 0, 1) := dk_42 (dk_at dksX2_init_3 7 rfl rfl)
theorem dX2_init_78 : decode cX2_init 78 = .ok (.bipush 6, 2) := dk_16 6 (dk_at dksX2_init_3 8 rfl rfl)
theorem dX2_init_80 : decode cX2_init 80 = .ok (.newarray .int, 2) := dk_188_10 (dk_at dksX2_init_3 10 rfl rfl)
theorem dX2_init_82 : decode cX2_init 82 = .ok (.putfield 38, 3) := dk_181 0 38 (dk_at dksX2_init_3 12 rfl rfl)
theorem dX2_init_85 : decode cX2_init 85 = .ok (.aload_n 0, 1) := dk_42 (dk_at dksX2_init_3 15 rfl rfl)
theorem dX2_init_86 : decode cX2_init 86 = .ok (.bipush 6, 2) := dk_16 6 (dk_at dksX2_init_3 16 rfl rfl)
theorem dX2_init_88 : decode cX2_init 88 = .ok (.newarray .int, 2) := dk_188_10 (dk_at dksX2_init_3 18 rfl rfl)
theorem dX2_init_90 : decode cX2_init 90 = .ok (.putfield 41, 3) := dk_181 0 41 (dk_at dksX2_init_3 20 rfl rfl)
theorem dX2_init_93 : decode cX2_init 93 = .ok (.aload_n 0, 1) := dk_42 (dk_at dksX2_init_3 23 rfl rfl)
theorem dX2_init_94 : decode cX2_init 94 = .ok (.iconst 4, 1) := dk_7 (dk_at dksX2_init_4 0 rfl rfl)
theorem dX2_init_95 : decode cX2_init 95 = .ok (.newarray .int, 2) := dk_188_10 (dk_at dksX2_init_4 1 rfl rfl)
theorem dX2_init_97 : decode cX2_init 97 = .ok (.putfield 44, 3) := dk_181 0 44 (dk_at dksX2_init_4 3 rfl rfl)
theorem dX2_init_100 : decode cX2_init 100 = .ok (.return_, 1) := dk_177 (dk_at dksX2_init_4 6 rfl rfl)
abbrev cX2_thrown : ByteArray := prog_15_method_2_code
def yX2_thrown : MethodName := ⟨RX2, "thrown", "()I"⟩
theorem dX2_thrown_0 : decode cX2_thrown 0 = .ok (.aload_n 0, 1) := by decide +kernel
theorem dX2_thrown_1 : decode cX2_thrown 1 = .ok (.getfield 47, 3) := by decide +kernel
theorem dX2_thrown_4 : decode cX2_thrown 4 = .ok (.ireturn, 1) := by decide +kernel
abbrev cX2_feed : ByteArray := prog_15_method_11_code
def yX2_feed : MethodName := ⟨RX2, "feed", "(IIIII)I"⟩
def dkwX2_feed_5 : List UInt8 := [167, 255, 162, 42, 180, 0, 53, 172]
abbrev dktX2_feed_5 : List UInt8 := dkwX2_feed_5 ++ []
def dkwX2_feed_4 : List UInt8 := [112, 104, 100, 122, 17, 0, 255, 126, 79, 42, 89, 180, 0, 53, 4, 96, 181, 0, 53, 132, 6, 1]
abbrev dktX2_feed_4 : List UInt8 := dkwX2_feed_4 ++ dktX2_feed_5
def dkwX2_feed_3 : List UInt8 := [167, 0, 5, 21, 5, 54, 7, 42, 180, 0, 7, 42, 180, 0, 53, 21, 7, 16, 24, 16, 8, 21, 6, 7]
abbrev dktX2_feed_3 : List UInt8 := dkwX2_feed_3 ++ dktX2_feed_4
def dkwX2_feed_2 : List UInt8 := [28, 167, 0, 28, 21, 6, 16, 12, 162, 0, 7, 29, 167, 0, 17, 21, 6, 16, 16, 162, 0, 8, 21, 4]
abbrev dktX2_feed_2 : List UInt8 := dkwX2_feed_2 ++ dktX2_feed_3
def dkwX2_feed_1 : List UInt8 := [21, 6, 16, 20, 162, 0, 93, 21, 6, 7, 162, 0, 7, 27, 167, 0, 39, 21, 6, 16, 8, 162, 0, 7]
abbrev dktX2_feed_1 : List UInt8 := dkwX2_feed_1 ++ dktX2_feed_2
def dkwX2_feed_0 : List UInt8 := [42, 3, 181, 0, 47, 42, 180, 0, 53, 16, 20, 96, 17, 3, 132, 164, 0, 5, 2, 172, 3, 54, 6]
abbrev dktX2_feed_0 : List UInt8 := dkwX2_feed_0 ++ dktX2_feed_1
theorem dksX2_feed_0 : cX2_feed.data.toList.drop 0 = dktX2_feed_0 := by decide +kernel
theorem dksX2_feed_1 : cX2_feed.data.toList.drop 23 = dktX2_feed_1 := dk_seg dksX2_feed_0 23 rfl rfl
theorem dksX2_feed_2 : cX2_feed.data.toList.drop 47 = dktX2_feed_2 := dk_seg dksX2_feed_1 24 rfl rfl
theorem dksX2_feed_3 : cX2_feed.data.toList.drop 71 = dktX2_feed_3 := dk_seg dksX2_feed_2 24 rfl rfl
theorem dksX2_feed_4 : cX2_feed.data.toList.drop 95 = dktX2_feed_4 := dk_seg dksX2_feed_3 24 rfl rfl
theorem dksX2_feed_5 : cX2_feed.data.toList.drop 117 = dktX2_feed_5 := dk_seg dksX2_feed_4 22 rfl rfl
theorem dX2_feed_0 : decode cX2_feed 0 = .ok (.aload_n 0, 1) := dk_42 (dk_at dksX2_feed_0 0 rfl rfl)
theorem dX2_feed_1 : decode cX2_feed 1 = .ok (.iconst 0, 1) := dk_3 (dk_at dksX2_feed_0 1 rfl rfl)
theorem dX2_feed_2 : decode cX2_feed 2 = .ok (.putfield 47, 3) := dk_181 0 47 (dk_at dksX2_feed_0 2 rfl rfl)
theorem dX2_feed_5 : decode cX2_feed 5 = .ok (.aload_n 0, 1) := dk_42 (dk_at dksX2_feed_0 5 rfl rfl)
theorem dX2_feed_6 : decode cX2_feed 6 = .ok (.getfield 53, 3) := dk_180 0 53 (dk_at dksX2_feed_0 6 rfl rfl)
theorem dX2_feed_9 : decode cX2_feed 9 = .ok (.bipush 20, 2) := dk_16 20 (dk_at dksX2_feed_0 9 rfl rfl)
theorem dX2_feed_11 : decode cX2_feed 11 = .ok (.iadd, 1) := dk_96 (dk_at dksX2_feed_0 11 rfl rfl)
theorem dX2_feed_12 : decode cX2_feed 12 = .ok (.sipush 900, 3) := dk_17 3 132 (dk_at dksX2_feed_0 12 rfl rfl)
theorem dX2_feed_15 : decode cX2_feed 15 = .ok (.if_icmp .le 5, 3) := dk_164 0 5 (dk_at dksX2_feed_0 15 rfl rfl)
theorem dX2_feed_18 : decode cX2_feed 18 = .ok (.iconst (-1), 1) := dk_2 (dk_at dksX2_feed_0 18 rfl rfl)
theorem dX2_feed_19 : decode cX2_feed 19 = .ok (.ireturn, 1) := dk_172 (dk_at dksX2_feed_0 19 rfl rfl)
theorem dX2_feed_20 : decode cX2_feed 20 = .ok (.iconst 0, 1) := dk_3 (dk_at dksX2_feed_0 20 rfl rfl)
theorem dX2_feed_21 : decode cX2_feed 21 = .ok (.istore 6, 2) := dk_54 6 (dk_at dksX2_feed_0 21 rfl rfl)
theorem dX2_feed_23 : decode cX2_feed 23 = .ok (.iload 6, 2) := dk_21 6 (dk_at dksX2_feed_1 0 rfl rfl)
theorem dX2_feed_25 : decode cX2_feed 25 = .ok (.bipush 20, 2) := dk_16 20 (dk_at dksX2_feed_1 2 rfl rfl)
theorem dX2_feed_27 : decode cX2_feed 27 = .ok (.if_icmp .ge 93, 3) := dk_162 0 93 (dk_at dksX2_feed_1 4 rfl rfl)
theorem dX2_feed_30 : decode cX2_feed 30 = .ok (.iload 6, 2) := dk_21 6 (dk_at dksX2_feed_1 7 rfl rfl)
theorem dX2_feed_32 : decode cX2_feed 32 = .ok (.iconst 4, 1) := dk_7 (dk_at dksX2_feed_1 9 rfl rfl)
theorem dX2_feed_33 : decode cX2_feed 33 = .ok (.if_icmp .ge 7, 3) := dk_162 0 7 (dk_at dksX2_feed_1 10 rfl rfl)
theorem dX2_feed_36 : decode cX2_feed 36 = .ok (.iload_n 1, 1) := dk_27 (dk_at dksX2_feed_1 13 rfl rfl)
theorem dX2_feed_37 : decode cX2_feed 37 = .ok (.goto 39, 3) := dk_167 0 39 (dk_at dksX2_feed_1 14 rfl rfl)
theorem dX2_feed_40 : decode cX2_feed 40 = .ok (.iload 6, 2) := dk_21 6 (dk_at dksX2_feed_1 17 rfl rfl)
theorem dX2_feed_42 : decode cX2_feed 42 = .ok (.bipush 8, 2) := dk_16 8 (dk_at dksX2_feed_1 19 rfl rfl)
theorem dX2_feed_44 : decode cX2_feed 44 = .ok (.if_icmp .ge 7, 3) := dk_162 0 7 (dk_at dksX2_feed_1 21 rfl rfl)
theorem dX2_feed_47 : decode cX2_feed 47 = .ok (.iload_n 2, 1) := dk_28 (dk_at dksX2_feed_2 0 rfl rfl)
theorem dX2_feed_48 : decode cX2_feed 48 = .ok (.goto 28, 3) := dk_167 0 28 (dk_at dksX2_feed_2 1 rfl rfl)
theorem dX2_feed_51 : decode cX2_feed 51 = .ok (.iload 6, 2) := dk_21 6 (dk_at dksX2_feed_2 4 rfl rfl)
theorem dX2_feed_53 : decode cX2_feed 53 = .ok (.bipush 12, 2) := dk_16 12 (dk_at dksX2_feed_2 6 rfl rfl)
theorem dX2_feed_55 : decode cX2_feed 55 = .ok (.if_icmp .ge 7, 3) := dk_162 0 7 (dk_at dksX2_feed_2 8 rfl rfl)
theorem dX2_feed_58 : decode cX2_feed 58 = .ok (.iload_n 3, 1) := dk_29 (dk_at dksX2_feed_2 11 rfl rfl)
theorem dX2_feed_59 : decode cX2_feed 59 = .ok (.goto 17, 3) := dk_167 0 17 (dk_at dksX2_feed_2 12 rfl rfl)
theorem dX2_feed_62 : decode cX2_feed 62 = .ok (.iload 6, 2) := dk_21 6 (dk_at dksX2_feed_2 15 rfl rfl)
theorem dX2_feed_64 : decode cX2_feed 64 = .ok (.bipush 16, 2) := dk_16 16 (dk_at dksX2_feed_2 17 rfl rfl)
theorem dX2_feed_66 : decode cX2_feed 66 = .ok (.if_icmp .ge 8, 3) := dk_162 0 8 (dk_at dksX2_feed_2 19 rfl rfl)
theorem dX2_feed_69 : decode cX2_feed 69 = .ok (.iload 4, 2) := dk_21 4 (dk_at dksX2_feed_2 22 rfl rfl)
theorem dX2_feed_71 : decode cX2_feed 71 = .ok (.goto 5, 3) := dk_167 0 5 (dk_at dksX2_feed_3 0 rfl rfl)
theorem dX2_feed_74 : decode cX2_feed 74 = .ok (.iload 5, 2) := dk_21 5 (dk_at dksX2_feed_3 3 rfl rfl)
theorem dX2_feed_76 : decode cX2_feed 76 = .ok (.istore 7, 2) := dk_54 7 (dk_at dksX2_feed_3 5 rfl rfl)
theorem dX2_feed_78 : decode cX2_feed 78 = .ok (.aload_n 0, 1) := dk_42 (dk_at dksX2_feed_3 7 rfl rfl)
theorem dX2_feed_79 : decode cX2_feed 79 = .ok (.getfield 7, 3) := dk_180 0 7 (dk_at dksX2_feed_3 8 rfl rfl)
theorem dX2_feed_82 : decode cX2_feed 82 = .ok (.aload_n 0, 1) := dk_42 (dk_at dksX2_feed_3 11 rfl rfl)
theorem dX2_feed_83 : decode cX2_feed 83 = .ok (.getfield 53, 3) := dk_180 0 53 (dk_at dksX2_feed_3 12 rfl rfl)
theorem dX2_feed_86 : decode cX2_feed 86 = .ok (.iload 7, 2) := dk_21 7 (dk_at dksX2_feed_3 15 rfl rfl)
theorem dX2_feed_88 : decode cX2_feed 88 = .ok (.bipush 24, 2) := dk_16 24 (dk_at dksX2_feed_3 17 rfl rfl)
theorem dX2_feed_90 : decode cX2_feed 90 = .ok (.bipush 8, 2) := dk_16 8 (dk_at dksX2_feed_3 19 rfl rfl)
theorem dX2_feed_92 : decode cX2_feed 92 = .ok (.iload 6, 2) := dk_21 6 (dk_at dksX2_feed_3 21 rfl rfl)
theorem dX2_feed_94 : decode cX2_feed 94 = .ok (.iconst 4, 1) := dk_7 (dk_at dksX2_feed_3 23 rfl rfl)
theorem dX2_feed_95 : decode cX2_feed 95 = .ok (.irem, 1) := dk_112 (dk_at dksX2_feed_4 0 rfl rfl)
theorem dX2_feed_96 : decode cX2_feed 96 = .ok (.imul, 1) := dk_104 (dk_at dksX2_feed_4 1 rfl rfl)
theorem dX2_feed_97 : decode cX2_feed 97 = .ok (.isub, 1) := dk_100 (dk_at dksX2_feed_4 2 rfl rfl)
theorem dX2_feed_98 : decode cX2_feed 98 = .ok (.ishr, 1) := dk_122 (dk_at dksX2_feed_4 3 rfl rfl)
theorem dX2_feed_99 : decode cX2_feed 99 = .ok (.sipush 255, 3) := dk_17 0 255 (dk_at dksX2_feed_4 4 rfl rfl)
theorem dX2_feed_102 : decode cX2_feed 102 = .ok (.iand, 1) := dk_126 (dk_at dksX2_feed_4 7 rfl rfl)
theorem dX2_feed_103 : decode cX2_feed 103 = .ok (.iastore, 1) := dk_79 (dk_at dksX2_feed_4 8 rfl rfl)
theorem dX2_feed_104 : decode cX2_feed 104 = .ok (.aload_n 0, 1) := dk_42 (dk_at dksX2_feed_4 9 rfl rfl)
theorem dX2_feed_105 : decode cX2_feed 105 = .ok (.dup, 1) := dk_89 (dk_at dksX2_feed_4 10 rfl rfl)
theorem dX2_feed_106 : decode cX2_feed 106 = .ok (.getfield 53, 3) := dk_180 0 53 (dk_at dksX2_feed_4 11 rfl rfl)
theorem dX2_feed_109 : decode cX2_feed 109 = .ok (.iconst 1, 1) := dk_4 (dk_at dksX2_feed_4 14 rfl rfl)
theorem dX2_feed_110 : decode cX2_feed 110 = .ok (.iadd, 1) := dk_96 (dk_at dksX2_feed_4 15 rfl rfl)
theorem dX2_feed_111 : decode cX2_feed 111 = .ok (.putfield 53, 3) := dk_181 0 53 (dk_at dksX2_feed_4 16 rfl rfl)
theorem dX2_feed_114 : decode cX2_feed 114 = .ok (.iinc 6 1, 3) := dk_132 6 1 (dk_at dksX2_feed_4 19 rfl rfl)
theorem dX2_feed_117 : decode cX2_feed 117 = .ok (.goto (-94), 3) := dk_167 255 162 (dk_at dksX2_feed_5 0 rfl rfl)
theorem dX2_feed_120 : decode cX2_feed 120 = .ok (.aload_n 0, 1) := dk_42 (dk_at dksX2_feed_5 3 rfl rfl)
theorem dX2_feed_121 : decode cX2_feed 121 = .ok (.getfield 53, 3) := dk_180 0 53 (dk_at dksX2_feed_5 4 rfl rfl)
theorem dX2_feed_124 : decode cX2_feed 124 = .ok (.ireturn, 1) := dk_172 (dk_at dksX2_feed_5 7 rfl rfl)
abbrev cX2_town : ByteArray := prog_15_method_31_code
def yX2_town : MethodName := ⟨RX2, "town", "(I)I"⟩
def dkwX2_town_10 : List UInt8 := [172]
abbrev dktX2_town_10 : List UInt8 := dkwX2_town_10 ++ []
def dkwX2_town_9 : List UInt8 := [167, 255, 240, 42, 4, 181, 0, 176, 42, 3, 181, 0, 179, 42, 3, 181, 0, 182, 42, 180, 0, 20, 4, 46]
abbrev dktX2_town_9 : List UInt8 := dkwX2_town_9 ++ dktX2_town_10
def dkwX2_town_8 : List UInt8 := [17, 0, 241, 184, 0, 172, 3, 61, 28, 16, 8, 162, 0, 16, 42, 180, 0, 26, 28, 3, 79, 132, 2, 1]
abbrev dktX2_town_8 : List UInt8 := dkwX2_town_8 ++ dktX2_town_9
def dkwX2_town_7 : List UInt8 := [180, 0, 85, 153, 0, 9, 42, 7, 182, 0, 166, 172, 42, 180, 0, 23, 3, 42, 180, 0, 20, 3]
abbrev dktX2_town_7 : List UInt8 := dkwX2_town_7 ++ dktX2_town_8
def dkwX2_town_6 : List UInt8 := [153, 0, 12, 42, 180, 0, 23, 4, 46, 154, 0, 13, 42, 16, 6, 42, 180, 0, 66, 182, 0, 112, 42]
abbrev dktX2_town_6 : List UInt8 := dkwX2_town_6 ++ dktX2_town_7
def dkwX2_town_5 : List UInt8 := [42, 4, 42, 180, 0, 66, 182, 0, 112, 42, 180, 0, 85, 154, 0, 32, 42, 180, 0, 23, 16, 9, 46]
abbrev dktX2_town_5 : List UInt8 := dkwX2_town_5 ++ dktX2_town_6
def dkwX2_town_4 : List UInt8 := [182, 0, 106, 42, 182, 0, 169, 167, 255, 232, 42, 180, 0, 85, 154, 0, 19, 42, 180, 0, 75, 153, 0, 12]
abbrev dktX2_town_4 : List UInt8 := dkwX2_town_4 ++ dktX2_town_5
def dkwX2_town_3 : List UInt8 := [182, 0, 106, 42, 182, 0, 169, 42, 180, 0, 85, 154, 0, 23, 42, 180, 0, 75, 16, 59, 160, 0, 14, 42]
abbrev dktX2_town_3 : List UInt8 := dkwX2_town_3 ++ dktX2_town_4
def dkwX2_town_2 : List UInt8 := [180, 0, 23, 28, 3, 79, 132, 2, 1, 167, 255, 239, 42, 27, 181, 0, 56, 42, 3, 181, 0, 59, 42]
abbrev dktX2_town_2 : List UInt8 := dkwX2_town_2 ++ dktX2_town_3
def dkwX2_town_1 : List UInt8 := [181, 0, 53, 42, 3, 181, 0, 89, 42, 3, 181, 0, 85, 3, 61, 28, 17, 0, 241, 162, 0, 16, 42]
abbrev dktX2_town_1 : List UInt8 := dkwX2_town_1 ++ dktX2_town_2
def dkwX2_town_0 : List UInt8 := [42, 182, 0, 163, 27, 3, 42, 180, 0, 53, 184, 0, 139, 154, 0, 9, 42, 5, 182, 0, 166, 172, 42, 3]
abbrev dktX2_town_0 : List UInt8 := dkwX2_town_0 ++ dktX2_town_1
theorem dksX2_town_0 : cX2_town.data.toList.drop 0 = dktX2_town_0 := by decide +kernel
theorem dksX2_town_1 : cX2_town.data.toList.drop 24 = dktX2_town_1 := dk_seg dksX2_town_0 24 rfl rfl
theorem dksX2_town_2 : cX2_town.data.toList.drop 47 = dktX2_town_2 := dk_seg dksX2_town_1 23 rfl rfl
theorem dksX2_town_3 : cX2_town.data.toList.drop 70 = dktX2_town_3 := dk_seg dksX2_town_2 23 rfl rfl
theorem dksX2_town_4 : cX2_town.data.toList.drop 94 = dktX2_town_4 := dk_seg dksX2_town_3 24 rfl rfl
theorem dksX2_town_5 : cX2_town.data.toList.drop 118 = dktX2_town_5 := dk_seg dksX2_town_4 24 rfl rfl
theorem dksX2_town_6 : cX2_town.data.toList.drop 141 = dktX2_town_6 := dk_seg dksX2_town_5 23 rfl rfl
theorem dksX2_town_7 : cX2_town.data.toList.drop 164 = dktX2_town_7 := dk_seg dksX2_town_6 23 rfl rfl
theorem dksX2_town_8 : cX2_town.data.toList.drop 186 = dktX2_town_8 := dk_seg dksX2_town_7 22 rfl rfl
theorem dksX2_town_9 : cX2_town.data.toList.drop 210 = dktX2_town_9 := dk_seg dksX2_town_8 24 rfl rfl
theorem dksX2_town_10 : cX2_town.data.toList.drop 234 = dktX2_town_10 := dk_seg dksX2_town_9 24 rfl rfl
theorem dX2_town_0 : decode cX2_town 0 = .ok (.aload_n 0, 1) := dk_42 (dk_at dksX2_town_0 0 rfl rfl)
theorem dX2_town_1 : decode cX2_town 1 = .ok (.invokevirtual 163, 3) := dk_182 0 163 (dk_at dksX2_town_0 1 rfl rfl)
theorem dX2_town_4 : decode cX2_town 4 = .ok (.iload_n 1, 1) := dk_27 (dk_at dksX2_town_0 4 rfl rfl)
theorem dX2_town_5 : decode cX2_town 5 = .ok (.iconst 0, 1) := dk_3 (dk_at dksX2_town_0 5 rfl rfl)
theorem dX2_town_6 : decode cX2_town 6 = .ok (.aload_n 0, 1) := dk_42 (dk_at dksX2_town_0 6 rfl rfl)
theorem dX2_town_7 : decode cX2_town 7 = .ok (.getfield 53, 3) := dk_180 0 53 (dk_at dksX2_town_0 7 rfl rfl)
theorem dX2_town_10 : decode cX2_town 10 = .ok (.invokestatic 139, 3) := dk_184 0 139 (dk_at dksX2_town_0 10 rfl rfl)
theorem dX2_town_13 : decode cX2_town 13 = .ok (.ifCond .ne 9, 3) := dk_154 0 9 (dk_at dksX2_town_0 13 rfl rfl)
theorem dX2_town_16 : decode cX2_town 16 = .ok (.aload_n 0, 1) := dk_42 (dk_at dksX2_town_0 16 rfl rfl)
theorem dX2_town_17 : decode cX2_town 17 = .ok (.iconst 2, 1) := dk_5 (dk_at dksX2_town_0 17 rfl rfl)
theorem dX2_town_18 : decode cX2_town 18 = .ok (.invokevirtual 166, 3) := dk_182 0 166 (dk_at dksX2_town_0 18 rfl rfl)
theorem dX2_town_21 : decode cX2_town 21 = .ok (.ireturn, 1) := dk_172 (dk_at dksX2_town_0 21 rfl rfl)
theorem dX2_town_22 : decode cX2_town 22 = .ok (.aload_n 0, 1) := dk_42 (dk_at dksX2_town_0 22 rfl rfl)
theorem dX2_town_23 : decode cX2_town 23 = .ok (.iconst 0, 1) := dk_3 (dk_at dksX2_town_0 23 rfl rfl)
theorem dX2_town_24 : decode cX2_town 24 = .ok (.putfield 53, 3) := dk_181 0 53 (dk_at dksX2_town_1 0 rfl rfl)
theorem dX2_town_27 : decode cX2_town 27 = .ok (.aload_n 0, 1) := dk_42 (dk_at dksX2_town_1 3 rfl rfl)
theorem dX2_town_28 : decode cX2_town 28 = .ok (.iconst 0, 1) := dk_3 (dk_at dksX2_town_1 4 rfl rfl)
theorem dX2_town_29 : decode cX2_town 29 = .ok (.putfield 89, 3) := dk_181 0 89 (dk_at dksX2_town_1 5 rfl rfl)
theorem dX2_town_32 : decode cX2_town 32 = .ok (.aload_n 0, 1) := dk_42 (dk_at dksX2_town_1 8 rfl rfl)
theorem dX2_town_33 : decode cX2_town 33 = .ok (.iconst 0, 1) := dk_3 (dk_at dksX2_town_1 9 rfl rfl)
theorem dX2_town_34 : decode cX2_town 34 = .ok (.putfield 85, 3) := dk_181 0 85 (dk_at dksX2_town_1 10 rfl rfl)
theorem dX2_town_37 : decode cX2_town 37 = .ok (.iconst 0, 1) := dk_3 (dk_at dksX2_town_1 13 rfl rfl)
theorem dX2_town_38 : decode cX2_town 38 = .ok (.istore_n 2, 1) := dk_61 (dk_at dksX2_town_1 14 rfl rfl)
theorem dX2_town_39 : decode cX2_town 39 = .ok (.iload_n 2, 1) := dk_28 (dk_at dksX2_town_1 15 rfl rfl)
theorem dX2_town_40 : decode cX2_town 40 = .ok (.sipush 241, 3) := dk_17 0 241 (dk_at dksX2_town_1 16 rfl rfl)
theorem dX2_town_43 : decode cX2_town 43 = .ok (.if_icmp .ge 16, 3) := dk_162 0 16 (dk_at dksX2_town_1 19 rfl rfl)
theorem dX2_town_46 : decode cX2_town 46 = .ok (.aload_n 0, 1) := dk_42 (dk_at dksX2_town_1 22 rfl rfl)
theorem dX2_town_47 : decode cX2_town 47 = .ok (.getfield 23, 3) := dk_180 0 23 (dk_at dksX2_town_2 0 rfl rfl)
theorem dX2_town_50 : decode cX2_town 50 = .ok (.iload_n 2, 1) := dk_28 (dk_at dksX2_town_2 3 rfl rfl)
theorem dX2_town_51 : decode cX2_town 51 = .ok (.iconst 0, 1) := dk_3 (dk_at dksX2_town_2 4 rfl rfl)
theorem dX2_town_52 : decode cX2_town 52 = .ok (.iastore, 1) := dk_79 (dk_at dksX2_town_2 5 rfl rfl)
theorem dX2_town_53 : decode cX2_town 53 = .ok (.iinc 2 1, 3) := dk_132 2 1 (dk_at dksX2_town_2 6 rfl rfl)
theorem dX2_town_56 : decode cX2_town 56 = .ok (.goto (-17), 3) := dk_167 255 239 (dk_at dksX2_town_2 9 rfl rfl)
theorem dX2_town_59 : decode cX2_town 59 = .ok (.aload_n 0, 1) := dk_42 (dk_at dksX2_town_2 12 rfl rfl)
theorem dX2_town_60 : decode cX2_town 60 = .ok (.iload_n 1, 1) := dk_27 (dk_at dksX2_town_2 13 rfl rfl)
theorem dX2_town_61 : decode cX2_town 61 = .ok (.putfield 56, 3) := dk_181 0 56 (dk_at dksX2_town_2 14 rfl rfl)
theorem dX2_town_64 : decode cX2_town 64 = .ok (.aload_n 0, 1) := dk_42 (dk_at dksX2_town_2 17 rfl rfl)
theorem dX2_town_65 : decode cX2_town 65 = .ok (.iconst 0, 1) := dk_3 (dk_at dksX2_town_2 18 rfl rfl)
theorem dX2_town_66 : decode cX2_town 66 = .ok (.putfield 59, 3) := dk_181 0 59 (dk_at dksX2_town_2 19 rfl rfl)
theorem dX2_town_69 : decode cX2_town 69 = .ok (.aload_n 0, 1) := dk_42 (dk_at dksX2_town_2 22 rfl rfl)
theorem dX2_town_70 : decode cX2_town 70 = .ok (.invokevirtual 106, 3) := dk_182 0 106 (dk_at dksX2_town_3 0 rfl rfl)
theorem dX2_town_73 : decode cX2_town 73 = .ok (.aload_n 0, 1) := dk_42 (dk_at dksX2_town_3 3 rfl rfl)
theorem dX2_town_74 : decode cX2_town 74 = .ok (.invokevirtual 169, 3) := dk_182 0 169 (dk_at dksX2_town_3 4 rfl rfl)
theorem dX2_town_77 : decode cX2_town 77 = .ok (.aload_n 0, 1) := dk_42 (dk_at dksX2_town_3 7 rfl rfl)
theorem dX2_town_78 : decode cX2_town 78 = .ok (.getfield 85, 3) := dk_180 0 85 (dk_at dksX2_town_3 8 rfl rfl)
theorem dX2_town_81 : decode cX2_town 81 = .ok (.ifCond .ne 23, 3) := dk_154 0 23 (dk_at dksX2_town_3 11 rfl rfl)
theorem dX2_town_84 : decode cX2_town 84 = .ok (.aload_n 0, 1) := dk_42 (dk_at dksX2_town_3 14 rfl rfl)
theorem dX2_town_85 : decode cX2_town 85 = .ok (.getfield 75, 3) := dk_180 0 75 (dk_at dksX2_town_3 15 rfl rfl)
theorem dX2_town_88 : decode cX2_town 88 = .ok (.bipush 59, 2) := dk_16 59 (dk_at dksX2_town_3 18 rfl rfl)
theorem dX2_town_90 : decode cX2_town 90 = .ok (.if_icmp .ne 14, 3) := dk_160 0 14 (dk_at dksX2_town_3 20 rfl rfl)
theorem dX2_town_93 : decode cX2_town 93 = .ok (.aload_n 0, 1) := dk_42 (dk_at dksX2_town_3 23 rfl rfl)
theorem dX2_town_94 : decode cX2_town 94 = .ok (.invokevirtual 106, 3) := dk_182 0 106 (dk_at dksX2_town_4 0 rfl rfl)
theorem dX2_town_97 : decode cX2_town 97 = .ok (.aload_n 0, 1) := dk_42 (dk_at dksX2_town_4 3 rfl rfl)
theorem dX2_town_98 : decode cX2_town 98 = .ok (.invokevirtual 169, 3) := dk_182 0 169 (dk_at dksX2_town_4 4 rfl rfl)
theorem dX2_town_101 : decode cX2_town 101 = .ok (.goto (-24), 3) := dk_167 255 232 (dk_at dksX2_town_4 7 rfl rfl)
theorem dX2_town_104 : decode cX2_town 104 = .ok (.aload_n 0, 1) := dk_42 (dk_at dksX2_town_4 10 rfl rfl)
theorem dX2_town_105 : decode cX2_town 105 = .ok (.getfield 85, 3) := dk_180 0 85 (dk_at dksX2_town_4 11 rfl rfl)
theorem dX2_town_108 : decode cX2_town 108 = .ok (.ifCond .ne 19, 3) := dk_154 0 19 (dk_at dksX2_town_4 14 rfl rfl)
theorem dX2_town_111 : decode cX2_town 111 = .ok (.aload_n 0, 1) := dk_42 (dk_at dksX2_town_4 17 rfl rfl)
theorem dX2_town_112 : decode cX2_town 112 = .ok (.getfield 75, 3) := dk_180 0 75 (dk_at dksX2_town_4 18 rfl rfl)
theorem dX2_town_115 : decode cX2_town 115 = .ok (.ifCond .eq 12, 3) := dk_153 0 12 (dk_at dksX2_town_4 21 rfl rfl)
theorem dX2_town_118 : decode cX2_town 118 = .ok (.aload_n 0, 1) := dk_42 (dk_at dksX2_town_5 0 rfl rfl)
theorem dX2_town_119 : decode cX2_town 119 = .ok (.iconst 1, 1) := dk_4 (dk_at dksX2_town_5 1 rfl rfl)
theorem dX2_town_120 : decode cX2_town 120 = .ok (.aload_n 0, 1) := dk_42 (dk_at dksX2_town_5 2 rfl rfl)
theorem dX2_town_121 : decode cX2_town 121 = .ok (.getfield 66, 3) := dk_180 0 66 (dk_at dksX2_town_5 3 rfl rfl)
theorem dX2_town_124 : decode cX2_town 124 = .ok (.invokevirtual 112, 3) := dk_182 0 112 (dk_at dksX2_town_5 6 rfl rfl)
theorem dX2_town_127 : decode cX2_town 127 = .ok (.aload_n 0, 1) := dk_42 (dk_at dksX2_town_5 9 rfl rfl)
theorem dX2_town_128 : decode cX2_town 128 = .ok (.getfield 85, 3) := dk_180 0 85 (dk_at dksX2_town_5 10 rfl rfl)
theorem dX2_town_131 : decode cX2_town 131 = .ok (.ifCond .ne 32, 3) := dk_154 0 32 (dk_at dksX2_town_5 13 rfl rfl)
theorem dX2_town_134 : decode cX2_town 134 = .ok (.aload_n 0, 1) := dk_42 (dk_at dksX2_town_5 16 rfl rfl)
theorem dX2_town_135 : decode cX2_town 135 = .ok (.getfield 23, 3) := dk_180 0 23 (dk_at dksX2_town_5 17 rfl rfl)
theorem dX2_town_138 : decode cX2_town 138 = .ok (.bipush 9, 2) := dk_16 9 (dk_at dksX2_town_5 20 rfl rfl)
theorem dX2_town_140 : decode cX2_town 140 = .ok (.iaload, 1) := dk_46 (dk_at dksX2_town_5 22 rfl rfl)
theorem dX2_town_141 : decode cX2_town 141 = .ok (.ifCond .eq 12, 3) := dk_153 0 12 (dk_at dksX2_town_6 0 rfl rfl)
theorem dX2_town_144 : decode cX2_town 144 = .ok (.aload_n 0, 1) := dk_42 (dk_at dksX2_town_6 3 rfl rfl)
theorem dX2_town_145 : decode cX2_town 145 = .ok (.getfield 23, 3) := dk_180 0 23 (dk_at dksX2_town_6 4 rfl rfl)
theorem dX2_town_148 : decode cX2_town 148 = .ok (.iconst 1, 1) := dk_4 (dk_at dksX2_town_6 7 rfl rfl)
theorem dX2_town_149 : decode cX2_town 149 = .ok (.iaload, 1) := dk_46 (dk_at dksX2_town_6 8 rfl rfl)
theorem dX2_town_150 : decode cX2_town 150 = .ok (.ifCond .ne 13, 3) := dk_154 0 13 (dk_at dksX2_town_6 9 rfl rfl)
theorem dX2_town_153 : decode cX2_town 153 = .ok (.aload_n 0, 1) := dk_42 (dk_at dksX2_town_6 12 rfl rfl)
theorem dX2_town_154 : decode cX2_town 154 = .ok (.bipush 6, 2) := dk_16 6 (dk_at dksX2_town_6 13 rfl rfl)
theorem dX2_town_156 : decode cX2_town 156 = .ok (.aload_n 0, 1) := dk_42 (dk_at dksX2_town_6 15 rfl rfl)
theorem dX2_town_157 : decode cX2_town 157 = .ok (.getfield 66, 3) := dk_180 0 66 (dk_at dksX2_town_6 16 rfl rfl)
theorem dX2_town_160 : decode cX2_town 160 = .ok (.invokevirtual 112, 3) := dk_182 0 112 (dk_at dksX2_town_6 19 rfl rfl)
theorem dX2_town_163 : decode cX2_town 163 = .ok (.aload_n 0, 1) := dk_42 (dk_at dksX2_town_6 22 rfl rfl)
theorem dX2_town_164 : decode cX2_town 164 = .ok (.getfield 85, 3) := dk_180 0 85 (dk_at dksX2_town_7 0 rfl rfl)
theorem dX2_town_167 : decode cX2_town 167 = .ok (.ifCond .eq 9, 3) := dk_153 0 9 (dk_at dksX2_town_7 3 rfl rfl)
theorem dX2_town_170 : decode cX2_town 170 = .ok (.aload_n 0, 1) := dk_42 (dk_at dksX2_town_7 6 rfl rfl)
theorem dX2_town_171 : decode cX2_town 171 = .ok (.iconst 4, 1) := dk_7 (dk_at dksX2_town_7 7 rfl rfl)
theorem dX2_town_172 : decode cX2_town 172 = .ok (.invokevirtual 166, 3) := dk_182 0 166 (dk_at dksX2_town_7 8 rfl rfl)
theorem dX2_town_175 : decode cX2_town 175 = .ok (.ireturn, 1) := dk_172 (dk_at dksX2_town_7 11 rfl rfl)
theorem dX2_town_176 : decode cX2_town 176 = .ok (.aload_n 0, 1) := dk_42 (dk_at dksX2_town_7 12 rfl rfl)
theorem dX2_town_177 : decode cX2_town 177 = .ok (.getfield 23, 3) := dk_180 0 23 (dk_at dksX2_town_7 13 rfl rfl)
theorem dX2_town_180 : decode cX2_town 180 = .ok (.iconst 0, 1) := dk_3 (dk_at dksX2_town_7 16 rfl rfl)
theorem dX2_town_181 : decode cX2_town 181 = .ok (.aload_n 0, 1) := dk_42 (dk_at dksX2_town_7 17 rfl rfl)
theorem dX2_town_182 : decode cX2_town 182 = .ok (.getfield 20, 3) := dk_180 0 20 (dk_at dksX2_town_7 18 rfl rfl)
theorem dX2_town_185 : decode cX2_town 185 = .ok (.iconst 0, 1) := dk_3 (dk_at dksX2_town_7 21 rfl rfl)
theorem dX2_town_186 : decode cX2_town 186 = .ok (.sipush 241, 3) := dk_17 0 241 (dk_at dksX2_town_8 0 rfl rfl)
theorem dX2_town_189 : decode cX2_town 189 = .ok (.invokestatic 172, 3) := dk_184 0 172 (dk_at dksX2_town_8 3 rfl rfl)
theorem dX2_town_192 : decode cX2_town 192 = .ok (.iconst 0, 1) := dk_3 (dk_at dksX2_town_8 6 rfl rfl)
theorem dX2_town_193 : decode cX2_town 193 = .ok (.istore_n 2, 1) := dk_61 (dk_at dksX2_town_8 7 rfl rfl)
theorem dX2_town_194 : decode cX2_town 194 = .ok (.iload_n 2, 1) := dk_28 (dk_at dksX2_town_8 8 rfl rfl)
theorem dX2_town_195 : decode cX2_town 195 = .ok (.bipush 8, 2) := dk_16 8 (dk_at dksX2_town_8 9 rfl rfl)
theorem dX2_town_197 : decode cX2_town 197 = .ok (.if_icmp .ge 16, 3) := dk_162 0 16 (dk_at dksX2_town_8 11 rfl rfl)
theorem dX2_town_200 : decode cX2_town 200 = .ok (.aload_n 0, 1) := dk_42 (dk_at dksX2_town_8 14 rfl rfl)
theorem dX2_town_201 : decode cX2_town 201 = .ok (.getfield 26, 3) := dk_180 0 26 (dk_at dksX2_town_8 15 rfl rfl)
theorem dX2_town_204 : decode cX2_town 204 = .ok (.iload_n 2, 1) := dk_28 (dk_at dksX2_town_8 18 rfl rfl)
theorem dX2_town_205 : decode cX2_town 205 = .ok (.iconst 0, 1) := dk_3 (dk_at dksX2_town_8 19 rfl rfl)
theorem dX2_town_206 : decode cX2_town 206 = .ok (.iastore, 1) := dk_79 (dk_at dksX2_town_8 20 rfl rfl)
theorem dX2_town_207 : decode cX2_town 207 = .ok (.iinc 2 1, 3) := dk_132 2 1 (dk_at dksX2_town_8 21 rfl rfl)
theorem dX2_town_210 : decode cX2_town 210 = .ok (.goto (-16), 3) := dk_167 255 240 (dk_at dksX2_town_9 0 rfl rfl)
theorem dX2_town_213 : decode cX2_town 213 = .ok (.aload_n 0, 1) := dk_42 (dk_at dksX2_town_9 3 rfl rfl)
theorem dX2_town_214 : decode cX2_town 214 = .ok (.iconst 1, 1) := dk_4 (dk_at dksX2_town_9 4 rfl rfl)
theorem dX2_town_215 : decode cX2_town 215 = .ok (.putfield 176, 3) := dk_181 0 176 (dk_at dksX2_town_9 5 rfl rfl)
theorem dX2_town_218 : decode cX2_town 218 = .ok (.aload_n 0, 1) := dk_42 (dk_at dksX2_town_9 8 rfl rfl)
theorem dX2_town_219 : decode cX2_town 219 = .ok (.iconst 0, 1) := dk_3 (dk_at dksX2_town_9 9 rfl rfl)
theorem dX2_town_220 : decode cX2_town 220 = .ok (.putfield 179, 3) := dk_181 0 179 (dk_at dksX2_town_9 10 rfl rfl)
theorem dX2_town_223 : decode cX2_town 223 = .ok (.aload_n 0, 1) := dk_42 (dk_at dksX2_town_9 13 rfl rfl)
theorem dX2_town_224 : decode cX2_town 224 = .ok (.iconst 0, 1) := dk_3 (dk_at dksX2_town_9 14 rfl rfl)
theorem dX2_town_225 : decode cX2_town 225 = .ok (.putfield 182, 3) := dk_181 0 182 (dk_at dksX2_town_9 15 rfl rfl)
theorem dX2_town_228 : decode cX2_town 228 = .ok (.aload_n 0, 1) := dk_42 (dk_at dksX2_town_9 18 rfl rfl)
theorem dX2_town_229 : decode cX2_town 229 = .ok (.getfield 20, 3) := dk_180 0 20 (dk_at dksX2_town_9 19 rfl rfl)
theorem dX2_town_232 : decode cX2_town 232 = .ok (.iconst 1, 1) := dk_4 (dk_at dksX2_town_9 22 rfl rfl)
theorem dX2_town_233 : decode cX2_town 233 = .ok (.iaload, 1) := dk_46 (dk_at dksX2_town_9 23 rfl rfl)
theorem dX2_town_234 : decode cX2_town 234 = .ok (.ireturn, 1) := dk_172 (dk_at dksX2_town_10 0 rfl rfl)
abbrev cX2_good : ByteArray := prog_15_method_3_code
def yX2_good : MethodName := ⟨RX2, "good", "()V"⟩
def dkwX2_good_0 : List UInt8 := [42, 3, 181, 0, 47, 42, 3, 181, 0, 50, 177]
abbrev dktX2_good_0 : List UInt8 := dkwX2_good_0 ++ []
theorem dksX2_good_0 : cX2_good.data.toList.drop 0 = dktX2_good_0 := by decide +kernel
theorem dX2_good_0 : decode cX2_good 0 = .ok (.aload_n 0, 1) := dk_42 (dk_at dksX2_good_0 0 rfl rfl)
theorem dX2_good_1 : decode cX2_good 1 = .ok (.iconst 0, 1) := dk_3 (dk_at dksX2_good_0 1 rfl rfl)
theorem dX2_good_2 : decode cX2_good 2 = .ok (.putfield 47, 3) := dk_181 0 47 (dk_at dksX2_good_0 2 rfl rfl)
theorem dX2_good_5 : decode cX2_good 5 = .ok (.aload_n 0, 1) := dk_42 (dk_at dksX2_good_0 5 rfl rfl)
theorem dX2_good_6 : decode cX2_good 6 = .ok (.iconst 0, 1) := dk_3 (dk_at dksX2_good_0 6 rfl rfl)
theorem dX2_good_7 : decode cX2_good 7 = .ok (.putfield 50, 3) := dk_181 0 50 (dk_at dksX2_good_0 7 rfl rfl)
theorem dX2_good_10 : decode cX2_good 10 = .ok (.return_, 1) := dk_177 (dk_at dksX2_good_0 10 rfl rfl)
abbrev cX2_in : ByteArray := prog_15_method_6_code
def yX2_in : MethodName := ⟨RX2, "in", "(III)Z"⟩
def dkwX2_in_0 : List UInt8 := [26, 27, 161, 0, 12, 26, 28, 163, 0, 7, 4, 167, 0, 4, 3, 172]
abbrev dktX2_in_0 : List UInt8 := dkwX2_in_0 ++ []
theorem dksX2_in_0 : cX2_in.data.toList.drop 0 = dktX2_in_0 := by decide +kernel
theorem dX2_in_0 : decode cX2_in 0 = .ok (.iload_n 0, 1) := dk_26 (dk_at dksX2_in_0 0 rfl rfl)
theorem dX2_in_1 : decode cX2_in 1 = .ok (.iload_n 1, 1) := dk_27 (dk_at dksX2_in_0 1 rfl rfl)
theorem dX2_in_2 : decode cX2_in 2 = .ok (.if_icmp .lt 12, 3) := dk_161 0 12 (dk_at dksX2_in_0 2 rfl rfl)
theorem dX2_in_5 : decode cX2_in 5 = .ok (.iload_n 0, 1) := dk_26 (dk_at dksX2_in_0 5 rfl rfl)
theorem dX2_in_6 : decode cX2_in 6 = .ok (.iload_n 2, 1) := dk_28 (dk_at dksX2_in_0 6 rfl rfl)
theorem dX2_in_7 : decode cX2_in 7 = .ok (.if_icmp .gt 7, 3) := dk_163 0 7 (dk_at dksX2_in_0 7 rfl rfl)
theorem dX2_in_10 : decode cX2_in 10 = .ok (.iconst 1, 1) := dk_4 (dk_at dksX2_in_0 10 rfl rfl)
theorem dX2_in_11 : decode cX2_in 11 = .ok (.goto 4, 3) := dk_167 0 4 (dk_at dksX2_in_0 11 rfl rfl)
theorem dX2_in_14 : decode cX2_in 14 = .ok (.iconst 0, 1) := dk_3 (dk_at dksX2_in_0 14 rfl rfl)
theorem dX2_in_15 : decode cX2_in 15 = .ok (.ireturn, 1) := dk_172 (dk_at dksX2_in_0 15 rfl rfl)
abbrev cX2_no : ByteArray := prog_15_method_4_code
def yX2_no : MethodName := ⟨RX2, "no", "(I)I"⟩
def dkwX2_no_0 : List UInt8 := [42, 27, 181, 0, 50, 2, 172]
abbrev dktX2_no_0 : List UInt8 := dkwX2_no_0 ++ []
theorem dksX2_no_0 : cX2_no.data.toList.drop 0 = dktX2_no_0 := by decide +kernel
theorem dX2_no_0 : decode cX2_no 0 = .ok (.aload_n 0, 1) := dk_42 (dk_at dksX2_no_0 0 rfl rfl)
theorem dX2_no_1 : decode cX2_no 1 = .ok (.iload_n 1, 1) := dk_27 (dk_at dksX2_no_0 1 rfl rfl)
theorem dX2_no_2 : decode cX2_no 2 = .ok (.putfield 50, 3) := dk_181 0 50 (dk_at dksX2_no_0 2 rfl rfl)
theorem dX2_no_5 : decode cX2_no 5 = .ok (.iconst (-1), 1) := dk_2 (dk_at dksX2_no_0 5 rfl rfl)
theorem dX2_no_6 : decode cX2_no 6 = .ok (.ireturn, 1) := dk_172 (dk_at dksX2_no_0 6 rfl rfl)
abbrev cX2_next : ByteArray := prog_15_method_15_code
def yX2_next : MethodName := ⟨RX2, "next", "()V"⟩
def dkwX2_next_10 : List UInt8 := [160, 0, 7, 28, 167, 0, 4, 4, 181, 0, 75, 177]
abbrev dktX2_next_10 : List UInt8 := dkwX2_next_10 ++ []
def dkwX2_next_9 : List UInt8 := [4, 167, 0, 4, 6, 181, 0, 75, 167, 0, 25, 42, 27, 4, 96, 181, 0, 59, 42, 28, 16, 59]
abbrev dktX2_next_9 : List UInt8 := dkwX2_next_9 ++ dktX2_next_10
def dkwX2_next_8 : List UInt8 := [100, 181, 0, 72, 132, 3, 1, 132, 1, 1, 167, 255, 214, 42, 27, 181, 0, 59, 42, 29, 6, 164, 0, 7]
abbrev dktX2_next_8 : List UInt8 := dkwX2_next_8 ++ dktX2_next_9
def dkwX2_next_7 : List UInt8 := [153, 0, 37, 29, 6, 162, 0, 23, 42, 16, 10, 42, 180, 0, 72, 104, 42, 27, 182, 0, 62, 96, 16, 48]
abbrev dktX2_next_7 : List UInt8 := dkwX2_next_7 ++ dktX2_next_8
def dkwX2_next_6 : List UInt8 := [181, 0, 75, 167, 0, 101, 28, 184, 0, 82, 153, 0, 72, 3, 62, 42, 27, 182, 0, 62, 184, 0, 82]
abbrev dktX2_next_6 : List UInt8 := dkwX2_next_6 ++ dktX2_next_7
def dkwX2_next_5 : List UInt8 := [167, 255, 209, 42, 27, 181, 0, 59, 42, 42, 180, 0, 69, 16, 8, 164, 0, 7, 4, 167, 0, 4, 5]
abbrev dktX2_next_5 : List UInt8 := dkwX2_next_5 ++ dktX2_next_6
def dkwX2_next_4 : List UInt8 := [180, 0, 69, 42, 27, 182, 0, 62, 79, 42, 89, 180, 0, 69, 4, 96, 181, 0, 69, 132, 1, 1]
abbrev dktX2_next_4 : List UInt8 := dkwX2_next_4 ++ dktX2_next_5
def dkwX2_next_3 : List UInt8 := [182, 0, 62, 184, 0, 78, 153, 0, 42, 42, 180, 0, 69, 16, 8, 162, 0, 17, 42, 180, 0, 17, 42]
abbrev dktX2_next_3 : List UInt8 := dkwX2_next_3 ++ dktX2_next_4
def dkwX2_next_2 : List UInt8 := [42, 3, 181, 0, 75, 42, 27, 181, 0, 59, 167, 0, 184, 28, 184, 0, 78, 153, 0, 79, 42, 27]
abbrev dktX2_next_2 : List UInt8 := dkwX2_next_2 ++ dktX2_next_3
def dkwX2_next_1 : List UInt8 := [181, 0, 66, 42, 27, 182, 0, 62, 61, 42, 3, 181, 0, 69, 42, 3, 181, 0, 72, 28, 2, 160, 0, 16]
abbrev dktX2_next_1 : List UInt8 := dkwX2_next_1 ++ dktX2_next_2
def dkwX2_next_0 : List UInt8 := [42, 180, 0, 59, 60, 42, 27, 182, 0, 62, 16, 32, 160, 0, 9, 132, 1, 1, 167, 255, 243, 42, 27]
abbrev dktX2_next_0 : List UInt8 := dkwX2_next_0 ++ dktX2_next_1
theorem dksX2_next_0 : cX2_next.data.toList.drop 0 = dktX2_next_0 := by decide +kernel
theorem dksX2_next_1 : cX2_next.data.toList.drop 23 = dktX2_next_1 := dk_seg dksX2_next_0 23 rfl rfl
theorem dksX2_next_2 : cX2_next.data.toList.drop 47 = dktX2_next_2 := dk_seg dksX2_next_1 24 rfl rfl
theorem dksX2_next_3 : cX2_next.data.toList.drop 69 = dktX2_next_3 := dk_seg dksX2_next_2 22 rfl rfl
theorem dksX2_next_4 : cX2_next.data.toList.drop 92 = dktX2_next_4 := dk_seg dksX2_next_3 23 rfl rfl
theorem dksX2_next_5 : cX2_next.data.toList.drop 114 = dktX2_next_5 := dk_seg dksX2_next_4 22 rfl rfl
theorem dksX2_next_6 : cX2_next.data.toList.drop 137 = dktX2_next_6 := dk_seg dksX2_next_5 23 rfl rfl
theorem dksX2_next_7 : cX2_next.data.toList.drop 160 = dktX2_next_7 := dk_seg dksX2_next_6 23 rfl rfl
theorem dksX2_next_8 : cX2_next.data.toList.drop 184 = dktX2_next_8 := dk_seg dksX2_next_7 24 rfl rfl
theorem dksX2_next_9 : cX2_next.data.toList.drop 208 = dktX2_next_9 := dk_seg dksX2_next_8 24 rfl rfl
theorem dksX2_next_10 : cX2_next.data.toList.drop 230 = dktX2_next_10 := dk_seg dksX2_next_9 22 rfl rfl
theorem dX2_next_0 : decode cX2_next 0 = .ok (.aload_n 0, 1) := dk_42 (dk_at dksX2_next_0 0 rfl rfl)
theorem dX2_next_1 : decode cX2_next 1 = .ok (.getfield 59, 3) := dk_180 0 59 (dk_at dksX2_next_0 1 rfl rfl)
theorem dX2_next_4 : decode cX2_next 4 = .ok (.istore_n 1, 1) := dk_60 (dk_at dksX2_next_0 4 rfl rfl)
theorem dX2_next_5 : decode cX2_next 5 = .ok (.aload_n 0, 1) := dk_42 (dk_at dksX2_next_0 5 rfl rfl)
theorem dX2_next_6 : decode cX2_next 6 = .ok (.iload_n 1, 1) := dk_27 (dk_at dksX2_next_0 6 rfl rfl)
theorem dX2_next_7 : decode cX2_next 7 = .ok (.invokevirtual 62, 3) := dk_182 0 62 (dk_at dksX2_next_0 7 rfl rfl)
theorem dX2_next_10 : decode cX2_next 10 = .ok (.bipush 32, 2) := dk_16 32 (dk_at dksX2_next_0 10 rfl rfl)
theorem dX2_next_12 : decode cX2_next 12 = .ok (.if_icmp .ne 9, 3) := dk_160 0 9 (dk_at dksX2_next_0 12 rfl rfl)
theorem dX2_next_15 : decode cX2_next 15 = .ok (.iinc 1 1, 3) := dk_132 1 1 (dk_at dksX2_next_0 15 rfl rfl)
theorem dX2_next_18 : decode cX2_next 18 = .ok (.goto (-13), 3) := dk_167 255 243 (dk_at dksX2_next_0 18 rfl rfl)
theorem dX2_next_21 : decode cX2_next 21 = .ok (.aload_n 0, 1) := dk_42 (dk_at dksX2_next_0 21 rfl rfl)
theorem dX2_next_22 : decode cX2_next 22 = .ok (.iload_n 1, 1) := dk_27 (dk_at dksX2_next_0 22 rfl rfl)
theorem dX2_next_23 : decode cX2_next 23 = .ok (.putfield 66, 3) := dk_181 0 66 (dk_at dksX2_next_1 0 rfl rfl)
theorem dX2_next_26 : decode cX2_next 26 = .ok (.aload_n 0, 1) := dk_42 (dk_at dksX2_next_1 3 rfl rfl)
theorem dX2_next_27 : decode cX2_next 27 = .ok (.iload_n 1, 1) := dk_27 (dk_at dksX2_next_1 4 rfl rfl)
theorem dX2_next_28 : decode cX2_next 28 = .ok (.invokevirtual 62, 3) := dk_182 0 62 (dk_at dksX2_next_1 5 rfl rfl)
theorem dX2_next_31 : decode cX2_next 31 = .ok (.istore_n 2, 1) := dk_61 (dk_at dksX2_next_1 8 rfl rfl)
theorem dX2_next_32 : decode cX2_next 32 = .ok (.aload_n 0, 1) := dk_42 (dk_at dksX2_next_1 9 rfl rfl)
theorem dX2_next_33 : decode cX2_next 33 = .ok (.iconst 0, 1) := dk_3 (dk_at dksX2_next_1 10 rfl rfl)
theorem dX2_next_34 : decode cX2_next 34 = .ok (.putfield 69, 3) := dk_181 0 69 (dk_at dksX2_next_1 11 rfl rfl)
theorem dX2_next_37 : decode cX2_next 37 = .ok (.aload_n 0, 1) := dk_42 (dk_at dksX2_next_1 14 rfl rfl)
theorem dX2_next_38 : decode cX2_next 38 = .ok (.iconst 0, 1) := dk_3 (dk_at dksX2_next_1 15 rfl rfl)
theorem dX2_next_39 : decode cX2_next 39 = .ok (.putfield 72, 3) := dk_181 0 72 (dk_at dksX2_next_1 16 rfl rfl)
theorem dX2_next_42 : decode cX2_next 42 = .ok (.iload_n 2, 1) := dk_28 (dk_at dksX2_next_1 19 rfl rfl)
theorem dX2_next_43 : decode cX2_next 43 = .ok (.iconst (-1), 1) := dk_2 (dk_at dksX2_next_1 20 rfl rfl)
theorem dX2_next_44 : decode cX2_next 44 = .ok (.if_icmp .ne 16, 3) := dk_160 0 16 (dk_at dksX2_next_1 21 rfl rfl)
theorem dX2_next_47 : decode cX2_next 47 = .ok (.aload_n 0, 1) := dk_42 (dk_at dksX2_next_2 0 rfl rfl)
theorem dX2_next_48 : decode cX2_next 48 = .ok (.iconst 0, 1) := dk_3 (dk_at dksX2_next_2 1 rfl rfl)
theorem dX2_next_49 : decode cX2_next 49 = .ok (.putfield 75, 3) := dk_181 0 75 (dk_at dksX2_next_2 2 rfl rfl)
theorem dX2_next_52 : decode cX2_next 52 = .ok (.aload_n 0, 1) := dk_42 (dk_at dksX2_next_2 5 rfl rfl)
theorem dX2_next_53 : decode cX2_next 53 = .ok (.iload_n 1, 1) := dk_27 (dk_at dksX2_next_2 6 rfl rfl)
theorem dX2_next_54 : decode cX2_next 54 = .ok (.putfield 59, 3) := dk_181 0 59 (dk_at dksX2_next_2 7 rfl rfl)
theorem dX2_next_57 : decode cX2_next 57 = .ok (.goto 184, 3) := dk_167 0 184 (dk_at dksX2_next_2 10 rfl rfl)
theorem dX2_next_60 : decode cX2_next 60 = .ok (.iload_n 2, 1) := dk_28 (dk_at dksX2_next_2 13 rfl rfl)
theorem dX2_next_61 : decode cX2_next 61 = .ok (.invokestatic 78, 3) := dk_184 0 78 (dk_at dksX2_next_2 14 rfl rfl)
theorem dX2_next_64 : decode cX2_next 64 = .ok (.ifCond .eq 79, 3) := dk_153 0 79 (dk_at dksX2_next_2 17 rfl rfl)
theorem dX2_next_67 : decode cX2_next 67 = .ok (.aload_n 0, 1) := dk_42 (dk_at dksX2_next_2 20 rfl rfl)
theorem dX2_next_68 : decode cX2_next 68 = .ok (.iload_n 1, 1) := dk_27 (dk_at dksX2_next_2 21 rfl rfl)
theorem dX2_next_69 : decode cX2_next 69 = .ok (.invokevirtual 62, 3) := dk_182 0 62 (dk_at dksX2_next_3 0 rfl rfl)
theorem dX2_next_72 : decode cX2_next 72 = .ok (.invokestatic 78, 3) := dk_184 0 78 (dk_at dksX2_next_3 3 rfl rfl)
theorem dX2_next_75 : decode cX2_next 75 = .ok (.ifCond .eq 42, 3) := dk_153 0 42 (dk_at dksX2_next_3 6 rfl rfl)
theorem dX2_next_78 : decode cX2_next 78 = .ok (.aload_n 0, 1) := dk_42 (dk_at dksX2_next_3 9 rfl rfl)
theorem dX2_next_79 : decode cX2_next 79 = .ok (.getfield 69, 3) := dk_180 0 69 (dk_at dksX2_next_3 10 rfl rfl)
theorem dX2_next_82 : decode cX2_next 82 = .ok (.bipush 8, 2) := dk_16 8 (dk_at dksX2_next_3 13 rfl rfl)
theorem dX2_next_84 : decode cX2_next 84 = .ok (.if_icmp .ge 17, 3) := dk_162 0 17 (dk_at dksX2_next_3 15 rfl rfl)
theorem dX2_next_87 : decode cX2_next 87 = .ok (.aload_n 0, 1) := dk_42 (dk_at dksX2_next_3 18 rfl rfl)
theorem dX2_next_88 : decode cX2_next 88 = .ok (.getfield 17, 3) := dk_180 0 17 (dk_at dksX2_next_3 19 rfl rfl)
theorem dX2_next_91 : decode cX2_next 91 = .ok (.aload_n 0, 1) := dk_42 (dk_at dksX2_next_3 22 rfl rfl)
theorem dX2_next_92 : decode cX2_next 92 = .ok (.getfield 69, 3) := dk_180 0 69 (dk_at dksX2_next_4 0 rfl rfl)
theorem dX2_next_95 : decode cX2_next 95 = .ok (.aload_n 0, 1) := dk_42 (dk_at dksX2_next_4 3 rfl rfl)
theorem dX2_next_96 : decode cX2_next 96 = .ok (.iload_n 1, 1) := dk_27 (dk_at dksX2_next_4 4 rfl rfl)
theorem dX2_next_97 : decode cX2_next 97 = .ok (.invokevirtual 62, 3) := dk_182 0 62 (dk_at dksX2_next_4 5 rfl rfl)
theorem dX2_next_100 : decode cX2_next 100 = .ok (.iastore, 1) := dk_79 (dk_at dksX2_next_4 8 rfl rfl)
theorem dX2_next_101 : decode cX2_next 101 = .ok (.aload_n 0, 1) := dk_42 (dk_at dksX2_next_4 9 rfl rfl)
theorem dX2_next_102 : decode cX2_next 102 = .ok (.dup, 1) := dk_89 (dk_at dksX2_next_4 10 rfl rfl)
theorem dX2_next_103 : decode cX2_next 103 = .ok (.getfield 69, 3) := dk_180 0 69 (dk_at dksX2_next_4 11 rfl rfl)
theorem dX2_next_106 : decode cX2_next 106 = .ok (.iconst 1, 1) := dk_4 (dk_at dksX2_next_4 14 rfl rfl)
theorem dX2_next_107 : decode cX2_next 107 = .ok (.iadd, 1) := dk_96 (dk_at dksX2_next_4 15 rfl rfl)
theorem dX2_next_108 : decode cX2_next 108 = .ok (.putfield 69, 3) := dk_181 0 69 (dk_at dksX2_next_4 16 rfl rfl)
theorem dX2_next_111 : decode cX2_next 111 = .ok (.iinc 1 1, 3) := dk_132 1 1 (dk_at dksX2_next_4 19 rfl rfl)
theorem dX2_next_114 : decode cX2_next 114 = .ok (.goto (-47), 3) := dk_167 255 209 (dk_at dksX2_next_5 0 rfl rfl)
theorem dX2_next_117 : decode cX2_next 117 = .ok (.aload_n 0, 1) := dk_42 (dk_at dksX2_next_5 3 rfl rfl)
theorem dX2_next_118 : decode cX2_next 118 = .ok (.iload_n 1, 1) := dk_27 (dk_at dksX2_next_5 4 rfl rfl)
theorem dX2_next_119 : decode cX2_next 119 = .ok (.putfield 59, 3) := dk_181 0 59 (dk_at dksX2_next_5 5 rfl rfl)
theorem dX2_next_122 : decode cX2_next 122 = .ok (.aload_n 0, 1) := dk_42 (dk_at dksX2_next_5 8 rfl rfl)
theorem dX2_next_123 : decode cX2_next 123 = .ok (.aload_n 0, 1) := dk_42 (dk_at dksX2_next_5 9 rfl rfl)
theorem dX2_next_124 : decode cX2_next 124 = .ok (.getfield 69, 3) := dk_180 0 69 (dk_at dksX2_next_5 10 rfl rfl)
theorem dX2_next_127 : decode cX2_next 127 = .ok (.bipush 8, 2) := dk_16 8 (dk_at dksX2_next_5 13 rfl rfl)
theorem dX2_next_129 : decode cX2_next 129 = .ok (.if_icmp .le 7, 3) := dk_164 0 7 (dk_at dksX2_next_5 15 rfl rfl)
theorem dX2_next_132 : decode cX2_next 132 = .ok (.iconst 1, 1) := dk_4 (dk_at dksX2_next_5 18 rfl rfl)
theorem dX2_next_133 : decode cX2_next 133 = .ok (.goto 4, 3) := dk_167 0 4 (dk_at dksX2_next_5 19 rfl rfl)
theorem dX2_next_136 : decode cX2_next 136 = .ok (.iconst 2, 1) := dk_5 (dk_at dksX2_next_5 22 rfl rfl)
theorem dX2_next_137 : decode cX2_next 137 = .ok (.putfield 75, 3) := dk_181 0 75 (dk_at dksX2_next_6 0 rfl rfl)
theorem dX2_next_140 : decode cX2_next 140 = .ok (.goto 101, 3) := dk_167 0 101 (dk_at dksX2_next_6 3 rfl rfl)
theorem dX2_next_143 : decode cX2_next 143 = .ok (.iload_n 2, 1) := dk_28 (dk_at dksX2_next_6 6 rfl rfl)
theorem dX2_next_144 : decode cX2_next 144 = .ok (.invokestatic 82, 3) := dk_184 0 82 (dk_at dksX2_next_6 7 rfl rfl)
theorem dX2_next_147 : decode cX2_next 147 = .ok (.ifCond .eq 72, 3) := dk_153 0 72 (dk_at dksX2_next_6 10 rfl rfl)
theorem dX2_next_150 : decode cX2_next 150 = .ok (.iconst 0, 1) := dk_3 (dk_at dksX2_next_6 13 rfl rfl)
theorem dX2_next_151 : decode cX2_next 151 = .ok (.istore_n 3, 1) := dk_62 (dk_at dksX2_next_6 14 rfl rfl)
theorem dX2_next_152 : decode cX2_next 152 = .ok (.aload_n 0, 1) := dk_42 (dk_at dksX2_next_6 15 rfl rfl)
theorem dX2_next_153 : decode cX2_next 153 = .ok (.iload_n 1, 1) := dk_27 (dk_at dksX2_next_6 16 rfl rfl)
theorem dX2_next_154 : decode cX2_next 154 = .ok (.invokevirtual 62, 3) := dk_182 0 62 (dk_at dksX2_next_6 17 rfl rfl)
theorem dX2_next_157 : decode cX2_next 157 = .ok (.invokestatic 82, 3) := dk_184 0 82 (dk_at dksX2_next_6 20 rfl rfl)
theorem dX2_next_160 : decode cX2_next 160 = .ok (.ifCond .eq 37, 3) := dk_153 0 37 (dk_at dksX2_next_7 0 rfl rfl)
theorem dX2_next_163 : decode cX2_next 163 = .ok (.iload_n 3, 1) := dk_29 (dk_at dksX2_next_7 3 rfl rfl)
theorem dX2_next_164 : decode cX2_next 164 = .ok (.iconst 3, 1) := dk_6 (dk_at dksX2_next_7 4 rfl rfl)
theorem dX2_next_165 : decode cX2_next 165 = .ok (.if_icmp .ge 23, 3) := dk_162 0 23 (dk_at dksX2_next_7 5 rfl rfl)
theorem dX2_next_168 : decode cX2_next 168 = .ok (.aload_n 0, 1) := dk_42 (dk_at dksX2_next_7 8 rfl rfl)
theorem dX2_next_169 : decode cX2_next 169 = .ok (.bipush 10, 2) := dk_16 10 (dk_at dksX2_next_7 9 rfl rfl)
theorem dX2_next_171 : decode cX2_next 171 = .ok (.aload_n 0, 1) := dk_42 (dk_at dksX2_next_7 11 rfl rfl)
theorem dX2_next_172 : decode cX2_next 172 = .ok (.getfield 72, 3) := dk_180 0 72 (dk_at dksX2_next_7 12 rfl rfl)
theorem dX2_next_175 : decode cX2_next 175 = .ok (.imul, 1) := dk_104 (dk_at dksX2_next_7 15 rfl rfl)
theorem dX2_next_176 : decode cX2_next 176 = .ok (.aload_n 0, 1) := dk_42 (dk_at dksX2_next_7 16 rfl rfl)
theorem dX2_next_177 : decode cX2_next 177 = .ok (.iload_n 1, 1) := dk_27 (dk_at dksX2_next_7 17 rfl rfl)
theorem dX2_next_178 : decode cX2_next 178 = .ok (.invokevirtual 62, 3) := dk_182 0 62 (dk_at dksX2_next_7 18 rfl rfl)
theorem dX2_next_181 : decode cX2_next 181 = .ok (.iadd, 1) := dk_96 (dk_at dksX2_next_7 21 rfl rfl)
theorem dX2_next_182 : decode cX2_next 182 = .ok (.bipush 48, 2) := dk_16 48 (dk_at dksX2_next_7 22 rfl rfl)
theorem dX2_next_184 : decode cX2_next 184 = .ok (.isub, 1) := dk_100 (dk_at dksX2_next_8 0 rfl rfl)
theorem dX2_next_185 : decode cX2_next 185 = .ok (.putfield 72, 3) := dk_181 0 72 (dk_at dksX2_next_8 1 rfl rfl)
theorem dX2_next_188 : decode cX2_next 188 = .ok (.iinc 3 1, 3) := dk_132 3 1 (dk_at dksX2_next_8 4 rfl rfl)
theorem dX2_next_191 : decode cX2_next 191 = .ok (.iinc 1 1, 3) := dk_132 1 1 (dk_at dksX2_next_8 7 rfl rfl)
theorem dX2_next_194 : decode cX2_next 194 = .ok (.goto (-42), 3) := dk_167 255 214 (dk_at dksX2_next_8 10 rfl rfl)
theorem dX2_next_197 : decode cX2_next 197 = .ok (.aload_n 0, 1) := dk_42 (dk_at dksX2_next_8 13 rfl rfl)
theorem dX2_next_198 : decode cX2_next 198 = .ok (.iload_n 1, 1) := dk_27 (dk_at dksX2_next_8 14 rfl rfl)
theorem dX2_next_199 : decode cX2_next 199 = .ok (.putfield 59, 3) := dk_181 0 59 (dk_at dksX2_next_8 15 rfl rfl)
theorem dX2_next_202 : decode cX2_next 202 = .ok (.aload_n 0, 1) := dk_42 (dk_at dksX2_next_8 18 rfl rfl)
theorem dX2_next_203 : decode cX2_next 203 = .ok (.iload_n 3, 1) := dk_29 (dk_at dksX2_next_8 19 rfl rfl)
theorem dX2_next_204 : decode cX2_next 204 = .ok (.iconst 3, 1) := dk_6 (dk_at dksX2_next_8 20 rfl rfl)
theorem dX2_next_205 : decode cX2_next 205 = .ok (.if_icmp .le 7, 3) := dk_164 0 7 (dk_at dksX2_next_8 21 rfl rfl)
theorem dX2_next_208 : decode cX2_next 208 = .ok (.iconst 1, 1) := dk_4 (dk_at dksX2_next_9 0 rfl rfl)
theorem dX2_next_209 : decode cX2_next 209 = .ok (.goto 4, 3) := dk_167 0 4 (dk_at dksX2_next_9 1 rfl rfl)
theorem dX2_next_212 : decode cX2_next 212 = .ok (.iconst 3, 1) := dk_6 (dk_at dksX2_next_9 4 rfl rfl)
theorem dX2_next_213 : decode cX2_next 213 = .ok (.putfield 75, 3) := dk_181 0 75 (dk_at dksX2_next_9 5 rfl rfl)
theorem dX2_next_216 : decode cX2_next 216 = .ok (.goto 25, 3) := dk_167 0 25 (dk_at dksX2_next_9 8 rfl rfl)
theorem dX2_next_219 : decode cX2_next 219 = .ok (.aload_n 0, 1) := dk_42 (dk_at dksX2_next_9 11 rfl rfl)
theorem dX2_next_220 : decode cX2_next 220 = .ok (.iload_n 1, 1) := dk_27 (dk_at dksX2_next_9 12 rfl rfl)
theorem dX2_next_221 : decode cX2_next 221 = .ok (.iconst 1, 1) := dk_4 (dk_at dksX2_next_9 13 rfl rfl)
theorem dX2_next_222 : decode cX2_next 222 = .ok (.iadd, 1) := dk_96 (dk_at dksX2_next_9 14 rfl rfl)
theorem dX2_next_223 : decode cX2_next 223 = .ok (.putfield 59, 3) := dk_181 0 59 (dk_at dksX2_next_9 15 rfl rfl)
theorem dX2_next_226 : decode cX2_next 226 = .ok (.aload_n 0, 1) := dk_42 (dk_at dksX2_next_9 18 rfl rfl)
theorem dX2_next_227 : decode cX2_next 227 = .ok (.iload_n 2, 1) := dk_28 (dk_at dksX2_next_9 19 rfl rfl)
theorem dX2_next_228 : decode cX2_next 228 = .ok (.bipush 59, 2) := dk_16 59 (dk_at dksX2_next_9 20 rfl rfl)
theorem dX2_next_230 : decode cX2_next 230 = .ok (.if_icmp .ne 7, 3) := dk_160 0 7 (dk_at dksX2_next_10 0 rfl rfl)
theorem dX2_next_233 : decode cX2_next 233 = .ok (.iload_n 2, 1) := dk_28 (dk_at dksX2_next_10 3 rfl rfl)
theorem dX2_next_234 : decode cX2_next 234 = .ok (.goto 4, 3) := dk_167 0 4 (dk_at dksX2_next_10 4 rfl rfl)
theorem dX2_next_237 : decode cX2_next 237 = .ok (.iconst 1, 1) := dk_4 (dk_at dksX2_next_10 7 rfl rfl)
theorem dX2_next_238 : decode cX2_next 238 = .ok (.putfield 75, 3) := dk_181 0 75 (dk_at dksX2_next_10 8 rfl rfl)
theorem dX2_next_241 : decode cX2_next 241 = .ok (.return_, 1) := dk_177 (dk_at dksX2_next_10 11 rfl rfl)
abbrev cX2_see : ByteArray := prog_15_method_12_code
def yX2_see : MethodName := ⟨RX2, "see", "(I)I"⟩
def dkwX2_see_0 : List UInt8 := [27, 42, 180, 0, 56, 162, 0, 12, 42, 180, 0, 7, 27, 46, 167, 0, 4, 2, 172]
abbrev dktX2_see_0 : List UInt8 := dkwX2_see_0 ++ []
theorem dksX2_see_0 : cX2_see.data.toList.drop 0 = dktX2_see_0 := by decide +kernel
theorem dX2_see_0 : decode cX2_see 0 = .ok (.iload_n 1, 1) := dk_27 (dk_at dksX2_see_0 0 rfl rfl)
theorem dX2_see_1 : decode cX2_see 1 = .ok (.aload_n 0, 1) := dk_42 (dk_at dksX2_see_0 1 rfl rfl)
theorem dX2_see_2 : decode cX2_see 2 = .ok (.getfield 56, 3) := dk_180 0 56 (dk_at dksX2_see_0 2 rfl rfl)
theorem dX2_see_5 : decode cX2_see 5 = .ok (.if_icmp .ge 12, 3) := dk_162 0 12 (dk_at dksX2_see_0 5 rfl rfl)
theorem dX2_see_8 : decode cX2_see 8 = .ok (.aload_n 0, 1) := dk_42 (dk_at dksX2_see_0 8 rfl rfl)
theorem dX2_see_9 : decode cX2_see 9 = .ok (.getfield 7, 3) := dk_180 0 7 (dk_at dksX2_see_0 9 rfl rfl)
theorem dX2_see_12 : decode cX2_see 12 = .ok (.iload_n 1, 1) := dk_27 (dk_at dksX2_see_0 12 rfl rfl)
theorem dX2_see_13 : decode cX2_see 13 = .ok (.iaload, 1) := dk_46 (dk_at dksX2_see_0 13 rfl rfl)
theorem dX2_see_14 : decode cX2_see 14 = .ok (.goto 4, 3) := dk_167 0 4 (dk_at dksX2_see_0 14 rfl rfl)
theorem dX2_see_17 : decode cX2_see 17 = .ok (.iconst (-1), 1) := dk_2 (dk_at dksX2_see_0 17 rfl rfl)
theorem dX2_see_18 : decode cX2_see 18 = .ok (.ireturn, 1) := dk_172 (dk_at dksX2_see_0 18 rfl rfl)
abbrev cX2_isSmall : ByteArray := prog_15_method_13_code
def yX2_isSmall : MethodName := ⟨RX2, "isSmall", "(I)Z"⟩
def dkwX2_isSmall_0 : List UInt8 := [26, 16, 97, 161, 0, 13, 26, 16, 122, 163, 0, 7, 4, 167, 0, 4, 3, 172]
abbrev dktX2_isSmall_0 : List UInt8 := dkwX2_isSmall_0 ++ []
theorem dksX2_isSmall_0 : cX2_isSmall.data.toList.drop 0 = dktX2_isSmall_0 := by decide +kernel
theorem dX2_isSmall_0 : decode cX2_isSmall 0 = .ok (.iload_n 0, 1) := dk_26 (dk_at dksX2_isSmall_0 0 rfl rfl)
theorem dX2_isSmall_1 : decode cX2_isSmall 1 = .ok (.bipush 97, 2) := dk_16 97 (dk_at dksX2_isSmall_0 1 rfl rfl)
theorem dX2_isSmall_3 : decode cX2_isSmall 3 = .ok (.if_icmp .lt 13, 3) := dk_161 0 13 (dk_at dksX2_isSmall_0 3 rfl rfl)
theorem dX2_isSmall_6 : decode cX2_isSmall 6 = .ok (.iload_n 0, 1) := dk_26 (dk_at dksX2_isSmall_0 6 rfl rfl)
theorem dX2_isSmall_7 : decode cX2_isSmall 7 = .ok (.bipush 122, 2) := dk_16 122 (dk_at dksX2_isSmall_0 7 rfl rfl)
theorem dX2_isSmall_9 : decode cX2_isSmall 9 = .ok (.if_icmp .gt 7, 3) := dk_163 0 7 (dk_at dksX2_isSmall_0 9 rfl rfl)
theorem dX2_isSmall_12 : decode cX2_isSmall 12 = .ok (.iconst 1, 1) := dk_4 (dk_at dksX2_isSmall_0 12 rfl rfl)
theorem dX2_isSmall_13 : decode cX2_isSmall 13 = .ok (.goto 4, 3) := dk_167 0 4 (dk_at dksX2_isSmall_0 13 rfl rfl)
theorem dX2_isSmall_16 : decode cX2_isSmall 16 = .ok (.iconst 0, 1) := dk_3 (dk_at dksX2_isSmall_0 16 rfl rfl)
theorem dX2_isSmall_17 : decode cX2_isSmall 17 = .ok (.ireturn, 1) := dk_172 (dk_at dksX2_isSmall_0 17 rfl rfl)
abbrev cX2_isDigit : ByteArray := prog_15_method_14_code
def yX2_isDigit : MethodName := ⟨RX2, "isDigit", "(I)Z"⟩
def dkwX2_isDigit_0 : List UInt8 := [26, 16, 48, 161, 0, 13, 26, 16, 57, 163, 0, 7, 4, 167, 0, 4, 3, 172]
abbrev dktX2_isDigit_0 : List UInt8 := dkwX2_isDigit_0 ++ []
theorem dksX2_isDigit_0 : cX2_isDigit.data.toList.drop 0 = dktX2_isDigit_0 := by decide +kernel
theorem dX2_isDigit_0 : decode cX2_isDigit 0 = .ok (.iload_n 0, 1) := dk_26 (dk_at dksX2_isDigit_0 0 rfl rfl)
theorem dX2_isDigit_1 : decode cX2_isDigit 1 = .ok (.bipush 48, 2) := dk_16 48 (dk_at dksX2_isDigit_0 1 rfl rfl)
theorem dX2_isDigit_3 : decode cX2_isDigit 3 = .ok (.if_icmp .lt 13, 3) := dk_161 0 13 (dk_at dksX2_isDigit_0 3 rfl rfl)
theorem dX2_isDigit_6 : decode cX2_isDigit 6 = .ok (.iload_n 0, 1) := dk_26 (dk_at dksX2_isDigit_0 6 rfl rfl)
theorem dX2_isDigit_7 : decode cX2_isDigit 7 = .ok (.bipush 57, 2) := dk_16 57 (dk_at dksX2_isDigit_0 7 rfl rfl)
theorem dX2_isDigit_9 : decode cX2_isDigit 9 = .ok (.if_icmp .gt 7, 3) := dk_163 0 7 (dk_at dksX2_isDigit_0 9 rfl rfl)
theorem dX2_isDigit_12 : decode cX2_isDigit 12 = .ok (.iconst 1, 1) := dk_4 (dk_at dksX2_isDigit_0 12 rfl rfl)
theorem dX2_isDigit_13 : decode cX2_isDigit 13 = .ok (.goto 4, 3) := dk_167 0 4 (dk_at dksX2_isDigit_0 13 rfl rfl)
theorem dX2_isDigit_16 : decode cX2_isDigit 16 = .ok (.iconst 0, 1) := dk_3 (dk_at dksX2_isDigit_0 16 rfl rfl)
theorem dX2_isDigit_17 : decode cX2_isDigit 17 = .ok (.ireturn, 1) := dk_172 (dk_at dksX2_isDigit_0 17 rfl rfl)
abbrev cX2_readLine : ByteArray := prog_15_method_33_code
def yX2_readLine : MethodName := ⟨RX2, "readLine", "()V"⟩
def dkwX2_readLine_10 : List UInt8 := [42, 182, 0, 213, 167, 0, 12, 42, 4, 42, 180, 0, 66, 182, 0, 112, 177]
abbrev dktX2_readLine_10 : List UInt8 := dkwX2_readLine_10 ++ []
def dkwX2_readLine_9 : List UInt8 := [3, 182, 0, 188, 153, 0, 10, 42, 182, 0, 210, 167, 0, 29, 42, 18, 131, 4, 182, 0, 188, 153, 0, 10]
abbrev dktX2_readLine_9 : List UInt8 := dkwX2_readLine_9 ++ dktX2_readLine_10
def dkwX2_readLine_8 : List UInt8 := [182, 0, 207, 167, 0, 61, 42, 18, 129, 42, 180, 0, 23, 16, 7, 46, 7, 162, 0, 7, 4, 167, 0, 4]
abbrev dktX2_readLine_8 : List UInt8 := dkwX2_readLine_8 ++ dktX2_readLine_9
def dkwX2_readLine_7 : List UInt8 := [182, 0, 188, 153, 0, 10, 42, 182, 0, 204, 167, 0, 78, 42, 18, 127, 4, 182, 0, 188, 153, 0, 10, 42]
abbrev dktX2_readLine_7 : List UInt8 := dkwX2_readLine_7 ++ dktX2_readLine_8
def dkwX2_readLine_6 : List UInt8 := [182, 0, 201, 167, 0, 109, 42, 18, 125, 42, 180, 0, 23, 8, 46, 6, 162, 0, 7, 4, 167, 0, 4, 3]
abbrev dktX2_readLine_6 : List UInt8 := dkwX2_readLine_6 ++ dktX2_readLine_7
def dkwX2_readLine_5 : List UInt8 := [180, 0, 23, 7, 46, 16, 10, 162, 0, 7, 4, 167, 0, 4, 3, 182, 0, 188, 153, 0, 10, 42]
abbrev dktX2_readLine_5 : List UInt8 := dkwX2_readLine_5 ++ dktX2_readLine_6
def dkwX2_readLine_4 : List UInt8 := [4, 167, 0, 4, 3, 182, 0, 188, 153, 0, 10, 42, 182, 0, 198, 167, 0, 141, 42, 18, 123, 42]
abbrev dktX2_readLine_4 : List UInt8 := dkwX2_readLine_4 ++ dktX2_readLine_5
def dkwX2_readLine_3 : List UInt8 := [153, 0, 10, 42, 182, 0, 195, 167, 0, 173, 42, 18, 121, 42, 180, 0, 23, 6, 46, 16, 6, 162, 0, 7]
abbrev dktX2_readLine_3 : List UInt8 := dkwX2_readLine_3 ++ dktX2_readLine_4
def dkwX2_readLine_2 : List UInt8 := [42, 18, 119, 42, 180, 0, 23, 5, 46, 16, 8, 162, 0, 7, 4, 167, 0, 4, 3, 182, 0, 188]
abbrev dktX2_readLine_2 : List UInt8 := dkwX2_readLine_2 ++ dktX2_readLine_3
def dkwX2_readLine_1 : List UInt8 := [46, 16, 6, 162, 0, 7, 4, 167, 0, 4, 3, 182, 0, 188, 153, 0, 10, 42, 182, 0, 192, 167, 0, 205]
abbrev dktX2_readLine_1 : List UInt8 := dkwX2_readLine_1 ++ dktX2_readLine_2
def dkwX2_readLine_0 : List UInt8 := [42, 18, 116, 182, 0, 102, 153, 0, 10, 42, 182, 0, 185, 167, 0, 237, 42, 18, 118, 42, 180, 0, 23, 4]
abbrev dktX2_readLine_0 : List UInt8 := dkwX2_readLine_0 ++ dktX2_readLine_1
theorem dksX2_readLine_0 : cX2_readLine.data.toList.drop 0 = dktX2_readLine_0 := by decide +kernel
theorem dksX2_readLine_1 : cX2_readLine.data.toList.drop 24 = dktX2_readLine_1 := dk_seg dksX2_readLine_0 24 rfl rfl
theorem dksX2_readLine_2 : cX2_readLine.data.toList.drop 48 = dktX2_readLine_2 := dk_seg dksX2_readLine_1 24 rfl rfl
theorem dksX2_readLine_3 : cX2_readLine.data.toList.drop 70 = dktX2_readLine_3 := dk_seg dksX2_readLine_2 22 rfl rfl
theorem dksX2_readLine_4 : cX2_readLine.data.toList.drop 94 = dktX2_readLine_4 := dk_seg dksX2_readLine_3 24 rfl rfl
theorem dksX2_readLine_5 : cX2_readLine.data.toList.drop 116 = dktX2_readLine_5 := dk_seg dksX2_readLine_4 22 rfl rfl
theorem dksX2_readLine_6 : cX2_readLine.data.toList.drop 138 = dktX2_readLine_6 := dk_seg dksX2_readLine_5 22 rfl rfl
theorem dksX2_readLine_7 : cX2_readLine.data.toList.drop 162 = dktX2_readLine_7 := dk_seg dksX2_readLine_6 24 rfl rfl
theorem dksX2_readLine_8 : cX2_readLine.data.toList.drop 186 = dktX2_readLine_8 := dk_seg dksX2_readLine_7 24 rfl rfl
theorem dksX2_readLine_9 : cX2_readLine.data.toList.drop 210 = dktX2_readLine_9 := dk_seg dksX2_readLine_8 24 rfl rfl
theorem dksX2_readLine_10 : cX2_readLine.data.toList.drop 234 = dktX2_readLine_10 := dk_seg dksX2_readLine_9 24 rfl rfl
theorem dX2_readLine_0 : decode cX2_readLine 0 = .ok (.aload_n 0, 1) := dk_42 (dk_at dksX2_readLine_0 0 rfl rfl)
theorem dX2_readLine_1 : decode cX2_readLine 1 = .ok (.ldc 116, 2) := dk_18 116 (dk_at dksX2_readLine_0 1 rfl rfl)
theorem dX2_readLine_3 : decode cX2_readLine 3 = .ok (.invokevirtual 102, 3) := dk_182 0 102 (dk_at dksX2_readLine_0 3 rfl rfl)
theorem dX2_readLine_6 : decode cX2_readLine 6 = .ok (.ifCond .eq 10, 3) := dk_153 0 10 (dk_at dksX2_readLine_0 6 rfl rfl)
theorem dX2_readLine_9 : decode cX2_readLine 9 = .ok (.aload_n 0, 1) := dk_42 (dk_at dksX2_readLine_0 9 rfl rfl)
theorem dX2_readLine_10 : decode cX2_readLine 10 = .ok (.invokevirtual 185, 3) := dk_182 0 185 (dk_at dksX2_readLine_0 10 rfl rfl)
theorem dX2_readLine_13 : decode cX2_readLine 13 = .ok (.goto 237, 3) := dk_167 0 237 (dk_at dksX2_readLine_0 13 rfl rfl)
theorem dX2_readLine_16 : decode cX2_readLine 16 = .ok (.aload_n 0, 1) := dk_42 (dk_at dksX2_readLine_0 16 rfl rfl)
theorem dX2_readLine_17 : decode cX2_readLine 17 = .ok (.ldc 118, 2) := dk_18 118 (dk_at dksX2_readLine_0 17 rfl rfl)
theorem dX2_readLine_19 : decode cX2_readLine 19 = .ok (.aload_n 0, 1) := dk_42 (dk_at dksX2_readLine_0 19 rfl rfl)
theorem dX2_readLine_20 : decode cX2_readLine 20 = .ok (.getfield 23, 3) := dk_180 0 23 (dk_at dksX2_readLine_0 20 rfl rfl)
theorem dX2_readLine_23 : decode cX2_readLine 23 = .ok (.iconst 1, 1) := dk_4 (dk_at dksX2_readLine_0 23 rfl rfl)
theorem dX2_readLine_24 : decode cX2_readLine 24 = .ok (.iaload, 1) := dk_46 (dk_at dksX2_readLine_1 0 rfl rfl)
theorem dX2_readLine_25 : decode cX2_readLine 25 = .ok (.bipush 6, 2) := dk_16 6 (dk_at dksX2_readLine_1 1 rfl rfl)
theorem dX2_readLine_27 : decode cX2_readLine 27 = .ok (.if_icmp .ge 7, 3) := dk_162 0 7 (dk_at dksX2_readLine_1 3 rfl rfl)
theorem dX2_readLine_30 : decode cX2_readLine 30 = .ok (.iconst 1, 1) := dk_4 (dk_at dksX2_readLine_1 6 rfl rfl)
theorem dX2_readLine_31 : decode cX2_readLine 31 = .ok (.goto 4, 3) := dk_167 0 4 (dk_at dksX2_readLine_1 7 rfl rfl)
theorem dX2_readLine_34 : decode cX2_readLine 34 = .ok (.iconst 0, 1) := dk_3 (dk_at dksX2_readLine_1 10 rfl rfl)
theorem dX2_readLine_35 : decode cX2_readLine 35 = .ok (.invokevirtual 188, 3) := dk_182 0 188 (dk_at dksX2_readLine_1 11 rfl rfl)
theorem dX2_readLine_38 : decode cX2_readLine 38 = .ok (.ifCond .eq 10, 3) := dk_153 0 10 (dk_at dksX2_readLine_1 14 rfl rfl)
theorem dX2_readLine_41 : decode cX2_readLine 41 = .ok (.aload_n 0, 1) := dk_42 (dk_at dksX2_readLine_1 17 rfl rfl)
theorem dX2_readLine_42 : decode cX2_readLine 42 = .ok (.invokevirtual 192, 3) := dk_182 0 192 (dk_at dksX2_readLine_1 18 rfl rfl)
theorem dX2_readLine_45 : decode cX2_readLine 45 = .ok (.goto 205, 3) := dk_167 0 205 (dk_at dksX2_readLine_1 21 rfl rfl)
theorem dX2_readLine_48 : decode cX2_readLine 48 = .ok (.aload_n 0, 1) := dk_42 (dk_at dksX2_readLine_2 0 rfl rfl)
theorem dX2_readLine_49 : decode cX2_readLine 49 = .ok (.ldc 119, 2) := dk_18 119 (dk_at dksX2_readLine_2 1 rfl rfl)
theorem dX2_readLine_51 : decode cX2_readLine 51 = .ok (.aload_n 0, 1) := dk_42 (dk_at dksX2_readLine_2 3 rfl rfl)
theorem dX2_readLine_52 : decode cX2_readLine 52 = .ok (.getfield 23, 3) := dk_180 0 23 (dk_at dksX2_readLine_2 4 rfl rfl)
theorem dX2_readLine_55 : decode cX2_readLine 55 = .ok (.iconst 2, 1) := dk_5 (dk_at dksX2_readLine_2 7 rfl rfl)
theorem dX2_readLine_56 : decode cX2_readLine 56 = .ok (.iaload, 1) := dk_46 (dk_at dksX2_readLine_2 8 rfl rfl)
theorem dX2_readLine_57 : decode cX2_readLine 57 = .ok (.bipush 8, 2) := dk_16 8 (dk_at dksX2_readLine_2 9 rfl rfl)
theorem dX2_readLine_59 : decode cX2_readLine 59 = .ok (.if_icmp .ge 7, 3) := dk_162 0 7 (dk_at dksX2_readLine_2 11 rfl rfl)
theorem dX2_readLine_62 : decode cX2_readLine 62 = .ok (.iconst 1, 1) := dk_4 (dk_at dksX2_readLine_2 14 rfl rfl)
theorem dX2_readLine_63 : decode cX2_readLine 63 = .ok (.goto 4, 3) := dk_167 0 4 (dk_at dksX2_readLine_2 15 rfl rfl)
theorem dX2_readLine_66 : decode cX2_readLine 66 = .ok (.iconst 0, 1) := dk_3 (dk_at dksX2_readLine_2 18 rfl rfl)
theorem dX2_readLine_67 : decode cX2_readLine 67 = .ok (.invokevirtual 188, 3) := dk_182 0 188 (dk_at dksX2_readLine_2 19 rfl rfl)
theorem dX2_readLine_70 : decode cX2_readLine 70 = .ok (.ifCond .eq 10, 3) := dk_153 0 10 (dk_at dksX2_readLine_3 0 rfl rfl)
theorem dX2_readLine_73 : decode cX2_readLine 73 = .ok (.aload_n 0, 1) := dk_42 (dk_at dksX2_readLine_3 3 rfl rfl)
theorem dX2_readLine_74 : decode cX2_readLine 74 = .ok (.invokevirtual 195, 3) := dk_182 0 195 (dk_at dksX2_readLine_3 4 rfl rfl)
theorem dX2_readLine_77 : decode cX2_readLine 77 = .ok (.goto 173, 3) := dk_167 0 173 (dk_at dksX2_readLine_3 7 rfl rfl)
theorem dX2_readLine_80 : decode cX2_readLine 80 = .ok (.aload_n 0, 1) := dk_42 (dk_at dksX2_readLine_3 10 rfl rfl)
theorem dX2_readLine_81 : decode cX2_readLine 81 = .ok (.ldc 121, 2) := dk_18 121 (dk_at dksX2_readLine_3 11 rfl rfl)
theorem dX2_readLine_83 : decode cX2_readLine 83 = .ok (.aload_n 0, 1) := dk_42 (dk_at dksX2_readLine_3 13 rfl rfl)
theorem dX2_readLine_84 : decode cX2_readLine 84 = .ok (.getfield 23, 3) := dk_180 0 23 (dk_at dksX2_readLine_3 14 rfl rfl)
theorem dX2_readLine_87 : decode cX2_readLine 87 = .ok (.iconst 3, 1) := dk_6 (dk_at dksX2_readLine_3 17 rfl rfl)
theorem dX2_readLine_88 : decode cX2_readLine 88 = .ok (.iaload, 1) := dk_46 (dk_at dksX2_readLine_3 18 rfl rfl)
theorem dX2_readLine_89 : decode cX2_readLine 89 = .ok (.bipush 6, 2) := dk_16 6 (dk_at dksX2_readLine_3 19 rfl rfl)
theorem dX2_readLine_91 : decode cX2_readLine 91 = .ok (.if_icmp .ge 7, 3) := dk_162 0 7 (dk_at dksX2_readLine_3 21 rfl rfl)
theorem dX2_readLine_94 : decode cX2_readLine 94 = .ok (.iconst 1, 1) := dk_4 (dk_at dksX2_readLine_4 0 rfl rfl)
theorem dX2_readLine_95 : decode cX2_readLine 95 = .ok (.goto 4, 3) := dk_167 0 4 (dk_at dksX2_readLine_4 1 rfl rfl)
theorem dX2_readLine_98 : decode cX2_readLine 98 = .ok (.iconst 0, 1) := dk_3 (dk_at dksX2_readLine_4 4 rfl rfl)
theorem dX2_readLine_99 : decode cX2_readLine 99 = .ok (.invokevirtual 188, 3) := dk_182 0 188 (dk_at dksX2_readLine_4 5 rfl rfl)
theorem dX2_readLine_102 : decode cX2_readLine 102 = .ok (.ifCond .eq 10, 3) := dk_153 0 10 (dk_at dksX2_readLine_4 8 rfl rfl)
theorem dX2_readLine_105 : decode cX2_readLine 105 = .ok (.aload_n 0, 1) := dk_42 (dk_at dksX2_readLine_4 11 rfl rfl)
theorem dX2_readLine_106 : decode cX2_readLine 106 = .ok (.invokevirtual 198, 3) := dk_182 0 198 (dk_at dksX2_readLine_4 12 rfl rfl)
theorem dX2_readLine_109 : decode cX2_readLine 109 = .ok (.goto 141, 3) := dk_167 0 141 (dk_at dksX2_readLine_4 15 rfl rfl)
theorem dX2_readLine_112 : decode cX2_readLine 112 = .ok (.aload_n 0, 1) := dk_42 (dk_at dksX2_readLine_4 18 rfl rfl)
theorem dX2_readLine_113 : decode cX2_readLine 113 = .ok (.ldc 123, 2) := dk_18 123 (dk_at dksX2_readLine_4 19 rfl rfl)
theorem dX2_readLine_115 : decode cX2_readLine 115 = .ok (.aload_n 0, 1) := dk_42 (dk_at dksX2_readLine_4 21 rfl rfl)
theorem dX2_readLine_116 : decode cX2_readLine 116 = .ok (.getfield 23, 3) := dk_180 0 23 (dk_at dksX2_readLine_5 0 rfl rfl)
theorem dX2_readLine_119 : decode cX2_readLine 119 = .ok (.iconst 4, 1) := dk_7 (dk_at dksX2_readLine_5 3 rfl rfl)
theorem dX2_readLine_120 : decode cX2_readLine 120 = .ok (.iaload, 1) := dk_46 (dk_at dksX2_readLine_5 4 rfl rfl)
theorem dX2_readLine_121 : decode cX2_readLine 121 = .ok (.bipush 10, 2) := dk_16 10 (dk_at dksX2_readLine_5 5 rfl rfl)
theorem dX2_readLine_123 : decode cX2_readLine 123 = .ok (.if_icmp .ge 7, 3) := dk_162 0 7 (dk_at dksX2_readLine_5 7 rfl rfl)
theorem dX2_readLine_126 : decode cX2_readLine 126 = .ok (.iconst 1, 1) := dk_4 (dk_at dksX2_readLine_5 10 rfl rfl)
theorem dX2_readLine_127 : decode cX2_readLine 127 = .ok (.goto 4, 3) := dk_167 0 4 (dk_at dksX2_readLine_5 11 rfl rfl)
theorem dX2_readLine_130 : decode cX2_readLine 130 = .ok (.iconst 0, 1) := dk_3 (dk_at dksX2_readLine_5 14 rfl rfl)
theorem dX2_readLine_131 : decode cX2_readLine 131 = .ok (.invokevirtual 188, 3) := dk_182 0 188 (dk_at dksX2_readLine_5 15 rfl rfl)
theorem dX2_readLine_134 : decode cX2_readLine 134 = .ok (.ifCond .eq 10, 3) := dk_153 0 10 (dk_at dksX2_readLine_5 18 rfl rfl)
theorem dX2_readLine_137 : decode cX2_readLine 137 = .ok (.aload_n 0, 1) := dk_42 (dk_at dksX2_readLine_5 21 rfl rfl)
theorem dX2_readLine_138 : decode cX2_readLine 138 = .ok (.invokevirtual 201, 3) := dk_182 0 201 (dk_at dksX2_readLine_6 0 rfl rfl)
theorem dX2_readLine_141 : decode cX2_readLine 141 = .ok (.goto 109, 3) := dk_167 0 109 (dk_at dksX2_readLine_6 3 rfl rfl)
theorem dX2_readLine_144 : decode cX2_readLine 144 = .ok (.aload_n 0, 1) := dk_42 (dk_at dksX2_readLine_6 6 rfl rfl)
theorem dX2_readLine_145 : decode cX2_readLine 145 = .ok (.ldc 125, 2) := dk_18 125 (dk_at dksX2_readLine_6 7 rfl rfl)
theorem dX2_readLine_147 : decode cX2_readLine 147 = .ok (.aload_n 0, 1) := dk_42 (dk_at dksX2_readLine_6 9 rfl rfl)
theorem dX2_readLine_148 : decode cX2_readLine 148 = .ok (.getfield 23, 3) := dk_180 0 23 (dk_at dksX2_readLine_6 10 rfl rfl)
theorem dX2_readLine_151 : decode cX2_readLine 151 = .ok (.iconst 5, 1) := dk_8 (dk_at dksX2_readLine_6 13 rfl rfl)
theorem dX2_readLine_152 : decode cX2_readLine 152 = .ok (.iaload, 1) := dk_46 (dk_at dksX2_readLine_6 14 rfl rfl)
theorem dX2_readLine_153 : decode cX2_readLine 153 = .ok (.iconst 3, 1) := dk_6 (dk_at dksX2_readLine_6 15 rfl rfl)
theorem dX2_readLine_154 : decode cX2_readLine 154 = .ok (.if_icmp .ge 7, 3) := dk_162 0 7 (dk_at dksX2_readLine_6 16 rfl rfl)
theorem dX2_readLine_157 : decode cX2_readLine 157 = .ok (.iconst 1, 1) := dk_4 (dk_at dksX2_readLine_6 19 rfl rfl)
theorem dX2_readLine_158 : decode cX2_readLine 158 = .ok (.goto 4, 3) := dk_167 0 4 (dk_at dksX2_readLine_6 20 rfl rfl)
theorem dX2_readLine_161 : decode cX2_readLine 161 = .ok (.iconst 0, 1) := dk_3 (dk_at dksX2_readLine_6 23 rfl rfl)
theorem dX2_readLine_162 : decode cX2_readLine 162 = .ok (.invokevirtual 188, 3) := dk_182 0 188 (dk_at dksX2_readLine_7 0 rfl rfl)
theorem dX2_readLine_165 : decode cX2_readLine 165 = .ok (.ifCond .eq 10, 3) := dk_153 0 10 (dk_at dksX2_readLine_7 3 rfl rfl)
theorem dX2_readLine_168 : decode cX2_readLine 168 = .ok (.aload_n 0, 1) := dk_42 (dk_at dksX2_readLine_7 6 rfl rfl)
theorem dX2_readLine_169 : decode cX2_readLine 169 = .ok (.invokevirtual 204, 3) := dk_182 0 204 (dk_at dksX2_readLine_7 7 rfl rfl)
theorem dX2_readLine_172 : decode cX2_readLine 172 = .ok (.goto 78, 3) := dk_167 0 78 (dk_at dksX2_readLine_7 10 rfl rfl)
theorem dX2_readLine_175 : decode cX2_readLine 175 = .ok (.aload_n 0, 1) := dk_42 (dk_at dksX2_readLine_7 13 rfl rfl)
theorem dX2_readLine_176 : decode cX2_readLine 176 = .ok (.ldc 127, 2) := dk_18 127 (dk_at dksX2_readLine_7 14 rfl rfl)
theorem dX2_readLine_178 : decode cX2_readLine 178 = .ok (.iconst 1, 1) := dk_4 (dk_at dksX2_readLine_7 16 rfl rfl)
theorem dX2_readLine_179 : decode cX2_readLine 179 = .ok (.invokevirtual 188, 3) := dk_182 0 188 (dk_at dksX2_readLine_7 17 rfl rfl)
theorem dX2_readLine_182 : decode cX2_readLine 182 = .ok (.ifCond .eq 10, 3) := dk_153 0 10 (dk_at dksX2_readLine_7 20 rfl rfl)
theorem dX2_readLine_185 : decode cX2_readLine 185 = .ok (.aload_n 0, 1) := dk_42 (dk_at dksX2_readLine_7 23 rfl rfl)
theorem dX2_readLine_186 : decode cX2_readLine 186 = .ok (.invokevirtual 207, 3) := dk_182 0 207 (dk_at dksX2_readLine_8 0 rfl rfl)
theorem dX2_readLine_189 : decode cX2_readLine 189 = .ok (.goto 61, 3) := dk_167 0 61 (dk_at dksX2_readLine_8 3 rfl rfl)
theorem dX2_readLine_192 : decode cX2_readLine 192 = .ok (.aload_n 0, 1) := dk_42 (dk_at dksX2_readLine_8 6 rfl rfl)
theorem dX2_readLine_193 : decode cX2_readLine 193 = .ok (.ldc 129, 2) := dk_18 129 (dk_at dksX2_readLine_8 7 rfl rfl)
theorem dX2_readLine_195 : decode cX2_readLine 195 = .ok (.aload_n 0, 1) := dk_42 (dk_at dksX2_readLine_8 9 rfl rfl)
theorem dX2_readLine_196 : decode cX2_readLine 196 = .ok (.getfield 23, 3) := dk_180 0 23 (dk_at dksX2_readLine_8 10 rfl rfl)
theorem dX2_readLine_199 : decode cX2_readLine 199 = .ok (.bipush 7, 2) := dk_16 7 (dk_at dksX2_readLine_8 13 rfl rfl)
theorem dX2_readLine_201 : decode cX2_readLine 201 = .ok (.iaload, 1) := dk_46 (dk_at dksX2_readLine_8 15 rfl rfl)
theorem dX2_readLine_202 : decode cX2_readLine 202 = .ok (.iconst 4, 1) := dk_7 (dk_at dksX2_readLine_8 16 rfl rfl)
theorem dX2_readLine_203 : decode cX2_readLine 203 = .ok (.if_icmp .ge 7, 3) := dk_162 0 7 (dk_at dksX2_readLine_8 17 rfl rfl)
theorem dX2_readLine_206 : decode cX2_readLine 206 = .ok (.iconst 1, 1) := dk_4 (dk_at dksX2_readLine_8 20 rfl rfl)
theorem dX2_readLine_207 : decode cX2_readLine 207 = .ok (.goto 4, 3) := dk_167 0 4 (dk_at dksX2_readLine_8 21 rfl rfl)
theorem dX2_readLine_210 : decode cX2_readLine 210 = .ok (.iconst 0, 1) := dk_3 (dk_at dksX2_readLine_9 0 rfl rfl)
theorem dX2_readLine_211 : decode cX2_readLine 211 = .ok (.invokevirtual 188, 3) := dk_182 0 188 (dk_at dksX2_readLine_9 1 rfl rfl)
theorem dX2_readLine_214 : decode cX2_readLine 214 = .ok (.ifCond .eq 10, 3) := dk_153 0 10 (dk_at dksX2_readLine_9 4 rfl rfl)
theorem dX2_readLine_217 : decode cX2_readLine 217 = .ok (.aload_n 0, 1) := dk_42 (dk_at dksX2_readLine_9 7 rfl rfl)
theorem dX2_readLine_218 : decode cX2_readLine 218 = .ok (.invokevirtual 210, 3) := dk_182 0 210 (dk_at dksX2_readLine_9 8 rfl rfl)
theorem dX2_readLine_221 : decode cX2_readLine 221 = .ok (.goto 29, 3) := dk_167 0 29 (dk_at dksX2_readLine_9 11 rfl rfl)
theorem dX2_readLine_224 : decode cX2_readLine 224 = .ok (.aload_n 0, 1) := dk_42 (dk_at dksX2_readLine_9 14 rfl rfl)
theorem dX2_readLine_225 : decode cX2_readLine 225 = .ok (.ldc 131, 2) := dk_18 131 (dk_at dksX2_readLine_9 15 rfl rfl)
theorem dX2_readLine_227 : decode cX2_readLine 227 = .ok (.iconst 1, 1) := dk_4 (dk_at dksX2_readLine_9 17 rfl rfl)
theorem dX2_readLine_228 : decode cX2_readLine 228 = .ok (.invokevirtual 188, 3) := dk_182 0 188 (dk_at dksX2_readLine_9 18 rfl rfl)
theorem dX2_readLine_231 : decode cX2_readLine 231 = .ok (.ifCond .eq 10, 3) := dk_153 0 10 (dk_at dksX2_readLine_9 21 rfl rfl)
theorem dX2_readLine_234 : decode cX2_readLine 234 = .ok (.aload_n 0, 1) := dk_42 (dk_at dksX2_readLine_10 0 rfl rfl)
theorem dX2_readLine_235 : decode cX2_readLine 235 = .ok (.invokevirtual 213, 3) := dk_182 0 213 (dk_at dksX2_readLine_10 1 rfl rfl)
theorem dX2_readLine_238 : decode cX2_readLine 238 = .ok (.goto 12, 3) := dk_167 0 12 (dk_at dksX2_readLine_10 4 rfl rfl)
theorem dX2_readLine_241 : decode cX2_readLine 241 = .ok (.aload_n 0, 1) := dk_42 (dk_at dksX2_readLine_10 7 rfl rfl)
theorem dX2_readLine_242 : decode cX2_readLine 242 = .ok (.iconst 1, 1) := dk_4 (dk_at dksX2_readLine_10 8 rfl rfl)
theorem dX2_readLine_243 : decode cX2_readLine 243 = .ok (.aload_n 0, 1) := dk_42 (dk_at dksX2_readLine_10 9 rfl rfl)
theorem dX2_readLine_244 : decode cX2_readLine 244 = .ok (.getfield 66, 3) := dk_180 0 66 (dk_at dksX2_readLine_10 10 rfl rfl)
theorem dX2_readLine_247 : decode cX2_readLine 247 = .ok (.invokevirtual 112, 3) := dk_182 0 112 (dk_at dksX2_readLine_10 13 rfl rfl)
theorem dX2_readLine_250 : decode cX2_readLine 250 = .ok (.return_, 1) := dk_177 (dk_at dksX2_readLine_10 16 rfl rfl)
abbrev cX2_isWord : ByteArray := prog_15_method_17_code
def yX2_isWord : MethodName := ⟨RX2, "isWord", "(Ljava/lang/String;)Z"⟩
def dkwX2_isWord_3 : List UInt8 := [167, 255, 221, 28, 172]
abbrev dktX2_isWord_3 : List UInt8 := dkwX2_isWord_3 ++ []
def dkwX2_isWord_2 : List UInt8 := [180, 0, 17, 29, 46, 43, 29, 182, 0, 98, 160, 0, 7, 4, 167, 0, 4, 3, 61, 132, 3, 1]
abbrev dktX2_isWord_2 : List UInt8 := dkwX2_isWord_2 ++ dktX2_isWord_3
def dkwX2_isWord_1 : List UInt8 := [159, 0, 5, 3, 172, 4, 61, 3, 62, 29, 42, 180, 0, 69, 162, 0, 33, 28, 153, 0, 21, 42]
abbrev dktX2_isWord_1 : List UInt8 := dkwX2_isWord_1 ++ dktX2_isWord_2
def dkwX2_isWord_0 : List UInt8 := [42, 180, 0, 85, 154, 0, 22, 42, 180, 0, 75, 5, 160, 0, 14, 42, 180, 0, 69, 43, 182, 0, 92]
abbrev dktX2_isWord_0 : List UInt8 := dkwX2_isWord_0 ++ dktX2_isWord_1
theorem dksX2_isWord_0 : cX2_isWord.data.toList.drop 0 = dktX2_isWord_0 := by decide +kernel
theorem dksX2_isWord_1 : cX2_isWord.data.toList.drop 23 = dktX2_isWord_1 := dk_seg dksX2_isWord_0 23 rfl rfl
theorem dksX2_isWord_2 : cX2_isWord.data.toList.drop 45 = dktX2_isWord_2 := dk_seg dksX2_isWord_1 22 rfl rfl
theorem dksX2_isWord_3 : cX2_isWord.data.toList.drop 67 = dktX2_isWord_3 := dk_seg dksX2_isWord_2 22 rfl rfl
theorem dX2_isWord_0 : decode cX2_isWord 0 = .ok (.aload_n 0, 1) := dk_42 (dk_at dksX2_isWord_0 0 rfl rfl)
theorem dX2_isWord_1 : decode cX2_isWord 1 = .ok (.getfield 85, 3) := dk_180 0 85 (dk_at dksX2_isWord_0 1 rfl rfl)
theorem dX2_isWord_4 : decode cX2_isWord 4 = .ok (.ifCond .ne 22, 3) := dk_154 0 22 (dk_at dksX2_isWord_0 4 rfl rfl)
theorem dX2_isWord_7 : decode cX2_isWord 7 = .ok (.aload_n 0, 1) := dk_42 (dk_at dksX2_isWord_0 7 rfl rfl)
theorem dX2_isWord_8 : decode cX2_isWord 8 = .ok (.getfield 75, 3) := dk_180 0 75 (dk_at dksX2_isWord_0 8 rfl rfl)
theorem dX2_isWord_11 : decode cX2_isWord 11 = .ok (.iconst 2, 1) := dk_5 (dk_at dksX2_isWord_0 11 rfl rfl)
theorem dX2_isWord_12 : decode cX2_isWord 12 = .ok (.if_icmp .ne 14, 3) := dk_160 0 14 (dk_at dksX2_isWord_0 12 rfl rfl)
theorem dX2_isWord_15 : decode cX2_isWord 15 = .ok (.aload_n 0, 1) := dk_42 (dk_at dksX2_isWord_0 15 rfl rfl)
theorem dX2_isWord_16 : decode cX2_isWord 16 = .ok (.getfield 69, 3) := dk_180 0 69 (dk_at dksX2_isWord_0 16 rfl rfl)
theorem dX2_isWord_19 : decode cX2_isWord 19 = .ok (.aload_n 1, 1) := dk_43 (dk_at dksX2_isWord_0 19 rfl rfl)
theorem dX2_isWord_20 : decode cX2_isWord 20 = .ok (.invokevirtual 92, 3) := dk_182 0 92 (dk_at dksX2_isWord_0 20 rfl rfl)
theorem dX2_isWord_23 : decode cX2_isWord 23 = .ok (.if_icmp .eq 5, 3) := dk_159 0 5 (dk_at dksX2_isWord_1 0 rfl rfl)
theorem dX2_isWord_26 : decode cX2_isWord 26 = .ok (.iconst 0, 1) := dk_3 (dk_at dksX2_isWord_1 3 rfl rfl)
theorem dX2_isWord_27 : decode cX2_isWord 27 = .ok (.ireturn, 1) := dk_172 (dk_at dksX2_isWord_1 4 rfl rfl)
theorem dX2_isWord_28 : decode cX2_isWord 28 = .ok (.iconst 1, 1) := dk_4 (dk_at dksX2_isWord_1 5 rfl rfl)
theorem dX2_isWord_29 : decode cX2_isWord 29 = .ok (.istore_n 2, 1) := dk_61 (dk_at dksX2_isWord_1 6 rfl rfl)
theorem dX2_isWord_30 : decode cX2_isWord 30 = .ok (.iconst 0, 1) := dk_3 (dk_at dksX2_isWord_1 7 rfl rfl)
theorem dX2_isWord_31 : decode cX2_isWord 31 = .ok (.istore_n 3, 1) := dk_62 (dk_at dksX2_isWord_1 8 rfl rfl)
theorem dX2_isWord_32 : decode cX2_isWord 32 = .ok (.iload_n 3, 1) := dk_29 (dk_at dksX2_isWord_1 9 rfl rfl)
theorem dX2_isWord_33 : decode cX2_isWord 33 = .ok (.aload_n 0, 1) := dk_42 (dk_at dksX2_isWord_1 10 rfl rfl)
theorem dX2_isWord_34 : decode cX2_isWord 34 = .ok (.getfield 69, 3) := dk_180 0 69 (dk_at dksX2_isWord_1 11 rfl rfl)
theorem dX2_isWord_37 : decode cX2_isWord 37 = .ok (.if_icmp .ge 33, 3) := dk_162 0 33 (dk_at dksX2_isWord_1 14 rfl rfl)
theorem dX2_isWord_40 : decode cX2_isWord 40 = .ok (.iload_n 2, 1) := dk_28 (dk_at dksX2_isWord_1 17 rfl rfl)
theorem dX2_isWord_41 : decode cX2_isWord 41 = .ok (.ifCond .eq 21, 3) := dk_153 0 21 (dk_at dksX2_isWord_1 18 rfl rfl)
theorem dX2_isWord_44 : decode cX2_isWord 44 = .ok (.aload_n 0, 1) := dk_42 (dk_at dksX2_isWord_1 21 rfl rfl)
theorem dX2_isWord_45 : decode cX2_isWord 45 = .ok (.getfield 17, 3) := dk_180 0 17 (dk_at dksX2_isWord_2 0 rfl rfl)
theorem dX2_isWord_48 : decode cX2_isWord 48 = .ok (.iload_n 3, 1) := dk_29 (dk_at dksX2_isWord_2 3 rfl rfl)
theorem dX2_isWord_49 : decode cX2_isWord 49 = .ok (.iaload, 1) := dk_46 (dk_at dksX2_isWord_2 4 rfl rfl)
theorem dX2_isWord_50 : decode cX2_isWord 50 = .ok (.aload_n 1, 1) := dk_43 (dk_at dksX2_isWord_2 5 rfl rfl)
theorem dX2_isWord_51 : decode cX2_isWord 51 = .ok (.iload_n 3, 1) := dk_29 (dk_at dksX2_isWord_2 6 rfl rfl)
theorem dX2_isWord_52 : decode cX2_isWord 52 = .ok (.invokevirtual 98, 3) := dk_182 0 98 (dk_at dksX2_isWord_2 7 rfl rfl)
theorem dX2_isWord_55 : decode cX2_isWord 55 = .ok (.if_icmp .ne 7, 3) := dk_160 0 7 (dk_at dksX2_isWord_2 10 rfl rfl)
theorem dX2_isWord_58 : decode cX2_isWord 58 = .ok (.iconst 1, 1) := dk_4 (dk_at dksX2_isWord_2 13 rfl rfl)
theorem dX2_isWord_59 : decode cX2_isWord 59 = .ok (.goto 4, 3) := dk_167 0 4 (dk_at dksX2_isWord_2 14 rfl rfl)
theorem dX2_isWord_62 : decode cX2_isWord 62 = .ok (.iconst 0, 1) := dk_3 (dk_at dksX2_isWord_2 17 rfl rfl)
theorem dX2_isWord_63 : decode cX2_isWord 63 = .ok (.istore_n 2, 1) := dk_61 (dk_at dksX2_isWord_2 18 rfl rfl)
theorem dX2_isWord_64 : decode cX2_isWord 64 = .ok (.iinc 3 1, 3) := dk_132 3 1 (dk_at dksX2_isWord_2 19 rfl rfl)
theorem dX2_isWord_67 : decode cX2_isWord 67 = .ok (.goto (-35), 3) := dk_167 255 221 (dk_at dksX2_isWord_3 0 rfl rfl)
theorem dX2_isWord_70 : decode cX2_isWord 70 = .ok (.iload_n 2, 1) := dk_28 (dk_at dksX2_isWord_3 3 rfl rfl)
theorem dX2_isWord_71 : decode cX2_isWord 71 = .ok (.ireturn, 1) := dk_172 (dk_at dksX2_isWord_3 4 rfl rfl)
abbrev cX2_townLine : ByteArray := prog_15_method_34_code
def yX2_townLine : MethodName := ⟨RX2, "townLine", "()V"⟩
def dkwX2_townLine_2 : List UInt8 := [180, 0, 85, 154, 0, 11, 42, 180, 0, 23, 16, 9, 4, 79, 177]
abbrev dktX2_townLine_2 : List UInt8 := dkwX2_townLine_2 ++ []
def dkwX2_townLine_1 : List UInt8 := [153, 0, 4, 177, 42, 182, 0, 106, 42, 180, 0, 23, 3, 42, 18, 216, 3, 16, 100, 182, 0, 218, 79, 42]
abbrev dktX2_townLine_1 : List UInt8 := dkwX2_townLine_1 ++ dktX2_townLine_2
def dkwX2_townLine_0 : List UInt8 := [42, 180, 0, 23, 16, 9, 46, 158, 0, 12, 42, 6, 42, 180, 0, 66, 182, 0, 112, 42, 180, 0, 85]
abbrev dktX2_townLine_0 : List UInt8 := dkwX2_townLine_0 ++ dktX2_townLine_1
theorem dksX2_townLine_0 : cX2_townLine.data.toList.drop 0 = dktX2_townLine_0 := by decide +kernel
theorem dksX2_townLine_1 : cX2_townLine.data.toList.drop 23 = dktX2_townLine_1 := dk_seg dksX2_townLine_0 23 rfl rfl
theorem dksX2_townLine_2 : cX2_townLine.data.toList.drop 47 = dktX2_townLine_2 := dk_seg dksX2_townLine_1 24 rfl rfl
theorem dX2_townLine_0 : decode cX2_townLine 0 = .ok (.aload_n 0, 1) := dk_42 (dk_at dksX2_townLine_0 0 rfl rfl)
theorem dX2_townLine_1 : decode cX2_townLine 1 = .ok (.getfield 23, 3) := dk_180 0 23 (dk_at dksX2_townLine_0 1 rfl rfl)
theorem dX2_townLine_4 : decode cX2_townLine 4 = .ok (.bipush 9, 2) := dk_16 9 (dk_at dksX2_townLine_0 4 rfl rfl)
theorem dX2_townLine_6 : decode cX2_townLine 6 = .ok (.iaload, 1) := dk_46 (dk_at dksX2_townLine_0 6 rfl rfl)
theorem dX2_townLine_7 : decode cX2_townLine 7 = .ok (.ifCond .le 12, 3) := dk_158 0 12 (dk_at dksX2_townLine_0 7 rfl rfl)
theorem dX2_townLine_10 : decode cX2_townLine 10 = .ok (.aload_n 0, 1) := dk_42 (dk_at dksX2_townLine_0 10 rfl rfl)
theorem dX2_townLine_11 : decode cX2_townLine 11 = .ok (.iconst 3, 1) := dk_6 (dk_at dksX2_townLine_0 11 rfl rfl)
theorem dX2_townLine_12 : decode cX2_townLine 12 = .ok (.aload_n 0, 1) := dk_42 (dk_at dksX2_townLine_0 12 rfl rfl)
theorem dX2_townLine_13 : decode cX2_townLine 13 = .ok (.getfield 66, 3) := dk_180 0 66 (dk_at dksX2_townLine_0 13 rfl rfl)
theorem dX2_townLine_16 : decode cX2_townLine 16 = .ok (.invokevirtual 112, 3) := dk_182 0 112 (dk_at dksX2_townLine_0 16 rfl rfl)
theorem dX2_townLine_19 : decode cX2_townLine 19 = .ok (.aload_n 0, 1) := dk_42 (dk_at dksX2_townLine_0 19 rfl rfl)
theorem dX2_townLine_20 : decode cX2_townLine 20 = .ok (.getfield 85, 3) := dk_180 0 85 (dk_at dksX2_townLine_0 20 rfl rfl)
theorem dX2_townLine_23 : decode cX2_townLine 23 = .ok (.ifCond .eq 4, 3) := dk_153 0 4 (dk_at dksX2_townLine_1 0 rfl rfl)
theorem dX2_townLine_26 : decode cX2_townLine 26 = .ok (.return_, 1) := dk_177 (dk_at dksX2_townLine_1 3 rfl rfl)
theorem dX2_townLine_27 : decode cX2_townLine 27 = .ok (.aload_n 0, 1) := dk_42 (dk_at dksX2_townLine_1 4 rfl rfl)
theorem dX2_townLine_28 : decode cX2_townLine 28 = .ok (.invokevirtual 106, 3) := dk_182 0 106 (dk_at dksX2_townLine_1 5 rfl rfl)
theorem dX2_townLine_31 : decode cX2_townLine 31 = .ok (.aload_n 0, 1) := dk_42 (dk_at dksX2_townLine_1 8 rfl rfl)
theorem dX2_townLine_32 : decode cX2_townLine 32 = .ok (.getfield 23, 3) := dk_180 0 23 (dk_at dksX2_townLine_1 9 rfl rfl)
theorem dX2_townLine_35 : decode cX2_townLine 35 = .ok (.iconst 0, 1) := dk_3 (dk_at dksX2_townLine_1 12 rfl rfl)
theorem dX2_townLine_36 : decode cX2_townLine 36 = .ok (.aload_n 0, 1) := dk_42 (dk_at dksX2_townLine_1 13 rfl rfl)
theorem dX2_townLine_37 : decode cX2_townLine 37 = .ok (.ldc 216, 2) := dk_18 216 (dk_at dksX2_townLine_1 14 rfl rfl)
theorem dX2_townLine_39 : decode cX2_townLine 39 = .ok (.iconst 0, 1) := dk_3 (dk_at dksX2_townLine_1 16 rfl rfl)
theorem dX2_townLine_40 : decode cX2_townLine 40 = .ok (.bipush 100, 2) := dk_16 100 (dk_at dksX2_townLine_1 17 rfl rfl)
theorem dX2_townLine_42 : decode cX2_townLine 42 = .ok (.invokevirtual 218, 3) := dk_182 0 218 (dk_at dksX2_townLine_1 19 rfl rfl)
theorem dX2_townLine_45 : decode cX2_townLine 45 = .ok (.iastore, 1) := dk_79 (dk_at dksX2_townLine_1 22 rfl rfl)
theorem dX2_townLine_46 : decode cX2_townLine 46 = .ok (.aload_n 0, 1) := dk_42 (dk_at dksX2_townLine_1 23 rfl rfl)
theorem dX2_townLine_47 : decode cX2_townLine 47 = .ok (.getfield 85, 3) := dk_180 0 85 (dk_at dksX2_townLine_2 0 rfl rfl)
theorem dX2_townLine_50 : decode cX2_townLine 50 = .ok (.ifCond .ne 11, 3) := dk_154 0 11 (dk_at dksX2_townLine_2 3 rfl rfl)
theorem dX2_townLine_53 : decode cX2_townLine 53 = .ok (.aload_n 0, 1) := dk_42 (dk_at dksX2_townLine_2 6 rfl rfl)
theorem dX2_townLine_54 : decode cX2_townLine 54 = .ok (.getfield 23, 3) := dk_180 0 23 (dk_at dksX2_townLine_2 7 rfl rfl)
theorem dX2_townLine_57 : decode cX2_townLine 57 = .ok (.bipush 9, 2) := dk_16 9 (dk_at dksX2_townLine_2 10 rfl rfl)
theorem dX2_townLine_59 : decode cX2_townLine 59 = .ok (.iconst 1, 1) := dk_4 (dk_at dksX2_townLine_2 12 rfl rfl)
theorem dX2_townLine_60 : decode cX2_townLine 60 = .ok (.iastore, 1) := dk_79 (dk_at dksX2_townLine_2 13 rfl rfl)
theorem dX2_townLine_61 : decode cX2_townLine 61 = .ok (.return_, 1) := dk_177 (dk_at dksX2_townLine_2 14 rfl rfl)
abbrev cX2_wrong : ByteArray := prog_15_method_16_code
def yX2_wrong : MethodName := ⟨RX2, "wrong", "(II)V"⟩
def dkwX2_wrong_0 : List UInt8 := [42, 180, 0, 85, 153, 0, 4, 177, 42, 4, 181, 0, 85, 42, 27, 181, 0, 89, 42, 28, 181, 0, 13, 177]
abbrev dktX2_wrong_0 : List UInt8 := dkwX2_wrong_0 ++ []
theorem dksX2_wrong_0 : cX2_wrong.data.toList.drop 0 = dktX2_wrong_0 := by decide +kernel
theorem dX2_wrong_0 : decode cX2_wrong 0 = .ok (.aload_n 0, 1) := dk_42 (dk_at dksX2_wrong_0 0 rfl rfl)
theorem dX2_wrong_1 : decode cX2_wrong 1 = .ok (.getfield 85, 3) := dk_180 0 85 (dk_at dksX2_wrong_0 1 rfl rfl)
theorem dX2_wrong_4 : decode cX2_wrong 4 = .ok (.ifCond .eq 4, 3) := dk_153 0 4 (dk_at dksX2_wrong_0 4 rfl rfl)
theorem dX2_wrong_7 : decode cX2_wrong 7 = .ok (.return_, 1) := dk_177 (dk_at dksX2_wrong_0 7 rfl rfl)
theorem dX2_wrong_8 : decode cX2_wrong 8 = .ok (.aload_n 0, 1) := dk_42 (dk_at dksX2_wrong_0 8 rfl rfl)
theorem dX2_wrong_9 : decode cX2_wrong 9 = .ok (.iconst 1, 1) := dk_4 (dk_at dksX2_wrong_0 9 rfl rfl)
theorem dX2_wrong_10 : decode cX2_wrong 10 = .ok (.putfield 85, 3) := dk_181 0 85 (dk_at dksX2_wrong_0 10 rfl rfl)
theorem dX2_wrong_13 : decode cX2_wrong 13 = .ok (.aload_n 0, 1) := dk_42 (dk_at dksX2_wrong_0 13 rfl rfl)
theorem dX2_wrong_14 : decode cX2_wrong 14 = .ok (.iload_n 1, 1) := dk_27 (dk_at dksX2_wrong_0 14 rfl rfl)
theorem dX2_wrong_15 : decode cX2_wrong 15 = .ok (.putfield 89, 3) := dk_181 0 89 (dk_at dksX2_wrong_0 15 rfl rfl)
theorem dX2_wrong_18 : decode cX2_wrong 18 = .ok (.aload_n 0, 1) := dk_42 (dk_at dksX2_wrong_0 18 rfl rfl)
theorem dX2_wrong_19 : decode cX2_wrong 19 = .ok (.iload_n 2, 1) := dk_28 (dk_at dksX2_wrong_0 19 rfl rfl)
theorem dX2_wrong_20 : decode cX2_wrong 20 = .ok (.putfield 13, 3) := dk_181 0 13 (dk_at dksX2_wrong_0 20 rfl rfl)
theorem dX2_wrong_23 : decode cX2_wrong 23 = .ok (.return_, 1) := dk_177 (dk_at dksX2_wrong_0 23 rfl rfl)
abbrev cX2_after : ByteArray := prog_15_method_30_code
def yX2_after : MethodName := ⟨RX2, "afte\x72", "(Ljava/lang/String;II)I"⟩
def dkwX2_after_0 : List UInt8 := [42, 43, 182, 0, 156, 42, 28, 29, 182, 0, 160, 172]
abbrev dktX2_after_0 : List UInt8 := dkwX2_after_0 ++ []
theorem dksX2_after_0 : cX2_after.data.toList.drop 0 = dktX2_after_0 := by decide +kernel
theorem dX2_after_0 : decode cX2_after 0 = .ok (.aload_n 0, 1) := dk_42 (dk_at dksX2_after_0 0 rfl rfl)
theorem dX2_after_1 : decode cX2_after 1 = .ok (.aload_n 1, 1) := dk_43 (dk_at dksX2_after_0 1 rfl rfl)
theorem dX2_after_2 : decode cX2_after 2 = .ok (.invokevirtual 156, 3) := dk_182 0 156 (dk_at dksX2_after_0 2 rfl rfl)
theorem dX2_after_5 : decode cX2_after 5 = .ok (.aload_n 0, 1) := dk_42 (dk_at dksX2_after_0 5 rfl rfl)
theorem dX2_after_6 : decode cX2_after 6 = .ok (.iload_n 2, 1) := dk_28 (dk_at dksX2_after_0 6 rfl rfl)
theorem dX2_after_7 : decode cX2_after 7 = .ok (.iload_n 3, 1) := dk_29 (dk_at dksX2_after_0 7 rfl rfl)
theorem dX2_after_8 : decode cX2_after 8 = .ok (.invokevirtual 160, 3) := dk_182 0 160 (dk_at dksX2_after_0 8 rfl rfl)
theorem dX2_after_11 : decode cX2_after 11 = .ok (.ireturn, 1) := dk_172 (dk_at dksX2_after_0 11 rfl rfl)
abbrev cX2_must : ByteArray := prog_15_method_19_code
def yX2_must : MethodName := ⟨RX2, "must", "(Ljava/lang/String;)V"⟩
def dkwX2_must_1 : List UInt8 := [177]
abbrev dktX2_must_1 : List UInt8 := dkwX2_must_1 ++ []
def dkwX2_must_0 : List UInt8 := [42, 180, 0, 85, 154, 0, 20, 42, 43, 182, 0, 109, 154, 0, 12, 42, 4, 42, 180, 0, 66, 182, 0, 112]
abbrev dktX2_must_0 : List UInt8 := dkwX2_must_0 ++ dktX2_must_1
theorem dksX2_must_0 : cX2_must.data.toList.drop 0 = dktX2_must_0 := by decide +kernel
theorem dksX2_must_1 : cX2_must.data.toList.drop 24 = dktX2_must_1 := dk_seg dksX2_must_0 24 rfl rfl
theorem dX2_must_0 : decode cX2_must 0 = .ok (.aload_n 0, 1) := dk_42 (dk_at dksX2_must_0 0 rfl rfl)
theorem dX2_must_1 : decode cX2_must 1 = .ok (.getfield 85, 3) := dk_180 0 85 (dk_at dksX2_must_0 1 rfl rfl)
theorem dX2_must_4 : decode cX2_must 4 = .ok (.ifCond .ne 20, 3) := dk_154 0 20 (dk_at dksX2_must_0 4 rfl rfl)
theorem dX2_must_7 : decode cX2_must 7 = .ok (.aload_n 0, 1) := dk_42 (dk_at dksX2_must_0 7 rfl rfl)
theorem dX2_must_8 : decode cX2_must 8 = .ok (.aload_n 1, 1) := dk_43 (dk_at dksX2_must_0 8 rfl rfl)
theorem dX2_must_9 : decode cX2_must 9 = .ok (.invokevirtual 109, 3) := dk_182 0 109 (dk_at dksX2_must_0 9 rfl rfl)
theorem dX2_must_12 : decode cX2_must 12 = .ok (.ifCond .ne 12, 3) := dk_154 0 12 (dk_at dksX2_must_0 12 rfl rfl)
theorem dX2_must_15 : decode cX2_must 15 = .ok (.aload_n 0, 1) := dk_42 (dk_at dksX2_must_0 15 rfl rfl)
theorem dX2_must_16 : decode cX2_must 16 = .ok (.iconst 1, 1) := dk_4 (dk_at dksX2_must_0 16 rfl rfl)
theorem dX2_must_17 : decode cX2_must 17 = .ok (.aload_n 0, 1) := dk_42 (dk_at dksX2_must_0 17 rfl rfl)
theorem dX2_must_18 : decode cX2_must 18 = .ok (.getfield 66, 3) := dk_180 0 66 (dk_at dksX2_must_0 18 rfl rfl)
theorem dX2_must_21 : decode cX2_must 21 = .ok (.invokevirtual 112, 3) := dk_182 0 112 (dk_at dksX2_must_0 21 rfl rfl)
theorem dX2_must_24 : decode cX2_must 24 = .ok (.return_, 1) := dk_177 (dk_at dksX2_must_1 0 rfl rfl)
abbrev cX2_takesWord : ByteArray := prog_15_method_18_code
def yX2_takesWord : MethodName := ⟨RX2, "takesWord", "(Ljava/lang/String;)Z"⟩
def dkwX2_takesWord_0 : List UInt8 := [42, 43, 182, 0, 102, 154, 0, 5, 3, 172, 42, 182, 0, 106, 4, 172]
abbrev dktX2_takesWord_0 : List UInt8 := dkwX2_takesWord_0 ++ []
theorem dksX2_takesWord_0 : cX2_takesWord.data.toList.drop 0 = dktX2_takesWord_0 := by decide +kernel
theorem dX2_takesWord_0 : decode cX2_takesWord 0 = .ok (.aload_n 0, 1) := dk_42 (dk_at dksX2_takesWord_0 0 rfl rfl)
theorem dX2_takesWord_1 : decode cX2_takesWord 1 = .ok (.aload_n 1, 1) := dk_43 (dk_at dksX2_takesWord_0 1 rfl rfl)
theorem dX2_takesWord_2 : decode cX2_takesWord 2 = .ok (.invokevirtual 102, 3) := dk_182 0 102 (dk_at dksX2_takesWord_0 2 rfl rfl)
theorem dX2_takesWord_5 : decode cX2_takesWord 5 = .ok (.ifCond .ne 5, 3) := dk_154 0 5 (dk_at dksX2_takesWord_0 5 rfl rfl)
theorem dX2_takesWord_8 : decode cX2_takesWord 8 = .ok (.iconst 0, 1) := dk_3 (dk_at dksX2_takesWord_0 8 rfl rfl)
theorem dX2_takesWord_9 : decode cX2_takesWord 9 = .ok (.ireturn, 1) := dk_172 (dk_at dksX2_takesWord_0 9 rfl rfl)
theorem dX2_takesWord_10 : decode cX2_takesWord 10 = .ok (.aload_n 0, 1) := dk_42 (dk_at dksX2_takesWord_0 10 rfl rfl)
theorem dX2_takesWord_11 : decode cX2_takesWord 11 = .ok (.invokevirtual 106, 3) := dk_182 0 106 (dk_at dksX2_takesWord_0 11 rfl rfl)
theorem dX2_takesWord_14 : decode cX2_takesWord 14 = .ok (.iconst 1, 1) := dk_4 (dk_at dksX2_takesWord_0 14 rfl rfl)
theorem dX2_takesWord_15 : decode cX2_takesWord 15 = .ok (.ireturn, 1) := dk_172 (dk_at dksX2_takesWord_0 15 rfl rfl)
abbrev cX2_number : ByteArray := prog_15_method_29_code
def yX2_number : MethodName := ⟨RX2, "numbe\x72", "(II)I"⟩
def dkwX2_number_0 : List UInt8 := [42, 27, 28, 182, 0, 153, 62, 42, 182, 0, 150, 29, 172]
abbrev dktX2_number_0 : List UInt8 := dkwX2_number_0 ++ []
theorem dksX2_number_0 : cX2_number.data.toList.drop 0 = dktX2_number_0 := by decide +kernel
theorem dX2_number_0 : decode cX2_number 0 = .ok (.aload_n 0, 1) := dk_42 (dk_at dksX2_number_0 0 rfl rfl)
theorem dX2_number_1 : decode cX2_number 1 = .ok (.iload_n 1, 1) := dk_27 (dk_at dksX2_number_0 1 rfl rfl)
theorem dX2_number_2 : decode cX2_number 2 = .ok (.iload_n 2, 1) := dk_28 (dk_at dksX2_number_0 2 rfl rfl)
theorem dX2_number_3 : decode cX2_number 3 = .ok (.invokevirtual 153, 3) := dk_182 0 153 (dk_at dksX2_number_0 3 rfl rfl)
theorem dX2_number_6 : decode cX2_number 6 = .ok (.istore_n 3, 1) := dk_62 (dk_at dksX2_number_0 6 rfl rfl)
theorem dX2_number_7 : decode cX2_number 7 = .ok (.aload_n 0, 1) := dk_42 (dk_at dksX2_number_0 7 rfl rfl)
theorem dX2_number_8 : decode cX2_number 8 = .ok (.invokevirtual 150, 3) := dk_182 0 150 (dk_at dksX2_number_0 8 rfl rfl)
theorem dX2_number_11 : decode cX2_number 11 = .ok (.iload_n 3, 1) := dk_29 (dk_at dksX2_number_0 11 rfl rfl)
theorem dX2_number_12 : decode cX2_number 12 = .ok (.ireturn, 1) := dk_172 (dk_at dksX2_number_0 12 rfl rfl)
abbrev cX2_numberHere : ByteArray := prog_15_method_28_code
def yX2_numberHere : MethodName := ⟨RX2, "numberHere", "(II)I"⟩
def dkwX2_numberHere_2 : List UInt8 := [182, 0, 112, 42, 180, 0, 85, 153, 0, 7, 27, 167, 0, 7, 42, 180, 0, 72, 172]
abbrev dktX2_numberHere_2 : List UInt8 := dkwX2_numberHere_2 ++ []
def dkwX2_numberHere_1 : List UInt8 := [182, 0, 112, 167, 0, 24, 42, 180, 0, 72, 27, 28, 184, 0, 139, 154, 0, 12, 42, 7, 42, 180, 0, 66]
abbrev dktX2_numberHere_1 : List UInt8 := dkwX2_numberHere_1 ++ dktX2_numberHere_2
def dkwX2_numberHere_0 : List UInt8 := [42, 180, 0, 85, 153, 0, 5, 27, 172, 42, 180, 0, 75, 6, 159, 0, 15, 42, 4, 42, 180, 0, 66]
abbrev dktX2_numberHere_0 : List UInt8 := dkwX2_numberHere_0 ++ dktX2_numberHere_1
theorem dksX2_numberHere_0 : cX2_numberHere.data.toList.drop 0 = dktX2_numberHere_0 := by decide +kernel
theorem dksX2_numberHere_1 : cX2_numberHere.data.toList.drop 23 = dktX2_numberHere_1 := dk_seg dksX2_numberHere_0 23 rfl rfl
theorem dksX2_numberHere_2 : cX2_numberHere.data.toList.drop 47 = dktX2_numberHere_2 := dk_seg dksX2_numberHere_1 24 rfl rfl
theorem dX2_numberHere_0 : decode cX2_numberHere 0 = .ok (.aload_n 0, 1) := dk_42 (dk_at dksX2_numberHere_0 0 rfl rfl)
theorem dX2_numberHere_1 : decode cX2_numberHere 1 = .ok (.getfield 85, 3) := dk_180 0 85 (dk_at dksX2_numberHere_0 1 rfl rfl)
theorem dX2_numberHere_4 : decode cX2_numberHere 4 = .ok (.ifCond .eq 5, 3) := dk_153 0 5 (dk_at dksX2_numberHere_0 4 rfl rfl)
theorem dX2_numberHere_7 : decode cX2_numberHere 7 = .ok (.iload_n 1, 1) := dk_27 (dk_at dksX2_numberHere_0 7 rfl rfl)
theorem dX2_numberHere_8 : decode cX2_numberHere 8 = .ok (.ireturn, 1) := dk_172 (dk_at dksX2_numberHere_0 8 rfl rfl)
theorem dX2_numberHere_9 : decode cX2_numberHere 9 = .ok (.aload_n 0, 1) := dk_42 (dk_at dksX2_numberHere_0 9 rfl rfl)
theorem dX2_numberHere_10 : decode cX2_numberHere 10 = .ok (.getfield 75, 3) := dk_180 0 75 (dk_at dksX2_numberHere_0 10 rfl rfl)
theorem dX2_numberHere_13 : decode cX2_numberHere 13 = .ok (.iconst 3, 1) := dk_6 (dk_at dksX2_numberHere_0 13 rfl rfl)
theorem dX2_numberHere_14 : decode cX2_numberHere 14 = .ok (.if_icmp .eq 15, 3) := dk_159 0 15 (dk_at dksX2_numberHere_0 14 rfl rfl)
theorem dX2_numberHere_17 : decode cX2_numberHere 17 = .ok (.aload_n 0, 1) := dk_42 (dk_at dksX2_numberHere_0 17 rfl rfl)
theorem dX2_numberHere_18 : decode cX2_numberHere 18 = .ok (.iconst 1, 1) := dk_4 (dk_at dksX2_numberHere_0 18 rfl rfl)
theorem dX2_numberHere_19 : decode cX2_numberHere 19 = .ok (.aload_n 0, 1) := dk_42 (dk_at dksX2_numberHere_0 19 rfl rfl)
theorem dX2_numberHere_20 : decode cX2_numberHere 20 = .ok (.getfield 66, 3) := dk_180 0 66 (dk_at dksX2_numberHere_0 20 rfl rfl)
theorem dX2_numberHere_23 : decode cX2_numberHere 23 = .ok (.invokevirtual 112, 3) := dk_182 0 112 (dk_at dksX2_numberHere_1 0 rfl rfl)
theorem dX2_numberHere_26 : decode cX2_numberHere 26 = .ok (.goto 24, 3) := dk_167 0 24 (dk_at dksX2_numberHere_1 3 rfl rfl)
theorem dX2_numberHere_29 : decode cX2_numberHere 29 = .ok (.aload_n 0, 1) := dk_42 (dk_at dksX2_numberHere_1 6 rfl rfl)
theorem dX2_numberHere_30 : decode cX2_numberHere 30 = .ok (.getfield 72, 3) := dk_180 0 72 (dk_at dksX2_numberHere_1 7 rfl rfl)
theorem dX2_numberHere_33 : decode cX2_numberHere 33 = .ok (.iload_n 1, 1) := dk_27 (dk_at dksX2_numberHere_1 10 rfl rfl)
theorem dX2_numberHere_34 : decode cX2_numberHere 34 = .ok (.iload_n 2, 1) := dk_28 (dk_at dksX2_numberHere_1 11 rfl rfl)
theorem dX2_numberHere_35 : decode cX2_numberHere 35 = .ok (.invokestatic 139, 3) := dk_184 0 139 (dk_at dksX2_numberHere_1 12 rfl rfl)
theorem dX2_numberHere_38 : decode cX2_numberHere 38 = .ok (.ifCond .ne 12, 3) := dk_154 0 12 (dk_at dksX2_numberHere_1 15 rfl rfl)
theorem dX2_numberHere_41 : decode cX2_numberHere 41 = .ok (.aload_n 0, 1) := dk_42 (dk_at dksX2_numberHere_1 18 rfl rfl)
theorem dX2_numberHere_42 : decode cX2_numberHere 42 = .ok (.iconst 4, 1) := dk_7 (dk_at dksX2_numberHere_1 19 rfl rfl)
theorem dX2_numberHere_43 : decode cX2_numberHere 43 = .ok (.aload_n 0, 1) := dk_42 (dk_at dksX2_numberHere_1 20 rfl rfl)
theorem dX2_numberHere_44 : decode cX2_numberHere 44 = .ok (.getfield 66, 3) := dk_180 0 66 (dk_at dksX2_numberHere_1 21 rfl rfl)
theorem dX2_numberHere_47 : decode cX2_numberHere 47 = .ok (.invokevirtual 112, 3) := dk_182 0 112 (dk_at dksX2_numberHere_2 0 rfl rfl)
theorem dX2_numberHere_50 : decode cX2_numberHere 50 = .ok (.aload_n 0, 1) := dk_42 (dk_at dksX2_numberHere_2 3 rfl rfl)
theorem dX2_numberHere_51 : decode cX2_numberHere 51 = .ok (.getfield 85, 3) := dk_180 0 85 (dk_at dksX2_numberHere_2 4 rfl rfl)
theorem dX2_numberHere_54 : decode cX2_numberHere 54 = .ok (.ifCond .eq 7, 3) := dk_153 0 7 (dk_at dksX2_numberHere_2 7 rfl rfl)
theorem dX2_numberHere_57 : decode cX2_numberHere 57 = .ok (.iload_n 1, 1) := dk_27 (dk_at dksX2_numberHere_2 10 rfl rfl)
theorem dX2_numberHere_58 : decode cX2_numberHere 58 = .ok (.goto 7, 3) := dk_167 0 7 (dk_at dksX2_numberHere_2 11 rfl rfl)
theorem dX2_numberHere_61 : decode cX2_numberHere 61 = .ok (.aload_n 0, 1) := dk_42 (dk_at dksX2_numberHere_2 14 rfl rfl)
theorem dX2_numberHere_62 : decode cX2_numberHere 62 = .ok (.getfield 72, 3) := dk_180 0 72 (dk_at dksX2_numberHere_2 15 rfl rfl)
theorem dX2_numberHere_65 : decode cX2_numberHere 65 = .ok (.ireturn, 1) := dk_172 (dk_at dksX2_numberHere_2 18 rfl rfl)
abbrev cX2_pass : ByteArray := prog_15_method_26_code
def yX2_pass : MethodName := ⟨RX2, "pass", "()V"⟩
def dkwX2_pass_0 : List UInt8 := [42, 180, 0, 85, 154, 0, 7, 42, 182, 0, 106, 177]
abbrev dktX2_pass_0 : List UInt8 := dkwX2_pass_0 ++ []
theorem dksX2_pass_0 : cX2_pass.data.toList.drop 0 = dktX2_pass_0 := by decide +kernel
theorem dX2_pass_0 : decode cX2_pass 0 = .ok (.aload_n 0, 1) := dk_42 (dk_at dksX2_pass_0 0 rfl rfl)
theorem dX2_pass_1 : decode cX2_pass 1 = .ok (.getfield 85, 3) := dk_180 0 85 (dk_at dksX2_pass_0 1 rfl rfl)
theorem dX2_pass_4 : decode cX2_pass 4 = .ok (.ifCond .ne 7, 3) := dk_154 0 7 (dk_at dksX2_pass_0 4 rfl rfl)
theorem dX2_pass_7 : decode cX2_pass 7 = .ok (.aload_n 0, 1) := dk_42 (dk_at dksX2_pass_0 7 rfl rfl)
theorem dX2_pass_8 : decode cX2_pass 8 = .ok (.invokevirtual 106, 3) := dk_182 0 106 (dk_at dksX2_pass_0 8 rfl rfl)
theorem dX2_pass_11 : decode cX2_pass 11 = .ok (.return_, 1) := dk_177 (dk_at dksX2_pass_0 11 rfl rfl)
abbrev cX2_begins : ByteArray := prog_15_method_32_code
def yX2_begins : MethodName := ⟨RX2, "begins", "(Ljava/lang/String;Z)Z"⟩
def dkwX2_begins_2 : List UInt8 := [172]
abbrev dktX2_begins_2 : List UInt8 := dkwX2_begins_2 ++ []
def dkwX2_begins_1 : List UInt8 := [180, 0, 23, 16, 9, 46, 154, 0, 13, 42, 16, 6, 42, 180, 0, 66, 182, 0, 112, 42, 182, 0, 150, 4]
abbrev dktX2_begins_1 : List UInt8 := dkwX2_begins_1 ++ dktX2_begins_2
def dkwX2_begins_0 : List UInt8 := [42, 43, 182, 0, 102, 154, 0, 5, 3, 172, 28, 154, 0, 12, 42, 8, 42, 180, 0, 66, 182, 0, 112, 42]
abbrev dktX2_begins_0 : List UInt8 := dkwX2_begins_0 ++ dktX2_begins_1
theorem dksX2_begins_0 : cX2_begins.data.toList.drop 0 = dktX2_begins_0 := by decide +kernel
theorem dksX2_begins_1 : cX2_begins.data.toList.drop 24 = dktX2_begins_1 := dk_seg dksX2_begins_0 24 rfl rfl
theorem dksX2_begins_2 : cX2_begins.data.toList.drop 48 = dktX2_begins_2 := dk_seg dksX2_begins_1 24 rfl rfl
theorem dX2_begins_0 : decode cX2_begins 0 = .ok (.aload_n 0, 1) := dk_42 (dk_at dksX2_begins_0 0 rfl rfl)
theorem dX2_begins_1 : decode cX2_begins 1 = .ok (.aload_n 1, 1) := dk_43 (dk_at dksX2_begins_0 1 rfl rfl)
theorem dX2_begins_2 : decode cX2_begins 2 = .ok (.invokevirtual 102, 3) := dk_182 0 102 (dk_at dksX2_begins_0 2 rfl rfl)
theorem dX2_begins_5 : decode cX2_begins 5 = .ok (.ifCond .ne 5, 3) := dk_154 0 5 (dk_at dksX2_begins_0 5 rfl rfl)
theorem dX2_begins_8 : decode cX2_begins 8 = .ok (.iconst 0, 1) := dk_3 (dk_at dksX2_begins_0 8 rfl rfl)
theorem dX2_begins_9 : decode cX2_begins 9 = .ok (.ireturn, 1) := dk_172 (dk_at dksX2_begins_0 9 rfl rfl)
theorem dX2_begins_10 : decode cX2_begins 10 = .ok (.iload_n 2, 1) := dk_28 (dk_at dksX2_begins_0 10 rfl rfl)
theorem dX2_begins_11 : decode cX2_begins 11 = .ok (.ifCond .ne 12, 3) := dk_154 0 12 (dk_at dksX2_begins_0 11 rfl rfl)
theorem dX2_begins_14 : decode cX2_begins 14 = .ok (.aload_n 0, 1) := dk_42 (dk_at dksX2_begins_0 14 rfl rfl)
theorem dX2_begins_15 : decode cX2_begins 15 = .ok (.iconst 5, 1) := dk_8 (dk_at dksX2_begins_0 15 rfl rfl)
theorem dX2_begins_16 : decode cX2_begins 16 = .ok (.aload_n 0, 1) := dk_42 (dk_at dksX2_begins_0 16 rfl rfl)
theorem dX2_begins_17 : decode cX2_begins 17 = .ok (.getfield 66, 3) := dk_180 0 66 (dk_at dksX2_begins_0 17 rfl rfl)
theorem dX2_begins_20 : decode cX2_begins 20 = .ok (.invokevirtual 112, 3) := dk_182 0 112 (dk_at dksX2_begins_0 20 rfl rfl)
theorem dX2_begins_23 : decode cX2_begins 23 = .ok (.aload_n 0, 1) := dk_42 (dk_at dksX2_begins_0 23 rfl rfl)
theorem dX2_begins_24 : decode cX2_begins 24 = .ok (.getfield 23, 3) := dk_180 0 23 (dk_at dksX2_begins_1 0 rfl rfl)
theorem dX2_begins_27 : decode cX2_begins 27 = .ok (.bipush 9, 2) := dk_16 9 (dk_at dksX2_begins_1 3 rfl rfl)
theorem dX2_begins_29 : decode cX2_begins 29 = .ok (.iaload, 1) := dk_46 (dk_at dksX2_begins_1 5 rfl rfl)
theorem dX2_begins_30 : decode cX2_begins 30 = .ok (.ifCond .ne 13, 3) := dk_154 0 13 (dk_at dksX2_begins_1 6 rfl rfl)
theorem dX2_begins_33 : decode cX2_begins 33 = .ok (.aload_n 0, 1) := dk_42 (dk_at dksX2_begins_1 9 rfl rfl)
theorem dX2_begins_34 : decode cX2_begins 34 = .ok (.bipush 6, 2) := dk_16 6 (dk_at dksX2_begins_1 10 rfl rfl)
theorem dX2_begins_36 : decode cX2_begins 36 = .ok (.aload_n 0, 1) := dk_42 (dk_at dksX2_begins_1 12 rfl rfl)
theorem dX2_begins_37 : decode cX2_begins 37 = .ok (.getfield 66, 3) := dk_180 0 66 (dk_at dksX2_begins_1 13 rfl rfl)
theorem dX2_begins_40 : decode cX2_begins 40 = .ok (.invokevirtual 112, 3) := dk_182 0 112 (dk_at dksX2_begins_1 16 rfl rfl)
theorem dX2_begins_43 : decode cX2_begins 43 = .ok (.aload_n 0, 1) := dk_42 (dk_at dksX2_begins_1 19 rfl rfl)
theorem dX2_begins_44 : decode cX2_begins 44 = .ok (.invokevirtual 150, 3) := dk_182 0 150 (dk_at dksX2_begins_1 20 rfl rfl)
theorem dX2_begins_47 : decode cX2_begins 47 = .ok (.iconst 1, 1) := dk_4 (dk_at dksX2_begins_1 23 rfl rfl)
theorem dX2_begins_48 : decode cX2_begins 48 = .ok (.ireturn, 1) := dk_172 (dk_at dksX2_begins_2 0 rfl rfl)
abbrev cX2_placeLine : ByteArray := prog_15_method_35_code
def yX2_placeLine : MethodName := ⟨RX2, "placeLine", "()V"⟩
def dkwX2_placeLine_1 : List UInt8 := [154, 0, 13, 42, 180, 0, 23, 4, 92, 46, 4, 96, 79, 177]
abbrev dktX2_placeLine_1 : List UInt8 := dkwX2_placeLine_1 ++ []
def dkwX2_placeLine_0 : List UInt8 := [42, 180, 0, 85, 153, 0, 4, 177, 42, 42, 180, 0, 23, 4, 46, 182, 0, 222, 42, 180, 0, 85]
abbrev dktX2_placeLine_0 : List UInt8 := dkwX2_placeLine_0 ++ dktX2_placeLine_1
theorem dksX2_placeLine_0 : cX2_placeLine.data.toList.drop 0 = dktX2_placeLine_0 := by decide +kernel
theorem dksX2_placeLine_1 : cX2_placeLine.data.toList.drop 22 = dktX2_placeLine_1 := dk_seg dksX2_placeLine_0 22 rfl rfl
theorem dX2_placeLine_0 : decode cX2_placeLine 0 = .ok (.aload_n 0, 1) := dk_42 (dk_at dksX2_placeLine_0 0 rfl rfl)
theorem dX2_placeLine_1 : decode cX2_placeLine 1 = .ok (.getfield 85, 3) := dk_180 0 85 (dk_at dksX2_placeLine_0 1 rfl rfl)
theorem dX2_placeLine_4 : decode cX2_placeLine 4 = .ok (.ifCond .eq 4, 3) := dk_153 0 4 (dk_at dksX2_placeLine_0 4 rfl rfl)
theorem dX2_placeLine_7 : decode cX2_placeLine 7 = .ok (.return_, 1) := dk_177 (dk_at dksX2_placeLine_0 7 rfl rfl)
theorem dX2_placeLine_8 : decode cX2_placeLine 8 = .ok (.aload_n 0, 1) := dk_42 (dk_at dksX2_placeLine_0 8 rfl rfl)
theorem dX2_placeLine_9 : decode cX2_placeLine 9 = .ok (.aload_n 0, 1) := dk_42 (dk_at dksX2_placeLine_0 9 rfl rfl)
theorem dX2_placeLine_10 : decode cX2_placeLine 10 = .ok (.getfield 23, 3) := dk_180 0 23 (dk_at dksX2_placeLine_0 10 rfl rfl)
theorem dX2_placeLine_13 : decode cX2_placeLine 13 = .ok (.iconst 1, 1) := dk_4 (dk_at dksX2_placeLine_0 13 rfl rfl)
theorem dX2_placeLine_14 : decode cX2_placeLine 14 = .ok (.iaload, 1) := dk_46 (dk_at dksX2_placeLine_0 14 rfl rfl)
theorem dX2_placeLine_15 : decode cX2_placeLine 15 = .ok (.invokevirtual 222, 3) := dk_182 0 222 (dk_at dksX2_placeLine_0 15 rfl rfl)
theorem dX2_placeLine_18 : decode cX2_placeLine 18 = .ok (.aload_n 0, 1) := dk_42 (dk_at dksX2_placeLine_0 18 rfl rfl)
theorem dX2_placeLine_19 : decode cX2_placeLine 19 = .ok (.getfield 85, 3) := dk_180 0 85 (dk_at dksX2_placeLine_0 19 rfl rfl)
theorem dX2_placeLine_22 : decode cX2_placeLine 22 = .ok (.ifCond .ne 13, 3) := dk_154 0 13 (dk_at dksX2_placeLine_1 0 rfl rfl)
theorem dX2_placeLine_25 : decode cX2_placeLine 25 = .ok (.aload_n 0, 1) := dk_42 (dk_at dksX2_placeLine_1 3 rfl rfl)
theorem dX2_placeLine_26 : decode cX2_placeLine 26 = .ok (.getfield 23, 3) := dk_180 0 23 (dk_at dksX2_placeLine_1 4 rfl rfl)
theorem dX2_placeLine_29 : decode cX2_placeLine 29 = .ok (.iconst 1, 1) := dk_4 (dk_at dksX2_placeLine_1 7 rfl rfl)
theorem dX2_placeLine_30 : decode cX2_placeLine 30 = .ok (.dup2, 1) := dk_92 (dk_at dksX2_placeLine_1 8 rfl rfl)
theorem dX2_placeLine_31 : decode cX2_placeLine 31 = .ok (.iaload, 1) := dk_46 (dk_at dksX2_placeLine_1 9 rfl rfl)
theorem dX2_placeLine_32 : decode cX2_placeLine 32 = .ok (.iconst 1, 1) := dk_4 (dk_at dksX2_placeLine_1 10 rfl rfl)
theorem dX2_placeLine_33 : decode cX2_placeLine 33 = .ok (.iadd, 1) := dk_96 (dk_at dksX2_placeLine_1 11 rfl rfl)
theorem dX2_placeLine_34 : decode cX2_placeLine 34 = .ok (.iastore, 1) := dk_79 (dk_at dksX2_placeLine_1 12 rfl rfl)
theorem dX2_placeLine_35 : decode cX2_placeLine 35 = .ok (.return_, 1) := dk_177 (dk_at dksX2_placeLine_1 13 rfl rfl)
abbrev cX2_newName : ByteArray := prog_15_method_22_code
def yX2_newName : MethodName := ⟨RX2, "newName", "(I)V"⟩
def dkwX2_newName_4 : List UInt8 := [182, 0, 106, 177]
abbrev dktX2_newName_4 : List UInt8 := dkwX2_newName_4 ++ []
def dkwX2_newName_3 : List UInt8 := [46, 79, 132, 2, 1, 167, 255, 225, 42, 180, 0, 23, 16, 106, 27, 96, 42, 180, 0, 69, 79, 42]
abbrev dktX2_newName_3 : List UInt8 := dkwX2_newName_3 ++ dktX2_newName_4
def dkwX2_newName_2 : List UInt8 := [180, 0, 69, 162, 0, 29, 42, 180, 0, 23, 16, 121, 16, 8, 27, 104, 96, 28, 96, 42, 180, 0, 17, 28]
abbrev dktX2_newName_2 : List UInt8 := dkwX2_newName_2 ++ dktX2_newName_3
def dkwX2_newName_1 : List UInt8 := [155, 0, 12, 42, 6, 42, 180, 0, 66, 182, 0, 112, 42, 180, 0, 85, 153, 0, 4, 177, 3, 61, 28, 42]
abbrev dktX2_newName_1 : List UInt8 := dkwX2_newName_1 ++ dktX2_newName_2
def dkwX2_newName_0 : List UInt8 := [42, 180, 0, 85, 153, 0, 4, 177, 42, 182, 0, 133, 42, 180, 0, 85, 154, 0, 19, 42, 182, 0, 136]
abbrev dktX2_newName_0 : List UInt8 := dkwX2_newName_0 ++ dktX2_newName_1
theorem dksX2_newName_0 : cX2_newName.data.toList.drop 0 = dktX2_newName_0 := by decide +kernel
theorem dksX2_newName_1 : cX2_newName.data.toList.drop 23 = dktX2_newName_1 := dk_seg dksX2_newName_0 23 rfl rfl
theorem dksX2_newName_2 : cX2_newName.data.toList.drop 47 = dktX2_newName_2 := dk_seg dksX2_newName_1 24 rfl rfl
theorem dksX2_newName_3 : cX2_newName.data.toList.drop 71 = dktX2_newName_3 := dk_seg dksX2_newName_2 24 rfl rfl
theorem dksX2_newName_4 : cX2_newName.data.toList.drop 93 = dktX2_newName_4 := dk_seg dksX2_newName_3 22 rfl rfl
theorem dX2_newName_0 : decode cX2_newName 0 = .ok (.aload_n 0, 1) := dk_42 (dk_at dksX2_newName_0 0 rfl rfl)
theorem dX2_newName_1 : decode cX2_newName 1 = .ok (.getfield 85, 3) := dk_180 0 85 (dk_at dksX2_newName_0 1 rfl rfl)
theorem dX2_newName_4 : decode cX2_newName 4 = .ok (.ifCond .eq 4, 3) := dk_153 0 4 (dk_at dksX2_newName_0 4 rfl rfl)
theorem dX2_newName_7 : decode cX2_newName 7 = .ok (.return_, 1) := dk_177 (dk_at dksX2_newName_0 7 rfl rfl)
theorem dX2_newName_8 : decode cX2_newName 8 = .ok (.aload_n 0, 1) := dk_42 (dk_at dksX2_newName_0 8 rfl rfl)
theorem dX2_newName_9 : decode cX2_newName 9 = .ok (.invokevirtual 133, 3) := dk_182 0 133 (dk_at dksX2_newName_0 9 rfl rfl)
theorem dX2_newName_12 : decode cX2_newName 12 = .ok (.aload_n 0, 1) := dk_42 (dk_at dksX2_newName_0 12 rfl rfl)
theorem dX2_newName_13 : decode cX2_newName 13 = .ok (.getfield 85, 3) := dk_180 0 85 (dk_at dksX2_newName_0 13 rfl rfl)
theorem dX2_newName_16 : decode cX2_newName 16 = .ok (.ifCond .ne 19, 3) := dk_154 0 19 (dk_at dksX2_newName_0 16 rfl rfl)
theorem dX2_newName_19 : decode cX2_newName 19 = .ok (.aload_n 0, 1) := dk_42 (dk_at dksX2_newName_0 19 rfl rfl)
theorem dX2_newName_20 : decode cX2_newName 20 = .ok (.invokevirtual 136, 3) := dk_182 0 136 (dk_at dksX2_newName_0 20 rfl rfl)
theorem dX2_newName_23 : decode cX2_newName 23 = .ok (.ifCond .lt 12, 3) := dk_155 0 12 (dk_at dksX2_newName_1 0 rfl rfl)
theorem dX2_newName_26 : decode cX2_newName 26 = .ok (.aload_n 0, 1) := dk_42 (dk_at dksX2_newName_1 3 rfl rfl)
theorem dX2_newName_27 : decode cX2_newName 27 = .ok (.iconst 3, 1) := dk_6 (dk_at dksX2_newName_1 4 rfl rfl)
theorem dX2_newName_28 : decode cX2_newName 28 = .ok (.aload_n 0, 1) := dk_42 (dk_at dksX2_newName_1 5 rfl rfl)
theorem dX2_newName_29 : decode cX2_newName 29 = .ok (.getfield 66, 3) := dk_180 0 66 (dk_at dksX2_newName_1 6 rfl rfl)
theorem dX2_newName_32 : decode cX2_newName 32 = .ok (.invokevirtual 112, 3) := dk_182 0 112 (dk_at dksX2_newName_1 9 rfl rfl)
theorem dX2_newName_35 : decode cX2_newName 35 = .ok (.aload_n 0, 1) := dk_42 (dk_at dksX2_newName_1 12 rfl rfl)
theorem dX2_newName_36 : decode cX2_newName 36 = .ok (.getfield 85, 3) := dk_180 0 85 (dk_at dksX2_newName_1 13 rfl rfl)
theorem dX2_newName_39 : decode cX2_newName 39 = .ok (.ifCond .eq 4, 3) := dk_153 0 4 (dk_at dksX2_newName_1 16 rfl rfl)
theorem dX2_newName_42 : decode cX2_newName 42 = .ok (.return_, 1) := dk_177 (dk_at dksX2_newName_1 19 rfl rfl)
theorem dX2_newName_43 : decode cX2_newName 43 = .ok (.iconst 0, 1) := dk_3 (dk_at dksX2_newName_1 20 rfl rfl)
theorem dX2_newName_44 : decode cX2_newName 44 = .ok (.istore_n 2, 1) := dk_61 (dk_at dksX2_newName_1 21 rfl rfl)
theorem dX2_newName_45 : decode cX2_newName 45 = .ok (.iload_n 2, 1) := dk_28 (dk_at dksX2_newName_1 22 rfl rfl)
theorem dX2_newName_46 : decode cX2_newName 46 = .ok (.aload_n 0, 1) := dk_42 (dk_at dksX2_newName_1 23 rfl rfl)
theorem dX2_newName_47 : decode cX2_newName 47 = .ok (.getfield 69, 3) := dk_180 0 69 (dk_at dksX2_newName_2 0 rfl rfl)
theorem dX2_newName_50 : decode cX2_newName 50 = .ok (.if_icmp .ge 29, 3) := dk_162 0 29 (dk_at dksX2_newName_2 3 rfl rfl)
theorem dX2_newName_53 : decode cX2_newName 53 = .ok (.aload_n 0, 1) := dk_42 (dk_at dksX2_newName_2 6 rfl rfl)
theorem dX2_newName_54 : decode cX2_newName 54 = .ok (.getfield 23, 3) := dk_180 0 23 (dk_at dksX2_newName_2 7 rfl rfl)
theorem dX2_newName_57 : decode cX2_newName 57 = .ok (.bipush 121, 2) := dk_16 121 (dk_at dksX2_newName_2 10 rfl rfl)
theorem dX2_newName_59 : decode cX2_newName 59 = .ok (.bipush 8, 2) := dk_16 8 (dk_at dksX2_newName_2 12 rfl rfl)
theorem dX2_newName_61 : decode cX2_newName 61 = .ok (.iload_n 1, 1) := dk_27 (dk_at dksX2_newName_2 14 rfl rfl)
theorem dX2_newName_62 : decode cX2_newName 62 = .ok (.imul, 1) := dk_104 (dk_at dksX2_newName_2 15 rfl rfl)
theorem dX2_newName_63 : decode cX2_newName 63 = .ok (.iadd, 1) := dk_96 (dk_at dksX2_newName_2 16 rfl rfl)
theorem dX2_newName_64 : decode cX2_newName 64 = .ok (.iload_n 2, 1) := dk_28 (dk_at dksX2_newName_2 17 rfl rfl)
theorem dX2_newName_65 : decode cX2_newName 65 = .ok (.iadd, 1) := dk_96 (dk_at dksX2_newName_2 18 rfl rfl)
theorem dX2_newName_66 : decode cX2_newName 66 = .ok (.aload_n 0, 1) := dk_42 (dk_at dksX2_newName_2 19 rfl rfl)
theorem dX2_newName_67 : decode cX2_newName 67 = .ok (.getfield 17, 3) := dk_180 0 17 (dk_at dksX2_newName_2 20 rfl rfl)
theorem dX2_newName_70 : decode cX2_newName 70 = .ok (.iload_n 2, 1) := dk_28 (dk_at dksX2_newName_2 23 rfl rfl)
theorem dX2_newName_71 : decode cX2_newName 71 = .ok (.iaload, 1) := dk_46 (dk_at dksX2_newName_3 0 rfl rfl)
theorem dX2_newName_72 : decode cX2_newName 72 = .ok (.iastore, 1) := dk_79 (dk_at dksX2_newName_3 1 rfl rfl)
theorem dX2_newName_73 : decode cX2_newName 73 = .ok (.iinc 2 1, 3) := dk_132 2 1 (dk_at dksX2_newName_3 2 rfl rfl)
theorem dX2_newName_76 : decode cX2_newName 76 = .ok (.goto (-31), 3) := dk_167 255 225 (dk_at dksX2_newName_3 5 rfl rfl)
theorem dX2_newName_79 : decode cX2_newName 79 = .ok (.aload_n 0, 1) := dk_42 (dk_at dksX2_newName_3 8 rfl rfl)
theorem dX2_newName_80 : decode cX2_newName 80 = .ok (.getfield 23, 3) := dk_180 0 23 (dk_at dksX2_newName_3 9 rfl rfl)
theorem dX2_newName_83 : decode cX2_newName 83 = .ok (.bipush 106, 2) := dk_16 106 (dk_at dksX2_newName_3 12 rfl rfl)
theorem dX2_newName_85 : decode cX2_newName 85 = .ok (.iload_n 1, 1) := dk_27 (dk_at dksX2_newName_3 14 rfl rfl)
theorem dX2_newName_86 : decode cX2_newName 86 = .ok (.iadd, 1) := dk_96 (dk_at dksX2_newName_3 15 rfl rfl)
theorem dX2_newName_87 : decode cX2_newName 87 = .ok (.aload_n 0, 1) := dk_42 (dk_at dksX2_newName_3 16 rfl rfl)
theorem dX2_newName_88 : decode cX2_newName 88 = .ok (.getfield 69, 3) := dk_180 0 69 (dk_at dksX2_newName_3 17 rfl rfl)
theorem dX2_newName_91 : decode cX2_newName 91 = .ok (.iastore, 1) := dk_79 (dk_at dksX2_newName_3 20 rfl rfl)
theorem dX2_newName_92 : decode cX2_newName 92 = .ok (.aload_n 0, 1) := dk_42 (dk_at dksX2_newName_3 21 rfl rfl)
theorem dX2_newName_93 : decode cX2_newName 93 = .ok (.invokevirtual 106, 3) := dk_182 0 106 (dk_at dksX2_newName_4 0 rfl rfl)
theorem dX2_newName_96 : decode cX2_newName 96 = .ok (.return_, 1) := dk_177 (dk_at dksX2_newName_4 3 rfl rfl)
abbrev cX2_mustName : ByteArray := prog_15_method_20_code
def yX2_mustName : MethodName := ⟨RX2, "mustName", "()V"⟩
def dkwX2_mustName_4 : List UInt8 := [182, 0, 112, 177]
abbrev dktX2_mustName_4 : List UInt8 := dkwX2_mustName_4 ++ []
def dkwX2_mustName_3 : List UInt8 := [42, 18, 129, 182, 0, 102, 154, 0, 12, 42, 18, 131, 182, 0, 102, 153, 0, 12, 42, 4, 42, 180, 0, 66]
abbrev dktX2_mustName_3 : List UInt8 := dkwX2_mustName_3 ++ dktX2_mustName_4
def dkwX2_mustName_2 : List UInt8 := [182, 0, 102, 154, 0, 39, 42, 18, 125, 182, 0, 102, 154, 0, 30, 42, 18, 127, 182, 0, 102, 154, 0, 21]
abbrev dktX2_mustName_2 : List UInt8 := dkwX2_mustName_2 ++ dktX2_mustName_3
def dkwX2_mustName_1 : List UInt8 := [154, 0, 66, 42, 18, 119, 182, 0, 102, 154, 0, 57, 42, 18, 121, 182, 0, 102, 154, 0, 48, 42, 18, 123]
abbrev dktX2_mustName_1 : List UInt8 := dkwX2_mustName_1 ++ dktX2_mustName_2
def dkwX2_mustName_0 : List UInt8 := [42, 180, 0, 75, 5, 160, 0, 84, 42, 18, 116, 182, 0, 102, 154, 0, 75, 42, 18, 118, 182, 0, 102]
abbrev dktX2_mustName_0 : List UInt8 := dkwX2_mustName_0 ++ dktX2_mustName_1
theorem dksX2_mustName_0 : cX2_mustName.data.toList.drop 0 = dktX2_mustName_0 := by decide +kernel
theorem dksX2_mustName_1 : cX2_mustName.data.toList.drop 23 = dktX2_mustName_1 := dk_seg dksX2_mustName_0 23 rfl rfl
theorem dksX2_mustName_2 : cX2_mustName.data.toList.drop 47 = dktX2_mustName_2 := dk_seg dksX2_mustName_1 24 rfl rfl
theorem dksX2_mustName_3 : cX2_mustName.data.toList.drop 71 = dktX2_mustName_3 := dk_seg dksX2_mustName_2 24 rfl rfl
theorem dksX2_mustName_4 : cX2_mustName.data.toList.drop 95 = dktX2_mustName_4 := dk_seg dksX2_mustName_3 24 rfl rfl
theorem dX2_mustName_0 : decode cX2_mustName 0 = .ok (.aload_n 0, 1) := dk_42 (dk_at dksX2_mustName_0 0 rfl rfl)
theorem dX2_mustName_1 : decode cX2_mustName 1 = .ok (.getfield 75, 3) := dk_180 0 75 (dk_at dksX2_mustName_0 1 rfl rfl)
theorem dX2_mustName_4 : decode cX2_mustName 4 = .ok (.iconst 2, 1) := dk_5 (dk_at dksX2_mustName_0 4 rfl rfl)
theorem dX2_mustName_5 : decode cX2_mustName 5 = .ok (.if_icmp .ne 84, 3) := dk_160 0 84 (dk_at dksX2_mustName_0 5 rfl rfl)
theorem dX2_mustName_8 : decode cX2_mustName 8 = .ok (.aload_n 0, 1) := dk_42 (dk_at dksX2_mustName_0 8 rfl rfl)
theorem dX2_mustName_9 : decode cX2_mustName 9 = .ok (.ldc 116, 2) := dk_18 116 (dk_at dksX2_mustName_0 9 rfl rfl)
theorem dX2_mustName_11 : decode cX2_mustName 11 = .ok (.invokevirtual 102, 3) := dk_182 0 102 (dk_at dksX2_mustName_0 11 rfl rfl)
theorem dX2_mustName_14 : decode cX2_mustName 14 = .ok (.ifCond .ne 75, 3) := dk_154 0 75 (dk_at dksX2_mustName_0 14 rfl rfl)
theorem dX2_mustName_17 : decode cX2_mustName 17 = .ok (.aload_n 0, 1) := dk_42 (dk_at dksX2_mustName_0 17 rfl rfl)
theorem dX2_mustName_18 : decode cX2_mustName 18 = .ok (.ldc 118, 2) := dk_18 118 (dk_at dksX2_mustName_0 18 rfl rfl)
theorem dX2_mustName_20 : decode cX2_mustName 20 = .ok (.invokevirtual 102, 3) := dk_182 0 102 (dk_at dksX2_mustName_0 20 rfl rfl)
theorem dX2_mustName_23 : decode cX2_mustName 23 = .ok (.ifCond .ne 66, 3) := dk_154 0 66 (dk_at dksX2_mustName_1 0 rfl rfl)
theorem dX2_mustName_26 : decode cX2_mustName 26 = .ok (.aload_n 0, 1) := dk_42 (dk_at dksX2_mustName_1 3 rfl rfl)
theorem dX2_mustName_27 : decode cX2_mustName 27 = .ok (.ldc 119, 2) := dk_18 119 (dk_at dksX2_mustName_1 4 rfl rfl)
theorem dX2_mustName_29 : decode cX2_mustName 29 = .ok (.invokevirtual 102, 3) := dk_182 0 102 (dk_at dksX2_mustName_1 6 rfl rfl)
theorem dX2_mustName_32 : decode cX2_mustName 32 = .ok (.ifCond .ne 57, 3) := dk_154 0 57 (dk_at dksX2_mustName_1 9 rfl rfl)
theorem dX2_mustName_35 : decode cX2_mustName 35 = .ok (.aload_n 0, 1) := dk_42 (dk_at dksX2_mustName_1 12 rfl rfl)
theorem dX2_mustName_36 : decode cX2_mustName 36 = .ok (.ldc 121, 2) := dk_18 121 (dk_at dksX2_mustName_1 13 rfl rfl)
theorem dX2_mustName_38 : decode cX2_mustName 38 = .ok (.invokevirtual 102, 3) := dk_182 0 102 (dk_at dksX2_mustName_1 15 rfl rfl)
theorem dX2_mustName_41 : decode cX2_mustName 41 = .ok (.ifCond .ne 48, 3) := dk_154 0 48 (dk_at dksX2_mustName_1 18 rfl rfl)
theorem dX2_mustName_44 : decode cX2_mustName 44 = .ok (.aload_n 0, 1) := dk_42 (dk_at dksX2_mustName_1 21 rfl rfl)
theorem dX2_mustName_45 : decode cX2_mustName 45 = .ok (.ldc 123, 2) := dk_18 123 (dk_at dksX2_mustName_1 22 rfl rfl)
theorem dX2_mustName_47 : decode cX2_mustName 47 = .ok (.invokevirtual 102, 3) := dk_182 0 102 (dk_at dksX2_mustName_2 0 rfl rfl)
theorem dX2_mustName_50 : decode cX2_mustName 50 = .ok (.ifCond .ne 39, 3) := dk_154 0 39 (dk_at dksX2_mustName_2 3 rfl rfl)
theorem dX2_mustName_53 : decode cX2_mustName 53 = .ok (.aload_n 0, 1) := dk_42 (dk_at dksX2_mustName_2 6 rfl rfl)
theorem dX2_mustName_54 : decode cX2_mustName 54 = .ok (.ldc 125, 2) := dk_18 125 (dk_at dksX2_mustName_2 7 rfl rfl)
theorem dX2_mustName_56 : decode cX2_mustName 56 = .ok (.invokevirtual 102, 3) := dk_182 0 102 (dk_at dksX2_mustName_2 9 rfl rfl)
theorem dX2_mustName_59 : decode cX2_mustName 59 = .ok (.ifCond .ne 30, 3) := dk_154 0 30 (dk_at dksX2_mustName_2 12 rfl rfl)
theorem dX2_mustName_62 : decode cX2_mustName 62 = .ok (.aload_n 0, 1) := dk_42 (dk_at dksX2_mustName_2 15 rfl rfl)
theorem dX2_mustName_63 : decode cX2_mustName 63 = .ok (.ldc 127, 2) := dk_18 127 (dk_at dksX2_mustName_2 16 rfl rfl)
theorem dX2_mustName_65 : decode cX2_mustName 65 = .ok (.invokevirtual 102, 3) := dk_182 0 102 (dk_at dksX2_mustName_2 18 rfl rfl)
theorem dX2_mustName_68 : decode cX2_mustName 68 = .ok (.ifCond .ne 21, 3) := dk_154 0 21 (dk_at dksX2_mustName_2 21 rfl rfl)
theorem dX2_mustName_71 : decode cX2_mustName 71 = .ok (.aload_n 0, 1) := dk_42 (dk_at dksX2_mustName_3 0 rfl rfl)
theorem dX2_mustName_72 : decode cX2_mustName 72 = .ok (.ldc 129, 2) := dk_18 129 (dk_at dksX2_mustName_3 1 rfl rfl)
theorem dX2_mustName_74 : decode cX2_mustName 74 = .ok (.invokevirtual 102, 3) := dk_182 0 102 (dk_at dksX2_mustName_3 3 rfl rfl)
theorem dX2_mustName_77 : decode cX2_mustName 77 = .ok (.ifCond .ne 12, 3) := dk_154 0 12 (dk_at dksX2_mustName_3 6 rfl rfl)
theorem dX2_mustName_80 : decode cX2_mustName 80 = .ok (.aload_n 0, 1) := dk_42 (dk_at dksX2_mustName_3 9 rfl rfl)
theorem dX2_mustName_81 : decode cX2_mustName 81 = .ok (.ldc 131, 2) := dk_18 131 (dk_at dksX2_mustName_3 10 rfl rfl)
theorem dX2_mustName_83 : decode cX2_mustName 83 = .ok (.invokevirtual 102, 3) := dk_182 0 102 (dk_at dksX2_mustName_3 12 rfl rfl)
theorem dX2_mustName_86 : decode cX2_mustName 86 = .ok (.ifCond .eq 12, 3) := dk_153 0 12 (dk_at dksX2_mustName_3 15 rfl rfl)
theorem dX2_mustName_89 : decode cX2_mustName 89 = .ok (.aload_n 0, 1) := dk_42 (dk_at dksX2_mustName_3 18 rfl rfl)
theorem dX2_mustName_90 : decode cX2_mustName 90 = .ok (.iconst 1, 1) := dk_4 (dk_at dksX2_mustName_3 19 rfl rfl)
theorem dX2_mustName_91 : decode cX2_mustName 91 = .ok (.aload_n 0, 1) := dk_42 (dk_at dksX2_mustName_3 20 rfl rfl)
theorem dX2_mustName_92 : decode cX2_mustName 92 = .ok (.getfield 66, 3) := dk_180 0 66 (dk_at dksX2_mustName_3 21 rfl rfl)
theorem dX2_mustName_95 : decode cX2_mustName 95 = .ok (.invokevirtual 112, 3) := dk_182 0 112 (dk_at dksX2_mustName_4 0 rfl rfl)
theorem dX2_mustName_98 : decode cX2_mustName 98 = .ok (.return_, 1) := dk_177 (dk_at dksX2_mustName_4 3 rfl rfl)
abbrev cX2_find : ByteArray := prog_15_method_21_code
def yX2_find : MethodName := ⟨RX2, "find", "()I"⟩
def dkwX2_find_4 : List UInt8 := [153, 0, 5, 27, 172, 132, 1, 1, 167, 255, 158, 2, 172]
abbrev dktX2_find_4 : List UInt8 := dkwX2_find_4 ++ []
def dkwX2_find_3 : List UInt8 := [42, 180, 0, 17, 29, 46, 160, 0, 7, 4, 167, 0, 4, 3, 61, 132, 3, 1, 167, 255, 212, 28]
abbrev dktX2_find_3 : List UInt8 := dkwX2_find_3 ++ dktX2_find_4
def dkwX2_find_2 : List UInt8 := [180, 0, 69, 162, 0, 42, 28, 153, 0, 38, 42, 180, 0, 23, 16, 121, 16, 8, 27, 104, 96, 29, 96, 46]
abbrev dktX2_find_2 : List UInt8 := dkwX2_find_2 ++ dktX2_find_3
def dkwX2_find_1 : List UInt8 := [16, 106, 27, 96, 46, 42, 180, 0, 69, 160, 0, 7, 4, 167, 0, 4, 3, 61, 3, 62, 29, 42]
abbrev dktX2_find_1 : List UInt8 := dkwX2_find_1 ++ dktX2_find_2
def dkwX2_find_0 : List UInt8 := [3, 60, 27, 16, 15, 162, 0, 98, 42, 180, 0, 23, 16, 106, 27, 96, 46, 158, 0, 23, 42, 180, 0, 23]
abbrev dktX2_find_0 : List UInt8 := dkwX2_find_0 ++ dktX2_find_1
theorem dksX2_find_0 : cX2_find.data.toList.drop 0 = dktX2_find_0 := by decide +kernel
theorem dksX2_find_1 : cX2_find.data.toList.drop 24 = dktX2_find_1 := dk_seg dksX2_find_0 24 rfl rfl
theorem dksX2_find_2 : cX2_find.data.toList.drop 46 = dktX2_find_2 := dk_seg dksX2_find_1 22 rfl rfl
theorem dksX2_find_3 : cX2_find.data.toList.drop 70 = dktX2_find_3 := dk_seg dksX2_find_2 24 rfl rfl
theorem dksX2_find_4 : cX2_find.data.toList.drop 92 = dktX2_find_4 := dk_seg dksX2_find_3 22 rfl rfl
theorem dX2_find_0 : decode cX2_find 0 = .ok (.iconst 0, 1) := dk_3 (dk_at dksX2_find_0 0 rfl rfl)
theorem dX2_find_1 : decode cX2_find 1 = .ok (.istore_n 1, 1) := dk_60 (dk_at dksX2_find_0 1 rfl rfl)
theorem dX2_find_2 : decode cX2_find 2 = .ok (.iload_n 1, 1) := dk_27 (dk_at dksX2_find_0 2 rfl rfl)
theorem dX2_find_3 : decode cX2_find 3 = .ok (.bipush 15, 2) := dk_16 15 (dk_at dksX2_find_0 3 rfl rfl)
theorem dX2_find_5 : decode cX2_find 5 = .ok (.if_icmp .ge 98, 3) := dk_162 0 98 (dk_at dksX2_find_0 5 rfl rfl)
theorem dX2_find_8 : decode cX2_find 8 = .ok (.aload_n 0, 1) := dk_42 (dk_at dksX2_find_0 8 rfl rfl)
theorem dX2_find_9 : decode cX2_find 9 = .ok (.getfield 23, 3) := dk_180 0 23 (dk_at dksX2_find_0 9 rfl rfl)
theorem dX2_find_12 : decode cX2_find 12 = .ok (.bipush 106, 2) := dk_16 106 (dk_at dksX2_find_0 12 rfl rfl)
theorem dX2_find_14 : decode cX2_find 14 = .ok (.iload_n 1, 1) := dk_27 (dk_at dksX2_find_0 14 rfl rfl)
theorem dX2_find_15 : decode cX2_find 15 = .ok (.iadd, 1) := dk_96 (dk_at dksX2_find_0 15 rfl rfl)
theorem dX2_find_16 : decode cX2_find 16 = .ok (.iaload, 1) := dk_46 (dk_at dksX2_find_0 16 rfl rfl)
theorem dX2_find_17 : decode cX2_find 17 = .ok (.ifCond .le 23, 3) := dk_158 0 23 (dk_at dksX2_find_0 17 rfl rfl)
theorem dX2_find_20 : decode cX2_find 20 = .ok (.aload_n 0, 1) := dk_42 (dk_at dksX2_find_0 20 rfl rfl)
theorem dX2_find_21 : decode cX2_find 21 = .ok (.getfield 23, 3) := dk_180 0 23 (dk_at dksX2_find_0 21 rfl rfl)
theorem dX2_find_24 : decode cX2_find 24 = .ok (.bipush 106, 2) := dk_16 106 (dk_at dksX2_find_1 0 rfl rfl)
theorem dX2_find_26 : decode cX2_find 26 = .ok (.iload_n 1, 1) := dk_27 (dk_at dksX2_find_1 2 rfl rfl)
theorem dX2_find_27 : decode cX2_find 27 = .ok (.iadd, 1) := dk_96 (dk_at dksX2_find_1 3 rfl rfl)
theorem dX2_find_28 : decode cX2_find 28 = .ok (.iaload, 1) := dk_46 (dk_at dksX2_find_1 4 rfl rfl)
theorem dX2_find_29 : decode cX2_find 29 = .ok (.aload_n 0, 1) := dk_42 (dk_at dksX2_find_1 5 rfl rfl)
theorem dX2_find_30 : decode cX2_find 30 = .ok (.getfield 69, 3) := dk_180 0 69 (dk_at dksX2_find_1 6 rfl rfl)
theorem dX2_find_33 : decode cX2_find 33 = .ok (.if_icmp .ne 7, 3) := dk_160 0 7 (dk_at dksX2_find_1 9 rfl rfl)
theorem dX2_find_36 : decode cX2_find 36 = .ok (.iconst 1, 1) := dk_4 (dk_at dksX2_find_1 12 rfl rfl)
theorem dX2_find_37 : decode cX2_find 37 = .ok (.goto 4, 3) := dk_167 0 4 (dk_at dksX2_find_1 13 rfl rfl)
theorem dX2_find_40 : decode cX2_find 40 = .ok (.iconst 0, 1) := dk_3 (dk_at dksX2_find_1 16 rfl rfl)
theorem dX2_find_41 : decode cX2_find 41 = .ok (.istore_n 2, 1) := dk_61 (dk_at dksX2_find_1 17 rfl rfl)
theorem dX2_find_42 : decode cX2_find 42 = .ok (.iconst 0, 1) := dk_3 (dk_at dksX2_find_1 18 rfl rfl)
theorem dX2_find_43 : decode cX2_find 43 = .ok (.istore_n 3, 1) := dk_62 (dk_at dksX2_find_1 19 rfl rfl)
theorem dX2_find_44 : decode cX2_find 44 = .ok (.iload_n 3, 1) := dk_29 (dk_at dksX2_find_1 20 rfl rfl)
theorem dX2_find_45 : decode cX2_find 45 = .ok (.aload_n 0, 1) := dk_42 (dk_at dksX2_find_1 21 rfl rfl)
theorem dX2_find_46 : decode cX2_find 46 = .ok (.getfield 69, 3) := dk_180 0 69 (dk_at dksX2_find_2 0 rfl rfl)
theorem dX2_find_49 : decode cX2_find 49 = .ok (.if_icmp .ge 42, 3) := dk_162 0 42 (dk_at dksX2_find_2 3 rfl rfl)
theorem dX2_find_52 : decode cX2_find 52 = .ok (.iload_n 2, 1) := dk_28 (dk_at dksX2_find_2 6 rfl rfl)
theorem dX2_find_53 : decode cX2_find 53 = .ok (.ifCond .eq 38, 3) := dk_153 0 38 (dk_at dksX2_find_2 7 rfl rfl)
theorem dX2_find_56 : decode cX2_find 56 = .ok (.aload_n 0, 1) := dk_42 (dk_at dksX2_find_2 10 rfl rfl)
theorem dX2_find_57 : decode cX2_find 57 = .ok (.getfield 23, 3) := dk_180 0 23 (dk_at dksX2_find_2 11 rfl rfl)
theorem dX2_find_60 : decode cX2_find 60 = .ok (.bipush 121, 2) := dk_16 121 (dk_at dksX2_find_2 14 rfl rfl)
theorem dX2_find_62 : decode cX2_find 62 = .ok (.bipush 8, 2) := dk_16 8 (dk_at dksX2_find_2 16 rfl rfl)
theorem dX2_find_64 : decode cX2_find 64 = .ok (.iload_n 1, 1) := dk_27 (dk_at dksX2_find_2 18 rfl rfl)
theorem dX2_find_65 : decode cX2_find 65 = .ok (.imul, 1) := dk_104 (dk_at dksX2_find_2 19 rfl rfl)
theorem dX2_find_66 : decode cX2_find 66 = .ok (.iadd, 1) := dk_96 (dk_at dksX2_find_2 20 rfl rfl)
theorem dX2_find_67 : decode cX2_find 67 = .ok (.iload_n 3, 1) := dk_29 (dk_at dksX2_find_2 21 rfl rfl)
theorem dX2_find_68 : decode cX2_find 68 = .ok (.iadd, 1) := dk_96 (dk_at dksX2_find_2 22 rfl rfl)
theorem dX2_find_69 : decode cX2_find 69 = .ok (.iaload, 1) := dk_46 (dk_at dksX2_find_2 23 rfl rfl)
theorem dX2_find_70 : decode cX2_find 70 = .ok (.aload_n 0, 1) := dk_42 (dk_at dksX2_find_3 0 rfl rfl)
theorem dX2_find_71 : decode cX2_find 71 = .ok (.getfield 17, 3) := dk_180 0 17 (dk_at dksX2_find_3 1 rfl rfl)
theorem dX2_find_74 : decode cX2_find 74 = .ok (.iload_n 3, 1) := dk_29 (dk_at dksX2_find_3 4 rfl rfl)
theorem dX2_find_75 : decode cX2_find 75 = .ok (.iaload, 1) := dk_46 (dk_at dksX2_find_3 5 rfl rfl)
theorem dX2_find_76 : decode cX2_find 76 = .ok (.if_icmp .ne 7, 3) := dk_160 0 7 (dk_at dksX2_find_3 6 rfl rfl)
theorem dX2_find_79 : decode cX2_find 79 = .ok (.iconst 1, 1) := dk_4 (dk_at dksX2_find_3 9 rfl rfl)
theorem dX2_find_80 : decode cX2_find 80 = .ok (.goto 4, 3) := dk_167 0 4 (dk_at dksX2_find_3 10 rfl rfl)
theorem dX2_find_83 : decode cX2_find 83 = .ok (.iconst 0, 1) := dk_3 (dk_at dksX2_find_3 13 rfl rfl)
theorem dX2_find_84 : decode cX2_find 84 = .ok (.istore_n 2, 1) := dk_61 (dk_at dksX2_find_3 14 rfl rfl)
theorem dX2_find_85 : decode cX2_find 85 = .ok (.iinc 3 1, 3) := dk_132 3 1 (dk_at dksX2_find_3 15 rfl rfl)
theorem dX2_find_88 : decode cX2_find 88 = .ok (.goto (-44), 3) := dk_167 255 212 (dk_at dksX2_find_3 18 rfl rfl)
theorem dX2_find_91 : decode cX2_find 91 = .ok (.iload_n 2, 1) := dk_28 (dk_at dksX2_find_3 21 rfl rfl)
theorem dX2_find_92 : decode cX2_find 92 = .ok (.ifCond .eq 5, 3) := dk_153 0 5 (dk_at dksX2_find_4 0 rfl rfl)
theorem dX2_find_95 : decode cX2_find 95 = .ok (.iload_n 1, 1) := dk_27 (dk_at dksX2_find_4 3 rfl rfl)
theorem dX2_find_96 : decode cX2_find 96 = .ok (.ireturn, 1) := dk_172 (dk_at dksX2_find_4 4 rfl rfl)
theorem dX2_find_97 : decode cX2_find 97 = .ok (.iinc 1 1, 3) := dk_132 1 1 (dk_at dksX2_find_4 5 rfl rfl)
theorem dX2_find_100 : decode cX2_find 100 = .ok (.goto (-98), 3) := dk_167 255 158 (dk_at dksX2_find_4 8 rfl rfl)
theorem dX2_find_103 : decode cX2_find 103 = .ok (.iconst (-1), 1) := dk_2 (dk_at dksX2_find_4 11 rfl rfl)
theorem dX2_find_104 : decode cX2_find 104 = .ok (.ireturn, 1) := dk_172 (dk_at dksX2_find_4 12 rfl rfl)
abbrev cX2_seesLine : ByteArray := prog_15_method_36_code
def yX2_seesLine : MethodName := ⟨RX2, "seesLine", "()V"⟩
def dkwX2_seesLine_7 : List UInt8 := [79, 177]
abbrev dktX2_seesLine_7 : List UInt8 := dkwX2_seesLine_7 ++ []
def dkwX2_seesLine_6 : List UInt8 := [180, 0, 23, 27, 28, 79, 42, 180, 0, 23, 27, 4, 96, 29, 79, 42, 180, 0, 23, 5, 92, 46, 4, 96]
abbrev dktX2_seesLine_6 : List UInt8 := dkwX2_seesLine_6 ++ dktX2_seesLine_7
def dkwX2_seesLine_5 : List UInt8 := [42, 6, 42, 180, 0, 66, 182, 0, 112, 42, 182, 0, 150, 42, 180, 0, 85, 153, 0, 4, 177, 42]
abbrev dktX2_seesLine_5 : List UInt8 := dkwX2_seesLine_5 ++ dktX2_seesLine_6
def dkwX2_seesLine_4 : List UInt8 := [167, 0, 4, 3, 54, 4, 132, 5, 1, 167, 255, 196, 42, 180, 0, 85, 154, 0, 17, 21, 4, 153, 0, 12]
abbrev dktX2_seesLine_4 : List UInt8 := dkwX2_seesLine_4 ++ dktX2_seesLine_5
def dkwX2_seesLine_3 : List UInt8 := [46, 28, 160, 0, 25, 42, 180, 0, 23, 16, 10, 5, 21, 5, 104, 96, 4, 96, 46, 29, 160, 0, 7, 4]
abbrev dktX2_seesLine_3 : List UInt8 := dkwX2_seesLine_3 ++ dktX2_seesLine_4
def dkwX2_seesLine_2 : List UInt8 := [180, 0, 23, 5, 46, 162, 0, 55, 21, 4, 154, 0, 37, 42, 180, 0, 23, 16, 10, 5, 21, 5, 104, 96]
abbrev dktX2_seesLine_2 : List UInt8 := dkwX2_seesLine_2 ++ dktX2_seesLine_3
def dkwX2_seesLine_1 : List UInt8 := [61, 42, 182, 0, 147, 62, 28, 29, 160, 0, 7, 4, 167, 0, 4, 3, 54, 4, 3, 54, 5, 21, 5, 42]
abbrev dktX2_seesLine_1 : List UInt8 := dkwX2_seesLine_1 ++ dktX2_seesLine_2
def dkwX2_seesLine_0 : List UInt8 := [42, 180, 0, 85, 153, 0, 4, 177, 16, 10, 5, 42, 180, 0, 23, 5, 46, 104, 96, 60, 42, 182, 0, 226]
abbrev dktX2_seesLine_0 : List UInt8 := dkwX2_seesLine_0 ++ dktX2_seesLine_1
theorem dksX2_seesLine_0 : cX2_seesLine.data.toList.drop 0 = dktX2_seesLine_0 := by decide +kernel
theorem dksX2_seesLine_1 : cX2_seesLine.data.toList.drop 24 = dktX2_seesLine_1 := dk_seg dksX2_seesLine_0 24 rfl rfl
theorem dksX2_seesLine_2 : cX2_seesLine.data.toList.drop 48 = dktX2_seesLine_2 := dk_seg dksX2_seesLine_1 24 rfl rfl
theorem dksX2_seesLine_3 : cX2_seesLine.data.toList.drop 72 = dktX2_seesLine_3 := dk_seg dksX2_seesLine_2 24 rfl rfl
theorem dksX2_seesLine_4 : cX2_seesLine.data.toList.drop 96 = dktX2_seesLine_4 := dk_seg dksX2_seesLine_3 24 rfl rfl
theorem dksX2_seesLine_5 : cX2_seesLine.data.toList.drop 120 = dktX2_seesLine_5 := dk_seg dksX2_seesLine_4 24 rfl rfl
theorem dksX2_seesLine_6 : cX2_seesLine.data.toList.drop 142 = dktX2_seesLine_6 := dk_seg dksX2_seesLine_5 22 rfl rfl
theorem dksX2_seesLine_7 : cX2_seesLine.data.toList.drop 166 = dktX2_seesLine_7 := dk_seg dksX2_seesLine_6 24 rfl rfl
theorem dX2_seesLine_0 : decode cX2_seesLine 0 = .ok (.aload_n 0, 1) := dk_42 (dk_at dksX2_seesLine_0 0 rfl rfl)
theorem dX2_seesLine_1 : decode cX2_seesLine 1 = .ok (.getfield 85, 3) := dk_180 0 85 (dk_at dksX2_seesLine_0 1 rfl rfl)
theorem dX2_seesLine_4 : decode cX2_seesLine 4 = .ok (.ifCond .eq 4, 3) := dk_153 0 4 (dk_at dksX2_seesLine_0 4 rfl rfl)
theorem dX2_seesLine_7 : decode cX2_seesLine 7 = .ok (.return_, 1) := dk_177 (dk_at dksX2_seesLine_0 7 rfl rfl)
theorem dX2_seesLine_8 : decode cX2_seesLine 8 = .ok (.bipush 10, 2) := dk_16 10 (dk_at dksX2_seesLine_0 8 rfl rfl)
theorem dX2_seesLine_10 : decode cX2_seesLine 10 = .ok (.iconst 2, 1) := dk_5 (dk_at dksX2_seesLine_0 10 rfl rfl)
theorem dX2_seesLine_11 : decode cX2_seesLine 11 = .ok (.aload_n 0, 1) := dk_42 (dk_at dksX2_seesLine_0 11 rfl rfl)
theorem dX2_seesLine_12 : decode cX2_seesLine 12 = .ok (.getfield 23, 3) := dk_180 0 23 (dk_at dksX2_seesLine_0 12 rfl rfl)
theorem dX2_seesLine_15 : decode cX2_seesLine 15 = .ok (.iconst 2, 1) := dk_5 (dk_at dksX2_seesLine_0 15 rfl rfl)
theorem dX2_seesLine_16 : decode cX2_seesLine 16 = .ok (.iaload, 1) := dk_46 (dk_at dksX2_seesLine_0 16 rfl rfl)
theorem dX2_seesLine_17 : decode cX2_seesLine 17 = .ok (.imul, 1) := dk_104 (dk_at dksX2_seesLine_0 17 rfl rfl)
theorem dX2_seesLine_18 : decode cX2_seesLine 18 = .ok (.iadd, 1) := dk_96 (dk_at dksX2_seesLine_0 18 rfl rfl)
theorem dX2_seesLine_19 : decode cX2_seesLine 19 = .ok (.istore_n 1, 1) := dk_60 (dk_at dksX2_seesLine_0 19 rfl rfl)
theorem dX2_seesLine_20 : decode cX2_seesLine 20 = .ok (.aload_n 0, 1) := dk_42 (dk_at dksX2_seesLine_0 20 rfl rfl)
theorem dX2_seesLine_21 : decode cX2_seesLine 21 = .ok (.invokevirtual 226, 3) := dk_182 0 226 (dk_at dksX2_seesLine_0 21 rfl rfl)
theorem dX2_seesLine_24 : decode cX2_seesLine 24 = .ok (.istore_n 2, 1) := dk_61 (dk_at dksX2_seesLine_1 0 rfl rfl)
theorem dX2_seesLine_25 : decode cX2_seesLine 25 = .ok (.aload_n 0, 1) := dk_42 (dk_at dksX2_seesLine_1 1 rfl rfl)
theorem dX2_seesLine_26 : decode cX2_seesLine 26 = .ok (.invokevirtual 147, 3) := dk_182 0 147 (dk_at dksX2_seesLine_1 2 rfl rfl)
theorem dX2_seesLine_29 : decode cX2_seesLine 29 = .ok (.istore_n 3, 1) := dk_62 (dk_at dksX2_seesLine_1 5 rfl rfl)
theorem dX2_seesLine_30 : decode cX2_seesLine 30 = .ok (.iload_n 2, 1) := dk_28 (dk_at dksX2_seesLine_1 6 rfl rfl)
theorem dX2_seesLine_31 : decode cX2_seesLine 31 = .ok (.iload_n 3, 1) := dk_29 (dk_at dksX2_seesLine_1 7 rfl rfl)
theorem dX2_seesLine_32 : decode cX2_seesLine 32 = .ok (.if_icmp .ne 7, 3) := dk_160 0 7 (dk_at dksX2_seesLine_1 8 rfl rfl)
theorem dX2_seesLine_35 : decode cX2_seesLine 35 = .ok (.iconst 1, 1) := dk_4 (dk_at dksX2_seesLine_1 11 rfl rfl)
theorem dX2_seesLine_36 : decode cX2_seesLine 36 = .ok (.goto 4, 3) := dk_167 0 4 (dk_at dksX2_seesLine_1 12 rfl rfl)
theorem dX2_seesLine_39 : decode cX2_seesLine 39 = .ok (.iconst 0, 1) := dk_3 (dk_at dksX2_seesLine_1 15 rfl rfl)
theorem dX2_seesLine_40 : decode cX2_seesLine 40 = .ok (.istore 4, 2) := dk_54 4 (dk_at dksX2_seesLine_1 16 rfl rfl)
theorem dX2_seesLine_42 : decode cX2_seesLine 42 = .ok (.iconst 0, 1) := dk_3 (dk_at dksX2_seesLine_1 18 rfl rfl)
theorem dX2_seesLine_43 : decode cX2_seesLine 43 = .ok (.istore 5, 2) := dk_54 5 (dk_at dksX2_seesLine_1 19 rfl rfl)
theorem dX2_seesLine_45 : decode cX2_seesLine 45 = .ok (.iload 5, 2) := dk_21 5 (dk_at dksX2_seesLine_1 21 rfl rfl)
theorem dX2_seesLine_47 : decode cX2_seesLine 47 = .ok (.aload_n 0, 1) := dk_42 (dk_at dksX2_seesLine_1 23 rfl rfl)
theorem dX2_seesLine_48 : decode cX2_seesLine 48 = .ok (.getfield 23, 3) := dk_180 0 23 (dk_at dksX2_seesLine_2 0 rfl rfl)
theorem dX2_seesLine_51 : decode cX2_seesLine 51 = .ok (.iconst 2, 1) := dk_5 (dk_at dksX2_seesLine_2 3 rfl rfl)
theorem dX2_seesLine_52 : decode cX2_seesLine 52 = .ok (.iaload, 1) := dk_46 (dk_at dksX2_seesLine_2 4 rfl rfl)
theorem dX2_seesLine_53 : decode cX2_seesLine 53 = .ok (.if_icmp .ge 55, 3) := dk_162 0 55 (dk_at dksX2_seesLine_2 5 rfl rfl)
theorem dX2_seesLine_56 : decode cX2_seesLine 56 = .ok (.iload 4, 2) := dk_21 4 (dk_at dksX2_seesLine_2 8 rfl rfl)
theorem dX2_seesLine_58 : decode cX2_seesLine 58 = .ok (.ifCond .ne 37, 3) := dk_154 0 37 (dk_at dksX2_seesLine_2 10 rfl rfl)
theorem dX2_seesLine_61 : decode cX2_seesLine 61 = .ok (.aload_n 0, 1) := dk_42 (dk_at dksX2_seesLine_2 13 rfl rfl)
theorem dX2_seesLine_62 : decode cX2_seesLine 62 = .ok (.getfield 23, 3) := dk_180 0 23 (dk_at dksX2_seesLine_2 14 rfl rfl)
theorem dX2_seesLine_65 : decode cX2_seesLine 65 = .ok (.bipush 10, 2) := dk_16 10 (dk_at dksX2_seesLine_2 17 rfl rfl)
theorem dX2_seesLine_67 : decode cX2_seesLine 67 = .ok (.iconst 2, 1) := dk_5 (dk_at dksX2_seesLine_2 19 rfl rfl)
theorem dX2_seesLine_68 : decode cX2_seesLine 68 = .ok (.iload 5, 2) := dk_21 5 (dk_at dksX2_seesLine_2 20 rfl rfl)
theorem dX2_seesLine_70 : decode cX2_seesLine 70 = .ok (.imul, 1) := dk_104 (dk_at dksX2_seesLine_2 22 rfl rfl)
theorem dX2_seesLine_71 : decode cX2_seesLine 71 = .ok (.iadd, 1) := dk_96 (dk_at dksX2_seesLine_2 23 rfl rfl)
theorem dX2_seesLine_72 : decode cX2_seesLine 72 = .ok (.iaload, 1) := dk_46 (dk_at dksX2_seesLine_3 0 rfl rfl)
theorem dX2_seesLine_73 : decode cX2_seesLine 73 = .ok (.iload_n 2, 1) := dk_28 (dk_at dksX2_seesLine_3 1 rfl rfl)
theorem dX2_seesLine_74 : decode cX2_seesLine 74 = .ok (.if_icmp .ne 25, 3) := dk_160 0 25 (dk_at dksX2_seesLine_3 2 rfl rfl)
theorem dX2_seesLine_77 : decode cX2_seesLine 77 = .ok (.aload_n 0, 1) := dk_42 (dk_at dksX2_seesLine_3 5 rfl rfl)
theorem dX2_seesLine_78 : decode cX2_seesLine 78 = .ok (.getfield 23, 3) := dk_180 0 23 (dk_at dksX2_seesLine_3 6 rfl rfl)
theorem dX2_seesLine_81 : decode cX2_seesLine 81 = .ok (.bipush 10, 2) := dk_16 10 (dk_at dksX2_seesLine_3 9 rfl rfl)
theorem dX2_seesLine_83 : decode cX2_seesLine 83 = .ok (.iconst 2, 1) := dk_5 (dk_at dksX2_seesLine_3 11 rfl rfl)
theorem dX2_seesLine_84 : decode cX2_seesLine 84 = .ok (.iload 5, 2) := dk_21 5 (dk_at dksX2_seesLine_3 12 rfl rfl)
theorem dX2_seesLine_86 : decode cX2_seesLine 86 = .ok (.imul, 1) := dk_104 (dk_at dksX2_seesLine_3 14 rfl rfl)
theorem dX2_seesLine_87 : decode cX2_seesLine 87 = .ok (.iadd, 1) := dk_96 (dk_at dksX2_seesLine_3 15 rfl rfl)
theorem dX2_seesLine_88 : decode cX2_seesLine 88 = .ok (.iconst 1, 1) := dk_4 (dk_at dksX2_seesLine_3 16 rfl rfl)
theorem dX2_seesLine_89 : decode cX2_seesLine 89 = .ok (.iadd, 1) := dk_96 (dk_at dksX2_seesLine_3 17 rfl rfl)
theorem dX2_seesLine_90 : decode cX2_seesLine 90 = .ok (.iaload, 1) := dk_46 (dk_at dksX2_seesLine_3 18 rfl rfl)
theorem dX2_seesLine_91 : decode cX2_seesLine 91 = .ok (.iload_n 3, 1) := dk_29 (dk_at dksX2_seesLine_3 19 rfl rfl)
theorem dX2_seesLine_92 : decode cX2_seesLine 92 = .ok (.if_icmp .ne 7, 3) := dk_160 0 7 (dk_at dksX2_seesLine_3 20 rfl rfl)
theorem dX2_seesLine_95 : decode cX2_seesLine 95 = .ok (.iconst 1, 1) := dk_4 (dk_at dksX2_seesLine_3 23 rfl rfl)
theorem dX2_seesLine_96 : decode cX2_seesLine 96 = .ok (.goto 4, 3) := dk_167 0 4 (dk_at dksX2_seesLine_4 0 rfl rfl)
theorem dX2_seesLine_99 : decode cX2_seesLine 99 = .ok (.iconst 0, 1) := dk_3 (dk_at dksX2_seesLine_4 3 rfl rfl)
theorem dX2_seesLine_100 : decode cX2_seesLine 100 = .ok (.istore 4, 2) := dk_54 4 (dk_at dksX2_seesLine_4 4 rfl rfl)
theorem dX2_seesLine_102 : decode cX2_seesLine 102 = .ok (.iinc 5 1, 3) := dk_132 5 1 (dk_at dksX2_seesLine_4 6 rfl rfl)
theorem dX2_seesLine_105 : decode cX2_seesLine 105 = .ok (.goto (-60), 3) := dk_167 255 196 (dk_at dksX2_seesLine_4 9 rfl rfl)
theorem dX2_seesLine_108 : decode cX2_seesLine 108 = .ok (.aload_n 0, 1) := dk_42 (dk_at dksX2_seesLine_4 12 rfl rfl)
theorem dX2_seesLine_109 : decode cX2_seesLine 109 = .ok (.getfield 85, 3) := dk_180 0 85 (dk_at dksX2_seesLine_4 13 rfl rfl)
theorem dX2_seesLine_112 : decode cX2_seesLine 112 = .ok (.ifCond .ne 17, 3) := dk_154 0 17 (dk_at dksX2_seesLine_4 16 rfl rfl)
theorem dX2_seesLine_115 : decode cX2_seesLine 115 = .ok (.iload 4, 2) := dk_21 4 (dk_at dksX2_seesLine_4 19 rfl rfl)
theorem dX2_seesLine_117 : decode cX2_seesLine 117 = .ok (.ifCond .eq 12, 3) := dk_153 0 12 (dk_at dksX2_seesLine_4 21 rfl rfl)
theorem dX2_seesLine_120 : decode cX2_seesLine 120 = .ok (.aload_n 0, 1) := dk_42 (dk_at dksX2_seesLine_5 0 rfl rfl)
theorem dX2_seesLine_121 : decode cX2_seesLine 121 = .ok (.iconst 3, 1) := dk_6 (dk_at dksX2_seesLine_5 1 rfl rfl)
theorem dX2_seesLine_122 : decode cX2_seesLine 122 = .ok (.aload_n 0, 1) := dk_42 (dk_at dksX2_seesLine_5 2 rfl rfl)
theorem dX2_seesLine_123 : decode cX2_seesLine 123 = .ok (.getfield 66, 3) := dk_180 0 66 (dk_at dksX2_seesLine_5 3 rfl rfl)
theorem dX2_seesLine_126 : decode cX2_seesLine 126 = .ok (.invokevirtual 112, 3) := dk_182 0 112 (dk_at dksX2_seesLine_5 6 rfl rfl)
theorem dX2_seesLine_129 : decode cX2_seesLine 129 = .ok (.aload_n 0, 1) := dk_42 (dk_at dksX2_seesLine_5 9 rfl rfl)
theorem dX2_seesLine_130 : decode cX2_seesLine 130 = .ok (.invokevirtual 150, 3) := dk_182 0 150 (dk_at dksX2_seesLine_5 10 rfl rfl)
theorem dX2_seesLine_133 : decode cX2_seesLine 133 = .ok (.aload_n 0, 1) := dk_42 (dk_at dksX2_seesLine_5 13 rfl rfl)
theorem dX2_seesLine_134 : decode cX2_seesLine 134 = .ok (.getfield 85, 3) := dk_180 0 85 (dk_at dksX2_seesLine_5 14 rfl rfl)
theorem dX2_seesLine_137 : decode cX2_seesLine 137 = .ok (.ifCond .eq 4, 3) := dk_153 0 4 (dk_at dksX2_seesLine_5 17 rfl rfl)
theorem dX2_seesLine_140 : decode cX2_seesLine 140 = .ok (.return_, 1) := dk_177 (dk_at dksX2_seesLine_5 20 rfl rfl)
theorem dX2_seesLine_141 : decode cX2_seesLine 141 = .ok (.aload_n 0, 1) := dk_42 (dk_at dksX2_seesLine_5 21 rfl rfl)
theorem dX2_seesLine_142 : decode cX2_seesLine 142 = .ok (.getfield 23, 3) := dk_180 0 23 (dk_at dksX2_seesLine_6 0 rfl rfl)
theorem dX2_seesLine_145 : decode cX2_seesLine 145 = .ok (.iload_n 1, 1) := dk_27 (dk_at dksX2_seesLine_6 3 rfl rfl)
theorem dX2_seesLine_146 : decode cX2_seesLine 146 = .ok (.iload_n 2, 1) := dk_28 (dk_at dksX2_seesLine_6 4 rfl rfl)
theorem dX2_seesLine_147 : decode cX2_seesLine 147 = .ok (.iastore, 1) := dk_79 (dk_at dksX2_seesLine_6 5 rfl rfl)
theorem dX2_seesLine_148 : decode cX2_seesLine 148 = .ok (.aload_n 0, 1) := dk_42 (dk_at dksX2_seesLine_6 6 rfl rfl)
theorem dX2_seesLine_149 : decode cX2_seesLine 149 = .ok (.getfield 23, 3) := dk_180 0 23 (dk_at dksX2_seesLine_6 7 rfl rfl)
theorem dX2_seesLine_152 : decode cX2_seesLine 152 = .ok (.iload_n 1, 1) := dk_27 (dk_at dksX2_seesLine_6 10 rfl rfl)
theorem dX2_seesLine_153 : decode cX2_seesLine 153 = .ok (.iconst 1, 1) := dk_4 (dk_at dksX2_seesLine_6 11 rfl rfl)
theorem dX2_seesLine_154 : decode cX2_seesLine 154 = .ok (.iadd, 1) := dk_96 (dk_at dksX2_seesLine_6 12 rfl rfl)
theorem dX2_seesLine_155 : decode cX2_seesLine 155 = .ok (.iload_n 3, 1) := dk_29 (dk_at dksX2_seesLine_6 13 rfl rfl)
theorem dX2_seesLine_156 : decode cX2_seesLine 156 = .ok (.iastore, 1) := dk_79 (dk_at dksX2_seesLine_6 14 rfl rfl)
theorem dX2_seesLine_157 : decode cX2_seesLine 157 = .ok (.aload_n 0, 1) := dk_42 (dk_at dksX2_seesLine_6 15 rfl rfl)
theorem dX2_seesLine_158 : decode cX2_seesLine 158 = .ok (.getfield 23, 3) := dk_180 0 23 (dk_at dksX2_seesLine_6 16 rfl rfl)
theorem dX2_seesLine_161 : decode cX2_seesLine 161 = .ok (.iconst 2, 1) := dk_5 (dk_at dksX2_seesLine_6 19 rfl rfl)
theorem dX2_seesLine_162 : decode cX2_seesLine 162 = .ok (.dup2, 1) := dk_92 (dk_at dksX2_seesLine_6 20 rfl rfl)
theorem dX2_seesLine_163 : decode cX2_seesLine 163 = .ok (.iaload, 1) := dk_46 (dk_at dksX2_seesLine_6 21 rfl rfl)
theorem dX2_seesLine_164 : decode cX2_seesLine 164 = .ok (.iconst 1, 1) := dk_4 (dk_at dksX2_seesLine_6 22 rfl rfl)
theorem dX2_seesLine_165 : decode cX2_seesLine 165 = .ok (.iadd, 1) := dk_96 (dk_at dksX2_seesLine_6 23 rfl rfl)
theorem dX2_seesLine_166 : decode cX2_seesLine 166 = .ok (.iastore, 1) := dk_79 (dk_at dksX2_seesLine_7 0 rfl rfl)
theorem dX2_seesLine_167 : decode cX2_seesLine 167 = .ok (.return_, 1) := dk_177 (dk_at dksX2_seesLine_7 1 rfl rfl)
abbrev cX2_placePassed : ByteArray := prog_15_method_27_code
def yX2_placePassed : MethodName := ⟨RX2, "placePassed", "()I"⟩
def dkwX2_placePassed_0 : List UInt8 := [42, 182, 0, 147, 60, 42, 182, 0, 150, 27, 172]
abbrev dktX2_placePassed_0 : List UInt8 := dkwX2_placePassed_0 ++ []
theorem dksX2_placePassed_0 : cX2_placePassed.data.toList.drop 0 = dktX2_placePassed_0 := by decide +kernel
theorem dX2_placePassed_0 : decode cX2_placePassed 0 = .ok (.aload_n 0, 1) := dk_42 (dk_at dksX2_placePassed_0 0 rfl rfl)
theorem dX2_placePassed_1 : decode cX2_placePassed 1 = .ok (.invokevirtual 147, 3) := dk_182 0 147 (dk_at dksX2_placePassed_0 1 rfl rfl)
theorem dX2_placePassed_4 : decode cX2_placePassed 4 = .ok (.istore_n 1, 1) := dk_60 (dk_at dksX2_placePassed_0 4 rfl rfl)
theorem dX2_placePassed_5 : decode cX2_placePassed 5 = .ok (.aload_n 0, 1) := dk_42 (dk_at dksX2_placePassed_0 5 rfl rfl)
theorem dX2_placePassed_6 : decode cX2_placePassed 6 = .ok (.invokevirtual 150, 3) := dk_182 0 150 (dk_at dksX2_placePassed_0 6 rfl rfl)
theorem dX2_placePassed_9 : decode cX2_placePassed 9 = .ok (.iload_n 1, 1) := dk_27 (dk_at dksX2_placePassed_0 9 rfl rfl)
theorem dX2_placePassed_10 : decode cX2_placePassed 10 = .ok (.ireturn, 1) := dk_172 (dk_at dksX2_placePassed_0 10 rfl rfl)
abbrev cX2_placeHere : ByteArray := prog_15_method_24_code
def yX2_placeHere : MethodName := ⟨RX2, "placeHere", "()I"⟩
def dkwX2_placeHere_0 : List UInt8 := [42, 3, 8, 182, 0, 143, 172]
abbrev dktX2_placeHere_0 : List UInt8 := dkwX2_placeHere_0 ++ []
theorem dksX2_placeHere_0 : cX2_placeHere.data.toList.drop 0 = dktX2_placeHere_0 := by decide +kernel
theorem dX2_placeHere_0 : decode cX2_placeHere 0 = .ok (.aload_n 0, 1) := dk_42 (dk_at dksX2_placeHere_0 0 rfl rfl)
theorem dX2_placeHere_1 : decode cX2_placeHere 1 = .ok (.iconst 0, 1) := dk_3 (dk_at dksX2_placeHere_0 1 rfl rfl)
theorem dX2_placeHere_2 : decode cX2_placeHere 2 = .ok (.iconst 5, 1) := dk_8 (dk_at dksX2_placeHere_0 2 rfl rfl)
theorem dX2_placeHere_3 : decode cX2_placeHere 3 = .ok (.invokevirtual 143, 3) := dk_182 0 143 (dk_at dksX2_placeHere_0 3 rfl rfl)
theorem dX2_placeHere_6 : decode cX2_placeHere 6 = .ok (.ireturn, 1) := dk_172 (dk_at dksX2_placeHere_0 6 rfl rfl)
abbrev cX2_named : ByteArray := prog_15_method_23_code
def yX2_named : MethodName := ⟨RX2, "named", "(II)I"⟩
def dkwX2_named_2 : List UInt8 := [180, 0, 85, 153, 0, 7, 3, 167, 0, 6, 29, 27, 100, 172]
abbrev dktX2_named_2 : List UInt8 := dkwX2_named_2 ++ []
def dkwX2_named_1 : List UInt8 := [182, 0, 136, 62, 29, 27, 28, 184, 0, 139, 154, 0, 12, 42, 5, 42, 180, 0, 66, 182, 0, 112, 42]
abbrev dktX2_named_1 : List UInt8 := dkwX2_named_1 ++ dktX2_named_2
def dkwX2_named_0 : List UInt8 := [42, 180, 0, 85, 153, 0, 5, 3, 172, 42, 182, 0, 133, 42, 180, 0, 85, 153, 0, 5, 3, 172, 42]
abbrev dktX2_named_0 : List UInt8 := dkwX2_named_0 ++ dktX2_named_1
theorem dksX2_named_0 : cX2_named.data.toList.drop 0 = dktX2_named_0 := by decide +kernel
theorem dksX2_named_1 : cX2_named.data.toList.drop 23 = dktX2_named_1 := dk_seg dksX2_named_0 23 rfl rfl
theorem dksX2_named_2 : cX2_named.data.toList.drop 46 = dktX2_named_2 := dk_seg dksX2_named_1 23 rfl rfl
theorem dX2_named_0 : decode cX2_named 0 = .ok (.aload_n 0, 1) := dk_42 (dk_at dksX2_named_0 0 rfl rfl)
theorem dX2_named_1 : decode cX2_named 1 = .ok (.getfield 85, 3) := dk_180 0 85 (dk_at dksX2_named_0 1 rfl rfl)
theorem dX2_named_4 : decode cX2_named 4 = .ok (.ifCond .eq 5, 3) := dk_153 0 5 (dk_at dksX2_named_0 4 rfl rfl)
theorem dX2_named_7 : decode cX2_named 7 = .ok (.iconst 0, 1) := dk_3 (dk_at dksX2_named_0 7 rfl rfl)
theorem dX2_named_8 : decode cX2_named 8 = .ok (.ireturn, 1) := dk_172 (dk_at dksX2_named_0 8 rfl rfl)
theorem dX2_named_9 : decode cX2_named 9 = .ok (.aload_n 0, 1) := dk_42 (dk_at dksX2_named_0 9 rfl rfl)
theorem dX2_named_10 : decode cX2_named 10 = .ok (.invokevirtual 133, 3) := dk_182 0 133 (dk_at dksX2_named_0 10 rfl rfl)
theorem dX2_named_13 : decode cX2_named 13 = .ok (.aload_n 0, 1) := dk_42 (dk_at dksX2_named_0 13 rfl rfl)
theorem dX2_named_14 : decode cX2_named 14 = .ok (.getfield 85, 3) := dk_180 0 85 (dk_at dksX2_named_0 14 rfl rfl)
theorem dX2_named_17 : decode cX2_named 17 = .ok (.ifCond .eq 5, 3) := dk_153 0 5 (dk_at dksX2_named_0 17 rfl rfl)
theorem dX2_named_20 : decode cX2_named 20 = .ok (.iconst 0, 1) := dk_3 (dk_at dksX2_named_0 20 rfl rfl)
theorem dX2_named_21 : decode cX2_named 21 = .ok (.ireturn, 1) := dk_172 (dk_at dksX2_named_0 21 rfl rfl)
theorem dX2_named_22 : decode cX2_named 22 = .ok (.aload_n 0, 1) := dk_42 (dk_at dksX2_named_0 22 rfl rfl)
theorem dX2_named_23 : decode cX2_named 23 = .ok (.invokevirtual 136, 3) := dk_182 0 136 (dk_at dksX2_named_1 0 rfl rfl)
theorem dX2_named_26 : decode cX2_named 26 = .ok (.istore_n 3, 1) := dk_62 (dk_at dksX2_named_1 3 rfl rfl)
theorem dX2_named_27 : decode cX2_named 27 = .ok (.iload_n 3, 1) := dk_29 (dk_at dksX2_named_1 4 rfl rfl)
theorem dX2_named_28 : decode cX2_named 28 = .ok (.iload_n 1, 1) := dk_27 (dk_at dksX2_named_1 5 rfl rfl)
theorem dX2_named_29 : decode cX2_named 29 = .ok (.iload_n 2, 1) := dk_28 (dk_at dksX2_named_1 6 rfl rfl)
theorem dX2_named_30 : decode cX2_named 30 = .ok (.invokestatic 139, 3) := dk_184 0 139 (dk_at dksX2_named_1 7 rfl rfl)
theorem dX2_named_33 : decode cX2_named 33 = .ok (.ifCond .ne 12, 3) := dk_154 0 12 (dk_at dksX2_named_1 10 rfl rfl)
theorem dX2_named_36 : decode cX2_named 36 = .ok (.aload_n 0, 1) := dk_42 (dk_at dksX2_named_1 13 rfl rfl)
theorem dX2_named_37 : decode cX2_named 37 = .ok (.iconst 2, 1) := dk_5 (dk_at dksX2_named_1 14 rfl rfl)
theorem dX2_named_38 : decode cX2_named 38 = .ok (.aload_n 0, 1) := dk_42 (dk_at dksX2_named_1 15 rfl rfl)
theorem dX2_named_39 : decode cX2_named 39 = .ok (.getfield 66, 3) := dk_180 0 66 (dk_at dksX2_named_1 16 rfl rfl)
theorem dX2_named_42 : decode cX2_named 42 = .ok (.invokevirtual 112, 3) := dk_182 0 112 (dk_at dksX2_named_1 19 rfl rfl)
theorem dX2_named_45 : decode cX2_named 45 = .ok (.aload_n 0, 1) := dk_42 (dk_at dksX2_named_1 22 rfl rfl)
theorem dX2_named_46 : decode cX2_named 46 = .ok (.getfield 85, 3) := dk_180 0 85 (dk_at dksX2_named_2 0 rfl rfl)
theorem dX2_named_49 : decode cX2_named 49 = .ok (.ifCond .eq 7, 3) := dk_153 0 7 (dk_at dksX2_named_2 3 rfl rfl)
theorem dX2_named_52 : decode cX2_named 52 = .ok (.iconst 0, 1) := dk_3 (dk_at dksX2_named_2 6 rfl rfl)
theorem dX2_named_53 : decode cX2_named 53 = .ok (.goto 6, 3) := dk_167 0 6 (dk_at dksX2_named_2 7 rfl rfl)
theorem dX2_named_56 : decode cX2_named 56 = .ok (.iload_n 3, 1) := dk_29 (dk_at dksX2_named_2 10 rfl rfl)
theorem dX2_named_57 : decode cX2_named 57 = .ok (.iload_n 1, 1) := dk_27 (dk_at dksX2_named_2 11 rfl rfl)
theorem dX2_named_58 : decode cX2_named 58 = .ok (.isub, 1) := dk_100 (dk_at dksX2_named_2 12 rfl rfl)
theorem dX2_named_59 : decode cX2_named 59 = .ok (.ireturn, 1) := dk_172 (dk_at dksX2_named_2 13 rfl rfl)
abbrev cX2_personLine : ByteArray := prog_15_method_37_code
def yX2_personLine : MethodName := ⟨RX2, "personLine", "()V"⟩
def dkwX2_personLine_7 : List UInt8 := [6, 92, 46, 4, 96, 79, 177]
abbrev dktX2_personLine_7 : List UInt8 := dkwX2_personLine_7 ++ []
def dkwX2_personLine_6 : List UInt8 := [79, 42, 180, 0, 23, 27, 4, 96, 29, 79, 42, 180, 0, 23, 27, 5, 96, 21, 4, 79, 42, 180, 0, 23]
abbrev dktX2_personLine_6 : List UInt8 := dkwX2_personLine_6 ++ dktX2_personLine_7
def dkwX2_personLine_5 : List UInt8 := [18, 238, 3, 16, 9, 182, 0, 218, 54, 4, 42, 180, 0, 85, 153, 0, 4, 177, 42, 180, 0, 23, 27, 28]
abbrev dktX2_personLine_5 : List UInt8 := dkwX2_personLine_5 ++ dktX2_personLine_6
def dkwX2_personLine_4 : List UInt8 := [42, 180, 0, 66, 182, 0, 112, 42, 182, 0, 150, 42, 18, 237, 182, 0, 156, 42, 182, 0, 226, 62, 42]
abbrev dktX2_personLine_4 : List UInt8 := dkwX2_personLine_4 ++ dktX2_personLine_5
def dkwX2_personLine_3 : List UInt8 := [167, 0, 17, 42, 18, 235, 182, 0, 102, 153, 0, 7, 6, 167, 0, 4, 2, 61, 28, 156, 0, 12, 42, 4]
abbrev dktX2_personLine_3 : List UInt8 := dkwX2_personLine_3 ++ dktX2_personLine_4
def dkwX2_personLine_2 : List UInt8 := [18, 231, 182, 0, 102, 153, 0, 7, 4, 167, 0, 30, 42, 18, 233, 182, 0, 102, 153, 0, 7, 5]
abbrev dktX2_personLine_2 : List UInt8 := dkwX2_personLine_2 ++ dktX2_personLine_3
def dkwX2_personLine_1 : List UInt8 := [180, 0, 23, 6, 46, 96, 182, 0, 222, 42, 18, 229, 182, 0, 102, 153, 0, 7, 3, 167, 0, 43, 42]
abbrev dktX2_personLine_1 : List UInt8 := dkwX2_personLine_1 ++ dktX2_personLine_2
def dkwX2_personLine_0 : List UInt8 := [42, 180, 0, 85, 153, 0, 4, 177, 16, 26, 7, 42, 180, 0, 23, 6, 46, 104, 96, 60, 42, 16, 6, 42]
abbrev dktX2_personLine_0 : List UInt8 := dkwX2_personLine_0 ++ dktX2_personLine_1
theorem dksX2_personLine_0 : cX2_personLine.data.toList.drop 0 = dktX2_personLine_0 := by decide +kernel
theorem dksX2_personLine_1 : cX2_personLine.data.toList.drop 24 = dktX2_personLine_1 := dk_seg dksX2_personLine_0 24 rfl rfl
theorem dksX2_personLine_2 : cX2_personLine.data.toList.drop 47 = dktX2_personLine_2 := dk_seg dksX2_personLine_1 23 rfl rfl
theorem dksX2_personLine_3 : cX2_personLine.data.toList.drop 69 = dktX2_personLine_3 := dk_seg dksX2_personLine_2 22 rfl rfl
theorem dksX2_personLine_4 : cX2_personLine.data.toList.drop 93 = dktX2_personLine_4 := dk_seg dksX2_personLine_3 24 rfl rfl
theorem dksX2_personLine_5 : cX2_personLine.data.toList.drop 116 = dktX2_personLine_5 := dk_seg dksX2_personLine_4 23 rfl rfl
theorem dksX2_personLine_6 : cX2_personLine.data.toList.drop 140 = dktX2_personLine_6 := dk_seg dksX2_personLine_5 24 rfl rfl
theorem dksX2_personLine_7 : cX2_personLine.data.toList.drop 164 = dktX2_personLine_7 := dk_seg dksX2_personLine_6 24 rfl rfl
theorem dX2_personLine_0 : decode cX2_personLine 0 = .ok (.aload_n 0, 1) := dk_42 (dk_at dksX2_personLine_0 0 rfl rfl)
theorem dX2_personLine_1 : decode cX2_personLine 1 = .ok (.getfield 85, 3) := dk_180 0 85 (dk_at dksX2_personLine_0 1 rfl rfl)
theorem dX2_personLine_4 : decode cX2_personLine 4 = .ok (.ifCond .eq 4, 3) := dk_153 0 4 (dk_at dksX2_personLine_0 4 rfl rfl)
theorem dX2_personLine_7 : decode cX2_personLine 7 = .ok (.return_, 1) := dk_177 (dk_at dksX2_personLine_0 7 rfl rfl)
theorem dX2_personLine_8 : decode cX2_personLine 8 = .ok (.bipush 26, 2) := dk_16 26 (dk_at dksX2_personLine_0 8 rfl rfl)
theorem dX2_personLine_10 : decode cX2_personLine 10 = .ok (.iconst 4, 1) := dk_7 (dk_at dksX2_personLine_0 10 rfl rfl)
theorem dX2_personLine_11 : decode cX2_personLine 11 = .ok (.aload_n 0, 1) := dk_42 (dk_at dksX2_personLine_0 11 rfl rfl)
theorem dX2_personLine_12 : decode cX2_personLine 12 = .ok (.getfield 23, 3) := dk_180 0 23 (dk_at dksX2_personLine_0 12 rfl rfl)
theorem dX2_personLine_15 : decode cX2_personLine 15 = .ok (.iconst 3, 1) := dk_6 (dk_at dksX2_personLine_0 15 rfl rfl)
theorem dX2_personLine_16 : decode cX2_personLine 16 = .ok (.iaload, 1) := dk_46 (dk_at dksX2_personLine_0 16 rfl rfl)
theorem dX2_personLine_17 : decode cX2_personLine 17 = .ok (.imul, 1) := dk_104 (dk_at dksX2_personLine_0 17 rfl rfl)
theorem dX2_personLine_18 : decode cX2_personLine 18 = .ok (.iadd, 1) := dk_96 (dk_at dksX2_personLine_0 18 rfl rfl)
theorem dX2_personLine_19 : decode cX2_personLine 19 = .ok (.istore_n 1, 1) := dk_60 (dk_at dksX2_personLine_0 19 rfl rfl)
theorem dX2_personLine_20 : decode cX2_personLine 20 = .ok (.aload_n 0, 1) := dk_42 (dk_at dksX2_personLine_0 20 rfl rfl)
theorem dX2_personLine_21 : decode cX2_personLine 21 = .ok (.bipush 6, 2) := dk_16 6 (dk_at dksX2_personLine_0 21 rfl rfl)
theorem dX2_personLine_23 : decode cX2_personLine 23 = .ok (.aload_n 0, 1) := dk_42 (dk_at dksX2_personLine_0 23 rfl rfl)
theorem dX2_personLine_24 : decode cX2_personLine 24 = .ok (.getfield 23, 3) := dk_180 0 23 (dk_at dksX2_personLine_1 0 rfl rfl)
theorem dX2_personLine_27 : decode cX2_personLine 27 = .ok (.iconst 3, 1) := dk_6 (dk_at dksX2_personLine_1 3 rfl rfl)
theorem dX2_personLine_28 : decode cX2_personLine 28 = .ok (.iaload, 1) := dk_46 (dk_at dksX2_personLine_1 4 rfl rfl)
theorem dX2_personLine_29 : decode cX2_personLine 29 = .ok (.iadd, 1) := dk_96 (dk_at dksX2_personLine_1 5 rfl rfl)
theorem dX2_personLine_30 : decode cX2_personLine 30 = .ok (.invokevirtual 222, 3) := dk_182 0 222 (dk_at dksX2_personLine_1 6 rfl rfl)
theorem dX2_personLine_33 : decode cX2_personLine 33 = .ok (.aload_n 0, 1) := dk_42 (dk_at dksX2_personLine_1 9 rfl rfl)
theorem dX2_personLine_34 : decode cX2_personLine 34 = .ok (.ldc 229, 2) := dk_18 229 (dk_at dksX2_personLine_1 10 rfl rfl)
theorem dX2_personLine_36 : decode cX2_personLine 36 = .ok (.invokevirtual 102, 3) := dk_182 0 102 (dk_at dksX2_personLine_1 12 rfl rfl)
theorem dX2_personLine_39 : decode cX2_personLine 39 = .ok (.ifCond .eq 7, 3) := dk_153 0 7 (dk_at dksX2_personLine_1 15 rfl rfl)
theorem dX2_personLine_42 : decode cX2_personLine 42 = .ok (.iconst 0, 1) := dk_3 (dk_at dksX2_personLine_1 18 rfl rfl)
theorem dX2_personLine_43 : decode cX2_personLine 43 = .ok (.goto 43, 3) := dk_167 0 43 (dk_at dksX2_personLine_1 19 rfl rfl)
theorem dX2_personLine_46 : decode cX2_personLine 46 = .ok (.aload_n 0, 1) := dk_42 (dk_at dksX2_personLine_1 22 rfl rfl)
theorem dX2_personLine_47 : decode cX2_personLine 47 = .ok (.ldc 231, 2) := dk_18 231 (dk_at dksX2_personLine_2 0 rfl rfl)
theorem dX2_personLine_49 : decode cX2_personLine 49 = .ok (.invokevirtual 102, 3) := dk_182 0 102 (dk_at dksX2_personLine_2 2 rfl rfl)
theorem dX2_personLine_52 : decode cX2_personLine 52 = .ok (.ifCond .eq 7, 3) := dk_153 0 7 (dk_at dksX2_personLine_2 5 rfl rfl)
theorem dX2_personLine_55 : decode cX2_personLine 55 = .ok (.iconst 1, 1) := dk_4 (dk_at dksX2_personLine_2 8 rfl rfl)
theorem dX2_personLine_56 : decode cX2_personLine 56 = .ok (.goto 30, 3) := dk_167 0 30 (dk_at dksX2_personLine_2 9 rfl rfl)
theorem dX2_personLine_59 : decode cX2_personLine 59 = .ok (.aload_n 0, 1) := dk_42 (dk_at dksX2_personLine_2 12 rfl rfl)
theorem dX2_personLine_60 : decode cX2_personLine 60 = .ok (.ldc 233, 2) := dk_18 233 (dk_at dksX2_personLine_2 13 rfl rfl)
theorem dX2_personLine_62 : decode cX2_personLine 62 = .ok (.invokevirtual 102, 3) := dk_182 0 102 (dk_at dksX2_personLine_2 15 rfl rfl)
theorem dX2_personLine_65 : decode cX2_personLine 65 = .ok (.ifCond .eq 7, 3) := dk_153 0 7 (dk_at dksX2_personLine_2 18 rfl rfl)
theorem dX2_personLine_68 : decode cX2_personLine 68 = .ok (.iconst 2, 1) := dk_5 (dk_at dksX2_personLine_2 21 rfl rfl)
theorem dX2_personLine_69 : decode cX2_personLine 69 = .ok (.goto 17, 3) := dk_167 0 17 (dk_at dksX2_personLine_3 0 rfl rfl)
theorem dX2_personLine_72 : decode cX2_personLine 72 = .ok (.aload_n 0, 1) := dk_42 (dk_at dksX2_personLine_3 3 rfl rfl)
theorem dX2_personLine_73 : decode cX2_personLine 73 = .ok (.ldc 235, 2) := dk_18 235 (dk_at dksX2_personLine_3 4 rfl rfl)
theorem dX2_personLine_75 : decode cX2_personLine 75 = .ok (.invokevirtual 102, 3) := dk_182 0 102 (dk_at dksX2_personLine_3 6 rfl rfl)
theorem dX2_personLine_78 : decode cX2_personLine 78 = .ok (.ifCond .eq 7, 3) := dk_153 0 7 (dk_at dksX2_personLine_3 9 rfl rfl)
theorem dX2_personLine_81 : decode cX2_personLine 81 = .ok (.iconst 3, 1) := dk_6 (dk_at dksX2_personLine_3 12 rfl rfl)
theorem dX2_personLine_82 : decode cX2_personLine 82 = .ok (.goto 4, 3) := dk_167 0 4 (dk_at dksX2_personLine_3 13 rfl rfl)
theorem dX2_personLine_85 : decode cX2_personLine 85 = .ok (.iconst (-1), 1) := dk_2 (dk_at dksX2_personLine_3 16 rfl rfl)
theorem dX2_personLine_86 : decode cX2_personLine 86 = .ok (.istore_n 2, 1) := dk_61 (dk_at dksX2_personLine_3 17 rfl rfl)
theorem dX2_personLine_87 : decode cX2_personLine 87 = .ok (.iload_n 2, 1) := dk_28 (dk_at dksX2_personLine_3 18 rfl rfl)
theorem dX2_personLine_88 : decode cX2_personLine 88 = .ok (.ifCond .ge 12, 3) := dk_156 0 12 (dk_at dksX2_personLine_3 19 rfl rfl)
theorem dX2_personLine_91 : decode cX2_personLine 91 = .ok (.aload_n 0, 1) := dk_42 (dk_at dksX2_personLine_3 22 rfl rfl)
theorem dX2_personLine_92 : decode cX2_personLine 92 = .ok (.iconst 1, 1) := dk_4 (dk_at dksX2_personLine_3 23 rfl rfl)
theorem dX2_personLine_93 : decode cX2_personLine 93 = .ok (.aload_n 0, 1) := dk_42 (dk_at dksX2_personLine_4 0 rfl rfl)
theorem dX2_personLine_94 : decode cX2_personLine 94 = .ok (.getfield 66, 3) := dk_180 0 66 (dk_at dksX2_personLine_4 1 rfl rfl)
theorem dX2_personLine_97 : decode cX2_personLine 97 = .ok (.invokevirtual 112, 3) := dk_182 0 112 (dk_at dksX2_personLine_4 4 rfl rfl)
theorem dX2_personLine_100 : decode cX2_personLine 100 = .ok (.aload_n 0, 1) := dk_42 (dk_at dksX2_personLine_4 7 rfl rfl)
theorem dX2_personLine_101 : decode cX2_personLine 101 = .ok (.invokevirtual 150, 3) := dk_182 0 150 (dk_at dksX2_personLine_4 8 rfl rfl)
theorem dX2_personLine_104 : decode cX2_personLine 104 = .ok (.aload_n 0, 1) := dk_42 (dk_at dksX2_personLine_4 11 rfl rfl)
theorem dX2_personLine_105 : decode cX2_personLine 105 = .ok (.ldc 237, 2) := dk_18 237 (dk_at dksX2_personLine_4 12 rfl rfl)
theorem dX2_personLine_107 : decode cX2_personLine 107 = .ok (.invokevirtual 156, 3) := dk_182 0 156 (dk_at dksX2_personLine_4 14 rfl rfl)
theorem dX2_personLine_110 : decode cX2_personLine 110 = .ok (.aload_n 0, 1) := dk_42 (dk_at dksX2_personLine_4 17 rfl rfl)
theorem dX2_personLine_111 : decode cX2_personLine 111 = .ok (.invokevirtual 226, 3) := dk_182 0 226 (dk_at dksX2_personLine_4 18 rfl rfl)
theorem dX2_personLine_114 : decode cX2_personLine 114 = .ok (.istore_n 3, 1) := dk_62 (dk_at dksX2_personLine_4 21 rfl rfl)
theorem dX2_personLine_115 : decode cX2_personLine 115 = .ok (.aload_n 0, 1) := dk_42 (dk_at dksX2_personLine_4 22 rfl rfl)
theorem dX2_personLine_116 : decode cX2_personLine 116 = .ok (.ldc 238, 2) := dk_18 238 (dk_at dksX2_personLine_5 0 rfl rfl)
theorem dX2_personLine_118 : decode cX2_personLine 118 = .ok (.iconst 0, 1) := dk_3 (dk_at dksX2_personLine_5 2 rfl rfl)
theorem dX2_personLine_119 : decode cX2_personLine 119 = .ok (.bipush 9, 2) := dk_16 9 (dk_at dksX2_personLine_5 3 rfl rfl)
theorem dX2_personLine_121 : decode cX2_personLine 121 = .ok (.invokevirtual 218, 3) := dk_182 0 218 (dk_at dksX2_personLine_5 5 rfl rfl)
theorem dX2_personLine_124 : decode cX2_personLine 124 = .ok (.istore 4, 2) := dk_54 4 (dk_at dksX2_personLine_5 8 rfl rfl)
theorem dX2_personLine_126 : decode cX2_personLine 126 = .ok (.aload_n 0, 1) := dk_42 (dk_at dksX2_personLine_5 10 rfl rfl)
theorem dX2_personLine_127 : decode cX2_personLine 127 = .ok (.getfield 85, 3) := dk_180 0 85 (dk_at dksX2_personLine_5 11 rfl rfl)
theorem dX2_personLine_130 : decode cX2_personLine 130 = .ok (.ifCond .eq 4, 3) := dk_153 0 4 (dk_at dksX2_personLine_5 14 rfl rfl)
theorem dX2_personLine_133 : decode cX2_personLine 133 = .ok (.return_, 1) := dk_177 (dk_at dksX2_personLine_5 17 rfl rfl)
theorem dX2_personLine_134 : decode cX2_personLine 134 = .ok (.aload_n 0, 1) := dk_42 (dk_at dksX2_personLine_5 18 rfl rfl)
theorem dX2_personLine_135 : decode cX2_personLine 135 = .ok (.getfield 23, 3) := dk_180 0 23 (dk_at dksX2_personLine_5 19 rfl rfl)
theorem dX2_personLine_138 : decode cX2_personLine 138 = .ok (.iload_n 1, 1) := dk_27 (dk_at dksX2_personLine_5 22 rfl rfl)
theorem dX2_personLine_139 : decode cX2_personLine 139 = .ok (.iload_n 2, 1) := dk_28 (dk_at dksX2_personLine_5 23 rfl rfl)
theorem dX2_personLine_140 : decode cX2_personLine 140 = .ok (.iastore, 1) := dk_79 (dk_at dksX2_personLine_6 0 rfl rfl)
theorem dX2_personLine_141 : decode cX2_personLine 141 = .ok (.aload_n 0, 1) := dk_42 (dk_at dksX2_personLine_6 1 rfl rfl)
theorem dX2_personLine_142 : decode cX2_personLine 142 = .ok (.getfield 23, 3) := dk_180 0 23 (dk_at dksX2_personLine_6 2 rfl rfl)
theorem dX2_personLine_145 : decode cX2_personLine 145 = .ok (.iload_n 1, 1) := dk_27 (dk_at dksX2_personLine_6 5 rfl rfl)
theorem dX2_personLine_146 : decode cX2_personLine 146 = .ok (.iconst 1, 1) := dk_4 (dk_at dksX2_personLine_6 6 rfl rfl)
theorem dX2_personLine_147 : decode cX2_personLine 147 = .ok (.iadd, 1) := dk_96 (dk_at dksX2_personLine_6 7 rfl rfl)
theorem dX2_personLine_148 : decode cX2_personLine 148 = .ok (.iload_n 3, 1) := dk_29 (dk_at dksX2_personLine_6 8 rfl rfl)
theorem dX2_personLine_149 : decode cX2_personLine 149 = .ok (.iastore, 1) := dk_79 (dk_at dksX2_personLine_6 9 rfl rfl)
theorem dX2_personLine_150 : decode cX2_personLine 150 = .ok (.aload_n 0, 1) := dk_42 (dk_at dksX2_personLine_6 10 rfl rfl)
theorem dX2_personLine_151 : decode cX2_personLine 151 = .ok (.getfield 23, 3) := dk_180 0 23 (dk_at dksX2_personLine_6 11 rfl rfl)
theorem dX2_personLine_154 : decode cX2_personLine 154 = .ok (.iload_n 1, 1) := dk_27 (dk_at dksX2_personLine_6 14 rfl rfl)
theorem dX2_personLine_155 : decode cX2_personLine 155 = .ok (.iconst 2, 1) := dk_5 (dk_at dksX2_personLine_6 15 rfl rfl)
theorem dX2_personLine_156 : decode cX2_personLine 156 = .ok (.iadd, 1) := dk_96 (dk_at dksX2_personLine_6 16 rfl rfl)
theorem dX2_personLine_157 : decode cX2_personLine 157 = .ok (.iload 4, 2) := dk_21 4 (dk_at dksX2_personLine_6 17 rfl rfl)
theorem dX2_personLine_159 : decode cX2_personLine 159 = .ok (.iastore, 1) := dk_79 (dk_at dksX2_personLine_6 19 rfl rfl)
theorem dX2_personLine_160 : decode cX2_personLine 160 = .ok (.aload_n 0, 1) := dk_42 (dk_at dksX2_personLine_6 20 rfl rfl)
theorem dX2_personLine_161 : decode cX2_personLine 161 = .ok (.getfield 23, 3) := dk_180 0 23 (dk_at dksX2_personLine_6 21 rfl rfl)
theorem dX2_personLine_164 : decode cX2_personLine 164 = .ok (.iconst 3, 1) := dk_6 (dk_at dksX2_personLine_7 0 rfl rfl)
theorem dX2_personLine_165 : decode cX2_personLine 165 = .ok (.dup2, 1) := dk_92 (dk_at dksX2_personLine_7 1 rfl rfl)
theorem dX2_personLine_166 : decode cX2_personLine 166 = .ok (.iaload, 1) := dk_46 (dk_at dksX2_personLine_7 2 rfl rfl)
theorem dX2_personLine_167 : decode cX2_personLine 167 = .ok (.iconst 1, 1) := dk_4 (dk_at dksX2_personLine_7 3 rfl rfl)
theorem dX2_personLine_168 : decode cX2_personLine 168 = .ok (.iadd, 1) := dk_96 (dk_at dksX2_personLine_7 4 rfl rfl)
theorem dX2_personLine_169 : decode cX2_personLine 169 = .ok (.iastore, 1) := dk_79 (dk_at dksX2_personLine_7 5 rfl rfl)
theorem dX2_personLine_170 : decode cX2_personLine 170 = .ok (.return_, 1) := dk_177 (dk_at dksX2_personLine_7 6 rfl rfl)
abbrev cX2_goesLine : ByteArray := prog_15_method_38_code
def yX2_goesLine : MethodName := ⟨RX2, "goesLine", "()V"⟩
def dkwX2_goesLine_7 : List UInt8 := [46, 4, 96, 79, 177]
abbrev dktX2_goesLine_7 : List UInt8 := dkwX2_goesLine_7 ++ []
def dkwX2_goesLine_6 : List UInt8 := [180, 0, 23, 27, 4, 96, 29, 79, 42, 180, 0, 23, 27, 5, 96, 21, 4, 79, 42, 180, 0, 23, 7, 92]
abbrev dktX2_goesLine_6 : List UInt8 := dkwX2_goesLine_6 ++ dktX2_goesLine_7
def dkwX2_goesLine_5 : List UInt8 := [167, 255, 190, 42, 182, 0, 150, 42, 180, 0, 85, 153, 0, 4, 177, 42, 180, 0, 23, 27, 28, 79, 42]
abbrev dktX2_goesLine_5 : List UInt8 := dkwX2_goesLine_5 ++ dktX2_goesLine_6
def dkwX2_goesLine_4 : List UInt8 := [104, 96, 5, 96, 46, 21, 4, 161, 0, 13, 42, 16, 7, 42, 180, 0, 66, 182, 0, 112, 132, 5, 1]
abbrev dktX2_goesLine_4 : List UInt8 := dkwX2_goesLine_4 ++ dktX2_goesLine_5
def dkwX2_goesLine_3 : List UInt8 := [180, 0, 23, 16, 50, 6, 21, 5, 104, 96, 46, 28, 160, 0, 32, 42, 180, 0, 23, 16, 50, 6, 21, 5]
abbrev dktX2_goesLine_3 : List UInt8 := dkwX2_goesLine_3 ++ dktX2_goesLine_4
def dkwX2_goesLine_2 : List UInt8 := [54, 4, 3, 54, 5, 21, 5, 42, 180, 0, 23, 7, 46, 162, 0, 61, 42, 180, 0, 85, 154, 0, 48, 42]
abbrev dktX2_goesLine_2 : List UInt8 := dkwX2_goesLine_2 ++ dktX2_goesLine_3
def dkwX2_goesLine_1 : List UInt8 := [61, 42, 182, 0, 150, 42, 182, 0, 226, 62, 42, 18, 237, 182, 0, 156, 42, 4, 16, 59, 182, 0, 153]
abbrev dktX2_goesLine_1 : List UInt8 := dkwX2_goesLine_1 ++ dktX2_goesLine_2
def dkwX2_goesLine_0 : List UInt8 := [42, 180, 0, 85, 153, 0, 4, 177, 16, 50, 6, 42, 180, 0, 23, 7, 46, 104, 96, 60, 42, 182, 0, 240]
abbrev dktX2_goesLine_0 : List UInt8 := dkwX2_goesLine_0 ++ dktX2_goesLine_1
theorem dksX2_goesLine_0 : cX2_goesLine.data.toList.drop 0 = dktX2_goesLine_0 := by decide +kernel
theorem dksX2_goesLine_1 : cX2_goesLine.data.toList.drop 24 = dktX2_goesLine_1 := dk_seg dksX2_goesLine_0 24 rfl rfl
theorem dksX2_goesLine_2 : cX2_goesLine.data.toList.drop 47 = dktX2_goesLine_2 := dk_seg dksX2_goesLine_1 23 rfl rfl
theorem dksX2_goesLine_3 : cX2_goesLine.data.toList.drop 71 = dktX2_goesLine_3 := dk_seg dksX2_goesLine_2 24 rfl rfl
theorem dksX2_goesLine_4 : cX2_goesLine.data.toList.drop 95 = dktX2_goesLine_4 := dk_seg dksX2_goesLine_3 24 rfl rfl
theorem dksX2_goesLine_5 : cX2_goesLine.data.toList.drop 118 = dktX2_goesLine_5 := dk_seg dksX2_goesLine_4 23 rfl rfl
theorem dksX2_goesLine_6 : cX2_goesLine.data.toList.drop 141 = dktX2_goesLine_6 := dk_seg dksX2_goesLine_5 23 rfl rfl
theorem dksX2_goesLine_7 : cX2_goesLine.data.toList.drop 165 = dktX2_goesLine_7 := dk_seg dksX2_goesLine_6 24 rfl rfl
theorem dX2_goesLine_0 : decode cX2_goesLine 0 = .ok (.aload_n 0, 1) := dk_42 (dk_at dksX2_goesLine_0 0 rfl rfl)
theorem dX2_goesLine_1 : decode cX2_goesLine 1 = .ok (.getfield 85, 3) := dk_180 0 85 (dk_at dksX2_goesLine_0 1 rfl rfl)
theorem dX2_goesLine_4 : decode cX2_goesLine 4 = .ok (.ifCond .eq 4, 3) := dk_153 0 4 (dk_at dksX2_goesLine_0 4 rfl rfl)
theorem dX2_goesLine_7 : decode cX2_goesLine 7 = .ok (.return_, 1) := dk_177 (dk_at dksX2_goesLine_0 7 rfl rfl)
theorem dX2_goesLine_8 : decode cX2_goesLine 8 = .ok (.bipush 50, 2) := dk_16 50 (dk_at dksX2_goesLine_0 8 rfl rfl)
theorem dX2_goesLine_10 : decode cX2_goesLine 10 = .ok (.iconst 3, 1) := dk_6 (dk_at dksX2_goesLine_0 10 rfl rfl)
theorem dX2_goesLine_11 : decode cX2_goesLine 11 = .ok (.aload_n 0, 1) := dk_42 (dk_at dksX2_goesLine_0 11 rfl rfl)
theorem dX2_goesLine_12 : decode cX2_goesLine 12 = .ok (.getfield 23, 3) := dk_180 0 23 (dk_at dksX2_goesLine_0 12 rfl rfl)
theorem dX2_goesLine_15 : decode cX2_goesLine 15 = .ok (.iconst 4, 1) := dk_7 (dk_at dksX2_goesLine_0 15 rfl rfl)
theorem dX2_goesLine_16 : decode cX2_goesLine 16 = .ok (.iaload, 1) := dk_46 (dk_at dksX2_goesLine_0 16 rfl rfl)
theorem dX2_goesLine_17 : decode cX2_goesLine 17 = .ok (.imul, 1) := dk_104 (dk_at dksX2_goesLine_0 17 rfl rfl)
theorem dX2_goesLine_18 : decode cX2_goesLine 18 = .ok (.iadd, 1) := dk_96 (dk_at dksX2_goesLine_0 18 rfl rfl)
theorem dX2_goesLine_19 : decode cX2_goesLine 19 = .ok (.istore_n 1, 1) := dk_60 (dk_at dksX2_goesLine_0 19 rfl rfl)
theorem dX2_goesLine_20 : decode cX2_goesLine 20 = .ok (.aload_n 0, 1) := dk_42 (dk_at dksX2_goesLine_0 20 rfl rfl)
theorem dX2_goesLine_21 : decode cX2_goesLine 21 = .ok (.invokevirtual 240, 3) := dk_182 0 240 (dk_at dksX2_goesLine_0 21 rfl rfl)
theorem dX2_goesLine_24 : decode cX2_goesLine 24 = .ok (.istore_n 2, 1) := dk_61 (dk_at dksX2_goesLine_1 0 rfl rfl)
theorem dX2_goesLine_25 : decode cX2_goesLine 25 = .ok (.aload_n 0, 1) := dk_42 (dk_at dksX2_goesLine_1 1 rfl rfl)
theorem dX2_goesLine_26 : decode cX2_goesLine 26 = .ok (.invokevirtual 150, 3) := dk_182 0 150 (dk_at dksX2_goesLine_1 2 rfl rfl)
theorem dX2_goesLine_29 : decode cX2_goesLine 29 = .ok (.aload_n 0, 1) := dk_42 (dk_at dksX2_goesLine_1 5 rfl rfl)
theorem dX2_goesLine_30 : decode cX2_goesLine 30 = .ok (.invokevirtual 226, 3) := dk_182 0 226 (dk_at dksX2_goesLine_1 6 rfl rfl)
theorem dX2_goesLine_33 : decode cX2_goesLine 33 = .ok (.istore_n 3, 1) := dk_62 (dk_at dksX2_goesLine_1 9 rfl rfl)
theorem dX2_goesLine_34 : decode cX2_goesLine 34 = .ok (.aload_n 0, 1) := dk_42 (dk_at dksX2_goesLine_1 10 rfl rfl)
theorem dX2_goesLine_35 : decode cX2_goesLine 35 = .ok (.ldc 237, 2) := dk_18 237 (dk_at dksX2_goesLine_1 11 rfl rfl)
theorem dX2_goesLine_37 : decode cX2_goesLine 37 = .ok (.invokevirtual 156, 3) := dk_182 0 156 (dk_at dksX2_goesLine_1 13 rfl rfl)
theorem dX2_goesLine_40 : decode cX2_goesLine 40 = .ok (.aload_n 0, 1) := dk_42 (dk_at dksX2_goesLine_1 16 rfl rfl)
theorem dX2_goesLine_41 : decode cX2_goesLine 41 = .ok (.iconst 1, 1) := dk_4 (dk_at dksX2_goesLine_1 17 rfl rfl)
theorem dX2_goesLine_42 : decode cX2_goesLine 42 = .ok (.bipush 59, 2) := dk_16 59 (dk_at dksX2_goesLine_1 18 rfl rfl)
theorem dX2_goesLine_44 : decode cX2_goesLine 44 = .ok (.invokevirtual 153, 3) := dk_182 0 153 (dk_at dksX2_goesLine_1 20 rfl rfl)
theorem dX2_goesLine_47 : decode cX2_goesLine 47 = .ok (.istore 4, 2) := dk_54 4 (dk_at dksX2_goesLine_2 0 rfl rfl)
theorem dX2_goesLine_49 : decode cX2_goesLine 49 = .ok (.iconst 0, 1) := dk_3 (dk_at dksX2_goesLine_2 2 rfl rfl)
theorem dX2_goesLine_50 : decode cX2_goesLine 50 = .ok (.istore 5, 2) := dk_54 5 (dk_at dksX2_goesLine_2 3 rfl rfl)
theorem dX2_goesLine_52 : decode cX2_goesLine 52 = .ok (.iload 5, 2) := dk_21 5 (dk_at dksX2_goesLine_2 5 rfl rfl)
theorem dX2_goesLine_54 : decode cX2_goesLine 54 = .ok (.aload_n 0, 1) := dk_42 (dk_at dksX2_goesLine_2 7 rfl rfl)
theorem dX2_goesLine_55 : decode cX2_goesLine 55 = .ok (.getfield 23, 3) := dk_180 0 23 (dk_at dksX2_goesLine_2 8 rfl rfl)
theorem dX2_goesLine_58 : decode cX2_goesLine 58 = .ok (.iconst 4, 1) := dk_7 (dk_at dksX2_goesLine_2 11 rfl rfl)
theorem dX2_goesLine_59 : decode cX2_goesLine 59 = .ok (.iaload, 1) := dk_46 (dk_at dksX2_goesLine_2 12 rfl rfl)
theorem dX2_goesLine_60 : decode cX2_goesLine 60 = .ok (.if_icmp .ge 61, 3) := dk_162 0 61 (dk_at dksX2_goesLine_2 13 rfl rfl)
theorem dX2_goesLine_63 : decode cX2_goesLine 63 = .ok (.aload_n 0, 1) := dk_42 (dk_at dksX2_goesLine_2 16 rfl rfl)
theorem dX2_goesLine_64 : decode cX2_goesLine 64 = .ok (.getfield 85, 3) := dk_180 0 85 (dk_at dksX2_goesLine_2 17 rfl rfl)
theorem dX2_goesLine_67 : decode cX2_goesLine 67 = .ok (.ifCond .ne 48, 3) := dk_154 0 48 (dk_at dksX2_goesLine_2 20 rfl rfl)
theorem dX2_goesLine_70 : decode cX2_goesLine 70 = .ok (.aload_n 0, 1) := dk_42 (dk_at dksX2_goesLine_2 23 rfl rfl)
theorem dX2_goesLine_71 : decode cX2_goesLine 71 = .ok (.getfield 23, 3) := dk_180 0 23 (dk_at dksX2_goesLine_3 0 rfl rfl)
theorem dX2_goesLine_74 : decode cX2_goesLine 74 = .ok (.bipush 50, 2) := dk_16 50 (dk_at dksX2_goesLine_3 3 rfl rfl)
theorem dX2_goesLine_76 : decode cX2_goesLine 76 = .ok (.iconst 3, 1) := dk_6 (dk_at dksX2_goesLine_3 5 rfl rfl)
theorem dX2_goesLine_77 : decode cX2_goesLine 77 = .ok (.iload 5, 2) := dk_21 5 (dk_at dksX2_goesLine_3 6 rfl rfl)
theorem dX2_goesLine_79 : decode cX2_goesLine 79 = .ok (.imul, 1) := dk_104 (dk_at dksX2_goesLine_3 8 rfl rfl)
theorem dX2_goesLine_80 : decode cX2_goesLine 80 = .ok (.iadd, 1) := dk_96 (dk_at dksX2_goesLine_3 9 rfl rfl)
theorem dX2_goesLine_81 : decode cX2_goesLine 81 = .ok (.iaload, 1) := dk_46 (dk_at dksX2_goesLine_3 10 rfl rfl)
theorem dX2_goesLine_82 : decode cX2_goesLine 82 = .ok (.iload_n 2, 1) := dk_28 (dk_at dksX2_goesLine_3 11 rfl rfl)
theorem dX2_goesLine_83 : decode cX2_goesLine 83 = .ok (.if_icmp .ne 32, 3) := dk_160 0 32 (dk_at dksX2_goesLine_3 12 rfl rfl)
theorem dX2_goesLine_86 : decode cX2_goesLine 86 = .ok (.aload_n 0, 1) := dk_42 (dk_at dksX2_goesLine_3 15 rfl rfl)
theorem dX2_goesLine_87 : decode cX2_goesLine 87 = .ok (.getfield 23, 3) := dk_180 0 23 (dk_at dksX2_goesLine_3 16 rfl rfl)
theorem dX2_goesLine_90 : decode cX2_goesLine 90 = .ok (.bipush 50, 2) := dk_16 50 (dk_at dksX2_goesLine_3 19 rfl rfl)
theorem dX2_goesLine_92 : decode cX2_goesLine 92 = .ok (.iconst 3, 1) := dk_6 (dk_at dksX2_goesLine_3 21 rfl rfl)
theorem dX2_goesLine_93 : decode cX2_goesLine 93 = .ok (.iload 5, 2) := dk_21 5 (dk_at dksX2_goesLine_3 22 rfl rfl)
theorem dX2_goesLine_95 : decode cX2_goesLine 95 = .ok (.imul, 1) := dk_104 (dk_at dksX2_goesLine_4 0 rfl rfl)
theorem dX2_goesLine_96 : decode cX2_goesLine 96 = .ok (.iadd, 1) := dk_96 (dk_at dksX2_goesLine_4 1 rfl rfl)
theorem dX2_goesLine_97 : decode cX2_goesLine 97 = .ok (.iconst 2, 1) := dk_5 (dk_at dksX2_goesLine_4 2 rfl rfl)
theorem dX2_goesLine_98 : decode cX2_goesLine 98 = .ok (.iadd, 1) := dk_96 (dk_at dksX2_goesLine_4 3 rfl rfl)
theorem dX2_goesLine_99 : decode cX2_goesLine 99 = .ok (.iaload, 1) := dk_46 (dk_at dksX2_goesLine_4 4 rfl rfl)
theorem dX2_goesLine_100 : decode cX2_goesLine 100 = .ok (.iload 4, 2) := dk_21 4 (dk_at dksX2_goesLine_4 5 rfl rfl)
theorem dX2_goesLine_102 : decode cX2_goesLine 102 = .ok (.if_icmp .lt 13, 3) := dk_161 0 13 (dk_at dksX2_goesLine_4 7 rfl rfl)
theorem dX2_goesLine_105 : decode cX2_goesLine 105 = .ok (.aload_n 0, 1) := dk_42 (dk_at dksX2_goesLine_4 10 rfl rfl)
theorem dX2_goesLine_106 : decode cX2_goesLine 106 = .ok (.bipush 7, 2) := dk_16 7 (dk_at dksX2_goesLine_4 11 rfl rfl)
theorem dX2_goesLine_108 : decode cX2_goesLine 108 = .ok (.aload_n 0, 1) := dk_42 (dk_at dksX2_goesLine_4 13 rfl rfl)
theorem dX2_goesLine_109 : decode cX2_goesLine 109 = .ok (.getfield 66, 3) := dk_180 0 66 (dk_at dksX2_goesLine_4 14 rfl rfl)
theorem dX2_goesLine_112 : decode cX2_goesLine 112 = .ok (.invokevirtual 112, 3) := dk_182 0 112 (dk_at dksX2_goesLine_4 17 rfl rfl)
theorem dX2_goesLine_115 : decode cX2_goesLine 115 = .ok (.iinc 5 1, 3) := dk_132 5 1 (dk_at dksX2_goesLine_4 20 rfl rfl)
theorem dX2_goesLine_118 : decode cX2_goesLine 118 = .ok (.goto (-66), 3) := dk_167 255 190 (dk_at dksX2_goesLine_5 0 rfl rfl)
theorem dX2_goesLine_121 : decode cX2_goesLine 121 = .ok (.aload_n 0, 1) := dk_42 (dk_at dksX2_goesLine_5 3 rfl rfl)
theorem dX2_goesLine_122 : decode cX2_goesLine 122 = .ok (.invokevirtual 150, 3) := dk_182 0 150 (dk_at dksX2_goesLine_5 4 rfl rfl)
theorem dX2_goesLine_125 : decode cX2_goesLine 125 = .ok (.aload_n 0, 1) := dk_42 (dk_at dksX2_goesLine_5 7 rfl rfl)
theorem dX2_goesLine_126 : decode cX2_goesLine 126 = .ok (.getfield 85, 3) := dk_180 0 85 (dk_at dksX2_goesLine_5 8 rfl rfl)
theorem dX2_goesLine_129 : decode cX2_goesLine 129 = .ok (.ifCond .eq 4, 3) := dk_153 0 4 (dk_at dksX2_goesLine_5 11 rfl rfl)
theorem dX2_goesLine_132 : decode cX2_goesLine 132 = .ok (.return_, 1) := dk_177 (dk_at dksX2_goesLine_5 14 rfl rfl)
theorem dX2_goesLine_133 : decode cX2_goesLine 133 = .ok (.aload_n 0, 1) := dk_42 (dk_at dksX2_goesLine_5 15 rfl rfl)
theorem dX2_goesLine_134 : decode cX2_goesLine 134 = .ok (.getfield 23, 3) := dk_180 0 23 (dk_at dksX2_goesLine_5 16 rfl rfl)
theorem dX2_goesLine_137 : decode cX2_goesLine 137 = .ok (.iload_n 1, 1) := dk_27 (dk_at dksX2_goesLine_5 19 rfl rfl)
theorem dX2_goesLine_138 : decode cX2_goesLine 138 = .ok (.iload_n 2, 1) := dk_28 (dk_at dksX2_goesLine_5 20 rfl rfl)
theorem dX2_goesLine_139 : decode cX2_goesLine 139 = .ok (.iastore, 1) := dk_79 (dk_at dksX2_goesLine_5 21 rfl rfl)
theorem dX2_goesLine_140 : decode cX2_goesLine 140 = .ok (.aload_n 0, 1) := dk_42 (dk_at dksX2_goesLine_5 22 rfl rfl)
theorem dX2_goesLine_141 : decode cX2_goesLine 141 = .ok (.getfield 23, 3) := dk_180 0 23 (dk_at dksX2_goesLine_6 0 rfl rfl)
theorem dX2_goesLine_144 : decode cX2_goesLine 144 = .ok (.iload_n 1, 1) := dk_27 (dk_at dksX2_goesLine_6 3 rfl rfl)
theorem dX2_goesLine_145 : decode cX2_goesLine 145 = .ok (.iconst 1, 1) := dk_4 (dk_at dksX2_goesLine_6 4 rfl rfl)
theorem dX2_goesLine_146 : decode cX2_goesLine 146 = .ok (.iadd, 1) := dk_96 (dk_at dksX2_goesLine_6 5 rfl rfl)
theorem dX2_goesLine_147 : decode cX2_goesLine 147 = .ok (.iload_n 3, 1) := dk_29 (dk_at dksX2_goesLine_6 6 rfl rfl)
theorem dX2_goesLine_148 : decode cX2_goesLine 148 = .ok (.iastore, 1) := dk_79 (dk_at dksX2_goesLine_6 7 rfl rfl)
theorem dX2_goesLine_149 : decode cX2_goesLine 149 = .ok (.aload_n 0, 1) := dk_42 (dk_at dksX2_goesLine_6 8 rfl rfl)
theorem dX2_goesLine_150 : decode cX2_goesLine 150 = .ok (.getfield 23, 3) := dk_180 0 23 (dk_at dksX2_goesLine_6 9 rfl rfl)
theorem dX2_goesLine_153 : decode cX2_goesLine 153 = .ok (.iload_n 1, 1) := dk_27 (dk_at dksX2_goesLine_6 12 rfl rfl)
theorem dX2_goesLine_154 : decode cX2_goesLine 154 = .ok (.iconst 2, 1) := dk_5 (dk_at dksX2_goesLine_6 13 rfl rfl)
theorem dX2_goesLine_155 : decode cX2_goesLine 155 = .ok (.iadd, 1) := dk_96 (dk_at dksX2_goesLine_6 14 rfl rfl)
theorem dX2_goesLine_156 : decode cX2_goesLine 156 = .ok (.iload 4, 2) := dk_21 4 (dk_at dksX2_goesLine_6 15 rfl rfl)
theorem dX2_goesLine_158 : decode cX2_goesLine 158 = .ok (.iastore, 1) := dk_79 (dk_at dksX2_goesLine_6 17 rfl rfl)
theorem dX2_goesLine_159 : decode cX2_goesLine 159 = .ok (.aload_n 0, 1) := dk_42 (dk_at dksX2_goesLine_6 18 rfl rfl)
theorem dX2_goesLine_160 : decode cX2_goesLine 160 = .ok (.getfield 23, 3) := dk_180 0 23 (dk_at dksX2_goesLine_6 19 rfl rfl)
theorem dX2_goesLine_163 : decode cX2_goesLine 163 = .ok (.iconst 4, 1) := dk_7 (dk_at dksX2_goesLine_6 22 rfl rfl)
theorem dX2_goesLine_164 : decode cX2_goesLine 164 = .ok (.dup2, 1) := dk_92 (dk_at dksX2_goesLine_6 23 rfl rfl)
theorem dX2_goesLine_165 : decode cX2_goesLine 165 = .ok (.iaload, 1) := dk_46 (dk_at dksX2_goesLine_7 0 rfl rfl)
theorem dX2_goesLine_166 : decode cX2_goesLine 166 = .ok (.iconst 1, 1) := dk_4 (dk_at dksX2_goesLine_7 1 rfl rfl)
theorem dX2_goesLine_167 : decode cX2_goesLine 167 = .ok (.iadd, 1) := dk_96 (dk_at dksX2_goesLine_7 2 rfl rfl)
theorem dX2_goesLine_168 : decode cX2_goesLine 168 = .ok (.iastore, 1) := dk_79 (dk_at dksX2_goesLine_7 3 rfl rfl)
theorem dX2_goesLine_169 : decode cX2_goesLine 169 = .ok (.return_, 1) := dk_177 (dk_at dksX2_goesLine_7 4 rfl rfl)
abbrev cX2_personHere : ByteArray := prog_15_method_25_code
def yX2_personHere : MethodName := ⟨RX2, "personHere", "()I"⟩
def dkwX2_personHere_0 : List UInt8 := [42, 16, 6, 16, 11, 182, 0, 143, 172]
abbrev dktX2_personHere_0 : List UInt8 := dkwX2_personHere_0 ++ []
theorem dksX2_personHere_0 : cX2_personHere.data.toList.drop 0 = dktX2_personHere_0 := by decide +kernel
theorem dX2_personHere_0 : decode cX2_personHere 0 = .ok (.aload_n 0, 1) := dk_42 (dk_at dksX2_personHere_0 0 rfl rfl)
theorem dX2_personHere_1 : decode cX2_personHere 1 = .ok (.bipush 6, 2) := dk_16 6 (dk_at dksX2_personHere_0 1 rfl rfl)
theorem dX2_personHere_3 : decode cX2_personHere 3 = .ok (.bipush 11, 2) := dk_16 11 (dk_at dksX2_personHere_0 3 rfl rfl)
theorem dX2_personHere_5 : decode cX2_personHere 5 = .ok (.invokevirtual 143, 3) := dk_182 0 143 (dk_at dksX2_personHere_0 5 rfl rfl)
theorem dX2_personHere_8 : decode cX2_personHere 8 = .ok (.ireturn, 1) := dk_172 (dk_at dksX2_personHere_0 8 rfl rfl)
abbrev cX2_quarrelLine : ByteArray := prog_15_method_39_code
def yX2_quarrelLine : MethodName := ⟨RX2, "quarrelLine", "()V"⟩
def dkwX2_quarrelLine_7 : List UInt8 := [96, 79, 177]
abbrev dktX2_quarrelLine_7 : List UInt8 := dkwX2_quarrelLine_7 ++ []
def dkwX2_quarrelLine_6 : List UInt8 := [27, 6, 96, 21, 5, 79, 42, 180, 0, 23, 27, 7, 96, 21, 6, 79, 42, 180, 0, 23, 8, 92, 46, 4]
abbrev dktX2_quarrelLine_6 : List UInt8 := dkwX2_quarrelLine_6 ++ dktX2_quarrelLine_7
def dkwX2_quarrelLine_5 : List UInt8 := [79, 42, 180, 0, 23, 27, 4, 96, 29, 79, 42, 180, 0, 23, 27, 5, 96, 21, 4, 79, 42, 180, 0, 23]
abbrev dktX2_quarrelLine_5 : List UInt8 := dkwX2_quarrelLine_5 ++ dktX2_quarrelLine_6
def dkwX2_quarrelLine_4 : List UInt8 := [18, 245, 4, 16, 99, 182, 0, 218, 54, 6, 42, 180, 0, 85, 153, 0, 4, 177, 42, 180, 0, 23, 27, 28]
abbrev dktX2_quarrelLine_4 : List UInt8 := dkwX2_quarrelLine_4 ++ dktX2_quarrelLine_5
def dkwX2_quarrelLine_3 : List UInt8 := [42, 18, 237, 182, 0, 156, 42, 182, 0, 226, 54, 4, 42, 18, 243, 3, 16, 59, 182, 0, 218, 54, 5, 42]
abbrev dktX2_quarrelLine_3 : List UInt8 := dkwX2_quarrelLine_3 ++ dktX2_quarrelLine_4
def dkwX2_quarrelLine_2 : List UInt8 := [180, 0, 85, 154, 0, 17, 28, 29, 160, 0, 12, 42, 6, 42, 180, 0, 66, 182, 0, 112, 42, 182, 0, 150]
abbrev dktX2_quarrelLine_2 : List UInt8 := dkwX2_quarrelLine_2 ++ dktX2_quarrelLine_3
def dkwX2_quarrelLine_1 : List UInt8 := [180, 0, 23, 8, 46, 96, 182, 0, 222, 42, 182, 0, 240, 61, 42, 182, 0, 150, 42, 182, 0, 240, 62, 42]
abbrev dktX2_quarrelLine_1 : List UInt8 := dkwX2_quarrelLine_1 ++ dktX2_quarrelLine_2
def dkwX2_quarrelLine_0 : List UInt8 := [42, 180, 0, 85, 153, 0, 4, 177, 16, 80, 8, 42, 180, 0, 23, 8, 46, 104, 96, 60, 42, 16, 12, 42]
abbrev dktX2_quarrelLine_0 : List UInt8 := dkwX2_quarrelLine_0 ++ dktX2_quarrelLine_1
theorem dksX2_quarrelLine_0 : cX2_quarrelLine.data.toList.drop 0 = dktX2_quarrelLine_0 := by decide +kernel
theorem dksX2_quarrelLine_1 : cX2_quarrelLine.data.toList.drop 24 = dktX2_quarrelLine_1 := dk_seg dksX2_quarrelLine_0 24 rfl rfl
theorem dksX2_quarrelLine_2 : cX2_quarrelLine.data.toList.drop 48 = dktX2_quarrelLine_2 := dk_seg dksX2_quarrelLine_1 24 rfl rfl
theorem dksX2_quarrelLine_3 : cX2_quarrelLine.data.toList.drop 72 = dktX2_quarrelLine_3 := dk_seg dksX2_quarrelLine_2 24 rfl rfl
theorem dksX2_quarrelLine_4 : cX2_quarrelLine.data.toList.drop 96 = dktX2_quarrelLine_4 := dk_seg dksX2_quarrelLine_3 24 rfl rfl
theorem dksX2_quarrelLine_5 : cX2_quarrelLine.data.toList.drop 120 = dktX2_quarrelLine_5 := dk_seg dksX2_quarrelLine_4 24 rfl rfl
theorem dksX2_quarrelLine_6 : cX2_quarrelLine.data.toList.drop 144 = dktX2_quarrelLine_6 := dk_seg dksX2_quarrelLine_5 24 rfl rfl
theorem dksX2_quarrelLine_7 : cX2_quarrelLine.data.toList.drop 168 = dktX2_quarrelLine_7 := dk_seg dksX2_quarrelLine_6 24 rfl rfl
theorem dX2_quarrelLine_0 : decode cX2_quarrelLine 0 = .ok (.aload_n 0, 1) := dk_42 (dk_at dksX2_quarrelLine_0 0 rfl rfl)
theorem dX2_quarrelLine_1 : decode cX2_quarrelLine 1 = .ok (.getfield 85, 3) := dk_180 0 85 (dk_at dksX2_quarrelLine_0 1 rfl rfl)
theorem dX2_quarrelLine_4 : decode cX2_quarrelLine 4 = .ok (.ifCond .eq 4, 3) := dk_153 0 4 (dk_at dksX2_quarrelLine_0 4 rfl rfl)
theorem dX2_quarrelLine_7 : decode cX2_quarrelLine 7 = .ok (.return_, 1) := dk_177 (dk_at dksX2_quarrelLine_0 7 rfl rfl)
theorem dX2_quarrelLine_8 : decode cX2_quarrelLine 8 = .ok (.bipush 80, 2) := dk_16 80 (dk_at dksX2_quarrelLine_0 8 rfl rfl)
theorem dX2_quarrelLine_10 : decode cX2_quarrelLine 10 = .ok (.iconst 5, 1) := dk_8 (dk_at dksX2_quarrelLine_0 10 rfl rfl)
theorem dX2_quarrelLine_11 : decode cX2_quarrelLine 11 = .ok (.aload_n 0, 1) := dk_42 (dk_at dksX2_quarrelLine_0 11 rfl rfl)
theorem dX2_quarrelLine_12 : decode cX2_quarrelLine 12 = .ok (.getfield 23, 3) := dk_180 0 23 (dk_at dksX2_quarrelLine_0 12 rfl rfl)
theorem dX2_quarrelLine_15 : decode cX2_quarrelLine 15 = .ok (.iconst 5, 1) := dk_8 (dk_at dksX2_quarrelLine_0 15 rfl rfl)
theorem dX2_quarrelLine_16 : decode cX2_quarrelLine 16 = .ok (.iaload, 1) := dk_46 (dk_at dksX2_quarrelLine_0 16 rfl rfl)
theorem dX2_quarrelLine_17 : decode cX2_quarrelLine 17 = .ok (.imul, 1) := dk_104 (dk_at dksX2_quarrelLine_0 17 rfl rfl)
theorem dX2_quarrelLine_18 : decode cX2_quarrelLine 18 = .ok (.iadd, 1) := dk_96 (dk_at dksX2_quarrelLine_0 18 rfl rfl)
theorem dX2_quarrelLine_19 : decode cX2_quarrelLine 19 = .ok (.istore_n 1, 1) := dk_60 (dk_at dksX2_quarrelLine_0 19 rfl rfl)
theorem dX2_quarrelLine_20 : decode cX2_quarrelLine 20 = .ok (.aload_n 0, 1) := dk_42 (dk_at dksX2_quarrelLine_0 20 rfl rfl)
theorem dX2_quarrelLine_21 : decode cX2_quarrelLine 21 = .ok (.bipush 12, 2) := dk_16 12 (dk_at dksX2_quarrelLine_0 21 rfl rfl)
theorem dX2_quarrelLine_23 : decode cX2_quarrelLine 23 = .ok (.aload_n 0, 1) := dk_42 (dk_at dksX2_quarrelLine_0 23 rfl rfl)
theorem dX2_quarrelLine_24 : decode cX2_quarrelLine 24 = .ok (.getfield 23, 3) := dk_180 0 23 (dk_at dksX2_quarrelLine_1 0 rfl rfl)
theorem dX2_quarrelLine_27 : decode cX2_quarrelLine 27 = .ok (.iconst 5, 1) := dk_8 (dk_at dksX2_quarrelLine_1 3 rfl rfl)
theorem dX2_quarrelLine_28 : decode cX2_quarrelLine 28 = .ok (.iaload, 1) := dk_46 (dk_at dksX2_quarrelLine_1 4 rfl rfl)
theorem dX2_quarrelLine_29 : decode cX2_quarrelLine 29 = .ok (.iadd, 1) := dk_96 (dk_at dksX2_quarrelLine_1 5 rfl rfl)
theorem dX2_quarrelLine_30 : decode cX2_quarrelLine 30 = .ok (.invokevirtual 222, 3) := dk_182 0 222 (dk_at dksX2_quarrelLine_1 6 rfl rfl)
theorem dX2_quarrelLine_33 : decode cX2_quarrelLine 33 = .ok (.aload_n 0, 1) := dk_42 (dk_at dksX2_quarrelLine_1 9 rfl rfl)
theorem dX2_quarrelLine_34 : decode cX2_quarrelLine 34 = .ok (.invokevirtual 240, 3) := dk_182 0 240 (dk_at dksX2_quarrelLine_1 10 rfl rfl)
theorem dX2_quarrelLine_37 : decode cX2_quarrelLine 37 = .ok (.istore_n 2, 1) := dk_61 (dk_at dksX2_quarrelLine_1 13 rfl rfl)
theorem dX2_quarrelLine_38 : decode cX2_quarrelLine 38 = .ok (.aload_n 0, 1) := dk_42 (dk_at dksX2_quarrelLine_1 14 rfl rfl)
theorem dX2_quarrelLine_39 : decode cX2_quarrelLine 39 = .ok (.invokevirtual 150, 3) := dk_182 0 150 (dk_at dksX2_quarrelLine_1 15 rfl rfl)
theorem dX2_quarrelLine_42 : decode cX2_quarrelLine 42 = .ok (.aload_n 0, 1) := dk_42 (dk_at dksX2_quarrelLine_1 18 rfl rfl)
theorem dX2_quarrelLine_43 : decode cX2_quarrelLine 43 = .ok (.invokevirtual 240, 3) := dk_182 0 240 (dk_at dksX2_quarrelLine_1 19 rfl rfl)
theorem dX2_quarrelLine_46 : decode cX2_quarrelLine 46 = .ok (.istore_n 3, 1) := dk_62 (dk_at dksX2_quarrelLine_1 22 rfl rfl)
theorem dX2_quarrelLine_47 : decode cX2_quarrelLine 47 = .ok (.aload_n 0, 1) := dk_42 (dk_at dksX2_quarrelLine_1 23 rfl rfl)
theorem dX2_quarrelLine_48 : decode cX2_quarrelLine 48 = .ok (.getfield 85, 3) := dk_180 0 85 (dk_at dksX2_quarrelLine_2 0 rfl rfl)
theorem dX2_quarrelLine_51 : decode cX2_quarrelLine 51 = .ok (.ifCond .ne 17, 3) := dk_154 0 17 (dk_at dksX2_quarrelLine_2 3 rfl rfl)
theorem dX2_quarrelLine_54 : decode cX2_quarrelLine 54 = .ok (.iload_n 2, 1) := dk_28 (dk_at dksX2_quarrelLine_2 6 rfl rfl)
theorem dX2_quarrelLine_55 : decode cX2_quarrelLine 55 = .ok (.iload_n 3, 1) := dk_29 (dk_at dksX2_quarrelLine_2 7 rfl rfl)
theorem dX2_quarrelLine_56 : decode cX2_quarrelLine 56 = .ok (.if_icmp .ne 12, 3) := dk_160 0 12 (dk_at dksX2_quarrelLine_2 8 rfl rfl)
theorem dX2_quarrelLine_59 : decode cX2_quarrelLine 59 = .ok (.aload_n 0, 1) := dk_42 (dk_at dksX2_quarrelLine_2 11 rfl rfl)
theorem dX2_quarrelLine_60 : decode cX2_quarrelLine 60 = .ok (.iconst 3, 1) := dk_6 (dk_at dksX2_quarrelLine_2 12 rfl rfl)
theorem dX2_quarrelLine_61 : decode cX2_quarrelLine 61 = .ok (.aload_n 0, 1) := dk_42 (dk_at dksX2_quarrelLine_2 13 rfl rfl)
theorem dX2_quarrelLine_62 : decode cX2_quarrelLine 62 = .ok (.getfield 66, 3) := dk_180 0 66 (dk_at dksX2_quarrelLine_2 14 rfl rfl)
theorem dX2_quarrelLine_65 : decode cX2_quarrelLine 65 = .ok (.invokevirtual 112, 3) := dk_182 0 112 (dk_at dksX2_quarrelLine_2 17 rfl rfl)
theorem dX2_quarrelLine_68 : decode cX2_quarrelLine 68 = .ok (.aload_n 0, 1) := dk_42 (dk_at dksX2_quarrelLine_2 20 rfl rfl)
theorem dX2_quarrelLine_69 : decode cX2_quarrelLine 69 = .ok (.invokevirtual 150, 3) := dk_182 0 150 (dk_at dksX2_quarrelLine_2 21 rfl rfl)
theorem dX2_quarrelLine_72 : decode cX2_quarrelLine 72 = .ok (.aload_n 0, 1) := dk_42 (dk_at dksX2_quarrelLine_3 0 rfl rfl)
theorem dX2_quarrelLine_73 : decode cX2_quarrelLine 73 = .ok (.ldc 237, 2) := dk_18 237 (dk_at dksX2_quarrelLine_3 1 rfl rfl)
theorem dX2_quarrelLine_75 : decode cX2_quarrelLine 75 = .ok (.invokevirtual 156, 3) := dk_182 0 156 (dk_at dksX2_quarrelLine_3 3 rfl rfl)
theorem dX2_quarrelLine_78 : decode cX2_quarrelLine 78 = .ok (.aload_n 0, 1) := dk_42 (dk_at dksX2_quarrelLine_3 6 rfl rfl)
theorem dX2_quarrelLine_79 : decode cX2_quarrelLine 79 = .ok (.invokevirtual 226, 3) := dk_182 0 226 (dk_at dksX2_quarrelLine_3 7 rfl rfl)
theorem dX2_quarrelLine_82 : decode cX2_quarrelLine 82 = .ok (.istore 4, 2) := dk_54 4 (dk_at dksX2_quarrelLine_3 10 rfl rfl)
theorem dX2_quarrelLine_84 : decode cX2_quarrelLine 84 = .ok (.aload_n 0, 1) := dk_42 (dk_at dksX2_quarrelLine_3 12 rfl rfl)
theorem dX2_quarrelLine_85 : decode cX2_quarrelLine 85 = .ok (.ldc 243, 2) := dk_18 243 (dk_at dksX2_quarrelLine_3 13 rfl rfl)
theorem dX2_quarrelLine_87 : decode cX2_quarrelLine 87 = .ok (.iconst 0, 1) := dk_3 (dk_at dksX2_quarrelLine_3 15 rfl rfl)
theorem dX2_quarrelLine_88 : decode cX2_quarrelLine 88 = .ok (.bipush 59, 2) := dk_16 59 (dk_at dksX2_quarrelLine_3 16 rfl rfl)
theorem dX2_quarrelLine_90 : decode cX2_quarrelLine 90 = .ok (.invokevirtual 218, 3) := dk_182 0 218 (dk_at dksX2_quarrelLine_3 18 rfl rfl)
theorem dX2_quarrelLine_93 : decode cX2_quarrelLine 93 = .ok (.istore 5, 2) := dk_54 5 (dk_at dksX2_quarrelLine_3 21 rfl rfl)
theorem dX2_quarrelLine_95 : decode cX2_quarrelLine 95 = .ok (.aload_n 0, 1) := dk_42 (dk_at dksX2_quarrelLine_3 23 rfl rfl)
theorem dX2_quarrelLine_96 : decode cX2_quarrelLine 96 = .ok (.ldc 245, 2) := dk_18 245 (dk_at dksX2_quarrelLine_4 0 rfl rfl)
theorem dX2_quarrelLine_98 : decode cX2_quarrelLine 98 = .ok (.iconst 1, 1) := dk_4 (dk_at dksX2_quarrelLine_4 2 rfl rfl)
theorem dX2_quarrelLine_99 : decode cX2_quarrelLine 99 = .ok (.bipush 99, 2) := dk_16 99 (dk_at dksX2_quarrelLine_4 3 rfl rfl)
theorem dX2_quarrelLine_101 : decode cX2_quarrelLine 101 = .ok (.invokevirtual 218, 3) := dk_182 0 218 (dk_at dksX2_quarrelLine_4 5 rfl rfl)
theorem dX2_quarrelLine_104 : decode cX2_quarrelLine 104 = .ok (.istore 6, 2) := dk_54 6 (dk_at dksX2_quarrelLine_4 8 rfl rfl)
theorem dX2_quarrelLine_106 : decode cX2_quarrelLine 106 = .ok (.aload_n 0, 1) := dk_42 (dk_at dksX2_quarrelLine_4 10 rfl rfl)
theorem dX2_quarrelLine_107 : decode cX2_quarrelLine 107 = .ok (.getfield 85, 3) := dk_180 0 85 (dk_at dksX2_quarrelLine_4 11 rfl rfl)
theorem dX2_quarrelLine_110 : decode cX2_quarrelLine 110 = .ok (.ifCond .eq 4, 3) := dk_153 0 4 (dk_at dksX2_quarrelLine_4 14 rfl rfl)
theorem dX2_quarrelLine_113 : decode cX2_quarrelLine 113 = .ok (.return_, 1) := dk_177 (dk_at dksX2_quarrelLine_4 17 rfl rfl)
theorem dX2_quarrelLine_114 : decode cX2_quarrelLine 114 = .ok (.aload_n 0, 1) := dk_42 (dk_at dksX2_quarrelLine_4 18 rfl rfl)
theorem dX2_quarrelLine_115 : decode cX2_quarrelLine 115 = .ok (.getfield 23, 3) := dk_180 0 23 (dk_at dksX2_quarrelLine_4 19 rfl rfl)
theorem dX2_quarrelLine_118 : decode cX2_quarrelLine 118 = .ok (.iload_n 1, 1) := dk_27 (dk_at dksX2_quarrelLine_4 22 rfl rfl)
theorem dX2_quarrelLine_119 : decode cX2_quarrelLine 119 = .ok (.iload_n 2, 1) := dk_28 (dk_at dksX2_quarrelLine_4 23 rfl rfl)
theorem dX2_quarrelLine_120 : decode cX2_quarrelLine 120 = .ok (.iastore, 1) := dk_79 (dk_at dksX2_quarrelLine_5 0 rfl rfl)
theorem dX2_quarrelLine_121 : decode cX2_quarrelLine 121 = .ok (.aload_n 0, 1) := dk_42 (dk_at dksX2_quarrelLine_5 1 rfl rfl)
theorem dX2_quarrelLine_122 : decode cX2_quarrelLine 122 = .ok (.getfield 23, 3) := dk_180 0 23 (dk_at dksX2_quarrelLine_5 2 rfl rfl)
theorem dX2_quarrelLine_125 : decode cX2_quarrelLine 125 = .ok (.iload_n 1, 1) := dk_27 (dk_at dksX2_quarrelLine_5 5 rfl rfl)
theorem dX2_quarrelLine_126 : decode cX2_quarrelLine 126 = .ok (.iconst 1, 1) := dk_4 (dk_at dksX2_quarrelLine_5 6 rfl rfl)
theorem dX2_quarrelLine_127 : decode cX2_quarrelLine 127 = .ok (.iadd, 1) := dk_96 (dk_at dksX2_quarrelLine_5 7 rfl rfl)
theorem dX2_quarrelLine_128 : decode cX2_quarrelLine 128 = .ok (.iload_n 3, 1) := dk_29 (dk_at dksX2_quarrelLine_5 8 rfl rfl)
theorem dX2_quarrelLine_129 : decode cX2_quarrelLine 129 = .ok (.iastore, 1) := dk_79 (dk_at dksX2_quarrelLine_5 9 rfl rfl)
theorem dX2_quarrelLine_130 : decode cX2_quarrelLine 130 = .ok (.aload_n 0, 1) := dk_42 (dk_at dksX2_quarrelLine_5 10 rfl rfl)
theorem dX2_quarrelLine_131 : decode cX2_quarrelLine 131 = .ok (.getfield 23, 3) := dk_180 0 23 (dk_at dksX2_quarrelLine_5 11 rfl rfl)
theorem dX2_quarrelLine_134 : decode cX2_quarrelLine 134 = .ok (.iload_n 1, 1) := dk_27 (dk_at dksX2_quarrelLine_5 14 rfl rfl)
theorem dX2_quarrelLine_135 : decode cX2_quarrelLine 135 = .ok (.iconst 2, 1) := dk_5 (dk_at dksX2_quarrelLine_5 15 rfl rfl)
theorem dX2_quarrelLine_136 : decode cX2_quarrelLine 136 = .ok (.iadd, 1) := dk_96 (dk_at dksX2_quarrelLine_5 16 rfl rfl)
theorem dX2_quarrelLine_137 : decode cX2_quarrelLine 137 = .ok (.iload 4, 2) := dk_21 4 (dk_at dksX2_quarrelLine_5 17 rfl rfl)
theorem dX2_quarrelLine_139 : decode cX2_quarrelLine 139 = .ok (.iastore, 1) := dk_79 (dk_at dksX2_quarrelLine_5 19 rfl rfl)
theorem dX2_quarrelLine_140 : decode cX2_quarrelLine 140 = .ok (.aload_n 0, 1) := dk_42 (dk_at dksX2_quarrelLine_5 20 rfl rfl)
theorem dX2_quarrelLine_141 : decode cX2_quarrelLine 141 = .ok (.getfield 23, 3) := dk_180 0 23 (dk_at dksX2_quarrelLine_5 21 rfl rfl)
theorem dX2_quarrelLine_144 : decode cX2_quarrelLine 144 = .ok (.iload_n 1, 1) := dk_27 (dk_at dksX2_quarrelLine_6 0 rfl rfl)
theorem dX2_quarrelLine_145 : decode cX2_quarrelLine 145 = .ok (.iconst 3, 1) := dk_6 (dk_at dksX2_quarrelLine_6 1 rfl rfl)
theorem dX2_quarrelLine_146 : decode cX2_quarrelLine 146 = .ok (.iadd, 1) := dk_96 (dk_at dksX2_quarrelLine_6 2 rfl rfl)
theorem dX2_quarrelLine_147 : decode cX2_quarrelLine 147 = .ok (.iload 5, 2) := dk_21 5 (dk_at dksX2_quarrelLine_6 3 rfl rfl)
theorem dX2_quarrelLine_149 : decode cX2_quarrelLine 149 = .ok (.iastore, 1) := dk_79 (dk_at dksX2_quarrelLine_6 5 rfl rfl)
theorem dX2_quarrelLine_150 : decode cX2_quarrelLine 150 = .ok (.aload_n 0, 1) := dk_42 (dk_at dksX2_quarrelLine_6 6 rfl rfl)
theorem dX2_quarrelLine_151 : decode cX2_quarrelLine 151 = .ok (.getfield 23, 3) := dk_180 0 23 (dk_at dksX2_quarrelLine_6 7 rfl rfl)
theorem dX2_quarrelLine_154 : decode cX2_quarrelLine 154 = .ok (.iload_n 1, 1) := dk_27 (dk_at dksX2_quarrelLine_6 10 rfl rfl)
theorem dX2_quarrelLine_155 : decode cX2_quarrelLine 155 = .ok (.iconst 4, 1) := dk_7 (dk_at dksX2_quarrelLine_6 11 rfl rfl)
theorem dX2_quarrelLine_156 : decode cX2_quarrelLine 156 = .ok (.iadd, 1) := dk_96 (dk_at dksX2_quarrelLine_6 12 rfl rfl)
theorem dX2_quarrelLine_157 : decode cX2_quarrelLine 157 = .ok (.iload 6, 2) := dk_21 6 (dk_at dksX2_quarrelLine_6 13 rfl rfl)
theorem dX2_quarrelLine_159 : decode cX2_quarrelLine 159 = .ok (.iastore, 1) := dk_79 (dk_at dksX2_quarrelLine_6 15 rfl rfl)
theorem dX2_quarrelLine_160 : decode cX2_quarrelLine 160 = .ok (.aload_n 0, 1) := dk_42 (dk_at dksX2_quarrelLine_6 16 rfl rfl)
theorem dX2_quarrelLine_161 : decode cX2_quarrelLine 161 = .ok (.getfield 23, 3) := dk_180 0 23 (dk_at dksX2_quarrelLine_6 17 rfl rfl)
theorem dX2_quarrelLine_164 : decode cX2_quarrelLine 164 = .ok (.iconst 5, 1) := dk_8 (dk_at dksX2_quarrelLine_6 20 rfl rfl)
theorem dX2_quarrelLine_165 : decode cX2_quarrelLine 165 = .ok (.dup2, 1) := dk_92 (dk_at dksX2_quarrelLine_6 21 rfl rfl)
theorem dX2_quarrelLine_166 : decode cX2_quarrelLine 166 = .ok (.iaload, 1) := dk_46 (dk_at dksX2_quarrelLine_6 22 rfl rfl)
theorem dX2_quarrelLine_167 : decode cX2_quarrelLine 167 = .ok (.iconst 1, 1) := dk_4 (dk_at dksX2_quarrelLine_6 23 rfl rfl)
theorem dX2_quarrelLine_168 : decode cX2_quarrelLine 168 = .ok (.iadd, 1) := dk_96 (dk_at dksX2_quarrelLine_7 0 rfl rfl)
theorem dX2_quarrelLine_169 : decode cX2_quarrelLine 169 = .ok (.iastore, 1) := dk_79 (dk_at dksX2_quarrelLine_7 1 rfl rfl)
theorem dX2_quarrelLine_170 : decode cX2_quarrelLine 170 = .ok (.return_, 1) := dk_177 (dk_at dksX2_quarrelLine_7 2 rfl rfl)
abbrev cX2_hireLine : ByteArray := prog_15_method_40_code
def yX2_hireLine : MethodName := ⟨RX2, "hireLine", "()V"⟩
def dkwX2_hireLine_3 : List UInt8 := [28, 4, 96, 79, 42, 180, 0, 23, 16, 6, 92, 46, 4, 96, 79, 177]
abbrev dktX2_hireLine_3 : List UInt8 := dkwX2_hireLine_3 ++ []
def dkwX2_hireLine_2 : List UInt8 := [182, 0, 218, 61, 42, 180, 0, 85, 153, 0, 4, 177, 42, 180, 0, 23, 16, 26, 7, 27, 104, 96, 6, 96]
abbrev dktX2_hireLine_2 : List UInt8 := dkwX2_hireLine_2 ++ dktX2_hireLine_3
def dkwX2_hireLine_1 : List UInt8 := [46, 158, 0, 12, 42, 6, 42, 180, 0, 66, 182, 0, 112, 42, 182, 0, 150, 42, 18, 247, 3, 16, 20]
abbrev dktX2_hireLine_1 : List UInt8 := dkwX2_hireLine_1 ++ dktX2_hireLine_2
def dkwX2_hireLine_0 : List UInt8 := [42, 182, 0, 240, 60, 42, 180, 0, 85, 154, 0, 28, 42, 180, 0, 23, 16, 26, 7, 27, 104, 96, 6, 96]
abbrev dktX2_hireLine_0 : List UInt8 := dkwX2_hireLine_0 ++ dktX2_hireLine_1
theorem dksX2_hireLine_0 : cX2_hireLine.data.toList.drop 0 = dktX2_hireLine_0 := by decide +kernel
theorem dksX2_hireLine_1 : cX2_hireLine.data.toList.drop 24 = dktX2_hireLine_1 := dk_seg dksX2_hireLine_0 24 rfl rfl
theorem dksX2_hireLine_2 : cX2_hireLine.data.toList.drop 47 = dktX2_hireLine_2 := dk_seg dksX2_hireLine_1 23 rfl rfl
theorem dksX2_hireLine_3 : cX2_hireLine.data.toList.drop 71 = dktX2_hireLine_3 := dk_seg dksX2_hireLine_2 24 rfl rfl
theorem dX2_hireLine_0 : decode cX2_hireLine 0 = .ok (.aload_n 0, 1) := dk_42 (dk_at dksX2_hireLine_0 0 rfl rfl)
theorem dX2_hireLine_1 : decode cX2_hireLine 1 = .ok (.invokevirtual 240, 3) := dk_182 0 240 (dk_at dksX2_hireLine_0 1 rfl rfl)
theorem dX2_hireLine_4 : decode cX2_hireLine 4 = .ok (.istore_n 1, 1) := dk_60 (dk_at dksX2_hireLine_0 4 rfl rfl)
theorem dX2_hireLine_5 : decode cX2_hireLine 5 = .ok (.aload_n 0, 1) := dk_42 (dk_at dksX2_hireLine_0 5 rfl rfl)
theorem dX2_hireLine_6 : decode cX2_hireLine 6 = .ok (.getfield 85, 3) := dk_180 0 85 (dk_at dksX2_hireLine_0 6 rfl rfl)
theorem dX2_hireLine_9 : decode cX2_hireLine 9 = .ok (.ifCond .ne 28, 3) := dk_154 0 28 (dk_at dksX2_hireLine_0 9 rfl rfl)
theorem dX2_hireLine_12 : decode cX2_hireLine 12 = .ok (.aload_n 0, 1) := dk_42 (dk_at dksX2_hireLine_0 12 rfl rfl)
theorem dX2_hireLine_13 : decode cX2_hireLine 13 = .ok (.getfield 23, 3) := dk_180 0 23 (dk_at dksX2_hireLine_0 13 rfl rfl)
theorem dX2_hireLine_16 : decode cX2_hireLine 16 = .ok (.bipush 26, 2) := dk_16 26 (dk_at dksX2_hireLine_0 16 rfl rfl)
theorem dX2_hireLine_18 : decode cX2_hireLine 18 = .ok (.iconst 4, 1) := dk_7 (dk_at dksX2_hireLine_0 18 rfl rfl)
theorem dX2_hireLine_19 : decode cX2_hireLine 19 = .ok (.iload_n 1, 1) := dk_27 (dk_at dksX2_hireLine_0 19 rfl rfl)
theorem dX2_hireLine_20 : decode cX2_hireLine 20 = .ok (.imul, 1) := dk_104 (dk_at dksX2_hireLine_0 20 rfl rfl)
theorem dX2_hireLine_21 : decode cX2_hireLine 21 = .ok (.iadd, 1) := dk_96 (dk_at dksX2_hireLine_0 21 rfl rfl)
theorem dX2_hireLine_22 : decode cX2_hireLine 22 = .ok (.iconst 3, 1) := dk_6 (dk_at dksX2_hireLine_0 22 rfl rfl)
theorem dX2_hireLine_23 : decode cX2_hireLine 23 = .ok (.iadd, 1) := dk_96 (dk_at dksX2_hireLine_0 23 rfl rfl)
theorem dX2_hireLine_24 : decode cX2_hireLine 24 = .ok (.iaload, 1) := dk_46 (dk_at dksX2_hireLine_1 0 rfl rfl)
theorem dX2_hireLine_25 : decode cX2_hireLine 25 = .ok (.ifCond .le 12, 3) := dk_158 0 12 (dk_at dksX2_hireLine_1 1 rfl rfl)
theorem dX2_hireLine_28 : decode cX2_hireLine 28 = .ok (.aload_n 0, 1) := dk_42 (dk_at dksX2_hireLine_1 4 rfl rfl)
theorem dX2_hireLine_29 : decode cX2_hireLine 29 = .ok (.iconst 3, 1) := dk_6 (dk_at dksX2_hireLine_1 5 rfl rfl)
theorem dX2_hireLine_30 : decode cX2_hireLine 30 = .ok (.aload_n 0, 1) := dk_42 (dk_at dksX2_hireLine_1 6 rfl rfl)
theorem dX2_hireLine_31 : decode cX2_hireLine 31 = .ok (.getfield 66, 3) := dk_180 0 66 (dk_at dksX2_hireLine_1 7 rfl rfl)
theorem dX2_hireLine_34 : decode cX2_hireLine 34 = .ok (.invokevirtual 112, 3) := dk_182 0 112 (dk_at dksX2_hireLine_1 10 rfl rfl)
theorem dX2_hireLine_37 : decode cX2_hireLine 37 = .ok (.aload_n 0, 1) := dk_42 (dk_at dksX2_hireLine_1 13 rfl rfl)
theorem dX2_hireLine_38 : decode cX2_hireLine 38 = .ok (.invokevirtual 150, 3) := dk_182 0 150 (dk_at dksX2_hireLine_1 14 rfl rfl)
theorem dX2_hireLine_41 : decode cX2_hireLine 41 = .ok (.aload_n 0, 1) := dk_42 (dk_at dksX2_hireLine_1 17 rfl rfl)
theorem dX2_hireLine_42 : decode cX2_hireLine 42 = .ok (.ldc 247, 2) := dk_18 247 (dk_at dksX2_hireLine_1 18 rfl rfl)
theorem dX2_hireLine_44 : decode cX2_hireLine 44 = .ok (.iconst 0, 1) := dk_3 (dk_at dksX2_hireLine_1 20 rfl rfl)
theorem dX2_hireLine_45 : decode cX2_hireLine 45 = .ok (.bipush 20, 2) := dk_16 20 (dk_at dksX2_hireLine_1 21 rfl rfl)
theorem dX2_hireLine_47 : decode cX2_hireLine 47 = .ok (.invokevirtual 218, 3) := dk_182 0 218 (dk_at dksX2_hireLine_2 0 rfl rfl)
theorem dX2_hireLine_50 : decode cX2_hireLine 50 = .ok (.istore_n 2, 1) := dk_61 (dk_at dksX2_hireLine_2 3 rfl rfl)
theorem dX2_hireLine_51 : decode cX2_hireLine 51 = .ok (.aload_n 0, 1) := dk_42 (dk_at dksX2_hireLine_2 4 rfl rfl)
theorem dX2_hireLine_52 : decode cX2_hireLine 52 = .ok (.getfield 85, 3) := dk_180 0 85 (dk_at dksX2_hireLine_2 5 rfl rfl)
theorem dX2_hireLine_55 : decode cX2_hireLine 55 = .ok (.ifCond .eq 4, 3) := dk_153 0 4 (dk_at dksX2_hireLine_2 8 rfl rfl)
theorem dX2_hireLine_58 : decode cX2_hireLine 58 = .ok (.return_, 1) := dk_177 (dk_at dksX2_hireLine_2 11 rfl rfl)
theorem dX2_hireLine_59 : decode cX2_hireLine 59 = .ok (.aload_n 0, 1) := dk_42 (dk_at dksX2_hireLine_2 12 rfl rfl)
theorem dX2_hireLine_60 : decode cX2_hireLine 60 = .ok (.getfield 23, 3) := dk_180 0 23 (dk_at dksX2_hireLine_2 13 rfl rfl)
theorem dX2_hireLine_63 : decode cX2_hireLine 63 = .ok (.bipush 26, 2) := dk_16 26 (dk_at dksX2_hireLine_2 16 rfl rfl)
theorem dX2_hireLine_65 : decode cX2_hireLine 65 = .ok (.iconst 4, 1) := dk_7 (dk_at dksX2_hireLine_2 18 rfl rfl)
theorem dX2_hireLine_66 : decode cX2_hireLine 66 = .ok (.iload_n 1, 1) := dk_27 (dk_at dksX2_hireLine_2 19 rfl rfl)
theorem dX2_hireLine_67 : decode cX2_hireLine 67 = .ok (.imul, 1) := dk_104 (dk_at dksX2_hireLine_2 20 rfl rfl)
theorem dX2_hireLine_68 : decode cX2_hireLine 68 = .ok (.iadd, 1) := dk_96 (dk_at dksX2_hireLine_2 21 rfl rfl)
theorem dX2_hireLine_69 : decode cX2_hireLine 69 = .ok (.iconst 3, 1) := dk_6 (dk_at dksX2_hireLine_2 22 rfl rfl)
theorem dX2_hireLine_70 : decode cX2_hireLine 70 = .ok (.iadd, 1) := dk_96 (dk_at dksX2_hireLine_2 23 rfl rfl)
theorem dX2_hireLine_71 : decode cX2_hireLine 71 = .ok (.iload_n 2, 1) := dk_28 (dk_at dksX2_hireLine_3 0 rfl rfl)
theorem dX2_hireLine_72 : decode cX2_hireLine 72 = .ok (.iconst 1, 1) := dk_4 (dk_at dksX2_hireLine_3 1 rfl rfl)
theorem dX2_hireLine_73 : decode cX2_hireLine 73 = .ok (.iadd, 1) := dk_96 (dk_at dksX2_hireLine_3 2 rfl rfl)
theorem dX2_hireLine_74 : decode cX2_hireLine 74 = .ok (.iastore, 1) := dk_79 (dk_at dksX2_hireLine_3 3 rfl rfl)
theorem dX2_hireLine_75 : decode cX2_hireLine 75 = .ok (.aload_n 0, 1) := dk_42 (dk_at dksX2_hireLine_3 4 rfl rfl)
theorem dX2_hireLine_76 : decode cX2_hireLine 76 = .ok (.getfield 23, 3) := dk_180 0 23 (dk_at dksX2_hireLine_3 5 rfl rfl)
theorem dX2_hireLine_79 : decode cX2_hireLine 79 = .ok (.bipush 6, 2) := dk_16 6 (dk_at dksX2_hireLine_3 8 rfl rfl)
theorem dX2_hireLine_81 : decode cX2_hireLine 81 = .ok (.dup2, 1) := dk_92 (dk_at dksX2_hireLine_3 10 rfl rfl)
theorem dX2_hireLine_82 : decode cX2_hireLine 82 = .ok (.iaload, 1) := dk_46 (dk_at dksX2_hireLine_3 11 rfl rfl)
theorem dX2_hireLine_83 : decode cX2_hireLine 83 = .ok (.iconst 1, 1) := dk_4 (dk_at dksX2_hireLine_3 12 rfl rfl)
theorem dX2_hireLine_84 : decode cX2_hireLine 84 = .ok (.iadd, 1) := dk_96 (dk_at dksX2_hireLine_3 13 rfl rfl)
theorem dX2_hireLine_85 : decode cX2_hireLine 85 = .ok (.iastore, 1) := dk_79 (dk_at dksX2_hireLine_3 14 rfl rfl)
theorem dX2_hireLine_86 : decode cX2_hireLine 86 = .ok (.return_, 1) := dk_177 (dk_at dksX2_hireLine_3 15 rfl rfl)
abbrev cX2_unsureLine : ByteArray := prog_15_method_41_code
def yX2_unsureLine : MethodName := ⟨RX2, "unsureLine", "()V"⟩
def dkwX2_unsureLine_5 : List UInt8 := [16, 7, 92, 46, 4, 96, 79, 177]
abbrev dktX2_unsureLine_5 : List UInt8 := dkwX2_unsureLine_5 ++ []
def dkwX2_unsureLine_4 : List UInt8 := [153, 0, 4, 177, 42, 180, 0, 23, 27, 28, 79, 42, 180, 0, 23, 27, 4, 96, 29, 79, 42, 180, 0, 23]
abbrev dktX2_unsureLine_4 : List UInt8 := dkwX2_unsureLine_4 ++ dktX2_unsureLine_5
def dkwX2_unsureLine_3 : List UInt8 := [132, 3, 1, 167, 255, 211, 42, 182, 0, 150, 42, 3, 16, 9, 182, 0, 160, 62, 42, 180, 0, 85]
abbrev dktX2_unsureLine_3 : List UInt8 := dkwX2_unsureLine_3 ++ dktX2_unsureLine_4
def dkwX2_unsureLine_2 : List UInt8 := [42, 180, 0, 23, 16, 95, 5, 29, 104, 96, 46, 28, 160, 0, 12, 42, 6, 42, 180, 0, 66, 182, 0, 112]
abbrev dktX2_unsureLine_2 : List UInt8 := dkwX2_unsureLine_2 ++ dktX2_unsureLine_3
def dkwX2_unsureLine_1 : List UInt8 := [182, 0, 240, 61, 3, 62, 29, 42, 180, 0, 23, 16, 7, 46, 162, 0, 40, 42, 180, 0, 85, 154, 0, 27]
abbrev dktX2_unsureLine_1 : List UInt8 := dkwX2_unsureLine_1 ++ dktX2_unsureLine_2
def dkwX2_unsureLine_0 : List UInt8 := [42, 180, 0, 85, 153, 0, 4, 177, 16, 95, 5, 42, 180, 0, 23, 16, 7, 46, 104, 96, 60, 42]
abbrev dktX2_unsureLine_0 : List UInt8 := dkwX2_unsureLine_0 ++ dktX2_unsureLine_1
theorem dksX2_unsureLine_0 : cX2_unsureLine.data.toList.drop 0 = dktX2_unsureLine_0 := by decide +kernel
theorem dksX2_unsureLine_1 : cX2_unsureLine.data.toList.drop 22 = dktX2_unsureLine_1 := dk_seg dksX2_unsureLine_0 22 rfl rfl
theorem dksX2_unsureLine_2 : cX2_unsureLine.data.toList.drop 46 = dktX2_unsureLine_2 := dk_seg dksX2_unsureLine_1 24 rfl rfl
theorem dksX2_unsureLine_3 : cX2_unsureLine.data.toList.drop 70 = dktX2_unsureLine_3 := dk_seg dksX2_unsureLine_2 24 rfl rfl
theorem dksX2_unsureLine_4 : cX2_unsureLine.data.toList.drop 92 = dktX2_unsureLine_4 := dk_seg dksX2_unsureLine_3 22 rfl rfl
theorem dksX2_unsureLine_5 : cX2_unsureLine.data.toList.drop 116 = dktX2_unsureLine_5 := dk_seg dksX2_unsureLine_4 24 rfl rfl
theorem dX2_unsureLine_0 : decode cX2_unsureLine 0 = .ok (.aload_n 0, 1) := dk_42 (dk_at dksX2_unsureLine_0 0 rfl rfl)
theorem dX2_unsureLine_1 : decode cX2_unsureLine 1 = .ok (.getfield 85, 3) := dk_180 0 85 (dk_at dksX2_unsureLine_0 1 rfl rfl)
theorem dX2_unsureLine_4 : decode cX2_unsureLine 4 = .ok (.ifCond .eq 4, 3) := dk_153 0 4 (dk_at dksX2_unsureLine_0 4 rfl rfl)
theorem dX2_unsureLine_7 : decode cX2_unsureLine 7 = .ok (.return_, 1) := dk_177 (dk_at dksX2_unsureLine_0 7 rfl rfl)
theorem dX2_unsureLine_8 : decode cX2_unsureLine 8 = .ok (.bipush 95, 2) := dk_16 95 (dk_at dksX2_unsureLine_0 8 rfl rfl)
theorem dX2_unsureLine_10 : decode cX2_unsureLine 10 = .ok (.iconst 2, 1) := dk_5 (dk_at dksX2_unsureLine_0 10 rfl rfl)
theorem dX2_unsureLine_11 : decode cX2_unsureLine 11 = .ok (.aload_n 0, 1) := dk_42 (dk_at dksX2_unsureLine_0 11 rfl rfl)
theorem dX2_unsureLine_12 : decode cX2_unsureLine 12 = .ok (.getfield 23, 3) := dk_180 0 23 (dk_at dksX2_unsureLine_0 12 rfl rfl)
theorem dX2_unsureLine_15 : decode cX2_unsureLine 15 = .ok (.bipush 7, 2) := dk_16 7 (dk_at dksX2_unsureLine_0 15 rfl rfl)
theorem dX2_unsureLine_17 : decode cX2_unsureLine 17 = .ok (.iaload, 1) := dk_46 (dk_at dksX2_unsureLine_0 17 rfl rfl)
theorem dX2_unsureLine_18 : decode cX2_unsureLine 18 = .ok (.imul, 1) := dk_104 (dk_at dksX2_unsureLine_0 18 rfl rfl)
theorem dX2_unsureLine_19 : decode cX2_unsureLine 19 = .ok (.iadd, 1) := dk_96 (dk_at dksX2_unsureLine_0 19 rfl rfl)
theorem dX2_unsureLine_20 : decode cX2_unsureLine 20 = .ok (.istore_n 1, 1) := dk_60 (dk_at dksX2_unsureLine_0 20 rfl rfl)
theorem dX2_unsureLine_21 : decode cX2_unsureLine 21 = .ok (.aload_n 0, 1) := dk_42 (dk_at dksX2_unsureLine_0 21 rfl rfl)
theorem dX2_unsureLine_22 : decode cX2_unsureLine 22 = .ok (.invokevirtual 240, 3) := dk_182 0 240 (dk_at dksX2_unsureLine_1 0 rfl rfl)
theorem dX2_unsureLine_25 : decode cX2_unsureLine 25 = .ok (.istore_n 2, 1) := dk_61 (dk_at dksX2_unsureLine_1 3 rfl rfl)
theorem dX2_unsureLine_26 : decode cX2_unsureLine 26 = .ok (.iconst 0, 1) := dk_3 (dk_at dksX2_unsureLine_1 4 rfl rfl)
theorem dX2_unsureLine_27 : decode cX2_unsureLine 27 = .ok (.istore_n 3, 1) := dk_62 (dk_at dksX2_unsureLine_1 5 rfl rfl)
theorem dX2_unsureLine_28 : decode cX2_unsureLine 28 = .ok (.iload_n 3, 1) := dk_29 (dk_at dksX2_unsureLine_1 6 rfl rfl)
theorem dX2_unsureLine_29 : decode cX2_unsureLine 29 = .ok (.aload_n 0, 1) := dk_42 (dk_at dksX2_unsureLine_1 7 rfl rfl)
theorem dX2_unsureLine_30 : decode cX2_unsureLine 30 = .ok (.getfield 23, 3) := dk_180 0 23 (dk_at dksX2_unsureLine_1 8 rfl rfl)
theorem dX2_unsureLine_33 : decode cX2_unsureLine 33 = .ok (.bipush 7, 2) := dk_16 7 (dk_at dksX2_unsureLine_1 11 rfl rfl)
theorem dX2_unsureLine_35 : decode cX2_unsureLine 35 = .ok (.iaload, 1) := dk_46 (dk_at dksX2_unsureLine_1 13 rfl rfl)
theorem dX2_unsureLine_36 : decode cX2_unsureLine 36 = .ok (.if_icmp .ge 40, 3) := dk_162 0 40 (dk_at dksX2_unsureLine_1 14 rfl rfl)
theorem dX2_unsureLine_39 : decode cX2_unsureLine 39 = .ok (.aload_n 0, 1) := dk_42 (dk_at dksX2_unsureLine_1 17 rfl rfl)
theorem dX2_unsureLine_40 : decode cX2_unsureLine 40 = .ok (.getfield 85, 3) := dk_180 0 85 (dk_at dksX2_unsureLine_1 18 rfl rfl)
theorem dX2_unsureLine_43 : decode cX2_unsureLine 43 = .ok (.ifCond .ne 27, 3) := dk_154 0 27 (dk_at dksX2_unsureLine_1 21 rfl rfl)
theorem dX2_unsureLine_46 : decode cX2_unsureLine 46 = .ok (.aload_n 0, 1) := dk_42 (dk_at dksX2_unsureLine_2 0 rfl rfl)
theorem dX2_unsureLine_47 : decode cX2_unsureLine 47 = .ok (.getfield 23, 3) := dk_180 0 23 (dk_at dksX2_unsureLine_2 1 rfl rfl)
theorem dX2_unsureLine_50 : decode cX2_unsureLine 50 = .ok (.bipush 95, 2) := dk_16 95 (dk_at dksX2_unsureLine_2 4 rfl rfl)
theorem dX2_unsureLine_52 : decode cX2_unsureLine 52 = .ok (.iconst 2, 1) := dk_5 (dk_at dksX2_unsureLine_2 6 rfl rfl)
theorem dX2_unsureLine_53 : decode cX2_unsureLine 53 = .ok (.iload_n 3, 1) := dk_29 (dk_at dksX2_unsureLine_2 7 rfl rfl)
theorem dX2_unsureLine_54 : decode cX2_unsureLine 54 = .ok (.imul, 1) := dk_104 (dk_at dksX2_unsureLine_2 8 rfl rfl)
theorem dX2_unsureLine_55 : decode cX2_unsureLine 55 = .ok (.iadd, 1) := dk_96 (dk_at dksX2_unsureLine_2 9 rfl rfl)
theorem dX2_unsureLine_56 : decode cX2_unsureLine 56 = .ok (.iaload, 1) := dk_46 (dk_at dksX2_unsureLine_2 10 rfl rfl)
theorem dX2_unsureLine_57 : decode cX2_unsureLine 57 = .ok (.iload_n 2, 1) := dk_28 (dk_at dksX2_unsureLine_2 11 rfl rfl)
theorem dX2_unsureLine_58 : decode cX2_unsureLine 58 = .ok (.if_icmp .ne 12, 3) := dk_160 0 12 (dk_at dksX2_unsureLine_2 12 rfl rfl)
theorem dX2_unsureLine_61 : decode cX2_unsureLine 61 = .ok (.aload_n 0, 1) := dk_42 (dk_at dksX2_unsureLine_2 15 rfl rfl)
theorem dX2_unsureLine_62 : decode cX2_unsureLine 62 = .ok (.iconst 3, 1) := dk_6 (dk_at dksX2_unsureLine_2 16 rfl rfl)
theorem dX2_unsureLine_63 : decode cX2_unsureLine 63 = .ok (.aload_n 0, 1) := dk_42 (dk_at dksX2_unsureLine_2 17 rfl rfl)
theorem dX2_unsureLine_64 : decode cX2_unsureLine 64 = .ok (.getfield 66, 3) := dk_180 0 66 (dk_at dksX2_unsureLine_2 18 rfl rfl)
theorem dX2_unsureLine_67 : decode cX2_unsureLine 67 = .ok (.invokevirtual 112, 3) := dk_182 0 112 (dk_at dksX2_unsureLine_2 21 rfl rfl)
theorem dX2_unsureLine_70 : decode cX2_unsureLine 70 = .ok (.iinc 3 1, 3) := dk_132 3 1 (dk_at dksX2_unsureLine_3 0 rfl rfl)
theorem dX2_unsureLine_73 : decode cX2_unsureLine 73 = .ok (.goto (-45), 3) := dk_167 255 211 (dk_at dksX2_unsureLine_3 3 rfl rfl)
theorem dX2_unsureLine_76 : decode cX2_unsureLine 76 = .ok (.aload_n 0, 1) := dk_42 (dk_at dksX2_unsureLine_3 6 rfl rfl)
theorem dX2_unsureLine_77 : decode cX2_unsureLine 77 = .ok (.invokevirtual 150, 3) := dk_182 0 150 (dk_at dksX2_unsureLine_3 7 rfl rfl)
theorem dX2_unsureLine_80 : decode cX2_unsureLine 80 = .ok (.aload_n 0, 1) := dk_42 (dk_at dksX2_unsureLine_3 10 rfl rfl)
theorem dX2_unsureLine_81 : decode cX2_unsureLine 81 = .ok (.iconst 0, 1) := dk_3 (dk_at dksX2_unsureLine_3 11 rfl rfl)
theorem dX2_unsureLine_82 : decode cX2_unsureLine 82 = .ok (.bipush 9, 2) := dk_16 9 (dk_at dksX2_unsureLine_3 12 rfl rfl)
theorem dX2_unsureLine_84 : decode cX2_unsureLine 84 = .ok (.invokevirtual 160, 3) := dk_182 0 160 (dk_at dksX2_unsureLine_3 14 rfl rfl)
theorem dX2_unsureLine_87 : decode cX2_unsureLine 87 = .ok (.istore_n 3, 1) := dk_62 (dk_at dksX2_unsureLine_3 17 rfl rfl)
theorem dX2_unsureLine_88 : decode cX2_unsureLine 88 = .ok (.aload_n 0, 1) := dk_42 (dk_at dksX2_unsureLine_3 18 rfl rfl)
theorem dX2_unsureLine_89 : decode cX2_unsureLine 89 = .ok (.getfield 85, 3) := dk_180 0 85 (dk_at dksX2_unsureLine_3 19 rfl rfl)
theorem dX2_unsureLine_92 : decode cX2_unsureLine 92 = .ok (.ifCond .eq 4, 3) := dk_153 0 4 (dk_at dksX2_unsureLine_4 0 rfl rfl)
theorem dX2_unsureLine_95 : decode cX2_unsureLine 95 = .ok (.return_, 1) := dk_177 (dk_at dksX2_unsureLine_4 3 rfl rfl)
theorem dX2_unsureLine_96 : decode cX2_unsureLine 96 = .ok (.aload_n 0, 1) := dk_42 (dk_at dksX2_unsureLine_4 4 rfl rfl)
theorem dX2_unsureLine_97 : decode cX2_unsureLine 97 = .ok (.getfield 23, 3) := dk_180 0 23 (dk_at dksX2_unsureLine_4 5 rfl rfl)
theorem dX2_unsureLine_100 : decode cX2_unsureLine 100 = .ok (.iload_n 1, 1) := dk_27 (dk_at dksX2_unsureLine_4 8 rfl rfl)
theorem dX2_unsureLine_101 : decode cX2_unsureLine 101 = .ok (.iload_n 2, 1) := dk_28 (dk_at dksX2_unsureLine_4 9 rfl rfl)
theorem dX2_unsureLine_102 : decode cX2_unsureLine 102 = .ok (.iastore, 1) := dk_79 (dk_at dksX2_unsureLine_4 10 rfl rfl)
theorem dX2_unsureLine_103 : decode cX2_unsureLine 103 = .ok (.aload_n 0, 1) := dk_42 (dk_at dksX2_unsureLine_4 11 rfl rfl)
theorem dX2_unsureLine_104 : decode cX2_unsureLine 104 = .ok (.getfield 23, 3) := dk_180 0 23 (dk_at dksX2_unsureLine_4 12 rfl rfl)
theorem dX2_unsureLine_107 : decode cX2_unsureLine 107 = .ok (.iload_n 1, 1) := dk_27 (dk_at dksX2_unsureLine_4 15 rfl rfl)
theorem dX2_unsureLine_108 : decode cX2_unsureLine 108 = .ok (.iconst 1, 1) := dk_4 (dk_at dksX2_unsureLine_4 16 rfl rfl)
theorem dX2_unsureLine_109 : decode cX2_unsureLine 109 = .ok (.iadd, 1) := dk_96 (dk_at dksX2_unsureLine_4 17 rfl rfl)
theorem dX2_unsureLine_110 : decode cX2_unsureLine 110 = .ok (.iload_n 3, 1) := dk_29 (dk_at dksX2_unsureLine_4 18 rfl rfl)
theorem dX2_unsureLine_111 : decode cX2_unsureLine 111 = .ok (.iastore, 1) := dk_79 (dk_at dksX2_unsureLine_4 19 rfl rfl)
theorem dX2_unsureLine_112 : decode cX2_unsureLine 112 = .ok (.aload_n 0, 1) := dk_42 (dk_at dksX2_unsureLine_4 20 rfl rfl)
theorem dX2_unsureLine_113 : decode cX2_unsureLine 113 = .ok (.getfield 23, 3) := dk_180 0 23 (dk_at dksX2_unsureLine_4 21 rfl rfl)
theorem dX2_unsureLine_116 : decode cX2_unsureLine 116 = .ok (.bipush 7, 2) := dk_16 7 (dk_at dksX2_unsureLine_5 0 rfl rfl)
theorem dX2_unsureLine_118 : decode cX2_unsureLine 118 = .ok (.dup2, 1) := dk_92 (dk_at dksX2_unsureLine_5 2 rfl rfl)
theorem dX2_unsureLine_119 : decode cX2_unsureLine 119 = .ok (.iaload, 1) := dk_46 (dk_at dksX2_unsureLine_5 3 rfl rfl)
theorem dX2_unsureLine_120 : decode cX2_unsureLine 120 = .ok (.iconst 1, 1) := dk_4 (dk_at dksX2_unsureLine_5 4 rfl rfl)
theorem dX2_unsureLine_121 : decode cX2_unsureLine 121 = .ok (.iadd, 1) := dk_96 (dk_at dksX2_unsureLine_5 5 rfl rfl)
theorem dX2_unsureLine_122 : decode cX2_unsureLine 122 = .ok (.iastore, 1) := dk_79 (dk_at dksX2_unsureLine_5 6 rfl rfl)
theorem dX2_unsureLine_123 : decode cX2_unsureLine 123 = .ok (.return_, 1) := dk_177 (dk_at dksX2_unsureLine_5 7 rfl rfl)
abbrev cX2_endedLine : ByteArray := prog_15_method_42_code
def yX2_endedLine : MethodName := ⟨RX2, "endedLine", "()V"⟩
def dkwX2_endedLine_3 : List UInt8 := [42, 180, 0, 23, 16, 8, 92, 46, 4, 96, 79, 177]
abbrev dktX2_endedLine_3 : List UInt8 := dkwX2_endedLine_3 ++ []
def dkwX2_endedLine_2 : List UInt8 := [182, 0, 218, 61, 42, 180, 0, 85, 153, 0, 4, 177, 42, 180, 0, 23, 16, 103, 27, 96, 28, 4, 96, 79]
abbrev dktX2_endedLine_2 : List UInt8 := dkwX2_endedLine_2 ++ dktX2_endedLine_3
def dkwX2_endedLine_1 : List UInt8 := [46, 158, 0, 12, 42, 6, 42, 180, 0, 66, 182, 0, 112, 42, 182, 0, 150, 42, 18, 237, 3, 16, 59]
abbrev dktX2_endedLine_1 : List UInt8 := dkwX2_endedLine_1 ++ dktX2_endedLine_2
def dkwX2_endedLine_0 : List UInt8 := [42, 16, 12, 16, 14, 182, 0, 143, 60, 42, 180, 0, 85, 154, 0, 24, 42, 180, 0, 23, 16, 103, 27, 96]
abbrev dktX2_endedLine_0 : List UInt8 := dkwX2_endedLine_0 ++ dktX2_endedLine_1
theorem dksX2_endedLine_0 : cX2_endedLine.data.toList.drop 0 = dktX2_endedLine_0 := by decide +kernel
theorem dksX2_endedLine_1 : cX2_endedLine.data.toList.drop 24 = dktX2_endedLine_1 := dk_seg dksX2_endedLine_0 24 rfl rfl
theorem dksX2_endedLine_2 : cX2_endedLine.data.toList.drop 47 = dktX2_endedLine_2 := dk_seg dksX2_endedLine_1 23 rfl rfl
theorem dksX2_endedLine_3 : cX2_endedLine.data.toList.drop 71 = dktX2_endedLine_3 := dk_seg dksX2_endedLine_2 24 rfl rfl
theorem dX2_endedLine_0 : decode cX2_endedLine 0 = .ok (.aload_n 0, 1) := dk_42 (dk_at dksX2_endedLine_0 0 rfl rfl)
theorem dX2_endedLine_1 : decode cX2_endedLine 1 = .ok (.bipush 12, 2) := dk_16 12 (dk_at dksX2_endedLine_0 1 rfl rfl)
theorem dX2_endedLine_3 : decode cX2_endedLine 3 = .ok (.bipush 14, 2) := dk_16 14 (dk_at dksX2_endedLine_0 3 rfl rfl)
theorem dX2_endedLine_5 : decode cX2_endedLine 5 = .ok (.invokevirtual 143, 3) := dk_182 0 143 (dk_at dksX2_endedLine_0 5 rfl rfl)
theorem dX2_endedLine_8 : decode cX2_endedLine 8 = .ok (.istore_n 1, 1) := dk_60 (dk_at dksX2_endedLine_0 8 rfl rfl)
theorem dX2_endedLine_9 : decode cX2_endedLine 9 = .ok (.aload_n 0, 1) := dk_42 (dk_at dksX2_endedLine_0 9 rfl rfl)
theorem dX2_endedLine_10 : decode cX2_endedLine 10 = .ok (.getfield 85, 3) := dk_180 0 85 (dk_at dksX2_endedLine_0 10 rfl rfl)
theorem dX2_endedLine_13 : decode cX2_endedLine 13 = .ok (.ifCond .ne 24, 3) := dk_154 0 24 (dk_at dksX2_endedLine_0 13 rfl rfl)
theorem dX2_endedLine_16 : decode cX2_endedLine 16 = .ok (.aload_n 0, 1) := dk_42 (dk_at dksX2_endedLine_0 16 rfl rfl)
theorem dX2_endedLine_17 : decode cX2_endedLine 17 = .ok (.getfield 23, 3) := dk_180 0 23 (dk_at dksX2_endedLine_0 17 rfl rfl)
theorem dX2_endedLine_20 : decode cX2_endedLine 20 = .ok (.bipush 103, 2) := dk_16 103 (dk_at dksX2_endedLine_0 20 rfl rfl)
theorem dX2_endedLine_22 : decode cX2_endedLine 22 = .ok (.iload_n 1, 1) := dk_27 (dk_at dksX2_endedLine_0 22 rfl rfl)
theorem dX2_endedLine_23 : decode cX2_endedLine 23 = .ok (.iadd, 1) := dk_96 (dk_at dksX2_endedLine_0 23 rfl rfl)
theorem dX2_endedLine_24 : decode cX2_endedLine 24 = .ok (.iaload, 1) := dk_46 (dk_at dksX2_endedLine_1 0 rfl rfl)
theorem dX2_endedLine_25 : decode cX2_endedLine 25 = .ok (.ifCond .le 12, 3) := dk_158 0 12 (dk_at dksX2_endedLine_1 1 rfl rfl)
theorem dX2_endedLine_28 : decode cX2_endedLine 28 = .ok (.aload_n 0, 1) := dk_42 (dk_at dksX2_endedLine_1 4 rfl rfl)
theorem dX2_endedLine_29 : decode cX2_endedLine 29 = .ok (.iconst 3, 1) := dk_6 (dk_at dksX2_endedLine_1 5 rfl rfl)
theorem dX2_endedLine_30 : decode cX2_endedLine 30 = .ok (.aload_n 0, 1) := dk_42 (dk_at dksX2_endedLine_1 6 rfl rfl)
theorem dX2_endedLine_31 : decode cX2_endedLine 31 = .ok (.getfield 66, 3) := dk_180 0 66 (dk_at dksX2_endedLine_1 7 rfl rfl)
theorem dX2_endedLine_34 : decode cX2_endedLine 34 = .ok (.invokevirtual 112, 3) := dk_182 0 112 (dk_at dksX2_endedLine_1 10 rfl rfl)
theorem dX2_endedLine_37 : decode cX2_endedLine 37 = .ok (.aload_n 0, 1) := dk_42 (dk_at dksX2_endedLine_1 13 rfl rfl)
theorem dX2_endedLine_38 : decode cX2_endedLine 38 = .ok (.invokevirtual 150, 3) := dk_182 0 150 (dk_at dksX2_endedLine_1 14 rfl rfl)
theorem dX2_endedLine_41 : decode cX2_endedLine 41 = .ok (.aload_n 0, 1) := dk_42 (dk_at dksX2_endedLine_1 17 rfl rfl)
theorem dX2_endedLine_42 : decode cX2_endedLine 42 = .ok (.ldc 237, 2) := dk_18 237 (dk_at dksX2_endedLine_1 18 rfl rfl)
theorem dX2_endedLine_44 : decode cX2_endedLine 44 = .ok (.iconst 0, 1) := dk_3 (dk_at dksX2_endedLine_1 20 rfl rfl)
theorem dX2_endedLine_45 : decode cX2_endedLine 45 = .ok (.bipush 59, 2) := dk_16 59 (dk_at dksX2_endedLine_1 21 rfl rfl)
theorem dX2_endedLine_47 : decode cX2_endedLine 47 = .ok (.invokevirtual 218, 3) := dk_182 0 218 (dk_at dksX2_endedLine_2 0 rfl rfl)
theorem dX2_endedLine_50 : decode cX2_endedLine 50 = .ok (.istore_n 2, 1) := dk_61 (dk_at dksX2_endedLine_2 3 rfl rfl)
theorem dX2_endedLine_51 : decode cX2_endedLine 51 = .ok (.aload_n 0, 1) := dk_42 (dk_at dksX2_endedLine_2 4 rfl rfl)
theorem dX2_endedLine_52 : decode cX2_endedLine 52 = .ok (.getfield 85, 3) := dk_180 0 85 (dk_at dksX2_endedLine_2 5 rfl rfl)
theorem dX2_endedLine_55 : decode cX2_endedLine 55 = .ok (.ifCond .eq 4, 3) := dk_153 0 4 (dk_at dksX2_endedLine_2 8 rfl rfl)
theorem dX2_endedLine_58 : decode cX2_endedLine 58 = .ok (.return_, 1) := dk_177 (dk_at dksX2_endedLine_2 11 rfl rfl)
theorem dX2_endedLine_59 : decode cX2_endedLine 59 = .ok (.aload_n 0, 1) := dk_42 (dk_at dksX2_endedLine_2 12 rfl rfl)
theorem dX2_endedLine_60 : decode cX2_endedLine 60 = .ok (.getfield 23, 3) := dk_180 0 23 (dk_at dksX2_endedLine_2 13 rfl rfl)
theorem dX2_endedLine_63 : decode cX2_endedLine 63 = .ok (.bipush 103, 2) := dk_16 103 (dk_at dksX2_endedLine_2 16 rfl rfl)
theorem dX2_endedLine_65 : decode cX2_endedLine 65 = .ok (.iload_n 1, 1) := dk_27 (dk_at dksX2_endedLine_2 18 rfl rfl)
theorem dX2_endedLine_66 : decode cX2_endedLine 66 = .ok (.iadd, 1) := dk_96 (dk_at dksX2_endedLine_2 19 rfl rfl)
theorem dX2_endedLine_67 : decode cX2_endedLine 67 = .ok (.iload_n 2, 1) := dk_28 (dk_at dksX2_endedLine_2 20 rfl rfl)
theorem dX2_endedLine_68 : decode cX2_endedLine 68 = .ok (.iconst 1, 1) := dk_4 (dk_at dksX2_endedLine_2 21 rfl rfl)
theorem dX2_endedLine_69 : decode cX2_endedLine 69 = .ok (.iadd, 1) := dk_96 (dk_at dksX2_endedLine_2 22 rfl rfl)
theorem dX2_endedLine_70 : decode cX2_endedLine 70 = .ok (.iastore, 1) := dk_79 (dk_at dksX2_endedLine_2 23 rfl rfl)
theorem dX2_endedLine_71 : decode cX2_endedLine 71 = .ok (.aload_n 0, 1) := dk_42 (dk_at dksX2_endedLine_3 0 rfl rfl)
theorem dX2_endedLine_72 : decode cX2_endedLine 72 = .ok (.getfield 23, 3) := dk_180 0 23 (dk_at dksX2_endedLine_3 1 rfl rfl)
theorem dX2_endedLine_75 : decode cX2_endedLine 75 = .ok (.bipush 8, 2) := dk_16 8 (dk_at dksX2_endedLine_3 4 rfl rfl)
theorem dX2_endedLine_77 : decode cX2_endedLine 77 = .ok (.dup2, 1) := dk_92 (dk_at dksX2_endedLine_3 6 rfl rfl)
theorem dX2_endedLine_78 : decode cX2_endedLine 78 = .ok (.iaload, 1) := dk_46 (dk_at dksX2_endedLine_3 7 rfl rfl)
theorem dX2_endedLine_79 : decode cX2_endedLine 79 = .ok (.iconst 1, 1) := dk_4 (dk_at dksX2_endedLine_3 8 rfl rfl)
theorem dX2_endedLine_80 : decode cX2_endedLine 80 = .ok (.iadd, 1) := dk_96 (dk_at dksX2_endedLine_3 9 rfl rfl)
theorem dX2_endedLine_81 : decode cX2_endedLine 81 = .ok (.iastore, 1) := dk_79 (dk_at dksX2_endedLine_3 10 rfl rfl)
theorem dX2_endedLine_82 : decode cX2_endedLine 82 = .ok (.return_, 1) := dk_177 (dk_at dksX2_endedLine_3 11 rfl rfl)
abbrev cX2_copy : ByteArray := prog_15_method_9_code
def yX2_copy : MethodName := ⟨RX2, "copy", "([II[III)V"⟩
def dkwX2_copy_1 : List UInt8 := [132, 5, 1, 167, 255, 234, 177]
abbrev dktX2_copy_1 : List UInt8 := dkwX2_copy_1 ++ []
def dkwX2_copy_0 : List UInt8 := [3, 54, 5, 21, 5, 21, 4, 162, 0, 21, 44, 29, 21, 5, 96, 42, 27, 21, 5, 96, 46, 79]
abbrev dktX2_copy_0 : List UInt8 := dkwX2_copy_0 ++ dktX2_copy_1
theorem dksX2_copy_0 : cX2_copy.data.toList.drop 0 = dktX2_copy_0 := by decide +kernel
theorem dksX2_copy_1 : cX2_copy.data.toList.drop 22 = dktX2_copy_1 := dk_seg dksX2_copy_0 22 rfl rfl
theorem dX2_copy_0 : decode cX2_copy 0 = .ok (.iconst 0, 1) := dk_3 (dk_at dksX2_copy_0 0 rfl rfl)
theorem dX2_copy_1 : decode cX2_copy 1 = .ok (.istore 5, 2) := dk_54 5 (dk_at dksX2_copy_0 1 rfl rfl)
theorem dX2_copy_3 : decode cX2_copy 3 = .ok (.iload 5, 2) := dk_21 5 (dk_at dksX2_copy_0 3 rfl rfl)
theorem dX2_copy_5 : decode cX2_copy 5 = .ok (.iload 4, 2) := dk_21 4 (dk_at dksX2_copy_0 5 rfl rfl)
theorem dX2_copy_7 : decode cX2_copy 7 = .ok (.if_icmp .ge 21, 3) := dk_162 0 21 (dk_at dksX2_copy_0 7 rfl rfl)
theorem dX2_copy_10 : decode cX2_copy 10 = .ok (.aload_n 2, 1) := dk_44 (dk_at dksX2_copy_0 10 rfl rfl)
theorem dX2_copy_11 : decode cX2_copy 11 = .ok (.iload_n 3, 1) := dk_29 (dk_at dksX2_copy_0 11 rfl rfl)
theorem dX2_copy_12 : decode cX2_copy 12 = .ok (.iload 5, 2) := dk_21 5 (dk_at dksX2_copy_0 12 rfl rfl)
theorem dX2_copy_14 : decode cX2_copy 14 = .ok (.iadd, 1) := dk_96 (dk_at dksX2_copy_0 14 rfl rfl)
theorem dX2_copy_15 : decode cX2_copy 15 = .ok (.aload_n 0, 1) := dk_42 (dk_at dksX2_copy_0 15 rfl rfl)
theorem dX2_copy_16 : decode cX2_copy 16 = .ok (.iload_n 1, 1) := dk_27 (dk_at dksX2_copy_0 16 rfl rfl)
theorem dX2_copy_17 : decode cX2_copy 17 = .ok (.iload 5, 2) := dk_21 5 (dk_at dksX2_copy_0 17 rfl rfl)
theorem dX2_copy_19 : decode cX2_copy 19 = .ok (.iadd, 1) := dk_96 (dk_at dksX2_copy_0 19 rfl rfl)
theorem dX2_copy_20 : decode cX2_copy 20 = .ok (.iaload, 1) := dk_46 (dk_at dksX2_copy_0 20 rfl rfl)
theorem dX2_copy_21 : decode cX2_copy 21 = .ok (.iastore, 1) := dk_79 (dk_at dksX2_copy_0 21 rfl rfl)
theorem dX2_copy_22 : decode cX2_copy 22 = .ok (.iinc 5 1, 3) := dk_132 5 1 (dk_at dksX2_copy_1 0 rfl rfl)
theorem dX2_copy_25 : decode cX2_copy 25 = .ok (.goto (-22), 3) := dk_167 255 234 (dk_at dksX2_copy_1 3 rfl rfl)
theorem dX2_copy_28 : decode cX2_copy 28 = .ok (.return_, 1) := dk_177 (dk_at dksX2_copy_1 6 rfl rfl)
abbrev cX2_fault : ByteArray := prog_15_method_43_code
def yX2_fault : MethodName := ⟨RX2, "fault", "()I"⟩
def dkwX2_fault_0 : List UInt8 := [42, 3, 181, 0, 47, 42, 180, 0, 89, 172]
abbrev dktX2_fault_0 : List UInt8 := dkwX2_fault_0 ++ []
theorem dksX2_fault_0 : cX2_fault.data.toList.drop 0 = dktX2_fault_0 := by decide +kernel
theorem dX2_fault_0 : decode cX2_fault 0 = .ok (.aload_n 0, 1) := dk_42 (dk_at dksX2_fault_0 0 rfl rfl)
theorem dX2_fault_1 : decode cX2_fault 1 = .ok (.iconst 0, 1) := dk_3 (dk_at dksX2_fault_0 1 rfl rfl)
theorem dX2_fault_2 : decode cX2_fault 2 = .ok (.putfield 47, 3) := dk_181 0 47 (dk_at dksX2_fault_0 2 rfl rfl)
theorem dX2_fault_5 : decode cX2_fault 5 = .ok (.aload_n 0, 1) := dk_42 (dk_at dksX2_fault_0 5 rfl rfl)
theorem dX2_fault_6 : decode cX2_fault 6 = .ok (.getfield 89, 3) := dk_180 0 89 (dk_at dksX2_fault_0 6 rfl rfl)
theorem dX2_fault_9 : decode cX2_fault 9 = .ok (.ireturn, 1) := dk_172 (dk_at dksX2_fault_0 9 rfl rfl)
abbrev cX2_where : ByteArray := prog_15_method_44_code
def yX2_where : MethodName := ⟨RX2, "where", "()I"⟩
def dkwX2_where_0 : List UInt8 := [42, 3, 181, 0, 47, 42, 180, 0, 50, 7, 160, 0, 10, 42, 180, 0, 13, 167, 0, 4, 2, 172]
abbrev dktX2_where_0 : List UInt8 := dkwX2_where_0 ++ []
theorem dksX2_where_0 : cX2_where.data.toList.drop 0 = dktX2_where_0 := by decide +kernel
theorem dX2_where_0 : decode cX2_where 0 = .ok (.aload_n 0, 1) := dk_42 (dk_at dksX2_where_0 0 rfl rfl)
theorem dX2_where_1 : decode cX2_where 1 = .ok (.iconst 0, 1) := dk_3 (dk_at dksX2_where_0 1 rfl rfl)
theorem dX2_where_2 : decode cX2_where 2 = .ok (.putfield 47, 3) := dk_181 0 47 (dk_at dksX2_where_0 2 rfl rfl)
theorem dX2_where_5 : decode cX2_where 5 = .ok (.aload_n 0, 1) := dk_42 (dk_at dksX2_where_0 5 rfl rfl)
theorem dX2_where_6 : decode cX2_where 6 = .ok (.getfield 50, 3) := dk_180 0 50 (dk_at dksX2_where_0 6 rfl rfl)
theorem dX2_where_9 : decode cX2_where 9 = .ok (.iconst 4, 1) := dk_7 (dk_at dksX2_where_0 9 rfl rfl)
theorem dX2_where_10 : decode cX2_where 10 = .ok (.if_icmp .ne 10, 3) := dk_160 0 10 (dk_at dksX2_where_0 10 rfl rfl)
theorem dX2_where_13 : decode cX2_where 13 = .ok (.aload_n 0, 1) := dk_42 (dk_at dksX2_where_0 13 rfl rfl)
theorem dX2_where_14 : decode cX2_where 14 = .ok (.getfield 13, 3) := dk_180 0 13 (dk_at dksX2_where_0 14 rfl rfl)
theorem dX2_where_17 : decode cX2_where 17 = .ok (.goto 4, 3) := dk_167 0 4 (dk_at dksX2_where_0 17 rfl rfl)
theorem dX2_where_20 : decode cX2_where 20 = .ok (.iconst (-1), 1) := dk_2 (dk_at dksX2_where_0 20 rfl rfl)
theorem dX2_where_21 : decode cX2_where 21 = .ok (.ireturn, 1) := dk_172 (dk_at dksX2_where_0 21 rfl rfl)
abbrev cX2_person : ByteArray := prog_15_method_61_code
def yX2_person : MethodName := ⟨RX2, "person", "(II)I"⟩
def dkwX2_person_6 : List UInt8 := [180, 0, 26, 27, 46, 4, 100, 172, 42, 27, 182, 1, 43, 172]
abbrev dktX2_person_6 : List UInt8 := dkwX2_person_6 ++ []
def dkwX2_person_5 : List UInt8 := [29, 6, 96, 46, 4, 100, 172, 42, 180, 0, 26, 27, 46, 154, 0, 8, 16, 254, 167, 0, 11, 42]
abbrev dktX2_person_5 : List UInt8 := dkwX2_person_5 ++ dktX2_person_6
def dkwX2_person_4 : List UInt8 := [184, 0, 249, 172, 42, 180, 0, 20, 29, 6, 96, 46, 154, 0, 8, 16, 254, 167, 0, 13, 42, 180, 0, 20]
abbrev dktX2_person_4 : List UInt8 := dkwX2_person_4 ++ dktX2_person_5
def dkwX2_person_3 : List UInt8 := [42, 180, 0, 20, 29, 46, 172, 42, 180, 0, 20, 29, 5, 96, 46, 172, 42, 180, 0, 20, 29, 46]
abbrev dktX2_person_3 : List UInt8 := dkwX2_person_3 ++ dktX2_person_4
def dkwX2_person_2 : List UInt8 := [170, 0, 0, 0, 109, 0, 0, 0, 0, 0, 0, 0, 4, 0, 0, 0, 33, 0, 0, 0, 40, 0, 0, 0, 49, 0, 0, 0, 59, 0, 0, 0, 86]
abbrev dktX2_person_2 : List UInt8 := dkwX2_person_2 ++ dktX2_person_3
def dkwX2_person_1 : List UInt8 := [182, 0, 166, 172, 16, 26, 7, 27, 104, 96, 62, 28]
abbrev dktX2_person_1 : List UInt8 := dkwX2_person_1 ++ dktX2_person_2
def dkwX2_person_0 : List UInt8 := [42, 182, 0, 163, 42, 27, 182, 1, 40, 153, 0, 12, 28, 3, 8, 184, 0, 139, 154, 0, 9, 42, 4]
abbrev dktX2_person_0 : List UInt8 := dkwX2_person_0 ++ dktX2_person_1
theorem dksX2_person_0 : cX2_person.data.toList.drop 0 = dktX2_person_0 := by decide +kernel
theorem dksX2_person_1 : cX2_person.data.toList.drop 23 = dktX2_person_1 := dk_seg dksX2_person_0 23 rfl rfl
theorem dksX2_person_2 : cX2_person.data.toList.drop 35 = dktX2_person_2 := dk_seg dksX2_person_1 12 rfl rfl
theorem dksX2_person_3 : cX2_person.data.toList.drop 68 = dktX2_person_3 := dk_seg dksX2_person_2 33 rfl rfl
theorem dksX2_person_4 : cX2_person.data.toList.drop 90 = dktX2_person_4 := dk_seg dksX2_person_3 22 rfl rfl
theorem dksX2_person_5 : cX2_person.data.toList.drop 114 = dktX2_person_5 := dk_seg dksX2_person_4 24 rfl rfl
theorem dksX2_person_6 : cX2_person.data.toList.drop 136 = dktX2_person_6 := dk_seg dksX2_person_5 22 rfl rfl
theorem dX2_person_0 : decode cX2_person 0 = .ok (.aload_n 0, 1) := dk_42 (dk_at dksX2_person_0 0 rfl rfl)
theorem dX2_person_1 : decode cX2_person 1 = .ok (.invokevirtual 163, 3) := dk_182 0 163 (dk_at dksX2_person_0 1 rfl rfl)
theorem dX2_person_4 : decode cX2_person 4 = .ok (.aload_n 0, 1) := dk_42 (dk_at dksX2_person_0 4 rfl rfl)
theorem dX2_person_5 : decode cX2_person 5 = .ok (.iload_n 1, 1) := dk_27 (dk_at dksX2_person_0 5 rfl rfl)
theorem dX2_person_6 : decode cX2_person 6 = .ok (.invokevirtual 296, 3) := dk_182 1 40 (dk_at dksX2_person_0 6 rfl rfl)
theorem dX2_person_9 : decode cX2_person 9 = .ok (.ifCond .eq 12, 3) := dk_153 0 12 (dk_at dksX2_person_0 9 rfl rfl)
theorem dX2_person_12 : decode cX2_person 12 = .ok (.iload_n 2, 1) := dk_28 (dk_at dksX2_person_0 12 rfl rfl)
theorem dX2_person_13 : decode cX2_person 13 = .ok (.iconst 0, 1) := dk_3 (dk_at dksX2_person_0 13 rfl rfl)
theorem dX2_person_14 : decode cX2_person 14 = .ok (.iconst 5, 1) := dk_8 (dk_at dksX2_person_0 14 rfl rfl)
theorem dX2_person_15 : decode cX2_person 15 = .ok (.invokestatic 139, 3) := dk_184 0 139 (dk_at dksX2_person_0 15 rfl rfl)
theorem dX2_person_18 : decode cX2_person 18 = .ok (.ifCond .ne 9, 3) := dk_154 0 9 (dk_at dksX2_person_0 18 rfl rfl)
theorem dX2_person_21 : decode cX2_person 21 = .ok (.aload_n 0, 1) := dk_42 (dk_at dksX2_person_0 21 rfl rfl)
theorem dX2_person_22 : decode cX2_person 22 = .ok (.iconst 1, 1) := dk_4 (dk_at dksX2_person_0 22 rfl rfl)
theorem dX2_person_23 : decode cX2_person 23 = .ok (.invokevirtual 166, 3) := dk_182 0 166 (dk_at dksX2_person_1 0 rfl rfl)
theorem dX2_person_26 : decode cX2_person 26 = .ok (.ireturn, 1) := dk_172 (dk_at dksX2_person_1 3 rfl rfl)
theorem dX2_person_27 : decode cX2_person 27 = .ok (.bipush 26, 2) := dk_16 26 (dk_at dksX2_person_1 4 rfl rfl)
theorem dX2_person_29 : decode cX2_person 29 = .ok (.iconst 4, 1) := dk_7 (dk_at dksX2_person_1 6 rfl rfl)
theorem dX2_person_30 : decode cX2_person 30 = .ok (.iload_n 1, 1) := dk_27 (dk_at dksX2_person_1 7 rfl rfl)
theorem dX2_person_31 : decode cX2_person 31 = .ok (.imul, 1) := dk_104 (dk_at dksX2_person_1 8 rfl rfl)
theorem dX2_person_32 : decode cX2_person 32 = .ok (.iadd, 1) := dk_96 (dk_at dksX2_person_1 9 rfl rfl)
theorem dX2_person_33 : decode cX2_person 33 = .ok (.istore_n 3, 1) := dk_62 (dk_at dksX2_person_1 10 rfl rfl)
theorem dX2_person_34 : decode cX2_person 34 = .ok (.iload_n 2, 1) := dk_28 (dk_at dksX2_person_1 11 rfl rfl)
theorem dX2_person_35 : decode cX2_person 35 = .ok (.tableswitch 109 0 4 #[33, 40, 49, 59, 86], 33) := by decide +kernel
theorem dX2_person_68 : decode cX2_person 68 = .ok (.aload_n 0, 1) := dk_42 (dk_at dksX2_person_3 0 rfl rfl)
theorem dX2_person_69 : decode cX2_person 69 = .ok (.getfield 20, 3) := dk_180 0 20 (dk_at dksX2_person_3 1 rfl rfl)
theorem dX2_person_72 : decode cX2_person 72 = .ok (.iload_n 3, 1) := dk_29 (dk_at dksX2_person_3 4 rfl rfl)
theorem dX2_person_73 : decode cX2_person 73 = .ok (.iaload, 1) := dk_46 (dk_at dksX2_person_3 5 rfl rfl)
theorem dX2_person_74 : decode cX2_person 74 = .ok (.ireturn, 1) := dk_172 (dk_at dksX2_person_3 6 rfl rfl)
theorem dX2_person_75 : decode cX2_person 75 = .ok (.aload_n 0, 1) := dk_42 (dk_at dksX2_person_3 7 rfl rfl)
theorem dX2_person_76 : decode cX2_person 76 = .ok (.getfield 20, 3) := dk_180 0 20 (dk_at dksX2_person_3 8 rfl rfl)
theorem dX2_person_79 : decode cX2_person 79 = .ok (.iload_n 3, 1) := dk_29 (dk_at dksX2_person_3 11 rfl rfl)
theorem dX2_person_80 : decode cX2_person 80 = .ok (.iconst 2, 1) := dk_5 (dk_at dksX2_person_3 12 rfl rfl)
theorem dX2_person_81 : decode cX2_person 81 = .ok (.iadd, 1) := dk_96 (dk_at dksX2_person_3 13 rfl rfl)
theorem dX2_person_82 : decode cX2_person 82 = .ok (.iaload, 1) := dk_46 (dk_at dksX2_person_3 14 rfl rfl)
theorem dX2_person_83 : decode cX2_person 83 = .ok (.ireturn, 1) := dk_172 (dk_at dksX2_person_3 15 rfl rfl)
theorem dX2_person_84 : decode cX2_person 84 = .ok (.aload_n 0, 1) := dk_42 (dk_at dksX2_person_3 16 rfl rfl)
theorem dX2_person_85 : decode cX2_person 85 = .ok (.getfield 20, 3) := dk_180 0 20 (dk_at dksX2_person_3 17 rfl rfl)
theorem dX2_person_88 : decode cX2_person 88 = .ok (.iload_n 3, 1) := dk_29 (dk_at dksX2_person_3 20 rfl rfl)
theorem dX2_person_89 : decode cX2_person 89 = .ok (.iaload, 1) := dk_46 (dk_at dksX2_person_3 21 rfl rfl)
theorem dX2_person_90 : decode cX2_person 90 = .ok (.invokestatic 249, 3) := dk_184 0 249 (dk_at dksX2_person_4 0 rfl rfl)
theorem dX2_person_93 : decode cX2_person 93 = .ok (.ireturn, 1) := dk_172 (dk_at dksX2_person_4 3 rfl rfl)
theorem dX2_person_94 : decode cX2_person 94 = .ok (.aload_n 0, 1) := dk_42 (dk_at dksX2_person_4 4 rfl rfl)
theorem dX2_person_95 : decode cX2_person 95 = .ok (.getfield 20, 3) := dk_180 0 20 (dk_at dksX2_person_4 5 rfl rfl)
theorem dX2_person_98 : decode cX2_person 98 = .ok (.iload_n 3, 1) := dk_29 (dk_at dksX2_person_4 8 rfl rfl)
theorem dX2_person_99 : decode cX2_person 99 = .ok (.iconst 3, 1) := dk_6 (dk_at dksX2_person_4 9 rfl rfl)
theorem dX2_person_100 : decode cX2_person 100 = .ok (.iadd, 1) := dk_96 (dk_at dksX2_person_4 10 rfl rfl)
theorem dX2_person_101 : decode cX2_person 101 = .ok (.iaload, 1) := dk_46 (dk_at dksX2_person_4 11 rfl rfl)
theorem dX2_person_102 : decode cX2_person 102 = .ok (.ifCond .ne 8, 3) := dk_154 0 8 (dk_at dksX2_person_4 12 rfl rfl)
theorem dX2_person_105 : decode cX2_person 105 = .ok (.bipush (-2), 2) := dk_16 254 (dk_at dksX2_person_4 15 rfl rfl)
theorem dX2_person_107 : decode cX2_person 107 = .ok (.goto 13, 3) := dk_167 0 13 (dk_at dksX2_person_4 17 rfl rfl)
theorem dX2_person_110 : decode cX2_person 110 = .ok (.aload_n 0, 1) := dk_42 (dk_at dksX2_person_4 20 rfl rfl)
theorem dX2_person_111 : decode cX2_person 111 = .ok (.getfield 20, 3) := dk_180 0 20 (dk_at dksX2_person_4 21 rfl rfl)
theorem dX2_person_114 : decode cX2_person 114 = .ok (.iload_n 3, 1) := dk_29 (dk_at dksX2_person_5 0 rfl rfl)
theorem dX2_person_115 : decode cX2_person 115 = .ok (.iconst 3, 1) := dk_6 (dk_at dksX2_person_5 1 rfl rfl)
theorem dX2_person_116 : decode cX2_person 116 = .ok (.iadd, 1) := dk_96 (dk_at dksX2_person_5 2 rfl rfl)
theorem dX2_person_117 : decode cX2_person 117 = .ok (.iaload, 1) := dk_46 (dk_at dksX2_person_5 3 rfl rfl)
theorem dX2_person_118 : decode cX2_person 118 = .ok (.iconst 1, 1) := dk_4 (dk_at dksX2_person_5 4 rfl rfl)
theorem dX2_person_119 : decode cX2_person 119 = .ok (.isub, 1) := dk_100 (dk_at dksX2_person_5 5 rfl rfl)
theorem dX2_person_120 : decode cX2_person 120 = .ok (.ireturn, 1) := dk_172 (dk_at dksX2_person_5 6 rfl rfl)
theorem dX2_person_121 : decode cX2_person 121 = .ok (.aload_n 0, 1) := dk_42 (dk_at dksX2_person_5 7 rfl rfl)
theorem dX2_person_122 : decode cX2_person 122 = .ok (.getfield 26, 3) := dk_180 0 26 (dk_at dksX2_person_5 8 rfl rfl)
theorem dX2_person_125 : decode cX2_person 125 = .ok (.iload_n 1, 1) := dk_27 (dk_at dksX2_person_5 11 rfl rfl)
theorem dX2_person_126 : decode cX2_person 126 = .ok (.iaload, 1) := dk_46 (dk_at dksX2_person_5 12 rfl rfl)
theorem dX2_person_127 : decode cX2_person 127 = .ok (.ifCond .ne 8, 3) := dk_154 0 8 (dk_at dksX2_person_5 13 rfl rfl)
theorem dX2_person_130 : decode cX2_person 130 = .ok (.bipush (-2), 2) := dk_16 254 (dk_at dksX2_person_5 16 rfl rfl)
theorem dX2_person_132 : decode cX2_person 132 = .ok (.goto 11, 3) := dk_167 0 11 (dk_at dksX2_person_5 18 rfl rfl)
theorem dX2_person_135 : decode cX2_person 135 = .ok (.aload_n 0, 1) := dk_42 (dk_at dksX2_person_5 21 rfl rfl)
theorem dX2_person_136 : decode cX2_person 136 = .ok (.getfield 26, 3) := dk_180 0 26 (dk_at dksX2_person_6 0 rfl rfl)
theorem dX2_person_139 : decode cX2_person 139 = .ok (.iload_n 1, 1) := dk_27 (dk_at dksX2_person_6 3 rfl rfl)
theorem dX2_person_140 : decode cX2_person 140 = .ok (.iaload, 1) := dk_46 (dk_at dksX2_person_6 4 rfl rfl)
theorem dX2_person_141 : decode cX2_person 141 = .ok (.iconst 1, 1) := dk_4 (dk_at dksX2_person_6 5 rfl rfl)
theorem dX2_person_142 : decode cX2_person 142 = .ok (.isub, 1) := dk_100 (dk_at dksX2_person_6 6 rfl rfl)
theorem dX2_person_143 : decode cX2_person 143 = .ok (.ireturn, 1) := dk_172 (dk_at dksX2_person_6 7 rfl rfl)
theorem dX2_person_144 : decode cX2_person 144 = .ok (.aload_n 0, 1) := dk_42 (dk_at dksX2_person_6 8 rfl rfl)
theorem dX2_person_145 : decode cX2_person 145 = .ok (.iload_n 1, 1) := dk_27 (dk_at dksX2_person_6 9 rfl rfl)
theorem dX2_person_146 : decode cX2_person 146 = .ok (.invokevirtual 299, 3) := dk_182 1 43 (dk_at dksX2_person_6 10 rfl rfl)
theorem dX2_person_149 : decode cX2_person 149 = .ok (.ireturn, 1) := dk_172 (dk_at dksX2_person_6 13 rfl rfl)
abbrev cX2_isPerson : ByteArray := prog_15_method_46_code
def yX2_isPerson : MethodName := ⟨RX2, "isPerson", "(I)Z"⟩
def dkwX2_isPerson_1 : List UInt8 := [167, 0, 4, 3, 172]
abbrev dktX2_isPerson_1 : List UInt8 := dkwX2_isPerson_1 ++ []
def dkwX2_isPerson_0 : List UInt8 := [42, 180, 0, 176, 153, 0, 23, 27, 3, 42, 180, 0, 20, 6, 46, 4, 100, 184, 0, 139, 153, 0, 7, 4]
abbrev dktX2_isPerson_0 : List UInt8 := dkwX2_isPerson_0 ++ dktX2_isPerson_1
theorem dksX2_isPerson_0 : cX2_isPerson.data.toList.drop 0 = dktX2_isPerson_0 := by decide +kernel
theorem dksX2_isPerson_1 : cX2_isPerson.data.toList.drop 24 = dktX2_isPerson_1 := dk_seg dksX2_isPerson_0 24 rfl rfl
theorem dX2_isPerson_0 : decode cX2_isPerson 0 = .ok (.aload_n 0, 1) := dk_42 (dk_at dksX2_isPerson_0 0 rfl rfl)
theorem dX2_isPerson_1 : decode cX2_isPerson 1 = .ok (.getfield 176, 3) := dk_180 0 176 (dk_at dksX2_isPerson_0 1 rfl rfl)
theorem dX2_isPerson_4 : decode cX2_isPerson 4 = .ok (.ifCond .eq 23, 3) := dk_153 0 23 (dk_at dksX2_isPerson_0 4 rfl rfl)
theorem dX2_isPerson_7 : decode cX2_isPerson 7 = .ok (.iload_n 1, 1) := dk_27 (dk_at dksX2_isPerson_0 7 rfl rfl)
theorem dX2_isPerson_8 : decode cX2_isPerson 8 = .ok (.iconst 0, 1) := dk_3 (dk_at dksX2_isPerson_0 8 rfl rfl)
theorem dX2_isPerson_9 : decode cX2_isPerson 9 = .ok (.aload_n 0, 1) := dk_42 (dk_at dksX2_isPerson_0 9 rfl rfl)
theorem dX2_isPerson_10 : decode cX2_isPerson 10 = .ok (.getfield 20, 3) := dk_180 0 20 (dk_at dksX2_isPerson_0 10 rfl rfl)
theorem dX2_isPerson_13 : decode cX2_isPerson 13 = .ok (.iconst 3, 1) := dk_6 (dk_at dksX2_isPerson_0 13 rfl rfl)
theorem dX2_isPerson_14 : decode cX2_isPerson 14 = .ok (.iaload, 1) := dk_46 (dk_at dksX2_isPerson_0 14 rfl rfl)
theorem dX2_isPerson_15 : decode cX2_isPerson 15 = .ok (.iconst 1, 1) := dk_4 (dk_at dksX2_isPerson_0 15 rfl rfl)
theorem dX2_isPerson_16 : decode cX2_isPerson 16 = .ok (.isub, 1) := dk_100 (dk_at dksX2_isPerson_0 16 rfl rfl)
theorem dX2_isPerson_17 : decode cX2_isPerson 17 = .ok (.invokestatic 139, 3) := dk_184 0 139 (dk_at dksX2_isPerson_0 17 rfl rfl)
theorem dX2_isPerson_20 : decode cX2_isPerson 20 = .ok (.ifCond .eq 7, 3) := dk_153 0 7 (dk_at dksX2_isPerson_0 20 rfl rfl)
theorem dX2_isPerson_23 : decode cX2_isPerson 23 = .ok (.iconst 1, 1) := dk_4 (dk_at dksX2_isPerson_0 23 rfl rfl)
theorem dX2_isPerson_24 : decode cX2_isPerson 24 = .ok (.goto 4, 3) := dk_167 0 4 (dk_at dksX2_isPerson_1 0 rfl rfl)
theorem dX2_isPerson_27 : decode cX2_isPerson 27 = .ok (.iconst 0, 1) := dk_3 (dk_at dksX2_isPerson_1 3 rfl rfl)
theorem dX2_isPerson_28 : decode cX2_isPerson 28 = .ok (.ireturn, 1) := dk_172 (dk_at dksX2_isPerson_1 4 rfl rfl)
abbrev cX2_eyesOfKind : ByteArray := prog_15_method_49_code
def yX2_eyesOfKind : MethodName := ⟨RX2, "eyesOfKind", "(I)I"⟩
def dkwX2_eyesOfKind_0 : List UInt8 := [26, 5, 160, 0, 7, 3, 167, 0, 13, 26, 6, 160, 0, 7, 4, 167, 0, 4, 5, 172]
abbrev dktX2_eyesOfKind_0 : List UInt8 := dkwX2_eyesOfKind_0 ++ []
theorem dksX2_eyesOfKind_0 : cX2_eyesOfKind.data.toList.drop 0 = dktX2_eyesOfKind_0 := by decide +kernel
theorem dX2_eyesOfKind_0 : decode cX2_eyesOfKind 0 = .ok (.iload_n 0, 1) := dk_26 (dk_at dksX2_eyesOfKind_0 0 rfl rfl)
theorem dX2_eyesOfKind_1 : decode cX2_eyesOfKind 1 = .ok (.iconst 2, 1) := dk_5 (dk_at dksX2_eyesOfKind_0 1 rfl rfl)
theorem dX2_eyesOfKind_2 : decode cX2_eyesOfKind 2 = .ok (.if_icmp .ne 7, 3) := dk_160 0 7 (dk_at dksX2_eyesOfKind_0 2 rfl rfl)
theorem dX2_eyesOfKind_5 : decode cX2_eyesOfKind 5 = .ok (.iconst 0, 1) := dk_3 (dk_at dksX2_eyesOfKind_0 5 rfl rfl)
theorem dX2_eyesOfKind_6 : decode cX2_eyesOfKind 6 = .ok (.goto 13, 3) := dk_167 0 13 (dk_at dksX2_eyesOfKind_0 6 rfl rfl)
theorem dX2_eyesOfKind_9 : decode cX2_eyesOfKind 9 = .ok (.iload_n 0, 1) := dk_26 (dk_at dksX2_eyesOfKind_0 9 rfl rfl)
theorem dX2_eyesOfKind_10 : decode cX2_eyesOfKind 10 = .ok (.iconst 3, 1) := dk_6 (dk_at dksX2_eyesOfKind_0 10 rfl rfl)
theorem dX2_eyesOfKind_11 : decode cX2_eyesOfKind 11 = .ok (.if_icmp .ne 7, 3) := dk_160 0 7 (dk_at dksX2_eyesOfKind_0 11 rfl rfl)
theorem dX2_eyesOfKind_14 : decode cX2_eyesOfKind 14 = .ok (.iconst 1, 1) := dk_4 (dk_at dksX2_eyesOfKind_0 14 rfl rfl)
theorem dX2_eyesOfKind_15 : decode cX2_eyesOfKind 15 = .ok (.goto 4, 3) := dk_167 0 4 (dk_at dksX2_eyesOfKind_0 15 rfl rfl)
theorem dX2_eyesOfKind_18 : decode cX2_eyesOfKind 18 = .ok (.iconst 2, 1) := dk_5 (dk_at dksX2_eyesOfKind_0 18 rfl rfl)
theorem dX2_eyesOfKind_19 : decode cX2_eyesOfKind 19 = .ok (.ireturn, 1) := dk_172 (dk_at dksX2_eyesOfKind_0 19 rfl rfl)
abbrev cX2_quarrelsOf : ByteArray := prog_15_method_60_code
def yX2_quarrelsOf : MethodName := ⟨RX2, "quarrelsOf", "(I)I"⟩
def dkwX2_quarrelsOf_2 : List UInt8 := [29, 120, 167, 0, 4, 3, 128, 61, 132, 3, 1, 167, 255, 201, 28, 172]
abbrev dktX2_quarrelsOf_2 : List UInt8 := dkwX2_quarrelsOf_2 ++ []
def dkwX2_quarrelsOf_1 : List UInt8 := [96, 46, 27, 159, 0, 20, 42, 180, 0, 20, 16, 80, 8, 29, 104, 96, 4, 96, 46, 27, 160, 0, 9, 4]
abbrev dktX2_quarrelsOf_1 : List UInt8 := dkwX2_quarrelsOf_1 ++ dktX2_quarrelsOf_2
def dkwX2_quarrelsOf_0 : List UInt8 := [3, 61, 3, 62, 29, 42, 180, 0, 20, 8, 46, 162, 0, 51, 28, 42, 180, 0, 20, 16, 80, 8, 29, 104]
abbrev dktX2_quarrelsOf_0 : List UInt8 := dkwX2_quarrelsOf_0 ++ dktX2_quarrelsOf_1
theorem dksX2_quarrelsOf_0 : cX2_quarrelsOf.data.toList.drop 0 = dktX2_quarrelsOf_0 := by decide +kernel
theorem dksX2_quarrelsOf_1 : cX2_quarrelsOf.data.toList.drop 24 = dktX2_quarrelsOf_1 := dk_seg dksX2_quarrelsOf_0 24 rfl rfl
theorem dksX2_quarrelsOf_2 : cX2_quarrelsOf.data.toList.drop 48 = dktX2_quarrelsOf_2 := dk_seg dksX2_quarrelsOf_1 24 rfl rfl
theorem dX2_quarrelsOf_0 : decode cX2_quarrelsOf 0 = .ok (.iconst 0, 1) := dk_3 (dk_at dksX2_quarrelsOf_0 0 rfl rfl)
theorem dX2_quarrelsOf_1 : decode cX2_quarrelsOf 1 = .ok (.istore_n 2, 1) := dk_61 (dk_at dksX2_quarrelsOf_0 1 rfl rfl)
theorem dX2_quarrelsOf_2 : decode cX2_quarrelsOf 2 = .ok (.iconst 0, 1) := dk_3 (dk_at dksX2_quarrelsOf_0 2 rfl rfl)
theorem dX2_quarrelsOf_3 : decode cX2_quarrelsOf 3 = .ok (.istore_n 3, 1) := dk_62 (dk_at dksX2_quarrelsOf_0 3 rfl rfl)
theorem dX2_quarrelsOf_4 : decode cX2_quarrelsOf 4 = .ok (.iload_n 3, 1) := dk_29 (dk_at dksX2_quarrelsOf_0 4 rfl rfl)
theorem dX2_quarrelsOf_5 : decode cX2_quarrelsOf 5 = .ok (.aload_n 0, 1) := dk_42 (dk_at dksX2_quarrelsOf_0 5 rfl rfl)
theorem dX2_quarrelsOf_6 : decode cX2_quarrelsOf 6 = .ok (.getfield 20, 3) := dk_180 0 20 (dk_at dksX2_quarrelsOf_0 6 rfl rfl)
theorem dX2_quarrelsOf_9 : decode cX2_quarrelsOf 9 = .ok (.iconst 5, 1) := dk_8 (dk_at dksX2_quarrelsOf_0 9 rfl rfl)
theorem dX2_quarrelsOf_10 : decode cX2_quarrelsOf 10 = .ok (.iaload, 1) := dk_46 (dk_at dksX2_quarrelsOf_0 10 rfl rfl)
theorem dX2_quarrelsOf_11 : decode cX2_quarrelsOf 11 = .ok (.if_icmp .ge 51, 3) := dk_162 0 51 (dk_at dksX2_quarrelsOf_0 11 rfl rfl)
theorem dX2_quarrelsOf_14 : decode cX2_quarrelsOf 14 = .ok (.iload_n 2, 1) := dk_28 (dk_at dksX2_quarrelsOf_0 14 rfl rfl)
theorem dX2_quarrelsOf_15 : decode cX2_quarrelsOf 15 = .ok (.aload_n 0, 1) := dk_42 (dk_at dksX2_quarrelsOf_0 15 rfl rfl)
theorem dX2_quarrelsOf_16 : decode cX2_quarrelsOf 16 = .ok (.getfield 20, 3) := dk_180 0 20 (dk_at dksX2_quarrelsOf_0 16 rfl rfl)
theorem dX2_quarrelsOf_19 : decode cX2_quarrelsOf 19 = .ok (.bipush 80, 2) := dk_16 80 (dk_at dksX2_quarrelsOf_0 19 rfl rfl)
theorem dX2_quarrelsOf_21 : decode cX2_quarrelsOf 21 = .ok (.iconst 5, 1) := dk_8 (dk_at dksX2_quarrelsOf_0 21 rfl rfl)
theorem dX2_quarrelsOf_22 : decode cX2_quarrelsOf 22 = .ok (.iload_n 3, 1) := dk_29 (dk_at dksX2_quarrelsOf_0 22 rfl rfl)
theorem dX2_quarrelsOf_23 : decode cX2_quarrelsOf 23 = .ok (.imul, 1) := dk_104 (dk_at dksX2_quarrelsOf_0 23 rfl rfl)
theorem dX2_quarrelsOf_24 : decode cX2_quarrelsOf 24 = .ok (.iadd, 1) := dk_96 (dk_at dksX2_quarrelsOf_1 0 rfl rfl)
theorem dX2_quarrelsOf_25 : decode cX2_quarrelsOf 25 = .ok (.iaload, 1) := dk_46 (dk_at dksX2_quarrelsOf_1 1 rfl rfl)
theorem dX2_quarrelsOf_26 : decode cX2_quarrelsOf 26 = .ok (.iload_n 1, 1) := dk_27 (dk_at dksX2_quarrelsOf_1 2 rfl rfl)
theorem dX2_quarrelsOf_27 : decode cX2_quarrelsOf 27 = .ok (.if_icmp .eq 20, 3) := dk_159 0 20 (dk_at dksX2_quarrelsOf_1 3 rfl rfl)
theorem dX2_quarrelsOf_30 : decode cX2_quarrelsOf 30 = .ok (.aload_n 0, 1) := dk_42 (dk_at dksX2_quarrelsOf_1 6 rfl rfl)
theorem dX2_quarrelsOf_31 : decode cX2_quarrelsOf 31 = .ok (.getfield 20, 3) := dk_180 0 20 (dk_at dksX2_quarrelsOf_1 7 rfl rfl)
theorem dX2_quarrelsOf_34 : decode cX2_quarrelsOf 34 = .ok (.bipush 80, 2) := dk_16 80 (dk_at dksX2_quarrelsOf_1 10 rfl rfl)
theorem dX2_quarrelsOf_36 : decode cX2_quarrelsOf 36 = .ok (.iconst 5, 1) := dk_8 (dk_at dksX2_quarrelsOf_1 12 rfl rfl)
theorem dX2_quarrelsOf_37 : decode cX2_quarrelsOf 37 = .ok (.iload_n 3, 1) := dk_29 (dk_at dksX2_quarrelsOf_1 13 rfl rfl)
theorem dX2_quarrelsOf_38 : decode cX2_quarrelsOf 38 = .ok (.imul, 1) := dk_104 (dk_at dksX2_quarrelsOf_1 14 rfl rfl)
theorem dX2_quarrelsOf_39 : decode cX2_quarrelsOf 39 = .ok (.iadd, 1) := dk_96 (dk_at dksX2_quarrelsOf_1 15 rfl rfl)
theorem dX2_quarrelsOf_40 : decode cX2_quarrelsOf 40 = .ok (.iconst 1, 1) := dk_4 (dk_at dksX2_quarrelsOf_1 16 rfl rfl)
theorem dX2_quarrelsOf_41 : decode cX2_quarrelsOf 41 = .ok (.iadd, 1) := dk_96 (dk_at dksX2_quarrelsOf_1 17 rfl rfl)
theorem dX2_quarrelsOf_42 : decode cX2_quarrelsOf 42 = .ok (.iaload, 1) := dk_46 (dk_at dksX2_quarrelsOf_1 18 rfl rfl)
theorem dX2_quarrelsOf_43 : decode cX2_quarrelsOf 43 = .ok (.iload_n 1, 1) := dk_27 (dk_at dksX2_quarrelsOf_1 19 rfl rfl)
theorem dX2_quarrelsOf_44 : decode cX2_quarrelsOf 44 = .ok (.if_icmp .ne 9, 3) := dk_160 0 9 (dk_at dksX2_quarrelsOf_1 20 rfl rfl)
theorem dX2_quarrelsOf_47 : decode cX2_quarrelsOf 47 = .ok (.iconst 1, 1) := dk_4 (dk_at dksX2_quarrelsOf_1 23 rfl rfl)
theorem dX2_quarrelsOf_48 : decode cX2_quarrelsOf 48 = .ok (.iload_n 3, 1) := dk_29 (dk_at dksX2_quarrelsOf_2 0 rfl rfl)
theorem dX2_quarrelsOf_49 : decode cX2_quarrelsOf 49 = .ok (.ishl, 1) := dk_120 (dk_at dksX2_quarrelsOf_2 1 rfl rfl)
theorem dX2_quarrelsOf_50 : decode cX2_quarrelsOf 50 = .ok (.goto 4, 3) := dk_167 0 4 (dk_at dksX2_quarrelsOf_2 2 rfl rfl)
theorem dX2_quarrelsOf_53 : decode cX2_quarrelsOf 53 = .ok (.iconst 0, 1) := dk_3 (dk_at dksX2_quarrelsOf_2 5 rfl rfl)
theorem dX2_quarrelsOf_54 : decode cX2_quarrelsOf 54 = .ok (.ior, 1) := dk_128 (dk_at dksX2_quarrelsOf_2 6 rfl rfl)
theorem dX2_quarrelsOf_55 : decode cX2_quarrelsOf 55 = .ok (.istore_n 2, 1) := dk_61 (dk_at dksX2_quarrelsOf_2 7 rfl rfl)
theorem dX2_quarrelsOf_56 : decode cX2_quarrelsOf 56 = .ok (.iinc 3 1, 3) := dk_132 3 1 (dk_at dksX2_quarrelsOf_2 8 rfl rfl)
theorem dX2_quarrelsOf_59 : decode cX2_quarrelsOf 59 = .ok (.goto (-55), 3) := dk_167 255 201 (dk_at dksX2_quarrelsOf_2 11 rfl rfl)
theorem dX2_quarrelsOf_62 : decode cX2_quarrelsOf 62 = .ok (.iload_n 2, 1) := dk_28 (dk_at dksX2_quarrelsOf_2 14 rfl rfl)
theorem dX2_quarrelsOf_63 : decode cX2_quarrelsOf 63 = .ok (.ireturn, 1) := dk_172 (dk_at dksX2_quarrelsOf_2 15 rfl rfl)
abbrev cX2_sight : ByteArray := prog_15_method_62_code
def yX2_sight : MethodName := ⟨RX2, "sight", "(II)I"⟩
def dkwX2_sight_2 : List UInt8 := [167, 0, 14, 42, 180, 0, 26, 16, 6, 46, 27, 122, 4, 126, 172]
abbrev dktX2_sight_2 : List UInt8 := dkwX2_sight_2 ++ []
def dkwX2_sight_1 : List UInt8 := [182, 0, 166, 172, 28, 5, 162, 0, 19, 42, 180, 0, 20, 16, 10, 5, 27, 104, 96, 28, 96, 46]
abbrev dktX2_sight_1 : List UInt8 := dkwX2_sight_1 ++ dktX2_sight_2
def dkwX2_sight_0 : List UInt8 := [42, 182, 0, 163, 42, 27, 182, 1, 46, 153, 0, 12, 28, 3, 5, 184, 0, 139, 154, 0, 9, 42, 4]
abbrev dktX2_sight_0 : List UInt8 := dkwX2_sight_0 ++ dktX2_sight_1
theorem dksX2_sight_0 : cX2_sight.data.toList.drop 0 = dktX2_sight_0 := by decide +kernel
theorem dksX2_sight_1 : cX2_sight.data.toList.drop 23 = dktX2_sight_1 := dk_seg dksX2_sight_0 23 rfl rfl
theorem dksX2_sight_2 : cX2_sight.data.toList.drop 45 = dktX2_sight_2 := dk_seg dksX2_sight_1 22 rfl rfl
theorem dX2_sight_0 : decode cX2_sight 0 = .ok (.aload_n 0, 1) := dk_42 (dk_at dksX2_sight_0 0 rfl rfl)
theorem dX2_sight_1 : decode cX2_sight 1 = .ok (.invokevirtual 163, 3) := dk_182 0 163 (dk_at dksX2_sight_0 1 rfl rfl)
theorem dX2_sight_4 : decode cX2_sight 4 = .ok (.aload_n 0, 1) := dk_42 (dk_at dksX2_sight_0 4 rfl rfl)
theorem dX2_sight_5 : decode cX2_sight 5 = .ok (.iload_n 1, 1) := dk_27 (dk_at dksX2_sight_0 5 rfl rfl)
theorem dX2_sight_6 : decode cX2_sight 6 = .ok (.invokevirtual 302, 3) := dk_182 1 46 (dk_at dksX2_sight_0 6 rfl rfl)
theorem dX2_sight_9 : decode cX2_sight 9 = .ok (.ifCond .eq 12, 3) := dk_153 0 12 (dk_at dksX2_sight_0 9 rfl rfl)
theorem dX2_sight_12 : decode cX2_sight 12 = .ok (.iload_n 2, 1) := dk_28 (dk_at dksX2_sight_0 12 rfl rfl)
theorem dX2_sight_13 : decode cX2_sight 13 = .ok (.iconst 0, 1) := dk_3 (dk_at dksX2_sight_0 13 rfl rfl)
theorem dX2_sight_14 : decode cX2_sight 14 = .ok (.iconst 2, 1) := dk_5 (dk_at dksX2_sight_0 14 rfl rfl)
theorem dX2_sight_15 : decode cX2_sight 15 = .ok (.invokestatic 139, 3) := dk_184 0 139 (dk_at dksX2_sight_0 15 rfl rfl)
theorem dX2_sight_18 : decode cX2_sight 18 = .ok (.ifCond .ne 9, 3) := dk_154 0 9 (dk_at dksX2_sight_0 18 rfl rfl)
theorem dX2_sight_21 : decode cX2_sight 21 = .ok (.aload_n 0, 1) := dk_42 (dk_at dksX2_sight_0 21 rfl rfl)
theorem dX2_sight_22 : decode cX2_sight 22 = .ok (.iconst 1, 1) := dk_4 (dk_at dksX2_sight_0 22 rfl rfl)
theorem dX2_sight_23 : decode cX2_sight 23 = .ok (.invokevirtual 166, 3) := dk_182 0 166 (dk_at dksX2_sight_1 0 rfl rfl)
theorem dX2_sight_26 : decode cX2_sight 26 = .ok (.ireturn, 1) := dk_172 (dk_at dksX2_sight_1 3 rfl rfl)
theorem dX2_sight_27 : decode cX2_sight 27 = .ok (.iload_n 2, 1) := dk_28 (dk_at dksX2_sight_1 4 rfl rfl)
theorem dX2_sight_28 : decode cX2_sight 28 = .ok (.iconst 2, 1) := dk_5 (dk_at dksX2_sight_1 5 rfl rfl)
theorem dX2_sight_29 : decode cX2_sight 29 = .ok (.if_icmp .ge 19, 3) := dk_162 0 19 (dk_at dksX2_sight_1 6 rfl rfl)
theorem dX2_sight_32 : decode cX2_sight 32 = .ok (.aload_n 0, 1) := dk_42 (dk_at dksX2_sight_1 9 rfl rfl)
theorem dX2_sight_33 : decode cX2_sight 33 = .ok (.getfield 20, 3) := dk_180 0 20 (dk_at dksX2_sight_1 10 rfl rfl)
theorem dX2_sight_36 : decode cX2_sight 36 = .ok (.bipush 10, 2) := dk_16 10 (dk_at dksX2_sight_1 13 rfl rfl)
theorem dX2_sight_38 : decode cX2_sight 38 = .ok (.iconst 2, 1) := dk_5 (dk_at dksX2_sight_1 15 rfl rfl)
theorem dX2_sight_39 : decode cX2_sight 39 = .ok (.iload_n 1, 1) := dk_27 (dk_at dksX2_sight_1 16 rfl rfl)
theorem dX2_sight_40 : decode cX2_sight 40 = .ok (.imul, 1) := dk_104 (dk_at dksX2_sight_1 17 rfl rfl)
theorem dX2_sight_41 : decode cX2_sight 41 = .ok (.iadd, 1) := dk_96 (dk_at dksX2_sight_1 18 rfl rfl)
theorem dX2_sight_42 : decode cX2_sight 42 = .ok (.iload_n 2, 1) := dk_28 (dk_at dksX2_sight_1 19 rfl rfl)
theorem dX2_sight_43 : decode cX2_sight 43 = .ok (.iadd, 1) := dk_96 (dk_at dksX2_sight_1 20 rfl rfl)
theorem dX2_sight_44 : decode cX2_sight 44 = .ok (.iaload, 1) := dk_46 (dk_at dksX2_sight_1 21 rfl rfl)
theorem dX2_sight_45 : decode cX2_sight 45 = .ok (.goto 14, 3) := dk_167 0 14 (dk_at dksX2_sight_2 0 rfl rfl)
theorem dX2_sight_48 : decode cX2_sight 48 = .ok (.aload_n 0, 1) := dk_42 (dk_at dksX2_sight_2 3 rfl rfl)
theorem dX2_sight_49 : decode cX2_sight 49 = .ok (.getfield 26, 3) := dk_180 0 26 (dk_at dksX2_sight_2 4 rfl rfl)
theorem dX2_sight_52 : decode cX2_sight 52 = .ok (.bipush 6, 2) := dk_16 6 (dk_at dksX2_sight_2 7 rfl rfl)
theorem dX2_sight_54 : decode cX2_sight 54 = .ok (.iaload, 1) := dk_46 (dk_at dksX2_sight_2 9 rfl rfl)
theorem dX2_sight_55 : decode cX2_sight 55 = .ok (.iload_n 1, 1) := dk_27 (dk_at dksX2_sight_2 10 rfl rfl)
theorem dX2_sight_56 : decode cX2_sight 56 = .ok (.ishr, 1) := dk_122 (dk_at dksX2_sight_2 11 rfl rfl)
theorem dX2_sight_57 : decode cX2_sight 57 = .ok (.iconst 1, 1) := dk_4 (dk_at dksX2_sight_2 12 rfl rfl)
theorem dX2_sight_58 : decode cX2_sight 58 = .ok (.iand, 1) := dk_126 (dk_at dksX2_sight_2 13 rfl rfl)
theorem dX2_sight_59 : decode cX2_sight 59 = .ok (.ireturn, 1) := dk_172 (dk_at dksX2_sight_2 14 rfl rfl)
abbrev cX2_isSight : ByteArray := prog_15_method_48_code
def yX2_isSight : MethodName := ⟨RX2, "isSight", "(I)Z"⟩
def dkwX2_isSight_1 : List UInt8 := [167, 0, 4, 3, 172]
abbrev dktX2_isSight_1 : List UInt8 := dkwX2_isSight_1 ++ []
def dkwX2_isSight_0 : List UInt8 := [42, 180, 0, 176, 153, 0, 23, 27, 3, 42, 180, 0, 20, 5, 46, 4, 100, 184, 0, 139, 153, 0, 7, 4]
abbrev dktX2_isSight_0 : List UInt8 := dkwX2_isSight_0 ++ dktX2_isSight_1
theorem dksX2_isSight_0 : cX2_isSight.data.toList.drop 0 = dktX2_isSight_0 := by decide +kernel
theorem dksX2_isSight_1 : cX2_isSight.data.toList.drop 24 = dktX2_isSight_1 := dk_seg dksX2_isSight_0 24 rfl rfl
theorem dX2_isSight_0 : decode cX2_isSight 0 = .ok (.aload_n 0, 1) := dk_42 (dk_at dksX2_isSight_0 0 rfl rfl)
theorem dX2_isSight_1 : decode cX2_isSight 1 = .ok (.getfield 176, 3) := dk_180 0 176 (dk_at dksX2_isSight_0 1 rfl rfl)
theorem dX2_isSight_4 : decode cX2_isSight 4 = .ok (.ifCond .eq 23, 3) := dk_153 0 23 (dk_at dksX2_isSight_0 4 rfl rfl)
theorem dX2_isSight_7 : decode cX2_isSight 7 = .ok (.iload_n 1, 1) := dk_27 (dk_at dksX2_isSight_0 7 rfl rfl)
theorem dX2_isSight_8 : decode cX2_isSight 8 = .ok (.iconst 0, 1) := dk_3 (dk_at dksX2_isSight_0 8 rfl rfl)
theorem dX2_isSight_9 : decode cX2_isSight 9 = .ok (.aload_n 0, 1) := dk_42 (dk_at dksX2_isSight_0 9 rfl rfl)
theorem dX2_isSight_10 : decode cX2_isSight 10 = .ok (.getfield 20, 3) := dk_180 0 20 (dk_at dksX2_isSight_0 10 rfl rfl)
theorem dX2_isSight_13 : decode cX2_isSight 13 = .ok (.iconst 2, 1) := dk_5 (dk_at dksX2_isSight_0 13 rfl rfl)
theorem dX2_isSight_14 : decode cX2_isSight 14 = .ok (.iaload, 1) := dk_46 (dk_at dksX2_isSight_0 14 rfl rfl)
theorem dX2_isSight_15 : decode cX2_isSight 15 = .ok (.iconst 1, 1) := dk_4 (dk_at dksX2_isSight_0 15 rfl rfl)
theorem dX2_isSight_16 : decode cX2_isSight 16 = .ok (.isub, 1) := dk_100 (dk_at dksX2_isSight_0 16 rfl rfl)
theorem dX2_isSight_17 : decode cX2_isSight 17 = .ok (.invokestatic 139, 3) := dk_184 0 139 (dk_at dksX2_isSight_0 17 rfl rfl)
theorem dX2_isSight_20 : decode cX2_isSight 20 = .ok (.ifCond .eq 7, 3) := dk_153 0 7 (dk_at dksX2_isSight_0 20 rfl rfl)
theorem dX2_isSight_23 : decode cX2_isSight 23 = .ok (.iconst 1, 1) := dk_4 (dk_at dksX2_isSight_0 23 rfl rfl)
theorem dX2_isSight_24 : decode cX2_isSight 24 = .ok (.goto 4, 3) := dk_167 0 4 (dk_at dksX2_isSight_1 0 rfl rfl)
theorem dX2_isSight_27 : decode cX2_isSight 27 = .ok (.iconst 0, 1) := dk_3 (dk_at dksX2_isSight_1 3 rfl rfl)
theorem dX2_isSight_28 : decode cX2_isSight 28 = .ok (.ireturn, 1) := dk_172 (dk_at dksX2_isSight_1 4 rfl rfl)
abbrev cX2_quarrel : ByteArray := prog_15_method_63_code
def yX2_quarrel : MethodName := ⟨RX2, "quarrel", "(II)I"⟩
def dkwX2_quarrel_1 : List UInt8 := [180, 0, 20, 16, 80, 8, 27, 104, 96, 28, 96, 46, 167, 0, 8, 42, 4, 182, 0, 166, 172]
abbrev dktX2_quarrel_1 : List UInt8 := dkwX2_quarrel_1 ++ []
def dkwX2_quarrel_0 : List UInt8 := [42, 182, 0, 163, 42, 27, 182, 1, 49, 153, 0, 28, 28, 3, 7, 184, 0, 139, 153, 0, 19, 42]
abbrev dktX2_quarrel_0 : List UInt8 := dkwX2_quarrel_0 ++ dktX2_quarrel_1
theorem dksX2_quarrel_0 : cX2_quarrel.data.toList.drop 0 = dktX2_quarrel_0 := by decide +kernel
theorem dksX2_quarrel_1 : cX2_quarrel.data.toList.drop 22 = dktX2_quarrel_1 := dk_seg dksX2_quarrel_0 22 rfl rfl
theorem dX2_quarrel_0 : decode cX2_quarrel 0 = .ok (.aload_n 0, 1) := dk_42 (dk_at dksX2_quarrel_0 0 rfl rfl)
theorem dX2_quarrel_1 : decode cX2_quarrel 1 = .ok (.invokevirtual 163, 3) := dk_182 0 163 (dk_at dksX2_quarrel_0 1 rfl rfl)
theorem dX2_quarrel_4 : decode cX2_quarrel 4 = .ok (.aload_n 0, 1) := dk_42 (dk_at dksX2_quarrel_0 4 rfl rfl)
theorem dX2_quarrel_5 : decode cX2_quarrel 5 = .ok (.iload_n 1, 1) := dk_27 (dk_at dksX2_quarrel_0 5 rfl rfl)
theorem dX2_quarrel_6 : decode cX2_quarrel 6 = .ok (.invokevirtual 305, 3) := dk_182 1 49 (dk_at dksX2_quarrel_0 6 rfl rfl)
theorem dX2_quarrel_9 : decode cX2_quarrel 9 = .ok (.ifCond .eq 28, 3) := dk_153 0 28 (dk_at dksX2_quarrel_0 9 rfl rfl)
theorem dX2_quarrel_12 : decode cX2_quarrel 12 = .ok (.iload_n 2, 1) := dk_28 (dk_at dksX2_quarrel_0 12 rfl rfl)
theorem dX2_quarrel_13 : decode cX2_quarrel 13 = .ok (.iconst 0, 1) := dk_3 (dk_at dksX2_quarrel_0 13 rfl rfl)
theorem dX2_quarrel_14 : decode cX2_quarrel 14 = .ok (.iconst 4, 1) := dk_7 (dk_at dksX2_quarrel_0 14 rfl rfl)
theorem dX2_quarrel_15 : decode cX2_quarrel 15 = .ok (.invokestatic 139, 3) := dk_184 0 139 (dk_at dksX2_quarrel_0 15 rfl rfl)
theorem dX2_quarrel_18 : decode cX2_quarrel 18 = .ok (.ifCond .eq 19, 3) := dk_153 0 19 (dk_at dksX2_quarrel_0 18 rfl rfl)
theorem dX2_quarrel_21 : decode cX2_quarrel 21 = .ok (.aload_n 0, 1) := dk_42 (dk_at dksX2_quarrel_0 21 rfl rfl)
theorem dX2_quarrel_22 : decode cX2_quarrel 22 = .ok (.getfield 20, 3) := dk_180 0 20 (dk_at dksX2_quarrel_1 0 rfl rfl)
theorem dX2_quarrel_25 : decode cX2_quarrel 25 = .ok (.bipush 80, 2) := dk_16 80 (dk_at dksX2_quarrel_1 3 rfl rfl)
theorem dX2_quarrel_27 : decode cX2_quarrel 27 = .ok (.iconst 5, 1) := dk_8 (dk_at dksX2_quarrel_1 5 rfl rfl)
theorem dX2_quarrel_28 : decode cX2_quarrel 28 = .ok (.iload_n 1, 1) := dk_27 (dk_at dksX2_quarrel_1 6 rfl rfl)
theorem dX2_quarrel_29 : decode cX2_quarrel 29 = .ok (.imul, 1) := dk_104 (dk_at dksX2_quarrel_1 7 rfl rfl)
theorem dX2_quarrel_30 : decode cX2_quarrel 30 = .ok (.iadd, 1) := dk_96 (dk_at dksX2_quarrel_1 8 rfl rfl)
theorem dX2_quarrel_31 : decode cX2_quarrel 31 = .ok (.iload_n 2, 1) := dk_28 (dk_at dksX2_quarrel_1 9 rfl rfl)
theorem dX2_quarrel_32 : decode cX2_quarrel 32 = .ok (.iadd, 1) := dk_96 (dk_at dksX2_quarrel_1 10 rfl rfl)
theorem dX2_quarrel_33 : decode cX2_quarrel 33 = .ok (.iaload, 1) := dk_46 (dk_at dksX2_quarrel_1 11 rfl rfl)
theorem dX2_quarrel_34 : decode cX2_quarrel 34 = .ok (.goto 8, 3) := dk_167 0 8 (dk_at dksX2_quarrel_1 12 rfl rfl)
theorem dX2_quarrel_37 : decode cX2_quarrel 37 = .ok (.aload_n 0, 1) := dk_42 (dk_at dksX2_quarrel_1 15 rfl rfl)
theorem dX2_quarrel_38 : decode cX2_quarrel 38 = .ok (.iconst 1, 1) := dk_4 (dk_at dksX2_quarrel_1 16 rfl rfl)
theorem dX2_quarrel_39 : decode cX2_quarrel 39 = .ok (.invokevirtual 166, 3) := dk_182 0 166 (dk_at dksX2_quarrel_1 17 rfl rfl)
theorem dX2_quarrel_42 : decode cX2_quarrel 42 = .ok (.ireturn, 1) := dk_172 (dk_at dksX2_quarrel_1 20 rfl rfl)
abbrev cX2_isQuarrel : ByteArray := prog_15_method_47_code
def yX2_isQuarrel : MethodName := ⟨RX2, "isQuarrel", "(I)Z"⟩
def dkwX2_isQuarrel_1 : List UInt8 := [167, 0, 4, 3, 172]
abbrev dktX2_isQuarrel_1 : List UInt8 := dkwX2_isQuarrel_1 ++ []
def dkwX2_isQuarrel_0 : List UInt8 := [42, 180, 0, 176, 153, 0, 23, 27, 3, 42, 180, 0, 20, 8, 46, 4, 100, 184, 0, 139, 153, 0, 7, 4]
abbrev dktX2_isQuarrel_0 : List UInt8 := dkwX2_isQuarrel_0 ++ dktX2_isQuarrel_1
theorem dksX2_isQuarrel_0 : cX2_isQuarrel.data.toList.drop 0 = dktX2_isQuarrel_0 := by decide +kernel
theorem dksX2_isQuarrel_1 : cX2_isQuarrel.data.toList.drop 24 = dktX2_isQuarrel_1 := dk_seg dksX2_isQuarrel_0 24 rfl rfl
theorem dX2_isQuarrel_0 : decode cX2_isQuarrel 0 = .ok (.aload_n 0, 1) := dk_42 (dk_at dksX2_isQuarrel_0 0 rfl rfl)
theorem dX2_isQuarrel_1 : decode cX2_isQuarrel 1 = .ok (.getfield 176, 3) := dk_180 0 176 (dk_at dksX2_isQuarrel_0 1 rfl rfl)
theorem dX2_isQuarrel_4 : decode cX2_isQuarrel 4 = .ok (.ifCond .eq 23, 3) := dk_153 0 23 (dk_at dksX2_isQuarrel_0 4 rfl rfl)
theorem dX2_isQuarrel_7 : decode cX2_isQuarrel 7 = .ok (.iload_n 1, 1) := dk_27 (dk_at dksX2_isQuarrel_0 7 rfl rfl)
theorem dX2_isQuarrel_8 : decode cX2_isQuarrel 8 = .ok (.iconst 0, 1) := dk_3 (dk_at dksX2_isQuarrel_0 8 rfl rfl)
theorem dX2_isQuarrel_9 : decode cX2_isQuarrel 9 = .ok (.aload_n 0, 1) := dk_42 (dk_at dksX2_isQuarrel_0 9 rfl rfl)
theorem dX2_isQuarrel_10 : decode cX2_isQuarrel 10 = .ok (.getfield 20, 3) := dk_180 0 20 (dk_at dksX2_isQuarrel_0 10 rfl rfl)
theorem dX2_isQuarrel_13 : decode cX2_isQuarrel 13 = .ok (.iconst 5, 1) := dk_8 (dk_at dksX2_isQuarrel_0 13 rfl rfl)
theorem dX2_isQuarrel_14 : decode cX2_isQuarrel 14 = .ok (.iaload, 1) := dk_46 (dk_at dksX2_isQuarrel_0 14 rfl rfl)
theorem dX2_isQuarrel_15 : decode cX2_isQuarrel 15 = .ok (.iconst 1, 1) := dk_4 (dk_at dksX2_isQuarrel_0 15 rfl rfl)
theorem dX2_isQuarrel_16 : decode cX2_isQuarrel 16 = .ok (.isub, 1) := dk_100 (dk_at dksX2_isQuarrel_0 16 rfl rfl)
theorem dX2_isQuarrel_17 : decode cX2_isQuarrel 17 = .ok (.invokestatic 139, 3) := dk_184 0 139 (dk_at dksX2_isQuarrel_0 17 rfl rfl)
theorem dX2_isQuarrel_20 : decode cX2_isQuarrel 20 = .ok (.ifCond .eq 7, 3) := dk_153 0 7 (dk_at dksX2_isQuarrel_0 20 rfl rfl)
theorem dX2_isQuarrel_23 : decode cX2_isQuarrel 23 = .ok (.iconst 1, 1) := dk_4 (dk_at dksX2_isQuarrel_0 23 rfl rfl)
theorem dX2_isQuarrel_24 : decode cX2_isQuarrel 24 = .ok (.goto 4, 3) := dk_167 0 4 (dk_at dksX2_isQuarrel_1 0 rfl rfl)
theorem dX2_isQuarrel_27 : decode cX2_isQuarrel 27 = .ok (.iconst 0, 1) := dk_3 (dk_at dksX2_isQuarrel_1 3 rfl rfl)
theorem dX2_isQuarrel_28 : decode cX2_isQuarrel 28 = .ok (.ireturn, 1) := dk_172 (dk_at dksX2_isQuarrel_1 4 rfl rfl)
abbrev cX2_at : ByteArray := prog_15_method_64_code
def yX2_at : MethodName := ⟨RX2, "at", "(II)I"⟩
def dkwX2_at_1 : List UInt8 := [29, 182, 0, 166, 172, 42, 182, 1, 59, 42, 27, 28, 182, 1, 0, 172]
abbrev dktX2_at_1 : List UInt8 := dkwX2_at_1 ++ []
def dkwX2_at_0 : List UInt8 := [42, 182, 0, 163, 42, 42, 27, 182, 1, 40, 42, 28, 182, 1, 52, 182, 1, 55, 62, 29, 153, 0, 9, 42]
abbrev dktX2_at_0 : List UInt8 := dkwX2_at_0 ++ dktX2_at_1
theorem dksX2_at_0 : cX2_at.data.toList.drop 0 = dktX2_at_0 := by decide +kernel
theorem dksX2_at_1 : cX2_at.data.toList.drop 24 = dktX2_at_1 := dk_seg dksX2_at_0 24 rfl rfl
theorem dX2_at_0 : decode cX2_at 0 = .ok (.aload_n 0, 1) := dk_42 (dk_at dksX2_at_0 0 rfl rfl)
theorem dX2_at_1 : decode cX2_at 1 = .ok (.invokevirtual 163, 3) := dk_182 0 163 (dk_at dksX2_at_0 1 rfl rfl)
theorem dX2_at_4 : decode cX2_at 4 = .ok (.aload_n 0, 1) := dk_42 (dk_at dksX2_at_0 4 rfl rfl)
theorem dX2_at_5 : decode cX2_at 5 = .ok (.aload_n 0, 1) := dk_42 (dk_at dksX2_at_0 5 rfl rfl)
theorem dX2_at_6 : decode cX2_at 6 = .ok (.iload_n 1, 1) := dk_27 (dk_at dksX2_at_0 6 rfl rfl)
theorem dX2_at_7 : decode cX2_at 7 = .ok (.invokevirtual 296, 3) := dk_182 1 40 (dk_at dksX2_at_0 7 rfl rfl)
theorem dX2_at_10 : decode cX2_at 10 = .ok (.aload_n 0, 1) := dk_42 (dk_at dksX2_at_0 10 rfl rfl)
theorem dX2_at_11 : decode cX2_at 11 = .ok (.iload_n 2, 1) := dk_28 (dk_at dksX2_at_0 11 rfl rfl)
theorem dX2_at_12 : decode cX2_at 12 = .ok (.invokevirtual 308, 3) := dk_182 1 52 (dk_at dksX2_at_0 12 rfl rfl)
theorem dX2_at_15 : decode cX2_at 15 = .ok (.invokevirtual 311, 3) := dk_182 1 55 (dk_at dksX2_at_0 15 rfl rfl)
theorem dX2_at_18 : decode cX2_at 18 = .ok (.istore_n 3, 1) := dk_62 (dk_at dksX2_at_0 18 rfl rfl)
theorem dX2_at_19 : decode cX2_at 19 = .ok (.iload_n 3, 1) := dk_29 (dk_at dksX2_at_0 19 rfl rfl)
theorem dX2_at_20 : decode cX2_at 20 = .ok (.ifCond .eq 9, 3) := dk_153 0 9 (dk_at dksX2_at_0 20 rfl rfl)
theorem dX2_at_23 : decode cX2_at 23 = .ok (.aload_n 0, 1) := dk_42 (dk_at dksX2_at_0 23 rfl rfl)
theorem dX2_at_24 : decode cX2_at 24 = .ok (.iload_n 3, 1) := dk_29 (dk_at dksX2_at_1 0 rfl rfl)
theorem dX2_at_25 : decode cX2_at 25 = .ok (.invokevirtual 166, 3) := dk_182 0 166 (dk_at dksX2_at_1 1 rfl rfl)
theorem dX2_at_28 : decode cX2_at 28 = .ok (.ireturn, 1) := dk_172 (dk_at dksX2_at_1 4 rfl rfl)
theorem dX2_at_29 : decode cX2_at 29 = .ok (.aload_n 0, 1) := dk_42 (dk_at dksX2_at_1 5 rfl rfl)
theorem dX2_at_30 : decode cX2_at 30 = .ok (.invokevirtual 315, 3) := dk_182 1 59 (dk_at dksX2_at_1 6 rfl rfl)
theorem dX2_at_33 : decode cX2_at 33 = .ok (.aload_n 0, 1) := dk_42 (dk_at dksX2_at_1 9 rfl rfl)
theorem dX2_at_34 : decode cX2_at 34 = .ok (.iload_n 1, 1) := dk_27 (dk_at dksX2_at_1 10 rfl rfl)
theorem dX2_at_35 : decode cX2_at 35 = .ok (.iload_n 2, 1) := dk_28 (dk_at dksX2_at_1 11 rfl rfl)
theorem dX2_at_36 : decode cX2_at 36 = .ok (.invokevirtual 256, 3) := dk_182 1 0 (dk_at dksX2_at_1 12 rfl rfl)
theorem dX2_at_39 : decode cX2_at 39 = .ok (.ireturn, 1) := dk_172 (dk_at dksX2_at_1 15 rfl rfl)
abbrev cX2_isMinute : ByteArray := prog_15_method_59_code
def yX2_isMinute : MethodName := ⟨RX2, "isMinute", "(I)Z"⟩
def dkwX2_isMinute_0 : List UInt8 := [27, 3, 16, 59, 184, 0, 139, 172]
abbrev dktX2_isMinute_0 : List UInt8 := dkwX2_isMinute_0 ++ []
theorem dksX2_isMinute_0 : cX2_isMinute.data.toList.drop 0 = dktX2_isMinute_0 := by decide +kernel
theorem dX2_isMinute_0 : decode cX2_isMinute 0 = .ok (.iload_n 1, 1) := dk_27 (dk_at dksX2_isMinute_0 0 rfl rfl)
theorem dX2_isMinute_1 : decode cX2_isMinute 1 = .ok (.iconst 0, 1) := dk_3 (dk_at dksX2_isMinute_0 1 rfl rfl)
theorem dX2_isMinute_2 : decode cX2_isMinute 2 = .ok (.bipush 59, 2) := dk_16 59 (dk_at dksX2_isMinute_0 2 rfl rfl)
theorem dX2_isMinute_4 : decode cX2_isMinute 4 = .ok (.invokestatic 139, 3) := dk_184 0 139 (dk_at dksX2_isMinute_0 4 rfl rfl)
theorem dX2_isMinute_7 : decode cX2_isMinute 7 = .ok (.ireturn, 1) := dk_172 (dk_at dksX2_isMinute_0 7 rfl rfl)
abbrev cX2_why : ByteArray := prog_15_method_58_code
def yX2_why : MethodName := ⟨RX2, "why", "(ZZ)I"⟩
def dkwX2_why_0 : List UInt8 := [27, 154, 0, 7, 4, 167, 0, 12, 28, 153, 0, 7, 3, 167, 0, 4, 5, 172]
abbrev dktX2_why_0 : List UInt8 := dkwX2_why_0 ++ []
theorem dksX2_why_0 : cX2_why.data.toList.drop 0 = dktX2_why_0 := by decide +kernel
theorem dX2_why_0 : decode cX2_why 0 = .ok (.iload_n 1, 1) := dk_27 (dk_at dksX2_why_0 0 rfl rfl)
theorem dX2_why_1 : decode cX2_why 1 = .ok (.ifCond .ne 7, 3) := dk_154 0 7 (dk_at dksX2_why_0 1 rfl rfl)
theorem dX2_why_4 : decode cX2_why 4 = .ok (.iconst 1, 1) := dk_4 (dk_at dksX2_why_0 4 rfl rfl)
theorem dX2_why_5 : decode cX2_why 5 = .ok (.goto 12, 3) := dk_167 0 12 (dk_at dksX2_why_0 5 rfl rfl)
theorem dX2_why_8 : decode cX2_why 8 = .ok (.iload_n 2, 1) := dk_28 (dk_at dksX2_why_0 8 rfl rfl)
theorem dX2_why_9 : decode cX2_why 9 = .ok (.ifCond .eq 7, 3) := dk_153 0 7 (dk_at dksX2_why_0 9 rfl rfl)
theorem dX2_why_12 : decode cX2_why 12 = .ok (.iconst 0, 1) := dk_3 (dk_at dksX2_why_0 12 rfl rfl)
theorem dX2_why_13 : decode cX2_why 13 = .ok (.goto 4, 3) := dk_167 0 4 (dk_at dksX2_why_0 13 rfl rfl)
theorem dX2_why_16 : decode cX2_why 16 = .ok (.iconst 2, 1) := dk_5 (dk_at dksX2_why_0 16 rfl rfl)
theorem dX2_why_17 : decode cX2_why 17 = .ok (.ireturn, 1) := dk_172 (dk_at dksX2_why_0 17 rfl rfl)
abbrev cX2_asNow : ByteArray := prog_15_method_50_code
def yX2_asNow : MethodName := ⟨RX2, "asNow", "()V"⟩
def dkwX2_asNow_3 : List UInt8 := [167, 255, 204, 177]
abbrev dktX2_asNow_3 : List UInt8 := dkwX2_asNow_3 ++ []
def dkwX2_asNow_2 : List UInt8 := [180, 0, 41, 27, 42, 180, 0, 20, 16, 26, 7, 27, 104, 96, 46, 184, 0, 249, 79, 132, 1, 1]
abbrev dktX2_asNow_2 : List UInt8 := dkwX2_asNow_2 ++ dktX2_asNow_3
def dkwX2_asNow_1 : List UInt8 := [162, 0, 48, 42, 180, 0, 38, 27, 42, 180, 0, 20, 16, 26, 7, 27, 104, 96, 5, 96, 46, 79, 42]
abbrev dktX2_asNow_1 : List UInt8 := dkwX2_asNow_1 ++ dktX2_asNow_2
def dkwX2_asNow_0 : List UInt8 := [42, 180, 0, 26, 3, 42, 180, 0, 35, 3, 16, 8, 184, 0, 172, 3, 60, 27, 42, 180, 0, 20, 6, 46]
abbrev dktX2_asNow_0 : List UInt8 := dkwX2_asNow_0 ++ dktX2_asNow_1
theorem dksX2_asNow_0 : cX2_asNow.data.toList.drop 0 = dktX2_asNow_0 := by decide +kernel
theorem dksX2_asNow_1 : cX2_asNow.data.toList.drop 24 = dktX2_asNow_1 := dk_seg dksX2_asNow_0 24 rfl rfl
theorem dksX2_asNow_2 : cX2_asNow.data.toList.drop 47 = dktX2_asNow_2 := dk_seg dksX2_asNow_1 23 rfl rfl
theorem dksX2_asNow_3 : cX2_asNow.data.toList.drop 69 = dktX2_asNow_3 := dk_seg dksX2_asNow_2 22 rfl rfl
theorem dX2_asNow_0 : decode cX2_asNow 0 = .ok (.aload_n 0, 1) := dk_42 (dk_at dksX2_asNow_0 0 rfl rfl)
theorem dX2_asNow_1 : decode cX2_asNow 1 = .ok (.getfield 26, 3) := dk_180 0 26 (dk_at dksX2_asNow_0 1 rfl rfl)
theorem dX2_asNow_4 : decode cX2_asNow 4 = .ok (.iconst 0, 1) := dk_3 (dk_at dksX2_asNow_0 4 rfl rfl)
theorem dX2_asNow_5 : decode cX2_asNow 5 = .ok (.aload_n 0, 1) := dk_42 (dk_at dksX2_asNow_0 5 rfl rfl)
theorem dX2_asNow_6 : decode cX2_asNow 6 = .ok (.getfield 35, 3) := dk_180 0 35 (dk_at dksX2_asNow_0 6 rfl rfl)
theorem dX2_asNow_9 : decode cX2_asNow 9 = .ok (.iconst 0, 1) := dk_3 (dk_at dksX2_asNow_0 9 rfl rfl)
theorem dX2_asNow_10 : decode cX2_asNow 10 = .ok (.bipush 8, 2) := dk_16 8 (dk_at dksX2_asNow_0 10 rfl rfl)
theorem dX2_asNow_12 : decode cX2_asNow 12 = .ok (.invokestatic 172, 3) := dk_184 0 172 (dk_at dksX2_asNow_0 12 rfl rfl)
theorem dX2_asNow_15 : decode cX2_asNow 15 = .ok (.iconst 0, 1) := dk_3 (dk_at dksX2_asNow_0 15 rfl rfl)
theorem dX2_asNow_16 : decode cX2_asNow 16 = .ok (.istore_n 1, 1) := dk_60 (dk_at dksX2_asNow_0 16 rfl rfl)
theorem dX2_asNow_17 : decode cX2_asNow 17 = .ok (.iload_n 1, 1) := dk_27 (dk_at dksX2_asNow_0 17 rfl rfl)
theorem dX2_asNow_18 : decode cX2_asNow 18 = .ok (.aload_n 0, 1) := dk_42 (dk_at dksX2_asNow_0 18 rfl rfl)
theorem dX2_asNow_19 : decode cX2_asNow 19 = .ok (.getfield 20, 3) := dk_180 0 20 (dk_at dksX2_asNow_0 19 rfl rfl)
theorem dX2_asNow_22 : decode cX2_asNow 22 = .ok (.iconst 3, 1) := dk_6 (dk_at dksX2_asNow_0 22 rfl rfl)
theorem dX2_asNow_23 : decode cX2_asNow 23 = .ok (.iaload, 1) := dk_46 (dk_at dksX2_asNow_0 23 rfl rfl)
theorem dX2_asNow_24 : decode cX2_asNow 24 = .ok (.if_icmp .ge 48, 3) := dk_162 0 48 (dk_at dksX2_asNow_1 0 rfl rfl)
theorem dX2_asNow_27 : decode cX2_asNow 27 = .ok (.aload_n 0, 1) := dk_42 (dk_at dksX2_asNow_1 3 rfl rfl)
theorem dX2_asNow_28 : decode cX2_asNow 28 = .ok (.getfield 38, 3) := dk_180 0 38 (dk_at dksX2_asNow_1 4 rfl rfl)
theorem dX2_asNow_31 : decode cX2_asNow 31 = .ok (.iload_n 1, 1) := dk_27 (dk_at dksX2_asNow_1 7 rfl rfl)
theorem dX2_asNow_32 : decode cX2_asNow 32 = .ok (.aload_n 0, 1) := dk_42 (dk_at dksX2_asNow_1 8 rfl rfl)
theorem dX2_asNow_33 : decode cX2_asNow 33 = .ok (.getfield 20, 3) := dk_180 0 20 (dk_at dksX2_asNow_1 9 rfl rfl)
theorem dX2_asNow_36 : decode cX2_asNow 36 = .ok (.bipush 26, 2) := dk_16 26 (dk_at dksX2_asNow_1 12 rfl rfl)
theorem dX2_asNow_38 : decode cX2_asNow 38 = .ok (.iconst 4, 1) := dk_7 (dk_at dksX2_asNow_1 14 rfl rfl)
theorem dX2_asNow_39 : decode cX2_asNow 39 = .ok (.iload_n 1, 1) := dk_27 (dk_at dksX2_asNow_1 15 rfl rfl)
theorem dX2_asNow_40 : decode cX2_asNow 40 = .ok (.imul, 1) := dk_104 (dk_at dksX2_asNow_1 16 rfl rfl)
theorem dX2_asNow_41 : decode cX2_asNow 41 = .ok (.iadd, 1) := dk_96 (dk_at dksX2_asNow_1 17 rfl rfl)
theorem dX2_asNow_42 : decode cX2_asNow 42 = .ok (.iconst 2, 1) := dk_5 (dk_at dksX2_asNow_1 18 rfl rfl)
theorem dX2_asNow_43 : decode cX2_asNow 43 = .ok (.iadd, 1) := dk_96 (dk_at dksX2_asNow_1 19 rfl rfl)
theorem dX2_asNow_44 : decode cX2_asNow 44 = .ok (.iaload, 1) := dk_46 (dk_at dksX2_asNow_1 20 rfl rfl)
theorem dX2_asNow_45 : decode cX2_asNow 45 = .ok (.iastore, 1) := dk_79 (dk_at dksX2_asNow_1 21 rfl rfl)
theorem dX2_asNow_46 : decode cX2_asNow 46 = .ok (.aload_n 0, 1) := dk_42 (dk_at dksX2_asNow_1 22 rfl rfl)
theorem dX2_asNow_47 : decode cX2_asNow 47 = .ok (.getfield 41, 3) := dk_180 0 41 (dk_at dksX2_asNow_2 0 rfl rfl)
theorem dX2_asNow_50 : decode cX2_asNow 50 = .ok (.iload_n 1, 1) := dk_27 (dk_at dksX2_asNow_2 3 rfl rfl)
theorem dX2_asNow_51 : decode cX2_asNow 51 = .ok (.aload_n 0, 1) := dk_42 (dk_at dksX2_asNow_2 4 rfl rfl)
theorem dX2_asNow_52 : decode cX2_asNow 52 = .ok (.getfield 20, 3) := dk_180 0 20 (dk_at dksX2_asNow_2 5 rfl rfl)
theorem dX2_asNow_55 : decode cX2_asNow 55 = .ok (.bipush 26, 2) := dk_16 26 (dk_at dksX2_asNow_2 8 rfl rfl)
theorem dX2_asNow_57 : decode cX2_asNow 57 = .ok (.iconst 4, 1) := dk_7 (dk_at dksX2_asNow_2 10 rfl rfl)
theorem dX2_asNow_58 : decode cX2_asNow 58 = .ok (.iload_n 1, 1) := dk_27 (dk_at dksX2_asNow_2 11 rfl rfl)
theorem dX2_asNow_59 : decode cX2_asNow 59 = .ok (.imul, 1) := dk_104 (dk_at dksX2_asNow_2 12 rfl rfl)
theorem dX2_asNow_60 : decode cX2_asNow 60 = .ok (.iadd, 1) := dk_96 (dk_at dksX2_asNow_2 13 rfl rfl)
theorem dX2_asNow_61 : decode cX2_asNow 61 = .ok (.iaload, 1) := dk_46 (dk_at dksX2_asNow_2 14 rfl rfl)
theorem dX2_asNow_62 : decode cX2_asNow 62 = .ok (.invokestatic 249, 3) := dk_184 0 249 (dk_at dksX2_asNow_2 15 rfl rfl)
theorem dX2_asNow_65 : decode cX2_asNow 65 = .ok (.iastore, 1) := dk_79 (dk_at dksX2_asNow_2 18 rfl rfl)
theorem dX2_asNow_66 : decode cX2_asNow 66 = .ok (.iinc 1 1, 3) := dk_132 1 1 (dk_at dksX2_asNow_2 19 rfl rfl)
theorem dX2_asNow_69 : decode cX2_asNow 69 = .ok (.goto (-52), 3) := dk_167 255 204 (dk_at dksX2_asNow_3 0 rfl rfl)
theorem dX2_asNow_72 : decode cX2_asNow 72 = .ok (.return_, 1) := dk_177 (dk_at dksX2_asNow_3 3 rfl rfl)
abbrev cX2_placeOf : ByteArray := prog_15_method_51_code
def yX2_placeOf : MethodName := ⟨RX2, "placeOf", "(II)I"⟩
def dkwX2_placeOf_4 : List UInt8 := [132, 4, 1, 167, 255, 193, 29, 172]
abbrev dktX2_placeOf_4 : List UInt8 := dkwX2_placeOf_4 ++ []
def dkwX2_placeOf_3 : List UInt8 := [104, 96, 5, 96, 46, 28, 163, 0, 18, 42, 180, 0, 20, 16, 50, 6, 21, 4, 104, 96, 4, 96, 46, 62]
abbrev dktX2_placeOf_3 : List UInt8 := dkwX2_placeOf_3 ++ dktX2_placeOf_4
def dkwX2_placeOf_2 : List UInt8 := [180, 0, 20, 16, 50, 6, 21, 4, 104, 96, 46, 27, 160, 0, 36, 42, 180, 0, 20, 16, 50, 6, 21, 4]
abbrev dktX2_placeOf_2 : List UInt8 := dkwX2_placeOf_2 ++ dktX2_placeOf_3
def dkwX2_placeOf_1 : List UInt8 := [7, 27, 104, 96, 4, 96, 46, 62, 3, 54, 4, 21, 4, 42, 180, 0, 20, 7, 46, 162, 0, 58, 42]
abbrev dktX2_placeOf_1 : List UInt8 := dkwX2_placeOf_1 ++ dktX2_placeOf_2
def dkwX2_placeOf_0 : List UInt8 := [42, 180, 0, 35, 27, 46, 158, 0, 12, 42, 180, 0, 35, 27, 46, 4, 100, 172, 42, 180, 0, 20, 16, 26]
abbrev dktX2_placeOf_0 : List UInt8 := dkwX2_placeOf_0 ++ dktX2_placeOf_1
theorem dksX2_placeOf_0 : cX2_placeOf.data.toList.drop 0 = dktX2_placeOf_0 := by decide +kernel
theorem dksX2_placeOf_1 : cX2_placeOf.data.toList.drop 24 = dktX2_placeOf_1 := dk_seg dksX2_placeOf_0 24 rfl rfl
theorem dksX2_placeOf_2 : cX2_placeOf.data.toList.drop 47 = dktX2_placeOf_2 := dk_seg dksX2_placeOf_1 23 rfl rfl
theorem dksX2_placeOf_3 : cX2_placeOf.data.toList.drop 71 = dktX2_placeOf_3 := dk_seg dksX2_placeOf_2 24 rfl rfl
theorem dksX2_placeOf_4 : cX2_placeOf.data.toList.drop 95 = dktX2_placeOf_4 := dk_seg dksX2_placeOf_3 24 rfl rfl
theorem dX2_placeOf_0 : decode cX2_placeOf 0 = .ok (.aload_n 0, 1) := dk_42 (dk_at dksX2_placeOf_0 0 rfl rfl)
theorem dX2_placeOf_1 : decode cX2_placeOf 1 = .ok (.getfield 35, 3) := dk_180 0 35 (dk_at dksX2_placeOf_0 1 rfl rfl)
theorem dX2_placeOf_4 : decode cX2_placeOf 4 = .ok (.iload_n 1, 1) := dk_27 (dk_at dksX2_placeOf_0 4 rfl rfl)
theorem dX2_placeOf_5 : decode cX2_placeOf 5 = .ok (.iaload, 1) := dk_46 (dk_at dksX2_placeOf_0 5 rfl rfl)
theorem dX2_placeOf_6 : decode cX2_placeOf 6 = .ok (.ifCond .le 12, 3) := dk_158 0 12 (dk_at dksX2_placeOf_0 6 rfl rfl)
theorem dX2_placeOf_9 : decode cX2_placeOf 9 = .ok (.aload_n 0, 1) := dk_42 (dk_at dksX2_placeOf_0 9 rfl rfl)
theorem dX2_placeOf_10 : decode cX2_placeOf 10 = .ok (.getfield 35, 3) := dk_180 0 35 (dk_at dksX2_placeOf_0 10 rfl rfl)
theorem dX2_placeOf_13 : decode cX2_placeOf 13 = .ok (.iload_n 1, 1) := dk_27 (dk_at dksX2_placeOf_0 13 rfl rfl)
theorem dX2_placeOf_14 : decode cX2_placeOf 14 = .ok (.iaload, 1) := dk_46 (dk_at dksX2_placeOf_0 14 rfl rfl)
theorem dX2_placeOf_15 : decode cX2_placeOf 15 = .ok (.iconst 1, 1) := dk_4 (dk_at dksX2_placeOf_0 15 rfl rfl)
theorem dX2_placeOf_16 : decode cX2_placeOf 16 = .ok (.isub, 1) := dk_100 (dk_at dksX2_placeOf_0 16 rfl rfl)
theorem dX2_placeOf_17 : decode cX2_placeOf 17 = .ok (.ireturn, 1) := dk_172 (dk_at dksX2_placeOf_0 17 rfl rfl)
theorem dX2_placeOf_18 : decode cX2_placeOf 18 = .ok (.aload_n 0, 1) := dk_42 (dk_at dksX2_placeOf_0 18 rfl rfl)
theorem dX2_placeOf_19 : decode cX2_placeOf 19 = .ok (.getfield 20, 3) := dk_180 0 20 (dk_at dksX2_placeOf_0 19 rfl rfl)
theorem dX2_placeOf_22 : decode cX2_placeOf 22 = .ok (.bipush 26, 2) := dk_16 26 (dk_at dksX2_placeOf_0 22 rfl rfl)
theorem dX2_placeOf_24 : decode cX2_placeOf 24 = .ok (.iconst 4, 1) := dk_7 (dk_at dksX2_placeOf_1 0 rfl rfl)
theorem dX2_placeOf_25 : decode cX2_placeOf 25 = .ok (.iload_n 1, 1) := dk_27 (dk_at dksX2_placeOf_1 1 rfl rfl)
theorem dX2_placeOf_26 : decode cX2_placeOf 26 = .ok (.imul, 1) := dk_104 (dk_at dksX2_placeOf_1 2 rfl rfl)
theorem dX2_placeOf_27 : decode cX2_placeOf 27 = .ok (.iadd, 1) := dk_96 (dk_at dksX2_placeOf_1 3 rfl rfl)
theorem dX2_placeOf_28 : decode cX2_placeOf 28 = .ok (.iconst 1, 1) := dk_4 (dk_at dksX2_placeOf_1 4 rfl rfl)
theorem dX2_placeOf_29 : decode cX2_placeOf 29 = .ok (.iadd, 1) := dk_96 (dk_at dksX2_placeOf_1 5 rfl rfl)
theorem dX2_placeOf_30 : decode cX2_placeOf 30 = .ok (.iaload, 1) := dk_46 (dk_at dksX2_placeOf_1 6 rfl rfl)
theorem dX2_placeOf_31 : decode cX2_placeOf 31 = .ok (.istore_n 3, 1) := dk_62 (dk_at dksX2_placeOf_1 7 rfl rfl)
theorem dX2_placeOf_32 : decode cX2_placeOf 32 = .ok (.iconst 0, 1) := dk_3 (dk_at dksX2_placeOf_1 8 rfl rfl)
theorem dX2_placeOf_33 : decode cX2_placeOf 33 = .ok (.istore 4, 2) := dk_54 4 (dk_at dksX2_placeOf_1 9 rfl rfl)
theorem dX2_placeOf_35 : decode cX2_placeOf 35 = .ok (.iload 4, 2) := dk_21 4 (dk_at dksX2_placeOf_1 11 rfl rfl)
theorem dX2_placeOf_37 : decode cX2_placeOf 37 = .ok (.aload_n 0, 1) := dk_42 (dk_at dksX2_placeOf_1 13 rfl rfl)
theorem dX2_placeOf_38 : decode cX2_placeOf 38 = .ok (.getfield 20, 3) := dk_180 0 20 (dk_at dksX2_placeOf_1 14 rfl rfl)
theorem dX2_placeOf_41 : decode cX2_placeOf 41 = .ok (.iconst 4, 1) := dk_7 (dk_at dksX2_placeOf_1 17 rfl rfl)
theorem dX2_placeOf_42 : decode cX2_placeOf 42 = .ok (.iaload, 1) := dk_46 (dk_at dksX2_placeOf_1 18 rfl rfl)
theorem dX2_placeOf_43 : decode cX2_placeOf 43 = .ok (.if_icmp .ge 58, 3) := dk_162 0 58 (dk_at dksX2_placeOf_1 19 rfl rfl)
theorem dX2_placeOf_46 : decode cX2_placeOf 46 = .ok (.aload_n 0, 1) := dk_42 (dk_at dksX2_placeOf_1 22 rfl rfl)
theorem dX2_placeOf_47 : decode cX2_placeOf 47 = .ok (.getfield 20, 3) := dk_180 0 20 (dk_at dksX2_placeOf_2 0 rfl rfl)
theorem dX2_placeOf_50 : decode cX2_placeOf 50 = .ok (.bipush 50, 2) := dk_16 50 (dk_at dksX2_placeOf_2 3 rfl rfl)
theorem dX2_placeOf_52 : decode cX2_placeOf 52 = .ok (.iconst 3, 1) := dk_6 (dk_at dksX2_placeOf_2 5 rfl rfl)
theorem dX2_placeOf_53 : decode cX2_placeOf 53 = .ok (.iload 4, 2) := dk_21 4 (dk_at dksX2_placeOf_2 6 rfl rfl)
theorem dX2_placeOf_55 : decode cX2_placeOf 55 = .ok (.imul, 1) := dk_104 (dk_at dksX2_placeOf_2 8 rfl rfl)
theorem dX2_placeOf_56 : decode cX2_placeOf 56 = .ok (.iadd, 1) := dk_96 (dk_at dksX2_placeOf_2 9 rfl rfl)
theorem dX2_placeOf_57 : decode cX2_placeOf 57 = .ok (.iaload, 1) := dk_46 (dk_at dksX2_placeOf_2 10 rfl rfl)
theorem dX2_placeOf_58 : decode cX2_placeOf 58 = .ok (.iload_n 1, 1) := dk_27 (dk_at dksX2_placeOf_2 11 rfl rfl)
theorem dX2_placeOf_59 : decode cX2_placeOf 59 = .ok (.if_icmp .ne 36, 3) := dk_160 0 36 (dk_at dksX2_placeOf_2 12 rfl rfl)
theorem dX2_placeOf_62 : decode cX2_placeOf 62 = .ok (.aload_n 0, 1) := dk_42 (dk_at dksX2_placeOf_2 15 rfl rfl)
theorem dX2_placeOf_63 : decode cX2_placeOf 63 = .ok (.getfield 20, 3) := dk_180 0 20 (dk_at dksX2_placeOf_2 16 rfl rfl)
theorem dX2_placeOf_66 : decode cX2_placeOf 66 = .ok (.bipush 50, 2) := dk_16 50 (dk_at dksX2_placeOf_2 19 rfl rfl)
theorem dX2_placeOf_68 : decode cX2_placeOf 68 = .ok (.iconst 3, 1) := dk_6 (dk_at dksX2_placeOf_2 21 rfl rfl)
theorem dX2_placeOf_69 : decode cX2_placeOf 69 = .ok (.iload 4, 2) := dk_21 4 (dk_at dksX2_placeOf_2 22 rfl rfl)
theorem dX2_placeOf_71 : decode cX2_placeOf 71 = .ok (.imul, 1) := dk_104 (dk_at dksX2_placeOf_3 0 rfl rfl)
theorem dX2_placeOf_72 : decode cX2_placeOf 72 = .ok (.iadd, 1) := dk_96 (dk_at dksX2_placeOf_3 1 rfl rfl)
theorem dX2_placeOf_73 : decode cX2_placeOf 73 = .ok (.iconst 2, 1) := dk_5 (dk_at dksX2_placeOf_3 2 rfl rfl)
theorem dX2_placeOf_74 : decode cX2_placeOf 74 = .ok (.iadd, 1) := dk_96 (dk_at dksX2_placeOf_3 3 rfl rfl)
theorem dX2_placeOf_75 : decode cX2_placeOf 75 = .ok (.iaload, 1) := dk_46 (dk_at dksX2_placeOf_3 4 rfl rfl)
theorem dX2_placeOf_76 : decode cX2_placeOf 76 = .ok (.iload_n 2, 1) := dk_28 (dk_at dksX2_placeOf_3 5 rfl rfl)
theorem dX2_placeOf_77 : decode cX2_placeOf 77 = .ok (.if_icmp .gt 18, 3) := dk_163 0 18 (dk_at dksX2_placeOf_3 6 rfl rfl)
theorem dX2_placeOf_80 : decode cX2_placeOf 80 = .ok (.aload_n 0, 1) := dk_42 (dk_at dksX2_placeOf_3 9 rfl rfl)
theorem dX2_placeOf_81 : decode cX2_placeOf 81 = .ok (.getfield 20, 3) := dk_180 0 20 (dk_at dksX2_placeOf_3 10 rfl rfl)
theorem dX2_placeOf_84 : decode cX2_placeOf 84 = .ok (.bipush 50, 2) := dk_16 50 (dk_at dksX2_placeOf_3 13 rfl rfl)
theorem dX2_placeOf_86 : decode cX2_placeOf 86 = .ok (.iconst 3, 1) := dk_6 (dk_at dksX2_placeOf_3 15 rfl rfl)
theorem dX2_placeOf_87 : decode cX2_placeOf 87 = .ok (.iload 4, 2) := dk_21 4 (dk_at dksX2_placeOf_3 16 rfl rfl)
theorem dX2_placeOf_89 : decode cX2_placeOf 89 = .ok (.imul, 1) := dk_104 (dk_at dksX2_placeOf_3 18 rfl rfl)
theorem dX2_placeOf_90 : decode cX2_placeOf 90 = .ok (.iadd, 1) := dk_96 (dk_at dksX2_placeOf_3 19 rfl rfl)
theorem dX2_placeOf_91 : decode cX2_placeOf 91 = .ok (.iconst 1, 1) := dk_4 (dk_at dksX2_placeOf_3 20 rfl rfl)
theorem dX2_placeOf_92 : decode cX2_placeOf 92 = .ok (.iadd, 1) := dk_96 (dk_at dksX2_placeOf_3 21 rfl rfl)
theorem dX2_placeOf_93 : decode cX2_placeOf 93 = .ok (.iaload, 1) := dk_46 (dk_at dksX2_placeOf_3 22 rfl rfl)
theorem dX2_placeOf_94 : decode cX2_placeOf 94 = .ok (.istore_n 3, 1) := dk_62 (dk_at dksX2_placeOf_3 23 rfl rfl)
theorem dX2_placeOf_95 : decode cX2_placeOf 95 = .ok (.iinc 4 1, 3) := dk_132 4 1 (dk_at dksX2_placeOf_4 0 rfl rfl)
theorem dX2_placeOf_98 : decode cX2_placeOf 98 = .ok (.goto (-63), 3) := dk_167 255 193 (dk_at dksX2_placeOf_4 3 rfl rfl)
theorem dX2_placeOf_101 : decode cX2_placeOf 101 = .ok (.iload_n 3, 1) := dk_29 (dk_at dksX2_placeOf_4 6 rfl rfl)
theorem dX2_placeOf_102 : decode cX2_placeOf 102 = .ok (.ireturn, 1) := dk_172 (dk_at dksX2_placeOf_4 7 rfl rfl)
abbrev cX2_into : ByteArray := prog_15_method_65_code
def yX2_into : MethodName := ⟨RX2, "into", "(I)I"⟩
def dkwX2_into_1 : List UInt8 := [182, 1, 3, 172]
abbrev dktX2_into_1 : List UInt8 := dkwX2_into_1 ++ []
def dkwX2_into_0 : List UInt8 := [42, 182, 0, 163, 42, 27, 182, 1, 62, 154, 0, 9, 42, 4, 182, 0, 166, 172, 42, 182, 1, 59, 42, 27]
abbrev dktX2_into_0 : List UInt8 := dkwX2_into_0 ++ dktX2_into_1
theorem dksX2_into_0 : cX2_into.data.toList.drop 0 = dktX2_into_0 := by decide +kernel
theorem dksX2_into_1 : cX2_into.data.toList.drop 24 = dktX2_into_1 := dk_seg dksX2_into_0 24 rfl rfl
theorem dX2_into_0 : decode cX2_into 0 = .ok (.aload_n 0, 1) := dk_42 (dk_at dksX2_into_0 0 rfl rfl)
theorem dX2_into_1 : decode cX2_into 1 = .ok (.invokevirtual 163, 3) := dk_182 0 163 (dk_at dksX2_into_0 1 rfl rfl)
theorem dX2_into_4 : decode cX2_into 4 = .ok (.aload_n 0, 1) := dk_42 (dk_at dksX2_into_0 4 rfl rfl)
theorem dX2_into_5 : decode cX2_into 5 = .ok (.iload_n 1, 1) := dk_27 (dk_at dksX2_into_0 5 rfl rfl)
theorem dX2_into_6 : decode cX2_into 6 = .ok (.invokevirtual 318, 3) := dk_182 1 62 (dk_at dksX2_into_0 6 rfl rfl)
theorem dX2_into_9 : decode cX2_into 9 = .ok (.ifCond .ne 9, 3) := dk_154 0 9 (dk_at dksX2_into_0 9 rfl rfl)
theorem dX2_into_12 : decode cX2_into 12 = .ok (.aload_n 0, 1) := dk_42 (dk_at dksX2_into_0 12 rfl rfl)
theorem dX2_into_13 : decode cX2_into 13 = .ok (.iconst 1, 1) := dk_4 (dk_at dksX2_into_0 13 rfl rfl)
theorem dX2_into_14 : decode cX2_into 14 = .ok (.invokevirtual 166, 3) := dk_182 0 166 (dk_at dksX2_into_0 14 rfl rfl)
theorem dX2_into_17 : decode cX2_into 17 = .ok (.ireturn, 1) := dk_172 (dk_at dksX2_into_0 17 rfl rfl)
theorem dX2_into_18 : decode cX2_into 18 = .ok (.aload_n 0, 1) := dk_42 (dk_at dksX2_into_0 18 rfl rfl)
theorem dX2_into_19 : decode cX2_into 19 = .ok (.invokevirtual 315, 3) := dk_182 1 59 (dk_at dksX2_into_0 19 rfl rfl)
theorem dX2_into_22 : decode cX2_into 22 = .ok (.aload_n 0, 1) := dk_42 (dk_at dksX2_into_0 22 rfl rfl)
theorem dX2_into_23 : decode cX2_into 23 = .ok (.iload_n 1, 1) := dk_27 (dk_at dksX2_into_0 23 rfl rfl)
theorem dX2_into_24 : decode cX2_into 24 = .ok (.invokevirtual 259, 3) := dk_182 1 3 (dk_at dksX2_into_1 0 rfl rfl)
theorem dX2_into_27 : decode cX2_into 27 = .ok (.ireturn, 1) := dk_172 (dk_at dksX2_into_1 3 rfl rfl)
abbrev cX2_isPlace : ByteArray := prog_15_method_45_code
def yX2_isPlace : MethodName := ⟨RX2, "isPlace", "(I)Z"⟩
def dkwX2_isPlace_1 : List UInt8 := [167, 0, 4, 3, 172]
abbrev dktX2_isPlace_1 : List UInt8 := dkwX2_isPlace_1 ++ []
def dkwX2_isPlace_0 : List UInt8 := [42, 180, 0, 176, 153, 0, 23, 27, 3, 42, 180, 0, 20, 4, 46, 4, 100, 184, 0, 139, 153, 0, 7, 4]
abbrev dktX2_isPlace_0 : List UInt8 := dkwX2_isPlace_0 ++ dktX2_isPlace_1
theorem dksX2_isPlace_0 : cX2_isPlace.data.toList.drop 0 = dktX2_isPlace_0 := by decide +kernel
theorem dksX2_isPlace_1 : cX2_isPlace.data.toList.drop 24 = dktX2_isPlace_1 := dk_seg dksX2_isPlace_0 24 rfl rfl
theorem dX2_isPlace_0 : decode cX2_isPlace 0 = .ok (.aload_n 0, 1) := dk_42 (dk_at dksX2_isPlace_0 0 rfl rfl)
theorem dX2_isPlace_1 : decode cX2_isPlace 1 = .ok (.getfield 176, 3) := dk_180 0 176 (dk_at dksX2_isPlace_0 1 rfl rfl)
theorem dX2_isPlace_4 : decode cX2_isPlace 4 = .ok (.ifCond .eq 23, 3) := dk_153 0 23 (dk_at dksX2_isPlace_0 4 rfl rfl)
theorem dX2_isPlace_7 : decode cX2_isPlace 7 = .ok (.iload_n 1, 1) := dk_27 (dk_at dksX2_isPlace_0 7 rfl rfl)
theorem dX2_isPlace_8 : decode cX2_isPlace 8 = .ok (.iconst 0, 1) := dk_3 (dk_at dksX2_isPlace_0 8 rfl rfl)
theorem dX2_isPlace_9 : decode cX2_isPlace 9 = .ok (.aload_n 0, 1) := dk_42 (dk_at dksX2_isPlace_0 9 rfl rfl)
theorem dX2_isPlace_10 : decode cX2_isPlace 10 = .ok (.getfield 20, 3) := dk_180 0 20 (dk_at dksX2_isPlace_0 10 rfl rfl)
theorem dX2_isPlace_13 : decode cX2_isPlace 13 = .ok (.iconst 1, 1) := dk_4 (dk_at dksX2_isPlace_0 13 rfl rfl)
theorem dX2_isPlace_14 : decode cX2_isPlace 14 = .ok (.iaload, 1) := dk_46 (dk_at dksX2_isPlace_0 14 rfl rfl)
theorem dX2_isPlace_15 : decode cX2_isPlace 15 = .ok (.iconst 1, 1) := dk_4 (dk_at dksX2_isPlace_0 15 rfl rfl)
theorem dX2_isPlace_16 : decode cX2_isPlace 16 = .ok (.isub, 1) := dk_100 (dk_at dksX2_isPlace_0 16 rfl rfl)
theorem dX2_isPlace_17 : decode cX2_isPlace 17 = .ok (.invokestatic 139, 3) := dk_184 0 139 (dk_at dksX2_isPlace_0 17 rfl rfl)
theorem dX2_isPlace_20 : decode cX2_isPlace 20 = .ok (.ifCond .eq 7, 3) := dk_153 0 7 (dk_at dksX2_isPlace_0 20 rfl rfl)
theorem dX2_isPlace_23 : decode cX2_isPlace 23 = .ok (.iconst 1, 1) := dk_4 (dk_at dksX2_isPlace_0 23 rfl rfl)
theorem dX2_isPlace_24 : decode cX2_isPlace 24 = .ok (.goto 4, 3) := dk_167 0 4 (dk_at dksX2_isPlace_1 0 rfl rfl)
theorem dX2_isPlace_27 : decode cX2_isPlace 27 = .ok (.iconst 0, 1) := dk_3 (dk_at dksX2_isPlace_1 3 rfl rfl)
theorem dX2_isPlace_28 : decode cX2_isPlace 28 = .ok (.ireturn, 1) := dk_172 (dk_at dksX2_isPlace_1 4 rfl rfl)
abbrev cX2_intoOf : ByteArray := prog_15_method_52_code
def yX2_intoOf : MethodName := ⟨RX2, "intoOf", "(I)I"⟩
def dkwX2_intoOf_3 : List UInt8 := [167, 255, 192, 28, 172]
abbrev dktX2_intoOf_3 : List UInt8 := dkwX2_intoOf_3 ++ []
def dkwX2_intoOf_2 : List UInt8 := [180, 0, 20, 16, 10, 5, 29, 104, 96, 4, 96, 46, 120, 167, 0, 4, 3, 128, 61, 132, 3, 1]
abbrev dktX2_intoOf_2 : List UInt8 := dkwX2_intoOf_2 ++ dktX2_intoOf_3
def dkwX2_intoOf_1 : List UInt8 := [29, 104, 96, 46, 27, 160, 0, 35, 42, 180, 0, 35, 16, 6, 46, 29, 184, 0, 252, 154, 0, 21, 4, 42]
abbrev dktX2_intoOf_1 : List UInt8 := dkwX2_intoOf_1 ++ dktX2_intoOf_2
def dkwX2_intoOf_0 : List UInt8 := [4, 27, 120, 61, 3, 62, 29, 42, 180, 0, 20, 5, 46, 162, 0, 60, 28, 42, 180, 0, 20, 16, 10, 5]
abbrev dktX2_intoOf_0 : List UInt8 := dkwX2_intoOf_0 ++ dktX2_intoOf_1
theorem dksX2_intoOf_0 : cX2_intoOf.data.toList.drop 0 = dktX2_intoOf_0 := by decide +kernel
theorem dksX2_intoOf_1 : cX2_intoOf.data.toList.drop 24 = dktX2_intoOf_1 := dk_seg dksX2_intoOf_0 24 rfl rfl
theorem dksX2_intoOf_2 : cX2_intoOf.data.toList.drop 48 = dktX2_intoOf_2 := dk_seg dksX2_intoOf_1 24 rfl rfl
theorem dksX2_intoOf_3 : cX2_intoOf.data.toList.drop 70 = dktX2_intoOf_3 := dk_seg dksX2_intoOf_2 22 rfl rfl
theorem dX2_intoOf_0 : decode cX2_intoOf 0 = .ok (.iconst 1, 1) := dk_4 (dk_at dksX2_intoOf_0 0 rfl rfl)
theorem dX2_intoOf_1 : decode cX2_intoOf 1 = .ok (.iload_n 1, 1) := dk_27 (dk_at dksX2_intoOf_0 1 rfl rfl)
theorem dX2_intoOf_2 : decode cX2_intoOf 2 = .ok (.ishl, 1) := dk_120 (dk_at dksX2_intoOf_0 2 rfl rfl)
theorem dX2_intoOf_3 : decode cX2_intoOf 3 = .ok (.istore_n 2, 1) := dk_61 (dk_at dksX2_intoOf_0 3 rfl rfl)
theorem dX2_intoOf_4 : decode cX2_intoOf 4 = .ok (.iconst 0, 1) := dk_3 (dk_at dksX2_intoOf_0 4 rfl rfl)
theorem dX2_intoOf_5 : decode cX2_intoOf 5 = .ok (.istore_n 3, 1) := dk_62 (dk_at dksX2_intoOf_0 5 rfl rfl)
theorem dX2_intoOf_6 : decode cX2_intoOf 6 = .ok (.iload_n 3, 1) := dk_29 (dk_at dksX2_intoOf_0 6 rfl rfl)
theorem dX2_intoOf_7 : decode cX2_intoOf 7 = .ok (.aload_n 0, 1) := dk_42 (dk_at dksX2_intoOf_0 7 rfl rfl)
theorem dX2_intoOf_8 : decode cX2_intoOf 8 = .ok (.getfield 20, 3) := dk_180 0 20 (dk_at dksX2_intoOf_0 8 rfl rfl)
theorem dX2_intoOf_11 : decode cX2_intoOf 11 = .ok (.iconst 2, 1) := dk_5 (dk_at dksX2_intoOf_0 11 rfl rfl)
theorem dX2_intoOf_12 : decode cX2_intoOf 12 = .ok (.iaload, 1) := dk_46 (dk_at dksX2_intoOf_0 12 rfl rfl)
theorem dX2_intoOf_13 : decode cX2_intoOf 13 = .ok (.if_icmp .ge 60, 3) := dk_162 0 60 (dk_at dksX2_intoOf_0 13 rfl rfl)
theorem dX2_intoOf_16 : decode cX2_intoOf 16 = .ok (.iload_n 2, 1) := dk_28 (dk_at dksX2_intoOf_0 16 rfl rfl)
theorem dX2_intoOf_17 : decode cX2_intoOf 17 = .ok (.aload_n 0, 1) := dk_42 (dk_at dksX2_intoOf_0 17 rfl rfl)
theorem dX2_intoOf_18 : decode cX2_intoOf 18 = .ok (.getfield 20, 3) := dk_180 0 20 (dk_at dksX2_intoOf_0 18 rfl rfl)
theorem dX2_intoOf_21 : decode cX2_intoOf 21 = .ok (.bipush 10, 2) := dk_16 10 (dk_at dksX2_intoOf_0 21 rfl rfl)
theorem dX2_intoOf_23 : decode cX2_intoOf 23 = .ok (.iconst 2, 1) := dk_5 (dk_at dksX2_intoOf_0 23 rfl rfl)
theorem dX2_intoOf_24 : decode cX2_intoOf 24 = .ok (.iload_n 3, 1) := dk_29 (dk_at dksX2_intoOf_1 0 rfl rfl)
theorem dX2_intoOf_25 : decode cX2_intoOf 25 = .ok (.imul, 1) := dk_104 (dk_at dksX2_intoOf_1 1 rfl rfl)
theorem dX2_intoOf_26 : decode cX2_intoOf 26 = .ok (.iadd, 1) := dk_96 (dk_at dksX2_intoOf_1 2 rfl rfl)
theorem dX2_intoOf_27 : decode cX2_intoOf 27 = .ok (.iaload, 1) := dk_46 (dk_at dksX2_intoOf_1 3 rfl rfl)
theorem dX2_intoOf_28 : decode cX2_intoOf 28 = .ok (.iload_n 1, 1) := dk_27 (dk_at dksX2_intoOf_1 4 rfl rfl)
theorem dX2_intoOf_29 : decode cX2_intoOf 29 = .ok (.if_icmp .ne 35, 3) := dk_160 0 35 (dk_at dksX2_intoOf_1 5 rfl rfl)
theorem dX2_intoOf_32 : decode cX2_intoOf 32 = .ok (.aload_n 0, 1) := dk_42 (dk_at dksX2_intoOf_1 8 rfl rfl)
theorem dX2_intoOf_33 : decode cX2_intoOf 33 = .ok (.getfield 35, 3) := dk_180 0 35 (dk_at dksX2_intoOf_1 9 rfl rfl)
theorem dX2_intoOf_36 : decode cX2_intoOf 36 = .ok (.bipush 6, 2) := dk_16 6 (dk_at dksX2_intoOf_1 12 rfl rfl)
theorem dX2_intoOf_38 : decode cX2_intoOf 38 = .ok (.iaload, 1) := dk_46 (dk_at dksX2_intoOf_1 14 rfl rfl)
theorem dX2_intoOf_39 : decode cX2_intoOf 39 = .ok (.iload_n 3, 1) := dk_29 (dk_at dksX2_intoOf_1 15 rfl rfl)
theorem dX2_intoOf_40 : decode cX2_intoOf 40 = .ok (.invokestatic 252, 3) := dk_184 0 252 (dk_at dksX2_intoOf_1 16 rfl rfl)
theorem dX2_intoOf_43 : decode cX2_intoOf 43 = .ok (.ifCond .ne 21, 3) := dk_154 0 21 (dk_at dksX2_intoOf_1 19 rfl rfl)
theorem dX2_intoOf_46 : decode cX2_intoOf 46 = .ok (.iconst 1, 1) := dk_4 (dk_at dksX2_intoOf_1 22 rfl rfl)
theorem dX2_intoOf_47 : decode cX2_intoOf 47 = .ok (.aload_n 0, 1) := dk_42 (dk_at dksX2_intoOf_1 23 rfl rfl)
theorem dX2_intoOf_48 : decode cX2_intoOf 48 = .ok (.getfield 20, 3) := dk_180 0 20 (dk_at dksX2_intoOf_2 0 rfl rfl)
theorem dX2_intoOf_51 : decode cX2_intoOf 51 = .ok (.bipush 10, 2) := dk_16 10 (dk_at dksX2_intoOf_2 3 rfl rfl)
theorem dX2_intoOf_53 : decode cX2_intoOf 53 = .ok (.iconst 2, 1) := dk_5 (dk_at dksX2_intoOf_2 5 rfl rfl)
theorem dX2_intoOf_54 : decode cX2_intoOf 54 = .ok (.iload_n 3, 1) := dk_29 (dk_at dksX2_intoOf_2 6 rfl rfl)
theorem dX2_intoOf_55 : decode cX2_intoOf 55 = .ok (.imul, 1) := dk_104 (dk_at dksX2_intoOf_2 7 rfl rfl)
theorem dX2_intoOf_56 : decode cX2_intoOf 56 = .ok (.iadd, 1) := dk_96 (dk_at dksX2_intoOf_2 8 rfl rfl)
theorem dX2_intoOf_57 : decode cX2_intoOf 57 = .ok (.iconst 1, 1) := dk_4 (dk_at dksX2_intoOf_2 9 rfl rfl)
theorem dX2_intoOf_58 : decode cX2_intoOf 58 = .ok (.iadd, 1) := dk_96 (dk_at dksX2_intoOf_2 10 rfl rfl)
theorem dX2_intoOf_59 : decode cX2_intoOf 59 = .ok (.iaload, 1) := dk_46 (dk_at dksX2_intoOf_2 11 rfl rfl)
theorem dX2_intoOf_60 : decode cX2_intoOf 60 = .ok (.ishl, 1) := dk_120 (dk_at dksX2_intoOf_2 12 rfl rfl)
theorem dX2_intoOf_61 : decode cX2_intoOf 61 = .ok (.goto 4, 3) := dk_167 0 4 (dk_at dksX2_intoOf_2 13 rfl rfl)
theorem dX2_intoOf_64 : decode cX2_intoOf 64 = .ok (.iconst 0, 1) := dk_3 (dk_at dksX2_intoOf_2 16 rfl rfl)
theorem dX2_intoOf_65 : decode cX2_intoOf 65 = .ok (.ior, 1) := dk_128 (dk_at dksX2_intoOf_2 17 rfl rfl)
theorem dX2_intoOf_66 : decode cX2_intoOf 66 = .ok (.istore_n 2, 1) := dk_61 (dk_at dksX2_intoOf_2 18 rfl rfl)
theorem dX2_intoOf_67 : decode cX2_intoOf 67 = .ok (.iinc 3 1, 3) := dk_132 3 1 (dk_at dksX2_intoOf_2 19 rfl rfl)
theorem dX2_intoOf_70 : decode cX2_intoOf 70 = .ok (.goto (-64), 3) := dk_167 255 192 (dk_at dksX2_intoOf_3 0 rfl rfl)
theorem dX2_intoOf_73 : decode cX2_intoOf 73 = .ok (.iload_n 2, 1) := dk_28 (dk_at dksX2_intoOf_3 3 rfl rfl)
theorem dX2_intoOf_74 : decode cX2_intoOf 74 = .ok (.ireturn, 1) := dk_172 (dk_at dksX2_intoOf_3 4 rfl rfl)
abbrev cX2_hasBit : ByteArray := prog_15_method_7_code
def yX2_hasBit : MethodName := ⟨RX2, "hasBit", "(II)Z"⟩
def dkwX2_hasBit_0 : List UInt8 := [26, 27, 122, 4, 126, 4, 160, 0, 7, 4, 167, 0, 4, 3, 172]
abbrev dktX2_hasBit_0 : List UInt8 := dkwX2_hasBit_0 ++ []
theorem dksX2_hasBit_0 : cX2_hasBit.data.toList.drop 0 = dktX2_hasBit_0 := by decide +kernel
theorem dX2_hasBit_0 : decode cX2_hasBit 0 = .ok (.iload_n 0, 1) := dk_26 (dk_at dksX2_hasBit_0 0 rfl rfl)
theorem dX2_hasBit_1 : decode cX2_hasBit 1 = .ok (.iload_n 1, 1) := dk_27 (dk_at dksX2_hasBit_0 1 rfl rfl)
theorem dX2_hasBit_2 : decode cX2_hasBit 2 = .ok (.ishr, 1) := dk_122 (dk_at dksX2_hasBit_0 2 rfl rfl)
theorem dX2_hasBit_3 : decode cX2_hasBit 3 = .ok (.iconst 1, 1) := dk_4 (dk_at dksX2_hasBit_0 3 rfl rfl)
theorem dX2_hasBit_4 : decode cX2_hasBit 4 = .ok (.iand, 1) := dk_126 (dk_at dksX2_hasBit_0 4 rfl rfl)
theorem dX2_hasBit_5 : decode cX2_hasBit 5 = .ok (.iconst 1, 1) := dk_4 (dk_at dksX2_hasBit_0 5 rfl rfl)
theorem dX2_hasBit_6 : decode cX2_hasBit 6 = .ok (.if_icmp .ne 7, 3) := dk_160 0 7 (dk_at dksX2_hasBit_0 6 rfl rfl)
theorem dX2_hasBit_9 : decode cX2_hasBit 9 = .ok (.iconst 1, 1) := dk_4 (dk_at dksX2_hasBit_0 9 rfl rfl)
theorem dX2_hasBit_10 : decode cX2_hasBit 10 = .ok (.goto 4, 3) := dk_167 0 4 (dk_at dksX2_hasBit_0 10 rfl rfl)
theorem dX2_hasBit_13 : decode cX2_hasBit 13 = .ok (.iconst 0, 1) := dk_3 (dk_at dksX2_hasBit_0 13 rfl rfl)
theorem dX2_hasBit_14 : decode cX2_hasBit 14 = .ok (.ireturn, 1) := dk_172 (dk_at dksX2_hasBit_0 14 rfl rfl)
abbrev cX2_watchers : ByteArray := prog_15_method_66_code
def yX2_watchers : MethodName := ⟨RX2, "watchers", "(II)I"⟩
def dkwX2_watchers_1 : List UInt8 := [29, 182, 0, 166, 172, 42, 182, 1, 59, 42, 27, 28, 182, 1, 27, 172]
abbrev dktX2_watchers_1 : List UInt8 := dkwX2_watchers_1 ++ []
def dkwX2_watchers_0 : List UInt8 := [42, 182, 0, 163, 42, 42, 27, 182, 1, 62, 42, 28, 182, 1, 52, 182, 1, 55, 62, 29, 153, 0, 9, 42]
abbrev dktX2_watchers_0 : List UInt8 := dkwX2_watchers_0 ++ dktX2_watchers_1
theorem dksX2_watchers_0 : cX2_watchers.data.toList.drop 0 = dktX2_watchers_0 := by decide +kernel
theorem dksX2_watchers_1 : cX2_watchers.data.toList.drop 24 = dktX2_watchers_1 := dk_seg dksX2_watchers_0 24 rfl rfl
theorem dX2_watchers_0 : decode cX2_watchers 0 = .ok (.aload_n 0, 1) := dk_42 (dk_at dksX2_watchers_0 0 rfl rfl)
theorem dX2_watchers_1 : decode cX2_watchers 1 = .ok (.invokevirtual 163, 3) := dk_182 0 163 (dk_at dksX2_watchers_0 1 rfl rfl)
theorem dX2_watchers_4 : decode cX2_watchers 4 = .ok (.aload_n 0, 1) := dk_42 (dk_at dksX2_watchers_0 4 rfl rfl)
theorem dX2_watchers_5 : decode cX2_watchers 5 = .ok (.aload_n 0, 1) := dk_42 (dk_at dksX2_watchers_0 5 rfl rfl)
theorem dX2_watchers_6 : decode cX2_watchers 6 = .ok (.iload_n 1, 1) := dk_27 (dk_at dksX2_watchers_0 6 rfl rfl)
theorem dX2_watchers_7 : decode cX2_watchers 7 = .ok (.invokevirtual 318, 3) := dk_182 1 62 (dk_at dksX2_watchers_0 7 rfl rfl)
theorem dX2_watchers_10 : decode cX2_watchers 10 = .ok (.aload_n 0, 1) := dk_42 (dk_at dksX2_watchers_0 10 rfl rfl)
theorem dX2_watchers_11 : decode cX2_watchers 11 = .ok (.iload_n 2, 1) := dk_28 (dk_at dksX2_watchers_0 11 rfl rfl)
theorem dX2_watchers_12 : decode cX2_watchers 12 = .ok (.invokevirtual 308, 3) := dk_182 1 52 (dk_at dksX2_watchers_0 12 rfl rfl)
theorem dX2_watchers_15 : decode cX2_watchers 15 = .ok (.invokevirtual 311, 3) := dk_182 1 55 (dk_at dksX2_watchers_0 15 rfl rfl)
theorem dX2_watchers_18 : decode cX2_watchers 18 = .ok (.istore_n 3, 1) := dk_62 (dk_at dksX2_watchers_0 18 rfl rfl)
theorem dX2_watchers_19 : decode cX2_watchers 19 = .ok (.iload_n 3, 1) := dk_29 (dk_at dksX2_watchers_0 19 rfl rfl)
theorem dX2_watchers_20 : decode cX2_watchers 20 = .ok (.ifCond .eq 9, 3) := dk_153 0 9 (dk_at dksX2_watchers_0 20 rfl rfl)
theorem dX2_watchers_23 : decode cX2_watchers 23 = .ok (.aload_n 0, 1) := dk_42 (dk_at dksX2_watchers_0 23 rfl rfl)
theorem dX2_watchers_24 : decode cX2_watchers 24 = .ok (.iload_n 3, 1) := dk_29 (dk_at dksX2_watchers_1 0 rfl rfl)
theorem dX2_watchers_25 : decode cX2_watchers 25 = .ok (.invokevirtual 166, 3) := dk_182 0 166 (dk_at dksX2_watchers_1 1 rfl rfl)
theorem dX2_watchers_28 : decode cX2_watchers 28 = .ok (.ireturn, 1) := dk_172 (dk_at dksX2_watchers_1 4 rfl rfl)
theorem dX2_watchers_29 : decode cX2_watchers 29 = .ok (.aload_n 0, 1) := dk_42 (dk_at dksX2_watchers_1 5 rfl rfl)
theorem dX2_watchers_30 : decode cX2_watchers 30 = .ok (.invokevirtual 315, 3) := dk_182 1 59 (dk_at dksX2_watchers_1 6 rfl rfl)
theorem dX2_watchers_33 : decode cX2_watchers 33 = .ok (.aload_n 0, 1) := dk_42 (dk_at dksX2_watchers_1 9 rfl rfl)
theorem dX2_watchers_34 : decode cX2_watchers 34 = .ok (.iload_n 1, 1) := dk_27 (dk_at dksX2_watchers_1 10 rfl rfl)
theorem dX2_watchers_35 : decode cX2_watchers 35 = .ok (.iload_n 2, 1) := dk_28 (dk_at dksX2_watchers_1 11 rfl rfl)
theorem dX2_watchers_36 : decode cX2_watchers 36 = .ok (.invokevirtual 283, 3) := dk_182 1 27 (dk_at dksX2_watchers_1 12 rfl rfl)
theorem dX2_watchers_39 : decode cX2_watchers 39 = .ok (.ireturn, 1) := dk_172 (dk_at dksX2_watchers_1 15 rfl rfl)
abbrev cX2_watchersOf : ByteArray := prog_15_method_53_code
def yX2_watchersOf : MethodName := ⟨RX2, "watchersOf", "(II)I"⟩
def dkwX2_watchersOf_2 : List UInt8 := [132, 4, 1, 167, 255, 213, 29, 172]
abbrev dktX2_watchersOf_2 : List UInt8 := dkwX2_watchersOf_2 ++ []
def dkwX2_watchersOf_1 : List UInt8 := [182, 1, 0, 182, 1, 3, 27, 184, 0, 252, 153, 0, 10, 4, 21, 4, 120, 167, 0, 4, 3, 128, 62]
abbrev dktX2_watchersOf_1 : List UInt8 := dkwX2_watchersOf_1 ++ dktX2_watchersOf_2
def dkwX2_watchersOf_0 : List UInt8 := [3, 62, 3, 54, 4, 21, 4, 42, 180, 0, 20, 6, 46, 162, 0, 38, 29, 42, 42, 21, 4, 28]
abbrev dktX2_watchersOf_0 : List UInt8 := dkwX2_watchersOf_0 ++ dktX2_watchersOf_1
theorem dksX2_watchersOf_0 : cX2_watchersOf.data.toList.drop 0 = dktX2_watchersOf_0 := by decide +kernel
theorem dksX2_watchersOf_1 : cX2_watchersOf.data.toList.drop 22 = dktX2_watchersOf_1 := dk_seg dksX2_watchersOf_0 22 rfl rfl
theorem dksX2_watchersOf_2 : cX2_watchersOf.data.toList.drop 45 = dktX2_watchersOf_2 := dk_seg dksX2_watchersOf_1 23 rfl rfl
theorem dX2_watchersOf_0 : decode cX2_watchersOf 0 = .ok (.iconst 0, 1) := dk_3 (dk_at dksX2_watchersOf_0 0 rfl rfl)
theorem dX2_watchersOf_1 : decode cX2_watchersOf 1 = .ok (.istore_n 3, 1) := dk_62 (dk_at dksX2_watchersOf_0 1 rfl rfl)
theorem dX2_watchersOf_2 : decode cX2_watchersOf 2 = .ok (.iconst 0, 1) := dk_3 (dk_at dksX2_watchersOf_0 2 rfl rfl)
theorem dX2_watchersOf_3 : decode cX2_watchersOf 3 = .ok (.istore 4, 2) := dk_54 4 (dk_at dksX2_watchersOf_0 3 rfl rfl)
theorem dX2_watchersOf_5 : decode cX2_watchersOf 5 = .ok (.iload 4, 2) := dk_21 4 (dk_at dksX2_watchersOf_0 5 rfl rfl)
theorem dX2_watchersOf_7 : decode cX2_watchersOf 7 = .ok (.aload_n 0, 1) := dk_42 (dk_at dksX2_watchersOf_0 7 rfl rfl)
theorem dX2_watchersOf_8 : decode cX2_watchersOf 8 = .ok (.getfield 20, 3) := dk_180 0 20 (dk_at dksX2_watchersOf_0 8 rfl rfl)
theorem dX2_watchersOf_11 : decode cX2_watchersOf 11 = .ok (.iconst 3, 1) := dk_6 (dk_at dksX2_watchersOf_0 11 rfl rfl)
theorem dX2_watchersOf_12 : decode cX2_watchersOf 12 = .ok (.iaload, 1) := dk_46 (dk_at dksX2_watchersOf_0 12 rfl rfl)
theorem dX2_watchersOf_13 : decode cX2_watchersOf 13 = .ok (.if_icmp .ge 38, 3) := dk_162 0 38 (dk_at dksX2_watchersOf_0 13 rfl rfl)
theorem dX2_watchersOf_16 : decode cX2_watchersOf 16 = .ok (.iload_n 3, 1) := dk_29 (dk_at dksX2_watchersOf_0 16 rfl rfl)
theorem dX2_watchersOf_17 : decode cX2_watchersOf 17 = .ok (.aload_n 0, 1) := dk_42 (dk_at dksX2_watchersOf_0 17 rfl rfl)
theorem dX2_watchersOf_18 : decode cX2_watchersOf 18 = .ok (.aload_n 0, 1) := dk_42 (dk_at dksX2_watchersOf_0 18 rfl rfl)
theorem dX2_watchersOf_19 : decode cX2_watchersOf 19 = .ok (.iload 4, 2) := dk_21 4 (dk_at dksX2_watchersOf_0 19 rfl rfl)
theorem dX2_watchersOf_21 : decode cX2_watchersOf 21 = .ok (.iload_n 2, 1) := dk_28 (dk_at dksX2_watchersOf_0 21 rfl rfl)
theorem dX2_watchersOf_22 : decode cX2_watchersOf 22 = .ok (.invokevirtual 256, 3) := dk_182 1 0 (dk_at dksX2_watchersOf_1 0 rfl rfl)
theorem dX2_watchersOf_25 : decode cX2_watchersOf 25 = .ok (.invokevirtual 259, 3) := dk_182 1 3 (dk_at dksX2_watchersOf_1 3 rfl rfl)
theorem dX2_watchersOf_28 : decode cX2_watchersOf 28 = .ok (.iload_n 1, 1) := dk_27 (dk_at dksX2_watchersOf_1 6 rfl rfl)
theorem dX2_watchersOf_29 : decode cX2_watchersOf 29 = .ok (.invokestatic 252, 3) := dk_184 0 252 (dk_at dksX2_watchersOf_1 7 rfl rfl)
theorem dX2_watchersOf_32 : decode cX2_watchersOf 32 = .ok (.ifCond .eq 10, 3) := dk_153 0 10 (dk_at dksX2_watchersOf_1 10 rfl rfl)
theorem dX2_watchersOf_35 : decode cX2_watchersOf 35 = .ok (.iconst 1, 1) := dk_4 (dk_at dksX2_watchersOf_1 13 rfl rfl)
theorem dX2_watchersOf_36 : decode cX2_watchersOf 36 = .ok (.iload 4, 2) := dk_21 4 (dk_at dksX2_watchersOf_1 14 rfl rfl)
theorem dX2_watchersOf_38 : decode cX2_watchersOf 38 = .ok (.ishl, 1) := dk_120 (dk_at dksX2_watchersOf_1 16 rfl rfl)
theorem dX2_watchersOf_39 : decode cX2_watchersOf 39 = .ok (.goto 4, 3) := dk_167 0 4 (dk_at dksX2_watchersOf_1 17 rfl rfl)
theorem dX2_watchersOf_42 : decode cX2_watchersOf 42 = .ok (.iconst 0, 1) := dk_3 (dk_at dksX2_watchersOf_1 20 rfl rfl)
theorem dX2_watchersOf_43 : decode cX2_watchersOf 43 = .ok (.ior, 1) := dk_128 (dk_at dksX2_watchersOf_1 21 rfl rfl)
theorem dX2_watchersOf_44 : decode cX2_watchersOf 44 = .ok (.istore_n 3, 1) := dk_62 (dk_at dksX2_watchersOf_1 22 rfl rfl)
theorem dX2_watchersOf_45 : decode cX2_watchersOf 45 = .ok (.iinc 4 1, 3) := dk_132 4 1 (dk_at dksX2_watchersOf_2 0 rfl rfl)
theorem dX2_watchersOf_48 : decode cX2_watchersOf 48 = .ok (.goto (-43), 3) := dk_167 255 213 (dk_at dksX2_watchersOf_2 3 rfl rfl)
theorem dX2_watchersOf_51 : decode cX2_watchersOf 51 = .ok (.iload_n 3, 1) := dk_29 (dk_at dksX2_watchersOf_2 6 rfl rfl)
theorem dX2_watchersOf_52 : decode cX2_watchersOf 52 = .ok (.ireturn, 1) := dk_172 (dk_at dksX2_watchersOf_2 7 rfl rfl)
abbrev cX2_eyes : ByteArray := prog_15_method_67_code
def yX2_eyes : MethodName := ⟨RX2, "eyes", "(II)I"⟩
def dkwX2_eyes_1 : List UInt8 := [29, 182, 0, 166, 172, 42, 182, 1, 59, 42, 42, 27, 28, 182, 1, 27, 182, 1, 33, 172]
abbrev dktX2_eyes_1 : List UInt8 := dkwX2_eyes_1 ++ []
def dkwX2_eyes_0 : List UInt8 := [42, 182, 0, 163, 42, 42, 27, 182, 1, 62, 42, 28, 182, 1, 52, 182, 1, 55, 62, 29, 153, 0, 9, 42]
abbrev dktX2_eyes_0 : List UInt8 := dkwX2_eyes_0 ++ dktX2_eyes_1
theorem dksX2_eyes_0 : cX2_eyes.data.toList.drop 0 = dktX2_eyes_0 := by decide +kernel
theorem dksX2_eyes_1 : cX2_eyes.data.toList.drop 24 = dktX2_eyes_1 := dk_seg dksX2_eyes_0 24 rfl rfl
theorem dX2_eyes_0 : decode cX2_eyes 0 = .ok (.aload_n 0, 1) := dk_42 (dk_at dksX2_eyes_0 0 rfl rfl)
theorem dX2_eyes_1 : decode cX2_eyes 1 = .ok (.invokevirtual 163, 3) := dk_182 0 163 (dk_at dksX2_eyes_0 1 rfl rfl)
theorem dX2_eyes_4 : decode cX2_eyes 4 = .ok (.aload_n 0, 1) := dk_42 (dk_at dksX2_eyes_0 4 rfl rfl)
theorem dX2_eyes_5 : decode cX2_eyes 5 = .ok (.aload_n 0, 1) := dk_42 (dk_at dksX2_eyes_0 5 rfl rfl)
theorem dX2_eyes_6 : decode cX2_eyes 6 = .ok (.iload_n 1, 1) := dk_27 (dk_at dksX2_eyes_0 6 rfl rfl)
theorem dX2_eyes_7 : decode cX2_eyes 7 = .ok (.invokevirtual 318, 3) := dk_182 1 62 (dk_at dksX2_eyes_0 7 rfl rfl)
theorem dX2_eyes_10 : decode cX2_eyes 10 = .ok (.aload_n 0, 1) := dk_42 (dk_at dksX2_eyes_0 10 rfl rfl)
theorem dX2_eyes_11 : decode cX2_eyes 11 = .ok (.iload_n 2, 1) := dk_28 (dk_at dksX2_eyes_0 11 rfl rfl)
theorem dX2_eyes_12 : decode cX2_eyes 12 = .ok (.invokevirtual 308, 3) := dk_182 1 52 (dk_at dksX2_eyes_0 12 rfl rfl)
theorem dX2_eyes_15 : decode cX2_eyes 15 = .ok (.invokevirtual 311, 3) := dk_182 1 55 (dk_at dksX2_eyes_0 15 rfl rfl)
theorem dX2_eyes_18 : decode cX2_eyes 18 = .ok (.istore_n 3, 1) := dk_62 (dk_at dksX2_eyes_0 18 rfl rfl)
theorem dX2_eyes_19 : decode cX2_eyes 19 = .ok (.iload_n 3, 1) := dk_29 (dk_at dksX2_eyes_0 19 rfl rfl)
theorem dX2_eyes_20 : decode cX2_eyes 20 = .ok (.ifCond .eq 9, 3) := dk_153 0 9 (dk_at dksX2_eyes_0 20 rfl rfl)
theorem dX2_eyes_23 : decode cX2_eyes 23 = .ok (.aload_n 0, 1) := dk_42 (dk_at dksX2_eyes_0 23 rfl rfl)
theorem dX2_eyes_24 : decode cX2_eyes 24 = .ok (.iload_n 3, 1) := dk_29 (dk_at dksX2_eyes_1 0 rfl rfl)
theorem dX2_eyes_25 : decode cX2_eyes 25 = .ok (.invokevirtual 166, 3) := dk_182 0 166 (dk_at dksX2_eyes_1 1 rfl rfl)
theorem dX2_eyes_28 : decode cX2_eyes 28 = .ok (.ireturn, 1) := dk_172 (dk_at dksX2_eyes_1 4 rfl rfl)
theorem dX2_eyes_29 : decode cX2_eyes 29 = .ok (.aload_n 0, 1) := dk_42 (dk_at dksX2_eyes_1 5 rfl rfl)
theorem dX2_eyes_30 : decode cX2_eyes 30 = .ok (.invokevirtual 315, 3) := dk_182 1 59 (dk_at dksX2_eyes_1 6 rfl rfl)
theorem dX2_eyes_33 : decode cX2_eyes 33 = .ok (.aload_n 0, 1) := dk_42 (dk_at dksX2_eyes_1 9 rfl rfl)
theorem dX2_eyes_34 : decode cX2_eyes 34 = .ok (.aload_n 0, 1) := dk_42 (dk_at dksX2_eyes_1 10 rfl rfl)
theorem dX2_eyes_35 : decode cX2_eyes 35 = .ok (.iload_n 1, 1) := dk_27 (dk_at dksX2_eyes_1 11 rfl rfl)
theorem dX2_eyes_36 : decode cX2_eyes 36 = .ok (.iload_n 2, 1) := dk_28 (dk_at dksX2_eyes_1 12 rfl rfl)
theorem dX2_eyes_37 : decode cX2_eyes 37 = .ok (.invokevirtual 283, 3) := dk_182 1 27 (dk_at dksX2_eyes_1 13 rfl rfl)
theorem dX2_eyes_40 : decode cX2_eyes 40 = .ok (.invokevirtual 289, 3) := dk_182 1 33 (dk_at dksX2_eyes_1 16 rfl rfl)
theorem dX2_eyes_43 : decode cX2_eyes 43 = .ok (.ireturn, 1) := dk_172 (dk_at dksX2_eyes_1 19 rfl rfl)
abbrev cX2_eyesOf : ByteArray := prog_15_method_54_code
def yX2_eyesOf : MethodName := ⟨RX2, "eyesOf", "(I)I"⟩
def dkwX2_eyesOf_1 : List UInt8 := [180, 0, 41, 29, 46, 167, 0, 4, 3, 96, 61, 132, 3, 1, 167, 255, 222, 28, 172]
abbrev dktX2_eyesOf_1 : List UInt8 := dkwX2_eyesOf_1 ++ []
def dkwX2_eyesOf_0 : List UInt8 := [3, 61, 3, 62, 29, 42, 180, 0, 20, 6, 46, 162, 0, 30, 28, 27, 29, 184, 0, 252, 153, 0, 12, 42]
abbrev dktX2_eyesOf_0 : List UInt8 := dkwX2_eyesOf_0 ++ dktX2_eyesOf_1
theorem dksX2_eyesOf_0 : cX2_eyesOf.data.toList.drop 0 = dktX2_eyesOf_0 := by decide +kernel
theorem dksX2_eyesOf_1 : cX2_eyesOf.data.toList.drop 24 = dktX2_eyesOf_1 := dk_seg dksX2_eyesOf_0 24 rfl rfl
theorem dX2_eyesOf_0 : decode cX2_eyesOf 0 = .ok (.iconst 0, 1) := dk_3 (dk_at dksX2_eyesOf_0 0 rfl rfl)
theorem dX2_eyesOf_1 : decode cX2_eyesOf 1 = .ok (.istore_n 2, 1) := dk_61 (dk_at dksX2_eyesOf_0 1 rfl rfl)
theorem dX2_eyesOf_2 : decode cX2_eyesOf 2 = .ok (.iconst 0, 1) := dk_3 (dk_at dksX2_eyesOf_0 2 rfl rfl)
theorem dX2_eyesOf_3 : decode cX2_eyesOf 3 = .ok (.istore_n 3, 1) := dk_62 (dk_at dksX2_eyesOf_0 3 rfl rfl)
theorem dX2_eyesOf_4 : decode cX2_eyesOf 4 = .ok (.iload_n 3, 1) := dk_29 (dk_at dksX2_eyesOf_0 4 rfl rfl)
theorem dX2_eyesOf_5 : decode cX2_eyesOf 5 = .ok (.aload_n 0, 1) := dk_42 (dk_at dksX2_eyesOf_0 5 rfl rfl)
theorem dX2_eyesOf_6 : decode cX2_eyesOf 6 = .ok (.getfield 20, 3) := dk_180 0 20 (dk_at dksX2_eyesOf_0 6 rfl rfl)
theorem dX2_eyesOf_9 : decode cX2_eyesOf 9 = .ok (.iconst 3, 1) := dk_6 (dk_at dksX2_eyesOf_0 9 rfl rfl)
theorem dX2_eyesOf_10 : decode cX2_eyesOf 10 = .ok (.iaload, 1) := dk_46 (dk_at dksX2_eyesOf_0 10 rfl rfl)
theorem dX2_eyesOf_11 : decode cX2_eyesOf 11 = .ok (.if_icmp .ge 30, 3) := dk_162 0 30 (dk_at dksX2_eyesOf_0 11 rfl rfl)
theorem dX2_eyesOf_14 : decode cX2_eyesOf 14 = .ok (.iload_n 2, 1) := dk_28 (dk_at dksX2_eyesOf_0 14 rfl rfl)
theorem dX2_eyesOf_15 : decode cX2_eyesOf 15 = .ok (.iload_n 1, 1) := dk_27 (dk_at dksX2_eyesOf_0 15 rfl rfl)
theorem dX2_eyesOf_16 : decode cX2_eyesOf 16 = .ok (.iload_n 3, 1) := dk_29 (dk_at dksX2_eyesOf_0 16 rfl rfl)
theorem dX2_eyesOf_17 : decode cX2_eyesOf 17 = .ok (.invokestatic 252, 3) := dk_184 0 252 (dk_at dksX2_eyesOf_0 17 rfl rfl)
theorem dX2_eyesOf_20 : decode cX2_eyesOf 20 = .ok (.ifCond .eq 12, 3) := dk_153 0 12 (dk_at dksX2_eyesOf_0 20 rfl rfl)
theorem dX2_eyesOf_23 : decode cX2_eyesOf 23 = .ok (.aload_n 0, 1) := dk_42 (dk_at dksX2_eyesOf_0 23 rfl rfl)
theorem dX2_eyesOf_24 : decode cX2_eyesOf 24 = .ok (.getfield 41, 3) := dk_180 0 41 (dk_at dksX2_eyesOf_1 0 rfl rfl)
theorem dX2_eyesOf_27 : decode cX2_eyesOf 27 = .ok (.iload_n 3, 1) := dk_29 (dk_at dksX2_eyesOf_1 3 rfl rfl)
theorem dX2_eyesOf_28 : decode cX2_eyesOf 28 = .ok (.iaload, 1) := dk_46 (dk_at dksX2_eyesOf_1 4 rfl rfl)
theorem dX2_eyesOf_29 : decode cX2_eyesOf 29 = .ok (.goto 4, 3) := dk_167 0 4 (dk_at dksX2_eyesOf_1 5 rfl rfl)
theorem dX2_eyesOf_32 : decode cX2_eyesOf 32 = .ok (.iconst 0, 1) := dk_3 (dk_at dksX2_eyesOf_1 8 rfl rfl)
theorem dX2_eyesOf_33 : decode cX2_eyesOf 33 = .ok (.iadd, 1) := dk_96 (dk_at dksX2_eyesOf_1 9 rfl rfl)
theorem dX2_eyesOf_34 : decode cX2_eyesOf 34 = .ok (.istore_n 2, 1) := dk_61 (dk_at dksX2_eyesOf_1 10 rfl rfl)
theorem dX2_eyesOf_35 : decode cX2_eyesOf 35 = .ok (.iinc 3 1, 3) := dk_132 3 1 (dk_at dksX2_eyesOf_1 11 rfl rfl)
theorem dX2_eyesOf_38 : decode cX2_eyesOf 38 = .ok (.goto (-34), 3) := dk_167 255 222 (dk_at dksX2_eyesOf_1 14 rfl rfl)
theorem dX2_eyesOf_41 : decode cX2_eyesOf 41 = .ok (.iload_n 2, 1) := dk_28 (dk_at dksX2_eyesOf_1 17 rfl rfl)
theorem dX2_eyesOf_42 : decode cX2_eyesOf 42 = .ok (.ireturn, 1) := dk_172 (dk_at dksX2_eyesOf_1 18 rfl rfl)
abbrev cX2_hidden : ByteArray := prog_15_method_68_code
def yX2_hidden : MethodName := ⟨RX2, "hidden", "(I)I"⟩
def dkwX2_hidden_3 : List UInt8 := [62, 132, 4, 1, 167, 255, 217, 29, 172]
abbrev dktX2_hidden_3 : List UInt8 := dkwX2_hidden_3 ++ []
def dkwX2_hidden_2 : List UInt8 := [29, 42, 42, 21, 4, 27, 182, 1, 27, 182, 1, 33, 154, 0, 10, 4, 21, 4, 120, 167, 0, 4, 3, 128]
abbrev dktX2_hidden_2 : List UInt8 := dkwX2_hidden_2 ++ dktX2_hidden_3
def dkwX2_hidden_1 : List UInt8 := [182, 0, 166, 172, 42, 182, 1, 59, 3, 62, 3, 54, 4, 21, 4, 42, 180, 0, 20, 4, 46, 162, 0, 34]
abbrev dktX2_hidden_1 : List UInt8 := dkwX2_hidden_1 ++ dktX2_hidden_2
def dkwX2_hidden_0 : List UInt8 := [42, 182, 0, 163, 42, 42, 180, 0, 176, 42, 27, 182, 1, 52, 182, 1, 55, 61, 28, 153, 0, 9, 42, 28]
abbrev dktX2_hidden_0 : List UInt8 := dkwX2_hidden_0 ++ dktX2_hidden_1
theorem dksX2_hidden_0 : cX2_hidden.data.toList.drop 0 = dktX2_hidden_0 := by decide +kernel
theorem dksX2_hidden_1 : cX2_hidden.data.toList.drop 24 = dktX2_hidden_1 := dk_seg dksX2_hidden_0 24 rfl rfl
theorem dksX2_hidden_2 : cX2_hidden.data.toList.drop 48 = dktX2_hidden_2 := dk_seg dksX2_hidden_1 24 rfl rfl
theorem dksX2_hidden_3 : cX2_hidden.data.toList.drop 72 = dktX2_hidden_3 := dk_seg dksX2_hidden_2 24 rfl rfl
theorem dX2_hidden_0 : decode cX2_hidden 0 = .ok (.aload_n 0, 1) := dk_42 (dk_at dksX2_hidden_0 0 rfl rfl)
theorem dX2_hidden_1 : decode cX2_hidden 1 = .ok (.invokevirtual 163, 3) := dk_182 0 163 (dk_at dksX2_hidden_0 1 rfl rfl)
theorem dX2_hidden_4 : decode cX2_hidden 4 = .ok (.aload_n 0, 1) := dk_42 (dk_at dksX2_hidden_0 4 rfl rfl)
theorem dX2_hidden_5 : decode cX2_hidden 5 = .ok (.aload_n 0, 1) := dk_42 (dk_at dksX2_hidden_0 5 rfl rfl)
theorem dX2_hidden_6 : decode cX2_hidden 6 = .ok (.getfield 176, 3) := dk_180 0 176 (dk_at dksX2_hidden_0 6 rfl rfl)
theorem dX2_hidden_9 : decode cX2_hidden 9 = .ok (.aload_n 0, 1) := dk_42 (dk_at dksX2_hidden_0 9 rfl rfl)
theorem dX2_hidden_10 : decode cX2_hidden 10 = .ok (.iload_n 1, 1) := dk_27 (dk_at dksX2_hidden_0 10 rfl rfl)
theorem dX2_hidden_11 : decode cX2_hidden 11 = .ok (.invokevirtual 308, 3) := dk_182 1 52 (dk_at dksX2_hidden_0 11 rfl rfl)
theorem dX2_hidden_14 : decode cX2_hidden 14 = .ok (.invokevirtual 311, 3) := dk_182 1 55 (dk_at dksX2_hidden_0 14 rfl rfl)
theorem dX2_hidden_17 : decode cX2_hidden 17 = .ok (.istore_n 2, 1) := dk_61 (dk_at dksX2_hidden_0 17 rfl rfl)
theorem dX2_hidden_18 : decode cX2_hidden 18 = .ok (.iload_n 2, 1) := dk_28 (dk_at dksX2_hidden_0 18 rfl rfl)
theorem dX2_hidden_19 : decode cX2_hidden 19 = .ok (.ifCond .eq 9, 3) := dk_153 0 9 (dk_at dksX2_hidden_0 19 rfl rfl)
theorem dX2_hidden_22 : decode cX2_hidden 22 = .ok (.aload_n 0, 1) := dk_42 (dk_at dksX2_hidden_0 22 rfl rfl)
theorem dX2_hidden_23 : decode cX2_hidden 23 = .ok (.iload_n 2, 1) := dk_28 (dk_at dksX2_hidden_0 23 rfl rfl)
theorem dX2_hidden_24 : decode cX2_hidden 24 = .ok (.invokevirtual 166, 3) := dk_182 0 166 (dk_at dksX2_hidden_1 0 rfl rfl)
theorem dX2_hidden_27 : decode cX2_hidden 27 = .ok (.ireturn, 1) := dk_172 (dk_at dksX2_hidden_1 3 rfl rfl)
theorem dX2_hidden_28 : decode cX2_hidden 28 = .ok (.aload_n 0, 1) := dk_42 (dk_at dksX2_hidden_1 4 rfl rfl)
theorem dX2_hidden_29 : decode cX2_hidden 29 = .ok (.invokevirtual 315, 3) := dk_182 1 59 (dk_at dksX2_hidden_1 5 rfl rfl)
theorem dX2_hidden_32 : decode cX2_hidden 32 = .ok (.iconst 0, 1) := dk_3 (dk_at dksX2_hidden_1 8 rfl rfl)
theorem dX2_hidden_33 : decode cX2_hidden 33 = .ok (.istore_n 3, 1) := dk_62 (dk_at dksX2_hidden_1 9 rfl rfl)
theorem dX2_hidden_34 : decode cX2_hidden 34 = .ok (.iconst 0, 1) := dk_3 (dk_at dksX2_hidden_1 10 rfl rfl)
theorem dX2_hidden_35 : decode cX2_hidden 35 = .ok (.istore 4, 2) := dk_54 4 (dk_at dksX2_hidden_1 11 rfl rfl)
theorem dX2_hidden_37 : decode cX2_hidden 37 = .ok (.iload 4, 2) := dk_21 4 (dk_at dksX2_hidden_1 13 rfl rfl)
theorem dX2_hidden_39 : decode cX2_hidden 39 = .ok (.aload_n 0, 1) := dk_42 (dk_at dksX2_hidden_1 15 rfl rfl)
theorem dX2_hidden_40 : decode cX2_hidden 40 = .ok (.getfield 20, 3) := dk_180 0 20 (dk_at dksX2_hidden_1 16 rfl rfl)
theorem dX2_hidden_43 : decode cX2_hidden 43 = .ok (.iconst 1, 1) := dk_4 (dk_at dksX2_hidden_1 19 rfl rfl)
theorem dX2_hidden_44 : decode cX2_hidden 44 = .ok (.iaload, 1) := dk_46 (dk_at dksX2_hidden_1 20 rfl rfl)
theorem dX2_hidden_45 : decode cX2_hidden 45 = .ok (.if_icmp .ge 34, 3) := dk_162 0 34 (dk_at dksX2_hidden_1 21 rfl rfl)
theorem dX2_hidden_48 : decode cX2_hidden 48 = .ok (.iload_n 3, 1) := dk_29 (dk_at dksX2_hidden_2 0 rfl rfl)
theorem dX2_hidden_49 : decode cX2_hidden 49 = .ok (.aload_n 0, 1) := dk_42 (dk_at dksX2_hidden_2 1 rfl rfl)
theorem dX2_hidden_50 : decode cX2_hidden 50 = .ok (.aload_n 0, 1) := dk_42 (dk_at dksX2_hidden_2 2 rfl rfl)
theorem dX2_hidden_51 : decode cX2_hidden 51 = .ok (.iload 4, 2) := dk_21 4 (dk_at dksX2_hidden_2 3 rfl rfl)
theorem dX2_hidden_53 : decode cX2_hidden 53 = .ok (.iload_n 1, 1) := dk_27 (dk_at dksX2_hidden_2 5 rfl rfl)
theorem dX2_hidden_54 : decode cX2_hidden 54 = .ok (.invokevirtual 283, 3) := dk_182 1 27 (dk_at dksX2_hidden_2 6 rfl rfl)
theorem dX2_hidden_57 : decode cX2_hidden 57 = .ok (.invokevirtual 289, 3) := dk_182 1 33 (dk_at dksX2_hidden_2 9 rfl rfl)
theorem dX2_hidden_60 : decode cX2_hidden 60 = .ok (.ifCond .ne 10, 3) := dk_154 0 10 (dk_at dksX2_hidden_2 12 rfl rfl)
theorem dX2_hidden_63 : decode cX2_hidden 63 = .ok (.iconst 1, 1) := dk_4 (dk_at dksX2_hidden_2 15 rfl rfl)
theorem dX2_hidden_64 : decode cX2_hidden 64 = .ok (.iload 4, 2) := dk_21 4 (dk_at dksX2_hidden_2 16 rfl rfl)
theorem dX2_hidden_66 : decode cX2_hidden 66 = .ok (.ishl, 1) := dk_120 (dk_at dksX2_hidden_2 18 rfl rfl)
theorem dX2_hidden_67 : decode cX2_hidden 67 = .ok (.goto 4, 3) := dk_167 0 4 (dk_at dksX2_hidden_2 19 rfl rfl)
theorem dX2_hidden_70 : decode cX2_hidden 70 = .ok (.iconst 0, 1) := dk_3 (dk_at dksX2_hidden_2 22 rfl rfl)
theorem dX2_hidden_71 : decode cX2_hidden 71 = .ok (.ior, 1) := dk_128 (dk_at dksX2_hidden_2 23 rfl rfl)
theorem dX2_hidden_72 : decode cX2_hidden 72 = .ok (.istore_n 3, 1) := dk_62 (dk_at dksX2_hidden_3 0 rfl rfl)
theorem dX2_hidden_73 : decode cX2_hidden 73 = .ok (.iinc 4 1, 3) := dk_132 4 1 (dk_at dksX2_hidden_3 1 rfl rfl)
theorem dX2_hidden_76 : decode cX2_hidden 76 = .ok (.goto (-39), 3) := dk_167 255 217 (dk_at dksX2_hidden_3 4 rfl rfl)
theorem dX2_hidden_79 : decode cX2_hidden 79 = .ok (.iload_n 3, 1) := dk_29 (dk_at dksX2_hidden_3 7 rfl rfl)
theorem dX2_hidden_80 : decode cX2_hidden 80 = .ok (.ireturn, 1) := dk_172 (dk_at dksX2_hidden_3 8 rfl rfl)
abbrev cX2_square : ByteArray := prog_15_method_70_code
def yX2_square : MethodName := ⟨RX2, "square", "()I"⟩
def dkwX2_square_2 : List UInt8 := [21, 4, 28, 163, 0, 6, 167, 0, 8, 29, 60, 21, 4, 61, 132, 3, 1, 167, 255, 222, 27, 172]
abbrev dktX2_square_2 : List UInt8 := dkwX2_square_2 ++ []
def dkwX2_square_1 : List UInt8 := [3, 182, 1, 65, 61, 4, 62, 29, 42, 180, 0, 20, 4, 46, 162, 0, 30, 42, 29, 182, 1, 65, 54, 4]
abbrev dktX2_square_1 : List UInt8 := dkwX2_square_1 ++ dktX2_square_2
def dkwX2_square_0 : List UInt8 := [42, 182, 0, 163, 42, 180, 0, 176, 154, 0, 9, 42, 4, 182, 0, 166, 172, 42, 182, 1, 59, 3, 60, 42]
abbrev dktX2_square_0 : List UInt8 := dkwX2_square_0 ++ dktX2_square_1
theorem dksX2_square_0 : cX2_square.data.toList.drop 0 = dktX2_square_0 := by decide +kernel
theorem dksX2_square_1 : cX2_square.data.toList.drop 24 = dktX2_square_1 := dk_seg dksX2_square_0 24 rfl rfl
theorem dksX2_square_2 : cX2_square.data.toList.drop 48 = dktX2_square_2 := dk_seg dksX2_square_1 24 rfl rfl
theorem dX2_square_0 : decode cX2_square 0 = .ok (.aload_n 0, 1) := dk_42 (dk_at dksX2_square_0 0 rfl rfl)
theorem dX2_square_1 : decode cX2_square 1 = .ok (.invokevirtual 163, 3) := dk_182 0 163 (dk_at dksX2_square_0 1 rfl rfl)
theorem dX2_square_4 : decode cX2_square 4 = .ok (.aload_n 0, 1) := dk_42 (dk_at dksX2_square_0 4 rfl rfl)
theorem dX2_square_5 : decode cX2_square 5 = .ok (.getfield 176, 3) := dk_180 0 176 (dk_at dksX2_square_0 5 rfl rfl)
theorem dX2_square_8 : decode cX2_square 8 = .ok (.ifCond .ne 9, 3) := dk_154 0 9 (dk_at dksX2_square_0 8 rfl rfl)
theorem dX2_square_11 : decode cX2_square 11 = .ok (.aload_n 0, 1) := dk_42 (dk_at dksX2_square_0 11 rfl rfl)
theorem dX2_square_12 : decode cX2_square 12 = .ok (.iconst 1, 1) := dk_4 (dk_at dksX2_square_0 12 rfl rfl)
theorem dX2_square_13 : decode cX2_square 13 = .ok (.invokevirtual 166, 3) := dk_182 0 166 (dk_at dksX2_square_0 13 rfl rfl)
theorem dX2_square_16 : decode cX2_square 16 = .ok (.ireturn, 1) := dk_172 (dk_at dksX2_square_0 16 rfl rfl)
theorem dX2_square_17 : decode cX2_square 17 = .ok (.aload_n 0, 1) := dk_42 (dk_at dksX2_square_0 17 rfl rfl)
theorem dX2_square_18 : decode cX2_square 18 = .ok (.invokevirtual 315, 3) := dk_182 1 59 (dk_at dksX2_square_0 18 rfl rfl)
theorem dX2_square_21 : decode cX2_square 21 = .ok (.iconst 0, 1) := dk_3 (dk_at dksX2_square_0 21 rfl rfl)
theorem dX2_square_22 : decode cX2_square 22 = .ok (.istore_n 1, 1) := dk_60 (dk_at dksX2_square_0 22 rfl rfl)
theorem dX2_square_23 : decode cX2_square 23 = .ok (.aload_n 0, 1) := dk_42 (dk_at dksX2_square_0 23 rfl rfl)
theorem dX2_square_24 : decode cX2_square 24 = .ok (.iconst 0, 1) := dk_3 (dk_at dksX2_square_1 0 rfl rfl)
theorem dX2_square_25 : decode cX2_square 25 = .ok (.invokevirtual 321, 3) := dk_182 1 65 (dk_at dksX2_square_1 1 rfl rfl)
theorem dX2_square_28 : decode cX2_square 28 = .ok (.istore_n 2, 1) := dk_61 (dk_at dksX2_square_1 4 rfl rfl)
theorem dX2_square_29 : decode cX2_square 29 = .ok (.iconst 1, 1) := dk_4 (dk_at dksX2_square_1 5 rfl rfl)
theorem dX2_square_30 : decode cX2_square 30 = .ok (.istore_n 3, 1) := dk_62 (dk_at dksX2_square_1 6 rfl rfl)
theorem dX2_square_31 : decode cX2_square 31 = .ok (.iload_n 3, 1) := dk_29 (dk_at dksX2_square_1 7 rfl rfl)
theorem dX2_square_32 : decode cX2_square 32 = .ok (.aload_n 0, 1) := dk_42 (dk_at dksX2_square_1 8 rfl rfl)
theorem dX2_square_33 : decode cX2_square 33 = .ok (.getfield 20, 3) := dk_180 0 20 (dk_at dksX2_square_1 9 rfl rfl)
theorem dX2_square_36 : decode cX2_square 36 = .ok (.iconst 1, 1) := dk_4 (dk_at dksX2_square_1 12 rfl rfl)
theorem dX2_square_37 : decode cX2_square 37 = .ok (.iaload, 1) := dk_46 (dk_at dksX2_square_1 13 rfl rfl)
theorem dX2_square_38 : decode cX2_square 38 = .ok (.if_icmp .ge 30, 3) := dk_162 0 30 (dk_at dksX2_square_1 14 rfl rfl)
theorem dX2_square_41 : decode cX2_square 41 = .ok (.aload_n 0, 1) := dk_42 (dk_at dksX2_square_1 17 rfl rfl)
theorem dX2_square_42 : decode cX2_square 42 = .ok (.iload_n 3, 1) := dk_29 (dk_at dksX2_square_1 18 rfl rfl)
theorem dX2_square_43 : decode cX2_square 43 = .ok (.invokevirtual 321, 3) := dk_182 1 65 (dk_at dksX2_square_1 19 rfl rfl)
theorem dX2_square_46 : decode cX2_square 46 = .ok (.istore 4, 2) := dk_54 4 (dk_at dksX2_square_1 22 rfl rfl)
theorem dX2_square_48 : decode cX2_square 48 = .ok (.iload 4, 2) := dk_21 4 (dk_at dksX2_square_2 0 rfl rfl)
theorem dX2_square_50 : decode cX2_square 50 = .ok (.iload_n 2, 1) := dk_28 (dk_at dksX2_square_2 2 rfl rfl)
theorem dX2_square_51 : decode cX2_square 51 = .ok (.if_icmp .gt 6, 3) := dk_163 0 6 (dk_at dksX2_square_2 3 rfl rfl)
theorem dX2_square_54 : decode cX2_square 54 = .ok (.goto 8, 3) := dk_167 0 8 (dk_at dksX2_square_2 6 rfl rfl)
theorem dX2_square_57 : decode cX2_square 57 = .ok (.iload_n 3, 1) := dk_29 (dk_at dksX2_square_2 9 rfl rfl)
theorem dX2_square_58 : decode cX2_square 58 = .ok (.istore_n 1, 1) := dk_60 (dk_at dksX2_square_2 10 rfl rfl)
theorem dX2_square_59 : decode cX2_square 59 = .ok (.iload 4, 2) := dk_21 4 (dk_at dksX2_square_2 11 rfl rfl)
theorem dX2_square_61 : decode cX2_square 61 = .ok (.istore_n 2, 1) := dk_61 (dk_at dksX2_square_2 13 rfl rfl)
theorem dX2_square_62 : decode cX2_square 62 = .ok (.iinc 3 1, 3) := dk_132 3 1 (dk_at dksX2_square_2 14 rfl rfl)
theorem dX2_square_65 : decode cX2_square 65 = .ok (.goto (-34), 3) := dk_167 255 222 (dk_at dksX2_square_2 17 rfl rfl)
theorem dX2_square_68 : decode cX2_square 68 = .ok (.iload_n 1, 1) := dk_27 (dk_at dksX2_square_2 20 rfl rfl)
theorem dX2_square_69 : decode cX2_square 69 = .ok (.ireturn, 1) := dk_172 (dk_at dksX2_square_2 21 rfl rfl)
abbrev cX2_allEyes : ByteArray := prog_15_method_69_code
def yX2_allEyes : MethodName := ⟨RX2, "allEyes", "(I)I"⟩
def dkwX2_allEyes_1 : List UInt8 := [132, 3, 1, 167, 255, 234, 28, 172]
abbrev dktX2_allEyes_1 : List UInt8 := dkwX2_allEyes_1 ++ []
def dkwX2_allEyes_0 : List UInt8 := [3, 61, 3, 62, 29, 16, 59, 163, 0, 22, 28, 42, 42, 27, 29, 182, 1, 27, 182, 1, 33, 96, 61]
abbrev dktX2_allEyes_0 : List UInt8 := dkwX2_allEyes_0 ++ dktX2_allEyes_1
theorem dksX2_allEyes_0 : cX2_allEyes.data.toList.drop 0 = dktX2_allEyes_0 := by decide +kernel
theorem dksX2_allEyes_1 : cX2_allEyes.data.toList.drop 23 = dktX2_allEyes_1 := dk_seg dksX2_allEyes_0 23 rfl rfl
theorem dX2_allEyes_0 : decode cX2_allEyes 0 = .ok (.iconst 0, 1) := dk_3 (dk_at dksX2_allEyes_0 0 rfl rfl)
theorem dX2_allEyes_1 : decode cX2_allEyes 1 = .ok (.istore_n 2, 1) := dk_61 (dk_at dksX2_allEyes_0 1 rfl rfl)
theorem dX2_allEyes_2 : decode cX2_allEyes 2 = .ok (.iconst 0, 1) := dk_3 (dk_at dksX2_allEyes_0 2 rfl rfl)
theorem dX2_allEyes_3 : decode cX2_allEyes 3 = .ok (.istore_n 3, 1) := dk_62 (dk_at dksX2_allEyes_0 3 rfl rfl)
theorem dX2_allEyes_4 : decode cX2_allEyes 4 = .ok (.iload_n 3, 1) := dk_29 (dk_at dksX2_allEyes_0 4 rfl rfl)
theorem dX2_allEyes_5 : decode cX2_allEyes 5 = .ok (.bipush 59, 2) := dk_16 59 (dk_at dksX2_allEyes_0 5 rfl rfl)
theorem dX2_allEyes_7 : decode cX2_allEyes 7 = .ok (.if_icmp .gt 22, 3) := dk_163 0 22 (dk_at dksX2_allEyes_0 7 rfl rfl)
theorem dX2_allEyes_10 : decode cX2_allEyes 10 = .ok (.iload_n 2, 1) := dk_28 (dk_at dksX2_allEyes_0 10 rfl rfl)
theorem dX2_allEyes_11 : decode cX2_allEyes 11 = .ok (.aload_n 0, 1) := dk_42 (dk_at dksX2_allEyes_0 11 rfl rfl)
theorem dX2_allEyes_12 : decode cX2_allEyes 12 = .ok (.aload_n 0, 1) := dk_42 (dk_at dksX2_allEyes_0 12 rfl rfl)
theorem dX2_allEyes_13 : decode cX2_allEyes 13 = .ok (.iload_n 1, 1) := dk_27 (dk_at dksX2_allEyes_0 13 rfl rfl)
theorem dX2_allEyes_14 : decode cX2_allEyes 14 = .ok (.iload_n 3, 1) := dk_29 (dk_at dksX2_allEyes_0 14 rfl rfl)
theorem dX2_allEyes_15 : decode cX2_allEyes 15 = .ok (.invokevirtual 283, 3) := dk_182 1 27 (dk_at dksX2_allEyes_0 15 rfl rfl)
theorem dX2_allEyes_18 : decode cX2_allEyes 18 = .ok (.invokevirtual 289, 3) := dk_182 1 33 (dk_at dksX2_allEyes_0 18 rfl rfl)
theorem dX2_allEyes_21 : decode cX2_allEyes 21 = .ok (.iadd, 1) := dk_96 (dk_at dksX2_allEyes_0 21 rfl rfl)
theorem dX2_allEyes_22 : decode cX2_allEyes 22 = .ok (.istore_n 2, 1) := dk_61 (dk_at dksX2_allEyes_0 22 rfl rfl)
theorem dX2_allEyes_23 : decode cX2_allEyes 23 = .ok (.iinc 3 1, 3) := dk_132 3 1 (dk_at dksX2_allEyes_1 0 rfl rfl)
theorem dX2_allEyes_26 : decode cX2_allEyes 26 = .ok (.goto (-22), 3) := dk_167 255 234 (dk_at dksX2_allEyes_1 3 rfl rfl)
theorem dX2_allEyes_29 : decode cX2_allEyes 29 = .ok (.iload_n 2, 1) := dk_28 (dk_at dksX2_allEyes_1 6 rfl rfl)
theorem dX2_allEyes_30 : decode cX2_allEyes 30 = .ok (.ireturn, 1) := dk_172 (dk_at dksX2_allEyes_1 7 rfl rfl)
abbrev cX2_ends : ByteArray := prog_15_method_72_code
def yX2_ends : MethodName := ⟨RX2, "ends", "(I)I"⟩
def dkwX2_ends_1 : List UInt8 := [172]
abbrev dktX2_ends_1 : List UInt8 := dkwX2_ends_1 ++ []
def dkwX2_ends_0 : List UInt8 := [42, 182, 0, 163, 42, 27, 182, 1, 71, 153, 0, 10, 42, 180, 1, 13, 167, 0, 8, 42, 4, 182, 0, 166]
abbrev dktX2_ends_0 : List UInt8 := dkwX2_ends_0 ++ dktX2_ends_1
theorem dksX2_ends_0 : cX2_ends.data.toList.drop 0 = dktX2_ends_0 := by decide +kernel
theorem dksX2_ends_1 : cX2_ends.data.toList.drop 24 = dktX2_ends_1 := dk_seg dksX2_ends_0 24 rfl rfl
theorem dX2_ends_0 : decode cX2_ends 0 = .ok (.aload_n 0, 1) := dk_42 (dk_at dksX2_ends_0 0 rfl rfl)
theorem dX2_ends_1 : decode cX2_ends 1 = .ok (.invokevirtual 163, 3) := dk_182 0 163 (dk_at dksX2_ends_0 1 rfl rfl)
theorem dX2_ends_4 : decode cX2_ends 4 = .ok (.aload_n 0, 1) := dk_42 (dk_at dksX2_ends_0 4 rfl rfl)
theorem dX2_ends_5 : decode cX2_ends 5 = .ok (.iload_n 1, 1) := dk_27 (dk_at dksX2_ends_0 5 rfl rfl)
theorem dX2_ends_6 : decode cX2_ends 6 = .ok (.invokevirtual 327, 3) := dk_182 1 71 (dk_at dksX2_ends_0 6 rfl rfl)
theorem dX2_ends_9 : decode cX2_ends 9 = .ok (.ifCond .eq 10, 3) := dk_153 0 10 (dk_at dksX2_ends_0 9 rfl rfl)
theorem dX2_ends_12 : decode cX2_ends 12 = .ok (.aload_n 0, 1) := dk_42 (dk_at dksX2_ends_0 12 rfl rfl)
theorem dX2_ends_13 : decode cX2_ends 13 = .ok (.getfield 269, 3) := dk_180 1 13 (dk_at dksX2_ends_0 13 rfl rfl)
theorem dX2_ends_16 : decode cX2_ends 16 = .ok (.goto 8, 3) := dk_167 0 8 (dk_at dksX2_ends_0 16 rfl rfl)
theorem dX2_ends_19 : decode cX2_ends 19 = .ok (.aload_n 0, 1) := dk_42 (dk_at dksX2_ends_0 19 rfl rfl)
theorem dX2_ends_20 : decode cX2_ends 20 = .ok (.iconst 1, 1) := dk_4 (dk_at dksX2_ends_0 20 rfl rfl)
theorem dX2_ends_21 : decode cX2_ends 21 = .ok (.invokevirtual 166, 3) := dk_182 0 166 (dk_at dksX2_ends_0 21 rfl rfl)
theorem dX2_ends_24 : decode cX2_ends 24 = .ok (.ireturn, 1) := dk_172 (dk_at dksX2_ends_1 0 rfl rfl)
abbrev cX2_goOver : ByteArray := prog_15_method_71_code
def yX2_goOver : MethodName := ⟨RX2, "goOve\x72", "(I)Z"⟩
def dkwX2_goOver_0 : List UInt8 := [42, 27, 182, 1, 49, 154, 0, 5, 3, 172, 42, 182, 1, 59, 42, 27, 182, 1, 68, 4, 172]
abbrev dktX2_goOver_0 : List UInt8 := dkwX2_goOver_0 ++ []
theorem dksX2_goOver_0 : cX2_goOver.data.toList.drop 0 = dktX2_goOver_0 := by decide +kernel
theorem dX2_goOver_0 : decode cX2_goOver 0 = .ok (.aload_n 0, 1) := dk_42 (dk_at dksX2_goOver_0 0 rfl rfl)
theorem dX2_goOver_1 : decode cX2_goOver 1 = .ok (.iload_n 1, 1) := dk_27 (dk_at dksX2_goOver_0 1 rfl rfl)
theorem dX2_goOver_2 : decode cX2_goOver 2 = .ok (.invokevirtual 305, 3) := dk_182 1 49 (dk_at dksX2_goOver_0 2 rfl rfl)
theorem dX2_goOver_5 : decode cX2_goOver 5 = .ok (.ifCond .ne 5, 3) := dk_154 0 5 (dk_at dksX2_goOver_0 5 rfl rfl)
theorem dX2_goOver_8 : decode cX2_goOver 8 = .ok (.iconst 0, 1) := dk_3 (dk_at dksX2_goOver_0 8 rfl rfl)
theorem dX2_goOver_9 : decode cX2_goOver 9 = .ok (.ireturn, 1) := dk_172 (dk_at dksX2_goOver_0 9 rfl rfl)
theorem dX2_goOver_10 : decode cX2_goOver 10 = .ok (.aload_n 0, 1) := dk_42 (dk_at dksX2_goOver_0 10 rfl rfl)
theorem dX2_goOver_11 : decode cX2_goOver 11 = .ok (.invokevirtual 315, 3) := dk_182 1 59 (dk_at dksX2_goOver_0 11 rfl rfl)
theorem dX2_goOver_14 : decode cX2_goOver 14 = .ok (.aload_n 0, 1) := dk_42 (dk_at dksX2_goOver_0 14 rfl rfl)
theorem dX2_goOver_15 : decode cX2_goOver 15 = .ok (.iload_n 1, 1) := dk_27 (dk_at dksX2_goOver_0 15 rfl rfl)
theorem dX2_goOver_16 : decode cX2_goOver 16 = .ok (.invokevirtual 324, 3) := dk_182 1 68 (dk_at dksX2_goOver_0 16 rfl rfl)
theorem dX2_goOver_19 : decode cX2_goOver 19 = .ok (.iconst 1, 1) := dk_4 (dk_at dksX2_goOver_0 19 rfl rfl)
theorem dX2_goOver_20 : decode cX2_goOver 20 = .ok (.ireturn, 1) := dk_172 (dk_at dksX2_goOver_0 20 rfl rfl)
abbrev cX2_runTold : ByteArray := prog_15_method_57_code
def yX2_runTold : MethodName := ⟨RX2, "runTold", "(I)V"⟩
def dkwX2_runTold_1 : List UInt8 := [96, 6, 96, 46, 3, 182, 1, 36, 177]
abbrev dktX2_runTold_1 : List UInt8 := dkwX2_runTold_1 ++ []
def dkwX2_runTold_0 : List UInt8 := [42, 27, 42, 180, 0, 20, 16, 80, 8, 27, 104, 96, 5, 96, 46, 42, 180, 0, 20, 16, 80, 8, 27, 104]
abbrev dktX2_runTold_0 : List UInt8 := dkwX2_runTold_0 ++ dktX2_runTold_1
theorem dksX2_runTold_0 : cX2_runTold.data.toList.drop 0 = dktX2_runTold_0 := by decide +kernel
theorem dksX2_runTold_1 : cX2_runTold.data.toList.drop 24 = dktX2_runTold_1 := dk_seg dksX2_runTold_0 24 rfl rfl
theorem dX2_runTold_0 : decode cX2_runTold 0 = .ok (.aload_n 0, 1) := dk_42 (dk_at dksX2_runTold_0 0 rfl rfl)
theorem dX2_runTold_1 : decode cX2_runTold 1 = .ok (.iload_n 1, 1) := dk_27 (dk_at dksX2_runTold_0 1 rfl rfl)
theorem dX2_runTold_2 : decode cX2_runTold 2 = .ok (.aload_n 0, 1) := dk_42 (dk_at dksX2_runTold_0 2 rfl rfl)
theorem dX2_runTold_3 : decode cX2_runTold 3 = .ok (.getfield 20, 3) := dk_180 0 20 (dk_at dksX2_runTold_0 3 rfl rfl)
theorem dX2_runTold_6 : decode cX2_runTold 6 = .ok (.bipush 80, 2) := dk_16 80 (dk_at dksX2_runTold_0 6 rfl rfl)
theorem dX2_runTold_8 : decode cX2_runTold 8 = .ok (.iconst 5, 1) := dk_8 (dk_at dksX2_runTold_0 8 rfl rfl)
theorem dX2_runTold_9 : decode cX2_runTold 9 = .ok (.iload_n 1, 1) := dk_27 (dk_at dksX2_runTold_0 9 rfl rfl)
theorem dX2_runTold_10 : decode cX2_runTold 10 = .ok (.imul, 1) := dk_104 (dk_at dksX2_runTold_0 10 rfl rfl)
theorem dX2_runTold_11 : decode cX2_runTold 11 = .ok (.iadd, 1) := dk_96 (dk_at dksX2_runTold_0 11 rfl rfl)
theorem dX2_runTold_12 : decode cX2_runTold 12 = .ok (.iconst 2, 1) := dk_5 (dk_at dksX2_runTold_0 12 rfl rfl)
theorem dX2_runTold_13 : decode cX2_runTold 13 = .ok (.iadd, 1) := dk_96 (dk_at dksX2_runTold_0 13 rfl rfl)
theorem dX2_runTold_14 : decode cX2_runTold 14 = .ok (.iaload, 1) := dk_46 (dk_at dksX2_runTold_0 14 rfl rfl)
theorem dX2_runTold_15 : decode cX2_runTold 15 = .ok (.aload_n 0, 1) := dk_42 (dk_at dksX2_runTold_0 15 rfl rfl)
theorem dX2_runTold_16 : decode cX2_runTold 16 = .ok (.getfield 20, 3) := dk_180 0 20 (dk_at dksX2_runTold_0 16 rfl rfl)
theorem dX2_runTold_19 : decode cX2_runTold 19 = .ok (.bipush 80, 2) := dk_16 80 (dk_at dksX2_runTold_0 19 rfl rfl)
theorem dX2_runTold_21 : decode cX2_runTold 21 = .ok (.iconst 5, 1) := dk_8 (dk_at dksX2_runTold_0 21 rfl rfl)
theorem dX2_runTold_22 : decode cX2_runTold 22 = .ok (.iload_n 1, 1) := dk_27 (dk_at dksX2_runTold_0 22 rfl rfl)
theorem dX2_runTold_23 : decode cX2_runTold 23 = .ok (.imul, 1) := dk_104 (dk_at dksX2_runTold_0 23 rfl rfl)
theorem dX2_runTold_24 : decode cX2_runTold 24 = .ok (.iadd, 1) := dk_96 (dk_at dksX2_runTold_1 0 rfl rfl)
theorem dX2_runTold_25 : decode cX2_runTold 25 = .ok (.iconst 3, 1) := dk_6 (dk_at dksX2_runTold_1 1 rfl rfl)
theorem dX2_runTold_26 : decode cX2_runTold 26 = .ok (.iadd, 1) := dk_96 (dk_at dksX2_runTold_1 2 rfl rfl)
theorem dX2_runTold_27 : decode cX2_runTold 27 = .ok (.iaload, 1) := dk_46 (dk_at dksX2_runTold_1 3 rfl rfl)
theorem dX2_runTold_28 : decode cX2_runTold 28 = .ok (.iconst 0, 1) := dk_3 (dk_at dksX2_runTold_1 4 rfl rfl)
theorem dX2_runTold_29 : decode cX2_runTold 29 = .ok (.invokevirtual 292, 3) := dk_182 1 36 (dk_at dksX2_runTold_1 5 rfl rfl)
theorem dX2_runTold_32 : decode cX2_runTold 32 = .ok (.return_, 1) := dk_177 (dk_at dksX2_runTold_1 8 rfl rfl)
abbrev cX2_run : ByteArray := prog_15_method_56_code
def yX2_run : MethodName := ⟨RX2, "run", "(IIIZ)V"⟩
def dkwX2_run_10 : List UInt8 := [181, 1, 13, 42, 21, 8, 181, 1, 15, 177, 132, 8, 1, 167, 255, 66, 177]
abbrev dktX2_run_10 : List UInt8 := dkwX2_run_10 ++ []
def dkwX2_run_9 : List UInt8 := [21, 5, 7, 96, 46, 162, 0, 6, 167, 0, 26, 42, 42, 180, 1, 18, 158, 0, 7, 4, 167, 0, 4, 5]
abbrev dktX2_run_9 : List UInt8 := dkwX2_run_9 ++ dktX2_run_10
def dkwX2_run_8 : List UInt8 := [180, 1, 18, 42, 180, 0, 20, 21, 5, 7, 96, 46, 162, 0, 23, 42, 180, 1, 18, 116, 42, 180, 0, 20]
abbrev dktX2_run_8 : List UInt8 := dkwX2_run_8 ++ dktX2_run_9
def dkwX2_run_7 : List UInt8 := [21, 5, 46, 46, 42, 180, 0, 38, 42, 180, 0, 20, 21, 5, 4, 96, 46, 46, 100, 96, 181, 1, 18, 42]
abbrev dktX2_run_7 : List UInt8 := dkwX2_run_7 ++ dktX2_run_8
def dkwX2_run_6 : List UInt8 := [181, 1, 13, 42, 21, 8, 181, 1, 15, 177, 42, 89, 180, 1, 18, 42, 180, 0, 38, 42, 180, 0, 20]
abbrev dktX2_run_6 : List UInt8 := dkwX2_run_6 ++ dktX2_run_7
def dkwX2_run_5 : List UInt8 := [54, 7, 42, 42, 180, 1, 21, 182, 1, 33, 5, 21, 7, 104, 96, 16, 6, 161, 0, 15, 42, 3]
abbrev dktX2_run_5 : List UInt8 := dkwX2_run_5 ++ dktX2_run_6
def dkwX2_run_4 : List UInt8 := [21, 7, 21, 4, 153, 0, 18, 42, 21, 8, 29, 100, 182, 1, 30, 153, 0, 7, 4, 167, 0, 4, 3, 96]
abbrev dktX2_run_4 : List UInt8 := dkwX2_run_4 ++ dktX2_run_5
def dkwX2_run_3 : List UInt8 := [181, 1, 24, 42, 89, 180, 1, 21, 42, 28, 21, 8, 182, 1, 27, 21, 6, 2, 130, 126, 128, 181, 1, 21]
abbrev dktX2_run_3 : List UInt8 := dkwX2_run_3 ++ dktX2_run_4
def dkwX2_run_2 : List UInt8 := [181, 1, 18, 42, 3, 181, 1, 21, 29, 54, 8, 21, 8, 16, 59, 163, 0, 189, 42, 42, 180, 1, 21]
abbrev dktX2_run_2 : List UInt8 := dkwX2_run_2 ++ dktX2_run_3
def dkwX2_run_1 : List UInt8 := [4, 96, 46, 120, 128, 54, 6, 3, 54, 7, 42, 16, 254, 181, 1, 13, 42, 16, 254, 181, 1, 15, 42, 3]
abbrev dktX2_run_1 : List UInt8 := dkwX2_run_1 ++ dktX2_run_2
def dkwX2_run_0 : List UInt8 := [16, 80, 8, 27, 104, 96, 54, 5, 4, 42, 180, 0, 20, 21, 5, 46, 120, 4, 42, 180, 0, 20, 21, 5]
abbrev dktX2_run_0 : List UInt8 := dkwX2_run_0 ++ dktX2_run_1
theorem dksX2_run_0 : cX2_run.data.toList.drop 0 = dktX2_run_0 := by decide +kernel
theorem dksX2_run_1 : cX2_run.data.toList.drop 24 = dktX2_run_1 := dk_seg dksX2_run_0 24 rfl rfl
theorem dksX2_run_2 : cX2_run.data.toList.drop 48 = dktX2_run_2 := dk_seg dksX2_run_1 24 rfl rfl
theorem dksX2_run_3 : cX2_run.data.toList.drop 71 = dktX2_run_3 := dk_seg dksX2_run_2 23 rfl rfl
theorem dksX2_run_4 : cX2_run.data.toList.drop 95 = dktX2_run_4 := dk_seg dksX2_run_3 24 rfl rfl
theorem dksX2_run_5 : cX2_run.data.toList.drop 119 = dktX2_run_5 := dk_seg dksX2_run_4 24 rfl rfl
theorem dksX2_run_6 : cX2_run.data.toList.drop 141 = dktX2_run_6 := dk_seg dksX2_run_5 22 rfl rfl
theorem dksX2_run_7 : cX2_run.data.toList.drop 164 = dktX2_run_7 := dk_seg dksX2_run_6 23 rfl rfl
theorem dksX2_run_8 : cX2_run.data.toList.drop 188 = dktX2_run_8 := dk_seg dksX2_run_7 24 rfl rfl
theorem dksX2_run_9 : cX2_run.data.toList.drop 212 = dktX2_run_9 := dk_seg dksX2_run_8 24 rfl rfl
theorem dksX2_run_10 : cX2_run.data.toList.drop 236 = dktX2_run_10 := dk_seg dksX2_run_9 24 rfl rfl
theorem dX2_run_0 : decode cX2_run 0 = .ok (.bipush 80, 2) := dk_16 80 (dk_at dksX2_run_0 0 rfl rfl)
theorem dX2_run_2 : decode cX2_run 2 = .ok (.iconst 5, 1) := dk_8 (dk_at dksX2_run_0 2 rfl rfl)
theorem dX2_run_3 : decode cX2_run 3 = .ok (.iload_n 1, 1) := dk_27 (dk_at dksX2_run_0 3 rfl rfl)
theorem dX2_run_4 : decode cX2_run 4 = .ok (.imul, 1) := dk_104 (dk_at dksX2_run_0 4 rfl rfl)
theorem dX2_run_5 : decode cX2_run 5 = .ok (.iadd, 1) := dk_96 (dk_at dksX2_run_0 5 rfl rfl)
theorem dX2_run_6 : decode cX2_run 6 = .ok (.istore 5, 2) := dk_54 5 (dk_at dksX2_run_0 6 rfl rfl)
theorem dX2_run_8 : decode cX2_run 8 = .ok (.iconst 1, 1) := dk_4 (dk_at dksX2_run_0 8 rfl rfl)
theorem dX2_run_9 : decode cX2_run 9 = .ok (.aload_n 0, 1) := dk_42 (dk_at dksX2_run_0 9 rfl rfl)
theorem dX2_run_10 : decode cX2_run 10 = .ok (.getfield 20, 3) := dk_180 0 20 (dk_at dksX2_run_0 10 rfl rfl)
theorem dX2_run_13 : decode cX2_run 13 = .ok (.iload 5, 2) := dk_21 5 (dk_at dksX2_run_0 13 rfl rfl)
theorem dX2_run_15 : decode cX2_run 15 = .ok (.iaload, 1) := dk_46 (dk_at dksX2_run_0 15 rfl rfl)
theorem dX2_run_16 : decode cX2_run 16 = .ok (.ishl, 1) := dk_120 (dk_at dksX2_run_0 16 rfl rfl)
theorem dX2_run_17 : decode cX2_run 17 = .ok (.iconst 1, 1) := dk_4 (dk_at dksX2_run_0 17 rfl rfl)
theorem dX2_run_18 : decode cX2_run 18 = .ok (.aload_n 0, 1) := dk_42 (dk_at dksX2_run_0 18 rfl rfl)
theorem dX2_run_19 : decode cX2_run 19 = .ok (.getfield 20, 3) := dk_180 0 20 (dk_at dksX2_run_0 19 rfl rfl)
theorem dX2_run_22 : decode cX2_run 22 = .ok (.iload 5, 2) := dk_21 5 (dk_at dksX2_run_0 22 rfl rfl)
theorem dX2_run_24 : decode cX2_run 24 = .ok (.iconst 1, 1) := dk_4 (dk_at dksX2_run_1 0 rfl rfl)
theorem dX2_run_25 : decode cX2_run 25 = .ok (.iadd, 1) := dk_96 (dk_at dksX2_run_1 1 rfl rfl)
theorem dX2_run_26 : decode cX2_run 26 = .ok (.iaload, 1) := dk_46 (dk_at dksX2_run_1 2 rfl rfl)
theorem dX2_run_27 : decode cX2_run 27 = .ok (.ishl, 1) := dk_120 (dk_at dksX2_run_1 3 rfl rfl)
theorem dX2_run_28 : decode cX2_run 28 = .ok (.ior, 1) := dk_128 (dk_at dksX2_run_1 4 rfl rfl)
theorem dX2_run_29 : decode cX2_run 29 = .ok (.istore 6, 2) := dk_54 6 (dk_at dksX2_run_1 5 rfl rfl)
theorem dX2_run_31 : decode cX2_run 31 = .ok (.iconst 0, 1) := dk_3 (dk_at dksX2_run_1 7 rfl rfl)
theorem dX2_run_32 : decode cX2_run 32 = .ok (.istore 7, 2) := dk_54 7 (dk_at dksX2_run_1 8 rfl rfl)
theorem dX2_run_34 : decode cX2_run 34 = .ok (.aload_n 0, 1) := dk_42 (dk_at dksX2_run_1 10 rfl rfl)
theorem dX2_run_35 : decode cX2_run 35 = .ok (.bipush (-2), 2) := dk_16 254 (dk_at dksX2_run_1 11 rfl rfl)
theorem dX2_run_37 : decode cX2_run 37 = .ok (.putfield 269, 3) := dk_181 1 13 (dk_at dksX2_run_1 13 rfl rfl)
theorem dX2_run_40 : decode cX2_run 40 = .ok (.aload_n 0, 1) := dk_42 (dk_at dksX2_run_1 16 rfl rfl)
theorem dX2_run_41 : decode cX2_run 41 = .ok (.bipush (-2), 2) := dk_16 254 (dk_at dksX2_run_1 17 rfl rfl)
theorem dX2_run_43 : decode cX2_run 43 = .ok (.putfield 271, 3) := dk_181 1 15 (dk_at dksX2_run_1 19 rfl rfl)
theorem dX2_run_46 : decode cX2_run 46 = .ok (.aload_n 0, 1) := dk_42 (dk_at dksX2_run_1 22 rfl rfl)
theorem dX2_run_47 : decode cX2_run 47 = .ok (.iconst 0, 1) := dk_3 (dk_at dksX2_run_1 23 rfl rfl)
theorem dX2_run_48 : decode cX2_run 48 = .ok (.putfield 274, 3) := dk_181 1 18 (dk_at dksX2_run_2 0 rfl rfl)
theorem dX2_run_51 : decode cX2_run 51 = .ok (.aload_n 0, 1) := dk_42 (dk_at dksX2_run_2 3 rfl rfl)
theorem dX2_run_52 : decode cX2_run 52 = .ok (.iconst 0, 1) := dk_3 (dk_at dksX2_run_2 4 rfl rfl)
theorem dX2_run_53 : decode cX2_run 53 = .ok (.putfield 277, 3) := dk_181 1 21 (dk_at dksX2_run_2 5 rfl rfl)
theorem dX2_run_56 : decode cX2_run 56 = .ok (.iload_n 3, 1) := dk_29 (dk_at dksX2_run_2 8 rfl rfl)
theorem dX2_run_57 : decode cX2_run 57 = .ok (.istore 8, 2) := dk_54 8 (dk_at dksX2_run_2 9 rfl rfl)
theorem dX2_run_59 : decode cX2_run 59 = .ok (.iload 8, 2) := dk_21 8 (dk_at dksX2_run_2 11 rfl rfl)
theorem dX2_run_61 : decode cX2_run 61 = .ok (.bipush 59, 2) := dk_16 59 (dk_at dksX2_run_2 13 rfl rfl)
theorem dX2_run_63 : decode cX2_run 63 = .ok (.if_icmp .gt 189, 3) := dk_163 0 189 (dk_at dksX2_run_2 15 rfl rfl)
theorem dX2_run_66 : decode cX2_run 66 = .ok (.aload_n 0, 1) := dk_42 (dk_at dksX2_run_2 18 rfl rfl)
theorem dX2_run_67 : decode cX2_run 67 = .ok (.aload_n 0, 1) := dk_42 (dk_at dksX2_run_2 19 rfl rfl)
theorem dX2_run_68 : decode cX2_run 68 = .ok (.getfield 277, 3) := dk_180 1 21 (dk_at dksX2_run_2 20 rfl rfl)
theorem dX2_run_71 : decode cX2_run 71 = .ok (.putfield 280, 3) := dk_181 1 24 (dk_at dksX2_run_3 0 rfl rfl)
theorem dX2_run_74 : decode cX2_run 74 = .ok (.aload_n 0, 1) := dk_42 (dk_at dksX2_run_3 3 rfl rfl)
theorem dX2_run_75 : decode cX2_run 75 = .ok (.dup, 1) := dk_89 (dk_at dksX2_run_3 4 rfl rfl)
theorem dX2_run_76 : decode cX2_run 76 = .ok (.getfield 277, 3) := dk_180 1 21 (dk_at dksX2_run_3 5 rfl rfl)
theorem dX2_run_79 : decode cX2_run 79 = .ok (.aload_n 0, 1) := dk_42 (dk_at dksX2_run_3 8 rfl rfl)
theorem dX2_run_80 : decode cX2_run 80 = .ok (.iload_n 2, 1) := dk_28 (dk_at dksX2_run_3 9 rfl rfl)
theorem dX2_run_81 : decode cX2_run 81 = .ok (.iload 8, 2) := dk_21 8 (dk_at dksX2_run_3 10 rfl rfl)
theorem dX2_run_83 : decode cX2_run 83 = .ok (.invokevirtual 283, 3) := dk_182 1 27 (dk_at dksX2_run_3 12 rfl rfl)
theorem dX2_run_86 : decode cX2_run 86 = .ok (.iload 6, 2) := dk_21 6 (dk_at dksX2_run_3 15 rfl rfl)
theorem dX2_run_88 : decode cX2_run 88 = .ok (.iconst (-1), 1) := dk_2 (dk_at dksX2_run_3 17 rfl rfl)
theorem dX2_run_89 : decode cX2_run 89 = .ok (.ixor, 1) := dk_130 (dk_at dksX2_run_3 18 rfl rfl)
theorem dX2_run_90 : decode cX2_run 90 = .ok (.iand, 1) := dk_126 (dk_at dksX2_run_3 19 rfl rfl)
theorem dX2_run_91 : decode cX2_run 91 = .ok (.ior, 1) := dk_128 (dk_at dksX2_run_3 20 rfl rfl)
theorem dX2_run_92 : decode cX2_run 92 = .ok (.putfield 277, 3) := dk_181 1 21 (dk_at dksX2_run_3 21 rfl rfl)
theorem dX2_run_95 : decode cX2_run 95 = .ok (.iload 7, 2) := dk_21 7 (dk_at dksX2_run_4 0 rfl rfl)
theorem dX2_run_97 : decode cX2_run 97 = .ok (.iload 4, 2) := dk_21 4 (dk_at dksX2_run_4 2 rfl rfl)
theorem dX2_run_99 : decode cX2_run 99 = .ok (.ifCond .eq 18, 3) := dk_153 0 18 (dk_at dksX2_run_4 4 rfl rfl)
theorem dX2_run_102 : decode cX2_run 102 = .ok (.aload_n 0, 1) := dk_42 (dk_at dksX2_run_4 7 rfl rfl)
theorem dX2_run_103 : decode cX2_run 103 = .ok (.iload 8, 2) := dk_21 8 (dk_at dksX2_run_4 8 rfl rfl)
theorem dX2_run_105 : decode cX2_run 105 = .ok (.iload_n 3, 1) := dk_29 (dk_at dksX2_run_4 10 rfl rfl)
theorem dX2_run_106 : decode cX2_run 106 = .ok (.isub, 1) := dk_100 (dk_at dksX2_run_4 11 rfl rfl)
theorem dX2_run_107 : decode cX2_run 107 = .ok (.invokevirtual 286, 3) := dk_182 1 30 (dk_at dksX2_run_4 12 rfl rfl)
theorem dX2_run_110 : decode cX2_run 110 = .ok (.ifCond .eq 7, 3) := dk_153 0 7 (dk_at dksX2_run_4 15 rfl rfl)
theorem dX2_run_113 : decode cX2_run 113 = .ok (.iconst 1, 1) := dk_4 (dk_at dksX2_run_4 18 rfl rfl)
theorem dX2_run_114 : decode cX2_run 114 = .ok (.goto 4, 3) := dk_167 0 4 (dk_at dksX2_run_4 19 rfl rfl)
theorem dX2_run_117 : decode cX2_run 117 = .ok (.iconst 0, 1) := dk_3 (dk_at dksX2_run_4 22 rfl rfl)
theorem dX2_run_118 : decode cX2_run 118 = .ok (.iadd, 1) := dk_96 (dk_at dksX2_run_4 23 rfl rfl)
theorem dX2_run_119 : decode cX2_run 119 = .ok (.istore 7, 2) := dk_54 7 (dk_at dksX2_run_5 0 rfl rfl)
theorem dX2_run_121 : decode cX2_run 121 = .ok (.aload_n 0, 1) := dk_42 (dk_at dksX2_run_5 2 rfl rfl)
theorem dX2_run_122 : decode cX2_run 122 = .ok (.aload_n 0, 1) := dk_42 (dk_at dksX2_run_5 3 rfl rfl)
theorem dX2_run_123 : decode cX2_run 123 = .ok (.getfield 277, 3) := dk_180 1 21 (dk_at dksX2_run_5 4 rfl rfl)
theorem dX2_run_126 : decode cX2_run 126 = .ok (.invokevirtual 289, 3) := dk_182 1 33 (dk_at dksX2_run_5 7 rfl rfl)
theorem dX2_run_129 : decode cX2_run 129 = .ok (.iconst 2, 1) := dk_5 (dk_at dksX2_run_5 10 rfl rfl)
theorem dX2_run_130 : decode cX2_run 130 = .ok (.iload 7, 2) := dk_21 7 (dk_at dksX2_run_5 11 rfl rfl)
theorem dX2_run_132 : decode cX2_run 132 = .ok (.imul, 1) := dk_104 (dk_at dksX2_run_5 13 rfl rfl)
theorem dX2_run_133 : decode cX2_run 133 = .ok (.iadd, 1) := dk_96 (dk_at dksX2_run_5 14 rfl rfl)
theorem dX2_run_134 : decode cX2_run 134 = .ok (.bipush 6, 2) := dk_16 6 (dk_at dksX2_run_5 15 rfl rfl)
theorem dX2_run_136 : decode cX2_run 136 = .ok (.if_icmp .lt 15, 3) := dk_161 0 15 (dk_at dksX2_run_5 17 rfl rfl)
theorem dX2_run_139 : decode cX2_run 139 = .ok (.aload_n 0, 1) := dk_42 (dk_at dksX2_run_5 20 rfl rfl)
theorem dX2_run_140 : decode cX2_run 140 = .ok (.iconst 0, 1) := dk_3 (dk_at dksX2_run_5 21 rfl rfl)
theorem dX2_run_141 : decode cX2_run 141 = .ok (.putfield 269, 3) := dk_181 1 13 (dk_at dksX2_run_6 0 rfl rfl)
theorem dX2_run_144 : decode cX2_run 144 = .ok (.aload_n 0, 1) := dk_42 (dk_at dksX2_run_6 3 rfl rfl)
theorem dX2_run_145 : decode cX2_run 145 = .ok (.iload 8, 2) := dk_21 8 (dk_at dksX2_run_6 4 rfl rfl)
theorem dX2_run_147 : decode cX2_run 147 = .ok (.putfield 271, 3) := dk_181 1 15 (dk_at dksX2_run_6 6 rfl rfl)
theorem dX2_run_150 : decode cX2_run 150 = .ok (.return_, 1) := dk_177 (dk_at dksX2_run_6 9 rfl rfl)
theorem dX2_run_151 : decode cX2_run 151 = .ok (.aload_n 0, 1) := dk_42 (dk_at dksX2_run_6 10 rfl rfl)
theorem dX2_run_152 : decode cX2_run 152 = .ok (.dup, 1) := dk_89 (dk_at dksX2_run_6 11 rfl rfl)
theorem dX2_run_153 : decode cX2_run 153 = .ok (.getfield 274, 3) := dk_180 1 18 (dk_at dksX2_run_6 12 rfl rfl)
theorem dX2_run_156 : decode cX2_run 156 = .ok (.aload_n 0, 1) := dk_42 (dk_at dksX2_run_6 15 rfl rfl)
theorem dX2_run_157 : decode cX2_run 157 = .ok (.getfield 38, 3) := dk_180 0 38 (dk_at dksX2_run_6 16 rfl rfl)
theorem dX2_run_160 : decode cX2_run 160 = .ok (.aload_n 0, 1) := dk_42 (dk_at dksX2_run_6 19 rfl rfl)
theorem dX2_run_161 : decode cX2_run 161 = .ok (.getfield 20, 3) := dk_180 0 20 (dk_at dksX2_run_6 20 rfl rfl)
theorem dX2_run_164 : decode cX2_run 164 = .ok (.iload 5, 2) := dk_21 5 (dk_at dksX2_run_7 0 rfl rfl)
theorem dX2_run_166 : decode cX2_run 166 = .ok (.iaload, 1) := dk_46 (dk_at dksX2_run_7 2 rfl rfl)
theorem dX2_run_167 : decode cX2_run 167 = .ok (.iaload, 1) := dk_46 (dk_at dksX2_run_7 3 rfl rfl)
theorem dX2_run_168 : decode cX2_run 168 = .ok (.aload_n 0, 1) := dk_42 (dk_at dksX2_run_7 4 rfl rfl)
theorem dX2_run_169 : decode cX2_run 169 = .ok (.getfield 38, 3) := dk_180 0 38 (dk_at dksX2_run_7 5 rfl rfl)
theorem dX2_run_172 : decode cX2_run 172 = .ok (.aload_n 0, 1) := dk_42 (dk_at dksX2_run_7 8 rfl rfl)
theorem dX2_run_173 : decode cX2_run 173 = .ok (.getfield 20, 3) := dk_180 0 20 (dk_at dksX2_run_7 9 rfl rfl)
theorem dX2_run_176 : decode cX2_run 176 = .ok (.iload 5, 2) := dk_21 5 (dk_at dksX2_run_7 12 rfl rfl)
theorem dX2_run_178 : decode cX2_run 178 = .ok (.iconst 1, 1) := dk_4 (dk_at dksX2_run_7 14 rfl rfl)
theorem dX2_run_179 : decode cX2_run 179 = .ok (.iadd, 1) := dk_96 (dk_at dksX2_run_7 15 rfl rfl)
theorem dX2_run_180 : decode cX2_run 180 = .ok (.iaload, 1) := dk_46 (dk_at dksX2_run_7 16 rfl rfl)
theorem dX2_run_181 : decode cX2_run 181 = .ok (.iaload, 1) := dk_46 (dk_at dksX2_run_7 17 rfl rfl)
theorem dX2_run_182 : decode cX2_run 182 = .ok (.isub, 1) := dk_100 (dk_at dksX2_run_7 18 rfl rfl)
theorem dX2_run_183 : decode cX2_run 183 = .ok (.iadd, 1) := dk_96 (dk_at dksX2_run_7 19 rfl rfl)
theorem dX2_run_184 : decode cX2_run 184 = .ok (.putfield 274, 3) := dk_181 1 18 (dk_at dksX2_run_7 20 rfl rfl)
theorem dX2_run_187 : decode cX2_run 187 = .ok (.aload_n 0, 1) := dk_42 (dk_at dksX2_run_7 23 rfl rfl)
theorem dX2_run_188 : decode cX2_run 188 = .ok (.getfield 274, 3) := dk_180 1 18 (dk_at dksX2_run_8 0 rfl rfl)
theorem dX2_run_191 : decode cX2_run 191 = .ok (.aload_n 0, 1) := dk_42 (dk_at dksX2_run_8 3 rfl rfl)
theorem dX2_run_192 : decode cX2_run 192 = .ok (.getfield 20, 3) := dk_180 0 20 (dk_at dksX2_run_8 4 rfl rfl)
theorem dX2_run_195 : decode cX2_run 195 = .ok (.iload 5, 2) := dk_21 5 (dk_at dksX2_run_8 7 rfl rfl)
theorem dX2_run_197 : decode cX2_run 197 = .ok (.iconst 4, 1) := dk_7 (dk_at dksX2_run_8 9 rfl rfl)
theorem dX2_run_198 : decode cX2_run 198 = .ok (.iadd, 1) := dk_96 (dk_at dksX2_run_8 10 rfl rfl)
theorem dX2_run_199 : decode cX2_run 199 = .ok (.iaload, 1) := dk_46 (dk_at dksX2_run_8 11 rfl rfl)
theorem dX2_run_200 : decode cX2_run 200 = .ok (.if_icmp .ge 23, 3) := dk_162 0 23 (dk_at dksX2_run_8 12 rfl rfl)
theorem dX2_run_203 : decode cX2_run 203 = .ok (.aload_n 0, 1) := dk_42 (dk_at dksX2_run_8 15 rfl rfl)
theorem dX2_run_204 : decode cX2_run 204 = .ok (.getfield 274, 3) := dk_180 1 18 (dk_at dksX2_run_8 16 rfl rfl)
theorem dX2_run_207 : decode cX2_run 207 = .ok (.ineg, 1) := dk_116 (dk_at dksX2_run_8 19 rfl rfl)
theorem dX2_run_208 : decode cX2_run 208 = .ok (.aload_n 0, 1) := dk_42 (dk_at dksX2_run_8 20 rfl rfl)
theorem dX2_run_209 : decode cX2_run 209 = .ok (.getfield 20, 3) := dk_180 0 20 (dk_at dksX2_run_8 21 rfl rfl)
theorem dX2_run_212 : decode cX2_run 212 = .ok (.iload 5, 2) := dk_21 5 (dk_at dksX2_run_9 0 rfl rfl)
theorem dX2_run_214 : decode cX2_run 214 = .ok (.iconst 4, 1) := dk_7 (dk_at dksX2_run_9 2 rfl rfl)
theorem dX2_run_215 : decode cX2_run 215 = .ok (.iadd, 1) := dk_96 (dk_at dksX2_run_9 3 rfl rfl)
theorem dX2_run_216 : decode cX2_run 216 = .ok (.iaload, 1) := dk_46 (dk_at dksX2_run_9 4 rfl rfl)
theorem dX2_run_217 : decode cX2_run 217 = .ok (.if_icmp .ge 6, 3) := dk_162 0 6 (dk_at dksX2_run_9 5 rfl rfl)
theorem dX2_run_220 : decode cX2_run 220 = .ok (.goto 26, 3) := dk_167 0 26 (dk_at dksX2_run_9 8 rfl rfl)
theorem dX2_run_223 : decode cX2_run 223 = .ok (.aload_n 0, 1) := dk_42 (dk_at dksX2_run_9 11 rfl rfl)
theorem dX2_run_224 : decode cX2_run 224 = .ok (.aload_n 0, 1) := dk_42 (dk_at dksX2_run_9 12 rfl rfl)
theorem dX2_run_225 : decode cX2_run 225 = .ok (.getfield 274, 3) := dk_180 1 18 (dk_at dksX2_run_9 13 rfl rfl)
theorem dX2_run_228 : decode cX2_run 228 = .ok (.ifCond .le 7, 3) := dk_158 0 7 (dk_at dksX2_run_9 16 rfl rfl)
theorem dX2_run_231 : decode cX2_run 231 = .ok (.iconst 1, 1) := dk_4 (dk_at dksX2_run_9 19 rfl rfl)
theorem dX2_run_232 : decode cX2_run 232 = .ok (.goto 4, 3) := dk_167 0 4 (dk_at dksX2_run_9 20 rfl rfl)
theorem dX2_run_235 : decode cX2_run 235 = .ok (.iconst 2, 1) := dk_5 (dk_at dksX2_run_9 23 rfl rfl)
theorem dX2_run_236 : decode cX2_run 236 = .ok (.putfield 269, 3) := dk_181 1 13 (dk_at dksX2_run_10 0 rfl rfl)
theorem dX2_run_239 : decode cX2_run 239 = .ok (.aload_n 0, 1) := dk_42 (dk_at dksX2_run_10 3 rfl rfl)
theorem dX2_run_240 : decode cX2_run 240 = .ok (.iload 8, 2) := dk_21 8 (dk_at dksX2_run_10 4 rfl rfl)
theorem dX2_run_242 : decode cX2_run 242 = .ok (.putfield 271, 3) := dk_181 1 15 (dk_at dksX2_run_10 6 rfl rfl)
theorem dX2_run_245 : decode cX2_run 245 = .ok (.return_, 1) := dk_177 (dk_at dksX2_run_10 9 rfl rfl)
theorem dX2_run_246 : decode cX2_run 246 = .ok (.iinc 8 1, 3) := dk_132 8 1 (dk_at dksX2_run_10 10 rfl rfl)
theorem dX2_run_249 : decode cX2_run 249 = .ok (.goto (-190), 3) := dk_167 255 66 (dk_at dksX2_run_10 13 rfl rfl)
theorem dX2_run_252 : decode cX2_run 252 = .ok (.return_, 1) := dk_177 (dk_at dksX2_run_10 16 rfl rfl)
abbrev cX2_comesBoy : ByteArray := prog_15_method_55_code
def yX2_comesBoy : MethodName := ⟨RX2, "comesBoy", "(I)Z"⟩
def dkwX2_comesBoy_2 : List UInt8 := [42, 180, 1, 9, 16, 100, 112, 42, 180, 0, 20, 3, 46, 162, 0, 7, 4, 167, 0, 4, 3, 172]
abbrev dktX2_comesBoy_2 : List UInt8 := dkwX2_comesBoy_2 ++ []
def dkwX2_comesBoy_1 : List UInt8 := [4, 167, 0, 4, 3, 172, 42, 16, 75, 42, 180, 1, 9, 104, 16, 74, 96, 19, 1, 12, 112, 181, 1, 9]
abbrev dktX2_comesBoy_1 : List UInt8 := dkwX2_comesBoy_1 ++ dktX2_comesBoy_2
def dkwX2_comesBoy_0 : List UInt8 := [42, 180, 1, 6, 155, 0, 26, 27, 16, 6, 162, 0, 18, 42, 180, 1, 6, 27, 184, 0, 252, 153, 0, 7]
abbrev dktX2_comesBoy_0 : List UInt8 := dkwX2_comesBoy_0 ++ dktX2_comesBoy_1
theorem dksX2_comesBoy_0 : cX2_comesBoy.data.toList.drop 0 = dktX2_comesBoy_0 := by decide +kernel
theorem dksX2_comesBoy_1 : cX2_comesBoy.data.toList.drop 24 = dktX2_comesBoy_1 := dk_seg dksX2_comesBoy_0 24 rfl rfl
theorem dksX2_comesBoy_2 : cX2_comesBoy.data.toList.drop 48 = dktX2_comesBoy_2 := dk_seg dksX2_comesBoy_1 24 rfl rfl
theorem dX2_comesBoy_0 : decode cX2_comesBoy 0 = .ok (.aload_n 0, 1) := dk_42 (dk_at dksX2_comesBoy_0 0 rfl rfl)
theorem dX2_comesBoy_1 : decode cX2_comesBoy 1 = .ok (.getfield 262, 3) := dk_180 1 6 (dk_at dksX2_comesBoy_0 1 rfl rfl)
theorem dX2_comesBoy_4 : decode cX2_comesBoy 4 = .ok (.ifCond .lt 26, 3) := dk_155 0 26 (dk_at dksX2_comesBoy_0 4 rfl rfl)
theorem dX2_comesBoy_7 : decode cX2_comesBoy 7 = .ok (.iload_n 1, 1) := dk_27 (dk_at dksX2_comesBoy_0 7 rfl rfl)
theorem dX2_comesBoy_8 : decode cX2_comesBoy 8 = .ok (.bipush 6, 2) := dk_16 6 (dk_at dksX2_comesBoy_0 8 rfl rfl)
theorem dX2_comesBoy_10 : decode cX2_comesBoy 10 = .ok (.if_icmp .ge 18, 3) := dk_162 0 18 (dk_at dksX2_comesBoy_0 10 rfl rfl)
theorem dX2_comesBoy_13 : decode cX2_comesBoy 13 = .ok (.aload_n 0, 1) := dk_42 (dk_at dksX2_comesBoy_0 13 rfl rfl)
theorem dX2_comesBoy_14 : decode cX2_comesBoy 14 = .ok (.getfield 262, 3) := dk_180 1 6 (dk_at dksX2_comesBoy_0 14 rfl rfl)
theorem dX2_comesBoy_17 : decode cX2_comesBoy 17 = .ok (.iload_n 1, 1) := dk_27 (dk_at dksX2_comesBoy_0 17 rfl rfl)
theorem dX2_comesBoy_18 : decode cX2_comesBoy 18 = .ok (.invokestatic 252, 3) := dk_184 0 252 (dk_at dksX2_comesBoy_0 18 rfl rfl)
theorem dX2_comesBoy_21 : decode cX2_comesBoy 21 = .ok (.ifCond .eq 7, 3) := dk_153 0 7 (dk_at dksX2_comesBoy_0 21 rfl rfl)
theorem dX2_comesBoy_24 : decode cX2_comesBoy 24 = .ok (.iconst 1, 1) := dk_4 (dk_at dksX2_comesBoy_1 0 rfl rfl)
theorem dX2_comesBoy_25 : decode cX2_comesBoy 25 = .ok (.goto 4, 3) := dk_167 0 4 (dk_at dksX2_comesBoy_1 1 rfl rfl)
theorem dX2_comesBoy_28 : decode cX2_comesBoy 28 = .ok (.iconst 0, 1) := dk_3 (dk_at dksX2_comesBoy_1 4 rfl rfl)
theorem dX2_comesBoy_29 : decode cX2_comesBoy 29 = .ok (.ireturn, 1) := dk_172 (dk_at dksX2_comesBoy_1 5 rfl rfl)
theorem dX2_comesBoy_30 : decode cX2_comesBoy 30 = .ok (.aload_n 0, 1) := dk_42 (dk_at dksX2_comesBoy_1 6 rfl rfl)
theorem dX2_comesBoy_31 : decode cX2_comesBoy 31 = .ok (.bipush 75, 2) := dk_16 75 (dk_at dksX2_comesBoy_1 7 rfl rfl)
theorem dX2_comesBoy_33 : decode cX2_comesBoy 33 = .ok (.aload_n 0, 1) := dk_42 (dk_at dksX2_comesBoy_1 9 rfl rfl)
theorem dX2_comesBoy_34 : decode cX2_comesBoy 34 = .ok (.getfield 265, 3) := dk_180 1 9 (dk_at dksX2_comesBoy_1 10 rfl rfl)
theorem dX2_comesBoy_37 : decode cX2_comesBoy 37 = .ok (.imul, 1) := dk_104 (dk_at dksX2_comesBoy_1 13 rfl rfl)
theorem dX2_comesBoy_38 : decode cX2_comesBoy 38 = .ok (.bipush 74, 2) := dk_16 74 (dk_at dksX2_comesBoy_1 14 rfl rfl)
theorem dX2_comesBoy_40 : decode cX2_comesBoy 40 = .ok (.iadd, 1) := dk_96 (dk_at dksX2_comesBoy_1 16 rfl rfl)
theorem dX2_comesBoy_41 : decode cX2_comesBoy 41 = .ok (.ldc_w 268, 3) := dk_19 1 12 (dk_at dksX2_comesBoy_1 17 rfl rfl)
theorem dX2_comesBoy_44 : decode cX2_comesBoy 44 = .ok (.irem, 1) := dk_112 (dk_at dksX2_comesBoy_1 20 rfl rfl)
theorem dX2_comesBoy_45 : decode cX2_comesBoy 45 = .ok (.putfield 265, 3) := dk_181 1 9 (dk_at dksX2_comesBoy_1 21 rfl rfl)
theorem dX2_comesBoy_48 : decode cX2_comesBoy 48 = .ok (.aload_n 0, 1) := dk_42 (dk_at dksX2_comesBoy_2 0 rfl rfl)
theorem dX2_comesBoy_49 : decode cX2_comesBoy 49 = .ok (.getfield 265, 3) := dk_180 1 9 (dk_at dksX2_comesBoy_2 1 rfl rfl)
theorem dX2_comesBoy_52 : decode cX2_comesBoy 52 = .ok (.bipush 100, 2) := dk_16 100 (dk_at dksX2_comesBoy_2 4 rfl rfl)
theorem dX2_comesBoy_54 : decode cX2_comesBoy 54 = .ok (.irem, 1) := dk_112 (dk_at dksX2_comesBoy_2 6 rfl rfl)
theorem dX2_comesBoy_55 : decode cX2_comesBoy 55 = .ok (.aload_n 0, 1) := dk_42 (dk_at dksX2_comesBoy_2 7 rfl rfl)
theorem dX2_comesBoy_56 : decode cX2_comesBoy 56 = .ok (.getfield 20, 3) := dk_180 0 20 (dk_at dksX2_comesBoy_2 8 rfl rfl)
theorem dX2_comesBoy_59 : decode cX2_comesBoy 59 = .ok (.iconst 0, 1) := dk_3 (dk_at dksX2_comesBoy_2 11 rfl rfl)
theorem dX2_comesBoy_60 : decode cX2_comesBoy 60 = .ok (.iaload, 1) := dk_46 (dk_at dksX2_comesBoy_2 12 rfl rfl)
theorem dX2_comesBoy_61 : decode cX2_comesBoy 61 = .ok (.if_icmp .ge 7, 3) := dk_162 0 7 (dk_at dksX2_comesBoy_2 13 rfl rfl)
theorem dX2_comesBoy_64 : decode cX2_comesBoy 64 = .ok (.iconst 1, 1) := dk_4 (dk_at dksX2_comesBoy_2 16 rfl rfl)
theorem dX2_comesBoy_65 : decode cX2_comesBoy 65 = .ok (.goto 4, 3) := dk_167 0 4 (dk_at dksX2_comesBoy_2 17 rfl rfl)
theorem dX2_comesBoy_68 : decode cX2_comesBoy 68 = .ok (.iconst 0, 1) := dk_3 (dk_at dksX2_comesBoy_2 20 rfl rfl)
theorem dX2_comesBoy_69 : decode cX2_comesBoy 69 = .ok (.ireturn, 1) := dk_172 (dk_at dksX2_comesBoy_2 21 rfl rfl)
abbrev cX2_endsAt : ByteArray := prog_15_method_73_code
def yX2_endsAt : MethodName := ⟨RX2, "endsAt", "(I)I"⟩
def dkwX2_endsAt_1 : List UInt8 := [172]
abbrev dktX2_endsAt_1 : List UInt8 := dkwX2_endsAt_1 ++ []
def dkwX2_endsAt_0 : List UInt8 := [42, 182, 0, 163, 42, 27, 182, 1, 71, 153, 0, 10, 42, 180, 1, 15, 167, 0, 8, 42, 4, 182, 0, 166]
abbrev dktX2_endsAt_0 : List UInt8 := dkwX2_endsAt_0 ++ dktX2_endsAt_1
theorem dksX2_endsAt_0 : cX2_endsAt.data.toList.drop 0 = dktX2_endsAt_0 := by decide +kernel
theorem dksX2_endsAt_1 : cX2_endsAt.data.toList.drop 24 = dktX2_endsAt_1 := dk_seg dksX2_endsAt_0 24 rfl rfl
theorem dX2_endsAt_0 : decode cX2_endsAt 0 = .ok (.aload_n 0, 1) := dk_42 (dk_at dksX2_endsAt_0 0 rfl rfl)
theorem dX2_endsAt_1 : decode cX2_endsAt 1 = .ok (.invokevirtual 163, 3) := dk_182 0 163 (dk_at dksX2_endsAt_0 1 rfl rfl)
theorem dX2_endsAt_4 : decode cX2_endsAt 4 = .ok (.aload_n 0, 1) := dk_42 (dk_at dksX2_endsAt_0 4 rfl rfl)
theorem dX2_endsAt_5 : decode cX2_endsAt 5 = .ok (.iload_n 1, 1) := dk_27 (dk_at dksX2_endsAt_0 5 rfl rfl)
theorem dX2_endsAt_6 : decode cX2_endsAt 6 = .ok (.invokevirtual 327, 3) := dk_182 1 71 (dk_at dksX2_endsAt_0 6 rfl rfl)
theorem dX2_endsAt_9 : decode cX2_endsAt 9 = .ok (.ifCond .eq 10, 3) := dk_153 0 10 (dk_at dksX2_endsAt_0 9 rfl rfl)
theorem dX2_endsAt_12 : decode cX2_endsAt 12 = .ok (.aload_n 0, 1) := dk_42 (dk_at dksX2_endsAt_0 12 rfl rfl)
theorem dX2_endsAt_13 : decode cX2_endsAt 13 = .ok (.getfield 271, 3) := dk_180 1 15 (dk_at dksX2_endsAt_0 13 rfl rfl)
theorem dX2_endsAt_16 : decode cX2_endsAt 16 = .ok (.goto 8, 3) := dk_167 0 8 (dk_at dksX2_endsAt_0 16 rfl rfl)
theorem dX2_endsAt_19 : decode cX2_endsAt 19 = .ok (.aload_n 0, 1) := dk_42 (dk_at dksX2_endsAt_0 19 rfl rfl)
theorem dX2_endsAt_20 : decode cX2_endsAt 20 = .ok (.iconst 1, 1) := dk_4 (dk_at dksX2_endsAt_0 20 rfl rfl)
theorem dX2_endsAt_21 : decode cX2_endsAt 21 = .ok (.invokevirtual 166, 3) := dk_182 0 166 (dk_at dksX2_endsAt_0 21 rfl rfl)
theorem dX2_endsAt_24 : decode cX2_endsAt 24 = .ok (.ireturn, 1) := dk_172 (dk_at dksX2_endsAt_1 0 rfl rfl)
abbrev cX2_lead : ByteArray := prog_15_method_74_code
def yX2_lead : MethodName := ⟨RX2, "lead", "(I)I"⟩
def dkwX2_lead_1 : List UInt8 := [4, 182, 0, 166, 172]
abbrev dktX2_lead_1 : List UInt8 := dkwX2_lead_1 ++ []
def dkwX2_lead_0 : List UInt8 := [42, 182, 0, 163, 42, 27, 182, 1, 71, 153, 0, 14, 42, 180, 1, 18, 17, 3, 232, 96, 167, 0, 8, 42]
abbrev dktX2_lead_0 : List UInt8 := dkwX2_lead_0 ++ dktX2_lead_1
theorem dksX2_lead_0 : cX2_lead.data.toList.drop 0 = dktX2_lead_0 := by decide +kernel
theorem dksX2_lead_1 : cX2_lead.data.toList.drop 24 = dktX2_lead_1 := dk_seg dksX2_lead_0 24 rfl rfl
theorem dX2_lead_0 : decode cX2_lead 0 = .ok (.aload_n 0, 1) := dk_42 (dk_at dksX2_lead_0 0 rfl rfl)
theorem dX2_lead_1 : decode cX2_lead 1 = .ok (.invokevirtual 163, 3) := dk_182 0 163 (dk_at dksX2_lead_0 1 rfl rfl)
theorem dX2_lead_4 : decode cX2_lead 4 = .ok (.aload_n 0, 1) := dk_42 (dk_at dksX2_lead_0 4 rfl rfl)
theorem dX2_lead_5 : decode cX2_lead 5 = .ok (.iload_n 1, 1) := dk_27 (dk_at dksX2_lead_0 5 rfl rfl)
theorem dX2_lead_6 : decode cX2_lead 6 = .ok (.invokevirtual 327, 3) := dk_182 1 71 (dk_at dksX2_lead_0 6 rfl rfl)
theorem dX2_lead_9 : decode cX2_lead 9 = .ok (.ifCond .eq 14, 3) := dk_153 0 14 (dk_at dksX2_lead_0 9 rfl rfl)
theorem dX2_lead_12 : decode cX2_lead 12 = .ok (.aload_n 0, 1) := dk_42 (dk_at dksX2_lead_0 12 rfl rfl)
theorem dX2_lead_13 : decode cX2_lead 13 = .ok (.getfield 274, 3) := dk_180 1 18 (dk_at dksX2_lead_0 13 rfl rfl)
theorem dX2_lead_16 : decode cX2_lead 16 = .ok (.sipush 1000, 3) := dk_17 3 232 (dk_at dksX2_lead_0 16 rfl rfl)
theorem dX2_lead_19 : decode cX2_lead 19 = .ok (.iadd, 1) := dk_96 (dk_at dksX2_lead_0 19 rfl rfl)
theorem dX2_lead_20 : decode cX2_lead 20 = .ok (.goto 8, 3) := dk_167 0 8 (dk_at dksX2_lead_0 20 rfl rfl)
theorem dX2_lead_23 : decode cX2_lead 23 = .ok (.aload_n 0, 1) := dk_42 (dk_at dksX2_lead_0 23 rfl rfl)
theorem dX2_lead_24 : decode cX2_lead 24 = .ok (.iconst 1, 1) := dk_4 (dk_at dksX2_lead_1 0 rfl rfl)
theorem dX2_lead_25 : decode cX2_lead 25 = .ok (.invokevirtual 166, 3) := dk_182 0 166 (dk_at dksX2_lead_1 1 rfl rfl)
theorem dX2_lead_28 : decode cX2_lead 28 = .ok (.ireturn, 1) := dk_172 (dk_at dksX2_lead_1 4 rfl rfl)
abbrev cX2_seen : ByteArray := prog_15_method_75_code
def yX2_seen : MethodName := ⟨RX2, "seen", "(I)I"⟩
def dkwX2_seen_1 : List UInt8 := [172]
abbrev dktX2_seen_1 : List UInt8 := dkwX2_seen_1 ++ []
def dkwX2_seen_0 : List UInt8 := [42, 182, 0, 163, 42, 27, 182, 1, 71, 153, 0, 10, 42, 180, 1, 21, 167, 0, 8, 42, 4, 182, 0, 166]
abbrev dktX2_seen_0 : List UInt8 := dkwX2_seen_0 ++ dktX2_seen_1
theorem dksX2_seen_0 : cX2_seen.data.toList.drop 0 = dktX2_seen_0 := by decide +kernel
theorem dksX2_seen_1 : cX2_seen.data.toList.drop 24 = dktX2_seen_1 := dk_seg dksX2_seen_0 24 rfl rfl
theorem dX2_seen_0 : decode cX2_seen 0 = .ok (.aload_n 0, 1) := dk_42 (dk_at dksX2_seen_0 0 rfl rfl)
theorem dX2_seen_1 : decode cX2_seen 1 = .ok (.invokevirtual 163, 3) := dk_182 0 163 (dk_at dksX2_seen_0 1 rfl rfl)
theorem dX2_seen_4 : decode cX2_seen 4 = .ok (.aload_n 0, 1) := dk_42 (dk_at dksX2_seen_0 4 rfl rfl)
theorem dX2_seen_5 : decode cX2_seen 5 = .ok (.iload_n 1, 1) := dk_27 (dk_at dksX2_seen_0 5 rfl rfl)
theorem dX2_seen_6 : decode cX2_seen 6 = .ok (.invokevirtual 327, 3) := dk_182 1 71 (dk_at dksX2_seen_0 6 rfl rfl)
theorem dX2_seen_9 : decode cX2_seen 9 = .ok (.ifCond .eq 10, 3) := dk_153 0 10 (dk_at dksX2_seen_0 9 rfl rfl)
theorem dX2_seen_12 : decode cX2_seen 12 = .ok (.aload_n 0, 1) := dk_42 (dk_at dksX2_seen_0 12 rfl rfl)
theorem dX2_seen_13 : decode cX2_seen 13 = .ok (.getfield 277, 3) := dk_180 1 21 (dk_at dksX2_seen_0 13 rfl rfl)
theorem dX2_seen_16 : decode cX2_seen 16 = .ok (.goto 8, 3) := dk_167 0 8 (dk_at dksX2_seen_0 16 rfl rfl)
theorem dX2_seen_19 : decode cX2_seen 19 = .ok (.aload_n 0, 1) := dk_42 (dk_at dksX2_seen_0 19 rfl rfl)
theorem dX2_seen_20 : decode cX2_seen 20 = .ok (.iconst 1, 1) := dk_4 (dk_at dksX2_seen_0 20 rfl rfl)
theorem dX2_seen_21 : decode cX2_seen 21 = .ok (.invokevirtual 166, 3) := dk_182 0 166 (dk_at dksX2_seen_0 21 rfl rfl)
theorem dX2_seen_24 : decode cX2_seen 24 = .ok (.ireturn, 1) := dk_172 (dk_at dksX2_seen_1 0 rfl rfl)
abbrev cX2_third : ByteArray := prog_15_method_76_code
def yX2_third : MethodName := ⟨RX2, "third", "(I)I"⟩
def dkwX2_third_2 : List UInt8 := [130, 126, 28, 184, 0, 252, 153, 0, 5, 28, 172, 132, 2, 1, 167, 255, 216, 16, 254, 172]
abbrev dktX2_third_2 : List UInt8 := dkwX2_third_2 ++ []
def dkwX2_third_1 : List UInt8 := [180, 0, 20, 6, 46, 162, 0, 36, 42, 180, 1, 13, 154, 0, 29, 42, 180, 1, 21, 42, 180, 1, 24, 2]
abbrev dktX2_third_1 : List UInt8 := dkwX2_third_1 ++ dktX2_third_2
def dkwX2_third_0 : List UInt8 := [42, 182, 0, 163, 42, 27, 182, 1, 71, 154, 0, 9, 42, 4, 182, 0, 166, 172, 3, 61, 28, 42]
abbrev dktX2_third_0 : List UInt8 := dkwX2_third_0 ++ dktX2_third_1
theorem dksX2_third_0 : cX2_third.data.toList.drop 0 = dktX2_third_0 := by decide +kernel
theorem dksX2_third_1 : cX2_third.data.toList.drop 22 = dktX2_third_1 := dk_seg dksX2_third_0 22 rfl rfl
theorem dksX2_third_2 : cX2_third.data.toList.drop 46 = dktX2_third_2 := dk_seg dksX2_third_1 24 rfl rfl
theorem dX2_third_0 : decode cX2_third 0 = .ok (.aload_n 0, 1) := dk_42 (dk_at dksX2_third_0 0 rfl rfl)
theorem dX2_third_1 : decode cX2_third 1 = .ok (.invokevirtual 163, 3) := dk_182 0 163 (dk_at dksX2_third_0 1 rfl rfl)
theorem dX2_third_4 : decode cX2_third 4 = .ok (.aload_n 0, 1) := dk_42 (dk_at dksX2_third_0 4 rfl rfl)
theorem dX2_third_5 : decode cX2_third 5 = .ok (.iload_n 1, 1) := dk_27 (dk_at dksX2_third_0 5 rfl rfl)
theorem dX2_third_6 : decode cX2_third 6 = .ok (.invokevirtual 327, 3) := dk_182 1 71 (dk_at dksX2_third_0 6 rfl rfl)
theorem dX2_third_9 : decode cX2_third 9 = .ok (.ifCond .ne 9, 3) := dk_154 0 9 (dk_at dksX2_third_0 9 rfl rfl)
theorem dX2_third_12 : decode cX2_third 12 = .ok (.aload_n 0, 1) := dk_42 (dk_at dksX2_third_0 12 rfl rfl)
theorem dX2_third_13 : decode cX2_third 13 = .ok (.iconst 1, 1) := dk_4 (dk_at dksX2_third_0 13 rfl rfl)
theorem dX2_third_14 : decode cX2_third 14 = .ok (.invokevirtual 166, 3) := dk_182 0 166 (dk_at dksX2_third_0 14 rfl rfl)
theorem dX2_third_17 : decode cX2_third 17 = .ok (.ireturn, 1) := dk_172 (dk_at dksX2_third_0 17 rfl rfl)
theorem dX2_third_18 : decode cX2_third 18 = .ok (.iconst 0, 1) := dk_3 (dk_at dksX2_third_0 18 rfl rfl)
theorem dX2_third_19 : decode cX2_third 19 = .ok (.istore_n 2, 1) := dk_61 (dk_at dksX2_third_0 19 rfl rfl)
theorem dX2_third_20 : decode cX2_third 20 = .ok (.iload_n 2, 1) := dk_28 (dk_at dksX2_third_0 20 rfl rfl)
theorem dX2_third_21 : decode cX2_third 21 = .ok (.aload_n 0, 1) := dk_42 (dk_at dksX2_third_0 21 rfl rfl)
theorem dX2_third_22 : decode cX2_third 22 = .ok (.getfield 20, 3) := dk_180 0 20 (dk_at dksX2_third_1 0 rfl rfl)
theorem dX2_third_25 : decode cX2_third 25 = .ok (.iconst 3, 1) := dk_6 (dk_at dksX2_third_1 3 rfl rfl)
theorem dX2_third_26 : decode cX2_third 26 = .ok (.iaload, 1) := dk_46 (dk_at dksX2_third_1 4 rfl rfl)
theorem dX2_third_27 : decode cX2_third 27 = .ok (.if_icmp .ge 36, 3) := dk_162 0 36 (dk_at dksX2_third_1 5 rfl rfl)
theorem dX2_third_30 : decode cX2_third 30 = .ok (.aload_n 0, 1) := dk_42 (dk_at dksX2_third_1 8 rfl rfl)
theorem dX2_third_31 : decode cX2_third 31 = .ok (.getfield 269, 3) := dk_180 1 13 (dk_at dksX2_third_1 9 rfl rfl)
theorem dX2_third_34 : decode cX2_third 34 = .ok (.ifCond .ne 29, 3) := dk_154 0 29 (dk_at dksX2_third_1 12 rfl rfl)
theorem dX2_third_37 : decode cX2_third 37 = .ok (.aload_n 0, 1) := dk_42 (dk_at dksX2_third_1 15 rfl rfl)
theorem dX2_third_38 : decode cX2_third 38 = .ok (.getfield 277, 3) := dk_180 1 21 (dk_at dksX2_third_1 16 rfl rfl)
theorem dX2_third_41 : decode cX2_third 41 = .ok (.aload_n 0, 1) := dk_42 (dk_at dksX2_third_1 19 rfl rfl)
theorem dX2_third_42 : decode cX2_third 42 = .ok (.getfield 280, 3) := dk_180 1 24 (dk_at dksX2_third_1 20 rfl rfl)
theorem dX2_third_45 : decode cX2_third 45 = .ok (.iconst (-1), 1) := dk_2 (dk_at dksX2_third_1 23 rfl rfl)
theorem dX2_third_46 : decode cX2_third 46 = .ok (.ixor, 1) := dk_130 (dk_at dksX2_third_2 0 rfl rfl)
theorem dX2_third_47 : decode cX2_third 47 = .ok (.iand, 1) := dk_126 (dk_at dksX2_third_2 1 rfl rfl)
theorem dX2_third_48 : decode cX2_third 48 = .ok (.iload_n 2, 1) := dk_28 (dk_at dksX2_third_2 2 rfl rfl)
theorem dX2_third_49 : decode cX2_third 49 = .ok (.invokestatic 252, 3) := dk_184 0 252 (dk_at dksX2_third_2 3 rfl rfl)
theorem dX2_third_52 : decode cX2_third 52 = .ok (.ifCond .eq 5, 3) := dk_153 0 5 (dk_at dksX2_third_2 6 rfl rfl)
theorem dX2_third_55 : decode cX2_third 55 = .ok (.iload_n 2, 1) := dk_28 (dk_at dksX2_third_2 9 rfl rfl)
theorem dX2_third_56 : decode cX2_third 56 = .ok (.ireturn, 1) := dk_172 (dk_at dksX2_third_2 10 rfl rfl)
theorem dX2_third_57 : decode cX2_third 57 = .ok (.iinc 2 1, 3) := dk_132 2 1 (dk_at dksX2_third_2 11 rfl rfl)
theorem dX2_third_60 : decode cX2_third 60 = .ok (.goto (-40), 3) := dk_167 255 216 (dk_at dksX2_third_2 14 rfl rfl)
theorem dX2_third_63 : decode cX2_third 63 = .ok (.bipush (-2), 2) := dk_16 254 (dk_at dksX2_third_2 17 rfl rfl)
theorem dX2_third_65 : decode cX2_third 65 = .ok (.ireturn, 1) := dk_172 (dk_at dksX2_third_2 19 rfl rfl)
abbrev cX2_won : ByteArray := prog_15_method_77_code
def yX2_won : MethodName := ⟨RX2, "won", "()I"⟩
def dkwX2_won_2 : List UInt8 := [4, 28, 120, 167, 0, 4, 3, 128, 60, 132, 2, 1, 167, 255, 218, 27, 172]
abbrev dktX2_won_2 : List UInt8 := dkwX2_won_2 ++ []
def dkwX2_won_1 : List UInt8 := [180, 0, 20, 8, 46, 162, 0, 34, 27, 42, 28, 182, 1, 71, 153, 0, 16, 42, 180, 1, 13, 158, 0, 9]
abbrev dktX2_won_1 : List UInt8 := dkwX2_won_1 ++ dktX2_won_2
def dkwX2_won_0 : List UInt8 := [42, 182, 0, 163, 42, 180, 0, 176, 154, 0, 9, 42, 4, 182, 0, 166, 172, 3, 60, 3, 61, 28, 42]
abbrev dktX2_won_0 : List UInt8 := dkwX2_won_0 ++ dktX2_won_1
theorem dksX2_won_0 : cX2_won.data.toList.drop 0 = dktX2_won_0 := by decide +kernel
theorem dksX2_won_1 : cX2_won.data.toList.drop 23 = dktX2_won_1 := dk_seg dksX2_won_0 23 rfl rfl
theorem dksX2_won_2 : cX2_won.data.toList.drop 47 = dktX2_won_2 := dk_seg dksX2_won_1 24 rfl rfl
theorem dX2_won_0 : decode cX2_won 0 = .ok (.aload_n 0, 1) := dk_42 (dk_at dksX2_won_0 0 rfl rfl)
theorem dX2_won_1 : decode cX2_won 1 = .ok (.invokevirtual 163, 3) := dk_182 0 163 (dk_at dksX2_won_0 1 rfl rfl)
theorem dX2_won_4 : decode cX2_won 4 = .ok (.aload_n 0, 1) := dk_42 (dk_at dksX2_won_0 4 rfl rfl)
theorem dX2_won_5 : decode cX2_won 5 = .ok (.getfield 176, 3) := dk_180 0 176 (dk_at dksX2_won_0 5 rfl rfl)
theorem dX2_won_8 : decode cX2_won 8 = .ok (.ifCond .ne 9, 3) := dk_154 0 9 (dk_at dksX2_won_0 8 rfl rfl)
theorem dX2_won_11 : decode cX2_won 11 = .ok (.aload_n 0, 1) := dk_42 (dk_at dksX2_won_0 11 rfl rfl)
theorem dX2_won_12 : decode cX2_won 12 = .ok (.iconst 1, 1) := dk_4 (dk_at dksX2_won_0 12 rfl rfl)
theorem dX2_won_13 : decode cX2_won 13 = .ok (.invokevirtual 166, 3) := dk_182 0 166 (dk_at dksX2_won_0 13 rfl rfl)
theorem dX2_won_16 : decode cX2_won 16 = .ok (.ireturn, 1) := dk_172 (dk_at dksX2_won_0 16 rfl rfl)
theorem dX2_won_17 : decode cX2_won 17 = .ok (.iconst 0, 1) := dk_3 (dk_at dksX2_won_0 17 rfl rfl)
theorem dX2_won_18 : decode cX2_won 18 = .ok (.istore_n 1, 1) := dk_60 (dk_at dksX2_won_0 18 rfl rfl)
theorem dX2_won_19 : decode cX2_won 19 = .ok (.iconst 0, 1) := dk_3 (dk_at dksX2_won_0 19 rfl rfl)
theorem dX2_won_20 : decode cX2_won 20 = .ok (.istore_n 2, 1) := dk_61 (dk_at dksX2_won_0 20 rfl rfl)
theorem dX2_won_21 : decode cX2_won 21 = .ok (.iload_n 2, 1) := dk_28 (dk_at dksX2_won_0 21 rfl rfl)
theorem dX2_won_22 : decode cX2_won 22 = .ok (.aload_n 0, 1) := dk_42 (dk_at dksX2_won_0 22 rfl rfl)
theorem dX2_won_23 : decode cX2_won 23 = .ok (.getfield 20, 3) := dk_180 0 20 (dk_at dksX2_won_1 0 rfl rfl)
theorem dX2_won_26 : decode cX2_won 26 = .ok (.iconst 5, 1) := dk_8 (dk_at dksX2_won_1 3 rfl rfl)
theorem dX2_won_27 : decode cX2_won 27 = .ok (.iaload, 1) := dk_46 (dk_at dksX2_won_1 4 rfl rfl)
theorem dX2_won_28 : decode cX2_won 28 = .ok (.if_icmp .ge 34, 3) := dk_162 0 34 (dk_at dksX2_won_1 5 rfl rfl)
theorem dX2_won_31 : decode cX2_won 31 = .ok (.iload_n 1, 1) := dk_27 (dk_at dksX2_won_1 8 rfl rfl)
theorem dX2_won_32 : decode cX2_won 32 = .ok (.aload_n 0, 1) := dk_42 (dk_at dksX2_won_1 9 rfl rfl)
theorem dX2_won_33 : decode cX2_won 33 = .ok (.iload_n 2, 1) := dk_28 (dk_at dksX2_won_1 10 rfl rfl)
theorem dX2_won_34 : decode cX2_won 34 = .ok (.invokevirtual 327, 3) := dk_182 1 71 (dk_at dksX2_won_1 11 rfl rfl)
theorem dX2_won_37 : decode cX2_won 37 = .ok (.ifCond .eq 16, 3) := dk_153 0 16 (dk_at dksX2_won_1 14 rfl rfl)
theorem dX2_won_40 : decode cX2_won 40 = .ok (.aload_n 0, 1) := dk_42 (dk_at dksX2_won_1 17 rfl rfl)
theorem dX2_won_41 : decode cX2_won 41 = .ok (.getfield 269, 3) := dk_180 1 13 (dk_at dksX2_won_1 18 rfl rfl)
theorem dX2_won_44 : decode cX2_won 44 = .ok (.ifCond .le 9, 3) := dk_158 0 9 (dk_at dksX2_won_1 21 rfl rfl)
theorem dX2_won_47 : decode cX2_won 47 = .ok (.iconst 1, 1) := dk_4 (dk_at dksX2_won_2 0 rfl rfl)
theorem dX2_won_48 : decode cX2_won 48 = .ok (.iload_n 2, 1) := dk_28 (dk_at dksX2_won_2 1 rfl rfl)
theorem dX2_won_49 : decode cX2_won 49 = .ok (.ishl, 1) := dk_120 (dk_at dksX2_won_2 2 rfl rfl)
theorem dX2_won_50 : decode cX2_won 50 = .ok (.goto 4, 3) := dk_167 0 4 (dk_at dksX2_won_2 3 rfl rfl)
theorem dX2_won_53 : decode cX2_won 53 = .ok (.iconst 0, 1) := dk_3 (dk_at dksX2_won_2 6 rfl rfl)
theorem dX2_won_54 : decode cX2_won 54 = .ok (.ior, 1) := dk_128 (dk_at dksX2_won_2 7 rfl rfl)
theorem dX2_won_55 : decode cX2_won 55 = .ok (.istore_n 1, 1) := dk_60 (dk_at dksX2_won_2 8 rfl rfl)
theorem dX2_won_56 : decode cX2_won 56 = .ok (.iinc 2 1, 3) := dk_132 2 1 (dk_at dksX2_won_2 9 rfl rfl)
theorem dX2_won_59 : decode cX2_won 59 = .ok (.goto (-38), 3) := dk_167 255 218 (dk_at dksX2_won_2 12 rfl rfl)
theorem dX2_won_62 : decode cX2_won 62 = .ok (.iload_n 1, 1) := dk_27 (dk_at dksX2_won_2 15 rfl rfl)
theorem dX2_won_63 : decode cX2_won 63 = .ok (.ireturn, 1) := dk_172 (dk_at dksX2_won_2 16 rfl rfl)
abbrev cX2_nurse : ByteArray := prog_15_method_79_code
def yX2_nurse : MethodName := ⟨RX2, "nurse", "()I"⟩
def dkwX2_nurse_3 : List UInt8 := [163, 0, 6, 167, 0, 8, 29, 61, 21, 4, 60, 132, 3, 1, 167, 255, 209, 28, 172]
abbrev dktX2_nurse_3 : List UInt8 := dkwX2_nurse_3 ++ []
def dkwX2_nurse_2 : List UInt8 := [182, 1, 59, 42, 180, 0, 41, 29, 5, 79, 42, 182, 1, 74, 184, 1, 77, 54, 4, 21, 4, 27]
abbrev dktX2_nurse_2 : List UInt8 := dkwX2_nurse_2 ++ dktX2_nurse_3
def dkwX2_nurse_1 : List UInt8 := [182, 1, 74, 184, 1, 77, 60, 16, 254, 61, 3, 62, 29, 42, 180, 0, 20, 6, 46, 162, 0, 43, 42]
abbrev dktX2_nurse_1 : List UInt8 := dkwX2_nurse_1 ++ dktX2_nurse_2
def dkwX2_nurse_0 : List UInt8 := [42, 182, 0, 163, 42, 180, 0, 176, 154, 0, 9, 42, 4, 182, 0, 166, 172, 42, 182, 1, 59, 42]
abbrev dktX2_nurse_0 : List UInt8 := dkwX2_nurse_0 ++ dktX2_nurse_1
theorem dksX2_nurse_0 : cX2_nurse.data.toList.drop 0 = dktX2_nurse_0 := by decide +kernel
theorem dksX2_nurse_1 : cX2_nurse.data.toList.drop 22 = dktX2_nurse_1 := dk_seg dksX2_nurse_0 22 rfl rfl
theorem dksX2_nurse_2 : cX2_nurse.data.toList.drop 45 = dktX2_nurse_2 := dk_seg dksX2_nurse_1 23 rfl rfl
theorem dksX2_nurse_3 : cX2_nurse.data.toList.drop 67 = dktX2_nurse_3 := dk_seg dksX2_nurse_2 22 rfl rfl
theorem dX2_nurse_0 : decode cX2_nurse 0 = .ok (.aload_n 0, 1) := dk_42 (dk_at dksX2_nurse_0 0 rfl rfl)
theorem dX2_nurse_1 : decode cX2_nurse 1 = .ok (.invokevirtual 163, 3) := dk_182 0 163 (dk_at dksX2_nurse_0 1 rfl rfl)
theorem dX2_nurse_4 : decode cX2_nurse 4 = .ok (.aload_n 0, 1) := dk_42 (dk_at dksX2_nurse_0 4 rfl rfl)
theorem dX2_nurse_5 : decode cX2_nurse 5 = .ok (.getfield 176, 3) := dk_180 0 176 (dk_at dksX2_nurse_0 5 rfl rfl)
theorem dX2_nurse_8 : decode cX2_nurse 8 = .ok (.ifCond .ne 9, 3) := dk_154 0 9 (dk_at dksX2_nurse_0 8 rfl rfl)
theorem dX2_nurse_11 : decode cX2_nurse 11 = .ok (.aload_n 0, 1) := dk_42 (dk_at dksX2_nurse_0 11 rfl rfl)
theorem dX2_nurse_12 : decode cX2_nurse 12 = .ok (.iconst 1, 1) := dk_4 (dk_at dksX2_nurse_0 12 rfl rfl)
theorem dX2_nurse_13 : decode cX2_nurse 13 = .ok (.invokevirtual 166, 3) := dk_182 0 166 (dk_at dksX2_nurse_0 13 rfl rfl)
theorem dX2_nurse_16 : decode cX2_nurse 16 = .ok (.ireturn, 1) := dk_172 (dk_at dksX2_nurse_0 16 rfl rfl)
theorem dX2_nurse_17 : decode cX2_nurse 17 = .ok (.aload_n 0, 1) := dk_42 (dk_at dksX2_nurse_0 17 rfl rfl)
theorem dX2_nurse_18 : decode cX2_nurse 18 = .ok (.invokevirtual 315, 3) := dk_182 1 59 (dk_at dksX2_nurse_0 18 rfl rfl)
theorem dX2_nurse_21 : decode cX2_nurse 21 = .ok (.aload_n 0, 1) := dk_42 (dk_at dksX2_nurse_0 21 rfl rfl)
theorem dX2_nurse_22 : decode cX2_nurse 22 = .ok (.invokevirtual 330, 3) := dk_182 1 74 (dk_at dksX2_nurse_1 0 rfl rfl)
theorem dX2_nurse_25 : decode cX2_nurse 25 = .ok (.invokestatic 333, 3) := dk_184 1 77 (dk_at dksX2_nurse_1 3 rfl rfl)
theorem dX2_nurse_28 : decode cX2_nurse 28 = .ok (.istore_n 1, 1) := dk_60 (dk_at dksX2_nurse_1 6 rfl rfl)
theorem dX2_nurse_29 : decode cX2_nurse 29 = .ok (.bipush (-2), 2) := dk_16 254 (dk_at dksX2_nurse_1 7 rfl rfl)
theorem dX2_nurse_31 : decode cX2_nurse 31 = .ok (.istore_n 2, 1) := dk_61 (dk_at dksX2_nurse_1 9 rfl rfl)
theorem dX2_nurse_32 : decode cX2_nurse 32 = .ok (.iconst 0, 1) := dk_3 (dk_at dksX2_nurse_1 10 rfl rfl)
theorem dX2_nurse_33 : decode cX2_nurse 33 = .ok (.istore_n 3, 1) := dk_62 (dk_at dksX2_nurse_1 11 rfl rfl)
theorem dX2_nurse_34 : decode cX2_nurse 34 = .ok (.iload_n 3, 1) := dk_29 (dk_at dksX2_nurse_1 12 rfl rfl)
theorem dX2_nurse_35 : decode cX2_nurse 35 = .ok (.aload_n 0, 1) := dk_42 (dk_at dksX2_nurse_1 13 rfl rfl)
theorem dX2_nurse_36 : decode cX2_nurse 36 = .ok (.getfield 20, 3) := dk_180 0 20 (dk_at dksX2_nurse_1 14 rfl rfl)
theorem dX2_nurse_39 : decode cX2_nurse 39 = .ok (.iconst 3, 1) := dk_6 (dk_at dksX2_nurse_1 17 rfl rfl)
theorem dX2_nurse_40 : decode cX2_nurse 40 = .ok (.iaload, 1) := dk_46 (dk_at dksX2_nurse_1 18 rfl rfl)
theorem dX2_nurse_41 : decode cX2_nurse 41 = .ok (.if_icmp .ge 43, 3) := dk_162 0 43 (dk_at dksX2_nurse_1 19 rfl rfl)
theorem dX2_nurse_44 : decode cX2_nurse 44 = .ok (.aload_n 0, 1) := dk_42 (dk_at dksX2_nurse_1 22 rfl rfl)
theorem dX2_nurse_45 : decode cX2_nurse 45 = .ok (.invokevirtual 315, 3) := dk_182 1 59 (dk_at dksX2_nurse_2 0 rfl rfl)
theorem dX2_nurse_48 : decode cX2_nurse 48 = .ok (.aload_n 0, 1) := dk_42 (dk_at dksX2_nurse_2 3 rfl rfl)
theorem dX2_nurse_49 : decode cX2_nurse 49 = .ok (.getfield 41, 3) := dk_180 0 41 (dk_at dksX2_nurse_2 4 rfl rfl)
theorem dX2_nurse_52 : decode cX2_nurse 52 = .ok (.iload_n 3, 1) := dk_29 (dk_at dksX2_nurse_2 7 rfl rfl)
theorem dX2_nurse_53 : decode cX2_nurse 53 = .ok (.iconst 2, 1) := dk_5 (dk_at dksX2_nurse_2 8 rfl rfl)
theorem dX2_nurse_54 : decode cX2_nurse 54 = .ok (.iastore, 1) := dk_79 (dk_at dksX2_nurse_2 9 rfl rfl)
theorem dX2_nurse_55 : decode cX2_nurse 55 = .ok (.aload_n 0, 1) := dk_42 (dk_at dksX2_nurse_2 10 rfl rfl)
theorem dX2_nurse_56 : decode cX2_nurse 56 = .ok (.invokevirtual 330, 3) := dk_182 1 74 (dk_at dksX2_nurse_2 11 rfl rfl)
theorem dX2_nurse_59 : decode cX2_nurse 59 = .ok (.invokestatic 333, 3) := dk_184 1 77 (dk_at dksX2_nurse_2 14 rfl rfl)
theorem dX2_nurse_62 : decode cX2_nurse 62 = .ok (.istore 4, 2) := dk_54 4 (dk_at dksX2_nurse_2 17 rfl rfl)
theorem dX2_nurse_64 : decode cX2_nurse 64 = .ok (.iload 4, 2) := dk_21 4 (dk_at dksX2_nurse_2 19 rfl rfl)
theorem dX2_nurse_66 : decode cX2_nurse 66 = .ok (.iload_n 1, 1) := dk_27 (dk_at dksX2_nurse_2 21 rfl rfl)
theorem dX2_nurse_67 : decode cX2_nurse 67 = .ok (.if_icmp .gt 6, 3) := dk_163 0 6 (dk_at dksX2_nurse_3 0 rfl rfl)
theorem dX2_nurse_70 : decode cX2_nurse 70 = .ok (.goto 8, 3) := dk_167 0 8 (dk_at dksX2_nurse_3 3 rfl rfl)
theorem dX2_nurse_73 : decode cX2_nurse 73 = .ok (.iload_n 3, 1) := dk_29 (dk_at dksX2_nurse_3 6 rfl rfl)
theorem dX2_nurse_74 : decode cX2_nurse 74 = .ok (.istore_n 2, 1) := dk_61 (dk_at dksX2_nurse_3 7 rfl rfl)
theorem dX2_nurse_75 : decode cX2_nurse 75 = .ok (.iload 4, 2) := dk_21 4 (dk_at dksX2_nurse_3 8 rfl rfl)
theorem dX2_nurse_77 : decode cX2_nurse 77 = .ok (.istore_n 1, 1) := dk_60 (dk_at dksX2_nurse_3 10 rfl rfl)
theorem dX2_nurse_78 : decode cX2_nurse 78 = .ok (.iinc 3 1, 3) := dk_132 3 1 (dk_at dksX2_nurse_3 11 rfl rfl)
theorem dX2_nurse_81 : decode cX2_nurse 81 = .ok (.goto (-47), 3) := dk_167 255 209 (dk_at dksX2_nurse_3 14 rfl rfl)
theorem dX2_nurse_84 : decode cX2_nurse 84 = .ok (.iload_n 2, 1) := dk_28 (dk_at dksX2_nurse_3 17 rfl rfl)
theorem dX2_nurse_85 : decode cX2_nurse 85 = .ok (.ireturn, 1) := dk_172 (dk_at dksX2_nurse_3 18 rfl rfl)
abbrev cX2_stopped : ByteArray := prog_15_method_78_code
def yX2_stopped : MethodName := ⟨RX2, "stopped", "()I"⟩
def dkwX2_stopped_1 : List UInt8 := [154, 0, 9, 4, 28, 120, 167, 0, 4, 3, 128, 60, 132, 2, 1, 167, 255, 221, 27, 172]
abbrev dktX2_stopped_1 : List UInt8 := dkwX2_stopped_1 ++ []
def dkwX2_stopped_0 : List UInt8 := [3, 60, 3, 61, 28, 42, 180, 0, 20, 8, 46, 162, 0, 31, 42, 28, 182, 1, 68, 27, 42, 180, 1, 13]
abbrev dktX2_stopped_0 : List UInt8 := dkwX2_stopped_0 ++ dktX2_stopped_1
theorem dksX2_stopped_0 : cX2_stopped.data.toList.drop 0 = dktX2_stopped_0 := by decide +kernel
theorem dksX2_stopped_1 : cX2_stopped.data.toList.drop 24 = dktX2_stopped_1 := dk_seg dksX2_stopped_0 24 rfl rfl
theorem dX2_stopped_0 : decode cX2_stopped 0 = .ok (.iconst 0, 1) := dk_3 (dk_at dksX2_stopped_0 0 rfl rfl)
theorem dX2_stopped_1 : decode cX2_stopped 1 = .ok (.istore_n 1, 1) := dk_60 (dk_at dksX2_stopped_0 1 rfl rfl)
theorem dX2_stopped_2 : decode cX2_stopped 2 = .ok (.iconst 0, 1) := dk_3 (dk_at dksX2_stopped_0 2 rfl rfl)
theorem dX2_stopped_3 : decode cX2_stopped 3 = .ok (.istore_n 2, 1) := dk_61 (dk_at dksX2_stopped_0 3 rfl rfl)
theorem dX2_stopped_4 : decode cX2_stopped 4 = .ok (.iload_n 2, 1) := dk_28 (dk_at dksX2_stopped_0 4 rfl rfl)
theorem dX2_stopped_5 : decode cX2_stopped 5 = .ok (.aload_n 0, 1) := dk_42 (dk_at dksX2_stopped_0 5 rfl rfl)
theorem dX2_stopped_6 : decode cX2_stopped 6 = .ok (.getfield 20, 3) := dk_180 0 20 (dk_at dksX2_stopped_0 6 rfl rfl)
theorem dX2_stopped_9 : decode cX2_stopped 9 = .ok (.iconst 5, 1) := dk_8 (dk_at dksX2_stopped_0 9 rfl rfl)
theorem dX2_stopped_10 : decode cX2_stopped 10 = .ok (.iaload, 1) := dk_46 (dk_at dksX2_stopped_0 10 rfl rfl)
theorem dX2_stopped_11 : decode cX2_stopped 11 = .ok (.if_icmp .ge 31, 3) := dk_162 0 31 (dk_at dksX2_stopped_0 11 rfl rfl)
theorem dX2_stopped_14 : decode cX2_stopped 14 = .ok (.aload_n 0, 1) := dk_42 (dk_at dksX2_stopped_0 14 rfl rfl)
theorem dX2_stopped_15 : decode cX2_stopped 15 = .ok (.iload_n 2, 1) := dk_28 (dk_at dksX2_stopped_0 15 rfl rfl)
theorem dX2_stopped_16 : decode cX2_stopped 16 = .ok (.invokevirtual 324, 3) := dk_182 1 68 (dk_at dksX2_stopped_0 16 rfl rfl)
theorem dX2_stopped_19 : decode cX2_stopped 19 = .ok (.iload_n 1, 1) := dk_27 (dk_at dksX2_stopped_0 19 rfl rfl)
theorem dX2_stopped_20 : decode cX2_stopped 20 = .ok (.aload_n 0, 1) := dk_42 (dk_at dksX2_stopped_0 20 rfl rfl)
theorem dX2_stopped_21 : decode cX2_stopped 21 = .ok (.getfield 269, 3) := dk_180 1 13 (dk_at dksX2_stopped_0 21 rfl rfl)
theorem dX2_stopped_24 : decode cX2_stopped 24 = .ok (.ifCond .ne 9, 3) := dk_154 0 9 (dk_at dksX2_stopped_1 0 rfl rfl)
theorem dX2_stopped_27 : decode cX2_stopped 27 = .ok (.iconst 1, 1) := dk_4 (dk_at dksX2_stopped_1 3 rfl rfl)
theorem dX2_stopped_28 : decode cX2_stopped 28 = .ok (.iload_n 2, 1) := dk_28 (dk_at dksX2_stopped_1 4 rfl rfl)
theorem dX2_stopped_29 : decode cX2_stopped 29 = .ok (.ishl, 1) := dk_120 (dk_at dksX2_stopped_1 5 rfl rfl)
theorem dX2_stopped_30 : decode cX2_stopped 30 = .ok (.goto 4, 3) := dk_167 0 4 (dk_at dksX2_stopped_1 6 rfl rfl)
theorem dX2_stopped_33 : decode cX2_stopped 33 = .ok (.iconst 0, 1) := dk_3 (dk_at dksX2_stopped_1 9 rfl rfl)
theorem dX2_stopped_34 : decode cX2_stopped 34 = .ok (.ior, 1) := dk_128 (dk_at dksX2_stopped_1 10 rfl rfl)
theorem dX2_stopped_35 : decode cX2_stopped 35 = .ok (.istore_n 1, 1) := dk_60 (dk_at dksX2_stopped_1 11 rfl rfl)
theorem dX2_stopped_36 : decode cX2_stopped 36 = .ok (.iinc 2 1, 3) := dk_132 2 1 (dk_at dksX2_stopped_1 12 rfl rfl)
theorem dX2_stopped_39 : decode cX2_stopped 39 = .ok (.goto (-35), 3) := dk_167 255 221 (dk_at dksX2_stopped_1 15 rfl rfl)
theorem dX2_stopped_42 : decode cX2_stopped 42 = .ok (.iload_n 1, 1) := dk_27 (dk_at dksX2_stopped_1 18 rfl rfl)
theorem dX2_stopped_43 : decode cX2_stopped 43 = .ok (.ireturn, 1) := dk_172 (dk_at dksX2_stopped_1 19 rfl rfl)
abbrev cX2_ones : ByteArray := prog_15_method_8_code
def yX2_ones : MethodName := ⟨RX2, "ones", "(I)I"⟩
def dkwX2_ones_1 : List UInt8 := [27, 172]
abbrev dktX2_ones_1 : List UInt8 := dkwX2_ones_1 ++ []
def dkwX2_ones_0 : List UInt8 := [3, 60, 3, 61, 28, 16, 8, 162, 0, 17, 27, 26, 28, 122, 4, 126, 96, 60, 132, 2, 1, 167, 255, 239]
abbrev dktX2_ones_0 : List UInt8 := dkwX2_ones_0 ++ dktX2_ones_1
theorem dksX2_ones_0 : cX2_ones.data.toList.drop 0 = dktX2_ones_0 := by decide +kernel
theorem dksX2_ones_1 : cX2_ones.data.toList.drop 24 = dktX2_ones_1 := dk_seg dksX2_ones_0 24 rfl rfl
theorem dX2_ones_0 : decode cX2_ones 0 = .ok (.iconst 0, 1) := dk_3 (dk_at dksX2_ones_0 0 rfl rfl)
theorem dX2_ones_1 : decode cX2_ones 1 = .ok (.istore_n 1, 1) := dk_60 (dk_at dksX2_ones_0 1 rfl rfl)
theorem dX2_ones_2 : decode cX2_ones 2 = .ok (.iconst 0, 1) := dk_3 (dk_at dksX2_ones_0 2 rfl rfl)
theorem dX2_ones_3 : decode cX2_ones 3 = .ok (.istore_n 2, 1) := dk_61 (dk_at dksX2_ones_0 3 rfl rfl)
theorem dX2_ones_4 : decode cX2_ones 4 = .ok (.iload_n 2, 1) := dk_28 (dk_at dksX2_ones_0 4 rfl rfl)
theorem dX2_ones_5 : decode cX2_ones 5 = .ok (.bipush 8, 2) := dk_16 8 (dk_at dksX2_ones_0 5 rfl rfl)
theorem dX2_ones_7 : decode cX2_ones 7 = .ok (.if_icmp .ge 17, 3) := dk_162 0 17 (dk_at dksX2_ones_0 7 rfl rfl)
theorem dX2_ones_10 : decode cX2_ones 10 = .ok (.iload_n 1, 1) := dk_27 (dk_at dksX2_ones_0 10 rfl rfl)
theorem dX2_ones_11 : decode cX2_ones 11 = .ok (.iload_n 0, 1) := dk_26 (dk_at dksX2_ones_0 11 rfl rfl)
theorem dX2_ones_12 : decode cX2_ones 12 = .ok (.iload_n 2, 1) := dk_28 (dk_at dksX2_ones_0 12 rfl rfl)
theorem dX2_ones_13 : decode cX2_ones 13 = .ok (.ishr, 1) := dk_122 (dk_at dksX2_ones_0 13 rfl rfl)
theorem dX2_ones_14 : decode cX2_ones 14 = .ok (.iconst 1, 1) := dk_4 (dk_at dksX2_ones_0 14 rfl rfl)
theorem dX2_ones_15 : decode cX2_ones 15 = .ok (.iand, 1) := dk_126 (dk_at dksX2_ones_0 15 rfl rfl)
theorem dX2_ones_16 : decode cX2_ones 16 = .ok (.iadd, 1) := dk_96 (dk_at dksX2_ones_0 16 rfl rfl)
theorem dX2_ones_17 : decode cX2_ones 17 = .ok (.istore_n 1, 1) := dk_60 (dk_at dksX2_ones_0 17 rfl rfl)
theorem dX2_ones_18 : decode cX2_ones 18 = .ok (.iinc 2 1, 3) := dk_132 2 1 (dk_at dksX2_ones_0 18 rfl rfl)
theorem dX2_ones_21 : decode cX2_ones 21 = .ok (.goto (-17), 3) := dk_167 255 239 (dk_at dksX2_ones_0 21 rfl rfl)
theorem dX2_ones_24 : decode cX2_ones 24 = .ok (.iload_n 1, 1) := dk_27 (dk_at dksX2_ones_1 0 rfl rfl)
theorem dX2_ones_25 : decode cX2_ones 25 = .ok (.ireturn, 1) := dk_172 (dk_at dksX2_ones_1 1 rfl rfl)
abbrev cX2_endsIf : ByteArray := prog_15_method_80_code
def yX2_endsIf : MethodName := ⟨RX2, "endsIf", "(III)I"⟩
def dkwX2_endsIf_2 : List UInt8 := [182, 0, 166, 172, 42, 182, 1, 59, 42, 27, 28, 29, 3, 182, 1, 36, 42, 180, 1, 13, 172]
abbrev dktX2_endsIf_2 : List UInt8 := dkwX2_endsIf_2 ++ []
def dkwX2_endsIf_1 : List UInt8 := [167, 0, 4, 3, 42, 29, 182, 1, 52, 182, 1, 55, 54, 4, 21, 4, 153, 0, 10, 42, 21, 4]
abbrev dktX2_endsIf_1 : List UInt8 := dkwX2_endsIf_1 ++ dktX2_endsIf_2
def dkwX2_endsIf_0 : List UInt8 := [42, 182, 0, 163, 42, 42, 27, 182, 1, 49, 153, 0, 15, 42, 28, 182, 1, 62, 153, 0, 7, 4]
abbrev dktX2_endsIf_0 : List UInt8 := dkwX2_endsIf_0 ++ dktX2_endsIf_1
theorem dksX2_endsIf_0 : cX2_endsIf.data.toList.drop 0 = dktX2_endsIf_0 := by decide +kernel
theorem dksX2_endsIf_1 : cX2_endsIf.data.toList.drop 22 = dktX2_endsIf_1 := dk_seg dksX2_endsIf_0 22 rfl rfl
theorem dksX2_endsIf_2 : cX2_endsIf.data.toList.drop 44 = dktX2_endsIf_2 := dk_seg dksX2_endsIf_1 22 rfl rfl
theorem dX2_endsIf_0 : decode cX2_endsIf 0 = .ok (.aload_n 0, 1) := dk_42 (dk_at dksX2_endsIf_0 0 rfl rfl)
theorem dX2_endsIf_1 : decode cX2_endsIf 1 = .ok (.invokevirtual 163, 3) := dk_182 0 163 (dk_at dksX2_endsIf_0 1 rfl rfl)
theorem dX2_endsIf_4 : decode cX2_endsIf 4 = .ok (.aload_n 0, 1) := dk_42 (dk_at dksX2_endsIf_0 4 rfl rfl)
theorem dX2_endsIf_5 : decode cX2_endsIf 5 = .ok (.aload_n 0, 1) := dk_42 (dk_at dksX2_endsIf_0 5 rfl rfl)
theorem dX2_endsIf_6 : decode cX2_endsIf 6 = .ok (.iload_n 1, 1) := dk_27 (dk_at dksX2_endsIf_0 6 rfl rfl)
theorem dX2_endsIf_7 : decode cX2_endsIf 7 = .ok (.invokevirtual 305, 3) := dk_182 1 49 (dk_at dksX2_endsIf_0 7 rfl rfl)
theorem dX2_endsIf_10 : decode cX2_endsIf 10 = .ok (.ifCond .eq 15, 3) := dk_153 0 15 (dk_at dksX2_endsIf_0 10 rfl rfl)
theorem dX2_endsIf_13 : decode cX2_endsIf 13 = .ok (.aload_n 0, 1) := dk_42 (dk_at dksX2_endsIf_0 13 rfl rfl)
theorem dX2_endsIf_14 : decode cX2_endsIf 14 = .ok (.iload_n 2, 1) := dk_28 (dk_at dksX2_endsIf_0 14 rfl rfl)
theorem dX2_endsIf_15 : decode cX2_endsIf 15 = .ok (.invokevirtual 318, 3) := dk_182 1 62 (dk_at dksX2_endsIf_0 15 rfl rfl)
theorem dX2_endsIf_18 : decode cX2_endsIf 18 = .ok (.ifCond .eq 7, 3) := dk_153 0 7 (dk_at dksX2_endsIf_0 18 rfl rfl)
theorem dX2_endsIf_21 : decode cX2_endsIf 21 = .ok (.iconst 1, 1) := dk_4 (dk_at dksX2_endsIf_0 21 rfl rfl)
theorem dX2_endsIf_22 : decode cX2_endsIf 22 = .ok (.goto 4, 3) := dk_167 0 4 (dk_at dksX2_endsIf_1 0 rfl rfl)
theorem dX2_endsIf_25 : decode cX2_endsIf 25 = .ok (.iconst 0, 1) := dk_3 (dk_at dksX2_endsIf_1 3 rfl rfl)
theorem dX2_endsIf_26 : decode cX2_endsIf 26 = .ok (.aload_n 0, 1) := dk_42 (dk_at dksX2_endsIf_1 4 rfl rfl)
theorem dX2_endsIf_27 : decode cX2_endsIf 27 = .ok (.iload_n 3, 1) := dk_29 (dk_at dksX2_endsIf_1 5 rfl rfl)
theorem dX2_endsIf_28 : decode cX2_endsIf 28 = .ok (.invokevirtual 308, 3) := dk_182 1 52 (dk_at dksX2_endsIf_1 6 rfl rfl)
theorem dX2_endsIf_31 : decode cX2_endsIf 31 = .ok (.invokevirtual 311, 3) := dk_182 1 55 (dk_at dksX2_endsIf_1 9 rfl rfl)
theorem dX2_endsIf_34 : decode cX2_endsIf 34 = .ok (.istore 4, 2) := dk_54 4 (dk_at dksX2_endsIf_1 12 rfl rfl)
theorem dX2_endsIf_36 : decode cX2_endsIf 36 = .ok (.iload 4, 2) := dk_21 4 (dk_at dksX2_endsIf_1 14 rfl rfl)
theorem dX2_endsIf_38 : decode cX2_endsIf 38 = .ok (.ifCond .eq 10, 3) := dk_153 0 10 (dk_at dksX2_endsIf_1 16 rfl rfl)
theorem dX2_endsIf_41 : decode cX2_endsIf 41 = .ok (.aload_n 0, 1) := dk_42 (dk_at dksX2_endsIf_1 19 rfl rfl)
theorem dX2_endsIf_42 : decode cX2_endsIf 42 = .ok (.iload 4, 2) := dk_21 4 (dk_at dksX2_endsIf_1 20 rfl rfl)
theorem dX2_endsIf_44 : decode cX2_endsIf 44 = .ok (.invokevirtual 166, 3) := dk_182 0 166 (dk_at dksX2_endsIf_2 0 rfl rfl)
theorem dX2_endsIf_47 : decode cX2_endsIf 47 = .ok (.ireturn, 1) := dk_172 (dk_at dksX2_endsIf_2 3 rfl rfl)
theorem dX2_endsIf_48 : decode cX2_endsIf 48 = .ok (.aload_n 0, 1) := dk_42 (dk_at dksX2_endsIf_2 4 rfl rfl)
theorem dX2_endsIf_49 : decode cX2_endsIf 49 = .ok (.invokevirtual 315, 3) := dk_182 1 59 (dk_at dksX2_endsIf_2 5 rfl rfl)
theorem dX2_endsIf_52 : decode cX2_endsIf 52 = .ok (.aload_n 0, 1) := dk_42 (dk_at dksX2_endsIf_2 8 rfl rfl)
theorem dX2_endsIf_53 : decode cX2_endsIf 53 = .ok (.iload_n 1, 1) := dk_27 (dk_at dksX2_endsIf_2 9 rfl rfl)
theorem dX2_endsIf_54 : decode cX2_endsIf 54 = .ok (.iload_n 2, 1) := dk_28 (dk_at dksX2_endsIf_2 10 rfl rfl)
theorem dX2_endsIf_55 : decode cX2_endsIf 55 = .ok (.iload_n 3, 1) := dk_29 (dk_at dksX2_endsIf_2 11 rfl rfl)
theorem dX2_endsIf_56 : decode cX2_endsIf 56 = .ok (.iconst 0, 1) := dk_3 (dk_at dksX2_endsIf_2 12 rfl rfl)
theorem dX2_endsIf_57 : decode cX2_endsIf 57 = .ok (.invokevirtual 292, 3) := dk_182 1 36 (dk_at dksX2_endsIf_2 13 rfl rfl)
theorem dX2_endsIf_60 : decode cX2_endsIf 60 = .ok (.aload_n 0, 1) := dk_42 (dk_at dksX2_endsIf_2 16 rfl rfl)
theorem dX2_endsIf_61 : decode cX2_endsIf 61 = .ok (.getfield 269, 3) := dk_180 1 13 (dk_at dksX2_endsIf_2 17 rfl rfl)
theorem dX2_endsIf_64 : decode cX2_endsIf 64 = .ok (.ireturn, 1) := dk_172 (dk_at dksX2_endsIf_2 20 rfl rfl)
abbrev cX2_cellars : ByteArray := prog_15_method_81_code
def yX2_cellars : MethodName := ⟨RX2, "cellars", "(I)I"⟩
def dkwX2_cellars_3 : List UInt8 := [61, 132, 3, 1, 167, 255, 206, 28, 172]
abbrev dktX2_cellars_3 : List UInt8 := dkwX2_cellars_3 ++ []
def dkwX2_cellars_2 : List UInt8 := [96, 6, 96, 46, 3, 182, 1, 36, 28, 42, 180, 1, 13, 158, 0, 9, 4, 29, 120, 167, 0, 4, 3, 128]
abbrev dktX2_cellars_2 : List UInt8 := dkwX2_cellars_2 ++ dktX2_cellars_3
def dkwX2_cellars_1 : List UInt8 := [3, 62, 29, 42, 180, 0, 20, 4, 46, 162, 0, 46, 42, 27, 29, 42, 180, 0, 20, 16, 80, 8, 27, 104]
abbrev dktX2_cellars_1 : List UInt8 := dkwX2_cellars_1 ++ dktX2_cellars_2
def dkwX2_cellars_0 : List UInt8 := [42, 182, 0, 163, 42, 27, 182, 1, 49, 154, 0, 9, 42, 4, 182, 0, 166, 172, 42, 182, 1, 59, 3, 61]
abbrev dktX2_cellars_0 : List UInt8 := dkwX2_cellars_0 ++ dktX2_cellars_1
theorem dksX2_cellars_0 : cX2_cellars.data.toList.drop 0 = dktX2_cellars_0 := by decide +kernel
theorem dksX2_cellars_1 : cX2_cellars.data.toList.drop 24 = dktX2_cellars_1 := dk_seg dksX2_cellars_0 24 rfl rfl
theorem dksX2_cellars_2 : cX2_cellars.data.toList.drop 48 = dktX2_cellars_2 := dk_seg dksX2_cellars_1 24 rfl rfl
theorem dksX2_cellars_3 : cX2_cellars.data.toList.drop 72 = dktX2_cellars_3 := dk_seg dksX2_cellars_2 24 rfl rfl
theorem dX2_cellars_0 : decode cX2_cellars 0 = .ok (.aload_n 0, 1) := dk_42 (dk_at dksX2_cellars_0 0 rfl rfl)
theorem dX2_cellars_1 : decode cX2_cellars 1 = .ok (.invokevirtual 163, 3) := dk_182 0 163 (dk_at dksX2_cellars_0 1 rfl rfl)
theorem dX2_cellars_4 : decode cX2_cellars 4 = .ok (.aload_n 0, 1) := dk_42 (dk_at dksX2_cellars_0 4 rfl rfl)
theorem dX2_cellars_5 : decode cX2_cellars 5 = .ok (.iload_n 1, 1) := dk_27 (dk_at dksX2_cellars_0 5 rfl rfl)
theorem dX2_cellars_6 : decode cX2_cellars 6 = .ok (.invokevirtual 305, 3) := dk_182 1 49 (dk_at dksX2_cellars_0 6 rfl rfl)
theorem dX2_cellars_9 : decode cX2_cellars 9 = .ok (.ifCond .ne 9, 3) := dk_154 0 9 (dk_at dksX2_cellars_0 9 rfl rfl)
theorem dX2_cellars_12 : decode cX2_cellars 12 = .ok (.aload_n 0, 1) := dk_42 (dk_at dksX2_cellars_0 12 rfl rfl)
theorem dX2_cellars_13 : decode cX2_cellars 13 = .ok (.iconst 1, 1) := dk_4 (dk_at dksX2_cellars_0 13 rfl rfl)
theorem dX2_cellars_14 : decode cX2_cellars 14 = .ok (.invokevirtual 166, 3) := dk_182 0 166 (dk_at dksX2_cellars_0 14 rfl rfl)
theorem dX2_cellars_17 : decode cX2_cellars 17 = .ok (.ireturn, 1) := dk_172 (dk_at dksX2_cellars_0 17 rfl rfl)
theorem dX2_cellars_18 : decode cX2_cellars 18 = .ok (.aload_n 0, 1) := dk_42 (dk_at dksX2_cellars_0 18 rfl rfl)
theorem dX2_cellars_19 : decode cX2_cellars 19 = .ok (.invokevirtual 315, 3) := dk_182 1 59 (dk_at dksX2_cellars_0 19 rfl rfl)
theorem dX2_cellars_22 : decode cX2_cellars 22 = .ok (.iconst 0, 1) := dk_3 (dk_at dksX2_cellars_0 22 rfl rfl)
theorem dX2_cellars_23 : decode cX2_cellars 23 = .ok (.istore_n 2, 1) := dk_61 (dk_at dksX2_cellars_0 23 rfl rfl)
theorem dX2_cellars_24 : decode cX2_cellars 24 = .ok (.iconst 0, 1) := dk_3 (dk_at dksX2_cellars_1 0 rfl rfl)
theorem dX2_cellars_25 : decode cX2_cellars 25 = .ok (.istore_n 3, 1) := dk_62 (dk_at dksX2_cellars_1 1 rfl rfl)
theorem dX2_cellars_26 : decode cX2_cellars 26 = .ok (.iload_n 3, 1) := dk_29 (dk_at dksX2_cellars_1 2 rfl rfl)
theorem dX2_cellars_27 : decode cX2_cellars 27 = .ok (.aload_n 0, 1) := dk_42 (dk_at dksX2_cellars_1 3 rfl rfl)
theorem dX2_cellars_28 : decode cX2_cellars 28 = .ok (.getfield 20, 3) := dk_180 0 20 (dk_at dksX2_cellars_1 4 rfl rfl)
theorem dX2_cellars_31 : decode cX2_cellars 31 = .ok (.iconst 1, 1) := dk_4 (dk_at dksX2_cellars_1 7 rfl rfl)
theorem dX2_cellars_32 : decode cX2_cellars 32 = .ok (.iaload, 1) := dk_46 (dk_at dksX2_cellars_1 8 rfl rfl)
theorem dX2_cellars_33 : decode cX2_cellars 33 = .ok (.if_icmp .ge 46, 3) := dk_162 0 46 (dk_at dksX2_cellars_1 9 rfl rfl)
theorem dX2_cellars_36 : decode cX2_cellars 36 = .ok (.aload_n 0, 1) := dk_42 (dk_at dksX2_cellars_1 12 rfl rfl)
theorem dX2_cellars_37 : decode cX2_cellars 37 = .ok (.iload_n 1, 1) := dk_27 (dk_at dksX2_cellars_1 13 rfl rfl)
theorem dX2_cellars_38 : decode cX2_cellars 38 = .ok (.iload_n 3, 1) := dk_29 (dk_at dksX2_cellars_1 14 rfl rfl)
theorem dX2_cellars_39 : decode cX2_cellars 39 = .ok (.aload_n 0, 1) := dk_42 (dk_at dksX2_cellars_1 15 rfl rfl)
theorem dX2_cellars_40 : decode cX2_cellars 40 = .ok (.getfield 20, 3) := dk_180 0 20 (dk_at dksX2_cellars_1 16 rfl rfl)
theorem dX2_cellars_43 : decode cX2_cellars 43 = .ok (.bipush 80, 2) := dk_16 80 (dk_at dksX2_cellars_1 19 rfl rfl)
theorem dX2_cellars_45 : decode cX2_cellars 45 = .ok (.iconst 5, 1) := dk_8 (dk_at dksX2_cellars_1 21 rfl rfl)
theorem dX2_cellars_46 : decode cX2_cellars 46 = .ok (.iload_n 1, 1) := dk_27 (dk_at dksX2_cellars_1 22 rfl rfl)
theorem dX2_cellars_47 : decode cX2_cellars 47 = .ok (.imul, 1) := dk_104 (dk_at dksX2_cellars_1 23 rfl rfl)
theorem dX2_cellars_48 : decode cX2_cellars 48 = .ok (.iadd, 1) := dk_96 (dk_at dksX2_cellars_2 0 rfl rfl)
theorem dX2_cellars_49 : decode cX2_cellars 49 = .ok (.iconst 3, 1) := dk_6 (dk_at dksX2_cellars_2 1 rfl rfl)
theorem dX2_cellars_50 : decode cX2_cellars 50 = .ok (.iadd, 1) := dk_96 (dk_at dksX2_cellars_2 2 rfl rfl)
theorem dX2_cellars_51 : decode cX2_cellars 51 = .ok (.iaload, 1) := dk_46 (dk_at dksX2_cellars_2 3 rfl rfl)
theorem dX2_cellars_52 : decode cX2_cellars 52 = .ok (.iconst 0, 1) := dk_3 (dk_at dksX2_cellars_2 4 rfl rfl)
theorem dX2_cellars_53 : decode cX2_cellars 53 = .ok (.invokevirtual 292, 3) := dk_182 1 36 (dk_at dksX2_cellars_2 5 rfl rfl)
theorem dX2_cellars_56 : decode cX2_cellars 56 = .ok (.iload_n 2, 1) := dk_28 (dk_at dksX2_cellars_2 8 rfl rfl)
theorem dX2_cellars_57 : decode cX2_cellars 57 = .ok (.aload_n 0, 1) := dk_42 (dk_at dksX2_cellars_2 9 rfl rfl)
theorem dX2_cellars_58 : decode cX2_cellars 58 = .ok (.getfield 269, 3) := dk_180 1 13 (dk_at dksX2_cellars_2 10 rfl rfl)
theorem dX2_cellars_61 : decode cX2_cellars 61 = .ok (.ifCond .le 9, 3) := dk_158 0 9 (dk_at dksX2_cellars_2 13 rfl rfl)
theorem dX2_cellars_64 : decode cX2_cellars 64 = .ok (.iconst 1, 1) := dk_4 (dk_at dksX2_cellars_2 16 rfl rfl)
theorem dX2_cellars_65 : decode cX2_cellars 65 = .ok (.iload_n 3, 1) := dk_29 (dk_at dksX2_cellars_2 17 rfl rfl)
theorem dX2_cellars_66 : decode cX2_cellars 66 = .ok (.ishl, 1) := dk_120 (dk_at dksX2_cellars_2 18 rfl rfl)
theorem dX2_cellars_67 : decode cX2_cellars 67 = .ok (.goto 4, 3) := dk_167 0 4 (dk_at dksX2_cellars_2 19 rfl rfl)
theorem dX2_cellars_70 : decode cX2_cellars 70 = .ok (.iconst 0, 1) := dk_3 (dk_at dksX2_cellars_2 22 rfl rfl)
theorem dX2_cellars_71 : decode cX2_cellars 71 = .ok (.ior, 1) := dk_128 (dk_at dksX2_cellars_2 23 rfl rfl)
theorem dX2_cellars_72 : decode cX2_cellars 72 = .ok (.istore_n 2, 1) := dk_61 (dk_at dksX2_cellars_3 0 rfl rfl)
theorem dX2_cellars_73 : decode cX2_cellars 73 = .ok (.iinc 3 1, 3) := dk_132 3 1 (dk_at dksX2_cellars_3 1 rfl rfl)
theorem dX2_cellars_76 : decode cX2_cellars 76 = .ok (.goto (-50), 3) := dk_167 255 206 (dk_at dksX2_cellars_3 4 rfl rfl)
theorem dX2_cellars_79 : decode cX2_cellars 79 = .ok (.iload_n 2, 1) := dk_28 (dk_at dksX2_cellars_3 7 rfl rfl)
theorem dX2_cellars_80 : decode cX2_cellars 80 = .ok (.ireturn, 1) := dk_172 (dk_at dksX2_cellars_3 8 rfl rfl)
abbrev cX2_hour : ByteArray := prog_15_method_82_code
def yX2_hour : MethodName := ⟨RX2, "hou\x72", "(I)I"⟩
def dkwX2_hour_2 : List UInt8 := [182, 1, 36, 42, 180, 1, 13, 158, 0, 5, 28, 172, 132, 2, 1, 167, 255, 218, 16, 254, 172]
abbrev dktX2_hour_2 : List UInt8 := dkwX2_hour_2 ++ []
def dkwX2_hour_1 : List UInt8 := [28, 16, 59, 163, 0, 38, 42, 27, 42, 180, 0, 20, 16, 80, 8, 27, 104, 96, 5, 96, 46, 28, 3]
abbrev dktX2_hour_1 : List UInt8 := dkwX2_hour_1 ++ dktX2_hour_2
def dkwX2_hour_0 : List UInt8 := [42, 182, 0, 163, 42, 27, 182, 1, 49, 154, 0, 9, 42, 4, 182, 0, 166, 172, 42, 182, 1, 59, 3, 61]
abbrev dktX2_hour_0 : List UInt8 := dkwX2_hour_0 ++ dktX2_hour_1
theorem dksX2_hour_0 : cX2_hour.data.toList.drop 0 = dktX2_hour_0 := by decide +kernel
theorem dksX2_hour_1 : cX2_hour.data.toList.drop 24 = dktX2_hour_1 := dk_seg dksX2_hour_0 24 rfl rfl
theorem dksX2_hour_2 : cX2_hour.data.toList.drop 47 = dktX2_hour_2 := dk_seg dksX2_hour_1 23 rfl rfl
theorem dX2_hour_0 : decode cX2_hour 0 = .ok (.aload_n 0, 1) := dk_42 (dk_at dksX2_hour_0 0 rfl rfl)
theorem dX2_hour_1 : decode cX2_hour 1 = .ok (.invokevirtual 163, 3) := dk_182 0 163 (dk_at dksX2_hour_0 1 rfl rfl)
theorem dX2_hour_4 : decode cX2_hour 4 = .ok (.aload_n 0, 1) := dk_42 (dk_at dksX2_hour_0 4 rfl rfl)
theorem dX2_hour_5 : decode cX2_hour 5 = .ok (.iload_n 1, 1) := dk_27 (dk_at dksX2_hour_0 5 rfl rfl)
theorem dX2_hour_6 : decode cX2_hour 6 = .ok (.invokevirtual 305, 3) := dk_182 1 49 (dk_at dksX2_hour_0 6 rfl rfl)
theorem dX2_hour_9 : decode cX2_hour 9 = .ok (.ifCond .ne 9, 3) := dk_154 0 9 (dk_at dksX2_hour_0 9 rfl rfl)
theorem dX2_hour_12 : decode cX2_hour 12 = .ok (.aload_n 0, 1) := dk_42 (dk_at dksX2_hour_0 12 rfl rfl)
theorem dX2_hour_13 : decode cX2_hour 13 = .ok (.iconst 1, 1) := dk_4 (dk_at dksX2_hour_0 13 rfl rfl)
theorem dX2_hour_14 : decode cX2_hour 14 = .ok (.invokevirtual 166, 3) := dk_182 0 166 (dk_at dksX2_hour_0 14 rfl rfl)
theorem dX2_hour_17 : decode cX2_hour 17 = .ok (.ireturn, 1) := dk_172 (dk_at dksX2_hour_0 17 rfl rfl)
theorem dX2_hour_18 : decode cX2_hour 18 = .ok (.aload_n 0, 1) := dk_42 (dk_at dksX2_hour_0 18 rfl rfl)
theorem dX2_hour_19 : decode cX2_hour 19 = .ok (.invokevirtual 315, 3) := dk_182 1 59 (dk_at dksX2_hour_0 19 rfl rfl)
theorem dX2_hour_22 : decode cX2_hour 22 = .ok (.iconst 0, 1) := dk_3 (dk_at dksX2_hour_0 22 rfl rfl)
theorem dX2_hour_23 : decode cX2_hour 23 = .ok (.istore_n 2, 1) := dk_61 (dk_at dksX2_hour_0 23 rfl rfl)
theorem dX2_hour_24 : decode cX2_hour 24 = .ok (.iload_n 2, 1) := dk_28 (dk_at dksX2_hour_1 0 rfl rfl)
theorem dX2_hour_25 : decode cX2_hour 25 = .ok (.bipush 59, 2) := dk_16 59 (dk_at dksX2_hour_1 1 rfl rfl)
theorem dX2_hour_27 : decode cX2_hour 27 = .ok (.if_icmp .gt 38, 3) := dk_163 0 38 (dk_at dksX2_hour_1 3 rfl rfl)
theorem dX2_hour_30 : decode cX2_hour 30 = .ok (.aload_n 0, 1) := dk_42 (dk_at dksX2_hour_1 6 rfl rfl)
theorem dX2_hour_31 : decode cX2_hour 31 = .ok (.iload_n 1, 1) := dk_27 (dk_at dksX2_hour_1 7 rfl rfl)
theorem dX2_hour_32 : decode cX2_hour 32 = .ok (.aload_n 0, 1) := dk_42 (dk_at dksX2_hour_1 8 rfl rfl)
theorem dX2_hour_33 : decode cX2_hour 33 = .ok (.getfield 20, 3) := dk_180 0 20 (dk_at dksX2_hour_1 9 rfl rfl)
theorem dX2_hour_36 : decode cX2_hour 36 = .ok (.bipush 80, 2) := dk_16 80 (dk_at dksX2_hour_1 12 rfl rfl)
theorem dX2_hour_38 : decode cX2_hour 38 = .ok (.iconst 5, 1) := dk_8 (dk_at dksX2_hour_1 14 rfl rfl)
theorem dX2_hour_39 : decode cX2_hour 39 = .ok (.iload_n 1, 1) := dk_27 (dk_at dksX2_hour_1 15 rfl rfl)
theorem dX2_hour_40 : decode cX2_hour 40 = .ok (.imul, 1) := dk_104 (dk_at dksX2_hour_1 16 rfl rfl)
theorem dX2_hour_41 : decode cX2_hour 41 = .ok (.iadd, 1) := dk_96 (dk_at dksX2_hour_1 17 rfl rfl)
theorem dX2_hour_42 : decode cX2_hour 42 = .ok (.iconst 2, 1) := dk_5 (dk_at dksX2_hour_1 18 rfl rfl)
theorem dX2_hour_43 : decode cX2_hour 43 = .ok (.iadd, 1) := dk_96 (dk_at dksX2_hour_1 19 rfl rfl)
theorem dX2_hour_44 : decode cX2_hour 44 = .ok (.iaload, 1) := dk_46 (dk_at dksX2_hour_1 20 rfl rfl)
theorem dX2_hour_45 : decode cX2_hour 45 = .ok (.iload_n 2, 1) := dk_28 (dk_at dksX2_hour_1 21 rfl rfl)
theorem dX2_hour_46 : decode cX2_hour 46 = .ok (.iconst 0, 1) := dk_3 (dk_at dksX2_hour_1 22 rfl rfl)
theorem dX2_hour_47 : decode cX2_hour 47 = .ok (.invokevirtual 292, 3) := dk_182 1 36 (dk_at dksX2_hour_2 0 rfl rfl)
theorem dX2_hour_50 : decode cX2_hour 50 = .ok (.aload_n 0, 1) := dk_42 (dk_at dksX2_hour_2 3 rfl rfl)
theorem dX2_hour_51 : decode cX2_hour 51 = .ok (.getfield 269, 3) := dk_180 1 13 (dk_at dksX2_hour_2 4 rfl rfl)
theorem dX2_hour_54 : decode cX2_hour 54 = .ok (.ifCond .le 5, 3) := dk_158 0 5 (dk_at dksX2_hour_2 7 rfl rfl)
theorem dX2_hour_57 : decode cX2_hour 57 = .ok (.iload_n 2, 1) := dk_28 (dk_at dksX2_hour_2 10 rfl rfl)
theorem dX2_hour_58 : decode cX2_hour 58 = .ok (.ireturn, 1) := dk_172 (dk_at dksX2_hour_2 11 rfl rfl)
theorem dX2_hour_59 : decode cX2_hour 59 = .ok (.iinc 2 1, 3) := dk_132 2 1 (dk_at dksX2_hour_2 12 rfl rfl)
theorem dX2_hour_62 : decode cX2_hour 62 = .ok (.goto (-38), 3) := dk_167 255 218 (dk_at dksX2_hour_2 15 rfl rfl)
theorem dX2_hour_65 : decode cX2_hour 65 = .ok (.bipush (-2), 2) := dk_16 254 (dk_at dksX2_hour_2 18 rfl rfl)
theorem dX2_hour_67 : decode cX2_hour 67 = .ok (.ireturn, 1) := dk_172 (dk_at dksX2_hour_2 20 rfl rfl)
abbrev cX2_longest : ByteArray := prog_15_method_83_code
def yX2_longest : MethodName := ⟨RX2, "longest", "(I)I"⟩
def dkwX2_longest_4 : List UInt8 := [132, 4, 1, 167, 255, 186, 28, 172]
abbrev dktX2_longest_4 : List UInt8 := dkwX2_longest_4 ++ []
def dkwX2_longest_3 : List UInt8 := [167, 0, 7, 42, 180, 1, 15, 54, 5, 21, 5, 29, 163, 0, 6, 167, 0, 9, 21, 4, 61, 21, 5, 62]
abbrev dktX2_longest_3 : List UInt8 := dkwX2_longest_3 ++ dktX2_longest_4
def dkwX2_longest_2 : List UInt8 := [16, 80, 8, 27, 104, 96, 6, 96, 46, 3, 182, 1, 36, 42, 180, 1, 13, 16, 254, 160, 0, 8, 16, 60]
abbrev dktX2_longest_2 : List UInt8 := dkwX2_longest_2 ++ dktX2_longest_3
def dkwX2_longest_1 : List UInt8 := [2, 62, 3, 54, 4, 21, 4, 42, 180, 0, 20, 4, 46, 162, 0, 65, 42, 27, 21, 4, 42, 180, 0, 20]
abbrev dktX2_longest_1 : List UInt8 := dkwX2_longest_1 ++ dktX2_longest_2
def dkwX2_longest_0 : List UInt8 := [42, 182, 0, 163, 42, 27, 182, 1, 49, 154, 0, 9, 42, 4, 182, 0, 166, 172, 42, 182, 1, 59, 3, 61]
abbrev dktX2_longest_0 : List UInt8 := dkwX2_longest_0 ++ dktX2_longest_1
theorem dksX2_longest_0 : cX2_longest.data.toList.drop 0 = dktX2_longest_0 := by decide +kernel
theorem dksX2_longest_1 : cX2_longest.data.toList.drop 24 = dktX2_longest_1 := dk_seg dksX2_longest_0 24 rfl rfl
theorem dksX2_longest_2 : cX2_longest.data.toList.drop 48 = dktX2_longest_2 := dk_seg dksX2_longest_1 24 rfl rfl
theorem dksX2_longest_3 : cX2_longest.data.toList.drop 72 = dktX2_longest_3 := dk_seg dksX2_longest_2 24 rfl rfl
theorem dksX2_longest_4 : cX2_longest.data.toList.drop 96 = dktX2_longest_4 := dk_seg dksX2_longest_3 24 rfl rfl
theorem dX2_longest_0 : decode cX2_longest 0 = .ok (.aload_n 0, 1) := dk_42 (dk_at dksX2_longest_0 0 rfl rfl)
theorem dX2_longest_1 : decode cX2_longest 1 = .ok (.invokevirtual 163, 3) := dk_182 0 163 (dk_at dksX2_longest_0 1 rfl rfl)
theorem dX2_longest_4 : decode cX2_longest 4 = .ok (.aload_n 0, 1) := dk_42 (dk_at dksX2_longest_0 4 rfl rfl)
theorem dX2_longest_5 : decode cX2_longest 5 = .ok (.iload_n 1, 1) := dk_27 (dk_at dksX2_longest_0 5 rfl rfl)
theorem dX2_longest_6 : decode cX2_longest 6 = .ok (.invokevirtual 305, 3) := dk_182 1 49 (dk_at dksX2_longest_0 6 rfl rfl)
theorem dX2_longest_9 : decode cX2_longest 9 = .ok (.ifCond .ne 9, 3) := dk_154 0 9 (dk_at dksX2_longest_0 9 rfl rfl)
theorem dX2_longest_12 : decode cX2_longest 12 = .ok (.aload_n 0, 1) := dk_42 (dk_at dksX2_longest_0 12 rfl rfl)
theorem dX2_longest_13 : decode cX2_longest 13 = .ok (.iconst 1, 1) := dk_4 (dk_at dksX2_longest_0 13 rfl rfl)
theorem dX2_longest_14 : decode cX2_longest 14 = .ok (.invokevirtual 166, 3) := dk_182 0 166 (dk_at dksX2_longest_0 14 rfl rfl)
theorem dX2_longest_17 : decode cX2_longest 17 = .ok (.ireturn, 1) := dk_172 (dk_at dksX2_longest_0 17 rfl rfl)
theorem dX2_longest_18 : decode cX2_longest 18 = .ok (.aload_n 0, 1) := dk_42 (dk_at dksX2_longest_0 18 rfl rfl)
theorem dX2_longest_19 : decode cX2_longest 19 = .ok (.invokevirtual 315, 3) := dk_182 1 59 (dk_at dksX2_longest_0 19 rfl rfl)
theorem dX2_longest_22 : decode cX2_longest 22 = .ok (.iconst 0, 1) := dk_3 (dk_at dksX2_longest_0 22 rfl rfl)
theorem dX2_longest_23 : decode cX2_longest 23 = .ok (.istore_n 2, 1) := dk_61 (dk_at dksX2_longest_0 23 rfl rfl)
theorem dX2_longest_24 : decode cX2_longest 24 = .ok (.iconst (-1), 1) := dk_2 (dk_at dksX2_longest_1 0 rfl rfl)
theorem dX2_longest_25 : decode cX2_longest 25 = .ok (.istore_n 3, 1) := dk_62 (dk_at dksX2_longest_1 1 rfl rfl)
theorem dX2_longest_26 : decode cX2_longest 26 = .ok (.iconst 0, 1) := dk_3 (dk_at dksX2_longest_1 2 rfl rfl)
theorem dX2_longest_27 : decode cX2_longest 27 = .ok (.istore 4, 2) := dk_54 4 (dk_at dksX2_longest_1 3 rfl rfl)
theorem dX2_longest_29 : decode cX2_longest 29 = .ok (.iload 4, 2) := dk_21 4 (dk_at dksX2_longest_1 5 rfl rfl)
theorem dX2_longest_31 : decode cX2_longest 31 = .ok (.aload_n 0, 1) := dk_42 (dk_at dksX2_longest_1 7 rfl rfl)
theorem dX2_longest_32 : decode cX2_longest 32 = .ok (.getfield 20, 3) := dk_180 0 20 (dk_at dksX2_longest_1 8 rfl rfl)
theorem dX2_longest_35 : decode cX2_longest 35 = .ok (.iconst 1, 1) := dk_4 (dk_at dksX2_longest_1 11 rfl rfl)
theorem dX2_longest_36 : decode cX2_longest 36 = .ok (.iaload, 1) := dk_46 (dk_at dksX2_longest_1 12 rfl rfl)
theorem dX2_longest_37 : decode cX2_longest 37 = .ok (.if_icmp .ge 65, 3) := dk_162 0 65 (dk_at dksX2_longest_1 13 rfl rfl)
theorem dX2_longest_40 : decode cX2_longest 40 = .ok (.aload_n 0, 1) := dk_42 (dk_at dksX2_longest_1 16 rfl rfl)
theorem dX2_longest_41 : decode cX2_longest 41 = .ok (.iload_n 1, 1) := dk_27 (dk_at dksX2_longest_1 17 rfl rfl)
theorem dX2_longest_42 : decode cX2_longest 42 = .ok (.iload 4, 2) := dk_21 4 (dk_at dksX2_longest_1 18 rfl rfl)
theorem dX2_longest_44 : decode cX2_longest 44 = .ok (.aload_n 0, 1) := dk_42 (dk_at dksX2_longest_1 20 rfl rfl)
theorem dX2_longest_45 : decode cX2_longest 45 = .ok (.getfield 20, 3) := dk_180 0 20 (dk_at dksX2_longest_1 21 rfl rfl)
theorem dX2_longest_48 : decode cX2_longest 48 = .ok (.bipush 80, 2) := dk_16 80 (dk_at dksX2_longest_2 0 rfl rfl)
theorem dX2_longest_50 : decode cX2_longest 50 = .ok (.iconst 5, 1) := dk_8 (dk_at dksX2_longest_2 2 rfl rfl)
theorem dX2_longest_51 : decode cX2_longest 51 = .ok (.iload_n 1, 1) := dk_27 (dk_at dksX2_longest_2 3 rfl rfl)
theorem dX2_longest_52 : decode cX2_longest 52 = .ok (.imul, 1) := dk_104 (dk_at dksX2_longest_2 4 rfl rfl)
theorem dX2_longest_53 : decode cX2_longest 53 = .ok (.iadd, 1) := dk_96 (dk_at dksX2_longest_2 5 rfl rfl)
theorem dX2_longest_54 : decode cX2_longest 54 = .ok (.iconst 3, 1) := dk_6 (dk_at dksX2_longest_2 6 rfl rfl)
theorem dX2_longest_55 : decode cX2_longest 55 = .ok (.iadd, 1) := dk_96 (dk_at dksX2_longest_2 7 rfl rfl)
theorem dX2_longest_56 : decode cX2_longest 56 = .ok (.iaload, 1) := dk_46 (dk_at dksX2_longest_2 8 rfl rfl)
theorem dX2_longest_57 : decode cX2_longest 57 = .ok (.iconst 0, 1) := dk_3 (dk_at dksX2_longest_2 9 rfl rfl)
theorem dX2_longest_58 : decode cX2_longest 58 = .ok (.invokevirtual 292, 3) := dk_182 1 36 (dk_at dksX2_longest_2 10 rfl rfl)
theorem dX2_longest_61 : decode cX2_longest 61 = .ok (.aload_n 0, 1) := dk_42 (dk_at dksX2_longest_2 13 rfl rfl)
theorem dX2_longest_62 : decode cX2_longest 62 = .ok (.getfield 269, 3) := dk_180 1 13 (dk_at dksX2_longest_2 14 rfl rfl)
theorem dX2_longest_65 : decode cX2_longest 65 = .ok (.bipush (-2), 2) := dk_16 254 (dk_at dksX2_longest_2 17 rfl rfl)
theorem dX2_longest_67 : decode cX2_longest 67 = .ok (.if_icmp .ne 8, 3) := dk_160 0 8 (dk_at dksX2_longest_2 19 rfl rfl)
theorem dX2_longest_70 : decode cX2_longest 70 = .ok (.bipush 60, 2) := dk_16 60 (dk_at dksX2_longest_2 22 rfl rfl)
theorem dX2_longest_72 : decode cX2_longest 72 = .ok (.goto 7, 3) := dk_167 0 7 (dk_at dksX2_longest_3 0 rfl rfl)
theorem dX2_longest_75 : decode cX2_longest 75 = .ok (.aload_n 0, 1) := dk_42 (dk_at dksX2_longest_3 3 rfl rfl)
theorem dX2_longest_76 : decode cX2_longest 76 = .ok (.getfield 271, 3) := dk_180 1 15 (dk_at dksX2_longest_3 4 rfl rfl)
theorem dX2_longest_79 : decode cX2_longest 79 = .ok (.istore 5, 2) := dk_54 5 (dk_at dksX2_longest_3 7 rfl rfl)
theorem dX2_longest_81 : decode cX2_longest 81 = .ok (.iload 5, 2) := dk_21 5 (dk_at dksX2_longest_3 9 rfl rfl)
theorem dX2_longest_83 : decode cX2_longest 83 = .ok (.iload_n 3, 1) := dk_29 (dk_at dksX2_longest_3 11 rfl rfl)
theorem dX2_longest_84 : decode cX2_longest 84 = .ok (.if_icmp .gt 6, 3) := dk_163 0 6 (dk_at dksX2_longest_3 12 rfl rfl)
theorem dX2_longest_87 : decode cX2_longest 87 = .ok (.goto 9, 3) := dk_167 0 9 (dk_at dksX2_longest_3 15 rfl rfl)
theorem dX2_longest_90 : decode cX2_longest 90 = .ok (.iload 4, 2) := dk_21 4 (dk_at dksX2_longest_3 18 rfl rfl)
theorem dX2_longest_92 : decode cX2_longest 92 = .ok (.istore_n 2, 1) := dk_61 (dk_at dksX2_longest_3 20 rfl rfl)
theorem dX2_longest_93 : decode cX2_longest 93 = .ok (.iload 5, 2) := dk_21 5 (dk_at dksX2_longest_3 21 rfl rfl)
theorem dX2_longest_95 : decode cX2_longest 95 = .ok (.istore_n 3, 1) := dk_62 (dk_at dksX2_longest_3 23 rfl rfl)
theorem dX2_longest_96 : decode cX2_longest 96 = .ok (.iinc 4 1, 3) := dk_132 4 1 (dk_at dksX2_longest_4 0 rfl rfl)
theorem dX2_longest_99 : decode cX2_longest 99 = .ok (.goto (-70), 3) := dk_167 255 186 (dk_at dksX2_longest_4 3 rfl rfl)
theorem dX2_longest_102 : decode cX2_longest 102 = .ok (.iload_n 2, 1) := dk_28 (dk_at dksX2_longest_4 6 rfl rfl)
theorem dX2_longest_103 : decode cX2_longest 103 = .ok (.ireturn, 1) := dk_172 (dk_at dksX2_longest_4 7 rfl rfl)
abbrev cX2_moor : ByteArray := prog_15_method_84_code
def yX2_moor : MethodName := ⟨RX2, "moo\x72", "(I)I"⟩
def dkwX2_moor_3 : List UInt8 := [132, 2, 1, 167, 255, 207, 16, 254, 172]
abbrev dktX2_moor_3 : List UInt8 := dkwX2_moor_3 ++ []
def dkwX2_moor_2 : List UInt8 := [182, 1, 36, 42, 180, 1, 13, 158, 0, 10, 16, 10, 28, 104, 29, 96, 172, 132, 3, 1, 167, 255, 221]
abbrev dktX2_moor_2 : List UInt8 := dkwX2_moor_2 ++ dktX2_moor_3
def dkwX2_moor_1 : List UInt8 := [28, 16, 59, 163, 0, 49, 3, 62, 29, 42, 180, 0, 20, 4, 46, 162, 0, 31, 42, 27, 29, 28, 3]
abbrev dktX2_moor_1 : List UInt8 := dkwX2_moor_1 ++ dktX2_moor_2
def dkwX2_moor_0 : List UInt8 := [42, 182, 0, 163, 42, 27, 182, 1, 49, 154, 0, 9, 42, 4, 182, 0, 166, 172, 42, 182, 1, 59, 3, 61]
abbrev dktX2_moor_0 : List UInt8 := dkwX2_moor_0 ++ dktX2_moor_1
theorem dksX2_moor_0 : cX2_moor.data.toList.drop 0 = dktX2_moor_0 := by decide +kernel
theorem dksX2_moor_1 : cX2_moor.data.toList.drop 24 = dktX2_moor_1 := dk_seg dksX2_moor_0 24 rfl rfl
theorem dksX2_moor_2 : cX2_moor.data.toList.drop 47 = dktX2_moor_2 := dk_seg dksX2_moor_1 23 rfl rfl
theorem dksX2_moor_3 : cX2_moor.data.toList.drop 70 = dktX2_moor_3 := dk_seg dksX2_moor_2 23 rfl rfl
theorem dX2_moor_0 : decode cX2_moor 0 = .ok (.aload_n 0, 1) := dk_42 (dk_at dksX2_moor_0 0 rfl rfl)
theorem dX2_moor_1 : decode cX2_moor 1 = .ok (.invokevirtual 163, 3) := dk_182 0 163 (dk_at dksX2_moor_0 1 rfl rfl)
theorem dX2_moor_4 : decode cX2_moor 4 = .ok (.aload_n 0, 1) := dk_42 (dk_at dksX2_moor_0 4 rfl rfl)
theorem dX2_moor_5 : decode cX2_moor 5 = .ok (.iload_n 1, 1) := dk_27 (dk_at dksX2_moor_0 5 rfl rfl)
theorem dX2_moor_6 : decode cX2_moor 6 = .ok (.invokevirtual 305, 3) := dk_182 1 49 (dk_at dksX2_moor_0 6 rfl rfl)
theorem dX2_moor_9 : decode cX2_moor 9 = .ok (.ifCond .ne 9, 3) := dk_154 0 9 (dk_at dksX2_moor_0 9 rfl rfl)
theorem dX2_moor_12 : decode cX2_moor 12 = .ok (.aload_n 0, 1) := dk_42 (dk_at dksX2_moor_0 12 rfl rfl)
theorem dX2_moor_13 : decode cX2_moor 13 = .ok (.iconst 1, 1) := dk_4 (dk_at dksX2_moor_0 13 rfl rfl)
theorem dX2_moor_14 : decode cX2_moor 14 = .ok (.invokevirtual 166, 3) := dk_182 0 166 (dk_at dksX2_moor_0 14 rfl rfl)
theorem dX2_moor_17 : decode cX2_moor 17 = .ok (.ireturn, 1) := dk_172 (dk_at dksX2_moor_0 17 rfl rfl)
theorem dX2_moor_18 : decode cX2_moor 18 = .ok (.aload_n 0, 1) := dk_42 (dk_at dksX2_moor_0 18 rfl rfl)
theorem dX2_moor_19 : decode cX2_moor 19 = .ok (.invokevirtual 315, 3) := dk_182 1 59 (dk_at dksX2_moor_0 19 rfl rfl)
theorem dX2_moor_22 : decode cX2_moor 22 = .ok (.iconst 0, 1) := dk_3 (dk_at dksX2_moor_0 22 rfl rfl)
theorem dX2_moor_23 : decode cX2_moor 23 = .ok (.istore_n 2, 1) := dk_61 (dk_at dksX2_moor_0 23 rfl rfl)
theorem dX2_moor_24 : decode cX2_moor 24 = .ok (.iload_n 2, 1) := dk_28 (dk_at dksX2_moor_1 0 rfl rfl)
theorem dX2_moor_25 : decode cX2_moor 25 = .ok (.bipush 59, 2) := dk_16 59 (dk_at dksX2_moor_1 1 rfl rfl)
theorem dX2_moor_27 : decode cX2_moor 27 = .ok (.if_icmp .gt 49, 3) := dk_163 0 49 (dk_at dksX2_moor_1 3 rfl rfl)
theorem dX2_moor_30 : decode cX2_moor 30 = .ok (.iconst 0, 1) := dk_3 (dk_at dksX2_moor_1 6 rfl rfl)
theorem dX2_moor_31 : decode cX2_moor 31 = .ok (.istore_n 3, 1) := dk_62 (dk_at dksX2_moor_1 7 rfl rfl)
theorem dX2_moor_32 : decode cX2_moor 32 = .ok (.iload_n 3, 1) := dk_29 (dk_at dksX2_moor_1 8 rfl rfl)
theorem dX2_moor_33 : decode cX2_moor 33 = .ok (.aload_n 0, 1) := dk_42 (dk_at dksX2_moor_1 9 rfl rfl)
theorem dX2_moor_34 : decode cX2_moor 34 = .ok (.getfield 20, 3) := dk_180 0 20 (dk_at dksX2_moor_1 10 rfl rfl)
theorem dX2_moor_37 : decode cX2_moor 37 = .ok (.iconst 1, 1) := dk_4 (dk_at dksX2_moor_1 13 rfl rfl)
theorem dX2_moor_38 : decode cX2_moor 38 = .ok (.iaload, 1) := dk_46 (dk_at dksX2_moor_1 14 rfl rfl)
theorem dX2_moor_39 : decode cX2_moor 39 = .ok (.if_icmp .ge 31, 3) := dk_162 0 31 (dk_at dksX2_moor_1 15 rfl rfl)
theorem dX2_moor_42 : decode cX2_moor 42 = .ok (.aload_n 0, 1) := dk_42 (dk_at dksX2_moor_1 18 rfl rfl)
theorem dX2_moor_43 : decode cX2_moor 43 = .ok (.iload_n 1, 1) := dk_27 (dk_at dksX2_moor_1 19 rfl rfl)
theorem dX2_moor_44 : decode cX2_moor 44 = .ok (.iload_n 3, 1) := dk_29 (dk_at dksX2_moor_1 20 rfl rfl)
theorem dX2_moor_45 : decode cX2_moor 45 = .ok (.iload_n 2, 1) := dk_28 (dk_at dksX2_moor_1 21 rfl rfl)
theorem dX2_moor_46 : decode cX2_moor 46 = .ok (.iconst 0, 1) := dk_3 (dk_at dksX2_moor_1 22 rfl rfl)
theorem dX2_moor_47 : decode cX2_moor 47 = .ok (.invokevirtual 292, 3) := dk_182 1 36 (dk_at dksX2_moor_2 0 rfl rfl)
theorem dX2_moor_50 : decode cX2_moor 50 = .ok (.aload_n 0, 1) := dk_42 (dk_at dksX2_moor_2 3 rfl rfl)
theorem dX2_moor_51 : decode cX2_moor 51 = .ok (.getfield 269, 3) := dk_180 1 13 (dk_at dksX2_moor_2 4 rfl rfl)
theorem dX2_moor_54 : decode cX2_moor 54 = .ok (.ifCond .le 10, 3) := dk_158 0 10 (dk_at dksX2_moor_2 7 rfl rfl)
theorem dX2_moor_57 : decode cX2_moor 57 = .ok (.bipush 10, 2) := dk_16 10 (dk_at dksX2_moor_2 10 rfl rfl)
theorem dX2_moor_59 : decode cX2_moor 59 = .ok (.iload_n 2, 1) := dk_28 (dk_at dksX2_moor_2 12 rfl rfl)
theorem dX2_moor_60 : decode cX2_moor 60 = .ok (.imul, 1) := dk_104 (dk_at dksX2_moor_2 13 rfl rfl)
theorem dX2_moor_61 : decode cX2_moor 61 = .ok (.iload_n 3, 1) := dk_29 (dk_at dksX2_moor_2 14 rfl rfl)
theorem dX2_moor_62 : decode cX2_moor 62 = .ok (.iadd, 1) := dk_96 (dk_at dksX2_moor_2 15 rfl rfl)
theorem dX2_moor_63 : decode cX2_moor 63 = .ok (.ireturn, 1) := dk_172 (dk_at dksX2_moor_2 16 rfl rfl)
theorem dX2_moor_64 : decode cX2_moor 64 = .ok (.iinc 3 1, 3) := dk_132 3 1 (dk_at dksX2_moor_2 17 rfl rfl)
theorem dX2_moor_67 : decode cX2_moor 67 = .ok (.goto (-35), 3) := dk_167 255 221 (dk_at dksX2_moor_2 20 rfl rfl)
theorem dX2_moor_70 : decode cX2_moor 70 = .ok (.iinc 2 1, 3) := dk_132 2 1 (dk_at dksX2_moor_3 0 rfl rfl)
theorem dX2_moor_73 : decode cX2_moor 73 = .ok (.goto (-49), 3) := dk_167 255 207 (dk_at dksX2_moor_3 3 rfl rfl)
theorem dX2_moor_76 : decode cX2_moor 76 = .ok (.bipush (-2), 2) := dk_16 254 (dk_at dksX2_moor_3 6 rfl rfl)
theorem dX2_moor_78 : decode cX2_moor 78 = .ok (.ireturn, 1) := dk_172 (dk_at dksX2_moor_3 8 rfl rfl)
abbrev cX2_bricks : ByteArray := prog_15_method_85_code
def yX2_bricks : MethodName := ⟨RX2, "bricks", "(I)I"⟩
def dkwX2_bricks_4 : List UInt8 := [158, 0, 5, 29, 61, 132, 3, 1, 167, 255, 181, 28, 172]
abbrev dktX2_bricks_4 : List UInt8 := dkwX2_bricks_4 ++ []
def dkwX2_bricks_3 : List UInt8 := [180, 0, 35, 16, 6, 42, 180, 0, 26, 16, 6, 46, 29, 128, 79, 42, 27, 182, 1, 68, 42, 180, 1, 13]
abbrev dktX2_bricks_3 : List UInt8 := dkwX2_bricks_3 ++ dktX2_bricks_4
def dkwX2_bricks_2 : List UInt8 := [154, 0, 51, 28, 155, 0, 17, 29, 184, 1, 77, 28, 184, 1, 77, 161, 0, 6, 167, 0, 33, 42]
abbrev dktX2_bricks_2 : List UInt8 := dkwX2_bricks_2 ++ dktX2_bricks_3
def dkwX2_bricks_1 : List UInt8 := [61, 3, 62, 29, 4, 42, 180, 0, 20, 5, 46, 120, 162, 0, 69, 29, 42, 180, 0, 26, 16, 6, 46, 126]
abbrev dktX2_bricks_1 : List UInt8 := dkwX2_bricks_1 ++ dktX2_bricks_2
def dkwX2_bricks_0 : List UInt8 := [42, 182, 0, 163, 42, 27, 182, 1, 49, 154, 0, 9, 42, 4, 182, 0, 166, 172, 42, 182, 1, 59, 16, 254]
abbrev dktX2_bricks_0 : List UInt8 := dkwX2_bricks_0 ++ dktX2_bricks_1
theorem dksX2_bricks_0 : cX2_bricks.data.toList.drop 0 = dktX2_bricks_0 := by decide +kernel
theorem dksX2_bricks_1 : cX2_bricks.data.toList.drop 24 = dktX2_bricks_1 := dk_seg dksX2_bricks_0 24 rfl rfl
theorem dksX2_bricks_2 : cX2_bricks.data.toList.drop 48 = dktX2_bricks_2 := dk_seg dksX2_bricks_1 24 rfl rfl
theorem dksX2_bricks_3 : cX2_bricks.data.toList.drop 70 = dktX2_bricks_3 := dk_seg dksX2_bricks_2 22 rfl rfl
theorem dksX2_bricks_4 : cX2_bricks.data.toList.drop 94 = dktX2_bricks_4 := dk_seg dksX2_bricks_3 24 rfl rfl
theorem dX2_bricks_0 : decode cX2_bricks 0 = .ok (.aload_n 0, 1) := dk_42 (dk_at dksX2_bricks_0 0 rfl rfl)
theorem dX2_bricks_1 : decode cX2_bricks 1 = .ok (.invokevirtual 163, 3) := dk_182 0 163 (dk_at dksX2_bricks_0 1 rfl rfl)
theorem dX2_bricks_4 : decode cX2_bricks 4 = .ok (.aload_n 0, 1) := dk_42 (dk_at dksX2_bricks_0 4 rfl rfl)
theorem dX2_bricks_5 : decode cX2_bricks 5 = .ok (.iload_n 1, 1) := dk_27 (dk_at dksX2_bricks_0 5 rfl rfl)
theorem dX2_bricks_6 : decode cX2_bricks 6 = .ok (.invokevirtual 305, 3) := dk_182 1 49 (dk_at dksX2_bricks_0 6 rfl rfl)
theorem dX2_bricks_9 : decode cX2_bricks 9 = .ok (.ifCond .ne 9, 3) := dk_154 0 9 (dk_at dksX2_bricks_0 9 rfl rfl)
theorem dX2_bricks_12 : decode cX2_bricks 12 = .ok (.aload_n 0, 1) := dk_42 (dk_at dksX2_bricks_0 12 rfl rfl)
theorem dX2_bricks_13 : decode cX2_bricks 13 = .ok (.iconst 1, 1) := dk_4 (dk_at dksX2_bricks_0 13 rfl rfl)
theorem dX2_bricks_14 : decode cX2_bricks 14 = .ok (.invokevirtual 166, 3) := dk_182 0 166 (dk_at dksX2_bricks_0 14 rfl rfl)
theorem dX2_bricks_17 : decode cX2_bricks 17 = .ok (.ireturn, 1) := dk_172 (dk_at dksX2_bricks_0 17 rfl rfl)
theorem dX2_bricks_18 : decode cX2_bricks 18 = .ok (.aload_n 0, 1) := dk_42 (dk_at dksX2_bricks_0 18 rfl rfl)
theorem dX2_bricks_19 : decode cX2_bricks 19 = .ok (.invokevirtual 315, 3) := dk_182 1 59 (dk_at dksX2_bricks_0 19 rfl rfl)
theorem dX2_bricks_22 : decode cX2_bricks 22 = .ok (.bipush (-2), 2) := dk_16 254 (dk_at dksX2_bricks_0 22 rfl rfl)
theorem dX2_bricks_24 : decode cX2_bricks 24 = .ok (.istore_n 2, 1) := dk_61 (dk_at dksX2_bricks_1 0 rfl rfl)
theorem dX2_bricks_25 : decode cX2_bricks 25 = .ok (.iconst 0, 1) := dk_3 (dk_at dksX2_bricks_1 1 rfl rfl)
theorem dX2_bricks_26 : decode cX2_bricks 26 = .ok (.istore_n 3, 1) := dk_62 (dk_at dksX2_bricks_1 2 rfl rfl)
theorem dX2_bricks_27 : decode cX2_bricks 27 = .ok (.iload_n 3, 1) := dk_29 (dk_at dksX2_bricks_1 3 rfl rfl)
theorem dX2_bricks_28 : decode cX2_bricks 28 = .ok (.iconst 1, 1) := dk_4 (dk_at dksX2_bricks_1 4 rfl rfl)
theorem dX2_bricks_29 : decode cX2_bricks 29 = .ok (.aload_n 0, 1) := dk_42 (dk_at dksX2_bricks_1 5 rfl rfl)
theorem dX2_bricks_30 : decode cX2_bricks 30 = .ok (.getfield 20, 3) := dk_180 0 20 (dk_at dksX2_bricks_1 6 rfl rfl)
theorem dX2_bricks_33 : decode cX2_bricks 33 = .ok (.iconst 2, 1) := dk_5 (dk_at dksX2_bricks_1 9 rfl rfl)
theorem dX2_bricks_34 : decode cX2_bricks 34 = .ok (.iaload, 1) := dk_46 (dk_at dksX2_bricks_1 10 rfl rfl)
theorem dX2_bricks_35 : decode cX2_bricks 35 = .ok (.ishl, 1) := dk_120 (dk_at dksX2_bricks_1 11 rfl rfl)
theorem dX2_bricks_36 : decode cX2_bricks 36 = .ok (.if_icmp .ge 69, 3) := dk_162 0 69 (dk_at dksX2_bricks_1 12 rfl rfl)
theorem dX2_bricks_39 : decode cX2_bricks 39 = .ok (.iload_n 3, 1) := dk_29 (dk_at dksX2_bricks_1 15 rfl rfl)
theorem dX2_bricks_40 : decode cX2_bricks 40 = .ok (.aload_n 0, 1) := dk_42 (dk_at dksX2_bricks_1 16 rfl rfl)
theorem dX2_bricks_41 : decode cX2_bricks 41 = .ok (.getfield 26, 3) := dk_180 0 26 (dk_at dksX2_bricks_1 17 rfl rfl)
theorem dX2_bricks_44 : decode cX2_bricks 44 = .ok (.bipush 6, 2) := dk_16 6 (dk_at dksX2_bricks_1 20 rfl rfl)
theorem dX2_bricks_46 : decode cX2_bricks 46 = .ok (.iaload, 1) := dk_46 (dk_at dksX2_bricks_1 22 rfl rfl)
theorem dX2_bricks_47 : decode cX2_bricks 47 = .ok (.iand, 1) := dk_126 (dk_at dksX2_bricks_1 23 rfl rfl)
theorem dX2_bricks_48 : decode cX2_bricks 48 = .ok (.ifCond .ne 51, 3) := dk_154 0 51 (dk_at dksX2_bricks_2 0 rfl rfl)
theorem dX2_bricks_51 : decode cX2_bricks 51 = .ok (.iload_n 2, 1) := dk_28 (dk_at dksX2_bricks_2 3 rfl rfl)
theorem dX2_bricks_52 : decode cX2_bricks 52 = .ok (.ifCond .lt 17, 3) := dk_155 0 17 (dk_at dksX2_bricks_2 4 rfl rfl)
theorem dX2_bricks_55 : decode cX2_bricks 55 = .ok (.iload_n 3, 1) := dk_29 (dk_at dksX2_bricks_2 7 rfl rfl)
theorem dX2_bricks_56 : decode cX2_bricks 56 = .ok (.invokestatic 333, 3) := dk_184 1 77 (dk_at dksX2_bricks_2 8 rfl rfl)
theorem dX2_bricks_59 : decode cX2_bricks 59 = .ok (.iload_n 2, 1) := dk_28 (dk_at dksX2_bricks_2 11 rfl rfl)
theorem dX2_bricks_60 : decode cX2_bricks 60 = .ok (.invokestatic 333, 3) := dk_184 1 77 (dk_at dksX2_bricks_2 12 rfl rfl)
theorem dX2_bricks_63 : decode cX2_bricks 63 = .ok (.if_icmp .lt 6, 3) := dk_161 0 6 (dk_at dksX2_bricks_2 15 rfl rfl)
theorem dX2_bricks_66 : decode cX2_bricks 66 = .ok (.goto 33, 3) := dk_167 0 33 (dk_at dksX2_bricks_2 18 rfl rfl)
theorem dX2_bricks_69 : decode cX2_bricks 69 = .ok (.aload_n 0, 1) := dk_42 (dk_at dksX2_bricks_2 21 rfl rfl)
theorem dX2_bricks_70 : decode cX2_bricks 70 = .ok (.getfield 35, 3) := dk_180 0 35 (dk_at dksX2_bricks_3 0 rfl rfl)
theorem dX2_bricks_73 : decode cX2_bricks 73 = .ok (.bipush 6, 2) := dk_16 6 (dk_at dksX2_bricks_3 3 rfl rfl)
theorem dX2_bricks_75 : decode cX2_bricks 75 = .ok (.aload_n 0, 1) := dk_42 (dk_at dksX2_bricks_3 5 rfl rfl)
theorem dX2_bricks_76 : decode cX2_bricks 76 = .ok (.getfield 26, 3) := dk_180 0 26 (dk_at dksX2_bricks_3 6 rfl rfl)
theorem dX2_bricks_79 : decode cX2_bricks 79 = .ok (.bipush 6, 2) := dk_16 6 (dk_at dksX2_bricks_3 9 rfl rfl)
theorem dX2_bricks_81 : decode cX2_bricks 81 = .ok (.iaload, 1) := dk_46 (dk_at dksX2_bricks_3 11 rfl rfl)
theorem dX2_bricks_82 : decode cX2_bricks 82 = .ok (.iload_n 3, 1) := dk_29 (dk_at dksX2_bricks_3 12 rfl rfl)
theorem dX2_bricks_83 : decode cX2_bricks 83 = .ok (.ior, 1) := dk_128 (dk_at dksX2_bricks_3 13 rfl rfl)
theorem dX2_bricks_84 : decode cX2_bricks 84 = .ok (.iastore, 1) := dk_79 (dk_at dksX2_bricks_3 14 rfl rfl)
theorem dX2_bricks_85 : decode cX2_bricks 85 = .ok (.aload_n 0, 1) := dk_42 (dk_at dksX2_bricks_3 15 rfl rfl)
theorem dX2_bricks_86 : decode cX2_bricks 86 = .ok (.iload_n 1, 1) := dk_27 (dk_at dksX2_bricks_3 16 rfl rfl)
theorem dX2_bricks_87 : decode cX2_bricks 87 = .ok (.invokevirtual 324, 3) := dk_182 1 68 (dk_at dksX2_bricks_3 17 rfl rfl)
theorem dX2_bricks_90 : decode cX2_bricks 90 = .ok (.aload_n 0, 1) := dk_42 (dk_at dksX2_bricks_3 20 rfl rfl)
theorem dX2_bricks_91 : decode cX2_bricks 91 = .ok (.getfield 269, 3) := dk_180 1 13 (dk_at dksX2_bricks_3 21 rfl rfl)
theorem dX2_bricks_94 : decode cX2_bricks 94 = .ok (.ifCond .le 5, 3) := dk_158 0 5 (dk_at dksX2_bricks_4 0 rfl rfl)
theorem dX2_bricks_97 : decode cX2_bricks 97 = .ok (.iload_n 3, 1) := dk_29 (dk_at dksX2_bricks_4 3 rfl rfl)
theorem dX2_bricks_98 : decode cX2_bricks 98 = .ok (.istore_n 2, 1) := dk_61 (dk_at dksX2_bricks_4 4 rfl rfl)
theorem dX2_bricks_99 : decode cX2_bricks 99 = .ok (.iinc 3 1, 3) := dk_132 3 1 (dk_at dksX2_bricks_4 5 rfl rfl)
theorem dX2_bricks_102 : decode cX2_bricks 102 = .ok (.goto (-75), 3) := dk_167 255 181 (dk_at dksX2_bricks_4 8 rfl rfl)
theorem dX2_bricks_105 : decode cX2_bricks 105 = .ok (.iload_n 2, 1) := dk_28 (dk_at dksX2_bricks_4 11 rfl rfl)
theorem dX2_bricks_106 : decode cX2_bricks 106 = .ok (.ireturn, 1) := dk_172 (dk_at dksX2_bricks_4 12 rfl rfl)
abbrev cX2_stoppers : ByteArray := prog_15_method_89_code
def yX2_stoppers : MethodName := ⟨RX2, "stoppers", "(I)I"⟩
def dkwX2_stoppers_1 : List UInt8 := [182, 0, 166, 172]
abbrev dktX2_stoppers_1 : List UInt8 := dkwX2_stoppers_1 ++ []
def dkwX2_stoppers_0 : List UInt8 := [42, 182, 0, 163, 42, 27, 182, 1, 49, 153, 0, 11, 42, 27, 182, 1, 86, 167, 0, 8, 42, 4]
abbrev dktX2_stoppers_0 : List UInt8 := dkwX2_stoppers_0 ++ dktX2_stoppers_1
theorem dksX2_stoppers_0 : cX2_stoppers.data.toList.drop 0 = dktX2_stoppers_0 := by decide +kernel
theorem dksX2_stoppers_1 : cX2_stoppers.data.toList.drop 22 = dktX2_stoppers_1 := dk_seg dksX2_stoppers_0 22 rfl rfl
theorem dX2_stoppers_0 : decode cX2_stoppers 0 = .ok (.aload_n 0, 1) := dk_42 (dk_at dksX2_stoppers_0 0 rfl rfl)
theorem dX2_stoppers_1 : decode cX2_stoppers 1 = .ok (.invokevirtual 163, 3) := dk_182 0 163 (dk_at dksX2_stoppers_0 1 rfl rfl)
theorem dX2_stoppers_4 : decode cX2_stoppers 4 = .ok (.aload_n 0, 1) := dk_42 (dk_at dksX2_stoppers_0 4 rfl rfl)
theorem dX2_stoppers_5 : decode cX2_stoppers 5 = .ok (.iload_n 1, 1) := dk_27 (dk_at dksX2_stoppers_0 5 rfl rfl)
theorem dX2_stoppers_6 : decode cX2_stoppers 6 = .ok (.invokevirtual 305, 3) := dk_182 1 49 (dk_at dksX2_stoppers_0 6 rfl rfl)
theorem dX2_stoppers_9 : decode cX2_stoppers 9 = .ok (.ifCond .eq 11, 3) := dk_153 0 11 (dk_at dksX2_stoppers_0 9 rfl rfl)
theorem dX2_stoppers_12 : decode cX2_stoppers 12 = .ok (.aload_n 0, 1) := dk_42 (dk_at dksX2_stoppers_0 12 rfl rfl)
theorem dX2_stoppers_13 : decode cX2_stoppers 13 = .ok (.iload_n 1, 1) := dk_27 (dk_at dksX2_stoppers_0 13 rfl rfl)
theorem dX2_stoppers_14 : decode cX2_stoppers 14 = .ok (.invokevirtual 342, 3) := dk_182 1 86 (dk_at dksX2_stoppers_0 14 rfl rfl)
theorem dX2_stoppers_17 : decode cX2_stoppers 17 = .ok (.goto 8, 3) := dk_167 0 8 (dk_at dksX2_stoppers_0 17 rfl rfl)
theorem dX2_stoppers_20 : decode cX2_stoppers 20 = .ok (.aload_n 0, 1) := dk_42 (dk_at dksX2_stoppers_0 20 rfl rfl)
theorem dX2_stoppers_21 : decode cX2_stoppers 21 = .ok (.iconst 1, 1) := dk_4 (dk_at dksX2_stoppers_0 21 rfl rfl)
theorem dX2_stoppers_22 : decode cX2_stoppers 22 = .ok (.invokevirtual 166, 3) := dk_182 0 166 (dk_at dksX2_stoppers_1 0 rfl rfl)
theorem dX2_stoppers_25 : decode cX2_stoppers 25 = .ok (.ireturn, 1) := dk_172 (dk_at dksX2_stoppers_1 3 rfl rfl)
abbrev cX2_stoppersOf : ByteArray := prog_15_method_88_code
def yX2_stoppersOf : MethodName := ⟨RX2, "stoppersOf", "(I)I"⟩
def dkwX2_stoppersOf_8 : List UInt8 := [182, 1, 68, 42, 180, 1, 13, 154, 0, 7, 21, 5, 54, 4, 132, 5, 1, 167, 255, 141, 21, 4, 172]
abbrev dktX2_stoppersOf_8 : List UInt8 := dkwX2_stoppersOf_8 ++ []
def dkwX2_stoppersOf_7 : List UInt8 := [180, 0, 35, 21, 6, 42, 180, 0, 20, 28, 5, 96, 46, 4, 96, 79, 132, 6, 1, 167, 255, 215, 42, 27]
abbrev dktX2_stoppersOf_7 : List UInt8 := dkwX2_stoppersOf_7 ++ dktX2_stoppersOf_8
def dkwX2_stoppersOf_6 : List UInt8 := [21, 6, 42, 180, 0, 20, 6, 46, 162, 0, 36, 21, 5, 21, 6, 184, 0, 252, 153, 0, 20, 42]
abbrev dktX2_stoppersOf_6 : List UInt8 := dkwX2_stoppersOf_6 ++ dktX2_stoppersOf_7
def dkwX2_stoppersOf_5 : List UInt8 := [21, 5, 182, 1, 83, 42, 21, 4, 182, 1, 83, 161, 0, 6, 167, 0, 70, 42, 182, 1, 59, 3, 54, 6]
abbrev dktX2_stoppersOf_5 : List UInt8 := dkwX2_stoppersOf_5 ++ dktX2_stoppersOf_6
def dkwX2_stoppersOf_4 : List UInt8 := [180, 0, 20, 6, 46, 120, 162, 0, 108, 21, 5, 29, 2, 130, 126, 154, 0, 93, 21, 4, 155, 0, 21, 42]
abbrev dktX2_stoppersOf_4 : List UInt8 := dkwX2_stoppersOf_4 ++ dktX2_stoppersOf_5
def dkwX2_stoppersOf_3 : List UInt8 := [120, 167, 0, 4, 3, 128, 62, 132, 4, 1, 167, 255, 188, 16, 254, 54, 4, 3, 54, 5, 21, 5, 4, 42]
abbrev dktX2_stoppersOf_3 : List UInt8 := dkwX2_stoppersOf_3 ++ dktX2_stoppersOf_4
def dkwX2_stoppersOf_2 : List UInt8 := [180, 0, 20, 28, 46, 159, 0, 23, 21, 4, 42, 180, 0, 20, 28, 4, 96, 46, 159, 0, 10, 4, 21, 4]
abbrev dktX2_stoppersOf_2 : List UInt8 := dkwX2_stoppersOf_2 ++ dktX2_stoppersOf_3
def dkwX2_stoppersOf_1 : List UInt8 := [42, 21, 4, 182, 1, 80, 153, 0, 44, 42, 180, 0, 26, 21, 4, 46, 154, 0, 34, 21, 4, 42]
abbrev dktX2_stoppersOf_1 : List UInt8 := dkwX2_stoppersOf_1 ++ dktX2_stoppersOf_2
def dkwX2_stoppersOf_0 : List UInt8 := [16, 80, 8, 27, 104, 96, 61, 3, 62, 3, 54, 4, 21, 4, 42, 180, 0, 20, 6, 46, 162, 0, 63, 29]
abbrev dktX2_stoppersOf_0 : List UInt8 := dkwX2_stoppersOf_0 ++ dktX2_stoppersOf_1
theorem dksX2_stoppersOf_0 : cX2_stoppersOf.data.toList.drop 0 = dktX2_stoppersOf_0 := by decide +kernel
theorem dksX2_stoppersOf_1 : cX2_stoppersOf.data.toList.drop 24 = dktX2_stoppersOf_1 := dk_seg dksX2_stoppersOf_0 24 rfl rfl
theorem dksX2_stoppersOf_2 : cX2_stoppersOf.data.toList.drop 46 = dktX2_stoppersOf_2 := dk_seg dksX2_stoppersOf_1 22 rfl rfl
theorem dksX2_stoppersOf_3 : cX2_stoppersOf.data.toList.drop 70 = dktX2_stoppersOf_3 := dk_seg dksX2_stoppersOf_2 24 rfl rfl
theorem dksX2_stoppersOf_4 : cX2_stoppersOf.data.toList.drop 94 = dktX2_stoppersOf_4 := dk_seg dksX2_stoppersOf_3 24 rfl rfl
theorem dksX2_stoppersOf_5 : cX2_stoppersOf.data.toList.drop 118 = dktX2_stoppersOf_5 := dk_seg dksX2_stoppersOf_4 24 rfl rfl
theorem dksX2_stoppersOf_6 : cX2_stoppersOf.data.toList.drop 142 = dktX2_stoppersOf_6 := dk_seg dksX2_stoppersOf_5 24 rfl rfl
theorem dksX2_stoppersOf_7 : cX2_stoppersOf.data.toList.drop 164 = dktX2_stoppersOf_7 := dk_seg dksX2_stoppersOf_6 22 rfl rfl
theorem dksX2_stoppersOf_8 : cX2_stoppersOf.data.toList.drop 188 = dktX2_stoppersOf_8 := dk_seg dksX2_stoppersOf_7 24 rfl rfl
theorem dX2_stoppersOf_0 : decode cX2_stoppersOf 0 = .ok (.bipush 80, 2) := dk_16 80 (dk_at dksX2_stoppersOf_0 0 rfl rfl)
theorem dX2_stoppersOf_2 : decode cX2_stoppersOf 2 = .ok (.iconst 5, 1) := dk_8 (dk_at dksX2_stoppersOf_0 2 rfl rfl)
theorem dX2_stoppersOf_3 : decode cX2_stoppersOf 3 = .ok (.iload_n 1, 1) := dk_27 (dk_at dksX2_stoppersOf_0 3 rfl rfl)
theorem dX2_stoppersOf_4 : decode cX2_stoppersOf 4 = .ok (.imul, 1) := dk_104 (dk_at dksX2_stoppersOf_0 4 rfl rfl)
theorem dX2_stoppersOf_5 : decode cX2_stoppersOf 5 = .ok (.iadd, 1) := dk_96 (dk_at dksX2_stoppersOf_0 5 rfl rfl)
theorem dX2_stoppersOf_6 : decode cX2_stoppersOf 6 = .ok (.istore_n 2, 1) := dk_61 (dk_at dksX2_stoppersOf_0 6 rfl rfl)
theorem dX2_stoppersOf_7 : decode cX2_stoppersOf 7 = .ok (.iconst 0, 1) := dk_3 (dk_at dksX2_stoppersOf_0 7 rfl rfl)
theorem dX2_stoppersOf_8 : decode cX2_stoppersOf 8 = .ok (.istore_n 3, 1) := dk_62 (dk_at dksX2_stoppersOf_0 8 rfl rfl)
theorem dX2_stoppersOf_9 : decode cX2_stoppersOf 9 = .ok (.iconst 0, 1) := dk_3 (dk_at dksX2_stoppersOf_0 9 rfl rfl)
theorem dX2_stoppersOf_10 : decode cX2_stoppersOf 10 = .ok (.istore 4, 2) := dk_54 4 (dk_at dksX2_stoppersOf_0 10 rfl rfl)
theorem dX2_stoppersOf_12 : decode cX2_stoppersOf 12 = .ok (.iload 4, 2) := dk_21 4 (dk_at dksX2_stoppersOf_0 12 rfl rfl)
theorem dX2_stoppersOf_14 : decode cX2_stoppersOf 14 = .ok (.aload_n 0, 1) := dk_42 (dk_at dksX2_stoppersOf_0 14 rfl rfl)
theorem dX2_stoppersOf_15 : decode cX2_stoppersOf 15 = .ok (.getfield 20, 3) := dk_180 0 20 (dk_at dksX2_stoppersOf_0 15 rfl rfl)
theorem dX2_stoppersOf_18 : decode cX2_stoppersOf 18 = .ok (.iconst 3, 1) := dk_6 (dk_at dksX2_stoppersOf_0 18 rfl rfl)
theorem dX2_stoppersOf_19 : decode cX2_stoppersOf 19 = .ok (.iaload, 1) := dk_46 (dk_at dksX2_stoppersOf_0 19 rfl rfl)
theorem dX2_stoppersOf_20 : decode cX2_stoppersOf 20 = .ok (.if_icmp .ge 63, 3) := dk_162 0 63 (dk_at dksX2_stoppersOf_0 20 rfl rfl)
theorem dX2_stoppersOf_23 : decode cX2_stoppersOf 23 = .ok (.iload_n 3, 1) := dk_29 (dk_at dksX2_stoppersOf_0 23 rfl rfl)
theorem dX2_stoppersOf_24 : decode cX2_stoppersOf 24 = .ok (.aload_n 0, 1) := dk_42 (dk_at dksX2_stoppersOf_1 0 rfl rfl)
theorem dX2_stoppersOf_25 : decode cX2_stoppersOf 25 = .ok (.iload 4, 2) := dk_21 4 (dk_at dksX2_stoppersOf_1 1 rfl rfl)
theorem dX2_stoppersOf_27 : decode cX2_stoppersOf 27 = .ok (.invokevirtual 336, 3) := dk_182 1 80 (dk_at dksX2_stoppersOf_1 3 rfl rfl)
theorem dX2_stoppersOf_30 : decode cX2_stoppersOf 30 = .ok (.ifCond .eq 44, 3) := dk_153 0 44 (dk_at dksX2_stoppersOf_1 6 rfl rfl)
theorem dX2_stoppersOf_33 : decode cX2_stoppersOf 33 = .ok (.aload_n 0, 1) := dk_42 (dk_at dksX2_stoppersOf_1 9 rfl rfl)
theorem dX2_stoppersOf_34 : decode cX2_stoppersOf 34 = .ok (.getfield 26, 3) := dk_180 0 26 (dk_at dksX2_stoppersOf_1 10 rfl rfl)
theorem dX2_stoppersOf_37 : decode cX2_stoppersOf 37 = .ok (.iload 4, 2) := dk_21 4 (dk_at dksX2_stoppersOf_1 13 rfl rfl)
theorem dX2_stoppersOf_39 : decode cX2_stoppersOf 39 = .ok (.iaload, 1) := dk_46 (dk_at dksX2_stoppersOf_1 15 rfl rfl)
theorem dX2_stoppersOf_40 : decode cX2_stoppersOf 40 = .ok (.ifCond .ne 34, 3) := dk_154 0 34 (dk_at dksX2_stoppersOf_1 16 rfl rfl)
theorem dX2_stoppersOf_43 : decode cX2_stoppersOf 43 = .ok (.iload 4, 2) := dk_21 4 (dk_at dksX2_stoppersOf_1 19 rfl rfl)
theorem dX2_stoppersOf_45 : decode cX2_stoppersOf 45 = .ok (.aload_n 0, 1) := dk_42 (dk_at dksX2_stoppersOf_1 21 rfl rfl)
theorem dX2_stoppersOf_46 : decode cX2_stoppersOf 46 = .ok (.getfield 20, 3) := dk_180 0 20 (dk_at dksX2_stoppersOf_2 0 rfl rfl)
theorem dX2_stoppersOf_49 : decode cX2_stoppersOf 49 = .ok (.iload_n 2, 1) := dk_28 (dk_at dksX2_stoppersOf_2 3 rfl rfl)
theorem dX2_stoppersOf_50 : decode cX2_stoppersOf 50 = .ok (.iaload, 1) := dk_46 (dk_at dksX2_stoppersOf_2 4 rfl rfl)
theorem dX2_stoppersOf_51 : decode cX2_stoppersOf 51 = .ok (.if_icmp .eq 23, 3) := dk_159 0 23 (dk_at dksX2_stoppersOf_2 5 rfl rfl)
theorem dX2_stoppersOf_54 : decode cX2_stoppersOf 54 = .ok (.iload 4, 2) := dk_21 4 (dk_at dksX2_stoppersOf_2 8 rfl rfl)
theorem dX2_stoppersOf_56 : decode cX2_stoppersOf 56 = .ok (.aload_n 0, 1) := dk_42 (dk_at dksX2_stoppersOf_2 10 rfl rfl)
theorem dX2_stoppersOf_57 : decode cX2_stoppersOf 57 = .ok (.getfield 20, 3) := dk_180 0 20 (dk_at dksX2_stoppersOf_2 11 rfl rfl)
theorem dX2_stoppersOf_60 : decode cX2_stoppersOf 60 = .ok (.iload_n 2, 1) := dk_28 (dk_at dksX2_stoppersOf_2 14 rfl rfl)
theorem dX2_stoppersOf_61 : decode cX2_stoppersOf 61 = .ok (.iconst 1, 1) := dk_4 (dk_at dksX2_stoppersOf_2 15 rfl rfl)
theorem dX2_stoppersOf_62 : decode cX2_stoppersOf 62 = .ok (.iadd, 1) := dk_96 (dk_at dksX2_stoppersOf_2 16 rfl rfl)
theorem dX2_stoppersOf_63 : decode cX2_stoppersOf 63 = .ok (.iaload, 1) := dk_46 (dk_at dksX2_stoppersOf_2 17 rfl rfl)
theorem dX2_stoppersOf_64 : decode cX2_stoppersOf 64 = .ok (.if_icmp .eq 10, 3) := dk_159 0 10 (dk_at dksX2_stoppersOf_2 18 rfl rfl)
theorem dX2_stoppersOf_67 : decode cX2_stoppersOf 67 = .ok (.iconst 1, 1) := dk_4 (dk_at dksX2_stoppersOf_2 21 rfl rfl)
theorem dX2_stoppersOf_68 : decode cX2_stoppersOf 68 = .ok (.iload 4, 2) := dk_21 4 (dk_at dksX2_stoppersOf_2 22 rfl rfl)
theorem dX2_stoppersOf_70 : decode cX2_stoppersOf 70 = .ok (.ishl, 1) := dk_120 (dk_at dksX2_stoppersOf_3 0 rfl rfl)
theorem dX2_stoppersOf_71 : decode cX2_stoppersOf 71 = .ok (.goto 4, 3) := dk_167 0 4 (dk_at dksX2_stoppersOf_3 1 rfl rfl)
theorem dX2_stoppersOf_74 : decode cX2_stoppersOf 74 = .ok (.iconst 0, 1) := dk_3 (dk_at dksX2_stoppersOf_3 4 rfl rfl)
theorem dX2_stoppersOf_75 : decode cX2_stoppersOf 75 = .ok (.ior, 1) := dk_128 (dk_at dksX2_stoppersOf_3 5 rfl rfl)
theorem dX2_stoppersOf_76 : decode cX2_stoppersOf 76 = .ok (.istore_n 3, 1) := dk_62 (dk_at dksX2_stoppersOf_3 6 rfl rfl)
theorem dX2_stoppersOf_77 : decode cX2_stoppersOf 77 = .ok (.iinc 4 1, 3) := dk_132 4 1 (dk_at dksX2_stoppersOf_3 7 rfl rfl)
theorem dX2_stoppersOf_80 : decode cX2_stoppersOf 80 = .ok (.goto (-68), 3) := dk_167 255 188 (dk_at dksX2_stoppersOf_3 10 rfl rfl)
theorem dX2_stoppersOf_83 : decode cX2_stoppersOf 83 = .ok (.bipush (-2), 2) := dk_16 254 (dk_at dksX2_stoppersOf_3 13 rfl rfl)
theorem dX2_stoppersOf_85 : decode cX2_stoppersOf 85 = .ok (.istore 4, 2) := dk_54 4 (dk_at dksX2_stoppersOf_3 15 rfl rfl)
theorem dX2_stoppersOf_87 : decode cX2_stoppersOf 87 = .ok (.iconst 0, 1) := dk_3 (dk_at dksX2_stoppersOf_3 17 rfl rfl)
theorem dX2_stoppersOf_88 : decode cX2_stoppersOf 88 = .ok (.istore 5, 2) := dk_54 5 (dk_at dksX2_stoppersOf_3 18 rfl rfl)
theorem dX2_stoppersOf_90 : decode cX2_stoppersOf 90 = .ok (.iload 5, 2) := dk_21 5 (dk_at dksX2_stoppersOf_3 20 rfl rfl)
theorem dX2_stoppersOf_92 : decode cX2_stoppersOf 92 = .ok (.iconst 1, 1) := dk_4 (dk_at dksX2_stoppersOf_3 22 rfl rfl)
theorem dX2_stoppersOf_93 : decode cX2_stoppersOf 93 = .ok (.aload_n 0, 1) := dk_42 (dk_at dksX2_stoppersOf_3 23 rfl rfl)
theorem dX2_stoppersOf_94 : decode cX2_stoppersOf 94 = .ok (.getfield 20, 3) := dk_180 0 20 (dk_at dksX2_stoppersOf_4 0 rfl rfl)
theorem dX2_stoppersOf_97 : decode cX2_stoppersOf 97 = .ok (.iconst 3, 1) := dk_6 (dk_at dksX2_stoppersOf_4 3 rfl rfl)
theorem dX2_stoppersOf_98 : decode cX2_stoppersOf 98 = .ok (.iaload, 1) := dk_46 (dk_at dksX2_stoppersOf_4 4 rfl rfl)
theorem dX2_stoppersOf_99 : decode cX2_stoppersOf 99 = .ok (.ishl, 1) := dk_120 (dk_at dksX2_stoppersOf_4 5 rfl rfl)
theorem dX2_stoppersOf_100 : decode cX2_stoppersOf 100 = .ok (.if_icmp .ge 108, 3) := dk_162 0 108 (dk_at dksX2_stoppersOf_4 6 rfl rfl)
theorem dX2_stoppersOf_103 : decode cX2_stoppersOf 103 = .ok (.iload 5, 2) := dk_21 5 (dk_at dksX2_stoppersOf_4 9 rfl rfl)
theorem dX2_stoppersOf_105 : decode cX2_stoppersOf 105 = .ok (.iload_n 3, 1) := dk_29 (dk_at dksX2_stoppersOf_4 11 rfl rfl)
theorem dX2_stoppersOf_106 : decode cX2_stoppersOf 106 = .ok (.iconst (-1), 1) := dk_2 (dk_at dksX2_stoppersOf_4 12 rfl rfl)
theorem dX2_stoppersOf_107 : decode cX2_stoppersOf 107 = .ok (.ixor, 1) := dk_130 (dk_at dksX2_stoppersOf_4 13 rfl rfl)
theorem dX2_stoppersOf_108 : decode cX2_stoppersOf 108 = .ok (.iand, 1) := dk_126 (dk_at dksX2_stoppersOf_4 14 rfl rfl)
theorem dX2_stoppersOf_109 : decode cX2_stoppersOf 109 = .ok (.ifCond .ne 93, 3) := dk_154 0 93 (dk_at dksX2_stoppersOf_4 15 rfl rfl)
theorem dX2_stoppersOf_112 : decode cX2_stoppersOf 112 = .ok (.iload 4, 2) := dk_21 4 (dk_at dksX2_stoppersOf_4 18 rfl rfl)
theorem dX2_stoppersOf_114 : decode cX2_stoppersOf 114 = .ok (.ifCond .lt 21, 3) := dk_155 0 21 (dk_at dksX2_stoppersOf_4 20 rfl rfl)
theorem dX2_stoppersOf_117 : decode cX2_stoppersOf 117 = .ok (.aload_n 0, 1) := dk_42 (dk_at dksX2_stoppersOf_4 23 rfl rfl)
theorem dX2_stoppersOf_118 : decode cX2_stoppersOf 118 = .ok (.iload 5, 2) := dk_21 5 (dk_at dksX2_stoppersOf_5 0 rfl rfl)
theorem dX2_stoppersOf_120 : decode cX2_stoppersOf 120 = .ok (.invokevirtual 339, 3) := dk_182 1 83 (dk_at dksX2_stoppersOf_5 2 rfl rfl)
theorem dX2_stoppersOf_123 : decode cX2_stoppersOf 123 = .ok (.aload_n 0, 1) := dk_42 (dk_at dksX2_stoppersOf_5 5 rfl rfl)
theorem dX2_stoppersOf_124 : decode cX2_stoppersOf 124 = .ok (.iload 4, 2) := dk_21 4 (dk_at dksX2_stoppersOf_5 6 rfl rfl)
theorem dX2_stoppersOf_126 : decode cX2_stoppersOf 126 = .ok (.invokevirtual 339, 3) := dk_182 1 83 (dk_at dksX2_stoppersOf_5 8 rfl rfl)
theorem dX2_stoppersOf_129 : decode cX2_stoppersOf 129 = .ok (.if_icmp .lt 6, 3) := dk_161 0 6 (dk_at dksX2_stoppersOf_5 11 rfl rfl)
theorem dX2_stoppersOf_132 : decode cX2_stoppersOf 132 = .ok (.goto 70, 3) := dk_167 0 70 (dk_at dksX2_stoppersOf_5 14 rfl rfl)
theorem dX2_stoppersOf_135 : decode cX2_stoppersOf 135 = .ok (.aload_n 0, 1) := dk_42 (dk_at dksX2_stoppersOf_5 17 rfl rfl)
theorem dX2_stoppersOf_136 : decode cX2_stoppersOf 136 = .ok (.invokevirtual 315, 3) := dk_182 1 59 (dk_at dksX2_stoppersOf_5 18 rfl rfl)
theorem dX2_stoppersOf_139 : decode cX2_stoppersOf 139 = .ok (.iconst 0, 1) := dk_3 (dk_at dksX2_stoppersOf_5 21 rfl rfl)
theorem dX2_stoppersOf_140 : decode cX2_stoppersOf 140 = .ok (.istore 6, 2) := dk_54 6 (dk_at dksX2_stoppersOf_5 22 rfl rfl)
theorem dX2_stoppersOf_142 : decode cX2_stoppersOf 142 = .ok (.iload 6, 2) := dk_21 6 (dk_at dksX2_stoppersOf_6 0 rfl rfl)
theorem dX2_stoppersOf_144 : decode cX2_stoppersOf 144 = .ok (.aload_n 0, 1) := dk_42 (dk_at dksX2_stoppersOf_6 2 rfl rfl)
theorem dX2_stoppersOf_145 : decode cX2_stoppersOf 145 = .ok (.getfield 20, 3) := dk_180 0 20 (dk_at dksX2_stoppersOf_6 3 rfl rfl)
theorem dX2_stoppersOf_148 : decode cX2_stoppersOf 148 = .ok (.iconst 3, 1) := dk_6 (dk_at dksX2_stoppersOf_6 6 rfl rfl)
theorem dX2_stoppersOf_149 : decode cX2_stoppersOf 149 = .ok (.iaload, 1) := dk_46 (dk_at dksX2_stoppersOf_6 7 rfl rfl)
theorem dX2_stoppersOf_150 : decode cX2_stoppersOf 150 = .ok (.if_icmp .ge 36, 3) := dk_162 0 36 (dk_at dksX2_stoppersOf_6 8 rfl rfl)
theorem dX2_stoppersOf_153 : decode cX2_stoppersOf 153 = .ok (.iload 5, 2) := dk_21 5 (dk_at dksX2_stoppersOf_6 11 rfl rfl)
theorem dX2_stoppersOf_155 : decode cX2_stoppersOf 155 = .ok (.iload 6, 2) := dk_21 6 (dk_at dksX2_stoppersOf_6 13 rfl rfl)
theorem dX2_stoppersOf_157 : decode cX2_stoppersOf 157 = .ok (.invokestatic 252, 3) := dk_184 0 252 (dk_at dksX2_stoppersOf_6 15 rfl rfl)
theorem dX2_stoppersOf_160 : decode cX2_stoppersOf 160 = .ok (.ifCond .eq 20, 3) := dk_153 0 20 (dk_at dksX2_stoppersOf_6 18 rfl rfl)
theorem dX2_stoppersOf_163 : decode cX2_stoppersOf 163 = .ok (.aload_n 0, 1) := dk_42 (dk_at dksX2_stoppersOf_6 21 rfl rfl)
theorem dX2_stoppersOf_164 : decode cX2_stoppersOf 164 = .ok (.getfield 35, 3) := dk_180 0 35 (dk_at dksX2_stoppersOf_7 0 rfl rfl)
theorem dX2_stoppersOf_167 : decode cX2_stoppersOf 167 = .ok (.iload 6, 2) := dk_21 6 (dk_at dksX2_stoppersOf_7 3 rfl rfl)
theorem dX2_stoppersOf_169 : decode cX2_stoppersOf 169 = .ok (.aload_n 0, 1) := dk_42 (dk_at dksX2_stoppersOf_7 5 rfl rfl)
theorem dX2_stoppersOf_170 : decode cX2_stoppersOf 170 = .ok (.getfield 20, 3) := dk_180 0 20 (dk_at dksX2_stoppersOf_7 6 rfl rfl)
theorem dX2_stoppersOf_173 : decode cX2_stoppersOf 173 = .ok (.iload_n 2, 1) := dk_28 (dk_at dksX2_stoppersOf_7 9 rfl rfl)
theorem dX2_stoppersOf_174 : decode cX2_stoppersOf 174 = .ok (.iconst 2, 1) := dk_5 (dk_at dksX2_stoppersOf_7 10 rfl rfl)
theorem dX2_stoppersOf_175 : decode cX2_stoppersOf 175 = .ok (.iadd, 1) := dk_96 (dk_at dksX2_stoppersOf_7 11 rfl rfl)
theorem dX2_stoppersOf_176 : decode cX2_stoppersOf 176 = .ok (.iaload, 1) := dk_46 (dk_at dksX2_stoppersOf_7 12 rfl rfl)
theorem dX2_stoppersOf_177 : decode cX2_stoppersOf 177 = .ok (.iconst 1, 1) := dk_4 (dk_at dksX2_stoppersOf_7 13 rfl rfl)
theorem dX2_stoppersOf_178 : decode cX2_stoppersOf 178 = .ok (.iadd, 1) := dk_96 (dk_at dksX2_stoppersOf_7 14 rfl rfl)
theorem dX2_stoppersOf_179 : decode cX2_stoppersOf 179 = .ok (.iastore, 1) := dk_79 (dk_at dksX2_stoppersOf_7 15 rfl rfl)
theorem dX2_stoppersOf_180 : decode cX2_stoppersOf 180 = .ok (.iinc 6 1, 3) := dk_132 6 1 (dk_at dksX2_stoppersOf_7 16 rfl rfl)
theorem dX2_stoppersOf_183 : decode cX2_stoppersOf 183 = .ok (.goto (-41), 3) := dk_167 255 215 (dk_at dksX2_stoppersOf_7 19 rfl rfl)
theorem dX2_stoppersOf_186 : decode cX2_stoppersOf 186 = .ok (.aload_n 0, 1) := dk_42 (dk_at dksX2_stoppersOf_7 22 rfl rfl)
theorem dX2_stoppersOf_187 : decode cX2_stoppersOf 187 = .ok (.iload_n 1, 1) := dk_27 (dk_at dksX2_stoppersOf_7 23 rfl rfl)
theorem dX2_stoppersOf_188 : decode cX2_stoppersOf 188 = .ok (.invokevirtual 324, 3) := dk_182 1 68 (dk_at dksX2_stoppersOf_8 0 rfl rfl)
theorem dX2_stoppersOf_191 : decode cX2_stoppersOf 191 = .ok (.aload_n 0, 1) := dk_42 (dk_at dksX2_stoppersOf_8 3 rfl rfl)
theorem dX2_stoppersOf_192 : decode cX2_stoppersOf 192 = .ok (.getfield 269, 3) := dk_180 1 13 (dk_at dksX2_stoppersOf_8 4 rfl rfl)
theorem dX2_stoppersOf_195 : decode cX2_stoppersOf 195 = .ok (.ifCond .ne 7, 3) := dk_154 0 7 (dk_at dksX2_stoppersOf_8 7 rfl rfl)
theorem dX2_stoppersOf_198 : decode cX2_stoppersOf 198 = .ok (.iload 5, 2) := dk_21 5 (dk_at dksX2_stoppersOf_8 10 rfl rfl)
theorem dX2_stoppersOf_200 : decode cX2_stoppersOf 200 = .ok (.istore 4, 2) := dk_54 4 (dk_at dksX2_stoppersOf_8 12 rfl rfl)
theorem dX2_stoppersOf_202 : decode cX2_stoppersOf 202 = .ok (.iinc 5 1, 3) := dk_132 5 1 (dk_at dksX2_stoppersOf_8 14 rfl rfl)
theorem dX2_stoppersOf_205 : decode cX2_stoppersOf 205 = .ok (.goto (-115), 3) := dk_167 255 141 (dk_at dksX2_stoppersOf_8 17 rfl rfl)
theorem dX2_stoppersOf_208 : decode cX2_stoppersOf 208 = .ok (.iload 4, 2) := dk_21 4 (dk_at dksX2_stoppersOf_8 20 rfl rfl)
theorem dX2_stoppersOf_210 : decode cX2_stoppersOf 210 = .ok (.ireturn, 1) := dk_172 (dk_at dksX2_stoppersOf_8 22 rfl rfl)
abbrev cX2_canHire : ByteArray := prog_15_method_86_code
def yX2_canHire : MethodName := ⟨RX2, "canHire", "(I)Z"⟩
def dkwX2_canHire_0 : List UInt8 := [42, 180, 0, 20, 16, 26, 7, 27, 104, 96, 6, 96, 46, 158, 0, 7, 4, 167, 0, 4, 3, 172]
abbrev dktX2_canHire_0 : List UInt8 := dkwX2_canHire_0 ++ []
theorem dksX2_canHire_0 : cX2_canHire.data.toList.drop 0 = dktX2_canHire_0 := by decide +kernel
theorem dX2_canHire_0 : decode cX2_canHire 0 = .ok (.aload_n 0, 1) := dk_42 (dk_at dksX2_canHire_0 0 rfl rfl)
theorem dX2_canHire_1 : decode cX2_canHire 1 = .ok (.getfield 20, 3) := dk_180 0 20 (dk_at dksX2_canHire_0 1 rfl rfl)
theorem dX2_canHire_4 : decode cX2_canHire 4 = .ok (.bipush 26, 2) := dk_16 26 (dk_at dksX2_canHire_0 4 rfl rfl)
theorem dX2_canHire_6 : decode cX2_canHire 6 = .ok (.iconst 4, 1) := dk_7 (dk_at dksX2_canHire_0 6 rfl rfl)
theorem dX2_canHire_7 : decode cX2_canHire 7 = .ok (.iload_n 1, 1) := dk_27 (dk_at dksX2_canHire_0 7 rfl rfl)
theorem dX2_canHire_8 : decode cX2_canHire 8 = .ok (.imul, 1) := dk_104 (dk_at dksX2_canHire_0 8 rfl rfl)
theorem dX2_canHire_9 : decode cX2_canHire 9 = .ok (.iadd, 1) := dk_96 (dk_at dksX2_canHire_0 9 rfl rfl)
theorem dX2_canHire_10 : decode cX2_canHire 10 = .ok (.iconst 3, 1) := dk_6 (dk_at dksX2_canHire_0 10 rfl rfl)
theorem dX2_canHire_11 : decode cX2_canHire 11 = .ok (.iadd, 1) := dk_96 (dk_at dksX2_canHire_0 11 rfl rfl)
theorem dX2_canHire_12 : decode cX2_canHire 12 = .ok (.iaload, 1) := dk_46 (dk_at dksX2_canHire_0 12 rfl rfl)
theorem dX2_canHire_13 : decode cX2_canHire 13 = .ok (.ifCond .le 7, 3) := dk_158 0 7 (dk_at dksX2_canHire_0 13 rfl rfl)
theorem dX2_canHire_16 : decode cX2_canHire 16 = .ok (.iconst 1, 1) := dk_4 (dk_at dksX2_canHire_0 16 rfl rfl)
theorem dX2_canHire_17 : decode cX2_canHire 17 = .ok (.goto 4, 3) := dk_167 0 4 (dk_at dksX2_canHire_0 17 rfl rfl)
theorem dX2_canHire_20 : decode cX2_canHire 20 = .ok (.iconst 0, 1) := dk_3 (dk_at dksX2_canHire_0 20 rfl rfl)
theorem dX2_canHire_21 : decode cX2_canHire 21 = .ok (.ireturn, 1) := dk_172 (dk_at dksX2_canHire_0 21 rfl rfl)
abbrev cX2_priceOf : ByteArray := prog_15_method_87_code
def yX2_priceOf : MethodName := ⟨RX2, "priceOf", "(I)I"⟩
def dkwX2_priceOf_2 : List UInt8 := [167, 255, 213, 28, 172]
abbrev dktX2_priceOf_2 : List UInt8 := dkwX2_priceOf_2 ++ []
def dkwX2_priceOf_1 : List UInt8 := [180, 0, 20, 16, 26, 7, 29, 104, 96, 6, 96, 46, 4, 100, 167, 0, 4, 3, 96, 61, 132, 3, 1]
abbrev dktX2_priceOf_1 : List UInt8 := dkwX2_priceOf_1 ++ dktX2_priceOf_2
def dkwX2_priceOf_0 : List UInt8 := [3, 61, 3, 62, 29, 42, 180, 0, 20, 6, 46, 162, 0, 39, 28, 27, 29, 184, 0, 252, 153, 0, 21, 42]
abbrev dktX2_priceOf_0 : List UInt8 := dkwX2_priceOf_0 ++ dktX2_priceOf_1
theorem dksX2_priceOf_0 : cX2_priceOf.data.toList.drop 0 = dktX2_priceOf_0 := by decide +kernel
theorem dksX2_priceOf_1 : cX2_priceOf.data.toList.drop 24 = dktX2_priceOf_1 := dk_seg dksX2_priceOf_0 24 rfl rfl
theorem dksX2_priceOf_2 : cX2_priceOf.data.toList.drop 47 = dktX2_priceOf_2 := dk_seg dksX2_priceOf_1 23 rfl rfl
theorem dX2_priceOf_0 : decode cX2_priceOf 0 = .ok (.iconst 0, 1) := dk_3 (dk_at dksX2_priceOf_0 0 rfl rfl)
theorem dX2_priceOf_1 : decode cX2_priceOf 1 = .ok (.istore_n 2, 1) := dk_61 (dk_at dksX2_priceOf_0 1 rfl rfl)
theorem dX2_priceOf_2 : decode cX2_priceOf 2 = .ok (.iconst 0, 1) := dk_3 (dk_at dksX2_priceOf_0 2 rfl rfl)
theorem dX2_priceOf_3 : decode cX2_priceOf 3 = .ok (.istore_n 3, 1) := dk_62 (dk_at dksX2_priceOf_0 3 rfl rfl)
theorem dX2_priceOf_4 : decode cX2_priceOf 4 = .ok (.iload_n 3, 1) := dk_29 (dk_at dksX2_priceOf_0 4 rfl rfl)
theorem dX2_priceOf_5 : decode cX2_priceOf 5 = .ok (.aload_n 0, 1) := dk_42 (dk_at dksX2_priceOf_0 5 rfl rfl)
theorem dX2_priceOf_6 : decode cX2_priceOf 6 = .ok (.getfield 20, 3) := dk_180 0 20 (dk_at dksX2_priceOf_0 6 rfl rfl)
theorem dX2_priceOf_9 : decode cX2_priceOf 9 = .ok (.iconst 3, 1) := dk_6 (dk_at dksX2_priceOf_0 9 rfl rfl)
theorem dX2_priceOf_10 : decode cX2_priceOf 10 = .ok (.iaload, 1) := dk_46 (dk_at dksX2_priceOf_0 10 rfl rfl)
theorem dX2_priceOf_11 : decode cX2_priceOf 11 = .ok (.if_icmp .ge 39, 3) := dk_162 0 39 (dk_at dksX2_priceOf_0 11 rfl rfl)
theorem dX2_priceOf_14 : decode cX2_priceOf 14 = .ok (.iload_n 2, 1) := dk_28 (dk_at dksX2_priceOf_0 14 rfl rfl)
theorem dX2_priceOf_15 : decode cX2_priceOf 15 = .ok (.iload_n 1, 1) := dk_27 (dk_at dksX2_priceOf_0 15 rfl rfl)
theorem dX2_priceOf_16 : decode cX2_priceOf 16 = .ok (.iload_n 3, 1) := dk_29 (dk_at dksX2_priceOf_0 16 rfl rfl)
theorem dX2_priceOf_17 : decode cX2_priceOf 17 = .ok (.invokestatic 252, 3) := dk_184 0 252 (dk_at dksX2_priceOf_0 17 rfl rfl)
theorem dX2_priceOf_20 : decode cX2_priceOf 20 = .ok (.ifCond .eq 21, 3) := dk_153 0 21 (dk_at dksX2_priceOf_0 20 rfl rfl)
theorem dX2_priceOf_23 : decode cX2_priceOf 23 = .ok (.aload_n 0, 1) := dk_42 (dk_at dksX2_priceOf_0 23 rfl rfl)
theorem dX2_priceOf_24 : decode cX2_priceOf 24 = .ok (.getfield 20, 3) := dk_180 0 20 (dk_at dksX2_priceOf_1 0 rfl rfl)
theorem dX2_priceOf_27 : decode cX2_priceOf 27 = .ok (.bipush 26, 2) := dk_16 26 (dk_at dksX2_priceOf_1 3 rfl rfl)
theorem dX2_priceOf_29 : decode cX2_priceOf 29 = .ok (.iconst 4, 1) := dk_7 (dk_at dksX2_priceOf_1 5 rfl rfl)
theorem dX2_priceOf_30 : decode cX2_priceOf 30 = .ok (.iload_n 3, 1) := dk_29 (dk_at dksX2_priceOf_1 6 rfl rfl)
theorem dX2_priceOf_31 : decode cX2_priceOf 31 = .ok (.imul, 1) := dk_104 (dk_at dksX2_priceOf_1 7 rfl rfl)
theorem dX2_priceOf_32 : decode cX2_priceOf 32 = .ok (.iadd, 1) := dk_96 (dk_at dksX2_priceOf_1 8 rfl rfl)
theorem dX2_priceOf_33 : decode cX2_priceOf 33 = .ok (.iconst 3, 1) := dk_6 (dk_at dksX2_priceOf_1 9 rfl rfl)
theorem dX2_priceOf_34 : decode cX2_priceOf 34 = .ok (.iadd, 1) := dk_96 (dk_at dksX2_priceOf_1 10 rfl rfl)
theorem dX2_priceOf_35 : decode cX2_priceOf 35 = .ok (.iaload, 1) := dk_46 (dk_at dksX2_priceOf_1 11 rfl rfl)
theorem dX2_priceOf_36 : decode cX2_priceOf 36 = .ok (.iconst 1, 1) := dk_4 (dk_at dksX2_priceOf_1 12 rfl rfl)
theorem dX2_priceOf_37 : decode cX2_priceOf 37 = .ok (.isub, 1) := dk_100 (dk_at dksX2_priceOf_1 13 rfl rfl)
theorem dX2_priceOf_38 : decode cX2_priceOf 38 = .ok (.goto 4, 3) := dk_167 0 4 (dk_at dksX2_priceOf_1 14 rfl rfl)
theorem dX2_priceOf_41 : decode cX2_priceOf 41 = .ok (.iconst 0, 1) := dk_3 (dk_at dksX2_priceOf_1 17 rfl rfl)
theorem dX2_priceOf_42 : decode cX2_priceOf 42 = .ok (.iadd, 1) := dk_96 (dk_at dksX2_priceOf_1 18 rfl rfl)
theorem dX2_priceOf_43 : decode cX2_priceOf 43 = .ok (.istore_n 2, 1) := dk_61 (dk_at dksX2_priceOf_1 19 rfl rfl)
theorem dX2_priceOf_44 : decode cX2_priceOf 44 = .ok (.iinc 3 1, 3) := dk_132 3 1 (dk_at dksX2_priceOf_1 20 rfl rfl)
theorem dX2_priceOf_47 : decode cX2_priceOf 47 = .ok (.goto (-43), 3) := dk_167 255 213 (dk_at dksX2_priceOf_2 0 rfl rfl)
theorem dX2_priceOf_50 : decode cX2_priceOf 50 = .ok (.iload_n 2, 1) := dk_28 (dk_at dksX2_priceOf_2 3 rfl rfl)
theorem dX2_priceOf_51 : decode cX2_priceOf 51 = .ok (.ireturn, 1) := dk_172 (dk_at dksX2_priceOf_2 4 rfl rfl)
abbrev cX2_price : ByteArray := prog_15_method_90_code
def yX2_price : MethodName := ⟨RX2, "price", "(I)I"⟩
def dkwX2_price_1 : List UInt8 := [28, 156, 0, 8, 16, 254, 167, 0, 8, 42, 28, 182, 1, 83, 172]
abbrev dktX2_price_1 : List UInt8 := dkwX2_price_1 ++ []
def dkwX2_price_0 : List UInt8 := [42, 182, 0, 163, 42, 27, 182, 1, 49, 154, 0, 9, 42, 4, 182, 0, 166, 172, 42, 27, 182, 1, 86, 61]
abbrev dktX2_price_0 : List UInt8 := dkwX2_price_0 ++ dktX2_price_1
theorem dksX2_price_0 : cX2_price.data.toList.drop 0 = dktX2_price_0 := by decide +kernel
theorem dksX2_price_1 : cX2_price.data.toList.drop 24 = dktX2_price_1 := dk_seg dksX2_price_0 24 rfl rfl
theorem dX2_price_0 : decode cX2_price 0 = .ok (.aload_n 0, 1) := dk_42 (dk_at dksX2_price_0 0 rfl rfl)
theorem dX2_price_1 : decode cX2_price 1 = .ok (.invokevirtual 163, 3) := dk_182 0 163 (dk_at dksX2_price_0 1 rfl rfl)
theorem dX2_price_4 : decode cX2_price 4 = .ok (.aload_n 0, 1) := dk_42 (dk_at dksX2_price_0 4 rfl rfl)
theorem dX2_price_5 : decode cX2_price 5 = .ok (.iload_n 1, 1) := dk_27 (dk_at dksX2_price_0 5 rfl rfl)
theorem dX2_price_6 : decode cX2_price 6 = .ok (.invokevirtual 305, 3) := dk_182 1 49 (dk_at dksX2_price_0 6 rfl rfl)
theorem dX2_price_9 : decode cX2_price 9 = .ok (.ifCond .ne 9, 3) := dk_154 0 9 (dk_at dksX2_price_0 9 rfl rfl)
theorem dX2_price_12 : decode cX2_price 12 = .ok (.aload_n 0, 1) := dk_42 (dk_at dksX2_price_0 12 rfl rfl)
theorem dX2_price_13 : decode cX2_price 13 = .ok (.iconst 1, 1) := dk_4 (dk_at dksX2_price_0 13 rfl rfl)
theorem dX2_price_14 : decode cX2_price 14 = .ok (.invokevirtual 166, 3) := dk_182 0 166 (dk_at dksX2_price_0 14 rfl rfl)
theorem dX2_price_17 : decode cX2_price 17 = .ok (.ireturn, 1) := dk_172 (dk_at dksX2_price_0 17 rfl rfl)
theorem dX2_price_18 : decode cX2_price 18 = .ok (.aload_n 0, 1) := dk_42 (dk_at dksX2_price_0 18 rfl rfl)
theorem dX2_price_19 : decode cX2_price 19 = .ok (.iload_n 1, 1) := dk_27 (dk_at dksX2_price_0 19 rfl rfl)
theorem dX2_price_20 : decode cX2_price 20 = .ok (.invokevirtual 342, 3) := dk_182 1 86 (dk_at dksX2_price_0 20 rfl rfl)
theorem dX2_price_23 : decode cX2_price 23 = .ok (.istore_n 2, 1) := dk_61 (dk_at dksX2_price_0 23 rfl rfl)
theorem dX2_price_24 : decode cX2_price 24 = .ok (.iload_n 2, 1) := dk_28 (dk_at dksX2_price_1 0 rfl rfl)
theorem dX2_price_25 : decode cX2_price 25 = .ok (.ifCond .ge 8, 3) := dk_156 0 8 (dk_at dksX2_price_1 1 rfl rfl)
theorem dX2_price_28 : decode cX2_price 28 = .ok (.bipush (-2), 2) := dk_16 254 (dk_at dksX2_price_1 4 rfl rfl)
theorem dX2_price_30 : decode cX2_price 30 = .ok (.goto 8, 3) := dk_167 0 8 (dk_at dksX2_price_1 6 rfl rfl)
theorem dX2_price_33 : decode cX2_price 33 = .ok (.aload_n 0, 1) := dk_42 (dk_at dksX2_price_1 9 rfl rfl)
theorem dX2_price_34 : decode cX2_price 34 = .ok (.iload_n 2, 1) := dk_28 (dk_at dksX2_price_1 10 rfl rfl)
theorem dX2_price_35 : decode cX2_price 35 = .ok (.invokevirtual 339, 3) := dk_182 1 83 (dk_at dksX2_price_1 11 rfl rfl)
theorem dX2_price_38 : decode cX2_price 38 = .ok (.ireturn, 1) := dk_172 (dk_at dksX2_price_1 14 rfl rfl)
abbrev cX2_stoppedIf : ByteArray := prog_15_method_92_code
def yX2_stoppedIf : MethodName := ⟨RX2, "stoppedIf", "(II)I"⟩
def dkwX2_stoppedIf_2 : List UInt8 := [182, 0, 166, 172]
abbrev dktX2_stoppedIf_2 : List UInt8 := dkwX2_stoppedIf_2 ++ []
def dkwX2_stoppedIf_1 : List UInt8 := [182, 0, 166, 172, 42, 27, 182, 1, 80, 153, 0, 12, 42, 27, 28, 182, 1, 89, 167, 0, 8, 42, 8]
abbrev dktX2_stoppedIf_1 : List UInt8 := dkwX2_stoppedIf_1 ++ dktX2_stoppedIf_2
def dkwX2_stoppedIf_0 : List UInt8 := [42, 182, 0, 163, 42, 27, 182, 1, 40, 153, 0, 11, 42, 28, 182, 1, 62, 154, 0, 9, 42, 4]
abbrev dktX2_stoppedIf_0 : List UInt8 := dkwX2_stoppedIf_0 ++ dktX2_stoppedIf_1
theorem dksX2_stoppedIf_0 : cX2_stoppedIf.data.toList.drop 0 = dktX2_stoppedIf_0 := by decide +kernel
theorem dksX2_stoppedIf_1 : cX2_stoppedIf.data.toList.drop 22 = dktX2_stoppedIf_1 := dk_seg dksX2_stoppedIf_0 22 rfl rfl
theorem dksX2_stoppedIf_2 : cX2_stoppedIf.data.toList.drop 45 = dktX2_stoppedIf_2 := dk_seg dksX2_stoppedIf_1 23 rfl rfl
theorem dX2_stoppedIf_0 : decode cX2_stoppedIf 0 = .ok (.aload_n 0, 1) := dk_42 (dk_at dksX2_stoppedIf_0 0 rfl rfl)
theorem dX2_stoppedIf_1 : decode cX2_stoppedIf 1 = .ok (.invokevirtual 163, 3) := dk_182 0 163 (dk_at dksX2_stoppedIf_0 1 rfl rfl)
theorem dX2_stoppedIf_4 : decode cX2_stoppedIf 4 = .ok (.aload_n 0, 1) := dk_42 (dk_at dksX2_stoppedIf_0 4 rfl rfl)
theorem dX2_stoppedIf_5 : decode cX2_stoppedIf 5 = .ok (.iload_n 1, 1) := dk_27 (dk_at dksX2_stoppedIf_0 5 rfl rfl)
theorem dX2_stoppedIf_6 : decode cX2_stoppedIf 6 = .ok (.invokevirtual 296, 3) := dk_182 1 40 (dk_at dksX2_stoppedIf_0 6 rfl rfl)
theorem dX2_stoppedIf_9 : decode cX2_stoppedIf 9 = .ok (.ifCond .eq 11, 3) := dk_153 0 11 (dk_at dksX2_stoppedIf_0 9 rfl rfl)
theorem dX2_stoppedIf_12 : decode cX2_stoppedIf 12 = .ok (.aload_n 0, 1) := dk_42 (dk_at dksX2_stoppedIf_0 12 rfl rfl)
theorem dX2_stoppedIf_13 : decode cX2_stoppedIf 13 = .ok (.iload_n 2, 1) := dk_28 (dk_at dksX2_stoppedIf_0 13 rfl rfl)
theorem dX2_stoppedIf_14 : decode cX2_stoppedIf 14 = .ok (.invokevirtual 318, 3) := dk_182 1 62 (dk_at dksX2_stoppedIf_0 14 rfl rfl)
theorem dX2_stoppedIf_17 : decode cX2_stoppedIf 17 = .ok (.ifCond .ne 9, 3) := dk_154 0 9 (dk_at dksX2_stoppedIf_0 17 rfl rfl)
theorem dX2_stoppedIf_20 : decode cX2_stoppedIf 20 = .ok (.aload_n 0, 1) := dk_42 (dk_at dksX2_stoppedIf_0 20 rfl rfl)
theorem dX2_stoppedIf_21 : decode cX2_stoppedIf 21 = .ok (.iconst 1, 1) := dk_4 (dk_at dksX2_stoppedIf_0 21 rfl rfl)
theorem dX2_stoppedIf_22 : decode cX2_stoppedIf 22 = .ok (.invokevirtual 166, 3) := dk_182 0 166 (dk_at dksX2_stoppedIf_1 0 rfl rfl)
theorem dX2_stoppedIf_25 : decode cX2_stoppedIf 25 = .ok (.ireturn, 1) := dk_172 (dk_at dksX2_stoppedIf_1 3 rfl rfl)
theorem dX2_stoppedIf_26 : decode cX2_stoppedIf 26 = .ok (.aload_n 0, 1) := dk_42 (dk_at dksX2_stoppedIf_1 4 rfl rfl)
theorem dX2_stoppedIf_27 : decode cX2_stoppedIf 27 = .ok (.iload_n 1, 1) := dk_27 (dk_at dksX2_stoppedIf_1 5 rfl rfl)
theorem dX2_stoppedIf_28 : decode cX2_stoppedIf 28 = .ok (.invokevirtual 336, 3) := dk_182 1 80 (dk_at dksX2_stoppedIf_1 6 rfl rfl)
theorem dX2_stoppedIf_31 : decode cX2_stoppedIf 31 = .ok (.ifCond .eq 12, 3) := dk_153 0 12 (dk_at dksX2_stoppedIf_1 9 rfl rfl)
theorem dX2_stoppedIf_34 : decode cX2_stoppedIf 34 = .ok (.aload_n 0, 1) := dk_42 (dk_at dksX2_stoppedIf_1 12 rfl rfl)
theorem dX2_stoppedIf_35 : decode cX2_stoppedIf 35 = .ok (.iload_n 1, 1) := dk_27 (dk_at dksX2_stoppedIf_1 13 rfl rfl)
theorem dX2_stoppedIf_36 : decode cX2_stoppedIf 36 = .ok (.iload_n 2, 1) := dk_28 (dk_at dksX2_stoppedIf_1 14 rfl rfl)
theorem dX2_stoppedIf_37 : decode cX2_stoppedIf 37 = .ok (.invokevirtual 345, 3) := dk_182 1 89 (dk_at dksX2_stoppedIf_1 15 rfl rfl)
theorem dX2_stoppedIf_40 : decode cX2_stoppedIf 40 = .ok (.goto 8, 3) := dk_167 0 8 (dk_at dksX2_stoppedIf_1 18 rfl rfl)
theorem dX2_stoppedIf_43 : decode cX2_stoppedIf 43 = .ok (.aload_n 0, 1) := dk_42 (dk_at dksX2_stoppedIf_1 21 rfl rfl)
theorem dX2_stoppedIf_44 : decode cX2_stoppedIf 44 = .ok (.iconst 5, 1) := dk_8 (dk_at dksX2_stoppedIf_1 22 rfl rfl)
theorem dX2_stoppedIf_45 : decode cX2_stoppedIf 45 = .ok (.invokevirtual 166, 3) := dk_182 0 166 (dk_at dksX2_stoppedIf_2 0 rfl rfl)
theorem dX2_stoppedIf_48 : decode cX2_stoppedIf 48 = .ok (.ireturn, 1) := dk_172 (dk_at dksX2_stoppedIf_2 3 rfl rfl)
abbrev cX2_stoppedWith : ByteArray := prog_15_method_91_code
def yX2_stoppedWith : MethodName := ⟨RX2, "stoppedWith", "(II)I"⟩
def dkwX2_stoppedWith_0 : List UInt8 := [42, 182, 1, 59, 42, 180, 0, 35, 27, 28, 4, 96, 79, 42, 182, 1, 74, 172]
abbrev dktX2_stoppedWith_0 : List UInt8 := dkwX2_stoppedWith_0 ++ []
theorem dksX2_stoppedWith_0 : cX2_stoppedWith.data.toList.drop 0 = dktX2_stoppedWith_0 := by decide +kernel
theorem dX2_stoppedWith_0 : decode cX2_stoppedWith 0 = .ok (.aload_n 0, 1) := dk_42 (dk_at dksX2_stoppedWith_0 0 rfl rfl)
theorem dX2_stoppedWith_1 : decode cX2_stoppedWith 1 = .ok (.invokevirtual 315, 3) := dk_182 1 59 (dk_at dksX2_stoppedWith_0 1 rfl rfl)
theorem dX2_stoppedWith_4 : decode cX2_stoppedWith 4 = .ok (.aload_n 0, 1) := dk_42 (dk_at dksX2_stoppedWith_0 4 rfl rfl)
theorem dX2_stoppedWith_5 : decode cX2_stoppedWith 5 = .ok (.getfield 35, 3) := dk_180 0 35 (dk_at dksX2_stoppedWith_0 5 rfl rfl)
theorem dX2_stoppedWith_8 : decode cX2_stoppedWith 8 = .ok (.iload_n 1, 1) := dk_27 (dk_at dksX2_stoppedWith_0 8 rfl rfl)
theorem dX2_stoppedWith_9 : decode cX2_stoppedWith 9 = .ok (.iload_n 2, 1) := dk_28 (dk_at dksX2_stoppedWith_0 9 rfl rfl)
theorem dX2_stoppedWith_10 : decode cX2_stoppedWith 10 = .ok (.iconst 1, 1) := dk_4 (dk_at dksX2_stoppedWith_0 10 rfl rfl)
theorem dX2_stoppedWith_11 : decode cX2_stoppedWith 11 = .ok (.iadd, 1) := dk_96 (dk_at dksX2_stoppedWith_0 11 rfl rfl)
theorem dX2_stoppedWith_12 : decode cX2_stoppedWith 12 = .ok (.iastore, 1) := dk_79 (dk_at dksX2_stoppedWith_0 12 rfl rfl)
theorem dX2_stoppedWith_13 : decode cX2_stoppedWith 13 = .ok (.aload_n 0, 1) := dk_42 (dk_at dksX2_stoppedWith_0 13 rfl rfl)
theorem dX2_stoppedWith_14 : decode cX2_stoppedWith 14 = .ok (.invokevirtual 330, 3) := dk_182 1 74 (dk_at dksX2_stoppedWith_0 14 rfl rfl)
theorem dX2_stoppedWith_17 : decode cX2_stoppedWith 17 = .ok (.ireturn, 1) := dk_172 (dk_at dksX2_stoppedWith_0 17 rfl rfl)
abbrev cX2_bestHire : ByteArray := prog_15_method_93_code
def yX2_bestHire : MethodName := ⟨RX2, "bestHire", "()I"⟩
def dkwX2_bestHire_4 : List UInt8 := [21, 4, 96, 61, 21, 5, 60, 132, 4, 1, 167, 255, 202, 132, 3, 1, 167, 255, 183, 28, 172]
abbrev dktX2_bestHire_4 : List UInt8 := dkwX2_bestHire_4 ++ []
def dkwX2_bestHire_3 : List UInt8 := [21, 4, 182, 1, 89, 184, 1, 77, 54, 5, 21, 5, 27, 163, 0, 6, 167, 0, 14, 16, 10, 29, 104]
abbrev dktX2_bestHire_3 : List UInt8 := dkwX2_bestHire_3 ++ dktX2_bestHire_4
def dkwX2_bestHire_2 : List UInt8 := [54, 4, 21, 4, 42, 180, 0, 20, 4, 46, 162, 0, 49, 42, 29, 182, 1, 80, 153, 0, 41, 42, 29]
abbrev dktX2_bestHire_2 : List UInt8 := dkwX2_bestHire_2 ++ dktX2_bestHire_3
def dkwX2_bestHire_1 : List UInt8 := [182, 1, 74, 184, 1, 77, 60, 16, 254, 61, 3, 62, 29, 42, 180, 0, 20, 6, 46, 162, 0, 69, 3]
abbrev dktX2_bestHire_1 : List UInt8 := dkwX2_bestHire_1 ++ dktX2_bestHire_2
def dkwX2_bestHire_0 : List UInt8 := [42, 182, 0, 163, 42, 180, 0, 176, 154, 0, 9, 42, 4, 182, 0, 166, 172, 42, 182, 1, 59, 42]
abbrev dktX2_bestHire_0 : List UInt8 := dkwX2_bestHire_0 ++ dktX2_bestHire_1
theorem dksX2_bestHire_0 : cX2_bestHire.data.toList.drop 0 = dktX2_bestHire_0 := by decide +kernel
theorem dksX2_bestHire_1 : cX2_bestHire.data.toList.drop 22 = dktX2_bestHire_1 := dk_seg dksX2_bestHire_0 22 rfl rfl
theorem dksX2_bestHire_2 : cX2_bestHire.data.toList.drop 45 = dktX2_bestHire_2 := dk_seg dksX2_bestHire_1 23 rfl rfl
theorem dksX2_bestHire_3 : cX2_bestHire.data.toList.drop 68 = dktX2_bestHire_3 := dk_seg dksX2_bestHire_2 23 rfl rfl
theorem dksX2_bestHire_4 : cX2_bestHire.data.toList.drop 91 = dktX2_bestHire_4 := dk_seg dksX2_bestHire_3 23 rfl rfl
theorem dX2_bestHire_0 : decode cX2_bestHire 0 = .ok (.aload_n 0, 1) := dk_42 (dk_at dksX2_bestHire_0 0 rfl rfl)
theorem dX2_bestHire_1 : decode cX2_bestHire 1 = .ok (.invokevirtual 163, 3) := dk_182 0 163 (dk_at dksX2_bestHire_0 1 rfl rfl)
theorem dX2_bestHire_4 : decode cX2_bestHire 4 = .ok (.aload_n 0, 1) := dk_42 (dk_at dksX2_bestHire_0 4 rfl rfl)
theorem dX2_bestHire_5 : decode cX2_bestHire 5 = .ok (.getfield 176, 3) := dk_180 0 176 (dk_at dksX2_bestHire_0 5 rfl rfl)
theorem dX2_bestHire_8 : decode cX2_bestHire 8 = .ok (.ifCond .ne 9, 3) := dk_154 0 9 (dk_at dksX2_bestHire_0 8 rfl rfl)
theorem dX2_bestHire_11 : decode cX2_bestHire 11 = .ok (.aload_n 0, 1) := dk_42 (dk_at dksX2_bestHire_0 11 rfl rfl)
theorem dX2_bestHire_12 : decode cX2_bestHire 12 = .ok (.iconst 1, 1) := dk_4 (dk_at dksX2_bestHire_0 12 rfl rfl)
theorem dX2_bestHire_13 : decode cX2_bestHire 13 = .ok (.invokevirtual 166, 3) := dk_182 0 166 (dk_at dksX2_bestHire_0 13 rfl rfl)
theorem dX2_bestHire_16 : decode cX2_bestHire 16 = .ok (.ireturn, 1) := dk_172 (dk_at dksX2_bestHire_0 16 rfl rfl)
theorem dX2_bestHire_17 : decode cX2_bestHire 17 = .ok (.aload_n 0, 1) := dk_42 (dk_at dksX2_bestHire_0 17 rfl rfl)
theorem dX2_bestHire_18 : decode cX2_bestHire 18 = .ok (.invokevirtual 315, 3) := dk_182 1 59 (dk_at dksX2_bestHire_0 18 rfl rfl)
theorem dX2_bestHire_21 : decode cX2_bestHire 21 = .ok (.aload_n 0, 1) := dk_42 (dk_at dksX2_bestHire_0 21 rfl rfl)
theorem dX2_bestHire_22 : decode cX2_bestHire 22 = .ok (.invokevirtual 330, 3) := dk_182 1 74 (dk_at dksX2_bestHire_1 0 rfl rfl)
theorem dX2_bestHire_25 : decode cX2_bestHire 25 = .ok (.invokestatic 333, 3) := dk_184 1 77 (dk_at dksX2_bestHire_1 3 rfl rfl)
theorem dX2_bestHire_28 : decode cX2_bestHire 28 = .ok (.istore_n 1, 1) := dk_60 (dk_at dksX2_bestHire_1 6 rfl rfl)
theorem dX2_bestHire_29 : decode cX2_bestHire 29 = .ok (.bipush (-2), 2) := dk_16 254 (dk_at dksX2_bestHire_1 7 rfl rfl)
theorem dX2_bestHire_31 : decode cX2_bestHire 31 = .ok (.istore_n 2, 1) := dk_61 (dk_at dksX2_bestHire_1 9 rfl rfl)
theorem dX2_bestHire_32 : decode cX2_bestHire 32 = .ok (.iconst 0, 1) := dk_3 (dk_at dksX2_bestHire_1 10 rfl rfl)
theorem dX2_bestHire_33 : decode cX2_bestHire 33 = .ok (.istore_n 3, 1) := dk_62 (dk_at dksX2_bestHire_1 11 rfl rfl)
theorem dX2_bestHire_34 : decode cX2_bestHire 34 = .ok (.iload_n 3, 1) := dk_29 (dk_at dksX2_bestHire_1 12 rfl rfl)
theorem dX2_bestHire_35 : decode cX2_bestHire 35 = .ok (.aload_n 0, 1) := dk_42 (dk_at dksX2_bestHire_1 13 rfl rfl)
theorem dX2_bestHire_36 : decode cX2_bestHire 36 = .ok (.getfield 20, 3) := dk_180 0 20 (dk_at dksX2_bestHire_1 14 rfl rfl)
theorem dX2_bestHire_39 : decode cX2_bestHire 39 = .ok (.iconst 3, 1) := dk_6 (dk_at dksX2_bestHire_1 17 rfl rfl)
theorem dX2_bestHire_40 : decode cX2_bestHire 40 = .ok (.iaload, 1) := dk_46 (dk_at dksX2_bestHire_1 18 rfl rfl)
theorem dX2_bestHire_41 : decode cX2_bestHire 41 = .ok (.if_icmp .ge 69, 3) := dk_162 0 69 (dk_at dksX2_bestHire_1 19 rfl rfl)
theorem dX2_bestHire_44 : decode cX2_bestHire 44 = .ok (.iconst 0, 1) := dk_3 (dk_at dksX2_bestHire_1 22 rfl rfl)
theorem dX2_bestHire_45 : decode cX2_bestHire 45 = .ok (.istore 4, 2) := dk_54 4 (dk_at dksX2_bestHire_2 0 rfl rfl)
theorem dX2_bestHire_47 : decode cX2_bestHire 47 = .ok (.iload 4, 2) := dk_21 4 (dk_at dksX2_bestHire_2 2 rfl rfl)
theorem dX2_bestHire_49 : decode cX2_bestHire 49 = .ok (.aload_n 0, 1) := dk_42 (dk_at dksX2_bestHire_2 4 rfl rfl)
theorem dX2_bestHire_50 : decode cX2_bestHire 50 = .ok (.getfield 20, 3) := dk_180 0 20 (dk_at dksX2_bestHire_2 5 rfl rfl)
theorem dX2_bestHire_53 : decode cX2_bestHire 53 = .ok (.iconst 1, 1) := dk_4 (dk_at dksX2_bestHire_2 8 rfl rfl)
theorem dX2_bestHire_54 : decode cX2_bestHire 54 = .ok (.iaload, 1) := dk_46 (dk_at dksX2_bestHire_2 9 rfl rfl)
theorem dX2_bestHire_55 : decode cX2_bestHire 55 = .ok (.if_icmp .ge 49, 3) := dk_162 0 49 (dk_at dksX2_bestHire_2 10 rfl rfl)
theorem dX2_bestHire_58 : decode cX2_bestHire 58 = .ok (.aload_n 0, 1) := dk_42 (dk_at dksX2_bestHire_2 13 rfl rfl)
theorem dX2_bestHire_59 : decode cX2_bestHire 59 = .ok (.iload_n 3, 1) := dk_29 (dk_at dksX2_bestHire_2 14 rfl rfl)
theorem dX2_bestHire_60 : decode cX2_bestHire 60 = .ok (.invokevirtual 336, 3) := dk_182 1 80 (dk_at dksX2_bestHire_2 15 rfl rfl)
theorem dX2_bestHire_63 : decode cX2_bestHire 63 = .ok (.ifCond .eq 41, 3) := dk_153 0 41 (dk_at dksX2_bestHire_2 18 rfl rfl)
theorem dX2_bestHire_66 : decode cX2_bestHire 66 = .ok (.aload_n 0, 1) := dk_42 (dk_at dksX2_bestHire_2 21 rfl rfl)
theorem dX2_bestHire_67 : decode cX2_bestHire 67 = .ok (.iload_n 3, 1) := dk_29 (dk_at dksX2_bestHire_2 22 rfl rfl)
theorem dX2_bestHire_68 : decode cX2_bestHire 68 = .ok (.iload 4, 2) := dk_21 4 (dk_at dksX2_bestHire_3 0 rfl rfl)
theorem dX2_bestHire_70 : decode cX2_bestHire 70 = .ok (.invokevirtual 345, 3) := dk_182 1 89 (dk_at dksX2_bestHire_3 2 rfl rfl)
theorem dX2_bestHire_73 : decode cX2_bestHire 73 = .ok (.invokestatic 333, 3) := dk_184 1 77 (dk_at dksX2_bestHire_3 5 rfl rfl)
theorem dX2_bestHire_76 : decode cX2_bestHire 76 = .ok (.istore 5, 2) := dk_54 5 (dk_at dksX2_bestHire_3 8 rfl rfl)
theorem dX2_bestHire_78 : decode cX2_bestHire 78 = .ok (.iload 5, 2) := dk_21 5 (dk_at dksX2_bestHire_3 10 rfl rfl)
theorem dX2_bestHire_80 : decode cX2_bestHire 80 = .ok (.iload_n 1, 1) := dk_27 (dk_at dksX2_bestHire_3 12 rfl rfl)
theorem dX2_bestHire_81 : decode cX2_bestHire 81 = .ok (.if_icmp .gt 6, 3) := dk_163 0 6 (dk_at dksX2_bestHire_3 13 rfl rfl)
theorem dX2_bestHire_84 : decode cX2_bestHire 84 = .ok (.goto 14, 3) := dk_167 0 14 (dk_at dksX2_bestHire_3 16 rfl rfl)
theorem dX2_bestHire_87 : decode cX2_bestHire 87 = .ok (.bipush 10, 2) := dk_16 10 (dk_at dksX2_bestHire_3 19 rfl rfl)
theorem dX2_bestHire_89 : decode cX2_bestHire 89 = .ok (.iload_n 3, 1) := dk_29 (dk_at dksX2_bestHire_3 21 rfl rfl)
theorem dX2_bestHire_90 : decode cX2_bestHire 90 = .ok (.imul, 1) := dk_104 (dk_at dksX2_bestHire_3 22 rfl rfl)
theorem dX2_bestHire_91 : decode cX2_bestHire 91 = .ok (.iload 4, 2) := dk_21 4 (dk_at dksX2_bestHire_4 0 rfl rfl)
theorem dX2_bestHire_93 : decode cX2_bestHire 93 = .ok (.iadd, 1) := dk_96 (dk_at dksX2_bestHire_4 2 rfl rfl)
theorem dX2_bestHire_94 : decode cX2_bestHire 94 = .ok (.istore_n 2, 1) := dk_61 (dk_at dksX2_bestHire_4 3 rfl rfl)
theorem dX2_bestHire_95 : decode cX2_bestHire 95 = .ok (.iload 5, 2) := dk_21 5 (dk_at dksX2_bestHire_4 4 rfl rfl)
theorem dX2_bestHire_97 : decode cX2_bestHire 97 = .ok (.istore_n 1, 1) := dk_60 (dk_at dksX2_bestHire_4 6 rfl rfl)
theorem dX2_bestHire_98 : decode cX2_bestHire 98 = .ok (.iinc 4 1, 3) := dk_132 4 1 (dk_at dksX2_bestHire_4 7 rfl rfl)
theorem dX2_bestHire_101 : decode cX2_bestHire 101 = .ok (.goto (-54), 3) := dk_167 255 202 (dk_at dksX2_bestHire_4 10 rfl rfl)
theorem dX2_bestHire_104 : decode cX2_bestHire 104 = .ok (.iinc 3 1, 3) := dk_132 3 1 (dk_at dksX2_bestHire_4 13 rfl rfl)
theorem dX2_bestHire_107 : decode cX2_bestHire 107 = .ok (.goto (-73), 3) := dk_167 255 183 (dk_at dksX2_bestHire_4 16 rfl rfl)
theorem dX2_bestHire_110 : decode cX2_bestHire 110 = .ok (.iload_n 2, 1) := dk_28 (dk_at dksX2_bestHire_4 19 rfl rfl)
theorem dX2_bestHire_111 : decode cX2_bestHire 111 = .ok (.ireturn, 1) := dk_172 (dk_at dksX2_bestHire_4 20 rfl rfl)
abbrev cX2_fits : ByteArray := prog_15_method_96_code
def yX2_fits : MethodName := ⟨RX2, "fits", "()I"⟩
def dkwX2_fits_1 : List UInt8 := [180, 1, 92, 172]
abbrev dktX2_fits_1 : List UInt8 := dkwX2_fits_1 ++ []
def dkwX2_fits_0 : List UInt8 := [42, 182, 0, 163, 42, 180, 0, 176, 154, 0, 9, 42, 4, 182, 0, 166, 172, 42, 2, 182, 1, 104, 87, 42]
abbrev dktX2_fits_0 : List UInt8 := dkwX2_fits_0 ++ dktX2_fits_1
theorem dksX2_fits_0 : cX2_fits.data.toList.drop 0 = dktX2_fits_0 := by decide +kernel
theorem dksX2_fits_1 : cX2_fits.data.toList.drop 24 = dktX2_fits_1 := dk_seg dksX2_fits_0 24 rfl rfl
theorem dX2_fits_0 : decode cX2_fits 0 = .ok (.aload_n 0, 1) := dk_42 (dk_at dksX2_fits_0 0 rfl rfl)
theorem dX2_fits_1 : decode cX2_fits 1 = .ok (.invokevirtual 163, 3) := dk_182 0 163 (dk_at dksX2_fits_0 1 rfl rfl)
theorem dX2_fits_4 : decode cX2_fits 4 = .ok (.aload_n 0, 1) := dk_42 (dk_at dksX2_fits_0 4 rfl rfl)
theorem dX2_fits_5 : decode cX2_fits 5 = .ok (.getfield 176, 3) := dk_180 0 176 (dk_at dksX2_fits_0 5 rfl rfl)
theorem dX2_fits_8 : decode cX2_fits 8 = .ok (.ifCond .ne 9, 3) := dk_154 0 9 (dk_at dksX2_fits_0 8 rfl rfl)
theorem dX2_fits_11 : decode cX2_fits 11 = .ok (.aload_n 0, 1) := dk_42 (dk_at dksX2_fits_0 11 rfl rfl)
theorem dX2_fits_12 : decode cX2_fits 12 = .ok (.iconst 1, 1) := dk_4 (dk_at dksX2_fits_0 12 rfl rfl)
theorem dX2_fits_13 : decode cX2_fits 13 = .ok (.invokevirtual 166, 3) := dk_182 0 166 (dk_at dksX2_fits_0 13 rfl rfl)
theorem dX2_fits_16 : decode cX2_fits 16 = .ok (.ireturn, 1) := dk_172 (dk_at dksX2_fits_0 16 rfl rfl)
theorem dX2_fits_17 : decode cX2_fits 17 = .ok (.aload_n 0, 1) := dk_42 (dk_at dksX2_fits_0 17 rfl rfl)
theorem dX2_fits_18 : decode cX2_fits 18 = .ok (.iconst (-1), 1) := dk_2 (dk_at dksX2_fits_0 18 rfl rfl)
theorem dX2_fits_19 : decode cX2_fits 19 = .ok (.invokevirtual 360, 3) := dk_182 1 104 (dk_at dksX2_fits_0 19 rfl rfl)
theorem dX2_fits_22 : decode cX2_fits 22 = .ok (.pop, 1) := dk_87 (dk_at dksX2_fits_0 22 rfl rfl)
theorem dX2_fits_23 : decode cX2_fits 23 = .ok (.aload_n 0, 1) := dk_42 (dk_at dksX2_fits_0 23 rfl rfl)
theorem dX2_fits_24 : decode cX2_fits 24 = .ok (.getfield 348, 3) := dk_180 1 92 (dk_at dksX2_fits_1 0 rfl rfl)
theorem dX2_fits_27 : decode cX2_fits 27 = .ok (.ireturn, 1) := dk_172 (dk_at dksX2_fits_1 3 rfl rfl)
abbrev cX2_seekSets : ByteArray := prog_15_method_95_code
def yX2_seekSets : MethodName := ⟨RX2, "seekSets", "(I)I"⟩
def dkwX2_seekSets_7 : List UInt8 := [181, 1, 98, 28, 172]
abbrev dktX2_seekSets_7 : List UInt8 := dkwX2_seekSets_7 ++ []
def dkwX2_seekSets_6 : List UInt8 := [96, 79, 132, 4, 1, 167, 255, 225, 132, 3, 1, 167, 255, 150, 42, 180, 1, 92, 154, 0, 8, 42, 3]
abbrev dktX2_seekSets_6 : List UInt8 := dkwX2_seekSets_6 ++ dktX2_seekSets_7
def dkwX2_seekSets_5 : List UInt8 := [42, 180, 0, 20, 16, 7, 46, 162, 0, 25, 42, 180, 0, 44, 21, 4, 92, 46, 29, 21, 4, 122, 4, 126]
abbrev dktX2_seekSets_5 : List UInt8 := dkwX2_seekSets_5 ++ dktX2_seekSets_6
def dkwX2_seekSets_4 : List UInt8 := [89, 180, 1, 95, 29, 128, 181, 1, 95, 42, 89, 180, 1, 98, 29, 126, 181, 1, 98, 3, 54, 4, 21, 4]
abbrev dktX2_seekSets_4 : List UInt8 := dkwX2_seekSets_4 ++ dktX2_seekSets_5
def dkwX2_seekSets_3 : List UInt8 := [167, 0, 80, 42, 180, 1, 92, 27, 160, 0, 5, 29, 61, 42, 89, 180, 1, 92, 4, 96, 181, 1, 92, 42]
abbrev dktX2_seekSets_3 : List UInt8 := dkwX2_seekSets_3 ++ dktX2_seekSets_4
def dkwX2_seekSets_2 : List UInt8 := [62, 29, 4, 42, 180, 0, 20, 16, 7, 46, 120, 162, 0, 99, 42, 29, 182, 1, 101, 16, 254, 159, 0, 6]
abbrev dktX2_seekSets_2 : List UInt8 := dkwX2_seekSets_2 ++ dktX2_seekSets_3
def dkwX2_seekSets_1 : List UInt8 := [181, 1, 98, 3, 62, 29, 7, 162, 0, 16, 42, 180, 0, 44, 29, 3, 79, 132, 3, 1, 167, 255, 241, 3]
abbrev dktX2_seekSets_1 : List UInt8 := dkwX2_seekSets_1 ++ dktX2_seekSets_2
def dkwX2_seekSets_0 : List UInt8 := [2, 61, 42, 3, 181, 1, 92, 42, 3, 181, 1, 95, 42, 4, 42, 180, 0, 20, 16, 7, 46, 120, 4, 100]
abbrev dktX2_seekSets_0 : List UInt8 := dkwX2_seekSets_0 ++ dktX2_seekSets_1
theorem dksX2_seekSets_0 : cX2_seekSets.data.toList.drop 0 = dktX2_seekSets_0 := by decide +kernel
theorem dksX2_seekSets_1 : cX2_seekSets.data.toList.drop 24 = dktX2_seekSets_1 := dk_seg dksX2_seekSets_0 24 rfl rfl
theorem dksX2_seekSets_2 : cX2_seekSets.data.toList.drop 48 = dktX2_seekSets_2 := dk_seg dksX2_seekSets_1 24 rfl rfl
theorem dksX2_seekSets_3 : cX2_seekSets.data.toList.drop 72 = dktX2_seekSets_3 := dk_seg dksX2_seekSets_2 24 rfl rfl
theorem dksX2_seekSets_4 : cX2_seekSets.data.toList.drop 96 = dktX2_seekSets_4 := dk_seg dksX2_seekSets_3 24 rfl rfl
theorem dksX2_seekSets_5 : cX2_seekSets.data.toList.drop 120 = dktX2_seekSets_5 := dk_seg dksX2_seekSets_4 24 rfl rfl
theorem dksX2_seekSets_6 : cX2_seekSets.data.toList.drop 144 = dktX2_seekSets_6 := dk_seg dksX2_seekSets_5 24 rfl rfl
theorem dksX2_seekSets_7 : cX2_seekSets.data.toList.drop 167 = dktX2_seekSets_7 := dk_seg dksX2_seekSets_6 23 rfl rfl
theorem dX2_seekSets_0 : decode cX2_seekSets 0 = .ok (.iconst (-1), 1) := dk_2 (dk_at dksX2_seekSets_0 0 rfl rfl)
theorem dX2_seekSets_1 : decode cX2_seekSets 1 = .ok (.istore_n 2, 1) := dk_61 (dk_at dksX2_seekSets_0 1 rfl rfl)
theorem dX2_seekSets_2 : decode cX2_seekSets 2 = .ok (.aload_n 0, 1) := dk_42 (dk_at dksX2_seekSets_0 2 rfl rfl)
theorem dX2_seekSets_3 : decode cX2_seekSets 3 = .ok (.iconst 0, 1) := dk_3 (dk_at dksX2_seekSets_0 3 rfl rfl)
theorem dX2_seekSets_4 : decode cX2_seekSets 4 = .ok (.putfield 348, 3) := dk_181 1 92 (dk_at dksX2_seekSets_0 4 rfl rfl)
theorem dX2_seekSets_7 : decode cX2_seekSets 7 = .ok (.aload_n 0, 1) := dk_42 (dk_at dksX2_seekSets_0 7 rfl rfl)
theorem dX2_seekSets_8 : decode cX2_seekSets 8 = .ok (.iconst 0, 1) := dk_3 (dk_at dksX2_seekSets_0 8 rfl rfl)
theorem dX2_seekSets_9 : decode cX2_seekSets 9 = .ok (.putfield 351, 3) := dk_181 1 95 (dk_at dksX2_seekSets_0 9 rfl rfl)
theorem dX2_seekSets_12 : decode cX2_seekSets 12 = .ok (.aload_n 0, 1) := dk_42 (dk_at dksX2_seekSets_0 12 rfl rfl)
theorem dX2_seekSets_13 : decode cX2_seekSets 13 = .ok (.iconst 1, 1) := dk_4 (dk_at dksX2_seekSets_0 13 rfl rfl)
theorem dX2_seekSets_14 : decode cX2_seekSets 14 = .ok (.aload_n 0, 1) := dk_42 (dk_at dksX2_seekSets_0 14 rfl rfl)
theorem dX2_seekSets_15 : decode cX2_seekSets 15 = .ok (.getfield 20, 3) := dk_180 0 20 (dk_at dksX2_seekSets_0 15 rfl rfl)
theorem dX2_seekSets_18 : decode cX2_seekSets 18 = .ok (.bipush 7, 2) := dk_16 7 (dk_at dksX2_seekSets_0 18 rfl rfl)
theorem dX2_seekSets_20 : decode cX2_seekSets 20 = .ok (.iaload, 1) := dk_46 (dk_at dksX2_seekSets_0 20 rfl rfl)
theorem dX2_seekSets_21 : decode cX2_seekSets 21 = .ok (.ishl, 1) := dk_120 (dk_at dksX2_seekSets_0 21 rfl rfl)
theorem dX2_seekSets_22 : decode cX2_seekSets 22 = .ok (.iconst 1, 1) := dk_4 (dk_at dksX2_seekSets_0 22 rfl rfl)
theorem dX2_seekSets_23 : decode cX2_seekSets 23 = .ok (.isub, 1) := dk_100 (dk_at dksX2_seekSets_0 23 rfl rfl)
theorem dX2_seekSets_24 : decode cX2_seekSets 24 = .ok (.putfield 354, 3) := dk_181 1 98 (dk_at dksX2_seekSets_1 0 rfl rfl)
theorem dX2_seekSets_27 : decode cX2_seekSets 27 = .ok (.iconst 0, 1) := dk_3 (dk_at dksX2_seekSets_1 3 rfl rfl)
theorem dX2_seekSets_28 : decode cX2_seekSets 28 = .ok (.istore_n 3, 1) := dk_62 (dk_at dksX2_seekSets_1 4 rfl rfl)
theorem dX2_seekSets_29 : decode cX2_seekSets 29 = .ok (.iload_n 3, 1) := dk_29 (dk_at dksX2_seekSets_1 5 rfl rfl)
theorem dX2_seekSets_30 : decode cX2_seekSets 30 = .ok (.iconst 4, 1) := dk_7 (dk_at dksX2_seekSets_1 6 rfl rfl)
theorem dX2_seekSets_31 : decode cX2_seekSets 31 = .ok (.if_icmp .ge 16, 3) := dk_162 0 16 (dk_at dksX2_seekSets_1 7 rfl rfl)
theorem dX2_seekSets_34 : decode cX2_seekSets 34 = .ok (.aload_n 0, 1) := dk_42 (dk_at dksX2_seekSets_1 10 rfl rfl)
theorem dX2_seekSets_35 : decode cX2_seekSets 35 = .ok (.getfield 44, 3) := dk_180 0 44 (dk_at dksX2_seekSets_1 11 rfl rfl)
theorem dX2_seekSets_38 : decode cX2_seekSets 38 = .ok (.iload_n 3, 1) := dk_29 (dk_at dksX2_seekSets_1 14 rfl rfl)
theorem dX2_seekSets_39 : decode cX2_seekSets 39 = .ok (.iconst 0, 1) := dk_3 (dk_at dksX2_seekSets_1 15 rfl rfl)
theorem dX2_seekSets_40 : decode cX2_seekSets 40 = .ok (.iastore, 1) := dk_79 (dk_at dksX2_seekSets_1 16 rfl rfl)
theorem dX2_seekSets_41 : decode cX2_seekSets 41 = .ok (.iinc 3 1, 3) := dk_132 3 1 (dk_at dksX2_seekSets_1 17 rfl rfl)
theorem dX2_seekSets_44 : decode cX2_seekSets 44 = .ok (.goto (-15), 3) := dk_167 255 241 (dk_at dksX2_seekSets_1 20 rfl rfl)
theorem dX2_seekSets_47 : decode cX2_seekSets 47 = .ok (.iconst 0, 1) := dk_3 (dk_at dksX2_seekSets_1 23 rfl rfl)
theorem dX2_seekSets_48 : decode cX2_seekSets 48 = .ok (.istore_n 3, 1) := dk_62 (dk_at dksX2_seekSets_2 0 rfl rfl)
theorem dX2_seekSets_49 : decode cX2_seekSets 49 = .ok (.iload_n 3, 1) := dk_29 (dk_at dksX2_seekSets_2 1 rfl rfl)
theorem dX2_seekSets_50 : decode cX2_seekSets 50 = .ok (.iconst 1, 1) := dk_4 (dk_at dksX2_seekSets_2 2 rfl rfl)
theorem dX2_seekSets_51 : decode cX2_seekSets 51 = .ok (.aload_n 0, 1) := dk_42 (dk_at dksX2_seekSets_2 3 rfl rfl)
theorem dX2_seekSets_52 : decode cX2_seekSets 52 = .ok (.getfield 20, 3) := dk_180 0 20 (dk_at dksX2_seekSets_2 4 rfl rfl)
theorem dX2_seekSets_55 : decode cX2_seekSets 55 = .ok (.bipush 7, 2) := dk_16 7 (dk_at dksX2_seekSets_2 7 rfl rfl)
theorem dX2_seekSets_57 : decode cX2_seekSets 57 = .ok (.iaload, 1) := dk_46 (dk_at dksX2_seekSets_2 9 rfl rfl)
theorem dX2_seekSets_58 : decode cX2_seekSets 58 = .ok (.ishl, 1) := dk_120 (dk_at dksX2_seekSets_2 10 rfl rfl)
theorem dX2_seekSets_59 : decode cX2_seekSets 59 = .ok (.if_icmp .ge 99, 3) := dk_162 0 99 (dk_at dksX2_seekSets_2 11 rfl rfl)
theorem dX2_seekSets_62 : decode cX2_seekSets 62 = .ok (.aload_n 0, 1) := dk_42 (dk_at dksX2_seekSets_2 14 rfl rfl)
theorem dX2_seekSets_63 : decode cX2_seekSets 63 = .ok (.iload_n 3, 1) := dk_29 (dk_at dksX2_seekSets_2 15 rfl rfl)
theorem dX2_seekSets_64 : decode cX2_seekSets 64 = .ok (.invokevirtual 357, 3) := dk_182 1 101 (dk_at dksX2_seekSets_2 16 rfl rfl)
theorem dX2_seekSets_67 : decode cX2_seekSets 67 = .ok (.bipush (-2), 2) := dk_16 254 (dk_at dksX2_seekSets_2 19 rfl rfl)
theorem dX2_seekSets_69 : decode cX2_seekSets 69 = .ok (.if_icmp .eq 6, 3) := dk_159 0 6 (dk_at dksX2_seekSets_2 21 rfl rfl)
theorem dX2_seekSets_72 : decode cX2_seekSets 72 = .ok (.goto 80, 3) := dk_167 0 80 (dk_at dksX2_seekSets_3 0 rfl rfl)
theorem dX2_seekSets_75 : decode cX2_seekSets 75 = .ok (.aload_n 0, 1) := dk_42 (dk_at dksX2_seekSets_3 3 rfl rfl)
theorem dX2_seekSets_76 : decode cX2_seekSets 76 = .ok (.getfield 348, 3) := dk_180 1 92 (dk_at dksX2_seekSets_3 4 rfl rfl)
theorem dX2_seekSets_79 : decode cX2_seekSets 79 = .ok (.iload_n 1, 1) := dk_27 (dk_at dksX2_seekSets_3 7 rfl rfl)
theorem dX2_seekSets_80 : decode cX2_seekSets 80 = .ok (.if_icmp .ne 5, 3) := dk_160 0 5 (dk_at dksX2_seekSets_3 8 rfl rfl)
theorem dX2_seekSets_83 : decode cX2_seekSets 83 = .ok (.iload_n 3, 1) := dk_29 (dk_at dksX2_seekSets_3 11 rfl rfl)
theorem dX2_seekSets_84 : decode cX2_seekSets 84 = .ok (.istore_n 2, 1) := dk_61 (dk_at dksX2_seekSets_3 12 rfl rfl)
theorem dX2_seekSets_85 : decode cX2_seekSets 85 = .ok (.aload_n 0, 1) := dk_42 (dk_at dksX2_seekSets_3 13 rfl rfl)
theorem dX2_seekSets_86 : decode cX2_seekSets 86 = .ok (.dup, 1) := dk_89 (dk_at dksX2_seekSets_3 14 rfl rfl)
theorem dX2_seekSets_87 : decode cX2_seekSets 87 = .ok (.getfield 348, 3) := dk_180 1 92 (dk_at dksX2_seekSets_3 15 rfl rfl)
theorem dX2_seekSets_90 : decode cX2_seekSets 90 = .ok (.iconst 1, 1) := dk_4 (dk_at dksX2_seekSets_3 18 rfl rfl)
theorem dX2_seekSets_91 : decode cX2_seekSets 91 = .ok (.iadd, 1) := dk_96 (dk_at dksX2_seekSets_3 19 rfl rfl)
theorem dX2_seekSets_92 : decode cX2_seekSets 92 = .ok (.putfield 348, 3) := dk_181 1 92 (dk_at dksX2_seekSets_3 20 rfl rfl)
theorem dX2_seekSets_95 : decode cX2_seekSets 95 = .ok (.aload_n 0, 1) := dk_42 (dk_at dksX2_seekSets_3 23 rfl rfl)
theorem dX2_seekSets_96 : decode cX2_seekSets 96 = .ok (.dup, 1) := dk_89 (dk_at dksX2_seekSets_4 0 rfl rfl)
theorem dX2_seekSets_97 : decode cX2_seekSets 97 = .ok (.getfield 351, 3) := dk_180 1 95 (dk_at dksX2_seekSets_4 1 rfl rfl)
theorem dX2_seekSets_100 : decode cX2_seekSets 100 = .ok (.iload_n 3, 1) := dk_29 (dk_at dksX2_seekSets_4 4 rfl rfl)
theorem dX2_seekSets_101 : decode cX2_seekSets 101 = .ok (.ior, 1) := dk_128 (dk_at dksX2_seekSets_4 5 rfl rfl)
theorem dX2_seekSets_102 : decode cX2_seekSets 102 = .ok (.putfield 351, 3) := dk_181 1 95 (dk_at dksX2_seekSets_4 6 rfl rfl)
theorem dX2_seekSets_105 : decode cX2_seekSets 105 = .ok (.aload_n 0, 1) := dk_42 (dk_at dksX2_seekSets_4 9 rfl rfl)
theorem dX2_seekSets_106 : decode cX2_seekSets 106 = .ok (.dup, 1) := dk_89 (dk_at dksX2_seekSets_4 10 rfl rfl)
theorem dX2_seekSets_107 : decode cX2_seekSets 107 = .ok (.getfield 354, 3) := dk_180 1 98 (dk_at dksX2_seekSets_4 11 rfl rfl)
theorem dX2_seekSets_110 : decode cX2_seekSets 110 = .ok (.iload_n 3, 1) := dk_29 (dk_at dksX2_seekSets_4 14 rfl rfl)
theorem dX2_seekSets_111 : decode cX2_seekSets 111 = .ok (.iand, 1) := dk_126 (dk_at dksX2_seekSets_4 15 rfl rfl)
theorem dX2_seekSets_112 : decode cX2_seekSets 112 = .ok (.putfield 354, 3) := dk_181 1 98 (dk_at dksX2_seekSets_4 16 rfl rfl)
theorem dX2_seekSets_115 : decode cX2_seekSets 115 = .ok (.iconst 0, 1) := dk_3 (dk_at dksX2_seekSets_4 19 rfl rfl)
theorem dX2_seekSets_116 : decode cX2_seekSets 116 = .ok (.istore 4, 2) := dk_54 4 (dk_at dksX2_seekSets_4 20 rfl rfl)
theorem dX2_seekSets_118 : decode cX2_seekSets 118 = .ok (.iload 4, 2) := dk_21 4 (dk_at dksX2_seekSets_4 22 rfl rfl)
theorem dX2_seekSets_120 : decode cX2_seekSets 120 = .ok (.aload_n 0, 1) := dk_42 (dk_at dksX2_seekSets_5 0 rfl rfl)
theorem dX2_seekSets_121 : decode cX2_seekSets 121 = .ok (.getfield 20, 3) := dk_180 0 20 (dk_at dksX2_seekSets_5 1 rfl rfl)
theorem dX2_seekSets_124 : decode cX2_seekSets 124 = .ok (.bipush 7, 2) := dk_16 7 (dk_at dksX2_seekSets_5 4 rfl rfl)
theorem dX2_seekSets_126 : decode cX2_seekSets 126 = .ok (.iaload, 1) := dk_46 (dk_at dksX2_seekSets_5 6 rfl rfl)
theorem dX2_seekSets_127 : decode cX2_seekSets 127 = .ok (.if_icmp .ge 25, 3) := dk_162 0 25 (dk_at dksX2_seekSets_5 7 rfl rfl)
theorem dX2_seekSets_130 : decode cX2_seekSets 130 = .ok (.aload_n 0, 1) := dk_42 (dk_at dksX2_seekSets_5 10 rfl rfl)
theorem dX2_seekSets_131 : decode cX2_seekSets 131 = .ok (.getfield 44, 3) := dk_180 0 44 (dk_at dksX2_seekSets_5 11 rfl rfl)
theorem dX2_seekSets_134 : decode cX2_seekSets 134 = .ok (.iload 4, 2) := dk_21 4 (dk_at dksX2_seekSets_5 14 rfl rfl)
theorem dX2_seekSets_136 : decode cX2_seekSets 136 = .ok (.dup2, 1) := dk_92 (dk_at dksX2_seekSets_5 16 rfl rfl)
theorem dX2_seekSets_137 : decode cX2_seekSets 137 = .ok (.iaload, 1) := dk_46 (dk_at dksX2_seekSets_5 17 rfl rfl)
theorem dX2_seekSets_138 : decode cX2_seekSets 138 = .ok (.iload_n 3, 1) := dk_29 (dk_at dksX2_seekSets_5 18 rfl rfl)
theorem dX2_seekSets_139 : decode cX2_seekSets 139 = .ok (.iload 4, 2) := dk_21 4 (dk_at dksX2_seekSets_5 19 rfl rfl)
theorem dX2_seekSets_141 : decode cX2_seekSets 141 = .ok (.ishr, 1) := dk_122 (dk_at dksX2_seekSets_5 21 rfl rfl)
theorem dX2_seekSets_142 : decode cX2_seekSets 142 = .ok (.iconst 1, 1) := dk_4 (dk_at dksX2_seekSets_5 22 rfl rfl)
theorem dX2_seekSets_143 : decode cX2_seekSets 143 = .ok (.iand, 1) := dk_126 (dk_at dksX2_seekSets_5 23 rfl rfl)
theorem dX2_seekSets_144 : decode cX2_seekSets 144 = .ok (.iadd, 1) := dk_96 (dk_at dksX2_seekSets_6 0 rfl rfl)
theorem dX2_seekSets_145 : decode cX2_seekSets 145 = .ok (.iastore, 1) := dk_79 (dk_at dksX2_seekSets_6 1 rfl rfl)
theorem dX2_seekSets_146 : decode cX2_seekSets 146 = .ok (.iinc 4 1, 3) := dk_132 4 1 (dk_at dksX2_seekSets_6 2 rfl rfl)
theorem dX2_seekSets_149 : decode cX2_seekSets 149 = .ok (.goto (-31), 3) := dk_167 255 225 (dk_at dksX2_seekSets_6 5 rfl rfl)
theorem dX2_seekSets_152 : decode cX2_seekSets 152 = .ok (.iinc 3 1, 3) := dk_132 3 1 (dk_at dksX2_seekSets_6 8 rfl rfl)
theorem dX2_seekSets_155 : decode cX2_seekSets 155 = .ok (.goto (-106), 3) := dk_167 255 150 (dk_at dksX2_seekSets_6 11 rfl rfl)
theorem dX2_seekSets_158 : decode cX2_seekSets 158 = .ok (.aload_n 0, 1) := dk_42 (dk_at dksX2_seekSets_6 14 rfl rfl)
theorem dX2_seekSets_159 : decode cX2_seekSets 159 = .ok (.getfield 348, 3) := dk_180 1 92 (dk_at dksX2_seekSets_6 15 rfl rfl)
theorem dX2_seekSets_162 : decode cX2_seekSets 162 = .ok (.ifCond .ne 8, 3) := dk_154 0 8 (dk_at dksX2_seekSets_6 18 rfl rfl)
theorem dX2_seekSets_165 : decode cX2_seekSets 165 = .ok (.aload_n 0, 1) := dk_42 (dk_at dksX2_seekSets_6 21 rfl rfl)
theorem dX2_seekSets_166 : decode cX2_seekSets 166 = .ok (.iconst 0, 1) := dk_3 (dk_at dksX2_seekSets_6 22 rfl rfl)
theorem dX2_seekSets_167 : decode cX2_seekSets 167 = .ok (.putfield 354, 3) := dk_181 1 98 (dk_at dksX2_seekSets_7 0 rfl rfl)
theorem dX2_seekSets_170 : decode cX2_seekSets 170 = .ok (.iload_n 2, 1) := dk_28 (dk_at dksX2_seekSets_7 3 rfl rfl)
theorem dX2_seekSets_171 : decode cX2_seekSets 171 = .ok (.ireturn, 1) := dk_172 (dk_at dksX2_seekSets_7 4 rfl rfl)
abbrev cX2_wrongBy : ByteArray := prog_15_method_94_code
def yX2_wrongBy : MethodName := ⟨RX2, "wrongBy", "(I)I"⟩
def dkwX2_wrongBy_5 : List UInt8 := [180, 0, 20, 16, 103, 28, 96, 46, 4, 100, 159, 0, 5, 28, 172, 132, 2, 1, 167, 255, 203, 16, 254, 172]
abbrev dktX2_wrongBy_5 : List UInt8 := dkwX2_wrongBy_5 ++ []
def dkwX2_wrongBy_4 : List UInt8 := [180, 0, 20, 16, 103, 28, 96, 46, 154, 0, 6, 167, 0, 28, 42, 28, 182, 1, 68, 42, 180, 1, 15, 42]
abbrev dktX2_wrongBy_4 : List UInt8 := dkwX2_wrongBy_4 ++ dktX2_wrongBy_5
def dkwX2_wrongBy_3 : List UInt8 := [96, 4, 96, 46, 79, 132, 2, 1, 167, 255, 205, 3, 61, 28, 42, 180, 0, 20, 8, 46, 162, 0, 49, 42]
abbrev dktX2_wrongBy_3 : List UInt8 := dkwX2_wrongBy_3 ++ dktX2_wrongBy_4
def dkwX2_wrongBy_2 : List UInt8 := [42, 180, 0, 38, 42, 180, 0, 20, 16, 95, 5, 28, 104, 96, 46, 42, 180, 0, 20, 16, 95, 5, 28, 104]
abbrev dktX2_wrongBy_2 : List UInt8 := dkwX2_wrongBy_2 ++ dktX2_wrongBy_3
def dkwX2_wrongBy_1 : List UInt8 := [167, 255, 240, 3, 61, 28, 42, 180, 0, 20, 16, 7, 46, 162, 0, 46, 27, 28, 184, 0, 252, 153, 0, 32]
abbrev dktX2_wrongBy_1 : List UInt8 := dkwX2_wrongBy_1 ++ dktX2_wrongBy_2
def dkwX2_wrongBy_0 : List UInt8 := [42, 182, 1, 59, 3, 61, 28, 16, 8, 162, 0, 16, 42, 180, 0, 35, 28, 3, 79, 132, 2, 1]
abbrev dktX2_wrongBy_0 : List UInt8 := dkwX2_wrongBy_0 ++ dktX2_wrongBy_1
theorem dksX2_wrongBy_0 : cX2_wrongBy.data.toList.drop 0 = dktX2_wrongBy_0 := by decide +kernel
theorem dksX2_wrongBy_1 : cX2_wrongBy.data.toList.drop 22 = dktX2_wrongBy_1 := dk_seg dksX2_wrongBy_0 22 rfl rfl
theorem dksX2_wrongBy_2 : cX2_wrongBy.data.toList.drop 46 = dktX2_wrongBy_2 := dk_seg dksX2_wrongBy_1 24 rfl rfl
theorem dksX2_wrongBy_3 : cX2_wrongBy.data.toList.drop 70 = dktX2_wrongBy_3 := dk_seg dksX2_wrongBy_2 24 rfl rfl
theorem dksX2_wrongBy_4 : cX2_wrongBy.data.toList.drop 94 = dktX2_wrongBy_4 := dk_seg dksX2_wrongBy_3 24 rfl rfl
theorem dksX2_wrongBy_5 : cX2_wrongBy.data.toList.drop 118 = dktX2_wrongBy_5 := dk_seg dksX2_wrongBy_4 24 rfl rfl
theorem dX2_wrongBy_0 : decode cX2_wrongBy 0 = .ok (.aload_n 0, 1) := dk_42 (dk_at dksX2_wrongBy_0 0 rfl rfl)
theorem dX2_wrongBy_1 : decode cX2_wrongBy 1 = .ok (.invokevirtual 315, 3) := dk_182 1 59 (dk_at dksX2_wrongBy_0 1 rfl rfl)
theorem dX2_wrongBy_4 : decode cX2_wrongBy 4 = .ok (.iconst 0, 1) := dk_3 (dk_at dksX2_wrongBy_0 4 rfl rfl)
theorem dX2_wrongBy_5 : decode cX2_wrongBy 5 = .ok (.istore_n 2, 1) := dk_61 (dk_at dksX2_wrongBy_0 5 rfl rfl)
theorem dX2_wrongBy_6 : decode cX2_wrongBy 6 = .ok (.iload_n 2, 1) := dk_28 (dk_at dksX2_wrongBy_0 6 rfl rfl)
theorem dX2_wrongBy_7 : decode cX2_wrongBy 7 = .ok (.bipush 8, 2) := dk_16 8 (dk_at dksX2_wrongBy_0 7 rfl rfl)
theorem dX2_wrongBy_9 : decode cX2_wrongBy 9 = .ok (.if_icmp .ge 16, 3) := dk_162 0 16 (dk_at dksX2_wrongBy_0 9 rfl rfl)
theorem dX2_wrongBy_12 : decode cX2_wrongBy 12 = .ok (.aload_n 0, 1) := dk_42 (dk_at dksX2_wrongBy_0 12 rfl rfl)
theorem dX2_wrongBy_13 : decode cX2_wrongBy 13 = .ok (.getfield 35, 3) := dk_180 0 35 (dk_at dksX2_wrongBy_0 13 rfl rfl)
theorem dX2_wrongBy_16 : decode cX2_wrongBy 16 = .ok (.iload_n 2, 1) := dk_28 (dk_at dksX2_wrongBy_0 16 rfl rfl)
theorem dX2_wrongBy_17 : decode cX2_wrongBy 17 = .ok (.iconst 0, 1) := dk_3 (dk_at dksX2_wrongBy_0 17 rfl rfl)
theorem dX2_wrongBy_18 : decode cX2_wrongBy 18 = .ok (.iastore, 1) := dk_79 (dk_at dksX2_wrongBy_0 18 rfl rfl)
theorem dX2_wrongBy_19 : decode cX2_wrongBy 19 = .ok (.iinc 2 1, 3) := dk_132 2 1 (dk_at dksX2_wrongBy_0 19 rfl rfl)
theorem dX2_wrongBy_22 : decode cX2_wrongBy 22 = .ok (.goto (-16), 3) := dk_167 255 240 (dk_at dksX2_wrongBy_1 0 rfl rfl)
theorem dX2_wrongBy_25 : decode cX2_wrongBy 25 = .ok (.iconst 0, 1) := dk_3 (dk_at dksX2_wrongBy_1 3 rfl rfl)
theorem dX2_wrongBy_26 : decode cX2_wrongBy 26 = .ok (.istore_n 2, 1) := dk_61 (dk_at dksX2_wrongBy_1 4 rfl rfl)
theorem dX2_wrongBy_27 : decode cX2_wrongBy 27 = .ok (.iload_n 2, 1) := dk_28 (dk_at dksX2_wrongBy_1 5 rfl rfl)
theorem dX2_wrongBy_28 : decode cX2_wrongBy 28 = .ok (.aload_n 0, 1) := dk_42 (dk_at dksX2_wrongBy_1 6 rfl rfl)
theorem dX2_wrongBy_29 : decode cX2_wrongBy 29 = .ok (.getfield 20, 3) := dk_180 0 20 (dk_at dksX2_wrongBy_1 7 rfl rfl)
theorem dX2_wrongBy_32 : decode cX2_wrongBy 32 = .ok (.bipush 7, 2) := dk_16 7 (dk_at dksX2_wrongBy_1 10 rfl rfl)
theorem dX2_wrongBy_34 : decode cX2_wrongBy 34 = .ok (.iaload, 1) := dk_46 (dk_at dksX2_wrongBy_1 12 rfl rfl)
theorem dX2_wrongBy_35 : decode cX2_wrongBy 35 = .ok (.if_icmp .ge 46, 3) := dk_162 0 46 (dk_at dksX2_wrongBy_1 13 rfl rfl)
theorem dX2_wrongBy_38 : decode cX2_wrongBy 38 = .ok (.iload_n 1, 1) := dk_27 (dk_at dksX2_wrongBy_1 16 rfl rfl)
theorem dX2_wrongBy_39 : decode cX2_wrongBy 39 = .ok (.iload_n 2, 1) := dk_28 (dk_at dksX2_wrongBy_1 17 rfl rfl)
theorem dX2_wrongBy_40 : decode cX2_wrongBy 40 = .ok (.invokestatic 252, 3) := dk_184 0 252 (dk_at dksX2_wrongBy_1 18 rfl rfl)
theorem dX2_wrongBy_43 : decode cX2_wrongBy 43 = .ok (.ifCond .eq 32, 3) := dk_153 0 32 (dk_at dksX2_wrongBy_1 21 rfl rfl)
theorem dX2_wrongBy_46 : decode cX2_wrongBy 46 = .ok (.aload_n 0, 1) := dk_42 (dk_at dksX2_wrongBy_2 0 rfl rfl)
theorem dX2_wrongBy_47 : decode cX2_wrongBy 47 = .ok (.getfield 38, 3) := dk_180 0 38 (dk_at dksX2_wrongBy_2 1 rfl rfl)
theorem dX2_wrongBy_50 : decode cX2_wrongBy 50 = .ok (.aload_n 0, 1) := dk_42 (dk_at dksX2_wrongBy_2 4 rfl rfl)
theorem dX2_wrongBy_51 : decode cX2_wrongBy 51 = .ok (.getfield 20, 3) := dk_180 0 20 (dk_at dksX2_wrongBy_2 5 rfl rfl)
theorem dX2_wrongBy_54 : decode cX2_wrongBy 54 = .ok (.bipush 95, 2) := dk_16 95 (dk_at dksX2_wrongBy_2 8 rfl rfl)
theorem dX2_wrongBy_56 : decode cX2_wrongBy 56 = .ok (.iconst 2, 1) := dk_5 (dk_at dksX2_wrongBy_2 10 rfl rfl)
theorem dX2_wrongBy_57 : decode cX2_wrongBy 57 = .ok (.iload_n 2, 1) := dk_28 (dk_at dksX2_wrongBy_2 11 rfl rfl)
theorem dX2_wrongBy_58 : decode cX2_wrongBy 58 = .ok (.imul, 1) := dk_104 (dk_at dksX2_wrongBy_2 12 rfl rfl)
theorem dX2_wrongBy_59 : decode cX2_wrongBy 59 = .ok (.iadd, 1) := dk_96 (dk_at dksX2_wrongBy_2 13 rfl rfl)
theorem dX2_wrongBy_60 : decode cX2_wrongBy 60 = .ok (.iaload, 1) := dk_46 (dk_at dksX2_wrongBy_2 14 rfl rfl)
theorem dX2_wrongBy_61 : decode cX2_wrongBy 61 = .ok (.aload_n 0, 1) := dk_42 (dk_at dksX2_wrongBy_2 15 rfl rfl)
theorem dX2_wrongBy_62 : decode cX2_wrongBy 62 = .ok (.getfield 20, 3) := dk_180 0 20 (dk_at dksX2_wrongBy_2 16 rfl rfl)
theorem dX2_wrongBy_65 : decode cX2_wrongBy 65 = .ok (.bipush 95, 2) := dk_16 95 (dk_at dksX2_wrongBy_2 19 rfl rfl)
theorem dX2_wrongBy_67 : decode cX2_wrongBy 67 = .ok (.iconst 2, 1) := dk_5 (dk_at dksX2_wrongBy_2 21 rfl rfl)
theorem dX2_wrongBy_68 : decode cX2_wrongBy 68 = .ok (.iload_n 2, 1) := dk_28 (dk_at dksX2_wrongBy_2 22 rfl rfl)
theorem dX2_wrongBy_69 : decode cX2_wrongBy 69 = .ok (.imul, 1) := dk_104 (dk_at dksX2_wrongBy_2 23 rfl rfl)
theorem dX2_wrongBy_70 : decode cX2_wrongBy 70 = .ok (.iadd, 1) := dk_96 (dk_at dksX2_wrongBy_3 0 rfl rfl)
theorem dX2_wrongBy_71 : decode cX2_wrongBy 71 = .ok (.iconst 1, 1) := dk_4 (dk_at dksX2_wrongBy_3 1 rfl rfl)
theorem dX2_wrongBy_72 : decode cX2_wrongBy 72 = .ok (.iadd, 1) := dk_96 (dk_at dksX2_wrongBy_3 2 rfl rfl)
theorem dX2_wrongBy_73 : decode cX2_wrongBy 73 = .ok (.iaload, 1) := dk_46 (dk_at dksX2_wrongBy_3 3 rfl rfl)
theorem dX2_wrongBy_74 : decode cX2_wrongBy 74 = .ok (.iastore, 1) := dk_79 (dk_at dksX2_wrongBy_3 4 rfl rfl)
theorem dX2_wrongBy_75 : decode cX2_wrongBy 75 = .ok (.iinc 2 1, 3) := dk_132 2 1 (dk_at dksX2_wrongBy_3 5 rfl rfl)
theorem dX2_wrongBy_78 : decode cX2_wrongBy 78 = .ok (.goto (-51), 3) := dk_167 255 205 (dk_at dksX2_wrongBy_3 8 rfl rfl)
theorem dX2_wrongBy_81 : decode cX2_wrongBy 81 = .ok (.iconst 0, 1) := dk_3 (dk_at dksX2_wrongBy_3 11 rfl rfl)
theorem dX2_wrongBy_82 : decode cX2_wrongBy 82 = .ok (.istore_n 2, 1) := dk_61 (dk_at dksX2_wrongBy_3 12 rfl rfl)
theorem dX2_wrongBy_83 : decode cX2_wrongBy 83 = .ok (.iload_n 2, 1) := dk_28 (dk_at dksX2_wrongBy_3 13 rfl rfl)
theorem dX2_wrongBy_84 : decode cX2_wrongBy 84 = .ok (.aload_n 0, 1) := dk_42 (dk_at dksX2_wrongBy_3 14 rfl rfl)
theorem dX2_wrongBy_85 : decode cX2_wrongBy 85 = .ok (.getfield 20, 3) := dk_180 0 20 (dk_at dksX2_wrongBy_3 15 rfl rfl)
theorem dX2_wrongBy_88 : decode cX2_wrongBy 88 = .ok (.iconst 5, 1) := dk_8 (dk_at dksX2_wrongBy_3 18 rfl rfl)
theorem dX2_wrongBy_89 : decode cX2_wrongBy 89 = .ok (.iaload, 1) := dk_46 (dk_at dksX2_wrongBy_3 19 rfl rfl)
theorem dX2_wrongBy_90 : decode cX2_wrongBy 90 = .ok (.if_icmp .ge 49, 3) := dk_162 0 49 (dk_at dksX2_wrongBy_3 20 rfl rfl)
theorem dX2_wrongBy_93 : decode cX2_wrongBy 93 = .ok (.aload_n 0, 1) := dk_42 (dk_at dksX2_wrongBy_3 23 rfl rfl)
theorem dX2_wrongBy_94 : decode cX2_wrongBy 94 = .ok (.getfield 20, 3) := dk_180 0 20 (dk_at dksX2_wrongBy_4 0 rfl rfl)
theorem dX2_wrongBy_97 : decode cX2_wrongBy 97 = .ok (.bipush 103, 2) := dk_16 103 (dk_at dksX2_wrongBy_4 3 rfl rfl)
theorem dX2_wrongBy_99 : decode cX2_wrongBy 99 = .ok (.iload_n 2, 1) := dk_28 (dk_at dksX2_wrongBy_4 5 rfl rfl)
theorem dX2_wrongBy_100 : decode cX2_wrongBy 100 = .ok (.iadd, 1) := dk_96 (dk_at dksX2_wrongBy_4 6 rfl rfl)
theorem dX2_wrongBy_101 : decode cX2_wrongBy 101 = .ok (.iaload, 1) := dk_46 (dk_at dksX2_wrongBy_4 7 rfl rfl)
theorem dX2_wrongBy_102 : decode cX2_wrongBy 102 = .ok (.ifCond .ne 6, 3) := dk_154 0 6 (dk_at dksX2_wrongBy_4 8 rfl rfl)
theorem dX2_wrongBy_105 : decode cX2_wrongBy 105 = .ok (.goto 28, 3) := dk_167 0 28 (dk_at dksX2_wrongBy_4 11 rfl rfl)
theorem dX2_wrongBy_108 : decode cX2_wrongBy 108 = .ok (.aload_n 0, 1) := dk_42 (dk_at dksX2_wrongBy_4 14 rfl rfl)
theorem dX2_wrongBy_109 : decode cX2_wrongBy 109 = .ok (.iload_n 2, 1) := dk_28 (dk_at dksX2_wrongBy_4 15 rfl rfl)
theorem dX2_wrongBy_110 : decode cX2_wrongBy 110 = .ok (.invokevirtual 324, 3) := dk_182 1 68 (dk_at dksX2_wrongBy_4 16 rfl rfl)
theorem dX2_wrongBy_113 : decode cX2_wrongBy 113 = .ok (.aload_n 0, 1) := dk_42 (dk_at dksX2_wrongBy_4 19 rfl rfl)
theorem dX2_wrongBy_114 : decode cX2_wrongBy 114 = .ok (.getfield 271, 3) := dk_180 1 15 (dk_at dksX2_wrongBy_4 20 rfl rfl)
theorem dX2_wrongBy_117 : decode cX2_wrongBy 117 = .ok (.aload_n 0, 1) := dk_42 (dk_at dksX2_wrongBy_4 23 rfl rfl)
theorem dX2_wrongBy_118 : decode cX2_wrongBy 118 = .ok (.getfield 20, 3) := dk_180 0 20 (dk_at dksX2_wrongBy_5 0 rfl rfl)
theorem dX2_wrongBy_121 : decode cX2_wrongBy 121 = .ok (.bipush 103, 2) := dk_16 103 (dk_at dksX2_wrongBy_5 3 rfl rfl)
theorem dX2_wrongBy_123 : decode cX2_wrongBy 123 = .ok (.iload_n 2, 1) := dk_28 (dk_at dksX2_wrongBy_5 5 rfl rfl)
theorem dX2_wrongBy_124 : decode cX2_wrongBy 124 = .ok (.iadd, 1) := dk_96 (dk_at dksX2_wrongBy_5 6 rfl rfl)
theorem dX2_wrongBy_125 : decode cX2_wrongBy 125 = .ok (.iaload, 1) := dk_46 (dk_at dksX2_wrongBy_5 7 rfl rfl)
theorem dX2_wrongBy_126 : decode cX2_wrongBy 126 = .ok (.iconst 1, 1) := dk_4 (dk_at dksX2_wrongBy_5 8 rfl rfl)
theorem dX2_wrongBy_127 : decode cX2_wrongBy 127 = .ok (.isub, 1) := dk_100 (dk_at dksX2_wrongBy_5 9 rfl rfl)
theorem dX2_wrongBy_128 : decode cX2_wrongBy 128 = .ok (.if_icmp .eq 5, 3) := dk_159 0 5 (dk_at dksX2_wrongBy_5 10 rfl rfl)
theorem dX2_wrongBy_131 : decode cX2_wrongBy 131 = .ok (.iload_n 2, 1) := dk_28 (dk_at dksX2_wrongBy_5 13 rfl rfl)
theorem dX2_wrongBy_132 : decode cX2_wrongBy 132 = .ok (.ireturn, 1) := dk_172 (dk_at dksX2_wrongBy_5 14 rfl rfl)
theorem dX2_wrongBy_133 : decode cX2_wrongBy 133 = .ok (.iinc 2 1, 3) := dk_132 2 1 (dk_at dksX2_wrongBy_5 15 rfl rfl)
theorem dX2_wrongBy_136 : decode cX2_wrongBy 136 = .ok (.goto (-53), 3) := dk_167 255 203 (dk_at dksX2_wrongBy_5 18 rfl rfl)
theorem dX2_wrongBy_139 : decode cX2_wrongBy 139 = .ok (.bipush (-2), 2) := dk_16 254 (dk_at dksX2_wrongBy_5 21 rfl rfl)
theorem dX2_wrongBy_141 : decode cX2_wrongBy 141 = .ok (.ireturn, 1) := dk_172 (dk_at dksX2_wrongBy_5 23 rfl rfl)
abbrev cX2_fitAt : ByteArray := prog_15_method_97_code
def yX2_fitAt : MethodName := ⟨RX2, "fitAt", "(I)I"⟩
def dkwX2_fitAt_1 : List UInt8 := [182, 1, 104, 61, 28, 156, 0, 11, 42, 4, 182, 0, 166, 167, 0, 4, 28, 172]
abbrev dktX2_fitAt_1 : List UInt8 := dkwX2_fitAt_1 ++ []
def dkwX2_fitAt_0 : List UInt8 := [42, 182, 0, 163, 42, 180, 0, 176, 153, 0, 7, 27, 156, 0, 9, 42, 4, 182, 0, 166, 172, 42, 27]
abbrev dktX2_fitAt_0 : List UInt8 := dkwX2_fitAt_0 ++ dktX2_fitAt_1
theorem dksX2_fitAt_0 : cX2_fitAt.data.toList.drop 0 = dktX2_fitAt_0 := by decide +kernel
theorem dksX2_fitAt_1 : cX2_fitAt.data.toList.drop 23 = dktX2_fitAt_1 := dk_seg dksX2_fitAt_0 23 rfl rfl
theorem dX2_fitAt_0 : decode cX2_fitAt 0 = .ok (.aload_n 0, 1) := dk_42 (dk_at dksX2_fitAt_0 0 rfl rfl)
theorem dX2_fitAt_1 : decode cX2_fitAt 1 = .ok (.invokevirtual 163, 3) := dk_182 0 163 (dk_at dksX2_fitAt_0 1 rfl rfl)
theorem dX2_fitAt_4 : decode cX2_fitAt 4 = .ok (.aload_n 0, 1) := dk_42 (dk_at dksX2_fitAt_0 4 rfl rfl)
theorem dX2_fitAt_5 : decode cX2_fitAt 5 = .ok (.getfield 176, 3) := dk_180 0 176 (dk_at dksX2_fitAt_0 5 rfl rfl)
theorem dX2_fitAt_8 : decode cX2_fitAt 8 = .ok (.ifCond .eq 7, 3) := dk_153 0 7 (dk_at dksX2_fitAt_0 8 rfl rfl)
theorem dX2_fitAt_11 : decode cX2_fitAt 11 = .ok (.iload_n 1, 1) := dk_27 (dk_at dksX2_fitAt_0 11 rfl rfl)
theorem dX2_fitAt_12 : decode cX2_fitAt 12 = .ok (.ifCond .ge 9, 3) := dk_156 0 9 (dk_at dksX2_fitAt_0 12 rfl rfl)
theorem dX2_fitAt_15 : decode cX2_fitAt 15 = .ok (.aload_n 0, 1) := dk_42 (dk_at dksX2_fitAt_0 15 rfl rfl)
theorem dX2_fitAt_16 : decode cX2_fitAt 16 = .ok (.iconst 1, 1) := dk_4 (dk_at dksX2_fitAt_0 16 rfl rfl)
theorem dX2_fitAt_17 : decode cX2_fitAt 17 = .ok (.invokevirtual 166, 3) := dk_182 0 166 (dk_at dksX2_fitAt_0 17 rfl rfl)
theorem dX2_fitAt_20 : decode cX2_fitAt 20 = .ok (.ireturn, 1) := dk_172 (dk_at dksX2_fitAt_0 20 rfl rfl)
theorem dX2_fitAt_21 : decode cX2_fitAt 21 = .ok (.aload_n 0, 1) := dk_42 (dk_at dksX2_fitAt_0 21 rfl rfl)
theorem dX2_fitAt_22 : decode cX2_fitAt 22 = .ok (.iload_n 1, 1) := dk_27 (dk_at dksX2_fitAt_0 22 rfl rfl)
theorem dX2_fitAt_23 : decode cX2_fitAt 23 = .ok (.invokevirtual 360, 3) := dk_182 1 104 (dk_at dksX2_fitAt_1 0 rfl rfl)
theorem dX2_fitAt_26 : decode cX2_fitAt 26 = .ok (.istore_n 2, 1) := dk_61 (dk_at dksX2_fitAt_1 3 rfl rfl)
theorem dX2_fitAt_27 : decode cX2_fitAt 27 = .ok (.iload_n 2, 1) := dk_28 (dk_at dksX2_fitAt_1 4 rfl rfl)
theorem dX2_fitAt_28 : decode cX2_fitAt 28 = .ok (.ifCond .ge 11, 3) := dk_156 0 11 (dk_at dksX2_fitAt_1 5 rfl rfl)
theorem dX2_fitAt_31 : decode cX2_fitAt 31 = .ok (.aload_n 0, 1) := dk_42 (dk_at dksX2_fitAt_1 8 rfl rfl)
theorem dX2_fitAt_32 : decode cX2_fitAt 32 = .ok (.iconst 1, 1) := dk_4 (dk_at dksX2_fitAt_1 9 rfl rfl)
theorem dX2_fitAt_33 : decode cX2_fitAt 33 = .ok (.invokevirtual 166, 3) := dk_182 0 166 (dk_at dksX2_fitAt_1 10 rfl rfl)
theorem dX2_fitAt_36 : decode cX2_fitAt 36 = .ok (.goto 4, 3) := dk_167 0 4 (dk_at dksX2_fitAt_1 13 rfl rfl)
theorem dX2_fitAt_39 : decode cX2_fitAt 39 = .ok (.iload_n 2, 1) := dk_28 (dk_at dksX2_fitAt_1 16 rfl rfl)
theorem dX2_fitAt_40 : decode cX2_fitAt 40 = .ok (.ireturn, 1) := dk_172 (dk_at dksX2_fitAt_1 17 rfl rfl)
abbrev cX2_could : ByteArray := prog_15_method_98_code
def yX2_could : MethodName := ⟨RX2, "could", "()I"⟩
def dkwX2_could_1 : List UInt8 := [180, 1, 95, 172]
abbrev dktX2_could_1 : List UInt8 := dkwX2_could_1 ++ []
def dkwX2_could_0 : List UInt8 := [42, 182, 0, 163, 42, 180, 0, 176, 154, 0, 9, 42, 4, 182, 0, 166, 172, 42, 2, 182, 1, 104, 87, 42]
abbrev dktX2_could_0 : List UInt8 := dkwX2_could_0 ++ dktX2_could_1
theorem dksX2_could_0 : cX2_could.data.toList.drop 0 = dktX2_could_0 := by decide +kernel
theorem dksX2_could_1 : cX2_could.data.toList.drop 24 = dktX2_could_1 := dk_seg dksX2_could_0 24 rfl rfl
theorem dX2_could_0 : decode cX2_could 0 = .ok (.aload_n 0, 1) := dk_42 (dk_at dksX2_could_0 0 rfl rfl)
theorem dX2_could_1 : decode cX2_could 1 = .ok (.invokevirtual 163, 3) := dk_182 0 163 (dk_at dksX2_could_0 1 rfl rfl)
theorem dX2_could_4 : decode cX2_could 4 = .ok (.aload_n 0, 1) := dk_42 (dk_at dksX2_could_0 4 rfl rfl)
theorem dX2_could_5 : decode cX2_could 5 = .ok (.getfield 176, 3) := dk_180 0 176 (dk_at dksX2_could_0 5 rfl rfl)
theorem dX2_could_8 : decode cX2_could 8 = .ok (.ifCond .ne 9, 3) := dk_154 0 9 (dk_at dksX2_could_0 8 rfl rfl)
theorem dX2_could_11 : decode cX2_could 11 = .ok (.aload_n 0, 1) := dk_42 (dk_at dksX2_could_0 11 rfl rfl)
theorem dX2_could_12 : decode cX2_could 12 = .ok (.iconst 1, 1) := dk_4 (dk_at dksX2_could_0 12 rfl rfl)
theorem dX2_could_13 : decode cX2_could 13 = .ok (.invokevirtual 166, 3) := dk_182 0 166 (dk_at dksX2_could_0 13 rfl rfl)
theorem dX2_could_16 : decode cX2_could 16 = .ok (.ireturn, 1) := dk_172 (dk_at dksX2_could_0 16 rfl rfl)
theorem dX2_could_17 : decode cX2_could 17 = .ok (.aload_n 0, 1) := dk_42 (dk_at dksX2_could_0 17 rfl rfl)
theorem dX2_could_18 : decode cX2_could 18 = .ok (.iconst (-1), 1) := dk_2 (dk_at dksX2_could_0 18 rfl rfl)
theorem dX2_could_19 : decode cX2_could 19 = .ok (.invokevirtual 360, 3) := dk_182 1 104 (dk_at dksX2_could_0 19 rfl rfl)
theorem dX2_could_22 : decode cX2_could 22 = .ok (.pop, 1) := dk_87 (dk_at dksX2_could_0 22 rfl rfl)
theorem dX2_could_23 : decode cX2_could 23 = .ok (.aload_n 0, 1) := dk_42 (dk_at dksX2_could_0 23 rfl rfl)
theorem dX2_could_24 : decode cX2_could 24 = .ok (.getfield 351, 3) := dk_180 1 95 (dk_at dksX2_could_1 0 rfl rfl)
theorem dX2_could_27 : decode cX2_could 27 = .ok (.ireturn, 1) := dk_172 (dk_at dksX2_could_1 3 rfl rfl)
abbrev cX2_surely : ByteArray := prog_15_method_99_code
def yX2_surely : MethodName := ⟨RX2, "surely", "()I"⟩
def dkwX2_surely_1 : List UInt8 := [180, 1, 98, 172]
abbrev dktX2_surely_1 : List UInt8 := dkwX2_surely_1 ++ []
def dkwX2_surely_0 : List UInt8 := [42, 182, 0, 163, 42, 180, 0, 176, 154, 0, 9, 42, 4, 182, 0, 166, 172, 42, 2, 182, 1, 104, 87, 42]
abbrev dktX2_surely_0 : List UInt8 := dkwX2_surely_0 ++ dktX2_surely_1
theorem dksX2_surely_0 : cX2_surely.data.toList.drop 0 = dktX2_surely_0 := by decide +kernel
theorem dksX2_surely_1 : cX2_surely.data.toList.drop 24 = dktX2_surely_1 := dk_seg dksX2_surely_0 24 rfl rfl
theorem dX2_surely_0 : decode cX2_surely 0 = .ok (.aload_n 0, 1) := dk_42 (dk_at dksX2_surely_0 0 rfl rfl)
theorem dX2_surely_1 : decode cX2_surely 1 = .ok (.invokevirtual 163, 3) := dk_182 0 163 (dk_at dksX2_surely_0 1 rfl rfl)
theorem dX2_surely_4 : decode cX2_surely 4 = .ok (.aload_n 0, 1) := dk_42 (dk_at dksX2_surely_0 4 rfl rfl)
theorem dX2_surely_5 : decode cX2_surely 5 = .ok (.getfield 176, 3) := dk_180 0 176 (dk_at dksX2_surely_0 5 rfl rfl)
theorem dX2_surely_8 : decode cX2_surely 8 = .ok (.ifCond .ne 9, 3) := dk_154 0 9 (dk_at dksX2_surely_0 8 rfl rfl)
theorem dX2_surely_11 : decode cX2_surely 11 = .ok (.aload_n 0, 1) := dk_42 (dk_at dksX2_surely_0 11 rfl rfl)
theorem dX2_surely_12 : decode cX2_surely 12 = .ok (.iconst 1, 1) := dk_4 (dk_at dksX2_surely_0 12 rfl rfl)
theorem dX2_surely_13 : decode cX2_surely 13 = .ok (.invokevirtual 166, 3) := dk_182 0 166 (dk_at dksX2_surely_0 13 rfl rfl)
theorem dX2_surely_16 : decode cX2_surely 16 = .ok (.ireturn, 1) := dk_172 (dk_at dksX2_surely_0 16 rfl rfl)
theorem dX2_surely_17 : decode cX2_surely 17 = .ok (.aload_n 0, 1) := dk_42 (dk_at dksX2_surely_0 17 rfl rfl)
theorem dX2_surely_18 : decode cX2_surely 18 = .ok (.iconst (-1), 1) := dk_2 (dk_at dksX2_surely_0 18 rfl rfl)
theorem dX2_surely_19 : decode cX2_surely 19 = .ok (.invokevirtual 360, 3) := dk_182 1 104 (dk_at dksX2_surely_0 19 rfl rfl)
theorem dX2_surely_22 : decode cX2_surely 22 = .ok (.pop, 1) := dk_87 (dk_at dksX2_surely_0 22 rfl rfl)
theorem dX2_surely_23 : decode cX2_surely 23 = .ok (.aload_n 0, 1) := dk_42 (dk_at dksX2_surely_0 23 rfl rfl)
theorem dX2_surely_24 : decode cX2_surely 24 = .ok (.getfield 354, 3) := dk_180 1 98 (dk_at dksX2_surely_1 0 rfl rfl)
theorem dX2_surely_27 : decode cX2_surely 27 = .ok (.ireturn, 1) := dk_172 (dk_at dksX2_surely_1 3 rfl rfl)
abbrev cX2_ask : ByteArray := prog_15_method_102_code
def yX2_ask : MethodName := ⟨RX2, "ask", "()I"⟩
def dkwX2_ask_0 : List UInt8 := [42, 182, 0, 163, 42, 180, 0, 176, 153, 0, 10, 42, 182, 1, 110, 167, 0, 8, 42, 4, 182, 0, 166, 172]
abbrev dktX2_ask_0 : List UInt8 := dkwX2_ask_0 ++ []
theorem dksX2_ask_0 : cX2_ask.data.toList.drop 0 = dktX2_ask_0 := by decide +kernel
theorem dX2_ask_0 : decode cX2_ask 0 = .ok (.aload_n 0, 1) := dk_42 (dk_at dksX2_ask_0 0 rfl rfl)
theorem dX2_ask_1 : decode cX2_ask 1 = .ok (.invokevirtual 163, 3) := dk_182 0 163 (dk_at dksX2_ask_0 1 rfl rfl)
theorem dX2_ask_4 : decode cX2_ask 4 = .ok (.aload_n 0, 1) := dk_42 (dk_at dksX2_ask_0 4 rfl rfl)
theorem dX2_ask_5 : decode cX2_ask 5 = .ok (.getfield 176, 3) := dk_180 0 176 (dk_at dksX2_ask_0 5 rfl rfl)
theorem dX2_ask_8 : decode cX2_ask 8 = .ok (.ifCond .eq 10, 3) := dk_153 0 10 (dk_at dksX2_ask_0 8 rfl rfl)
theorem dX2_ask_11 : decode cX2_ask 11 = .ok (.aload_n 0, 1) := dk_42 (dk_at dksX2_ask_0 11 rfl rfl)
theorem dX2_ask_12 : decode cX2_ask 12 = .ok (.invokevirtual 366, 3) := dk_182 1 110 (dk_at dksX2_ask_0 12 rfl rfl)
theorem dX2_ask_15 : decode cX2_ask 15 = .ok (.goto 8, 3) := dk_167 0 8 (dk_at dksX2_ask_0 15 rfl rfl)
theorem dX2_ask_18 : decode cX2_ask 18 = .ok (.aload_n 0, 1) := dk_42 (dk_at dksX2_ask_0 18 rfl rfl)
theorem dX2_ask_19 : decode cX2_ask 19 = .ok (.iconst 1, 1) := dk_4 (dk_at dksX2_ask_0 19 rfl rfl)
theorem dX2_ask_20 : decode cX2_ask 20 = .ok (.invokevirtual 166, 3) := dk_182 0 166 (dk_at dksX2_ask_0 20 rfl rfl)
theorem dX2_ask_23 : decode cX2_ask 23 = .ok (.ireturn, 1) := dk_172 (dk_at dksX2_ask_0 23 rfl rfl)
abbrev cX2_askOf : ByteArray := prog_15_method_101_code
def yX2_askOf : MethodName := ⟨RX2, "askOf", "()I"⟩
def dkwX2_askOf_2 : List UInt8 := [60, 132, 2, 1, 167, 255, 216, 27, 172]
abbrev dktX2_askOf_2 : List UInt8 := dkwX2_askOf_2 ++ []
def dkwX2_askOf_1 : List UInt8 := [180, 1, 92, 158, 0, 28, 27, 155, 0, 16, 42, 28, 182, 1, 107, 42, 27, 182, 1, 107, 162, 0, 5, 28]
abbrev dktX2_askOf_1 : List UInt8 := dkwX2_askOf_1 ++ dktX2_askOf_2
def dkwX2_askOf_0 : List UInt8 := [42, 2, 182, 1, 104, 87, 16, 254, 60, 3, 61, 28, 42, 180, 0, 20, 16, 7, 46, 162, 0, 35, 42]
abbrev dktX2_askOf_0 : List UInt8 := dkwX2_askOf_0 ++ dktX2_askOf_1
theorem dksX2_askOf_0 : cX2_askOf.data.toList.drop 0 = dktX2_askOf_0 := by decide +kernel
theorem dksX2_askOf_1 : cX2_askOf.data.toList.drop 23 = dktX2_askOf_1 := dk_seg dksX2_askOf_0 23 rfl rfl
theorem dksX2_askOf_2 : cX2_askOf.data.toList.drop 47 = dktX2_askOf_2 := dk_seg dksX2_askOf_1 24 rfl rfl
theorem dX2_askOf_0 : decode cX2_askOf 0 = .ok (.aload_n 0, 1) := dk_42 (dk_at dksX2_askOf_0 0 rfl rfl)
theorem dX2_askOf_1 : decode cX2_askOf 1 = .ok (.iconst (-1), 1) := dk_2 (dk_at dksX2_askOf_0 1 rfl rfl)
theorem dX2_askOf_2 : decode cX2_askOf 2 = .ok (.invokevirtual 360, 3) := dk_182 1 104 (dk_at dksX2_askOf_0 2 rfl rfl)
theorem dX2_askOf_5 : decode cX2_askOf 5 = .ok (.pop, 1) := dk_87 (dk_at dksX2_askOf_0 5 rfl rfl)
theorem dX2_askOf_6 : decode cX2_askOf 6 = .ok (.bipush (-2), 2) := dk_16 254 (dk_at dksX2_askOf_0 6 rfl rfl)
theorem dX2_askOf_8 : decode cX2_askOf 8 = .ok (.istore_n 1, 1) := dk_60 (dk_at dksX2_askOf_0 8 rfl rfl)
theorem dX2_askOf_9 : decode cX2_askOf 9 = .ok (.iconst 0, 1) := dk_3 (dk_at dksX2_askOf_0 9 rfl rfl)
theorem dX2_askOf_10 : decode cX2_askOf 10 = .ok (.istore_n 2, 1) := dk_61 (dk_at dksX2_askOf_0 10 rfl rfl)
theorem dX2_askOf_11 : decode cX2_askOf 11 = .ok (.iload_n 2, 1) := dk_28 (dk_at dksX2_askOf_0 11 rfl rfl)
theorem dX2_askOf_12 : decode cX2_askOf 12 = .ok (.aload_n 0, 1) := dk_42 (dk_at dksX2_askOf_0 12 rfl rfl)
theorem dX2_askOf_13 : decode cX2_askOf 13 = .ok (.getfield 20, 3) := dk_180 0 20 (dk_at dksX2_askOf_0 13 rfl rfl)
theorem dX2_askOf_16 : decode cX2_askOf 16 = .ok (.bipush 7, 2) := dk_16 7 (dk_at dksX2_askOf_0 16 rfl rfl)
theorem dX2_askOf_18 : decode cX2_askOf 18 = .ok (.iaload, 1) := dk_46 (dk_at dksX2_askOf_0 18 rfl rfl)
theorem dX2_askOf_19 : decode cX2_askOf 19 = .ok (.if_icmp .ge 35, 3) := dk_162 0 35 (dk_at dksX2_askOf_0 19 rfl rfl)
theorem dX2_askOf_22 : decode cX2_askOf 22 = .ok (.aload_n 0, 1) := dk_42 (dk_at dksX2_askOf_0 22 rfl rfl)
theorem dX2_askOf_23 : decode cX2_askOf 23 = .ok (.getfield 348, 3) := dk_180 1 92 (dk_at dksX2_askOf_1 0 rfl rfl)
theorem dX2_askOf_26 : decode cX2_askOf 26 = .ok (.ifCond .le 28, 3) := dk_158 0 28 (dk_at dksX2_askOf_1 3 rfl rfl)
theorem dX2_askOf_29 : decode cX2_askOf 29 = .ok (.iload_n 1, 1) := dk_27 (dk_at dksX2_askOf_1 6 rfl rfl)
theorem dX2_askOf_30 : decode cX2_askOf 30 = .ok (.ifCond .lt 16, 3) := dk_155 0 16 (dk_at dksX2_askOf_1 7 rfl rfl)
theorem dX2_askOf_33 : decode cX2_askOf 33 = .ok (.aload_n 0, 1) := dk_42 (dk_at dksX2_askOf_1 10 rfl rfl)
theorem dX2_askOf_34 : decode cX2_askOf 34 = .ok (.iload_n 2, 1) := dk_28 (dk_at dksX2_askOf_1 11 rfl rfl)
theorem dX2_askOf_35 : decode cX2_askOf 35 = .ok (.invokevirtual 363, 3) := dk_182 1 107 (dk_at dksX2_askOf_1 12 rfl rfl)
theorem dX2_askOf_38 : decode cX2_askOf 38 = .ok (.aload_n 0, 1) := dk_42 (dk_at dksX2_askOf_1 15 rfl rfl)
theorem dX2_askOf_39 : decode cX2_askOf 39 = .ok (.iload_n 1, 1) := dk_27 (dk_at dksX2_askOf_1 16 rfl rfl)
theorem dX2_askOf_40 : decode cX2_askOf 40 = .ok (.invokevirtual 363, 3) := dk_182 1 107 (dk_at dksX2_askOf_1 17 rfl rfl)
theorem dX2_askOf_43 : decode cX2_askOf 43 = .ok (.if_icmp .ge 5, 3) := dk_162 0 5 (dk_at dksX2_askOf_1 20 rfl rfl)
theorem dX2_askOf_46 : decode cX2_askOf 46 = .ok (.iload_n 2, 1) := dk_28 (dk_at dksX2_askOf_1 23 rfl rfl)
theorem dX2_askOf_47 : decode cX2_askOf 47 = .ok (.istore_n 1, 1) := dk_60 (dk_at dksX2_askOf_2 0 rfl rfl)
theorem dX2_askOf_48 : decode cX2_askOf 48 = .ok (.iinc 2 1, 3) := dk_132 2 1 (dk_at dksX2_askOf_2 1 rfl rfl)
theorem dX2_askOf_51 : decode cX2_askOf 51 = .ok (.goto (-40), 3) := dk_167 255 216 (dk_at dksX2_askOf_2 4 rfl rfl)
theorem dX2_askOf_54 : decode cX2_askOf 54 = .ok (.iload_n 1, 1) := dk_27 (dk_at dksX2_askOf_2 7 rfl rfl)
theorem dX2_askOf_55 : decode cX2_askOf 55 = .ok (.ireturn, 1) := dk_172 (dk_at dksX2_askOf_2 8 rfl rfl)
abbrev cX2_leavesOf : ByteArray := prog_15_method_100_code
def yX2_leavesOf : MethodName := ⟨RX2, "leavesOf", "(I)I"⟩
def dkwX2_leavesOf_1 : List UInt8 := [27, 46, 167, 0, 14, 42, 180, 1, 92, 42, 180, 0, 44, 27, 46, 100, 172]
abbrev dktX2_leavesOf_1 : List UInt8 := dkwX2_leavesOf_1 ++ []
def dkwX2_leavesOf_0 : List UInt8 := [42, 180, 0, 44, 27, 46, 42, 180, 1, 92, 42, 180, 0, 44, 27, 46, 100, 164, 0, 12, 42, 180, 0, 44]
abbrev dktX2_leavesOf_0 : List UInt8 := dkwX2_leavesOf_0 ++ dktX2_leavesOf_1
theorem dksX2_leavesOf_0 : cX2_leavesOf.data.toList.drop 0 = dktX2_leavesOf_0 := by decide +kernel
theorem dksX2_leavesOf_1 : cX2_leavesOf.data.toList.drop 24 = dktX2_leavesOf_1 := dk_seg dksX2_leavesOf_0 24 rfl rfl
theorem dX2_leavesOf_0 : decode cX2_leavesOf 0 = .ok (.aload_n 0, 1) := dk_42 (dk_at dksX2_leavesOf_0 0 rfl rfl)
theorem dX2_leavesOf_1 : decode cX2_leavesOf 1 = .ok (.getfield 44, 3) := dk_180 0 44 (dk_at dksX2_leavesOf_0 1 rfl rfl)
theorem dX2_leavesOf_4 : decode cX2_leavesOf 4 = .ok (.iload_n 1, 1) := dk_27 (dk_at dksX2_leavesOf_0 4 rfl rfl)
theorem dX2_leavesOf_5 : decode cX2_leavesOf 5 = .ok (.iaload, 1) := dk_46 (dk_at dksX2_leavesOf_0 5 rfl rfl)
theorem dX2_leavesOf_6 : decode cX2_leavesOf 6 = .ok (.aload_n 0, 1) := dk_42 (dk_at dksX2_leavesOf_0 6 rfl rfl)
theorem dX2_leavesOf_7 : decode cX2_leavesOf 7 = .ok (.getfield 348, 3) := dk_180 1 92 (dk_at dksX2_leavesOf_0 7 rfl rfl)
theorem dX2_leavesOf_10 : decode cX2_leavesOf 10 = .ok (.aload_n 0, 1) := dk_42 (dk_at dksX2_leavesOf_0 10 rfl rfl)
theorem dX2_leavesOf_11 : decode cX2_leavesOf 11 = .ok (.getfield 44, 3) := dk_180 0 44 (dk_at dksX2_leavesOf_0 11 rfl rfl)
theorem dX2_leavesOf_14 : decode cX2_leavesOf 14 = .ok (.iload_n 1, 1) := dk_27 (dk_at dksX2_leavesOf_0 14 rfl rfl)
theorem dX2_leavesOf_15 : decode cX2_leavesOf 15 = .ok (.iaload, 1) := dk_46 (dk_at dksX2_leavesOf_0 15 rfl rfl)
theorem dX2_leavesOf_16 : decode cX2_leavesOf 16 = .ok (.isub, 1) := dk_100 (dk_at dksX2_leavesOf_0 16 rfl rfl)
theorem dX2_leavesOf_17 : decode cX2_leavesOf 17 = .ok (.if_icmp .le 12, 3) := dk_164 0 12 (dk_at dksX2_leavesOf_0 17 rfl rfl)
theorem dX2_leavesOf_20 : decode cX2_leavesOf 20 = .ok (.aload_n 0, 1) := dk_42 (dk_at dksX2_leavesOf_0 20 rfl rfl)
theorem dX2_leavesOf_21 : decode cX2_leavesOf 21 = .ok (.getfield 44, 3) := dk_180 0 44 (dk_at dksX2_leavesOf_0 21 rfl rfl)
theorem dX2_leavesOf_24 : decode cX2_leavesOf 24 = .ok (.iload_n 1, 1) := dk_27 (dk_at dksX2_leavesOf_1 0 rfl rfl)
theorem dX2_leavesOf_25 : decode cX2_leavesOf 25 = .ok (.iaload, 1) := dk_46 (dk_at dksX2_leavesOf_1 1 rfl rfl)
theorem dX2_leavesOf_26 : decode cX2_leavesOf 26 = .ok (.goto 14, 3) := dk_167 0 14 (dk_at dksX2_leavesOf_1 2 rfl rfl)
theorem dX2_leavesOf_29 : decode cX2_leavesOf 29 = .ok (.aload_n 0, 1) := dk_42 (dk_at dksX2_leavesOf_1 5 rfl rfl)
theorem dX2_leavesOf_30 : decode cX2_leavesOf 30 = .ok (.getfield 348, 3) := dk_180 1 92 (dk_at dksX2_leavesOf_1 6 rfl rfl)
theorem dX2_leavesOf_33 : decode cX2_leavesOf 33 = .ok (.aload_n 0, 1) := dk_42 (dk_at dksX2_leavesOf_1 9 rfl rfl)
theorem dX2_leavesOf_34 : decode cX2_leavesOf 34 = .ok (.getfield 44, 3) := dk_180 0 44 (dk_at dksX2_leavesOf_1 10 rfl rfl)
theorem dX2_leavesOf_37 : decode cX2_leavesOf 37 = .ok (.iload_n 1, 1) := dk_27 (dk_at dksX2_leavesOf_1 13 rfl rfl)
theorem dX2_leavesOf_38 : decode cX2_leavesOf 38 = .ok (.iaload, 1) := dk_46 (dk_at dksX2_leavesOf_1 14 rfl rfl)
theorem dX2_leavesOf_39 : decode cX2_leavesOf 39 = .ok (.isub, 1) := dk_100 (dk_at dksX2_leavesOf_1 15 rfl rfl)
theorem dX2_leavesOf_40 : decode cX2_leavesOf 40 = .ok (.ireturn, 1) := dk_172 (dk_at dksX2_leavesOf_1 16 rfl rfl)
abbrev cX2_askLeaves : ByteArray := prog_15_method_103_code
def yX2_askLeaves : MethodName := ⟨RX2, "askLeaves", "()I"⟩
def dkwX2_askLeaves_1 : List UInt8 := [156, 0, 8, 16, 254, 167, 0, 8, 42, 27, 182, 1, 107, 172]
abbrev dktX2_askLeaves_1 : List UInt8 := dkwX2_askLeaves_1 ++ []
def dkwX2_askLeaves_0 : List UInt8 := [42, 182, 0, 163, 42, 180, 0, 176, 154, 0, 9, 42, 4, 182, 0, 166, 172, 42, 182, 1, 110, 60, 27]
abbrev dktX2_askLeaves_0 : List UInt8 := dkwX2_askLeaves_0 ++ dktX2_askLeaves_1
theorem dksX2_askLeaves_0 : cX2_askLeaves.data.toList.drop 0 = dktX2_askLeaves_0 := by decide +kernel
theorem dksX2_askLeaves_1 : cX2_askLeaves.data.toList.drop 23 = dktX2_askLeaves_1 := dk_seg dksX2_askLeaves_0 23 rfl rfl
theorem dX2_askLeaves_0 : decode cX2_askLeaves 0 = .ok (.aload_n 0, 1) := dk_42 (dk_at dksX2_askLeaves_0 0 rfl rfl)
theorem dX2_askLeaves_1 : decode cX2_askLeaves 1 = .ok (.invokevirtual 163, 3) := dk_182 0 163 (dk_at dksX2_askLeaves_0 1 rfl rfl)
theorem dX2_askLeaves_4 : decode cX2_askLeaves 4 = .ok (.aload_n 0, 1) := dk_42 (dk_at dksX2_askLeaves_0 4 rfl rfl)
theorem dX2_askLeaves_5 : decode cX2_askLeaves 5 = .ok (.getfield 176, 3) := dk_180 0 176 (dk_at dksX2_askLeaves_0 5 rfl rfl)
theorem dX2_askLeaves_8 : decode cX2_askLeaves 8 = .ok (.ifCond .ne 9, 3) := dk_154 0 9 (dk_at dksX2_askLeaves_0 8 rfl rfl)
theorem dX2_askLeaves_11 : decode cX2_askLeaves 11 = .ok (.aload_n 0, 1) := dk_42 (dk_at dksX2_askLeaves_0 11 rfl rfl)
theorem dX2_askLeaves_12 : decode cX2_askLeaves 12 = .ok (.iconst 1, 1) := dk_4 (dk_at dksX2_askLeaves_0 12 rfl rfl)
theorem dX2_askLeaves_13 : decode cX2_askLeaves 13 = .ok (.invokevirtual 166, 3) := dk_182 0 166 (dk_at dksX2_askLeaves_0 13 rfl rfl)
theorem dX2_askLeaves_16 : decode cX2_askLeaves 16 = .ok (.ireturn, 1) := dk_172 (dk_at dksX2_askLeaves_0 16 rfl rfl)
theorem dX2_askLeaves_17 : decode cX2_askLeaves 17 = .ok (.aload_n 0, 1) := dk_42 (dk_at dksX2_askLeaves_0 17 rfl rfl)
theorem dX2_askLeaves_18 : decode cX2_askLeaves 18 = .ok (.invokevirtual 366, 3) := dk_182 1 110 (dk_at dksX2_askLeaves_0 18 rfl rfl)
theorem dX2_askLeaves_21 : decode cX2_askLeaves 21 = .ok (.istore_n 1, 1) := dk_60 (dk_at dksX2_askLeaves_0 21 rfl rfl)
theorem dX2_askLeaves_22 : decode cX2_askLeaves 22 = .ok (.iload_n 1, 1) := dk_27 (dk_at dksX2_askLeaves_0 22 rfl rfl)
theorem dX2_askLeaves_23 : decode cX2_askLeaves 23 = .ok (.ifCond .ge 8, 3) := dk_156 0 8 (dk_at dksX2_askLeaves_1 0 rfl rfl)
theorem dX2_askLeaves_26 : decode cX2_askLeaves 26 = .ok (.bipush (-2), 2) := dk_16 254 (dk_at dksX2_askLeaves_1 3 rfl rfl)
theorem dX2_askLeaves_28 : decode cX2_askLeaves 28 = .ok (.goto 8, 3) := dk_167 0 8 (dk_at dksX2_askLeaves_1 5 rfl rfl)
theorem dX2_askLeaves_31 : decode cX2_askLeaves 31 = .ok (.aload_n 0, 1) := dk_42 (dk_at dksX2_askLeaves_1 8 rfl rfl)
theorem dX2_askLeaves_32 : decode cX2_askLeaves 32 = .ok (.iload_n 1, 1) := dk_27 (dk_at dksX2_askLeaves_1 9 rfl rfl)
theorem dX2_askLeaves_33 : decode cX2_askLeaves 33 = .ok (.invokevirtual 363, 3) := dk_182 1 107 (dk_at dksX2_askLeaves_1 10 rfl rfl)
theorem dX2_askLeaves_36 : decode cX2_askLeaves 36 = .ok (.ireturn, 1) := dk_172 (dk_at dksX2_askLeaves_1 13 rfl rfl)
abbrev cX2_judge : ByteArray := prog_15_method_104_code
def yX2_judge : MethodName := ⟨RX2, "judge", "()I"⟩
def dkwX2_judge_1 : List UInt8 := [172]
abbrev dktX2_judge_1 : List UInt8 := dkwX2_judge_1 ++ []
def dkwX2_judge_0 : List UInt8 := [42, 182, 0, 163, 42, 180, 0, 176, 153, 0, 11, 42, 3, 182, 1, 101, 167, 0, 8, 42, 4, 182, 0, 166]
abbrev dktX2_judge_0 : List UInt8 := dkwX2_judge_0 ++ dktX2_judge_1
theorem dksX2_judge_0 : cX2_judge.data.toList.drop 0 = dktX2_judge_0 := by decide +kernel
theorem dksX2_judge_1 : cX2_judge.data.toList.drop 24 = dktX2_judge_1 := dk_seg dksX2_judge_0 24 rfl rfl
theorem dX2_judge_0 : decode cX2_judge 0 = .ok (.aload_n 0, 1) := dk_42 (dk_at dksX2_judge_0 0 rfl rfl)
theorem dX2_judge_1 : decode cX2_judge 1 = .ok (.invokevirtual 163, 3) := dk_182 0 163 (dk_at dksX2_judge_0 1 rfl rfl)
theorem dX2_judge_4 : decode cX2_judge 4 = .ok (.aload_n 0, 1) := dk_42 (dk_at dksX2_judge_0 4 rfl rfl)
theorem dX2_judge_5 : decode cX2_judge 5 = .ok (.getfield 176, 3) := dk_180 0 176 (dk_at dksX2_judge_0 5 rfl rfl)
theorem dX2_judge_8 : decode cX2_judge 8 = .ok (.ifCond .eq 11, 3) := dk_153 0 11 (dk_at dksX2_judge_0 8 rfl rfl)
theorem dX2_judge_11 : decode cX2_judge 11 = .ok (.aload_n 0, 1) := dk_42 (dk_at dksX2_judge_0 11 rfl rfl)
theorem dX2_judge_12 : decode cX2_judge 12 = .ok (.iconst 0, 1) := dk_3 (dk_at dksX2_judge_0 12 rfl rfl)
theorem dX2_judge_13 : decode cX2_judge 13 = .ok (.invokevirtual 357, 3) := dk_182 1 101 (dk_at dksX2_judge_0 13 rfl rfl)
theorem dX2_judge_16 : decode cX2_judge 16 = .ok (.goto 8, 3) := dk_167 0 8 (dk_at dksX2_judge_0 16 rfl rfl)
theorem dX2_judge_19 : decode cX2_judge 19 = .ok (.aload_n 0, 1) := dk_42 (dk_at dksX2_judge_0 19 rfl rfl)
theorem dX2_judge_20 : decode cX2_judge 20 = .ok (.iconst 1, 1) := dk_4 (dk_at dksX2_judge_0 20 rfl rfl)
theorem dX2_judge_21 : decode cX2_judge 21 = .ok (.invokevirtual 166, 3) := dk_182 0 166 (dk_at dksX2_judge_0 21 rfl rfl)
theorem dX2_judge_24 : decode cX2_judge 24 = .ok (.ireturn, 1) := dk_172 (dk_at dksX2_judge_1 0 rfl rfl)
abbrev cX2_swings : ByteArray := prog_15_method_105_code
def yX2_swings : MethodName := ⟨RX2, "swings", "(IIIZ)J"⟩
def dkwX2_swings_7 : List UInt8 := [54, 9, 132, 10, 1, 167, 255, 185, 21, 9, 133, 21, 8, 133, 21, 4, 184, 1, 113, 173]
abbrev dktX2_swings_7 : List UInt8 := dkwX2_swings_7 ++ []
def dkwX2_swings_6 : List UInt8 := [42, 21, 10, 182, 1, 33, 42, 180, 0, 41, 27, 46, 96, 16, 6, 161, 0, 7, 4, 167, 0, 4, 3, 96]
abbrev dktX2_swings_6 : List UInt8 := dkwX2_swings_6 ++ dktX2_swings_7
def dkwX2_swings_5 : List UInt8 := [130, 126, 153, 0, 6, 167, 0, 45, 132, 8, 1, 21, 9, 42, 21, 10, 182, 1, 33, 16, 6, 162, 0, 25]
abbrev dktX2_swings_5 : List UInt8 := dkwX2_swings_5 ++ dktX2_swings_6
def dkwX2_swings_4 : List UInt8 := [3, 54, 9, 3, 54, 10, 21, 10, 4, 42, 180, 0, 20, 6, 46, 120, 162, 0, 64, 21, 10, 21, 7, 2]
abbrev dktX2_swings_4 : List UInt8 := dkwX2_swings_4 ++ dktX2_swings_5
def dkwX2_swings_3 : List UInt8 := [154, 0, 11, 9, 10, 21, 4, 184, 1, 113, 173, 21, 6, 4, 27, 120, 2, 130, 126, 54, 7, 3, 54, 8]
abbrev dktX2_swings_3 : List UInt8 := dkwX2_swings_3 ++ dktX2_swings_4
def dkwX2_swings_2 : List UInt8 := [182, 0, 166, 133, 173, 42, 182, 1, 59, 42, 28, 29, 182, 1, 27, 54, 6, 21, 6, 27, 184, 0, 252]
abbrev dktX2_swings_2 : List UInt8 := dkwX2_swings_2 ++ dktX2_swings_3
def dkwX2_swings_1 : List UInt8 := [167, 0, 4, 3, 42, 29, 182, 1, 52, 182, 1, 55, 54, 5, 21, 5, 153, 0, 11, 42, 21, 5]
abbrev dktX2_swings_1 : List UInt8 := dkwX2_swings_1 ++ dktX2_swings_2
def dkwX2_swings_0 : List UInt8 := [42, 182, 0, 163, 42, 42, 27, 182, 1, 40, 153, 0, 15, 42, 28, 182, 1, 62, 153, 0, 7, 4]
abbrev dktX2_swings_0 : List UInt8 := dkwX2_swings_0 ++ dktX2_swings_1
theorem dksX2_swings_0 : cX2_swings.data.toList.drop 0 = dktX2_swings_0 := by decide +kernel
theorem dksX2_swings_1 : cX2_swings.data.toList.drop 22 = dktX2_swings_1 := dk_seg dksX2_swings_0 22 rfl rfl
theorem dksX2_swings_2 : cX2_swings.data.toList.drop 44 = dktX2_swings_2 := dk_seg dksX2_swings_1 22 rfl rfl
theorem dksX2_swings_3 : cX2_swings.data.toList.drop 67 = dktX2_swings_3 := dk_seg dksX2_swings_2 23 rfl rfl
theorem dksX2_swings_4 : cX2_swings.data.toList.drop 91 = dktX2_swings_4 := dk_seg dksX2_swings_3 24 rfl rfl
theorem dksX2_swings_5 : cX2_swings.data.toList.drop 115 = dktX2_swings_5 := dk_seg dksX2_swings_4 24 rfl rfl
theorem dksX2_swings_6 : cX2_swings.data.toList.drop 139 = dktX2_swings_6 := dk_seg dksX2_swings_5 24 rfl rfl
theorem dksX2_swings_7 : cX2_swings.data.toList.drop 163 = dktX2_swings_7 := dk_seg dksX2_swings_6 24 rfl rfl
theorem dX2_swings_0 : decode cX2_swings 0 = .ok (.aload_n 0, 1) := dk_42 (dk_at dksX2_swings_0 0 rfl rfl)
theorem dX2_swings_1 : decode cX2_swings 1 = .ok (.invokevirtual 163, 3) := dk_182 0 163 (dk_at dksX2_swings_0 1 rfl rfl)
theorem dX2_swings_4 : decode cX2_swings 4 = .ok (.aload_n 0, 1) := dk_42 (dk_at dksX2_swings_0 4 rfl rfl)
theorem dX2_swings_5 : decode cX2_swings 5 = .ok (.aload_n 0, 1) := dk_42 (dk_at dksX2_swings_0 5 rfl rfl)
theorem dX2_swings_6 : decode cX2_swings 6 = .ok (.iload_n 1, 1) := dk_27 (dk_at dksX2_swings_0 6 rfl rfl)
theorem dX2_swings_7 : decode cX2_swings 7 = .ok (.invokevirtual 296, 3) := dk_182 1 40 (dk_at dksX2_swings_0 7 rfl rfl)
theorem dX2_swings_10 : decode cX2_swings 10 = .ok (.ifCond .eq 15, 3) := dk_153 0 15 (dk_at dksX2_swings_0 10 rfl rfl)
theorem dX2_swings_13 : decode cX2_swings 13 = .ok (.aload_n 0, 1) := dk_42 (dk_at dksX2_swings_0 13 rfl rfl)
theorem dX2_swings_14 : decode cX2_swings 14 = .ok (.iload_n 2, 1) := dk_28 (dk_at dksX2_swings_0 14 rfl rfl)
theorem dX2_swings_15 : decode cX2_swings 15 = .ok (.invokevirtual 318, 3) := dk_182 1 62 (dk_at dksX2_swings_0 15 rfl rfl)
theorem dX2_swings_18 : decode cX2_swings 18 = .ok (.ifCond .eq 7, 3) := dk_153 0 7 (dk_at dksX2_swings_0 18 rfl rfl)
theorem dX2_swings_21 : decode cX2_swings 21 = .ok (.iconst 1, 1) := dk_4 (dk_at dksX2_swings_0 21 rfl rfl)
theorem dX2_swings_22 : decode cX2_swings 22 = .ok (.goto 4, 3) := dk_167 0 4 (dk_at dksX2_swings_1 0 rfl rfl)
theorem dX2_swings_25 : decode cX2_swings 25 = .ok (.iconst 0, 1) := dk_3 (dk_at dksX2_swings_1 3 rfl rfl)
theorem dX2_swings_26 : decode cX2_swings 26 = .ok (.aload_n 0, 1) := dk_42 (dk_at dksX2_swings_1 4 rfl rfl)
theorem dX2_swings_27 : decode cX2_swings 27 = .ok (.iload_n 3, 1) := dk_29 (dk_at dksX2_swings_1 5 rfl rfl)
theorem dX2_swings_28 : decode cX2_swings 28 = .ok (.invokevirtual 308, 3) := dk_182 1 52 (dk_at dksX2_swings_1 6 rfl rfl)
theorem dX2_swings_31 : decode cX2_swings 31 = .ok (.invokevirtual 311, 3) := dk_182 1 55 (dk_at dksX2_swings_1 9 rfl rfl)
theorem dX2_swings_34 : decode cX2_swings 34 = .ok (.istore 5, 2) := dk_54 5 (dk_at dksX2_swings_1 12 rfl rfl)
theorem dX2_swings_36 : decode cX2_swings 36 = .ok (.iload 5, 2) := dk_21 5 (dk_at dksX2_swings_1 14 rfl rfl)
theorem dX2_swings_38 : decode cX2_swings 38 = .ok (.ifCond .eq 11, 3) := dk_153 0 11 (dk_at dksX2_swings_1 16 rfl rfl)
theorem dX2_swings_41 : decode cX2_swings 41 = .ok (.aload_n 0, 1) := dk_42 (dk_at dksX2_swings_1 19 rfl rfl)
theorem dX2_swings_42 : decode cX2_swings 42 = .ok (.iload 5, 2) := dk_21 5 (dk_at dksX2_swings_1 20 rfl rfl)
theorem dX2_swings_44 : decode cX2_swings 44 = .ok (.invokevirtual 166, 3) := dk_182 0 166 (dk_at dksX2_swings_2 0 rfl rfl)
theorem dX2_swings_47 : decode cX2_swings 47 = .ok (.i2l, 1) := dk_133 (dk_at dksX2_swings_2 3 rfl rfl)
theorem dX2_swings_48 : decode cX2_swings 48 = .ok (.lreturn, 1) := dk_173 (dk_at dksX2_swings_2 4 rfl rfl)
theorem dX2_swings_49 : decode cX2_swings 49 = .ok (.aload_n 0, 1) := dk_42 (dk_at dksX2_swings_2 5 rfl rfl)
theorem dX2_swings_50 : decode cX2_swings 50 = .ok (.invokevirtual 315, 3) := dk_182 1 59 (dk_at dksX2_swings_2 6 rfl rfl)
theorem dX2_swings_53 : decode cX2_swings 53 = .ok (.aload_n 0, 1) := dk_42 (dk_at dksX2_swings_2 9 rfl rfl)
theorem dX2_swings_54 : decode cX2_swings 54 = .ok (.iload_n 2, 1) := dk_28 (dk_at dksX2_swings_2 10 rfl rfl)
theorem dX2_swings_55 : decode cX2_swings 55 = .ok (.iload_n 3, 1) := dk_29 (dk_at dksX2_swings_2 11 rfl rfl)
theorem dX2_swings_56 : decode cX2_swings 56 = .ok (.invokevirtual 283, 3) := dk_182 1 27 (dk_at dksX2_swings_2 12 rfl rfl)
theorem dX2_swings_59 : decode cX2_swings 59 = .ok (.istore 6, 2) := dk_54 6 (dk_at dksX2_swings_2 15 rfl rfl)
theorem dX2_swings_61 : decode cX2_swings 61 = .ok (.iload 6, 2) := dk_21 6 (dk_at dksX2_swings_2 17 rfl rfl)
theorem dX2_swings_63 : decode cX2_swings 63 = .ok (.iload_n 1, 1) := dk_27 (dk_at dksX2_swings_2 19 rfl rfl)
theorem dX2_swings_64 : decode cX2_swings 64 = .ok (.invokestatic 252, 3) := dk_184 0 252 (dk_at dksX2_swings_2 20 rfl rfl)
theorem dX2_swings_67 : decode cX2_swings 67 = .ok (.ifCond .ne 11, 3) := dk_154 0 11 (dk_at dksX2_swings_3 0 rfl rfl)
theorem dX2_swings_70 : decode cX2_swings 70 = .ok (.lconst 0, 1) := dk_9 (dk_at dksX2_swings_3 3 rfl rfl)
theorem dX2_swings_71 : decode cX2_swings 71 = .ok (.lconst 1, 1) := dk_10 (dk_at dksX2_swings_3 4 rfl rfl)
theorem dX2_swings_72 : decode cX2_swings 72 = .ok (.iload 4, 2) := dk_21 4 (dk_at dksX2_swings_3 5 rfl rfl)
theorem dX2_swings_74 : decode cX2_swings 74 = .ok (.invokestatic 369, 3) := dk_184 1 113 (dk_at dksX2_swings_3 7 rfl rfl)
theorem dX2_swings_77 : decode cX2_swings 77 = .ok (.lreturn, 1) := dk_173 (dk_at dksX2_swings_3 10 rfl rfl)
theorem dX2_swings_78 : decode cX2_swings 78 = .ok (.iload 6, 2) := dk_21 6 (dk_at dksX2_swings_3 11 rfl rfl)
theorem dX2_swings_80 : decode cX2_swings 80 = .ok (.iconst 1, 1) := dk_4 (dk_at dksX2_swings_3 13 rfl rfl)
theorem dX2_swings_81 : decode cX2_swings 81 = .ok (.iload_n 1, 1) := dk_27 (dk_at dksX2_swings_3 14 rfl rfl)
theorem dX2_swings_82 : decode cX2_swings 82 = .ok (.ishl, 1) := dk_120 (dk_at dksX2_swings_3 15 rfl rfl)
theorem dX2_swings_83 : decode cX2_swings 83 = .ok (.iconst (-1), 1) := dk_2 (dk_at dksX2_swings_3 16 rfl rfl)
theorem dX2_swings_84 : decode cX2_swings 84 = .ok (.ixor, 1) := dk_130 (dk_at dksX2_swings_3 17 rfl rfl)
theorem dX2_swings_85 : decode cX2_swings 85 = .ok (.iand, 1) := dk_126 (dk_at dksX2_swings_3 18 rfl rfl)
theorem dX2_swings_86 : decode cX2_swings 86 = .ok (.istore 7, 2) := dk_54 7 (dk_at dksX2_swings_3 19 rfl rfl)
theorem dX2_swings_88 : decode cX2_swings 88 = .ok (.iconst 0, 1) := dk_3 (dk_at dksX2_swings_3 21 rfl rfl)
theorem dX2_swings_89 : decode cX2_swings 89 = .ok (.istore 8, 2) := dk_54 8 (dk_at dksX2_swings_3 22 rfl rfl)
theorem dX2_swings_91 : decode cX2_swings 91 = .ok (.iconst 0, 1) := dk_3 (dk_at dksX2_swings_4 0 rfl rfl)
theorem dX2_swings_92 : decode cX2_swings 92 = .ok (.istore 9, 2) := dk_54 9 (dk_at dksX2_swings_4 1 rfl rfl)
theorem dX2_swings_94 : decode cX2_swings 94 = .ok (.iconst 0, 1) := dk_3 (dk_at dksX2_swings_4 3 rfl rfl)
theorem dX2_swings_95 : decode cX2_swings 95 = .ok (.istore 10, 2) := dk_54 10 (dk_at dksX2_swings_4 4 rfl rfl)
theorem dX2_swings_97 : decode cX2_swings 97 = .ok (.iload 10, 2) := dk_21 10 (dk_at dksX2_swings_4 6 rfl rfl)
theorem dX2_swings_99 : decode cX2_swings 99 = .ok (.iconst 1, 1) := dk_4 (dk_at dksX2_swings_4 8 rfl rfl)
theorem dX2_swings_100 : decode cX2_swings 100 = .ok (.aload_n 0, 1) := dk_42 (dk_at dksX2_swings_4 9 rfl rfl)
theorem dX2_swings_101 : decode cX2_swings 101 = .ok (.getfield 20, 3) := dk_180 0 20 (dk_at dksX2_swings_4 10 rfl rfl)
theorem dX2_swings_104 : decode cX2_swings 104 = .ok (.iconst 3, 1) := dk_6 (dk_at dksX2_swings_4 13 rfl rfl)
theorem dX2_swings_105 : decode cX2_swings 105 = .ok (.iaload, 1) := dk_46 (dk_at dksX2_swings_4 14 rfl rfl)
theorem dX2_swings_106 : decode cX2_swings 106 = .ok (.ishl, 1) := dk_120 (dk_at dksX2_swings_4 15 rfl rfl)
theorem dX2_swings_107 : decode cX2_swings 107 = .ok (.if_icmp .ge 64, 3) := dk_162 0 64 (dk_at dksX2_swings_4 16 rfl rfl)
theorem dX2_swings_110 : decode cX2_swings 110 = .ok (.iload 10, 2) := dk_21 10 (dk_at dksX2_swings_4 19 rfl rfl)
theorem dX2_swings_112 : decode cX2_swings 112 = .ok (.iload 7, 2) := dk_21 7 (dk_at dksX2_swings_4 21 rfl rfl)
theorem dX2_swings_114 : decode cX2_swings 114 = .ok (.iconst (-1), 1) := dk_2 (dk_at dksX2_swings_4 23 rfl rfl)
theorem dX2_swings_115 : decode cX2_swings 115 = .ok (.ixor, 1) := dk_130 (dk_at dksX2_swings_5 0 rfl rfl)
theorem dX2_swings_116 : decode cX2_swings 116 = .ok (.iand, 1) := dk_126 (dk_at dksX2_swings_5 1 rfl rfl)
theorem dX2_swings_117 : decode cX2_swings 117 = .ok (.ifCond .eq 6, 3) := dk_153 0 6 (dk_at dksX2_swings_5 2 rfl rfl)
theorem dX2_swings_120 : decode cX2_swings 120 = .ok (.goto 45, 3) := dk_167 0 45 (dk_at dksX2_swings_5 5 rfl rfl)
theorem dX2_swings_123 : decode cX2_swings 123 = .ok (.iinc 8 1, 3) := dk_132 8 1 (dk_at dksX2_swings_5 8 rfl rfl)
theorem dX2_swings_126 : decode cX2_swings 126 = .ok (.iload 9, 2) := dk_21 9 (dk_at dksX2_swings_5 11 rfl rfl)
theorem dX2_swings_128 : decode cX2_swings 128 = .ok (.aload_n 0, 1) := dk_42 (dk_at dksX2_swings_5 13 rfl rfl)
theorem dX2_swings_129 : decode cX2_swings 129 = .ok (.iload 10, 2) := dk_21 10 (dk_at dksX2_swings_5 14 rfl rfl)
theorem dX2_swings_131 : decode cX2_swings 131 = .ok (.invokevirtual 289, 3) := dk_182 1 33 (dk_at dksX2_swings_5 16 rfl rfl)
theorem dX2_swings_134 : decode cX2_swings 134 = .ok (.bipush 6, 2) := dk_16 6 (dk_at dksX2_swings_5 19 rfl rfl)
theorem dX2_swings_136 : decode cX2_swings 136 = .ok (.if_icmp .ge 25, 3) := dk_162 0 25 (dk_at dksX2_swings_5 21 rfl rfl)
theorem dX2_swings_139 : decode cX2_swings 139 = .ok (.aload_n 0, 1) := dk_42 (dk_at dksX2_swings_6 0 rfl rfl)
theorem dX2_swings_140 : decode cX2_swings 140 = .ok (.iload 10, 2) := dk_21 10 (dk_at dksX2_swings_6 1 rfl rfl)
theorem dX2_swings_142 : decode cX2_swings 142 = .ok (.invokevirtual 289, 3) := dk_182 1 33 (dk_at dksX2_swings_6 3 rfl rfl)
theorem dX2_swings_145 : decode cX2_swings 145 = .ok (.aload_n 0, 1) := dk_42 (dk_at dksX2_swings_6 6 rfl rfl)
theorem dX2_swings_146 : decode cX2_swings 146 = .ok (.getfield 41, 3) := dk_180 0 41 (dk_at dksX2_swings_6 7 rfl rfl)
theorem dX2_swings_149 : decode cX2_swings 149 = .ok (.iload_n 1, 1) := dk_27 (dk_at dksX2_swings_6 10 rfl rfl)
theorem dX2_swings_150 : decode cX2_swings 150 = .ok (.iaload, 1) := dk_46 (dk_at dksX2_swings_6 11 rfl rfl)
theorem dX2_swings_151 : decode cX2_swings 151 = .ok (.iadd, 1) := dk_96 (dk_at dksX2_swings_6 12 rfl rfl)
theorem dX2_swings_152 : decode cX2_swings 152 = .ok (.bipush 6, 2) := dk_16 6 (dk_at dksX2_swings_6 13 rfl rfl)
theorem dX2_swings_154 : decode cX2_swings 154 = .ok (.if_icmp .lt 7, 3) := dk_161 0 7 (dk_at dksX2_swings_6 15 rfl rfl)
theorem dX2_swings_157 : decode cX2_swings 157 = .ok (.iconst 1, 1) := dk_4 (dk_at dksX2_swings_6 18 rfl rfl)
theorem dX2_swings_158 : decode cX2_swings 158 = .ok (.goto 4, 3) := dk_167 0 4 (dk_at dksX2_swings_6 19 rfl rfl)
theorem dX2_swings_161 : decode cX2_swings 161 = .ok (.iconst 0, 1) := dk_3 (dk_at dksX2_swings_6 22 rfl rfl)
theorem dX2_swings_162 : decode cX2_swings 162 = .ok (.iadd, 1) := dk_96 (dk_at dksX2_swings_6 23 rfl rfl)
theorem dX2_swings_163 : decode cX2_swings 163 = .ok (.istore 9, 2) := dk_54 9 (dk_at dksX2_swings_7 0 rfl rfl)
theorem dX2_swings_165 : decode cX2_swings 165 = .ok (.iinc 10 1, 3) := dk_132 10 1 (dk_at dksX2_swings_7 2 rfl rfl)
theorem dX2_swings_168 : decode cX2_swings 168 = .ok (.goto (-71), 3) := dk_167 255 185 (dk_at dksX2_swings_7 5 rfl rfl)
theorem dX2_swings_171 : decode cX2_swings 171 = .ok (.iload 9, 2) := dk_21 9 (dk_at dksX2_swings_7 8 rfl rfl)
theorem dX2_swings_173 : decode cX2_swings 173 = .ok (.i2l, 1) := dk_133 (dk_at dksX2_swings_7 10 rfl rfl)
theorem dX2_swings_174 : decode cX2_swings 174 = .ok (.iload 8, 2) := dk_21 8 (dk_at dksX2_swings_7 11 rfl rfl)
theorem dX2_swings_176 : decode cX2_swings 176 = .ok (.i2l, 1) := dk_133 (dk_at dksX2_swings_7 13 rfl rfl)
theorem dX2_swings_177 : decode cX2_swings 177 = .ok (.iload 4, 2) := dk_21 4 (dk_at dksX2_swings_7 14 rfl rfl)
theorem dX2_swings_179 : decode cX2_swings 179 = .ok (.invokestatic 369, 3) := dk_184 1 113 (dk_at dksX2_swings_7 16 rfl rfl)
theorem dX2_swings_182 : decode cX2_swings 182 = .ok (.lreturn, 1) := dk_173 (dk_at dksX2_swings_7 19 rfl rfl)
abbrev cX2_lowest : ByteArray := prog_15_method_10_code
def yX2_lowest : MethodName := ⟨RX2, "lowest", "(JJZ)J"⟩
def dkwX2_lowest_1 : List UInt8 := [22, 9, 55, 7, 167, 255, 234, 21, 4, 153, 0, 7, 32, 167, 0, 4, 30, 22, 5, 109, 173]
abbrev dktX2_lowest_1 : List UInt8 := dkwX2_lowest_1 ++ []
def dkwX2_lowest_0 : List UInt8 := [32, 55, 5, 30, 55, 7, 22, 7, 9, 148, 153, 0, 21, 22, 5, 22, 7, 113, 55, 9, 22, 7, 55, 5]
abbrev dktX2_lowest_0 : List UInt8 := dkwX2_lowest_0 ++ dktX2_lowest_1
theorem dksX2_lowest_0 : cX2_lowest.data.toList.drop 0 = dktX2_lowest_0 := by decide +kernel
theorem dksX2_lowest_1 : cX2_lowest.data.toList.drop 24 = dktX2_lowest_1 := dk_seg dksX2_lowest_0 24 rfl rfl
theorem dX2_lowest_0 : decode cX2_lowest 0 = .ok (.lload_n 2, 1) := dk_32 (dk_at dksX2_lowest_0 0 rfl rfl)
theorem dX2_lowest_1 : decode cX2_lowest 1 = .ok (.lstore 5, 2) := dk_55 5 (dk_at dksX2_lowest_0 1 rfl rfl)
theorem dX2_lowest_3 : decode cX2_lowest 3 = .ok (.lload_n 0, 1) := dk_30 (dk_at dksX2_lowest_0 3 rfl rfl)
theorem dX2_lowest_4 : decode cX2_lowest 4 = .ok (.lstore 7, 2) := dk_55 7 (dk_at dksX2_lowest_0 4 rfl rfl)
theorem dX2_lowest_6 : decode cX2_lowest 6 = .ok (.lload 7, 2) := dk_22 7 (dk_at dksX2_lowest_0 6 rfl rfl)
theorem dX2_lowest_8 : decode cX2_lowest 8 = .ok (.lconst 0, 1) := dk_9 (dk_at dksX2_lowest_0 8 rfl rfl)
theorem dX2_lowest_9 : decode cX2_lowest 9 = .ok (.lcmp, 1) := dk_148 (dk_at dksX2_lowest_0 9 rfl rfl)
theorem dX2_lowest_10 : decode cX2_lowest 10 = .ok (.ifCond .eq 21, 3) := dk_153 0 21 (dk_at dksX2_lowest_0 10 rfl rfl)
theorem dX2_lowest_13 : decode cX2_lowest 13 = .ok (.lload 5, 2) := dk_22 5 (dk_at dksX2_lowest_0 13 rfl rfl)
theorem dX2_lowest_15 : decode cX2_lowest 15 = .ok (.lload 7, 2) := dk_22 7 (dk_at dksX2_lowest_0 15 rfl rfl)
theorem dX2_lowest_17 : decode cX2_lowest 17 = .ok (.lrem, 1) := dk_113 (dk_at dksX2_lowest_0 17 rfl rfl)
theorem dX2_lowest_18 : decode cX2_lowest 18 = .ok (.lstore 9, 2) := dk_55 9 (dk_at dksX2_lowest_0 18 rfl rfl)
theorem dX2_lowest_20 : decode cX2_lowest 20 = .ok (.lload 7, 2) := dk_22 7 (dk_at dksX2_lowest_0 20 rfl rfl)
theorem dX2_lowest_22 : decode cX2_lowest 22 = .ok (.lstore 5, 2) := dk_55 5 (dk_at dksX2_lowest_0 22 rfl rfl)
theorem dX2_lowest_24 : decode cX2_lowest 24 = .ok (.lload 9, 2) := dk_22 9 (dk_at dksX2_lowest_1 0 rfl rfl)
theorem dX2_lowest_26 : decode cX2_lowest 26 = .ok (.lstore 7, 2) := dk_55 7 (dk_at dksX2_lowest_1 2 rfl rfl)
theorem dX2_lowest_28 : decode cX2_lowest 28 = .ok (.goto (-22), 3) := dk_167 255 234 (dk_at dksX2_lowest_1 4 rfl rfl)
theorem dX2_lowest_31 : decode cX2_lowest 31 = .ok (.iload 4, 2) := dk_21 4 (dk_at dksX2_lowest_1 7 rfl rfl)
theorem dX2_lowest_33 : decode cX2_lowest 33 = .ok (.ifCond .eq 7, 3) := dk_153 0 7 (dk_at dksX2_lowest_1 9 rfl rfl)
theorem dX2_lowest_36 : decode cX2_lowest 36 = .ok (.lload_n 2, 1) := dk_32 (dk_at dksX2_lowest_1 12 rfl rfl)
theorem dX2_lowest_37 : decode cX2_lowest 37 = .ok (.goto 4, 3) := dk_167 0 4 (dk_at dksX2_lowest_1 13 rfl rfl)
theorem dX2_lowest_40 : decode cX2_lowest 40 = .ok (.lload_n 0, 1) := dk_30 (dk_at dksX2_lowest_1 16 rfl rfl)
theorem dX2_lowest_41 : decode cX2_lowest 41 = .ok (.lload 5, 2) := dk_22 5 (dk_at dksX2_lowest_1 17 rfl rfl)
theorem dX2_lowest_43 : decode cX2_lowest 43 = .ok (.ldiv, 1) := dk_109 (dk_at dksX2_lowest_1 19 rfl rfl)
theorem dX2_lowest_44 : decode cX2_lowest 44 = .ok (.lreturn, 1) := dk_173 (dk_at dksX2_lowest_1 20 rfl rfl)
abbrev cX2_three : ByteArray := prog_15_method_106_code
def yX2_three : MethodName := ⟨RX2, "three", "(II)I"⟩
def dkwX2_three_4 : List UInt8 := [184, 1, 77, 162, 0, 7, 21, 6, 54, 5, 132, 6, 1, 167, 255, 197, 21, 5, 172]
abbrev dktX2_three_4 : List UInt8 := dkwX2_three_4 ++ []
def dkwX2_three_3 : List UInt8 := [21, 6, 182, 1, 33, 16, 6, 161, 0, 25, 21, 5, 155, 0, 16, 21, 6, 184, 1, 77, 21, 5]
abbrev dktX2_three_3 : List UInt8 := dkwX2_three_3 ++ dktX2_three_4
def dkwX2_three_2 : List UInt8 := [21, 6, 4, 42, 180, 0, 20, 6, 46, 120, 162, 0, 52, 21, 6, 21, 4, 2, 130, 126, 154, 0, 36, 42]
abbrev dktX2_three_2 : List UInt8 := dkwX2_three_2 ++ dktX2_three_3
def dkwX2_three_1 : List UInt8 := [29, 182, 0, 166, 172, 42, 182, 1, 59, 42, 27, 28, 182, 1, 27, 54, 4, 16, 254, 54, 5, 3, 54, 6]
abbrev dktX2_three_1 : List UInt8 := dkwX2_three_1 ++ dktX2_three_2
def dkwX2_three_0 : List UInt8 := [42, 182, 0, 163, 42, 42, 27, 182, 1, 62, 42, 28, 182, 1, 52, 182, 1, 55, 62, 29, 153, 0, 9, 42]
abbrev dktX2_three_0 : List UInt8 := dkwX2_three_0 ++ dktX2_three_1
theorem dksX2_three_0 : cX2_three.data.toList.drop 0 = dktX2_three_0 := by decide +kernel
theorem dksX2_three_1 : cX2_three.data.toList.drop 24 = dktX2_three_1 := dk_seg dksX2_three_0 24 rfl rfl
theorem dksX2_three_2 : cX2_three.data.toList.drop 48 = dktX2_three_2 := dk_seg dksX2_three_1 24 rfl rfl
theorem dksX2_three_3 : cX2_three.data.toList.drop 72 = dktX2_three_3 := dk_seg dksX2_three_2 24 rfl rfl
theorem dksX2_three_4 : cX2_three.data.toList.drop 94 = dktX2_three_4 := dk_seg dksX2_three_3 22 rfl rfl
theorem dX2_three_0 : decode cX2_three 0 = .ok (.aload_n 0, 1) := dk_42 (dk_at dksX2_three_0 0 rfl rfl)
theorem dX2_three_1 : decode cX2_three 1 = .ok (.invokevirtual 163, 3) := dk_182 0 163 (dk_at dksX2_three_0 1 rfl rfl)
theorem dX2_three_4 : decode cX2_three 4 = .ok (.aload_n 0, 1) := dk_42 (dk_at dksX2_three_0 4 rfl rfl)
theorem dX2_three_5 : decode cX2_three 5 = .ok (.aload_n 0, 1) := dk_42 (dk_at dksX2_three_0 5 rfl rfl)
theorem dX2_three_6 : decode cX2_three 6 = .ok (.iload_n 1, 1) := dk_27 (dk_at dksX2_three_0 6 rfl rfl)
theorem dX2_three_7 : decode cX2_three 7 = .ok (.invokevirtual 318, 3) := dk_182 1 62 (dk_at dksX2_three_0 7 rfl rfl)
theorem dX2_three_10 : decode cX2_three 10 = .ok (.aload_n 0, 1) := dk_42 (dk_at dksX2_three_0 10 rfl rfl)
theorem dX2_three_11 : decode cX2_three 11 = .ok (.iload_n 2, 1) := dk_28 (dk_at dksX2_three_0 11 rfl rfl)
theorem dX2_three_12 : decode cX2_three 12 = .ok (.invokevirtual 308, 3) := dk_182 1 52 (dk_at dksX2_three_0 12 rfl rfl)
theorem dX2_three_15 : decode cX2_three 15 = .ok (.invokevirtual 311, 3) := dk_182 1 55 (dk_at dksX2_three_0 15 rfl rfl)
theorem dX2_three_18 : decode cX2_three 18 = .ok (.istore_n 3, 1) := dk_62 (dk_at dksX2_three_0 18 rfl rfl)
theorem dX2_three_19 : decode cX2_three 19 = .ok (.iload_n 3, 1) := dk_29 (dk_at dksX2_three_0 19 rfl rfl)
theorem dX2_three_20 : decode cX2_three 20 = .ok (.ifCond .eq 9, 3) := dk_153 0 9 (dk_at dksX2_three_0 20 rfl rfl)
theorem dX2_three_23 : decode cX2_three 23 = .ok (.aload_n 0, 1) := dk_42 (dk_at dksX2_three_0 23 rfl rfl)
theorem dX2_three_24 : decode cX2_three 24 = .ok (.iload_n 3, 1) := dk_29 (dk_at dksX2_three_1 0 rfl rfl)
theorem dX2_three_25 : decode cX2_three 25 = .ok (.invokevirtual 166, 3) := dk_182 0 166 (dk_at dksX2_three_1 1 rfl rfl)
theorem dX2_three_28 : decode cX2_three 28 = .ok (.ireturn, 1) := dk_172 (dk_at dksX2_three_1 4 rfl rfl)
theorem dX2_three_29 : decode cX2_three 29 = .ok (.aload_n 0, 1) := dk_42 (dk_at dksX2_three_1 5 rfl rfl)
theorem dX2_three_30 : decode cX2_three 30 = .ok (.invokevirtual 315, 3) := dk_182 1 59 (dk_at dksX2_three_1 6 rfl rfl)
theorem dX2_three_33 : decode cX2_three 33 = .ok (.aload_n 0, 1) := dk_42 (dk_at dksX2_three_1 9 rfl rfl)
theorem dX2_three_34 : decode cX2_three 34 = .ok (.iload_n 1, 1) := dk_27 (dk_at dksX2_three_1 10 rfl rfl)
theorem dX2_three_35 : decode cX2_three 35 = .ok (.iload_n 2, 1) := dk_28 (dk_at dksX2_three_1 11 rfl rfl)
theorem dX2_three_36 : decode cX2_three 36 = .ok (.invokevirtual 283, 3) := dk_182 1 27 (dk_at dksX2_three_1 12 rfl rfl)
theorem dX2_three_39 : decode cX2_three 39 = .ok (.istore 4, 2) := dk_54 4 (dk_at dksX2_three_1 15 rfl rfl)
theorem dX2_three_41 : decode cX2_three 41 = .ok (.bipush (-2), 2) := dk_16 254 (dk_at dksX2_three_1 17 rfl rfl)
theorem dX2_three_43 : decode cX2_three 43 = .ok (.istore 5, 2) := dk_54 5 (dk_at dksX2_three_1 19 rfl rfl)
theorem dX2_three_45 : decode cX2_three 45 = .ok (.iconst 0, 1) := dk_3 (dk_at dksX2_three_1 21 rfl rfl)
theorem dX2_three_46 : decode cX2_three 46 = .ok (.istore 6, 2) := dk_54 6 (dk_at dksX2_three_1 22 rfl rfl)
theorem dX2_three_48 : decode cX2_three 48 = .ok (.iload 6, 2) := dk_21 6 (dk_at dksX2_three_2 0 rfl rfl)
theorem dX2_three_50 : decode cX2_three 50 = .ok (.iconst 1, 1) := dk_4 (dk_at dksX2_three_2 2 rfl rfl)
theorem dX2_three_51 : decode cX2_three 51 = .ok (.aload_n 0, 1) := dk_42 (dk_at dksX2_three_2 3 rfl rfl)
theorem dX2_three_52 : decode cX2_three 52 = .ok (.getfield 20, 3) := dk_180 0 20 (dk_at dksX2_three_2 4 rfl rfl)
theorem dX2_three_55 : decode cX2_three 55 = .ok (.iconst 3, 1) := dk_6 (dk_at dksX2_three_2 7 rfl rfl)
theorem dX2_three_56 : decode cX2_three 56 = .ok (.iaload, 1) := dk_46 (dk_at dksX2_three_2 8 rfl rfl)
theorem dX2_three_57 : decode cX2_three 57 = .ok (.ishl, 1) := dk_120 (dk_at dksX2_three_2 9 rfl rfl)
theorem dX2_three_58 : decode cX2_three 58 = .ok (.if_icmp .ge 52, 3) := dk_162 0 52 (dk_at dksX2_three_2 10 rfl rfl)
theorem dX2_three_61 : decode cX2_three 61 = .ok (.iload 6, 2) := dk_21 6 (dk_at dksX2_three_2 13 rfl rfl)
theorem dX2_three_63 : decode cX2_three 63 = .ok (.iload 4, 2) := dk_21 4 (dk_at dksX2_three_2 15 rfl rfl)
theorem dX2_three_65 : decode cX2_three 65 = .ok (.iconst (-1), 1) := dk_2 (dk_at dksX2_three_2 17 rfl rfl)
theorem dX2_three_66 : decode cX2_three 66 = .ok (.ixor, 1) := dk_130 (dk_at dksX2_three_2 18 rfl rfl)
theorem dX2_three_67 : decode cX2_three 67 = .ok (.iand, 1) := dk_126 (dk_at dksX2_three_2 19 rfl rfl)
theorem dX2_three_68 : decode cX2_three 68 = .ok (.ifCond .ne 36, 3) := dk_154 0 36 (dk_at dksX2_three_2 20 rfl rfl)
theorem dX2_three_71 : decode cX2_three 71 = .ok (.aload_n 0, 1) := dk_42 (dk_at dksX2_three_2 23 rfl rfl)
theorem dX2_three_72 : decode cX2_three 72 = .ok (.iload 6, 2) := dk_21 6 (dk_at dksX2_three_3 0 rfl rfl)
theorem dX2_three_74 : decode cX2_three 74 = .ok (.invokevirtual 289, 3) := dk_182 1 33 (dk_at dksX2_three_3 2 rfl rfl)
theorem dX2_three_77 : decode cX2_three 77 = .ok (.bipush 6, 2) := dk_16 6 (dk_at dksX2_three_3 5 rfl rfl)
theorem dX2_three_79 : decode cX2_three 79 = .ok (.if_icmp .lt 25, 3) := dk_161 0 25 (dk_at dksX2_three_3 7 rfl rfl)
theorem dX2_three_82 : decode cX2_three 82 = .ok (.iload 5, 2) := dk_21 5 (dk_at dksX2_three_3 10 rfl rfl)
theorem dX2_three_84 : decode cX2_three 84 = .ok (.ifCond .lt 16, 3) := dk_155 0 16 (dk_at dksX2_three_3 12 rfl rfl)
theorem dX2_three_87 : decode cX2_three 87 = .ok (.iload 6, 2) := dk_21 6 (dk_at dksX2_three_3 15 rfl rfl)
theorem dX2_three_89 : decode cX2_three 89 = .ok (.invokestatic 333, 3) := dk_184 1 77 (dk_at dksX2_three_3 17 rfl rfl)
theorem dX2_three_92 : decode cX2_three 92 = .ok (.iload 5, 2) := dk_21 5 (dk_at dksX2_three_3 20 rfl rfl)
theorem dX2_three_94 : decode cX2_three 94 = .ok (.invokestatic 333, 3) := dk_184 1 77 (dk_at dksX2_three_4 0 rfl rfl)
theorem dX2_three_97 : decode cX2_three 97 = .ok (.if_icmp .ge 7, 3) := dk_162 0 7 (dk_at dksX2_three_4 3 rfl rfl)
theorem dX2_three_100 : decode cX2_three 100 = .ok (.iload 6, 2) := dk_21 6 (dk_at dksX2_three_4 6 rfl rfl)
theorem dX2_three_102 : decode cX2_three 102 = .ok (.istore 5, 2) := dk_54 5 (dk_at dksX2_three_4 8 rfl rfl)
theorem dX2_three_104 : decode cX2_three 104 = .ok (.iinc 6 1, 3) := dk_132 6 1 (dk_at dksX2_three_4 10 rfl rfl)
theorem dX2_three_107 : decode cX2_three 107 = .ok (.goto (-59), 3) := dk_167 255 197 (dk_at dksX2_three_4 13 rfl rfl)
theorem dX2_three_110 : decode cX2_three 110 = .ok (.iload 5, 2) := dk_21 5 (dk_at dksX2_three_4 16 rfl rfl)
theorem dX2_three_112 : decode cX2_three 112 = .ok (.ireturn, 1) := dk_172 (dk_at dksX2_three_4 18 rfl rfl)
abbrev cX2_says : ByteArray := prog_15_method_108_code
def yX2_says : MethodName := ⟨RX2, "says", "(IZZZ)I"⟩
def dkwX2_says_2 : List UInt8 := [42, 21, 5, 181, 0, 50, 16, 156, 172]
abbrev dktX2_says_2 : List UInt8 := dkwX2_says_2 ++ []
def dkwX2_says_1 : List UInt8 := [154, 0, 24, 21, 4, 153, 0, 12, 27, 29, 28, 184, 1, 117, 167, 0, 9, 27, 28, 29, 184, 1, 117, 172]
abbrev dktX2_says_1 : List UInt8 := dkwX2_says_1 ++ dktX2_says_2
def dkwX2_says_0 : List UInt8 := [42, 182, 0, 163, 42, 42, 180, 0, 176, 27, 3, 16, 9, 184, 0, 139, 182, 1, 55, 54, 5, 21, 5]
abbrev dktX2_says_0 : List UInt8 := dkwX2_says_0 ++ dktX2_says_1
theorem dksX2_says_0 : cX2_says.data.toList.drop 0 = dktX2_says_0 := by decide +kernel
theorem dksX2_says_1 : cX2_says.data.toList.drop 23 = dktX2_says_1 := dk_seg dksX2_says_0 23 rfl rfl
theorem dksX2_says_2 : cX2_says.data.toList.drop 47 = dktX2_says_2 := dk_seg dksX2_says_1 24 rfl rfl
theorem dX2_says_0 : decode cX2_says 0 = .ok (.aload_n 0, 1) := dk_42 (dk_at dksX2_says_0 0 rfl rfl)
theorem dX2_says_1 : decode cX2_says 1 = .ok (.invokevirtual 163, 3) := dk_182 0 163 (dk_at dksX2_says_0 1 rfl rfl)
theorem dX2_says_4 : decode cX2_says 4 = .ok (.aload_n 0, 1) := dk_42 (dk_at dksX2_says_0 4 rfl rfl)
theorem dX2_says_5 : decode cX2_says 5 = .ok (.aload_n 0, 1) := dk_42 (dk_at dksX2_says_0 5 rfl rfl)
theorem dX2_says_6 : decode cX2_says 6 = .ok (.getfield 176, 3) := dk_180 0 176 (dk_at dksX2_says_0 6 rfl rfl)
theorem dX2_says_9 : decode cX2_says 9 = .ok (.iload_n 1, 1) := dk_27 (dk_at dksX2_says_0 9 rfl rfl)
theorem dX2_says_10 : decode cX2_says 10 = .ok (.iconst 0, 1) := dk_3 (dk_at dksX2_says_0 10 rfl rfl)
theorem dX2_says_11 : decode cX2_says 11 = .ok (.bipush 9, 2) := dk_16 9 (dk_at dksX2_says_0 11 rfl rfl)
theorem dX2_says_13 : decode cX2_says 13 = .ok (.invokestatic 139, 3) := dk_184 0 139 (dk_at dksX2_says_0 13 rfl rfl)
theorem dX2_says_16 : decode cX2_says 16 = .ok (.invokevirtual 311, 3) := dk_182 1 55 (dk_at dksX2_says_0 16 rfl rfl)
theorem dX2_says_19 : decode cX2_says 19 = .ok (.istore 5, 2) := dk_54 5 (dk_at dksX2_says_0 19 rfl rfl)
theorem dX2_says_21 : decode cX2_says 21 = .ok (.iload 5, 2) := dk_21 5 (dk_at dksX2_says_0 21 rfl rfl)
theorem dX2_says_23 : decode cX2_says 23 = .ok (.ifCond .ne 24, 3) := dk_154 0 24 (dk_at dksX2_says_1 0 rfl rfl)
theorem dX2_says_26 : decode cX2_says 26 = .ok (.iload 4, 2) := dk_21 4 (dk_at dksX2_says_1 3 rfl rfl)
theorem dX2_says_28 : decode cX2_says 28 = .ok (.ifCond .eq 12, 3) := dk_153 0 12 (dk_at dksX2_says_1 5 rfl rfl)
theorem dX2_says_31 : decode cX2_says 31 = .ok (.iload_n 1, 1) := dk_27 (dk_at dksX2_says_1 8 rfl rfl)
theorem dX2_says_32 : decode cX2_says 32 = .ok (.iload_n 3, 1) := dk_29 (dk_at dksX2_says_1 9 rfl rfl)
theorem dX2_says_33 : decode cX2_says 33 = .ok (.iload_n 2, 1) := dk_28 (dk_at dksX2_says_1 10 rfl rfl)
theorem dX2_says_34 : decode cX2_says 34 = .ok (.invokestatic 373, 3) := dk_184 1 117 (dk_at dksX2_says_1 11 rfl rfl)
theorem dX2_says_37 : decode cX2_says 37 = .ok (.goto 9, 3) := dk_167 0 9 (dk_at dksX2_says_1 14 rfl rfl)
theorem dX2_says_40 : decode cX2_says 40 = .ok (.iload_n 1, 1) := dk_27 (dk_at dksX2_says_1 17 rfl rfl)
theorem dX2_says_41 : decode cX2_says 41 = .ok (.iload_n 2, 1) := dk_28 (dk_at dksX2_says_1 18 rfl rfl)
theorem dX2_says_42 : decode cX2_says 42 = .ok (.iload_n 3, 1) := dk_29 (dk_at dksX2_says_1 19 rfl rfl)
theorem dX2_says_43 : decode cX2_says 43 = .ok (.invokestatic 373, 3) := dk_184 1 117 (dk_at dksX2_says_1 20 rfl rfl)
theorem dX2_says_46 : decode cX2_says 46 = .ok (.ireturn, 1) := dk_172 (dk_at dksX2_says_1 23 rfl rfl)
theorem dX2_says_47 : decode cX2_says 47 = .ok (.aload_n 0, 1) := dk_42 (dk_at dksX2_says_2 0 rfl rfl)
theorem dX2_says_48 : decode cX2_says 48 = .ok (.iload 5, 2) := dk_21 5 (dk_at dksX2_says_2 1 rfl rfl)
theorem dX2_says_50 : decode cX2_says 50 = .ok (.putfield 50, 3) := dk_181 0 50 (dk_at dksX2_says_2 3 rfl rfl)
theorem dX2_says_53 : decode cX2_says 53 = .ok (.bipush (-100), 2) := dk_16 156 (dk_at dksX2_says_2 6 rfl rfl)
theorem dX2_says_55 : decode cX2_says 55 = .ok (.ireturn, 1) := dk_172 (dk_at dksX2_says_2 8 rfl rfl)
abbrev cX2_saysOf : ByteArray := prog_15_method_107_code
def yX2_saysOf : MethodName := ⟨RX2, "saysOf", "(IZZ)I"⟩
def dkwX2_saysOf_1 : List UInt8 := [167, 0, 4, 5, 172]
abbrev dktX2_saysOf_1 : List UInt8 := dkwX2_saysOf_1 ++ []
def dkwX2_saysOf_0 : List UInt8 := [27, 153, 0, 17, 28, 153, 0, 9, 4, 26, 100, 167, 0, 17, 7, 167, 0, 13, 28, 153, 0, 8, 26, 116]
abbrev dktX2_saysOf_0 : List UInt8 := dkwX2_saysOf_0 ++ dktX2_saysOf_1
theorem dksX2_saysOf_0 : cX2_saysOf.data.toList.drop 0 = dktX2_saysOf_0 := by decide +kernel
theorem dksX2_saysOf_1 : cX2_saysOf.data.toList.drop 24 = dktX2_saysOf_1 := dk_seg dksX2_saysOf_0 24 rfl rfl
theorem dX2_saysOf_0 : decode cX2_saysOf 0 = .ok (.iload_n 1, 1) := dk_27 (dk_at dksX2_saysOf_0 0 rfl rfl)
theorem dX2_saysOf_1 : decode cX2_saysOf 1 = .ok (.ifCond .eq 17, 3) := dk_153 0 17 (dk_at dksX2_saysOf_0 1 rfl rfl)
theorem dX2_saysOf_4 : decode cX2_saysOf 4 = .ok (.iload_n 2, 1) := dk_28 (dk_at dksX2_saysOf_0 4 rfl rfl)
theorem dX2_saysOf_5 : decode cX2_saysOf 5 = .ok (.ifCond .eq 9, 3) := dk_153 0 9 (dk_at dksX2_saysOf_0 5 rfl rfl)
theorem dX2_saysOf_8 : decode cX2_saysOf 8 = .ok (.iconst 1, 1) := dk_4 (dk_at dksX2_saysOf_0 8 rfl rfl)
theorem dX2_saysOf_9 : decode cX2_saysOf 9 = .ok (.iload_n 0, 1) := dk_26 (dk_at dksX2_saysOf_0 9 rfl rfl)
theorem dX2_saysOf_10 : decode cX2_saysOf 10 = .ok (.isub, 1) := dk_100 (dk_at dksX2_saysOf_0 10 rfl rfl)
theorem dX2_saysOf_11 : decode cX2_saysOf 11 = .ok (.goto 17, 3) := dk_167 0 17 (dk_at dksX2_saysOf_0 11 rfl rfl)
theorem dX2_saysOf_14 : decode cX2_saysOf 14 = .ok (.iconst 4, 1) := dk_7 (dk_at dksX2_saysOf_0 14 rfl rfl)
theorem dX2_saysOf_15 : decode cX2_saysOf 15 = .ok (.goto 13, 3) := dk_167 0 13 (dk_at dksX2_saysOf_0 15 rfl rfl)
theorem dX2_saysOf_18 : decode cX2_saysOf 18 = .ok (.iload_n 2, 1) := dk_28 (dk_at dksX2_saysOf_0 18 rfl rfl)
theorem dX2_saysOf_19 : decode cX2_saysOf 19 = .ok (.ifCond .eq 8, 3) := dk_153 0 8 (dk_at dksX2_saysOf_0 19 rfl rfl)
theorem dX2_saysOf_22 : decode cX2_saysOf 22 = .ok (.iload_n 0, 1) := dk_26 (dk_at dksX2_saysOf_0 22 rfl rfl)
theorem dX2_saysOf_23 : decode cX2_saysOf 23 = .ok (.ineg, 1) := dk_116 (dk_at dksX2_saysOf_0 23 rfl rfl)
theorem dX2_saysOf_24 : decode cX2_saysOf 24 = .ok (.goto 4, 3) := dk_167 0 4 (dk_at dksX2_saysOf_1 0 rfl rfl)
theorem dX2_saysOf_27 : decode cX2_saysOf 27 = .ok (.iconst 2, 1) := dk_5 (dk_at dksX2_saysOf_1 3 rfl rfl)
theorem dX2_saysOf_28 : decode cX2_saysOf 28 = .ok (.ireturn, 1) := dk_172 (dk_at dksX2_saysOf_1 4 rfl rfl)
abbrev cX2_rests : ByteArray := prog_15_method_110_code
def yX2_rests : MethodName := ⟨RX2, "rests", "(I)I"⟩
def dkwX2_rests_1 : List UInt8 := [42, 28, 182, 0, 166, 167, 0, 8, 42, 27, 182, 1, 124, 172]
abbrev dktX2_rests_1 : List UInt8 := dkwX2_rests_1 ++ []
def dkwX2_rests_0 : List UInt8 := [42, 182, 0, 163, 42, 42, 180, 0, 176, 27, 3, 16, 9, 184, 0, 139, 182, 1, 55, 61, 28, 153, 0, 11]
abbrev dktX2_rests_0 : List UInt8 := dkwX2_rests_0 ++ dktX2_rests_1
theorem dksX2_rests_0 : cX2_rests.data.toList.drop 0 = dktX2_rests_0 := by decide +kernel
theorem dksX2_rests_1 : cX2_rests.data.toList.drop 24 = dktX2_rests_1 := dk_seg dksX2_rests_0 24 rfl rfl
theorem dX2_rests_0 : decode cX2_rests 0 = .ok (.aload_n 0, 1) := dk_42 (dk_at dksX2_rests_0 0 rfl rfl)
theorem dX2_rests_1 : decode cX2_rests 1 = .ok (.invokevirtual 163, 3) := dk_182 0 163 (dk_at dksX2_rests_0 1 rfl rfl)
theorem dX2_rests_4 : decode cX2_rests 4 = .ok (.aload_n 0, 1) := dk_42 (dk_at dksX2_rests_0 4 rfl rfl)
theorem dX2_rests_5 : decode cX2_rests 5 = .ok (.aload_n 0, 1) := dk_42 (dk_at dksX2_rests_0 5 rfl rfl)
theorem dX2_rests_6 : decode cX2_rests 6 = .ok (.getfield 176, 3) := dk_180 0 176 (dk_at dksX2_rests_0 6 rfl rfl)
theorem dX2_rests_9 : decode cX2_rests 9 = .ok (.iload_n 1, 1) := dk_27 (dk_at dksX2_rests_0 9 rfl rfl)
theorem dX2_rests_10 : decode cX2_rests 10 = .ok (.iconst 0, 1) := dk_3 (dk_at dksX2_rests_0 10 rfl rfl)
theorem dX2_rests_11 : decode cX2_rests 11 = .ok (.bipush 9, 2) := dk_16 9 (dk_at dksX2_rests_0 11 rfl rfl)
theorem dX2_rests_13 : decode cX2_rests 13 = .ok (.invokestatic 139, 3) := dk_184 0 139 (dk_at dksX2_rests_0 13 rfl rfl)
theorem dX2_rests_16 : decode cX2_rests 16 = .ok (.invokevirtual 311, 3) := dk_182 1 55 (dk_at dksX2_rests_0 16 rfl rfl)
theorem dX2_rests_19 : decode cX2_rests 19 = .ok (.istore_n 2, 1) := dk_61 (dk_at dksX2_rests_0 19 rfl rfl)
theorem dX2_rests_20 : decode cX2_rests 20 = .ok (.iload_n 2, 1) := dk_28 (dk_at dksX2_rests_0 20 rfl rfl)
theorem dX2_rests_21 : decode cX2_rests 21 = .ok (.ifCond .eq 11, 3) := dk_153 0 11 (dk_at dksX2_rests_0 21 rfl rfl)
theorem dX2_rests_24 : decode cX2_rests 24 = .ok (.aload_n 0, 1) := dk_42 (dk_at dksX2_rests_1 0 rfl rfl)
theorem dX2_rests_25 : decode cX2_rests 25 = .ok (.iload_n 2, 1) := dk_28 (dk_at dksX2_rests_1 1 rfl rfl)
theorem dX2_rests_26 : decode cX2_rests 26 = .ok (.invokevirtual 166, 3) := dk_182 0 166 (dk_at dksX2_rests_1 2 rfl rfl)
theorem dX2_rests_29 : decode cX2_rests 29 = .ok (.goto 8, 3) := dk_167 0 8 (dk_at dksX2_rests_1 5 rfl rfl)
theorem dX2_rests_32 : decode cX2_rests 32 = .ok (.aload_n 0, 1) := dk_42 (dk_at dksX2_rests_1 8 rfl rfl)
theorem dX2_rests_33 : decode cX2_rests 33 = .ok (.iload_n 1, 1) := dk_27 (dk_at dksX2_rests_1 9 rfl rfl)
theorem dX2_rests_34 : decode cX2_rests 34 = .ok (.invokevirtual 380, 3) := dk_182 1 124 (dk_at dksX2_rests_1 10 rfl rfl)
theorem dX2_rests_37 : decode cX2_rests 37 = .ok (.ireturn, 1) := dk_172 (dk_at dksX2_rests_1 13 rfl rfl)
abbrev cX2_seekRests : ByteArray := prog_15_method_109_code
def yX2_seekRests : MethodName := ⟨RX2, "seekRests", "(I)I"⟩
def dkwX2_seekRests_5 : List UInt8 := [132, 3, 1, 167, 255, 144, 28, 172]
abbrev dktX2_seekRests_5 : List UInt8 := dkwX2_seekRests_5 ++ []
def dkwX2_seekRests_4 : List UInt8 := [167, 0, 24, 28, 154, 0, 17, 42, 16, 10, 29, 5, 108, 104, 29, 5, 112, 96, 181, 1, 121, 132, 2, 1]
abbrev dktX2_seekRests_4 : List UInt8 := dkwX2_seekRests_4 ++ dktX2_seekRests_5
def dkwX2_seekRests_3 : List UInt8 := [154, 0, 7, 4, 167, 0, 4, 3, 21, 4, 184, 1, 117, 27, 21, 5, 21, 4, 184, 1, 117, 164, 0, 6]
abbrev dktX2_seekRests_3 : List UInt8 := dkwX2_seekRests_3 ++ dktX2_seekRests_4
def dkwX2_seekRests_2 : List UInt8 := [167, 0, 4, 3, 21, 5, 184, 1, 117, 27, 21, 4, 21, 5, 184, 1, 117, 163, 0, 54, 27, 21, 5]
abbrev dktX2_seekRests_2 : List UInt8 := dkwX2_seekRests_2 ++ dktX2_seekRests_3
def dkwX2_seekRests_1 : List UInt8 := [3, 54, 4, 29, 5, 112, 4, 160, 0, 7, 4, 167, 0, 4, 3, 54, 5, 27, 21, 4, 154, 0, 7, 4]
abbrev dktX2_seekRests_1 : List UInt8 := dkwX2_seekRests_1 ++ dktX2_seekRests_2
def dkwX2_seekRests_0 : List UInt8 := [3, 61, 42, 16, 254, 181, 1, 121, 3, 62, 29, 7, 162, 0, 113, 29, 4, 164, 0, 7, 4, 167, 0, 4]
abbrev dktX2_seekRests_0 : List UInt8 := dkwX2_seekRests_0 ++ dktX2_seekRests_1
theorem dksX2_seekRests_0 : cX2_seekRests.data.toList.drop 0 = dktX2_seekRests_0 := by decide +kernel
theorem dksX2_seekRests_1 : cX2_seekRests.data.toList.drop 24 = dktX2_seekRests_1 := dk_seg dksX2_seekRests_0 24 rfl rfl
theorem dksX2_seekRests_2 : cX2_seekRests.data.toList.drop 48 = dktX2_seekRests_2 := dk_seg dksX2_seekRests_1 24 rfl rfl
theorem dksX2_seekRests_3 : cX2_seekRests.data.toList.drop 71 = dktX2_seekRests_3 := dk_seg dksX2_seekRests_2 23 rfl rfl
theorem dksX2_seekRests_4 : cX2_seekRests.data.toList.drop 95 = dktX2_seekRests_4 := dk_seg dksX2_seekRests_3 24 rfl rfl
theorem dksX2_seekRests_5 : cX2_seekRests.data.toList.drop 119 = dktX2_seekRests_5 := dk_seg dksX2_seekRests_4 24 rfl rfl
theorem dX2_seekRests_0 : decode cX2_seekRests 0 = .ok (.iconst 0, 1) := dk_3 (dk_at dksX2_seekRests_0 0 rfl rfl)
theorem dX2_seekRests_1 : decode cX2_seekRests 1 = .ok (.istore_n 2, 1) := dk_61 (dk_at dksX2_seekRests_0 1 rfl rfl)
theorem dX2_seekRests_2 : decode cX2_seekRests 2 = .ok (.aload_n 0, 1) := dk_42 (dk_at dksX2_seekRests_0 2 rfl rfl)
theorem dX2_seekRests_3 : decode cX2_seekRests 3 = .ok (.bipush (-2), 2) := dk_16 254 (dk_at dksX2_seekRests_0 3 rfl rfl)
theorem dX2_seekRests_5 : decode cX2_seekRests 5 = .ok (.putfield 377, 3) := dk_181 1 121 (dk_at dksX2_seekRests_0 5 rfl rfl)
theorem dX2_seekRests_8 : decode cX2_seekRests 8 = .ok (.iconst 0, 1) := dk_3 (dk_at dksX2_seekRests_0 8 rfl rfl)
theorem dX2_seekRests_9 : decode cX2_seekRests 9 = .ok (.istore_n 3, 1) := dk_62 (dk_at dksX2_seekRests_0 9 rfl rfl)
theorem dX2_seekRests_10 : decode cX2_seekRests 10 = .ok (.iload_n 3, 1) := dk_29 (dk_at dksX2_seekRests_0 10 rfl rfl)
theorem dX2_seekRests_11 : decode cX2_seekRests 11 = .ok (.iconst 4, 1) := dk_7 (dk_at dksX2_seekRests_0 11 rfl rfl)
theorem dX2_seekRests_12 : decode cX2_seekRests 12 = .ok (.if_icmp .ge 113, 3) := dk_162 0 113 (dk_at dksX2_seekRests_0 12 rfl rfl)
theorem dX2_seekRests_15 : decode cX2_seekRests 15 = .ok (.iload_n 3, 1) := dk_29 (dk_at dksX2_seekRests_0 15 rfl rfl)
theorem dX2_seekRests_16 : decode cX2_seekRests 16 = .ok (.iconst 1, 1) := dk_4 (dk_at dksX2_seekRests_0 16 rfl rfl)
theorem dX2_seekRests_17 : decode cX2_seekRests 17 = .ok (.if_icmp .le 7, 3) := dk_164 0 7 (dk_at dksX2_seekRests_0 17 rfl rfl)
theorem dX2_seekRests_20 : decode cX2_seekRests 20 = .ok (.iconst 1, 1) := dk_4 (dk_at dksX2_seekRests_0 20 rfl rfl)
theorem dX2_seekRests_21 : decode cX2_seekRests 21 = .ok (.goto 4, 3) := dk_167 0 4 (dk_at dksX2_seekRests_0 21 rfl rfl)
theorem dX2_seekRests_24 : decode cX2_seekRests 24 = .ok (.iconst 0, 1) := dk_3 (dk_at dksX2_seekRests_1 0 rfl rfl)
theorem dX2_seekRests_25 : decode cX2_seekRests 25 = .ok (.istore 4, 2) := dk_54 4 (dk_at dksX2_seekRests_1 1 rfl rfl)
theorem dX2_seekRests_27 : decode cX2_seekRests 27 = .ok (.iload_n 3, 1) := dk_29 (dk_at dksX2_seekRests_1 3 rfl rfl)
theorem dX2_seekRests_28 : decode cX2_seekRests 28 = .ok (.iconst 2, 1) := dk_5 (dk_at dksX2_seekRests_1 4 rfl rfl)
theorem dX2_seekRests_29 : decode cX2_seekRests 29 = .ok (.irem, 1) := dk_112 (dk_at dksX2_seekRests_1 5 rfl rfl)
theorem dX2_seekRests_30 : decode cX2_seekRests 30 = .ok (.iconst 1, 1) := dk_4 (dk_at dksX2_seekRests_1 6 rfl rfl)
theorem dX2_seekRests_31 : decode cX2_seekRests 31 = .ok (.if_icmp .ne 7, 3) := dk_160 0 7 (dk_at dksX2_seekRests_1 7 rfl rfl)
theorem dX2_seekRests_34 : decode cX2_seekRests 34 = .ok (.iconst 1, 1) := dk_4 (dk_at dksX2_seekRests_1 10 rfl rfl)
theorem dX2_seekRests_35 : decode cX2_seekRests 35 = .ok (.goto 4, 3) := dk_167 0 4 (dk_at dksX2_seekRests_1 11 rfl rfl)
theorem dX2_seekRests_38 : decode cX2_seekRests 38 = .ok (.iconst 0, 1) := dk_3 (dk_at dksX2_seekRests_1 14 rfl rfl)
theorem dX2_seekRests_39 : decode cX2_seekRests 39 = .ok (.istore 5, 2) := dk_54 5 (dk_at dksX2_seekRests_1 15 rfl rfl)
theorem dX2_seekRests_41 : decode cX2_seekRests 41 = .ok (.iload_n 1, 1) := dk_27 (dk_at dksX2_seekRests_1 17 rfl rfl)
theorem dX2_seekRests_42 : decode cX2_seekRests 42 = .ok (.iload 4, 2) := dk_21 4 (dk_at dksX2_seekRests_1 18 rfl rfl)
theorem dX2_seekRests_44 : decode cX2_seekRests 44 = .ok (.ifCond .ne 7, 3) := dk_154 0 7 (dk_at dksX2_seekRests_1 20 rfl rfl)
theorem dX2_seekRests_47 : decode cX2_seekRests 47 = .ok (.iconst 1, 1) := dk_4 (dk_at dksX2_seekRests_1 23 rfl rfl)
theorem dX2_seekRests_48 : decode cX2_seekRests 48 = .ok (.goto 4, 3) := dk_167 0 4 (dk_at dksX2_seekRests_2 0 rfl rfl)
theorem dX2_seekRests_51 : decode cX2_seekRests 51 = .ok (.iconst 0, 1) := dk_3 (dk_at dksX2_seekRests_2 3 rfl rfl)
theorem dX2_seekRests_52 : decode cX2_seekRests 52 = .ok (.iload 5, 2) := dk_21 5 (dk_at dksX2_seekRests_2 4 rfl rfl)
theorem dX2_seekRests_54 : decode cX2_seekRests 54 = .ok (.invokestatic 373, 3) := dk_184 1 117 (dk_at dksX2_seekRests_2 6 rfl rfl)
theorem dX2_seekRests_57 : decode cX2_seekRests 57 = .ok (.iload_n 1, 1) := dk_27 (dk_at dksX2_seekRests_2 9 rfl rfl)
theorem dX2_seekRests_58 : decode cX2_seekRests 58 = .ok (.iload 4, 2) := dk_21 4 (dk_at dksX2_seekRests_2 10 rfl rfl)
theorem dX2_seekRests_60 : decode cX2_seekRests 60 = .ok (.iload 5, 2) := dk_21 5 (dk_at dksX2_seekRests_2 12 rfl rfl)
theorem dX2_seekRests_62 : decode cX2_seekRests 62 = .ok (.invokestatic 373, 3) := dk_184 1 117 (dk_at dksX2_seekRests_2 14 rfl rfl)
theorem dX2_seekRests_65 : decode cX2_seekRests 65 = .ok (.if_icmp .gt 54, 3) := dk_163 0 54 (dk_at dksX2_seekRests_2 17 rfl rfl)
theorem dX2_seekRests_68 : decode cX2_seekRests 68 = .ok (.iload_n 1, 1) := dk_27 (dk_at dksX2_seekRests_2 20 rfl rfl)
theorem dX2_seekRests_69 : decode cX2_seekRests 69 = .ok (.iload 5, 2) := dk_21 5 (dk_at dksX2_seekRests_2 21 rfl rfl)
theorem dX2_seekRests_71 : decode cX2_seekRests 71 = .ok (.ifCond .ne 7, 3) := dk_154 0 7 (dk_at dksX2_seekRests_3 0 rfl rfl)
theorem dX2_seekRests_74 : decode cX2_seekRests 74 = .ok (.iconst 1, 1) := dk_4 (dk_at dksX2_seekRests_3 3 rfl rfl)
theorem dX2_seekRests_75 : decode cX2_seekRests 75 = .ok (.goto 4, 3) := dk_167 0 4 (dk_at dksX2_seekRests_3 4 rfl rfl)
theorem dX2_seekRests_78 : decode cX2_seekRests 78 = .ok (.iconst 0, 1) := dk_3 (dk_at dksX2_seekRests_3 7 rfl rfl)
theorem dX2_seekRests_79 : decode cX2_seekRests 79 = .ok (.iload 4, 2) := dk_21 4 (dk_at dksX2_seekRests_3 8 rfl rfl)
theorem dX2_seekRests_81 : decode cX2_seekRests 81 = .ok (.invokestatic 373, 3) := dk_184 1 117 (dk_at dksX2_seekRests_3 10 rfl rfl)
theorem dX2_seekRests_84 : decode cX2_seekRests 84 = .ok (.iload_n 1, 1) := dk_27 (dk_at dksX2_seekRests_3 13 rfl rfl)
theorem dX2_seekRests_85 : decode cX2_seekRests 85 = .ok (.iload 5, 2) := dk_21 5 (dk_at dksX2_seekRests_3 14 rfl rfl)
theorem dX2_seekRests_87 : decode cX2_seekRests 87 = .ok (.iload 4, 2) := dk_21 4 (dk_at dksX2_seekRests_3 16 rfl rfl)
theorem dX2_seekRests_89 : decode cX2_seekRests 89 = .ok (.invokestatic 373, 3) := dk_184 1 117 (dk_at dksX2_seekRests_3 18 rfl rfl)
theorem dX2_seekRests_92 : decode cX2_seekRests 92 = .ok (.if_icmp .le 6, 3) := dk_164 0 6 (dk_at dksX2_seekRests_3 21 rfl rfl)
theorem dX2_seekRests_95 : decode cX2_seekRests 95 = .ok (.goto 24, 3) := dk_167 0 24 (dk_at dksX2_seekRests_4 0 rfl rfl)
theorem dX2_seekRests_98 : decode cX2_seekRests 98 = .ok (.iload_n 2, 1) := dk_28 (dk_at dksX2_seekRests_4 3 rfl rfl)
theorem dX2_seekRests_99 : decode cX2_seekRests 99 = .ok (.ifCond .ne 17, 3) := dk_154 0 17 (dk_at dksX2_seekRests_4 4 rfl rfl)
theorem dX2_seekRests_102 : decode cX2_seekRests 102 = .ok (.aload_n 0, 1) := dk_42 (dk_at dksX2_seekRests_4 7 rfl rfl)
theorem dX2_seekRests_103 : decode cX2_seekRests 103 = .ok (.bipush 10, 2) := dk_16 10 (dk_at dksX2_seekRests_4 8 rfl rfl)
theorem dX2_seekRests_105 : decode cX2_seekRests 105 = .ok (.iload_n 3, 1) := dk_29 (dk_at dksX2_seekRests_4 10 rfl rfl)
theorem dX2_seekRests_106 : decode cX2_seekRests 106 = .ok (.iconst 2, 1) := dk_5 (dk_at dksX2_seekRests_4 11 rfl rfl)
theorem dX2_seekRests_107 : decode cX2_seekRests 107 = .ok (.idiv, 1) := dk_108 (dk_at dksX2_seekRests_4 12 rfl rfl)
theorem dX2_seekRests_108 : decode cX2_seekRests 108 = .ok (.imul, 1) := dk_104 (dk_at dksX2_seekRests_4 13 rfl rfl)
theorem dX2_seekRests_109 : decode cX2_seekRests 109 = .ok (.iload_n 3, 1) := dk_29 (dk_at dksX2_seekRests_4 14 rfl rfl)
theorem dX2_seekRests_110 : decode cX2_seekRests 110 = .ok (.iconst 2, 1) := dk_5 (dk_at dksX2_seekRests_4 15 rfl rfl)
theorem dX2_seekRests_111 : decode cX2_seekRests 111 = .ok (.irem, 1) := dk_112 (dk_at dksX2_seekRests_4 16 rfl rfl)
theorem dX2_seekRests_112 : decode cX2_seekRests 112 = .ok (.iadd, 1) := dk_96 (dk_at dksX2_seekRests_4 17 rfl rfl)
theorem dX2_seekRests_113 : decode cX2_seekRests 113 = .ok (.putfield 377, 3) := dk_181 1 121 (dk_at dksX2_seekRests_4 18 rfl rfl)
theorem dX2_seekRests_116 : decode cX2_seekRests 116 = .ok (.iinc 2 1, 3) := dk_132 2 1 (dk_at dksX2_seekRests_4 21 rfl rfl)
theorem dX2_seekRests_119 : decode cX2_seekRests 119 = .ok (.iinc 3 1, 3) := dk_132 3 1 (dk_at dksX2_seekRests_5 0 rfl rfl)
theorem dX2_seekRests_122 : decode cX2_seekRests 122 = .ok (.goto (-112), 3) := dk_167 255 144 (dk_at dksX2_seekRests_5 3 rfl rfl)
theorem dX2_seekRests_125 : decode cX2_seekRests 125 = .ok (.iload_n 2, 1) := dk_28 (dk_at dksX2_seekRests_5 6 rfl rfl)
theorem dX2_seekRests_126 : decode cX2_seekRests 126 = .ok (.ireturn, 1) := dk_172 (dk_at dksX2_seekRests_5 7 rfl rfl)
abbrev cX2_rest : ByteArray := prog_15_method_111_code
def yX2_rest : MethodName := ⟨RX2, "rest", "(I)I"⟩
def dkwX2_rest_1 : List UInt8 := [42, 28, 182, 0, 166, 172, 42, 27, 182, 1, 124, 87, 42, 180, 1, 121, 172]
abbrev dktX2_rest_1 : List UInt8 := dkwX2_rest_1 ++ []
def dkwX2_rest_0 : List UInt8 := [42, 182, 0, 163, 42, 42, 180, 0, 176, 27, 3, 16, 9, 184, 0, 139, 182, 1, 55, 61, 28, 153, 0, 9]
abbrev dktX2_rest_0 : List UInt8 := dkwX2_rest_0 ++ dktX2_rest_1
theorem dksX2_rest_0 : cX2_rest.data.toList.drop 0 = dktX2_rest_0 := by decide +kernel
theorem dksX2_rest_1 : cX2_rest.data.toList.drop 24 = dktX2_rest_1 := dk_seg dksX2_rest_0 24 rfl rfl
theorem dX2_rest_0 : decode cX2_rest 0 = .ok (.aload_n 0, 1) := dk_42 (dk_at dksX2_rest_0 0 rfl rfl)
theorem dX2_rest_1 : decode cX2_rest 1 = .ok (.invokevirtual 163, 3) := dk_182 0 163 (dk_at dksX2_rest_0 1 rfl rfl)
theorem dX2_rest_4 : decode cX2_rest 4 = .ok (.aload_n 0, 1) := dk_42 (dk_at dksX2_rest_0 4 rfl rfl)
theorem dX2_rest_5 : decode cX2_rest 5 = .ok (.aload_n 0, 1) := dk_42 (dk_at dksX2_rest_0 5 rfl rfl)
theorem dX2_rest_6 : decode cX2_rest 6 = .ok (.getfield 176, 3) := dk_180 0 176 (dk_at dksX2_rest_0 6 rfl rfl)
theorem dX2_rest_9 : decode cX2_rest 9 = .ok (.iload_n 1, 1) := dk_27 (dk_at dksX2_rest_0 9 rfl rfl)
theorem dX2_rest_10 : decode cX2_rest 10 = .ok (.iconst 0, 1) := dk_3 (dk_at dksX2_rest_0 10 rfl rfl)
theorem dX2_rest_11 : decode cX2_rest 11 = .ok (.bipush 9, 2) := dk_16 9 (dk_at dksX2_rest_0 11 rfl rfl)
theorem dX2_rest_13 : decode cX2_rest 13 = .ok (.invokestatic 139, 3) := dk_184 0 139 (dk_at dksX2_rest_0 13 rfl rfl)
theorem dX2_rest_16 : decode cX2_rest 16 = .ok (.invokevirtual 311, 3) := dk_182 1 55 (dk_at dksX2_rest_0 16 rfl rfl)
theorem dX2_rest_19 : decode cX2_rest 19 = .ok (.istore_n 2, 1) := dk_61 (dk_at dksX2_rest_0 19 rfl rfl)
theorem dX2_rest_20 : decode cX2_rest 20 = .ok (.iload_n 2, 1) := dk_28 (dk_at dksX2_rest_0 20 rfl rfl)
theorem dX2_rest_21 : decode cX2_rest 21 = .ok (.ifCond .eq 9, 3) := dk_153 0 9 (dk_at dksX2_rest_0 21 rfl rfl)
theorem dX2_rest_24 : decode cX2_rest 24 = .ok (.aload_n 0, 1) := dk_42 (dk_at dksX2_rest_1 0 rfl rfl)
theorem dX2_rest_25 : decode cX2_rest 25 = .ok (.iload_n 2, 1) := dk_28 (dk_at dksX2_rest_1 1 rfl rfl)
theorem dX2_rest_26 : decode cX2_rest 26 = .ok (.invokevirtual 166, 3) := dk_182 0 166 (dk_at dksX2_rest_1 2 rfl rfl)
theorem dX2_rest_29 : decode cX2_rest 29 = .ok (.ireturn, 1) := dk_172 (dk_at dksX2_rest_1 5 rfl rfl)
theorem dX2_rest_30 : decode cX2_rest 30 = .ok (.aload_n 0, 1) := dk_42 (dk_at dksX2_rest_1 6 rfl rfl)
theorem dX2_rest_31 : decode cX2_rest 31 = .ok (.iload_n 1, 1) := dk_27 (dk_at dksX2_rest_1 7 rfl rfl)
theorem dX2_rest_32 : decode cX2_rest 32 = .ok (.invokevirtual 380, 3) := dk_182 1 124 (dk_at dksX2_rest_1 8 rfl rfl)
theorem dX2_rest_35 : decode cX2_rest 35 = .ok (.pop, 1) := dk_87 (dk_at dksX2_rest_1 11 rfl rfl)
theorem dX2_rest_36 : decode cX2_rest 36 = .ok (.aload_n 0, 1) := dk_42 (dk_at dksX2_rest_1 12 rfl rfl)
theorem dX2_rest_37 : decode cX2_rest 37 = .ok (.getfield 377, 3) := dk_180 1 121 (dk_at dksX2_rest_1 13 rfl rfl)
theorem dX2_rest_40 : decode cX2_rest 40 = .ok (.ireturn, 1) := dk_172 (dk_at dksX2_rest_1 16 rfl rfl)
abbrev cX2_lasts : ByteArray := prog_15_method_113_code
def yX2_lasts : MethodName := ⟨RX2, "lasts", "(IIZ)J"⟩
def dkwX2_lasts_7 : List UInt8 := [132, 9, 1, 167, 255, 134, 22, 5, 22, 7, 29, 184, 1, 113, 173]
abbrev dktX2_lasts_7 : List UInt8 := dkwX2_lasts_7 ++ []
def dkwX2_lasts_6 : List UInt8 := [16, 80, 8, 27, 104, 96, 6, 96, 46, 28, 96, 162, 0, 7, 9, 167, 0, 5, 22, 10, 97, 55, 5]
abbrev dktX2_lasts_6 : List UInt8 := dkwX2_lasts_6 ++ dktX2_lasts_7
def dkwX2_lasts_5 : List UInt8 := [22, 7, 22, 10, 97, 55, 7, 22, 5, 42, 180, 1, 13, 154, 0, 29, 42, 180, 1, 15, 42, 180, 0, 20]
abbrev dktX2_lasts_5 : List UInt8 := dkwX2_lasts_5 ++ dktX2_lasts_6
def dkwX2_lasts_4 : List UInt8 := [3, 46, 100, 133, 105, 55, 10, 132, 12, 1, 167, 255, 212, 42, 21, 9, 181, 1, 6, 42, 27, 182, 1, 127]
abbrev dktX2_lasts_4 : List UInt8 := dkwX2_lasts_4 ++ dktX2_lasts_5
def dkwX2_lasts_3 : List UInt8 := [21, 12, 184, 0, 252, 153, 0, 13, 42, 180, 0, 20, 3, 46, 133, 167, 0, 13, 16, 100, 42, 180, 0, 20]
abbrev dktX2_lasts_3 : List UInt8 := dkwX2_lasts_3 ++ dktX2_lasts_4
def dkwX2_lasts_2 : List UInt8 := [21, 9, 4, 28, 120, 162, 0, 120, 10, 55, 10, 3, 54, 12, 21, 12, 28, 162, 0, 44, 22, 10, 21, 9]
abbrev dktX2_lasts_2 : List UInt8 := dkwX2_lasts_2 ++ dktX2_lasts_3
def dkwX2_lasts_1 : List UInt8 := [153, 0, 11, 42, 21, 4, 182, 0, 166, 133, 173, 42, 182, 1, 59, 9, 55, 5, 9, 55, 7, 3, 54, 9]
abbrev dktX2_lasts_1 : List UInt8 := dkwX2_lasts_1 ++ dktX2_lasts_2
def dkwX2_lasts_0 : List UInt8 := [42, 182, 0, 163, 42, 42, 27, 182, 1, 49, 28, 3, 16, 6, 184, 0, 139, 182, 1, 55, 54, 4, 21, 4]
abbrev dktX2_lasts_0 : List UInt8 := dkwX2_lasts_0 ++ dktX2_lasts_1
theorem dksX2_lasts_0 : cX2_lasts.data.toList.drop 0 = dktX2_lasts_0 := by decide +kernel
theorem dksX2_lasts_1 : cX2_lasts.data.toList.drop 24 = dktX2_lasts_1 := dk_seg dksX2_lasts_0 24 rfl rfl
theorem dksX2_lasts_2 : cX2_lasts.data.toList.drop 48 = dktX2_lasts_2 := dk_seg dksX2_lasts_1 24 rfl rfl
theorem dksX2_lasts_3 : cX2_lasts.data.toList.drop 72 = dktX2_lasts_3 := dk_seg dksX2_lasts_2 24 rfl rfl
theorem dksX2_lasts_4 : cX2_lasts.data.toList.drop 96 = dktX2_lasts_4 := dk_seg dksX2_lasts_3 24 rfl rfl
theorem dksX2_lasts_5 : cX2_lasts.data.toList.drop 120 = dktX2_lasts_5 := dk_seg dksX2_lasts_4 24 rfl rfl
theorem dksX2_lasts_6 : cX2_lasts.data.toList.drop 144 = dktX2_lasts_6 := dk_seg dksX2_lasts_5 24 rfl rfl
theorem dksX2_lasts_7 : cX2_lasts.data.toList.drop 167 = dktX2_lasts_7 := dk_seg dksX2_lasts_6 23 rfl rfl
theorem dX2_lasts_0 : decode cX2_lasts 0 = .ok (.aload_n 0, 1) := dk_42 (dk_at dksX2_lasts_0 0 rfl rfl)
theorem dX2_lasts_1 : decode cX2_lasts 1 = .ok (.invokevirtual 163, 3) := dk_182 0 163 (dk_at dksX2_lasts_0 1 rfl rfl)
theorem dX2_lasts_4 : decode cX2_lasts 4 = .ok (.aload_n 0, 1) := dk_42 (dk_at dksX2_lasts_0 4 rfl rfl)
theorem dX2_lasts_5 : decode cX2_lasts 5 = .ok (.aload_n 0, 1) := dk_42 (dk_at dksX2_lasts_0 5 rfl rfl)
theorem dX2_lasts_6 : decode cX2_lasts 6 = .ok (.iload_n 1, 1) := dk_27 (dk_at dksX2_lasts_0 6 rfl rfl)
theorem dX2_lasts_7 : decode cX2_lasts 7 = .ok (.invokevirtual 305, 3) := dk_182 1 49 (dk_at dksX2_lasts_0 7 rfl rfl)
theorem dX2_lasts_10 : decode cX2_lasts 10 = .ok (.iload_n 2, 1) := dk_28 (dk_at dksX2_lasts_0 10 rfl rfl)
theorem dX2_lasts_11 : decode cX2_lasts 11 = .ok (.iconst 0, 1) := dk_3 (dk_at dksX2_lasts_0 11 rfl rfl)
theorem dX2_lasts_12 : decode cX2_lasts 12 = .ok (.bipush 6, 2) := dk_16 6 (dk_at dksX2_lasts_0 12 rfl rfl)
theorem dX2_lasts_14 : decode cX2_lasts 14 = .ok (.invokestatic 139, 3) := dk_184 0 139 (dk_at dksX2_lasts_0 14 rfl rfl)
theorem dX2_lasts_17 : decode cX2_lasts 17 = .ok (.invokevirtual 311, 3) := dk_182 1 55 (dk_at dksX2_lasts_0 17 rfl rfl)
theorem dX2_lasts_20 : decode cX2_lasts 20 = .ok (.istore 4, 2) := dk_54 4 (dk_at dksX2_lasts_0 20 rfl rfl)
theorem dX2_lasts_22 : decode cX2_lasts 22 = .ok (.iload 4, 2) := dk_21 4 (dk_at dksX2_lasts_0 22 rfl rfl)
theorem dX2_lasts_24 : decode cX2_lasts 24 = .ok (.ifCond .eq 11, 3) := dk_153 0 11 (dk_at dksX2_lasts_1 0 rfl rfl)
theorem dX2_lasts_27 : decode cX2_lasts 27 = .ok (.aload_n 0, 1) := dk_42 (dk_at dksX2_lasts_1 3 rfl rfl)
theorem dX2_lasts_28 : decode cX2_lasts 28 = .ok (.iload 4, 2) := dk_21 4 (dk_at dksX2_lasts_1 4 rfl rfl)
theorem dX2_lasts_30 : decode cX2_lasts 30 = .ok (.invokevirtual 166, 3) := dk_182 0 166 (dk_at dksX2_lasts_1 6 rfl rfl)
theorem dX2_lasts_33 : decode cX2_lasts 33 = .ok (.i2l, 1) := dk_133 (dk_at dksX2_lasts_1 9 rfl rfl)
theorem dX2_lasts_34 : decode cX2_lasts 34 = .ok (.lreturn, 1) := dk_173 (dk_at dksX2_lasts_1 10 rfl rfl)
theorem dX2_lasts_35 : decode cX2_lasts 35 = .ok (.aload_n 0, 1) := dk_42 (dk_at dksX2_lasts_1 11 rfl rfl)
theorem dX2_lasts_36 : decode cX2_lasts 36 = .ok (.invokevirtual 315, 3) := dk_182 1 59 (dk_at dksX2_lasts_1 12 rfl rfl)
theorem dX2_lasts_39 : decode cX2_lasts 39 = .ok (.lconst 0, 1) := dk_9 (dk_at dksX2_lasts_1 15 rfl rfl)
theorem dX2_lasts_40 : decode cX2_lasts 40 = .ok (.lstore 5, 2) := dk_55 5 (dk_at dksX2_lasts_1 16 rfl rfl)
theorem dX2_lasts_42 : decode cX2_lasts 42 = .ok (.lconst 0, 1) := dk_9 (dk_at dksX2_lasts_1 18 rfl rfl)
theorem dX2_lasts_43 : decode cX2_lasts 43 = .ok (.lstore 7, 2) := dk_55 7 (dk_at dksX2_lasts_1 19 rfl rfl)
theorem dX2_lasts_45 : decode cX2_lasts 45 = .ok (.iconst 0, 1) := dk_3 (dk_at dksX2_lasts_1 21 rfl rfl)
theorem dX2_lasts_46 : decode cX2_lasts 46 = .ok (.istore 9, 2) := dk_54 9 (dk_at dksX2_lasts_1 22 rfl rfl)
theorem dX2_lasts_48 : decode cX2_lasts 48 = .ok (.iload 9, 2) := dk_21 9 (dk_at dksX2_lasts_2 0 rfl rfl)
theorem dX2_lasts_50 : decode cX2_lasts 50 = .ok (.iconst 1, 1) := dk_4 (dk_at dksX2_lasts_2 2 rfl rfl)
theorem dX2_lasts_51 : decode cX2_lasts 51 = .ok (.iload_n 2, 1) := dk_28 (dk_at dksX2_lasts_2 3 rfl rfl)
theorem dX2_lasts_52 : decode cX2_lasts 52 = .ok (.ishl, 1) := dk_120 (dk_at dksX2_lasts_2 4 rfl rfl)
theorem dX2_lasts_53 : decode cX2_lasts 53 = .ok (.if_icmp .ge 120, 3) := dk_162 0 120 (dk_at dksX2_lasts_2 5 rfl rfl)
theorem dX2_lasts_56 : decode cX2_lasts 56 = .ok (.lconst 1, 1) := dk_10 (dk_at dksX2_lasts_2 8 rfl rfl)
theorem dX2_lasts_57 : decode cX2_lasts 57 = .ok (.lstore 10, 2) := dk_55 10 (dk_at dksX2_lasts_2 9 rfl rfl)
theorem dX2_lasts_59 : decode cX2_lasts 59 = .ok (.iconst 0, 1) := dk_3 (dk_at dksX2_lasts_2 11 rfl rfl)
theorem dX2_lasts_60 : decode cX2_lasts 60 = .ok (.istore 12, 2) := dk_54 12 (dk_at dksX2_lasts_2 12 rfl rfl)
theorem dX2_lasts_62 : decode cX2_lasts 62 = .ok (.iload 12, 2) := dk_21 12 (dk_at dksX2_lasts_2 14 rfl rfl)
theorem dX2_lasts_64 : decode cX2_lasts 64 = .ok (.iload_n 2, 1) := dk_28 (dk_at dksX2_lasts_2 16 rfl rfl)
theorem dX2_lasts_65 : decode cX2_lasts 65 = .ok (.if_icmp .ge 44, 3) := dk_162 0 44 (dk_at dksX2_lasts_2 17 rfl rfl)
theorem dX2_lasts_68 : decode cX2_lasts 68 = .ok (.lload 10, 2) := dk_22 10 (dk_at dksX2_lasts_2 20 rfl rfl)
theorem dX2_lasts_70 : decode cX2_lasts 70 = .ok (.iload 9, 2) := dk_21 9 (dk_at dksX2_lasts_2 22 rfl rfl)
theorem dX2_lasts_72 : decode cX2_lasts 72 = .ok (.iload 12, 2) := dk_21 12 (dk_at dksX2_lasts_3 0 rfl rfl)
theorem dX2_lasts_74 : decode cX2_lasts 74 = .ok (.invokestatic 252, 3) := dk_184 0 252 (dk_at dksX2_lasts_3 2 rfl rfl)
theorem dX2_lasts_77 : decode cX2_lasts 77 = .ok (.ifCond .eq 13, 3) := dk_153 0 13 (dk_at dksX2_lasts_3 5 rfl rfl)
theorem dX2_lasts_80 : decode cX2_lasts 80 = .ok (.aload_n 0, 1) := dk_42 (dk_at dksX2_lasts_3 8 rfl rfl)
theorem dX2_lasts_81 : decode cX2_lasts 81 = .ok (.getfield 20, 3) := dk_180 0 20 (dk_at dksX2_lasts_3 9 rfl rfl)
theorem dX2_lasts_84 : decode cX2_lasts 84 = .ok (.iconst 0, 1) := dk_3 (dk_at dksX2_lasts_3 12 rfl rfl)
theorem dX2_lasts_85 : decode cX2_lasts 85 = .ok (.iaload, 1) := dk_46 (dk_at dksX2_lasts_3 13 rfl rfl)
theorem dX2_lasts_86 : decode cX2_lasts 86 = .ok (.i2l, 1) := dk_133 (dk_at dksX2_lasts_3 14 rfl rfl)
theorem dX2_lasts_87 : decode cX2_lasts 87 = .ok (.goto 13, 3) := dk_167 0 13 (dk_at dksX2_lasts_3 15 rfl rfl)
theorem dX2_lasts_90 : decode cX2_lasts 90 = .ok (.bipush 100, 2) := dk_16 100 (dk_at dksX2_lasts_3 18 rfl rfl)
theorem dX2_lasts_92 : decode cX2_lasts 92 = .ok (.aload_n 0, 1) := dk_42 (dk_at dksX2_lasts_3 20 rfl rfl)
theorem dX2_lasts_93 : decode cX2_lasts 93 = .ok (.getfield 20, 3) := dk_180 0 20 (dk_at dksX2_lasts_3 21 rfl rfl)
theorem dX2_lasts_96 : decode cX2_lasts 96 = .ok (.iconst 0, 1) := dk_3 (dk_at dksX2_lasts_4 0 rfl rfl)
theorem dX2_lasts_97 : decode cX2_lasts 97 = .ok (.iaload, 1) := dk_46 (dk_at dksX2_lasts_4 1 rfl rfl)
theorem dX2_lasts_98 : decode cX2_lasts 98 = .ok (.isub, 1) := dk_100 (dk_at dksX2_lasts_4 2 rfl rfl)
theorem dX2_lasts_99 : decode cX2_lasts 99 = .ok (.i2l, 1) := dk_133 (dk_at dksX2_lasts_4 3 rfl rfl)
theorem dX2_lasts_100 : decode cX2_lasts 100 = .ok (.lmul, 1) := dk_105 (dk_at dksX2_lasts_4 4 rfl rfl)
theorem dX2_lasts_101 : decode cX2_lasts 101 = .ok (.lstore 10, 2) := dk_55 10 (dk_at dksX2_lasts_4 5 rfl rfl)
theorem dX2_lasts_103 : decode cX2_lasts 103 = .ok (.iinc 12 1, 3) := dk_132 12 1 (dk_at dksX2_lasts_4 7 rfl rfl)
theorem dX2_lasts_106 : decode cX2_lasts 106 = .ok (.goto (-44), 3) := dk_167 255 212 (dk_at dksX2_lasts_4 10 rfl rfl)
theorem dX2_lasts_109 : decode cX2_lasts 109 = .ok (.aload_n 0, 1) := dk_42 (dk_at dksX2_lasts_4 13 rfl rfl)
theorem dX2_lasts_110 : decode cX2_lasts 110 = .ok (.iload 9, 2) := dk_21 9 (dk_at dksX2_lasts_4 14 rfl rfl)
theorem dX2_lasts_112 : decode cX2_lasts 112 = .ok (.putfield 262, 3) := dk_181 1 6 (dk_at dksX2_lasts_4 16 rfl rfl)
theorem dX2_lasts_115 : decode cX2_lasts 115 = .ok (.aload_n 0, 1) := dk_42 (dk_at dksX2_lasts_4 19 rfl rfl)
theorem dX2_lasts_116 : decode cX2_lasts 116 = .ok (.iload_n 1, 1) := dk_27 (dk_at dksX2_lasts_4 20 rfl rfl)
theorem dX2_lasts_117 : decode cX2_lasts 117 = .ok (.invokevirtual 383, 3) := dk_182 1 127 (dk_at dksX2_lasts_4 21 rfl rfl)
theorem dX2_lasts_120 : decode cX2_lasts 120 = .ok (.lload 7, 2) := dk_22 7 (dk_at dksX2_lasts_5 0 rfl rfl)
theorem dX2_lasts_122 : decode cX2_lasts 122 = .ok (.lload 10, 2) := dk_22 10 (dk_at dksX2_lasts_5 2 rfl rfl)
theorem dX2_lasts_124 : decode cX2_lasts 124 = .ok (.ladd, 1) := dk_97 (dk_at dksX2_lasts_5 4 rfl rfl)
theorem dX2_lasts_125 : decode cX2_lasts 125 = .ok (.lstore 7, 2) := dk_55 7 (dk_at dksX2_lasts_5 5 rfl rfl)
theorem dX2_lasts_127 : decode cX2_lasts 127 = .ok (.lload 5, 2) := dk_22 5 (dk_at dksX2_lasts_5 7 rfl rfl)
theorem dX2_lasts_129 : decode cX2_lasts 129 = .ok (.aload_n 0, 1) := dk_42 (dk_at dksX2_lasts_5 9 rfl rfl)
theorem dX2_lasts_130 : decode cX2_lasts 130 = .ok (.getfield 269, 3) := dk_180 1 13 (dk_at dksX2_lasts_5 10 rfl rfl)
theorem dX2_lasts_133 : decode cX2_lasts 133 = .ok (.ifCond .ne 29, 3) := dk_154 0 29 (dk_at dksX2_lasts_5 13 rfl rfl)
theorem dX2_lasts_136 : decode cX2_lasts 136 = .ok (.aload_n 0, 1) := dk_42 (dk_at dksX2_lasts_5 16 rfl rfl)
theorem dX2_lasts_137 : decode cX2_lasts 137 = .ok (.getfield 271, 3) := dk_180 1 15 (dk_at dksX2_lasts_5 17 rfl rfl)
theorem dX2_lasts_140 : decode cX2_lasts 140 = .ok (.aload_n 0, 1) := dk_42 (dk_at dksX2_lasts_5 20 rfl rfl)
theorem dX2_lasts_141 : decode cX2_lasts 141 = .ok (.getfield 20, 3) := dk_180 0 20 (dk_at dksX2_lasts_5 21 rfl rfl)
theorem dX2_lasts_144 : decode cX2_lasts 144 = .ok (.bipush 80, 2) := dk_16 80 (dk_at dksX2_lasts_6 0 rfl rfl)
theorem dX2_lasts_146 : decode cX2_lasts 146 = .ok (.iconst 5, 1) := dk_8 (dk_at dksX2_lasts_6 2 rfl rfl)
theorem dX2_lasts_147 : decode cX2_lasts 147 = .ok (.iload_n 1, 1) := dk_27 (dk_at dksX2_lasts_6 3 rfl rfl)
theorem dX2_lasts_148 : decode cX2_lasts 148 = .ok (.imul, 1) := dk_104 (dk_at dksX2_lasts_6 4 rfl rfl)
theorem dX2_lasts_149 : decode cX2_lasts 149 = .ok (.iadd, 1) := dk_96 (dk_at dksX2_lasts_6 5 rfl rfl)
theorem dX2_lasts_150 : decode cX2_lasts 150 = .ok (.iconst 3, 1) := dk_6 (dk_at dksX2_lasts_6 6 rfl rfl)
theorem dX2_lasts_151 : decode cX2_lasts 151 = .ok (.iadd, 1) := dk_96 (dk_at dksX2_lasts_6 7 rfl rfl)
theorem dX2_lasts_152 : decode cX2_lasts 152 = .ok (.iaload, 1) := dk_46 (dk_at dksX2_lasts_6 8 rfl rfl)
theorem dX2_lasts_153 : decode cX2_lasts 153 = .ok (.iload_n 2, 1) := dk_28 (dk_at dksX2_lasts_6 9 rfl rfl)
theorem dX2_lasts_154 : decode cX2_lasts 154 = .ok (.iadd, 1) := dk_96 (dk_at dksX2_lasts_6 10 rfl rfl)
theorem dX2_lasts_155 : decode cX2_lasts 155 = .ok (.if_icmp .ge 7, 3) := dk_162 0 7 (dk_at dksX2_lasts_6 11 rfl rfl)
theorem dX2_lasts_158 : decode cX2_lasts 158 = .ok (.lconst 0, 1) := dk_9 (dk_at dksX2_lasts_6 14 rfl rfl)
theorem dX2_lasts_159 : decode cX2_lasts 159 = .ok (.goto 5, 3) := dk_167 0 5 (dk_at dksX2_lasts_6 15 rfl rfl)
theorem dX2_lasts_162 : decode cX2_lasts 162 = .ok (.lload 10, 2) := dk_22 10 (dk_at dksX2_lasts_6 18 rfl rfl)
theorem dX2_lasts_164 : decode cX2_lasts 164 = .ok (.ladd, 1) := dk_97 (dk_at dksX2_lasts_6 20 rfl rfl)
theorem dX2_lasts_165 : decode cX2_lasts 165 = .ok (.lstore 5, 2) := dk_55 5 (dk_at dksX2_lasts_6 21 rfl rfl)
theorem dX2_lasts_167 : decode cX2_lasts 167 = .ok (.iinc 9 1, 3) := dk_132 9 1 (dk_at dksX2_lasts_7 0 rfl rfl)
theorem dX2_lasts_170 : decode cX2_lasts 170 = .ok (.goto (-122), 3) := dk_167 255 134 (dk_at dksX2_lasts_7 3 rfl rfl)
theorem dX2_lasts_173 : decode cX2_lasts 173 = .ok (.lload 5, 2) := dk_22 5 (dk_at dksX2_lasts_7 6 rfl rfl)
theorem dX2_lasts_175 : decode cX2_lasts 175 = .ok (.lload 7, 2) := dk_22 7 (dk_at dksX2_lasts_7 8 rfl rfl)
theorem dX2_lasts_177 : decode cX2_lasts 177 = .ok (.iload_n 3, 1) := dk_29 (dk_at dksX2_lasts_7 10 rfl rfl)
theorem dX2_lasts_178 : decode cX2_lasts 178 = .ok (.invokestatic 369, 3) := dk_184 1 113 (dk_at dksX2_lasts_7 11 rfl rfl)
theorem dX2_lasts_181 : decode cX2_lasts 181 = .ok (.lreturn, 1) := dk_173 (dk_at dksX2_lasts_7 14 rfl rfl)
abbrev cX2_runWithBoys : ByteArray := prog_15_method_112_code
def yX2_runWithBoys : MethodName := ⟨RX2, "runWithBoys", "(I)V"⟩
def dkwX2_runWithBoys_1 : List UInt8 := [96, 6, 96, 46, 4, 182, 1, 36, 177]
abbrev dktX2_runWithBoys_1 : List UInt8 := dkwX2_runWithBoys_1 ++ []
def dkwX2_runWithBoys_0 : List UInt8 := [42, 27, 42, 180, 0, 20, 16, 80, 8, 27, 104, 96, 5, 96, 46, 42, 180, 0, 20, 16, 80, 8, 27, 104]
abbrev dktX2_runWithBoys_0 : List UInt8 := dkwX2_runWithBoys_0 ++ dktX2_runWithBoys_1
theorem dksX2_runWithBoys_0 : cX2_runWithBoys.data.toList.drop 0 = dktX2_runWithBoys_0 := by decide +kernel
theorem dksX2_runWithBoys_1 : cX2_runWithBoys.data.toList.drop 24 = dktX2_runWithBoys_1 := dk_seg dksX2_runWithBoys_0 24 rfl rfl
theorem dX2_runWithBoys_0 : decode cX2_runWithBoys 0 = .ok (.aload_n 0, 1) := dk_42 (dk_at dksX2_runWithBoys_0 0 rfl rfl)
theorem dX2_runWithBoys_1 : decode cX2_runWithBoys 1 = .ok (.iload_n 1, 1) := dk_27 (dk_at dksX2_runWithBoys_0 1 rfl rfl)
theorem dX2_runWithBoys_2 : decode cX2_runWithBoys 2 = .ok (.aload_n 0, 1) := dk_42 (dk_at dksX2_runWithBoys_0 2 rfl rfl)
theorem dX2_runWithBoys_3 : decode cX2_runWithBoys 3 = .ok (.getfield 20, 3) := dk_180 0 20 (dk_at dksX2_runWithBoys_0 3 rfl rfl)
theorem dX2_runWithBoys_6 : decode cX2_runWithBoys 6 = .ok (.bipush 80, 2) := dk_16 80 (dk_at dksX2_runWithBoys_0 6 rfl rfl)
theorem dX2_runWithBoys_8 : decode cX2_runWithBoys 8 = .ok (.iconst 5, 1) := dk_8 (dk_at dksX2_runWithBoys_0 8 rfl rfl)
theorem dX2_runWithBoys_9 : decode cX2_runWithBoys 9 = .ok (.iload_n 1, 1) := dk_27 (dk_at dksX2_runWithBoys_0 9 rfl rfl)
theorem dX2_runWithBoys_10 : decode cX2_runWithBoys 10 = .ok (.imul, 1) := dk_104 (dk_at dksX2_runWithBoys_0 10 rfl rfl)
theorem dX2_runWithBoys_11 : decode cX2_runWithBoys 11 = .ok (.iadd, 1) := dk_96 (dk_at dksX2_runWithBoys_0 11 rfl rfl)
theorem dX2_runWithBoys_12 : decode cX2_runWithBoys 12 = .ok (.iconst 2, 1) := dk_5 (dk_at dksX2_runWithBoys_0 12 rfl rfl)
theorem dX2_runWithBoys_13 : decode cX2_runWithBoys 13 = .ok (.iadd, 1) := dk_96 (dk_at dksX2_runWithBoys_0 13 rfl rfl)
theorem dX2_runWithBoys_14 : decode cX2_runWithBoys 14 = .ok (.iaload, 1) := dk_46 (dk_at dksX2_runWithBoys_0 14 rfl rfl)
theorem dX2_runWithBoys_15 : decode cX2_runWithBoys 15 = .ok (.aload_n 0, 1) := dk_42 (dk_at dksX2_runWithBoys_0 15 rfl rfl)
theorem dX2_runWithBoys_16 : decode cX2_runWithBoys 16 = .ok (.getfield 20, 3) := dk_180 0 20 (dk_at dksX2_runWithBoys_0 16 rfl rfl)
theorem dX2_runWithBoys_19 : decode cX2_runWithBoys 19 = .ok (.bipush 80, 2) := dk_16 80 (dk_at dksX2_runWithBoys_0 19 rfl rfl)
theorem dX2_runWithBoys_21 : decode cX2_runWithBoys 21 = .ok (.iconst 5, 1) := dk_8 (dk_at dksX2_runWithBoys_0 21 rfl rfl)
theorem dX2_runWithBoys_22 : decode cX2_runWithBoys 22 = .ok (.iload_n 1, 1) := dk_27 (dk_at dksX2_runWithBoys_0 22 rfl rfl)
theorem dX2_runWithBoys_23 : decode cX2_runWithBoys 23 = .ok (.imul, 1) := dk_104 (dk_at dksX2_runWithBoys_0 23 rfl rfl)
theorem dX2_runWithBoys_24 : decode cX2_runWithBoys 24 = .ok (.iadd, 1) := dk_96 (dk_at dksX2_runWithBoys_1 0 rfl rfl)
theorem dX2_runWithBoys_25 : decode cX2_runWithBoys 25 = .ok (.iconst 3, 1) := dk_6 (dk_at dksX2_runWithBoys_1 1 rfl rfl)
theorem dX2_runWithBoys_26 : decode cX2_runWithBoys 26 = .ok (.iadd, 1) := dk_96 (dk_at dksX2_runWithBoys_1 2 rfl rfl)
theorem dX2_runWithBoys_27 : decode cX2_runWithBoys 27 = .ok (.iaload, 1) := dk_46 (dk_at dksX2_runWithBoys_1 3 rfl rfl)
theorem dX2_runWithBoys_28 : decode cX2_runWithBoys 28 = .ok (.iconst 1, 1) := dk_4 (dk_at dksX2_runWithBoys_1 4 rfl rfl)
theorem dX2_runWithBoys_29 : decode cX2_runWithBoys 29 = .ok (.invokevirtual 292, 3) := dk_182 1 36 (dk_at dksX2_runWithBoys_1 5 rfl rfl)
theorem dX2_runWithBoys_32 : decode cX2_runWithBoys 32 = .ok (.return_, 1) := dk_177 (dk_at dksX2_runWithBoys_1 8 rfl rfl)
abbrev cX2_endsBy : ByteArray := prog_15_method_115_code
def yX2_endsBy : MethodName := ⟨RX2, "endsBy", "(II)I"⟩
def dkwX2_endsBy_1 : List UInt8 := [182, 1, 127, 42, 180, 1, 13, 172]
abbrev dktX2_endsBy_1 : List UInt8 := dkwX2_endsBy_1 ++ []
def dkwX2_endsBy_0 : List UInt8 := [42, 182, 0, 163, 42, 27, 28, 4, 182, 1, 131, 62, 29, 153, 0, 9, 42, 29, 182, 0, 166, 172, 42, 27]
abbrev dktX2_endsBy_0 : List UInt8 := dkwX2_endsBy_0 ++ dktX2_endsBy_1
theorem dksX2_endsBy_0 : cX2_endsBy.data.toList.drop 0 = dktX2_endsBy_0 := by decide +kernel
theorem dksX2_endsBy_1 : cX2_endsBy.data.toList.drop 24 = dktX2_endsBy_1 := dk_seg dksX2_endsBy_0 24 rfl rfl
theorem dX2_endsBy_0 : decode cX2_endsBy 0 = .ok (.aload_n 0, 1) := dk_42 (dk_at dksX2_endsBy_0 0 rfl rfl)
theorem dX2_endsBy_1 : decode cX2_endsBy 1 = .ok (.invokevirtual 163, 3) := dk_182 0 163 (dk_at dksX2_endsBy_0 1 rfl rfl)
theorem dX2_endsBy_4 : decode cX2_endsBy 4 = .ok (.aload_n 0, 1) := dk_42 (dk_at dksX2_endsBy_0 4 rfl rfl)
theorem dX2_endsBy_5 : decode cX2_endsBy 5 = .ok (.iload_n 1, 1) := dk_27 (dk_at dksX2_endsBy_0 5 rfl rfl)
theorem dX2_endsBy_6 : decode cX2_endsBy 6 = .ok (.iload_n 2, 1) := dk_28 (dk_at dksX2_endsBy_0 6 rfl rfl)
theorem dX2_endsBy_7 : decode cX2_endsBy 7 = .ok (.iconst 1, 1) := dk_4 (dk_at dksX2_endsBy_0 7 rfl rfl)
theorem dX2_endsBy_8 : decode cX2_endsBy 8 = .ok (.invokevirtual 387, 3) := dk_182 1 131 (dk_at dksX2_endsBy_0 8 rfl rfl)
theorem dX2_endsBy_11 : decode cX2_endsBy 11 = .ok (.istore_n 3, 1) := dk_62 (dk_at dksX2_endsBy_0 11 rfl rfl)
theorem dX2_endsBy_12 : decode cX2_endsBy 12 = .ok (.iload_n 3, 1) := dk_29 (dk_at dksX2_endsBy_0 12 rfl rfl)
theorem dX2_endsBy_13 : decode cX2_endsBy 13 = .ok (.ifCond .eq 9, 3) := dk_153 0 9 (dk_at dksX2_endsBy_0 13 rfl rfl)
theorem dX2_endsBy_16 : decode cX2_endsBy 16 = .ok (.aload_n 0, 1) := dk_42 (dk_at dksX2_endsBy_0 16 rfl rfl)
theorem dX2_endsBy_17 : decode cX2_endsBy 17 = .ok (.iload_n 3, 1) := dk_29 (dk_at dksX2_endsBy_0 17 rfl rfl)
theorem dX2_endsBy_18 : decode cX2_endsBy 18 = .ok (.invokevirtual 166, 3) := dk_182 0 166 (dk_at dksX2_endsBy_0 18 rfl rfl)
theorem dX2_endsBy_21 : decode cX2_endsBy 21 = .ok (.ireturn, 1) := dk_172 (dk_at dksX2_endsBy_0 21 rfl rfl)
theorem dX2_endsBy_22 : decode cX2_endsBy 22 = .ok (.aload_n 0, 1) := dk_42 (dk_at dksX2_endsBy_0 22 rfl rfl)
theorem dX2_endsBy_23 : decode cX2_endsBy 23 = .ok (.iload_n 1, 1) := dk_27 (dk_at dksX2_endsBy_0 23 rfl rfl)
theorem dX2_endsBy_24 : decode cX2_endsBy 24 = .ok (.invokevirtual 383, 3) := dk_182 1 127 (dk_at dksX2_endsBy_1 0 rfl rfl)
theorem dX2_endsBy_27 : decode cX2_endsBy 27 = .ok (.aload_n 0, 1) := dk_42 (dk_at dksX2_endsBy_1 3 rfl rfl)
theorem dX2_endsBy_28 : decode cX2_endsBy 28 = .ok (.getfield 269, 3) := dk_180 1 13 (dk_at dksX2_endsBy_1 4 rfl rfl)
theorem dX2_endsBy_31 : decode cX2_endsBy 31 = .ok (.ireturn, 1) := dk_172 (dk_at dksX2_endsBy_1 7 rfl rfl)
abbrev cX2_drawWhy : ByteArray := prog_15_method_114_code
def yX2_drawWhy : MethodName := ⟨RX2, "drawWhy", "(IIZ)I"⟩
def dkwX2_drawWhy_2 : List UInt8 := [181, 1, 6, 42, 28, 181, 1, 9, 3, 172]
abbrev dktX2_drawWhy_2 : List UInt8 := dkwX2_drawWhy_2 ++ []
def dkwX2_drawWhy_1 : List UInt8 := [167, 0, 4, 3, 182, 1, 55, 54, 4, 21, 4, 153, 0, 6, 21, 4, 172, 42, 182, 1, 59, 42, 2]
abbrev dktX2_drawWhy_1 : List UInt8 := dkwX2_drawWhy_1 ++ dktX2_drawWhy_2
def dkwX2_drawWhy_0 : List UInt8 := [42, 42, 27, 182, 1, 49, 28, 3, 19, 1, 130, 184, 0, 139, 153, 0, 11, 29, 153, 0, 7, 4]
abbrev dktX2_drawWhy_0 : List UInt8 := dkwX2_drawWhy_0 ++ dktX2_drawWhy_1
theorem dksX2_drawWhy_0 : cX2_drawWhy.data.toList.drop 0 = dktX2_drawWhy_0 := by decide +kernel
theorem dksX2_drawWhy_1 : cX2_drawWhy.data.toList.drop 22 = dktX2_drawWhy_1 := dk_seg dksX2_drawWhy_0 22 rfl rfl
theorem dksX2_drawWhy_2 : cX2_drawWhy.data.toList.drop 45 = dktX2_drawWhy_2 := dk_seg dksX2_drawWhy_1 23 rfl rfl
theorem dX2_drawWhy_0 : decode cX2_drawWhy 0 = .ok (.aload_n 0, 1) := dk_42 (dk_at dksX2_drawWhy_0 0 rfl rfl)
theorem dX2_drawWhy_1 : decode cX2_drawWhy 1 = .ok (.aload_n 0, 1) := dk_42 (dk_at dksX2_drawWhy_0 1 rfl rfl)
theorem dX2_drawWhy_2 : decode cX2_drawWhy 2 = .ok (.iload_n 1, 1) := dk_27 (dk_at dksX2_drawWhy_0 2 rfl rfl)
theorem dX2_drawWhy_3 : decode cX2_drawWhy 3 = .ok (.invokevirtual 305, 3) := dk_182 1 49 (dk_at dksX2_drawWhy_0 3 rfl rfl)
theorem dX2_drawWhy_6 : decode cX2_drawWhy 6 = .ok (.iload_n 2, 1) := dk_28 (dk_at dksX2_drawWhy_0 6 rfl rfl)
theorem dX2_drawWhy_7 : decode cX2_drawWhy 7 = .ok (.iconst 0, 1) := dk_3 (dk_at dksX2_drawWhy_0 7 rfl rfl)
theorem dX2_drawWhy_8 : decode cX2_drawWhy 8 = .ok (.ldc_w 386, 3) := dk_19 1 130 (dk_at dksX2_drawWhy_0 8 rfl rfl)
theorem dX2_drawWhy_11 : decode cX2_drawWhy 11 = .ok (.invokestatic 139, 3) := dk_184 0 139 (dk_at dksX2_drawWhy_0 11 rfl rfl)
theorem dX2_drawWhy_14 : decode cX2_drawWhy 14 = .ok (.ifCond .eq 11, 3) := dk_153 0 11 (dk_at dksX2_drawWhy_0 14 rfl rfl)
theorem dX2_drawWhy_17 : decode cX2_drawWhy 17 = .ok (.iload_n 3, 1) := dk_29 (dk_at dksX2_drawWhy_0 17 rfl rfl)
theorem dX2_drawWhy_18 : decode cX2_drawWhy 18 = .ok (.ifCond .eq 7, 3) := dk_153 0 7 (dk_at dksX2_drawWhy_0 18 rfl rfl)
theorem dX2_drawWhy_21 : decode cX2_drawWhy 21 = .ok (.iconst 1, 1) := dk_4 (dk_at dksX2_drawWhy_0 21 rfl rfl)
theorem dX2_drawWhy_22 : decode cX2_drawWhy 22 = .ok (.goto 4, 3) := dk_167 0 4 (dk_at dksX2_drawWhy_1 0 rfl rfl)
theorem dX2_drawWhy_25 : decode cX2_drawWhy 25 = .ok (.iconst 0, 1) := dk_3 (dk_at dksX2_drawWhy_1 3 rfl rfl)
theorem dX2_drawWhy_26 : decode cX2_drawWhy 26 = .ok (.invokevirtual 311, 3) := dk_182 1 55 (dk_at dksX2_drawWhy_1 4 rfl rfl)
theorem dX2_drawWhy_29 : decode cX2_drawWhy 29 = .ok (.istore 4, 2) := dk_54 4 (dk_at dksX2_drawWhy_1 7 rfl rfl)
theorem dX2_drawWhy_31 : decode cX2_drawWhy 31 = .ok (.iload 4, 2) := dk_21 4 (dk_at dksX2_drawWhy_1 9 rfl rfl)
theorem dX2_drawWhy_33 : decode cX2_drawWhy 33 = .ok (.ifCond .eq 6, 3) := dk_153 0 6 (dk_at dksX2_drawWhy_1 11 rfl rfl)
theorem dX2_drawWhy_36 : decode cX2_drawWhy 36 = .ok (.iload 4, 2) := dk_21 4 (dk_at dksX2_drawWhy_1 14 rfl rfl)
theorem dX2_drawWhy_38 : decode cX2_drawWhy 38 = .ok (.ireturn, 1) := dk_172 (dk_at dksX2_drawWhy_1 16 rfl rfl)
theorem dX2_drawWhy_39 : decode cX2_drawWhy 39 = .ok (.aload_n 0, 1) := dk_42 (dk_at dksX2_drawWhy_1 17 rfl rfl)
theorem dX2_drawWhy_40 : decode cX2_drawWhy 40 = .ok (.invokevirtual 315, 3) := dk_182 1 59 (dk_at dksX2_drawWhy_1 18 rfl rfl)
theorem dX2_drawWhy_43 : decode cX2_drawWhy 43 = .ok (.aload_n 0, 1) := dk_42 (dk_at dksX2_drawWhy_1 21 rfl rfl)
theorem dX2_drawWhy_44 : decode cX2_drawWhy 44 = .ok (.iconst (-1), 1) := dk_2 (dk_at dksX2_drawWhy_1 22 rfl rfl)
theorem dX2_drawWhy_45 : decode cX2_drawWhy 45 = .ok (.putfield 262, 3) := dk_181 1 6 (dk_at dksX2_drawWhy_2 0 rfl rfl)
theorem dX2_drawWhy_48 : decode cX2_drawWhy 48 = .ok (.aload_n 0, 1) := dk_42 (dk_at dksX2_drawWhy_2 3 rfl rfl)
theorem dX2_drawWhy_49 : decode cX2_drawWhy 49 = .ok (.iload_n 2, 1) := dk_28 (dk_at dksX2_drawWhy_2 4 rfl rfl)
theorem dX2_drawWhy_50 : decode cX2_drawWhy 50 = .ok (.putfield 265, 3) := dk_181 1 9 (dk_at dksX2_drawWhy_2 5 rfl rfl)
theorem dX2_drawWhy_53 : decode cX2_drawWhy 53 = .ok (.iconst 0, 1) := dk_3 (dk_at dksX2_drawWhy_2 8 rfl rfl)
theorem dX2_drawWhy_54 : decode cX2_drawWhy 54 = .ok (.ireturn, 1) := dk_172 (dk_at dksX2_drawWhy_2 9 rfl rfl)
abbrev cX2_endsByAt : ByteArray := prog_15_method_116_code
def yX2_endsByAt : MethodName := ⟨RX2, "endsByAt", "(II)I"⟩
def dkwX2_endsByAt_1 : List UInt8 := [182, 1, 127, 42, 180, 1, 15, 172]
abbrev dktX2_endsByAt_1 : List UInt8 := dkwX2_endsByAt_1 ++ []
def dkwX2_endsByAt_0 : List UInt8 := [42, 182, 0, 163, 42, 27, 28, 4, 182, 1, 131, 62, 29, 153, 0, 9, 42, 29, 182, 0, 166, 172, 42, 27]
abbrev dktX2_endsByAt_0 : List UInt8 := dkwX2_endsByAt_0 ++ dktX2_endsByAt_1
theorem dksX2_endsByAt_0 : cX2_endsByAt.data.toList.drop 0 = dktX2_endsByAt_0 := by decide +kernel
theorem dksX2_endsByAt_1 : cX2_endsByAt.data.toList.drop 24 = dktX2_endsByAt_1 := dk_seg dksX2_endsByAt_0 24 rfl rfl
theorem dX2_endsByAt_0 : decode cX2_endsByAt 0 = .ok (.aload_n 0, 1) := dk_42 (dk_at dksX2_endsByAt_0 0 rfl rfl)
theorem dX2_endsByAt_1 : decode cX2_endsByAt 1 = .ok (.invokevirtual 163, 3) := dk_182 0 163 (dk_at dksX2_endsByAt_0 1 rfl rfl)
theorem dX2_endsByAt_4 : decode cX2_endsByAt 4 = .ok (.aload_n 0, 1) := dk_42 (dk_at dksX2_endsByAt_0 4 rfl rfl)
theorem dX2_endsByAt_5 : decode cX2_endsByAt 5 = .ok (.iload_n 1, 1) := dk_27 (dk_at dksX2_endsByAt_0 5 rfl rfl)
theorem dX2_endsByAt_6 : decode cX2_endsByAt 6 = .ok (.iload_n 2, 1) := dk_28 (dk_at dksX2_endsByAt_0 6 rfl rfl)
theorem dX2_endsByAt_7 : decode cX2_endsByAt 7 = .ok (.iconst 1, 1) := dk_4 (dk_at dksX2_endsByAt_0 7 rfl rfl)
theorem dX2_endsByAt_8 : decode cX2_endsByAt 8 = .ok (.invokevirtual 387, 3) := dk_182 1 131 (dk_at dksX2_endsByAt_0 8 rfl rfl)
theorem dX2_endsByAt_11 : decode cX2_endsByAt 11 = .ok (.istore_n 3, 1) := dk_62 (dk_at dksX2_endsByAt_0 11 rfl rfl)
theorem dX2_endsByAt_12 : decode cX2_endsByAt 12 = .ok (.iload_n 3, 1) := dk_29 (dk_at dksX2_endsByAt_0 12 rfl rfl)
theorem dX2_endsByAt_13 : decode cX2_endsByAt 13 = .ok (.ifCond .eq 9, 3) := dk_153 0 9 (dk_at dksX2_endsByAt_0 13 rfl rfl)
theorem dX2_endsByAt_16 : decode cX2_endsByAt 16 = .ok (.aload_n 0, 1) := dk_42 (dk_at dksX2_endsByAt_0 16 rfl rfl)
theorem dX2_endsByAt_17 : decode cX2_endsByAt 17 = .ok (.iload_n 3, 1) := dk_29 (dk_at dksX2_endsByAt_0 17 rfl rfl)
theorem dX2_endsByAt_18 : decode cX2_endsByAt 18 = .ok (.invokevirtual 166, 3) := dk_182 0 166 (dk_at dksX2_endsByAt_0 18 rfl rfl)
theorem dX2_endsByAt_21 : decode cX2_endsByAt 21 = .ok (.ireturn, 1) := dk_172 (dk_at dksX2_endsByAt_0 21 rfl rfl)
theorem dX2_endsByAt_22 : decode cX2_endsByAt 22 = .ok (.aload_n 0, 1) := dk_42 (dk_at dksX2_endsByAt_0 22 rfl rfl)
theorem dX2_endsByAt_23 : decode cX2_endsByAt 23 = .ok (.iload_n 1, 1) := dk_27 (dk_at dksX2_endsByAt_0 23 rfl rfl)
theorem dX2_endsByAt_24 : decode cX2_endsByAt 24 = .ok (.invokevirtual 383, 3) := dk_182 1 127 (dk_at dksX2_endsByAt_1 0 rfl rfl)
theorem dX2_endsByAt_27 : decode cX2_endsByAt 27 = .ok (.aload_n 0, 1) := dk_42 (dk_at dksX2_endsByAt_1 3 rfl rfl)
theorem dX2_endsByAt_28 : decode cX2_endsByAt 28 = .ok (.getfield 271, 3) := dk_180 1 15 (dk_at dksX2_endsByAt_1 4 rfl rfl)
theorem dX2_endsByAt_31 : decode cX2_endsByAt 31 = .ok (.ireturn, 1) := dk_172 (dk_at dksX2_endsByAt_1 7 rfl rfl)
abbrev cX2_wins : ByteArray := prog_15_method_117_code
def yX2_wins : MethodName := ⟨RX2, "wins", "(III)I"⟩
def dkwX2_wins_3 : List UInt8 := [21, 5, 172]
abbrev dktX2_wins_3 : List UInt8 := dkwX2_wins_3 ++ []
def dkwX2_wins_2 : List UInt8 := [21, 5, 42, 180, 1, 13, 158, 0, 7, 4, 167, 0, 4, 3, 96, 54, 5, 132, 6, 1, 167, 255, 225]
abbrev dktX2_wins_2 : List UInt8 := dkwX2_wins_2 ++ dktX2_wins_3
def dkwX2_wins_1 : List UInt8 := [42, 21, 4, 182, 0, 166, 172, 3, 54, 5, 3, 54, 6, 21, 6, 29, 162, 0, 31, 42, 27, 182, 1, 127]
abbrev dktX2_wins_1 : List UInt8 := dkwX2_wins_1 ++ dktX2_wins_2
def dkwX2_wins_0 : List UInt8 := [42, 182, 0, 163, 42, 27, 28, 29, 3, 16, 30, 184, 0, 139, 182, 1, 131, 54, 4, 21, 4, 153, 0, 10]
abbrev dktX2_wins_0 : List UInt8 := dkwX2_wins_0 ++ dktX2_wins_1
theorem dksX2_wins_0 : cX2_wins.data.toList.drop 0 = dktX2_wins_0 := by decide +kernel
theorem dksX2_wins_1 : cX2_wins.data.toList.drop 24 = dktX2_wins_1 := dk_seg dksX2_wins_0 24 rfl rfl
theorem dksX2_wins_2 : cX2_wins.data.toList.drop 48 = dktX2_wins_2 := dk_seg dksX2_wins_1 24 rfl rfl
theorem dksX2_wins_3 : cX2_wins.data.toList.drop 71 = dktX2_wins_3 := dk_seg dksX2_wins_2 23 rfl rfl
theorem dX2_wins_0 : decode cX2_wins 0 = .ok (.aload_n 0, 1) := dk_42 (dk_at dksX2_wins_0 0 rfl rfl)
theorem dX2_wins_1 : decode cX2_wins 1 = .ok (.invokevirtual 163, 3) := dk_182 0 163 (dk_at dksX2_wins_0 1 rfl rfl)
theorem dX2_wins_4 : decode cX2_wins 4 = .ok (.aload_n 0, 1) := dk_42 (dk_at dksX2_wins_0 4 rfl rfl)
theorem dX2_wins_5 : decode cX2_wins 5 = .ok (.iload_n 1, 1) := dk_27 (dk_at dksX2_wins_0 5 rfl rfl)
theorem dX2_wins_6 : decode cX2_wins 6 = .ok (.iload_n 2, 1) := dk_28 (dk_at dksX2_wins_0 6 rfl rfl)
theorem dX2_wins_7 : decode cX2_wins 7 = .ok (.iload_n 3, 1) := dk_29 (dk_at dksX2_wins_0 7 rfl rfl)
theorem dX2_wins_8 : decode cX2_wins 8 = .ok (.iconst 0, 1) := dk_3 (dk_at dksX2_wins_0 8 rfl rfl)
theorem dX2_wins_9 : decode cX2_wins 9 = .ok (.bipush 30, 2) := dk_16 30 (dk_at dksX2_wins_0 9 rfl rfl)
theorem dX2_wins_11 : decode cX2_wins 11 = .ok (.invokestatic 139, 3) := dk_184 0 139 (dk_at dksX2_wins_0 11 rfl rfl)
theorem dX2_wins_14 : decode cX2_wins 14 = .ok (.invokevirtual 387, 3) := dk_182 1 131 (dk_at dksX2_wins_0 14 rfl rfl)
theorem dX2_wins_17 : decode cX2_wins 17 = .ok (.istore 4, 2) := dk_54 4 (dk_at dksX2_wins_0 17 rfl rfl)
theorem dX2_wins_19 : decode cX2_wins 19 = .ok (.iload 4, 2) := dk_21 4 (dk_at dksX2_wins_0 19 rfl rfl)
theorem dX2_wins_21 : decode cX2_wins 21 = .ok (.ifCond .eq 10, 3) := dk_153 0 10 (dk_at dksX2_wins_0 21 rfl rfl)
theorem dX2_wins_24 : decode cX2_wins 24 = .ok (.aload_n 0, 1) := dk_42 (dk_at dksX2_wins_1 0 rfl rfl)
theorem dX2_wins_25 : decode cX2_wins 25 = .ok (.iload 4, 2) := dk_21 4 (dk_at dksX2_wins_1 1 rfl rfl)
theorem dX2_wins_27 : decode cX2_wins 27 = .ok (.invokevirtual 166, 3) := dk_182 0 166 (dk_at dksX2_wins_1 3 rfl rfl)
theorem dX2_wins_30 : decode cX2_wins 30 = .ok (.ireturn, 1) := dk_172 (dk_at dksX2_wins_1 6 rfl rfl)
theorem dX2_wins_31 : decode cX2_wins 31 = .ok (.iconst 0, 1) := dk_3 (dk_at dksX2_wins_1 7 rfl rfl)
theorem dX2_wins_32 : decode cX2_wins 32 = .ok (.istore 5, 2) := dk_54 5 (dk_at dksX2_wins_1 8 rfl rfl)
theorem dX2_wins_34 : decode cX2_wins 34 = .ok (.iconst 0, 1) := dk_3 (dk_at dksX2_wins_1 10 rfl rfl)
theorem dX2_wins_35 : decode cX2_wins 35 = .ok (.istore 6, 2) := dk_54 6 (dk_at dksX2_wins_1 11 rfl rfl)
theorem dX2_wins_37 : decode cX2_wins 37 = .ok (.iload 6, 2) := dk_21 6 (dk_at dksX2_wins_1 13 rfl rfl)
theorem dX2_wins_39 : decode cX2_wins 39 = .ok (.iload_n 3, 1) := dk_29 (dk_at dksX2_wins_1 15 rfl rfl)
theorem dX2_wins_40 : decode cX2_wins 40 = .ok (.if_icmp .ge 31, 3) := dk_162 0 31 (dk_at dksX2_wins_1 16 rfl rfl)
theorem dX2_wins_43 : decode cX2_wins 43 = .ok (.aload_n 0, 1) := dk_42 (dk_at dksX2_wins_1 19 rfl rfl)
theorem dX2_wins_44 : decode cX2_wins 44 = .ok (.iload_n 1, 1) := dk_27 (dk_at dksX2_wins_1 20 rfl rfl)
theorem dX2_wins_45 : decode cX2_wins 45 = .ok (.invokevirtual 383, 3) := dk_182 1 127 (dk_at dksX2_wins_1 21 rfl rfl)
theorem dX2_wins_48 : decode cX2_wins 48 = .ok (.iload 5, 2) := dk_21 5 (dk_at dksX2_wins_2 0 rfl rfl)
theorem dX2_wins_50 : decode cX2_wins 50 = .ok (.aload_n 0, 1) := dk_42 (dk_at dksX2_wins_2 2 rfl rfl)
theorem dX2_wins_51 : decode cX2_wins 51 = .ok (.getfield 269, 3) := dk_180 1 13 (dk_at dksX2_wins_2 3 rfl rfl)
theorem dX2_wins_54 : decode cX2_wins 54 = .ok (.ifCond .le 7, 3) := dk_158 0 7 (dk_at dksX2_wins_2 6 rfl rfl)
theorem dX2_wins_57 : decode cX2_wins 57 = .ok (.iconst 1, 1) := dk_4 (dk_at dksX2_wins_2 9 rfl rfl)
theorem dX2_wins_58 : decode cX2_wins 58 = .ok (.goto 4, 3) := dk_167 0 4 (dk_at dksX2_wins_2 10 rfl rfl)
theorem dX2_wins_61 : decode cX2_wins 61 = .ok (.iconst 0, 1) := dk_3 (dk_at dksX2_wins_2 13 rfl rfl)
theorem dX2_wins_62 : decode cX2_wins 62 = .ok (.iadd, 1) := dk_96 (dk_at dksX2_wins_2 14 rfl rfl)
theorem dX2_wins_63 : decode cX2_wins 63 = .ok (.istore 5, 2) := dk_54 5 (dk_at dksX2_wins_2 15 rfl rfl)
theorem dX2_wins_65 : decode cX2_wins 65 = .ok (.iinc 6 1, 3) := dk_132 6 1 (dk_at dksX2_wins_2 17 rfl rfl)
theorem dX2_wins_68 : decode cX2_wins 68 = .ok (.goto (-31), 3) := dk_167 255 225 (dk_at dksX2_wins_2 20 rfl rfl)
theorem dX2_wins_71 : decode cX2_wins 71 = .ok (.iload 5, 2) := dk_21 5 (dk_at dksX2_wins_3 0 rfl rfl)
theorem dX2_wins_73 : decode cX2_wins 73 = .ok (.ireturn, 1) := dk_172 (dk_at dksX2_wins_3 2 rfl rfl)
abbrev cX2_brick : ByteArray := prog_15_method_120_code
def yX2_brick : MethodName := ⟨RX2, "brick", "(I)Z"⟩
def dkwX2_brick_0 : List UInt8 := [42, 182, 0, 163, 42, 27, 4, 182, 1, 141, 172]
abbrev dktX2_brick_0 : List UInt8 := dkwX2_brick_0 ++ []
theorem dksX2_brick_0 : cX2_brick.data.toList.drop 0 = dktX2_brick_0 := by decide +kernel
theorem dX2_brick_0 : decode cX2_brick 0 = .ok (.aload_n 0, 1) := dk_42 (dk_at dksX2_brick_0 0 rfl rfl)
theorem dX2_brick_1 : decode cX2_brick 1 = .ok (.invokevirtual 163, 3) := dk_182 0 163 (dk_at dksX2_brick_0 1 rfl rfl)
theorem dX2_brick_4 : decode cX2_brick 4 = .ok (.aload_n 0, 1) := dk_42 (dk_at dksX2_brick_0 4 rfl rfl)
theorem dX2_brick_5 : decode cX2_brick 5 = .ok (.iload_n 1, 1) := dk_27 (dk_at dksX2_brick_0 5 rfl rfl)
theorem dX2_brick_6 : decode cX2_brick 6 = .ok (.iconst 1, 1) := dk_4 (dk_at dksX2_brick_0 6 rfl rfl)
theorem dX2_brick_7 : decode cX2_brick 7 = .ok (.invokevirtual 397, 3) := dk_182 1 141 (dk_at dksX2_brick_0 7 rfl rfl)
theorem dX2_brick_10 : decode cX2_brick 10 = .ok (.ireturn, 1) := dk_172 (dk_at dksX2_brick_0 10 rfl rfl)
abbrev cX2_becomes : ByteArray := prog_15_method_119_code
def yX2_becomes : MethodName := ⟨RX2, "becomes", "(IZ)Z"⟩
def dkwX2_becomes_2 : List UInt8 := [46, 4, 27, 120, 130, 79, 4, 172]
abbrev dktX2_becomes_2 : List UInt8 := dkwX2_becomes_2 ++ []
def dkwX2_becomes_1 : List UInt8 := [184, 0, 252, 28, 160, 0, 9, 42, 8, 182, 1, 135, 172, 42, 182, 1, 138, 42, 180, 0, 26, 16, 6, 92]
abbrev dktX2_becomes_1 : List UInt8 := dkwX2_becomes_1 ++ dktX2_becomes_2
def dkwX2_becomes_0 : List UInt8 := [42, 27, 182, 1, 46, 154, 0, 9, 42, 4, 182, 1, 135, 172, 42, 180, 0, 26, 16, 6, 46, 27]
abbrev dktX2_becomes_0 : List UInt8 := dkwX2_becomes_0 ++ dktX2_becomes_1
theorem dksX2_becomes_0 : cX2_becomes.data.toList.drop 0 = dktX2_becomes_0 := by decide +kernel
theorem dksX2_becomes_1 : cX2_becomes.data.toList.drop 22 = dktX2_becomes_1 := dk_seg dksX2_becomes_0 22 rfl rfl
theorem dksX2_becomes_2 : cX2_becomes.data.toList.drop 46 = dktX2_becomes_2 := dk_seg dksX2_becomes_1 24 rfl rfl
theorem dX2_becomes_0 : decode cX2_becomes 0 = .ok (.aload_n 0, 1) := dk_42 (dk_at dksX2_becomes_0 0 rfl rfl)
theorem dX2_becomes_1 : decode cX2_becomes 1 = .ok (.iload_n 1, 1) := dk_27 (dk_at dksX2_becomes_0 1 rfl rfl)
theorem dX2_becomes_2 : decode cX2_becomes 2 = .ok (.invokevirtual 302, 3) := dk_182 1 46 (dk_at dksX2_becomes_0 2 rfl rfl)
theorem dX2_becomes_5 : decode cX2_becomes 5 = .ok (.ifCond .ne 9, 3) := dk_154 0 9 (dk_at dksX2_becomes_0 5 rfl rfl)
theorem dX2_becomes_8 : decode cX2_becomes 8 = .ok (.aload_n 0, 1) := dk_42 (dk_at dksX2_becomes_0 8 rfl rfl)
theorem dX2_becomes_9 : decode cX2_becomes 9 = .ok (.iconst 1, 1) := dk_4 (dk_at dksX2_becomes_0 9 rfl rfl)
theorem dX2_becomes_10 : decode cX2_becomes 10 = .ok (.invokevirtual 391, 3) := dk_182 1 135 (dk_at dksX2_becomes_0 10 rfl rfl)
theorem dX2_becomes_13 : decode cX2_becomes 13 = .ok (.ireturn, 1) := dk_172 (dk_at dksX2_becomes_0 13 rfl rfl)
theorem dX2_becomes_14 : decode cX2_becomes 14 = .ok (.aload_n 0, 1) := dk_42 (dk_at dksX2_becomes_0 14 rfl rfl)
theorem dX2_becomes_15 : decode cX2_becomes 15 = .ok (.getfield 26, 3) := dk_180 0 26 (dk_at dksX2_becomes_0 15 rfl rfl)
theorem dX2_becomes_18 : decode cX2_becomes 18 = .ok (.bipush 6, 2) := dk_16 6 (dk_at dksX2_becomes_0 18 rfl rfl)
theorem dX2_becomes_20 : decode cX2_becomes 20 = .ok (.iaload, 1) := dk_46 (dk_at dksX2_becomes_0 20 rfl rfl)
theorem dX2_becomes_21 : decode cX2_becomes 21 = .ok (.iload_n 1, 1) := dk_27 (dk_at dksX2_becomes_0 21 rfl rfl)
theorem dX2_becomes_22 : decode cX2_becomes 22 = .ok (.invokestatic 252, 3) := dk_184 0 252 (dk_at dksX2_becomes_1 0 rfl rfl)
theorem dX2_becomes_25 : decode cX2_becomes 25 = .ok (.iload_n 2, 1) := dk_28 (dk_at dksX2_becomes_1 3 rfl rfl)
theorem dX2_becomes_26 : decode cX2_becomes 26 = .ok (.if_icmp .ne 9, 3) := dk_160 0 9 (dk_at dksX2_becomes_1 4 rfl rfl)
theorem dX2_becomes_29 : decode cX2_becomes 29 = .ok (.aload_n 0, 1) := dk_42 (dk_at dksX2_becomes_1 7 rfl rfl)
theorem dX2_becomes_30 : decode cX2_becomes 30 = .ok (.iconst 5, 1) := dk_8 (dk_at dksX2_becomes_1 8 rfl rfl)
theorem dX2_becomes_31 : decode cX2_becomes 31 = .ok (.invokevirtual 391, 3) := dk_182 1 135 (dk_at dksX2_becomes_1 9 rfl rfl)
theorem dX2_becomes_34 : decode cX2_becomes 34 = .ok (.ireturn, 1) := dk_172 (dk_at dksX2_becomes_1 12 rfl rfl)
theorem dX2_becomes_35 : decode cX2_becomes 35 = .ok (.aload_n 0, 1) := dk_42 (dk_at dksX2_becomes_1 13 rfl rfl)
theorem dX2_becomes_36 : decode cX2_becomes 36 = .ok (.invokevirtual 394, 3) := dk_182 1 138 (dk_at dksX2_becomes_1 14 rfl rfl)
theorem dX2_becomes_39 : decode cX2_becomes 39 = .ok (.aload_n 0, 1) := dk_42 (dk_at dksX2_becomes_1 17 rfl rfl)
theorem dX2_becomes_40 : decode cX2_becomes 40 = .ok (.getfield 26, 3) := dk_180 0 26 (dk_at dksX2_becomes_1 18 rfl rfl)
theorem dX2_becomes_43 : decode cX2_becomes 43 = .ok (.bipush 6, 2) := dk_16 6 (dk_at dksX2_becomes_1 21 rfl rfl)
theorem dX2_becomes_45 : decode cX2_becomes 45 = .ok (.dup2, 1) := dk_92 (dk_at dksX2_becomes_1 23 rfl rfl)
theorem dX2_becomes_46 : decode cX2_becomes 46 = .ok (.iaload, 1) := dk_46 (dk_at dksX2_becomes_2 0 rfl rfl)
theorem dX2_becomes_47 : decode cX2_becomes 47 = .ok (.iconst 1, 1) := dk_4 (dk_at dksX2_becomes_2 1 rfl rfl)
theorem dX2_becomes_48 : decode cX2_becomes 48 = .ok (.iload_n 1, 1) := dk_27 (dk_at dksX2_becomes_2 2 rfl rfl)
theorem dX2_becomes_49 : decode cX2_becomes 49 = .ok (.ishl, 1) := dk_120 (dk_at dksX2_becomes_2 3 rfl rfl)
theorem dX2_becomes_50 : decode cX2_becomes 50 = .ok (.ixor, 1) := dk_130 (dk_at dksX2_becomes_2 4 rfl rfl)
theorem dX2_becomes_51 : decode cX2_becomes 51 = .ok (.iastore, 1) := dk_79 (dk_at dksX2_becomes_2 5 rfl rfl)
theorem dX2_becomes_52 : decode cX2_becomes 52 = .ok (.iconst 1, 1) := dk_4 (dk_at dksX2_becomes_2 6 rfl rfl)
theorem dX2_becomes_53 : decode cX2_becomes 53 = .ok (.ireturn, 1) := dk_172 (dk_at dksX2_becomes_2 7 rfl rfl)
abbrev cX2_isNot : ByteArray := prog_15_method_5_code
def yX2_isNot : MethodName := ⟨RX2, "isNot", "(I)Z"⟩
def dkwX2_isNot_0 : List UInt8 := [42, 27, 181, 0, 50, 3, 172]
abbrev dktX2_isNot_0 : List UInt8 := dkwX2_isNot_0 ++ []
theorem dksX2_isNot_0 : cX2_isNot.data.toList.drop 0 = dktX2_isNot_0 := by decide +kernel
theorem dX2_isNot_0 : decode cX2_isNot 0 = .ok (.aload_n 0, 1) := dk_42 (dk_at dksX2_isNot_0 0 rfl rfl)
theorem dX2_isNot_1 : decode cX2_isNot 1 = .ok (.iload_n 1, 1) := dk_27 (dk_at dksX2_isNot_0 1 rfl rfl)
theorem dX2_isNot_2 : decode cX2_isNot 2 = .ok (.putfield 50, 3) := dk_181 0 50 (dk_at dksX2_isNot_0 2 rfl rfl)
theorem dX2_isNot_5 : decode cX2_isNot 5 = .ok (.iconst 0, 1) := dk_3 (dk_at dksX2_isNot_0 5 rfl rfl)
theorem dX2_isNot_6 : decode cX2_isNot 6 = .ok (.ireturn, 1) := dk_172 (dk_at dksX2_isNot_0 6 rfl rfl)
abbrev cX2_note : ByteArray := prog_15_method_118_code
def yX2_note : MethodName := ⟨RX2, "note", "()V"⟩
def dkwX2_note_3 : List UInt8 := [42, 89, 180, 0, 179, 4, 96, 181, 0, 179, 177]
abbrev dktX2_note_3 : List UInt8 := dkwX2_note_3 ++ []
def dkwX2_note_2 : List UInt8 := [181, 0, 179, 42, 180, 0, 26, 3, 42, 180, 0, 29, 16, 8, 42, 180, 0, 179, 104, 16, 8, 184, 0, 172]
abbrev dktX2_note_2 : List UInt8 := dkwX2_note_2 ++ dktX2_note_3
def dkwX2_note_1 : List UInt8 := [180, 0, 29, 27, 16, 8, 96, 46, 79, 132, 1, 1, 167, 255, 232, 42, 89, 180, 0, 179, 4, 100]
abbrev dktX2_note_1 : List UInt8 := dkwX2_note_1 ++ dktX2_note_2
def dkwX2_note_0 : List UInt8 := [42, 180, 0, 179, 16, 16, 160, 0, 42, 3, 60, 27, 16, 120, 162, 0, 24, 42, 180, 0, 29, 27, 42]
abbrev dktX2_note_0 : List UInt8 := dkwX2_note_0 ++ dktX2_note_1
theorem dksX2_note_0 : cX2_note.data.toList.drop 0 = dktX2_note_0 := by decide +kernel
theorem dksX2_note_1 : cX2_note.data.toList.drop 23 = dktX2_note_1 := dk_seg dksX2_note_0 23 rfl rfl
theorem dksX2_note_2 : cX2_note.data.toList.drop 45 = dktX2_note_2 := dk_seg dksX2_note_1 22 rfl rfl
theorem dksX2_note_3 : cX2_note.data.toList.drop 69 = dktX2_note_3 := dk_seg dksX2_note_2 24 rfl rfl
theorem dX2_note_0 : decode cX2_note 0 = .ok (.aload_n 0, 1) := dk_42 (dk_at dksX2_note_0 0 rfl rfl)
theorem dX2_note_1 : decode cX2_note 1 = .ok (.getfield 179, 3) := dk_180 0 179 (dk_at dksX2_note_0 1 rfl rfl)
theorem dX2_note_4 : decode cX2_note 4 = .ok (.bipush 16, 2) := dk_16 16 (dk_at dksX2_note_0 4 rfl rfl)
theorem dX2_note_6 : decode cX2_note 6 = .ok (.if_icmp .ne 42, 3) := dk_160 0 42 (dk_at dksX2_note_0 6 rfl rfl)
theorem dX2_note_9 : decode cX2_note 9 = .ok (.iconst 0, 1) := dk_3 (dk_at dksX2_note_0 9 rfl rfl)
theorem dX2_note_10 : decode cX2_note 10 = .ok (.istore_n 1, 1) := dk_60 (dk_at dksX2_note_0 10 rfl rfl)
theorem dX2_note_11 : decode cX2_note 11 = .ok (.iload_n 1, 1) := dk_27 (dk_at dksX2_note_0 11 rfl rfl)
theorem dX2_note_12 : decode cX2_note 12 = .ok (.bipush 120, 2) := dk_16 120 (dk_at dksX2_note_0 12 rfl rfl)
theorem dX2_note_14 : decode cX2_note 14 = .ok (.if_icmp .ge 24, 3) := dk_162 0 24 (dk_at dksX2_note_0 14 rfl rfl)
theorem dX2_note_17 : decode cX2_note 17 = .ok (.aload_n 0, 1) := dk_42 (dk_at dksX2_note_0 17 rfl rfl)
theorem dX2_note_18 : decode cX2_note 18 = .ok (.getfield 29, 3) := dk_180 0 29 (dk_at dksX2_note_0 18 rfl rfl)
theorem dX2_note_21 : decode cX2_note 21 = .ok (.iload_n 1, 1) := dk_27 (dk_at dksX2_note_0 21 rfl rfl)
theorem dX2_note_22 : decode cX2_note 22 = .ok (.aload_n 0, 1) := dk_42 (dk_at dksX2_note_0 22 rfl rfl)
theorem dX2_note_23 : decode cX2_note 23 = .ok (.getfield 29, 3) := dk_180 0 29 (dk_at dksX2_note_1 0 rfl rfl)
theorem dX2_note_26 : decode cX2_note 26 = .ok (.iload_n 1, 1) := dk_27 (dk_at dksX2_note_1 3 rfl rfl)
theorem dX2_note_27 : decode cX2_note 27 = .ok (.bipush 8, 2) := dk_16 8 (dk_at dksX2_note_1 4 rfl rfl)
theorem dX2_note_29 : decode cX2_note 29 = .ok (.iadd, 1) := dk_96 (dk_at dksX2_note_1 6 rfl rfl)
theorem dX2_note_30 : decode cX2_note 30 = .ok (.iaload, 1) := dk_46 (dk_at dksX2_note_1 7 rfl rfl)
theorem dX2_note_31 : decode cX2_note 31 = .ok (.iastore, 1) := dk_79 (dk_at dksX2_note_1 8 rfl rfl)
theorem dX2_note_32 : decode cX2_note 32 = .ok (.iinc 1 1, 3) := dk_132 1 1 (dk_at dksX2_note_1 9 rfl rfl)
theorem dX2_note_35 : decode cX2_note 35 = .ok (.goto (-24), 3) := dk_167 255 232 (dk_at dksX2_note_1 12 rfl rfl)
theorem dX2_note_38 : decode cX2_note 38 = .ok (.aload_n 0, 1) := dk_42 (dk_at dksX2_note_1 15 rfl rfl)
theorem dX2_note_39 : decode cX2_note 39 = .ok (.dup, 1) := dk_89 (dk_at dksX2_note_1 16 rfl rfl)
theorem dX2_note_40 : decode cX2_note 40 = .ok (.getfield 179, 3) := dk_180 0 179 (dk_at dksX2_note_1 17 rfl rfl)
theorem dX2_note_43 : decode cX2_note 43 = .ok (.iconst 1, 1) := dk_4 (dk_at dksX2_note_1 20 rfl rfl)
theorem dX2_note_44 : decode cX2_note 44 = .ok (.isub, 1) := dk_100 (dk_at dksX2_note_1 21 rfl rfl)
theorem dX2_note_45 : decode cX2_note 45 = .ok (.putfield 179, 3) := dk_181 0 179 (dk_at dksX2_note_2 0 rfl rfl)
theorem dX2_note_48 : decode cX2_note 48 = .ok (.aload_n 0, 1) := dk_42 (dk_at dksX2_note_2 3 rfl rfl)
theorem dX2_note_49 : decode cX2_note 49 = .ok (.getfield 26, 3) := dk_180 0 26 (dk_at dksX2_note_2 4 rfl rfl)
theorem dX2_note_52 : decode cX2_note 52 = .ok (.iconst 0, 1) := dk_3 (dk_at dksX2_note_2 7 rfl rfl)
theorem dX2_note_53 : decode cX2_note 53 = .ok (.aload_n 0, 1) := dk_42 (dk_at dksX2_note_2 8 rfl rfl)
theorem dX2_note_54 : decode cX2_note 54 = .ok (.getfield 29, 3) := dk_180 0 29 (dk_at dksX2_note_2 9 rfl rfl)
theorem dX2_note_57 : decode cX2_note 57 = .ok (.bipush 8, 2) := dk_16 8 (dk_at dksX2_note_2 12 rfl rfl)
theorem dX2_note_59 : decode cX2_note 59 = .ok (.aload_n 0, 1) := dk_42 (dk_at dksX2_note_2 14 rfl rfl)
theorem dX2_note_60 : decode cX2_note 60 = .ok (.getfield 179, 3) := dk_180 0 179 (dk_at dksX2_note_2 15 rfl rfl)
theorem dX2_note_63 : decode cX2_note 63 = .ok (.imul, 1) := dk_104 (dk_at dksX2_note_2 18 rfl rfl)
theorem dX2_note_64 : decode cX2_note 64 = .ok (.bipush 8, 2) := dk_16 8 (dk_at dksX2_note_2 19 rfl rfl)
theorem dX2_note_66 : decode cX2_note 66 = .ok (.invokestatic 172, 3) := dk_184 0 172 (dk_at dksX2_note_2 21 rfl rfl)
theorem dX2_note_69 : decode cX2_note 69 = .ok (.aload_n 0, 1) := dk_42 (dk_at dksX2_note_3 0 rfl rfl)
theorem dX2_note_70 : decode cX2_note 70 = .ok (.dup, 1) := dk_89 (dk_at dksX2_note_3 1 rfl rfl)
theorem dX2_note_71 : decode cX2_note 71 = .ok (.getfield 179, 3) := dk_180 0 179 (dk_at dksX2_note_3 2 rfl rfl)
theorem dX2_note_74 : decode cX2_note 74 = .ok (.iconst 1, 1) := dk_4 (dk_at dksX2_note_3 5 rfl rfl)
theorem dX2_note_75 : decode cX2_note 75 = .ok (.iadd, 1) := dk_96 (dk_at dksX2_note_3 6 rfl rfl)
theorem dX2_note_76 : decode cX2_note 76 = .ok (.putfield 179, 3) := dk_181 0 179 (dk_at dksX2_note_3 7 rfl rfl)
theorem dX2_note_79 : decode cX2_note 79 = .ok (.return_, 1) := dk_177 (dk_at dksX2_note_3 10 rfl rfl)
abbrev cX2_open : ByteArray := prog_15_method_121_code
def yX2_open : MethodName := ⟨RX2, "open", "(I)Z"⟩
def dkwX2_open_0 : List UInt8 := [42, 182, 0, 163, 42, 27, 3, 182, 1, 141, 172]
abbrev dktX2_open_0 : List UInt8 := dkwX2_open_0 ++ []
theorem dksX2_open_0 : cX2_open.data.toList.drop 0 = dktX2_open_0 := by decide +kernel
theorem dX2_open_0 : decode cX2_open 0 = .ok (.aload_n 0, 1) := dk_42 (dk_at dksX2_open_0 0 rfl rfl)
theorem dX2_open_1 : decode cX2_open 1 = .ok (.invokevirtual 163, 3) := dk_182 0 163 (dk_at dksX2_open_0 1 rfl rfl)
theorem dX2_open_4 : decode cX2_open 4 = .ok (.aload_n 0, 1) := dk_42 (dk_at dksX2_open_0 4 rfl rfl)
theorem dX2_open_5 : decode cX2_open 5 = .ok (.iload_n 1, 1) := dk_27 (dk_at dksX2_open_0 5 rfl rfl)
theorem dX2_open_6 : decode cX2_open 6 = .ok (.iconst 0, 1) := dk_3 (dk_at dksX2_open_0 6 rfl rfl)
theorem dX2_open_7 : decode cX2_open 7 = .ok (.invokevirtual 397, 3) := dk_182 1 141 (dk_at dksX2_open_0 7 rfl rfl)
theorem dX2_open_10 : decode cX2_open 10 = .ok (.ireturn, 1) := dk_172 (dk_at dksX2_open_0 10 rfl rfl)
abbrev cX2_hire : ByteArray := prog_15_method_122_code
def yX2_hire : MethodName := ⟨RX2, "hire", "(II)I"⟩
def dkwX2_hire_4 : List UInt8 := [180, 0, 20, 16, 26, 7, 27, 104, 96, 6, 96, 46, 4, 100, 172]
abbrev dktX2_hire_4 : List UInt8 := dkwX2_hire_4 ++ []
def dkwX2_hire_3 : List UInt8 := [16, 7, 92, 46, 42, 180, 0, 20, 16, 26, 7, 27, 104, 96, 6, 96, 46, 4, 100, 96, 79, 42]
abbrev dktX2_hire_3 : List UInt8 := dkwX2_hire_3 ++ dktX2_hire_4
def dkwX2_hire_2 : List UInt8 := [42, 8, 182, 0, 166, 172, 42, 182, 1, 138, 42, 180, 0, 26, 27, 28, 4, 96, 79, 42, 180, 0, 26]
abbrev dktX2_hire_2 : List UInt8 := dkwX2_hire_2 ++ dktX2_hire_3
def dkwX2_hire_1 : List UInt8 := [182, 0, 166, 172, 42, 27, 182, 1, 80, 153, 0, 15, 42, 180, 0, 26, 27, 46, 28, 4, 96, 160, 0, 9]
abbrev dktX2_hire_1 : List UInt8 := dkwX2_hire_1 ++ dktX2_hire_2
def dkwX2_hire_0 : List UInt8 := [42, 182, 0, 163, 42, 27, 182, 1, 40, 153, 0, 11, 42, 28, 182, 1, 62, 154, 0, 9, 42, 4]
abbrev dktX2_hire_0 : List UInt8 := dkwX2_hire_0 ++ dktX2_hire_1
theorem dksX2_hire_0 : cX2_hire.data.toList.drop 0 = dktX2_hire_0 := by decide +kernel
theorem dksX2_hire_1 : cX2_hire.data.toList.drop 22 = dktX2_hire_1 := dk_seg dksX2_hire_0 22 rfl rfl
theorem dksX2_hire_2 : cX2_hire.data.toList.drop 46 = dktX2_hire_2 := dk_seg dksX2_hire_1 24 rfl rfl
theorem dksX2_hire_3 : cX2_hire.data.toList.drop 69 = dktX2_hire_3 := dk_seg dksX2_hire_2 23 rfl rfl
theorem dksX2_hire_4 : cX2_hire.data.toList.drop 91 = dktX2_hire_4 := dk_seg dksX2_hire_3 22 rfl rfl
theorem dX2_hire_0 : decode cX2_hire 0 = .ok (.aload_n 0, 1) := dk_42 (dk_at dksX2_hire_0 0 rfl rfl)
theorem dX2_hire_1 : decode cX2_hire 1 = .ok (.invokevirtual 163, 3) := dk_182 0 163 (dk_at dksX2_hire_0 1 rfl rfl)
theorem dX2_hire_4 : decode cX2_hire 4 = .ok (.aload_n 0, 1) := dk_42 (dk_at dksX2_hire_0 4 rfl rfl)
theorem dX2_hire_5 : decode cX2_hire 5 = .ok (.iload_n 1, 1) := dk_27 (dk_at dksX2_hire_0 5 rfl rfl)
theorem dX2_hire_6 : decode cX2_hire 6 = .ok (.invokevirtual 296, 3) := dk_182 1 40 (dk_at dksX2_hire_0 6 rfl rfl)
theorem dX2_hire_9 : decode cX2_hire 9 = .ok (.ifCond .eq 11, 3) := dk_153 0 11 (dk_at dksX2_hire_0 9 rfl rfl)
theorem dX2_hire_12 : decode cX2_hire 12 = .ok (.aload_n 0, 1) := dk_42 (dk_at dksX2_hire_0 12 rfl rfl)
theorem dX2_hire_13 : decode cX2_hire 13 = .ok (.iload_n 2, 1) := dk_28 (dk_at dksX2_hire_0 13 rfl rfl)
theorem dX2_hire_14 : decode cX2_hire 14 = .ok (.invokevirtual 318, 3) := dk_182 1 62 (dk_at dksX2_hire_0 14 rfl rfl)
theorem dX2_hire_17 : decode cX2_hire 17 = .ok (.ifCond .ne 9, 3) := dk_154 0 9 (dk_at dksX2_hire_0 17 rfl rfl)
theorem dX2_hire_20 : decode cX2_hire 20 = .ok (.aload_n 0, 1) := dk_42 (dk_at dksX2_hire_0 20 rfl rfl)
theorem dX2_hire_21 : decode cX2_hire 21 = .ok (.iconst 1, 1) := dk_4 (dk_at dksX2_hire_0 21 rfl rfl)
theorem dX2_hire_22 : decode cX2_hire 22 = .ok (.invokevirtual 166, 3) := dk_182 0 166 (dk_at dksX2_hire_1 0 rfl rfl)
theorem dX2_hire_25 : decode cX2_hire 25 = .ok (.ireturn, 1) := dk_172 (dk_at dksX2_hire_1 3 rfl rfl)
theorem dX2_hire_26 : decode cX2_hire 26 = .ok (.aload_n 0, 1) := dk_42 (dk_at dksX2_hire_1 4 rfl rfl)
theorem dX2_hire_27 : decode cX2_hire 27 = .ok (.iload_n 1, 1) := dk_27 (dk_at dksX2_hire_1 5 rfl rfl)
theorem dX2_hire_28 : decode cX2_hire 28 = .ok (.invokevirtual 336, 3) := dk_182 1 80 (dk_at dksX2_hire_1 6 rfl rfl)
theorem dX2_hire_31 : decode cX2_hire 31 = .ok (.ifCond .eq 15, 3) := dk_153 0 15 (dk_at dksX2_hire_1 9 rfl rfl)
theorem dX2_hire_34 : decode cX2_hire 34 = .ok (.aload_n 0, 1) := dk_42 (dk_at dksX2_hire_1 12 rfl rfl)
theorem dX2_hire_35 : decode cX2_hire 35 = .ok (.getfield 26, 3) := dk_180 0 26 (dk_at dksX2_hire_1 13 rfl rfl)
theorem dX2_hire_38 : decode cX2_hire 38 = .ok (.iload_n 1, 1) := dk_27 (dk_at dksX2_hire_1 16 rfl rfl)
theorem dX2_hire_39 : decode cX2_hire 39 = .ok (.iaload, 1) := dk_46 (dk_at dksX2_hire_1 17 rfl rfl)
theorem dX2_hire_40 : decode cX2_hire 40 = .ok (.iload_n 2, 1) := dk_28 (dk_at dksX2_hire_1 18 rfl rfl)
theorem dX2_hire_41 : decode cX2_hire 41 = .ok (.iconst 1, 1) := dk_4 (dk_at dksX2_hire_1 19 rfl rfl)
theorem dX2_hire_42 : decode cX2_hire 42 = .ok (.iadd, 1) := dk_96 (dk_at dksX2_hire_1 20 rfl rfl)
theorem dX2_hire_43 : decode cX2_hire 43 = .ok (.if_icmp .ne 9, 3) := dk_160 0 9 (dk_at dksX2_hire_1 21 rfl rfl)
theorem dX2_hire_46 : decode cX2_hire 46 = .ok (.aload_n 0, 1) := dk_42 (dk_at dksX2_hire_2 0 rfl rfl)
theorem dX2_hire_47 : decode cX2_hire 47 = .ok (.iconst 5, 1) := dk_8 (dk_at dksX2_hire_2 1 rfl rfl)
theorem dX2_hire_48 : decode cX2_hire 48 = .ok (.invokevirtual 166, 3) := dk_182 0 166 (dk_at dksX2_hire_2 2 rfl rfl)
theorem dX2_hire_51 : decode cX2_hire 51 = .ok (.ireturn, 1) := dk_172 (dk_at dksX2_hire_2 5 rfl rfl)
theorem dX2_hire_52 : decode cX2_hire 52 = .ok (.aload_n 0, 1) := dk_42 (dk_at dksX2_hire_2 6 rfl rfl)
theorem dX2_hire_53 : decode cX2_hire 53 = .ok (.invokevirtual 394, 3) := dk_182 1 138 (dk_at dksX2_hire_2 7 rfl rfl)
theorem dX2_hire_56 : decode cX2_hire 56 = .ok (.aload_n 0, 1) := dk_42 (dk_at dksX2_hire_2 10 rfl rfl)
theorem dX2_hire_57 : decode cX2_hire 57 = .ok (.getfield 26, 3) := dk_180 0 26 (dk_at dksX2_hire_2 11 rfl rfl)
theorem dX2_hire_60 : decode cX2_hire 60 = .ok (.iload_n 1, 1) := dk_27 (dk_at dksX2_hire_2 14 rfl rfl)
theorem dX2_hire_61 : decode cX2_hire 61 = .ok (.iload_n 2, 1) := dk_28 (dk_at dksX2_hire_2 15 rfl rfl)
theorem dX2_hire_62 : decode cX2_hire 62 = .ok (.iconst 1, 1) := dk_4 (dk_at dksX2_hire_2 16 rfl rfl)
theorem dX2_hire_63 : decode cX2_hire 63 = .ok (.iadd, 1) := dk_96 (dk_at dksX2_hire_2 17 rfl rfl)
theorem dX2_hire_64 : decode cX2_hire 64 = .ok (.iastore, 1) := dk_79 (dk_at dksX2_hire_2 18 rfl rfl)
theorem dX2_hire_65 : decode cX2_hire 65 = .ok (.aload_n 0, 1) := dk_42 (dk_at dksX2_hire_2 19 rfl rfl)
theorem dX2_hire_66 : decode cX2_hire 66 = .ok (.getfield 26, 3) := dk_180 0 26 (dk_at dksX2_hire_2 20 rfl rfl)
theorem dX2_hire_69 : decode cX2_hire 69 = .ok (.bipush 7, 2) := dk_16 7 (dk_at dksX2_hire_3 0 rfl rfl)
theorem dX2_hire_71 : decode cX2_hire 71 = .ok (.dup2, 1) := dk_92 (dk_at dksX2_hire_3 2 rfl rfl)
theorem dX2_hire_72 : decode cX2_hire 72 = .ok (.iaload, 1) := dk_46 (dk_at dksX2_hire_3 3 rfl rfl)
theorem dX2_hire_73 : decode cX2_hire 73 = .ok (.aload_n 0, 1) := dk_42 (dk_at dksX2_hire_3 4 rfl rfl)
theorem dX2_hire_74 : decode cX2_hire 74 = .ok (.getfield 20, 3) := dk_180 0 20 (dk_at dksX2_hire_3 5 rfl rfl)
theorem dX2_hire_77 : decode cX2_hire 77 = .ok (.bipush 26, 2) := dk_16 26 (dk_at dksX2_hire_3 8 rfl rfl)
theorem dX2_hire_79 : decode cX2_hire 79 = .ok (.iconst 4, 1) := dk_7 (dk_at dksX2_hire_3 10 rfl rfl)
theorem dX2_hire_80 : decode cX2_hire 80 = .ok (.iload_n 1, 1) := dk_27 (dk_at dksX2_hire_3 11 rfl rfl)
theorem dX2_hire_81 : decode cX2_hire 81 = .ok (.imul, 1) := dk_104 (dk_at dksX2_hire_3 12 rfl rfl)
theorem dX2_hire_82 : decode cX2_hire 82 = .ok (.iadd, 1) := dk_96 (dk_at dksX2_hire_3 13 rfl rfl)
theorem dX2_hire_83 : decode cX2_hire 83 = .ok (.iconst 3, 1) := dk_6 (dk_at dksX2_hire_3 14 rfl rfl)
theorem dX2_hire_84 : decode cX2_hire 84 = .ok (.iadd, 1) := dk_96 (dk_at dksX2_hire_3 15 rfl rfl)
theorem dX2_hire_85 : decode cX2_hire 85 = .ok (.iaload, 1) := dk_46 (dk_at dksX2_hire_3 16 rfl rfl)
theorem dX2_hire_86 : decode cX2_hire 86 = .ok (.iconst 1, 1) := dk_4 (dk_at dksX2_hire_3 17 rfl rfl)
theorem dX2_hire_87 : decode cX2_hire 87 = .ok (.isub, 1) := dk_100 (dk_at dksX2_hire_3 18 rfl rfl)
theorem dX2_hire_88 : decode cX2_hire 88 = .ok (.iadd, 1) := dk_96 (dk_at dksX2_hire_3 19 rfl rfl)
theorem dX2_hire_89 : decode cX2_hire 89 = .ok (.iastore, 1) := dk_79 (dk_at dksX2_hire_3 20 rfl rfl)
theorem dX2_hire_90 : decode cX2_hire 90 = .ok (.aload_n 0, 1) := dk_42 (dk_at dksX2_hire_3 21 rfl rfl)
theorem dX2_hire_91 : decode cX2_hire 91 = .ok (.getfield 20, 3) := dk_180 0 20 (dk_at dksX2_hire_4 0 rfl rfl)
theorem dX2_hire_94 : decode cX2_hire 94 = .ok (.bipush 26, 2) := dk_16 26 (dk_at dksX2_hire_4 3 rfl rfl)
theorem dX2_hire_96 : decode cX2_hire 96 = .ok (.iconst 4, 1) := dk_7 (dk_at dksX2_hire_4 5 rfl rfl)
theorem dX2_hire_97 : decode cX2_hire 97 = .ok (.iload_n 1, 1) := dk_27 (dk_at dksX2_hire_4 6 rfl rfl)
theorem dX2_hire_98 : decode cX2_hire 98 = .ok (.imul, 1) := dk_104 (dk_at dksX2_hire_4 7 rfl rfl)
theorem dX2_hire_99 : decode cX2_hire 99 = .ok (.iadd, 1) := dk_96 (dk_at dksX2_hire_4 8 rfl rfl)
theorem dX2_hire_100 : decode cX2_hire 100 = .ok (.iconst 3, 1) := dk_6 (dk_at dksX2_hire_4 9 rfl rfl)
theorem dX2_hire_101 : decode cX2_hire 101 = .ok (.iadd, 1) := dk_96 (dk_at dksX2_hire_4 10 rfl rfl)
theorem dX2_hire_102 : decode cX2_hire 102 = .ok (.iaload, 1) := dk_46 (dk_at dksX2_hire_4 11 rfl rfl)
theorem dX2_hire_103 : decode cX2_hire 103 = .ok (.iconst 1, 1) := dk_4 (dk_at dksX2_hire_4 12 rfl rfl)
theorem dX2_hire_104 : decode cX2_hire 104 = .ok (.isub, 1) := dk_100 (dk_at dksX2_hire_4 13 rfl rfl)
theorem dX2_hire_105 : decode cX2_hire 105 = .ok (.ireturn, 1) := dk_172 (dk_at dksX2_hire_4 14 rfl rfl)
abbrev cX2_dismiss : ByteArray := prog_15_method_123_code
def yX2_dismiss : MethodName := ⟨RX2, "dismiss", "(I)Z"⟩
def dkwX2_dismiss_1 : List UInt8 := [154, 0, 9, 42, 8, 182, 1, 135, 172, 42, 182, 1, 138, 42, 180, 0, 26, 27, 3, 79, 4, 172]
abbrev dktX2_dismiss_1 : List UInt8 := dkwX2_dismiss_1 ++ []
def dkwX2_dismiss_0 : List UInt8 := [42, 182, 0, 163, 42, 27, 182, 1, 40, 154, 0, 9, 42, 4, 182, 1, 135, 172, 42, 180, 0, 26, 27, 46]
abbrev dktX2_dismiss_0 : List UInt8 := dkwX2_dismiss_0 ++ dktX2_dismiss_1
theorem dksX2_dismiss_0 : cX2_dismiss.data.toList.drop 0 = dktX2_dismiss_0 := by decide +kernel
theorem dksX2_dismiss_1 : cX2_dismiss.data.toList.drop 24 = dktX2_dismiss_1 := dk_seg dksX2_dismiss_0 24 rfl rfl
theorem dX2_dismiss_0 : decode cX2_dismiss 0 = .ok (.aload_n 0, 1) := dk_42 (dk_at dksX2_dismiss_0 0 rfl rfl)
theorem dX2_dismiss_1 : decode cX2_dismiss 1 = .ok (.invokevirtual 163, 3) := dk_182 0 163 (dk_at dksX2_dismiss_0 1 rfl rfl)
theorem dX2_dismiss_4 : decode cX2_dismiss 4 = .ok (.aload_n 0, 1) := dk_42 (dk_at dksX2_dismiss_0 4 rfl rfl)
theorem dX2_dismiss_5 : decode cX2_dismiss 5 = .ok (.iload_n 1, 1) := dk_27 (dk_at dksX2_dismiss_0 5 rfl rfl)
theorem dX2_dismiss_6 : decode cX2_dismiss 6 = .ok (.invokevirtual 296, 3) := dk_182 1 40 (dk_at dksX2_dismiss_0 6 rfl rfl)
theorem dX2_dismiss_9 : decode cX2_dismiss 9 = .ok (.ifCond .ne 9, 3) := dk_154 0 9 (dk_at dksX2_dismiss_0 9 rfl rfl)
theorem dX2_dismiss_12 : decode cX2_dismiss 12 = .ok (.aload_n 0, 1) := dk_42 (dk_at dksX2_dismiss_0 12 rfl rfl)
theorem dX2_dismiss_13 : decode cX2_dismiss 13 = .ok (.iconst 1, 1) := dk_4 (dk_at dksX2_dismiss_0 13 rfl rfl)
theorem dX2_dismiss_14 : decode cX2_dismiss 14 = .ok (.invokevirtual 391, 3) := dk_182 1 135 (dk_at dksX2_dismiss_0 14 rfl rfl)
theorem dX2_dismiss_17 : decode cX2_dismiss 17 = .ok (.ireturn, 1) := dk_172 (dk_at dksX2_dismiss_0 17 rfl rfl)
theorem dX2_dismiss_18 : decode cX2_dismiss 18 = .ok (.aload_n 0, 1) := dk_42 (dk_at dksX2_dismiss_0 18 rfl rfl)
theorem dX2_dismiss_19 : decode cX2_dismiss 19 = .ok (.getfield 26, 3) := dk_180 0 26 (dk_at dksX2_dismiss_0 19 rfl rfl)
theorem dX2_dismiss_22 : decode cX2_dismiss 22 = .ok (.iload_n 1, 1) := dk_27 (dk_at dksX2_dismiss_0 22 rfl rfl)
theorem dX2_dismiss_23 : decode cX2_dismiss 23 = .ok (.iaload, 1) := dk_46 (dk_at dksX2_dismiss_0 23 rfl rfl)
theorem dX2_dismiss_24 : decode cX2_dismiss 24 = .ok (.ifCond .ne 9, 3) := dk_154 0 9 (dk_at dksX2_dismiss_1 0 rfl rfl)
theorem dX2_dismiss_27 : decode cX2_dismiss 27 = .ok (.aload_n 0, 1) := dk_42 (dk_at dksX2_dismiss_1 3 rfl rfl)
theorem dX2_dismiss_28 : decode cX2_dismiss 28 = .ok (.iconst 5, 1) := dk_8 (dk_at dksX2_dismiss_1 4 rfl rfl)
theorem dX2_dismiss_29 : decode cX2_dismiss 29 = .ok (.invokevirtual 391, 3) := dk_182 1 135 (dk_at dksX2_dismiss_1 5 rfl rfl)
theorem dX2_dismiss_32 : decode cX2_dismiss 32 = .ok (.ireturn, 1) := dk_172 (dk_at dksX2_dismiss_1 8 rfl rfl)
theorem dX2_dismiss_33 : decode cX2_dismiss 33 = .ok (.aload_n 0, 1) := dk_42 (dk_at dksX2_dismiss_1 9 rfl rfl)
theorem dX2_dismiss_34 : decode cX2_dismiss 34 = .ok (.invokevirtual 394, 3) := dk_182 1 138 (dk_at dksX2_dismiss_1 10 rfl rfl)
theorem dX2_dismiss_37 : decode cX2_dismiss 37 = .ok (.aload_n 0, 1) := dk_42 (dk_at dksX2_dismiss_1 13 rfl rfl)
theorem dX2_dismiss_38 : decode cX2_dismiss 38 = .ok (.getfield 26, 3) := dk_180 0 26 (dk_at dksX2_dismiss_1 14 rfl rfl)
theorem dX2_dismiss_41 : decode cX2_dismiss 41 = .ok (.iload_n 1, 1) := dk_27 (dk_at dksX2_dismiss_1 17 rfl rfl)
theorem dX2_dismiss_42 : decode cX2_dismiss 42 = .ok (.iconst 0, 1) := dk_3 (dk_at dksX2_dismiss_1 18 rfl rfl)
theorem dX2_dismiss_43 : decode cX2_dismiss 43 = .ok (.iastore, 1) := dk_79 (dk_at dksX2_dismiss_1 19 rfl rfl)
theorem dX2_dismiss_44 : decode cX2_dismiss 44 = .ok (.iconst 1, 1) := dk_4 (dk_at dksX2_dismiss_1 20 rfl rfl)
theorem dX2_dismiss_45 : decode cX2_dismiss 45 = .ok (.ireturn, 1) := dk_172 (dk_at dksX2_dismiss_1 21 rfl rfl)
abbrev cX2_spent : ByteArray := prog_15_method_124_code
def yX2_spent : MethodName := ⟨RX2, "spent", "()I"⟩
def dkwX2_spent_1 : List UInt8 := [182, 0, 166, 172]
abbrev dktX2_spent_1 : List UInt8 := dkwX2_spent_1 ++ []
def dkwX2_spent_0 : List UInt8 := [42, 182, 0, 163, 42, 180, 0, 176, 153, 0, 13, 42, 180, 0, 26, 16, 7, 46, 167, 0, 8, 42, 4]
abbrev dktX2_spent_0 : List UInt8 := dkwX2_spent_0 ++ dktX2_spent_1
theorem dksX2_spent_0 : cX2_spent.data.toList.drop 0 = dktX2_spent_0 := by decide +kernel
theorem dksX2_spent_1 : cX2_spent.data.toList.drop 23 = dktX2_spent_1 := dk_seg dksX2_spent_0 23 rfl rfl
theorem dX2_spent_0 : decode cX2_spent 0 = .ok (.aload_n 0, 1) := dk_42 (dk_at dksX2_spent_0 0 rfl rfl)
theorem dX2_spent_1 : decode cX2_spent 1 = .ok (.invokevirtual 163, 3) := dk_182 0 163 (dk_at dksX2_spent_0 1 rfl rfl)
theorem dX2_spent_4 : decode cX2_spent 4 = .ok (.aload_n 0, 1) := dk_42 (dk_at dksX2_spent_0 4 rfl rfl)
theorem dX2_spent_5 : decode cX2_spent 5 = .ok (.getfield 176, 3) := dk_180 0 176 (dk_at dksX2_spent_0 5 rfl rfl)
theorem dX2_spent_8 : decode cX2_spent 8 = .ok (.ifCond .eq 13, 3) := dk_153 0 13 (dk_at dksX2_spent_0 8 rfl rfl)
theorem dX2_spent_11 : decode cX2_spent 11 = .ok (.aload_n 0, 1) := dk_42 (dk_at dksX2_spent_0 11 rfl rfl)
theorem dX2_spent_12 : decode cX2_spent 12 = .ok (.getfield 26, 3) := dk_180 0 26 (dk_at dksX2_spent_0 12 rfl rfl)
theorem dX2_spent_15 : decode cX2_spent 15 = .ok (.bipush 7, 2) := dk_16 7 (dk_at dksX2_spent_0 15 rfl rfl)
theorem dX2_spent_17 : decode cX2_spent 17 = .ok (.iaload, 1) := dk_46 (dk_at dksX2_spent_0 17 rfl rfl)
theorem dX2_spent_18 : decode cX2_spent 18 = .ok (.goto 8, 3) := dk_167 0 8 (dk_at dksX2_spent_0 18 rfl rfl)
theorem dX2_spent_21 : decode cX2_spent 21 = .ok (.aload_n 0, 1) := dk_42 (dk_at dksX2_spent_0 21 rfl rfl)
theorem dX2_spent_22 : decode cX2_spent 22 = .ok (.iconst 1, 1) := dk_4 (dk_at dksX2_spent_0 22 rfl rfl)
theorem dX2_spent_23 : decode cX2_spent 23 = .ok (.invokevirtual 166, 3) := dk_182 0 166 (dk_at dksX2_spent_1 0 rfl rfl)
theorem dX2_spent_26 : decode cX2_spent 26 = .ok (.ireturn, 1) := dk_172 (dk_at dksX2_spent_1 3 rfl rfl)
abbrev cX2_undo : ByteArray := prog_15_method_125_code
def yX2_undo : MethodName := ⟨RX2, "undo", "()Z"⟩
def dkwX2_undo_2 : List UInt8 := [184, 0, 172, 4, 172]
abbrev dktX2_undo_2 : List UInt8 := dkwX2_undo_2 ++ []
def dkwX2_undo_1 : List UInt8 := [100, 181, 0, 179, 42, 180, 0, 29, 16, 8, 42, 180, 0, 179, 104, 42, 180, 0, 26, 3, 16, 8]
abbrev dktX2_undo_1 : List UInt8 := dkwX2_undo_1 ++ dktX2_undo_2
def dkwX2_undo_0 : List UInt8 := [42, 182, 0, 163, 42, 180, 0, 179, 154, 0, 10, 42, 16, 6, 182, 1, 135, 172, 42, 89, 180, 0, 179, 4]
abbrev dktX2_undo_0 : List UInt8 := dkwX2_undo_0 ++ dktX2_undo_1
theorem dksX2_undo_0 : cX2_undo.data.toList.drop 0 = dktX2_undo_0 := by decide +kernel
theorem dksX2_undo_1 : cX2_undo.data.toList.drop 24 = dktX2_undo_1 := dk_seg dksX2_undo_0 24 rfl rfl
theorem dksX2_undo_2 : cX2_undo.data.toList.drop 46 = dktX2_undo_2 := dk_seg dksX2_undo_1 22 rfl rfl
theorem dX2_undo_0 : decode cX2_undo 0 = .ok (.aload_n 0, 1) := dk_42 (dk_at dksX2_undo_0 0 rfl rfl)
theorem dX2_undo_1 : decode cX2_undo 1 = .ok (.invokevirtual 163, 3) := dk_182 0 163 (dk_at dksX2_undo_0 1 rfl rfl)
theorem dX2_undo_4 : decode cX2_undo 4 = .ok (.aload_n 0, 1) := dk_42 (dk_at dksX2_undo_0 4 rfl rfl)
theorem dX2_undo_5 : decode cX2_undo 5 = .ok (.getfield 179, 3) := dk_180 0 179 (dk_at dksX2_undo_0 5 rfl rfl)
theorem dX2_undo_8 : decode cX2_undo 8 = .ok (.ifCond .ne 10, 3) := dk_154 0 10 (dk_at dksX2_undo_0 8 rfl rfl)
theorem dX2_undo_11 : decode cX2_undo 11 = .ok (.aload_n 0, 1) := dk_42 (dk_at dksX2_undo_0 11 rfl rfl)
theorem dX2_undo_12 : decode cX2_undo 12 = .ok (.bipush 6, 2) := dk_16 6 (dk_at dksX2_undo_0 12 rfl rfl)
theorem dX2_undo_14 : decode cX2_undo 14 = .ok (.invokevirtual 391, 3) := dk_182 1 135 (dk_at dksX2_undo_0 14 rfl rfl)
theorem dX2_undo_17 : decode cX2_undo 17 = .ok (.ireturn, 1) := dk_172 (dk_at dksX2_undo_0 17 rfl rfl)
theorem dX2_undo_18 : decode cX2_undo 18 = .ok (.aload_n 0, 1) := dk_42 (dk_at dksX2_undo_0 18 rfl rfl)
theorem dX2_undo_19 : decode cX2_undo 19 = .ok (.dup, 1) := dk_89 (dk_at dksX2_undo_0 19 rfl rfl)
theorem dX2_undo_20 : decode cX2_undo 20 = .ok (.getfield 179, 3) := dk_180 0 179 (dk_at dksX2_undo_0 20 rfl rfl)
theorem dX2_undo_23 : decode cX2_undo 23 = .ok (.iconst 1, 1) := dk_4 (dk_at dksX2_undo_0 23 rfl rfl)
theorem dX2_undo_24 : decode cX2_undo 24 = .ok (.isub, 1) := dk_100 (dk_at dksX2_undo_1 0 rfl rfl)
theorem dX2_undo_25 : decode cX2_undo 25 = .ok (.putfield 179, 3) := dk_181 0 179 (dk_at dksX2_undo_1 1 rfl rfl)
theorem dX2_undo_28 : decode cX2_undo 28 = .ok (.aload_n 0, 1) := dk_42 (dk_at dksX2_undo_1 4 rfl rfl)
theorem dX2_undo_29 : decode cX2_undo 29 = .ok (.getfield 29, 3) := dk_180 0 29 (dk_at dksX2_undo_1 5 rfl rfl)
theorem dX2_undo_32 : decode cX2_undo 32 = .ok (.bipush 8, 2) := dk_16 8 (dk_at dksX2_undo_1 8 rfl rfl)
theorem dX2_undo_34 : decode cX2_undo 34 = .ok (.aload_n 0, 1) := dk_42 (dk_at dksX2_undo_1 10 rfl rfl)
theorem dX2_undo_35 : decode cX2_undo 35 = .ok (.getfield 179, 3) := dk_180 0 179 (dk_at dksX2_undo_1 11 rfl rfl)
theorem dX2_undo_38 : decode cX2_undo 38 = .ok (.imul, 1) := dk_104 (dk_at dksX2_undo_1 14 rfl rfl)
theorem dX2_undo_39 : decode cX2_undo 39 = .ok (.aload_n 0, 1) := dk_42 (dk_at dksX2_undo_1 15 rfl rfl)
theorem dX2_undo_40 : decode cX2_undo 40 = .ok (.getfield 26, 3) := dk_180 0 26 (dk_at dksX2_undo_1 16 rfl rfl)
theorem dX2_undo_43 : decode cX2_undo 43 = .ok (.iconst 0, 1) := dk_3 (dk_at dksX2_undo_1 19 rfl rfl)
theorem dX2_undo_44 : decode cX2_undo 44 = .ok (.bipush 8, 2) := dk_16 8 (dk_at dksX2_undo_1 20 rfl rfl)
theorem dX2_undo_46 : decode cX2_undo 46 = .ok (.invokestatic 172, 3) := dk_184 0 172 (dk_at dksX2_undo_2 0 rfl rfl)
theorem dX2_undo_49 : decode cX2_undo 49 = .ok (.iconst 1, 1) := dk_4 (dk_at dksX2_undo_2 3 rfl rfl)
theorem dX2_undo_50 : decode cX2_undo 50 = .ok (.ireturn, 1) := dk_172 (dk_at dksX2_undo_2 4 rfl rfl)
abbrev cX2_image : ByteArray := prog_15_method_126_code
def yX2_image : MethodName := ⟨RX2, "image", "()I"⟩
def dkwX2_image_2 : List UInt8 := [104, 16, 8, 184, 0, 172, 42, 89, 180, 0, 182, 4, 96, 181, 0, 182, 42, 180, 0, 182, 4, 100, 172]
abbrev dktX2_image_2 : List UInt8 := dkwX2_image_2 ++ []
def dkwX2_image_1 : List UInt8 := [160, 0, 9, 42, 6, 182, 0, 166, 172, 42, 180, 0, 26, 3, 42, 180, 0, 32, 16, 8, 42, 180, 0, 182]
abbrev dktX2_image_1 : List UInt8 := dkwX2_image_1 ++ dktX2_image_2
def dkwX2_image_0 : List UInt8 := [42, 182, 0, 163, 42, 180, 0, 176, 154, 0, 9, 42, 4, 182, 0, 166, 172, 42, 180, 0, 182, 6]
abbrev dktX2_image_0 : List UInt8 := dkwX2_image_0 ++ dktX2_image_1
theorem dksX2_image_0 : cX2_image.data.toList.drop 0 = dktX2_image_0 := by decide +kernel
theorem dksX2_image_1 : cX2_image.data.toList.drop 22 = dktX2_image_1 := dk_seg dksX2_image_0 22 rfl rfl
theorem dksX2_image_2 : cX2_image.data.toList.drop 46 = dktX2_image_2 := dk_seg dksX2_image_1 24 rfl rfl
theorem dX2_image_0 : decode cX2_image 0 = .ok (.aload_n 0, 1) := dk_42 (dk_at dksX2_image_0 0 rfl rfl)
theorem dX2_image_1 : decode cX2_image 1 = .ok (.invokevirtual 163, 3) := dk_182 0 163 (dk_at dksX2_image_0 1 rfl rfl)
theorem dX2_image_4 : decode cX2_image 4 = .ok (.aload_n 0, 1) := dk_42 (dk_at dksX2_image_0 4 rfl rfl)
theorem dX2_image_5 : decode cX2_image 5 = .ok (.getfield 176, 3) := dk_180 0 176 (dk_at dksX2_image_0 5 rfl rfl)
theorem dX2_image_8 : decode cX2_image 8 = .ok (.ifCond .ne 9, 3) := dk_154 0 9 (dk_at dksX2_image_0 8 rfl rfl)
theorem dX2_image_11 : decode cX2_image 11 = .ok (.aload_n 0, 1) := dk_42 (dk_at dksX2_image_0 11 rfl rfl)
theorem dX2_image_12 : decode cX2_image 12 = .ok (.iconst 1, 1) := dk_4 (dk_at dksX2_image_0 12 rfl rfl)
theorem dX2_image_13 : decode cX2_image 13 = .ok (.invokevirtual 166, 3) := dk_182 0 166 (dk_at dksX2_image_0 13 rfl rfl)
theorem dX2_image_16 : decode cX2_image 16 = .ok (.ireturn, 1) := dk_172 (dk_at dksX2_image_0 16 rfl rfl)
theorem dX2_image_17 : decode cX2_image 17 = .ok (.aload_n 0, 1) := dk_42 (dk_at dksX2_image_0 17 rfl rfl)
theorem dX2_image_18 : decode cX2_image 18 = .ok (.getfield 182, 3) := dk_180 0 182 (dk_at dksX2_image_0 18 rfl rfl)
theorem dX2_image_21 : decode cX2_image 21 = .ok (.iconst 3, 1) := dk_6 (dk_at dksX2_image_0 21 rfl rfl)
theorem dX2_image_22 : decode cX2_image 22 = .ok (.if_icmp .ne 9, 3) := dk_160 0 9 (dk_at dksX2_image_1 0 rfl rfl)
theorem dX2_image_25 : decode cX2_image 25 = .ok (.aload_n 0, 1) := dk_42 (dk_at dksX2_image_1 3 rfl rfl)
theorem dX2_image_26 : decode cX2_image 26 = .ok (.iconst 3, 1) := dk_6 (dk_at dksX2_image_1 4 rfl rfl)
theorem dX2_image_27 : decode cX2_image 27 = .ok (.invokevirtual 166, 3) := dk_182 0 166 (dk_at dksX2_image_1 5 rfl rfl)
theorem dX2_image_30 : decode cX2_image 30 = .ok (.ireturn, 1) := dk_172 (dk_at dksX2_image_1 8 rfl rfl)
theorem dX2_image_31 : decode cX2_image 31 = .ok (.aload_n 0, 1) := dk_42 (dk_at dksX2_image_1 9 rfl rfl)
theorem dX2_image_32 : decode cX2_image 32 = .ok (.getfield 26, 3) := dk_180 0 26 (dk_at dksX2_image_1 10 rfl rfl)
theorem dX2_image_35 : decode cX2_image 35 = .ok (.iconst 0, 1) := dk_3 (dk_at dksX2_image_1 13 rfl rfl)
theorem dX2_image_36 : decode cX2_image 36 = .ok (.aload_n 0, 1) := dk_42 (dk_at dksX2_image_1 14 rfl rfl)
theorem dX2_image_37 : decode cX2_image 37 = .ok (.getfield 32, 3) := dk_180 0 32 (dk_at dksX2_image_1 15 rfl rfl)
theorem dX2_image_40 : decode cX2_image 40 = .ok (.bipush 8, 2) := dk_16 8 (dk_at dksX2_image_1 18 rfl rfl)
theorem dX2_image_42 : decode cX2_image 42 = .ok (.aload_n 0, 1) := dk_42 (dk_at dksX2_image_1 20 rfl rfl)
theorem dX2_image_43 : decode cX2_image 43 = .ok (.getfield 182, 3) := dk_180 0 182 (dk_at dksX2_image_1 21 rfl rfl)
theorem dX2_image_46 : decode cX2_image 46 = .ok (.imul, 1) := dk_104 (dk_at dksX2_image_2 0 rfl rfl)
theorem dX2_image_47 : decode cX2_image 47 = .ok (.bipush 8, 2) := dk_16 8 (dk_at dksX2_image_2 1 rfl rfl)
theorem dX2_image_49 : decode cX2_image 49 = .ok (.invokestatic 172, 3) := dk_184 0 172 (dk_at dksX2_image_2 3 rfl rfl)
theorem dX2_image_52 : decode cX2_image 52 = .ok (.aload_n 0, 1) := dk_42 (dk_at dksX2_image_2 6 rfl rfl)
theorem dX2_image_53 : decode cX2_image 53 = .ok (.dup, 1) := dk_89 (dk_at dksX2_image_2 7 rfl rfl)
theorem dX2_image_54 : decode cX2_image 54 = .ok (.getfield 182, 3) := dk_180 0 182 (dk_at dksX2_image_2 8 rfl rfl)
theorem dX2_image_57 : decode cX2_image 57 = .ok (.iconst 1, 1) := dk_4 (dk_at dksX2_image_2 11 rfl rfl)
theorem dX2_image_58 : decode cX2_image 58 = .ok (.iadd, 1) := dk_96 (dk_at dksX2_image_2 12 rfl rfl)
theorem dX2_image_59 : decode cX2_image 59 = .ok (.putfield 182, 3) := dk_181 0 182 (dk_at dksX2_image_2 13 rfl rfl)
theorem dX2_image_62 : decode cX2_image 62 = .ok (.aload_n 0, 1) := dk_42 (dk_at dksX2_image_2 16 rfl rfl)
theorem dX2_image_63 : decode cX2_image 63 = .ok (.getfield 182, 3) := dk_180 0 182 (dk_at dksX2_image_2 17 rfl rfl)
theorem dX2_image_66 : decode cX2_image 66 = .ok (.iconst 1, 1) := dk_4 (dk_at dksX2_image_2 20 rfl rfl)
theorem dX2_image_67 : decode cX2_image 67 = .ok (.isub, 1) := dk_100 (dk_at dksX2_image_2 21 rfl rfl)
theorem dX2_image_68 : decode cX2_image 68 = .ok (.ireturn, 1) := dk_172 (dk_at dksX2_image_2 22 rfl rfl)
abbrev cX2_back : ByteArray := prog_15_method_127_code
def yX2_back : MethodName := ⟨RX2, "back", "(I)Z"⟩
def dkwX2_back_2 : List UInt8 := [172]
abbrev dktX2_back_2 : List UInt8 := dkwX2_back_2 ++ []
def dkwX2_back_1 : List UInt8 := [42, 180, 0, 32, 16, 8, 27, 104, 42, 180, 0, 26, 3, 16, 8, 184, 0, 172, 42, 3, 181, 0, 179, 4]
abbrev dktX2_back_1 : List UInt8 := dkwX2_back_1 ++ dktX2_back_2
def dkwX2_back_0 : List UInt8 := [42, 182, 0, 163, 27, 3, 42, 180, 0, 182, 4, 100, 184, 0, 139, 154, 0, 9, 42, 4, 182, 1, 135, 172]
abbrev dktX2_back_0 : List UInt8 := dkwX2_back_0 ++ dktX2_back_1
theorem dksX2_back_0 : cX2_back.data.toList.drop 0 = dktX2_back_0 := by decide +kernel
theorem dksX2_back_1 : cX2_back.data.toList.drop 24 = dktX2_back_1 := dk_seg dksX2_back_0 24 rfl rfl
theorem dksX2_back_2 : cX2_back.data.toList.drop 48 = dktX2_back_2 := dk_seg dksX2_back_1 24 rfl rfl
theorem dX2_back_0 : decode cX2_back 0 = .ok (.aload_n 0, 1) := dk_42 (dk_at dksX2_back_0 0 rfl rfl)
theorem dX2_back_1 : decode cX2_back 1 = .ok (.invokevirtual 163, 3) := dk_182 0 163 (dk_at dksX2_back_0 1 rfl rfl)
theorem dX2_back_4 : decode cX2_back 4 = .ok (.iload_n 1, 1) := dk_27 (dk_at dksX2_back_0 4 rfl rfl)
theorem dX2_back_5 : decode cX2_back 5 = .ok (.iconst 0, 1) := dk_3 (dk_at dksX2_back_0 5 rfl rfl)
theorem dX2_back_6 : decode cX2_back 6 = .ok (.aload_n 0, 1) := dk_42 (dk_at dksX2_back_0 6 rfl rfl)
theorem dX2_back_7 : decode cX2_back 7 = .ok (.getfield 182, 3) := dk_180 0 182 (dk_at dksX2_back_0 7 rfl rfl)
theorem dX2_back_10 : decode cX2_back 10 = .ok (.iconst 1, 1) := dk_4 (dk_at dksX2_back_0 10 rfl rfl)
theorem dX2_back_11 : decode cX2_back 11 = .ok (.isub, 1) := dk_100 (dk_at dksX2_back_0 11 rfl rfl)
theorem dX2_back_12 : decode cX2_back 12 = .ok (.invokestatic 139, 3) := dk_184 0 139 (dk_at dksX2_back_0 12 rfl rfl)
theorem dX2_back_15 : decode cX2_back 15 = .ok (.ifCond .ne 9, 3) := dk_154 0 9 (dk_at dksX2_back_0 15 rfl rfl)
theorem dX2_back_18 : decode cX2_back 18 = .ok (.aload_n 0, 1) := dk_42 (dk_at dksX2_back_0 18 rfl rfl)
theorem dX2_back_19 : decode cX2_back 19 = .ok (.iconst 1, 1) := dk_4 (dk_at dksX2_back_0 19 rfl rfl)
theorem dX2_back_20 : decode cX2_back 20 = .ok (.invokevirtual 391, 3) := dk_182 1 135 (dk_at dksX2_back_0 20 rfl rfl)
theorem dX2_back_23 : decode cX2_back 23 = .ok (.ireturn, 1) := dk_172 (dk_at dksX2_back_0 23 rfl rfl)
theorem dX2_back_24 : decode cX2_back 24 = .ok (.aload_n 0, 1) := dk_42 (dk_at dksX2_back_1 0 rfl rfl)
theorem dX2_back_25 : decode cX2_back 25 = .ok (.getfield 32, 3) := dk_180 0 32 (dk_at dksX2_back_1 1 rfl rfl)
theorem dX2_back_28 : decode cX2_back 28 = .ok (.bipush 8, 2) := dk_16 8 (dk_at dksX2_back_1 4 rfl rfl)
theorem dX2_back_30 : decode cX2_back 30 = .ok (.iload_n 1, 1) := dk_27 (dk_at dksX2_back_1 6 rfl rfl)
theorem dX2_back_31 : decode cX2_back 31 = .ok (.imul, 1) := dk_104 (dk_at dksX2_back_1 7 rfl rfl)
theorem dX2_back_32 : decode cX2_back 32 = .ok (.aload_n 0, 1) := dk_42 (dk_at dksX2_back_1 8 rfl rfl)
theorem dX2_back_33 : decode cX2_back 33 = .ok (.getfield 26, 3) := dk_180 0 26 (dk_at dksX2_back_1 9 rfl rfl)
theorem dX2_back_36 : decode cX2_back 36 = .ok (.iconst 0, 1) := dk_3 (dk_at dksX2_back_1 12 rfl rfl)
theorem dX2_back_37 : decode cX2_back 37 = .ok (.bipush 8, 2) := dk_16 8 (dk_at dksX2_back_1 13 rfl rfl)
theorem dX2_back_39 : decode cX2_back 39 = .ok (.invokestatic 172, 3) := dk_184 0 172 (dk_at dksX2_back_1 15 rfl rfl)
theorem dX2_back_42 : decode cX2_back 42 = .ok (.aload_n 0, 1) := dk_42 (dk_at dksX2_back_1 18 rfl rfl)
theorem dX2_back_43 : decode cX2_back 43 = .ok (.iconst 0, 1) := dk_3 (dk_at dksX2_back_1 19 rfl rfl)
theorem dX2_back_44 : decode cX2_back 44 = .ok (.putfield 179, 3) := dk_181 0 179 (dk_at dksX2_back_1 20 rfl rfl)
theorem dX2_back_47 : decode cX2_back 47 = .ok (.iconst 1, 1) := dk_4 (dk_at dksX2_back_1 23 rfl rfl)
theorem dX2_back_48 : decode cX2_back 48 = .ok (.ireturn, 1) := dk_172 (dk_at dksX2_back_2 0 rfl rfl)
abbrev cX2_led : ByteArray := prog_15_method_128_code
def yX2_led : MethodName := ⟨RX2, "led", "(I)I"⟩
def dkwX2_led_2 : List UInt8 := [181, 0, 47, 29, 172, 132, 2, 1, 132, 3, 1, 167, 255, 203, 42, 4, 181, 0, 47, 3, 172]
abbrev dktX2_led_2 : List UInt8 := dkwX2_led_2 ++ []
def dkwX2_led_1 : List UInt8 := [182, 1, 71, 87, 42, 180, 1, 13, 16, 254, 159, 0, 6, 167, 0, 18, 28, 27, 160, 0, 10, 42, 3]
abbrev dktX2_led_1 : List UInt8 := dkwX2_led_1 ++ dktX2_led_2
def dkwX2_led_0 : List UInt8 := [3, 61, 3, 62, 42, 180, 0, 176, 153, 0, 52, 29, 42, 180, 0, 20, 8, 46, 162, 0, 42, 42, 29]
abbrev dktX2_led_0 : List UInt8 := dkwX2_led_0 ++ dktX2_led_1
theorem dksX2_led_0 : cX2_led.data.toList.drop 0 = dktX2_led_0 := by decide +kernel
theorem dksX2_led_1 : cX2_led.data.toList.drop 23 = dktX2_led_1 := dk_seg dksX2_led_0 23 rfl rfl
theorem dksX2_led_2 : cX2_led.data.toList.drop 46 = dktX2_led_2 := dk_seg dksX2_led_1 23 rfl rfl
theorem dX2_led_0 : decode cX2_led 0 = .ok (.iconst 0, 1) := dk_3 (dk_at dksX2_led_0 0 rfl rfl)
theorem dX2_led_1 : decode cX2_led 1 = .ok (.istore_n 2, 1) := dk_61 (dk_at dksX2_led_0 1 rfl rfl)
theorem dX2_led_2 : decode cX2_led 2 = .ok (.iconst 0, 1) := dk_3 (dk_at dksX2_led_0 2 rfl rfl)
theorem dX2_led_3 : decode cX2_led 3 = .ok (.istore_n 3, 1) := dk_62 (dk_at dksX2_led_0 3 rfl rfl)
theorem dX2_led_4 : decode cX2_led 4 = .ok (.aload_n 0, 1) := dk_42 (dk_at dksX2_led_0 4 rfl rfl)
theorem dX2_led_5 : decode cX2_led 5 = .ok (.getfield 176, 3) := dk_180 0 176 (dk_at dksX2_led_0 5 rfl rfl)
theorem dX2_led_8 : decode cX2_led 8 = .ok (.ifCond .eq 52, 3) := dk_153 0 52 (dk_at dksX2_led_0 8 rfl rfl)
theorem dX2_led_11 : decode cX2_led 11 = .ok (.iload_n 3, 1) := dk_29 (dk_at dksX2_led_0 11 rfl rfl)
theorem dX2_led_12 : decode cX2_led 12 = .ok (.aload_n 0, 1) := dk_42 (dk_at dksX2_led_0 12 rfl rfl)
theorem dX2_led_13 : decode cX2_led 13 = .ok (.getfield 20, 3) := dk_180 0 20 (dk_at dksX2_led_0 13 rfl rfl)
theorem dX2_led_16 : decode cX2_led 16 = .ok (.iconst 5, 1) := dk_8 (dk_at dksX2_led_0 16 rfl rfl)
theorem dX2_led_17 : decode cX2_led 17 = .ok (.iaload, 1) := dk_46 (dk_at dksX2_led_0 17 rfl rfl)
theorem dX2_led_18 : decode cX2_led 18 = .ok (.if_icmp .ge 42, 3) := dk_162 0 42 (dk_at dksX2_led_0 18 rfl rfl)
theorem dX2_led_21 : decode cX2_led 21 = .ok (.aload_n 0, 1) := dk_42 (dk_at dksX2_led_0 21 rfl rfl)
theorem dX2_led_22 : decode cX2_led 22 = .ok (.iload_n 3, 1) := dk_29 (dk_at dksX2_led_0 22 rfl rfl)
theorem dX2_led_23 : decode cX2_led 23 = .ok (.invokevirtual 327, 3) := dk_182 1 71 (dk_at dksX2_led_1 0 rfl rfl)
theorem dX2_led_26 : decode cX2_led 26 = .ok (.pop, 1) := dk_87 (dk_at dksX2_led_1 3 rfl rfl)
theorem dX2_led_27 : decode cX2_led 27 = .ok (.aload_n 0, 1) := dk_42 (dk_at dksX2_led_1 4 rfl rfl)
theorem dX2_led_28 : decode cX2_led 28 = .ok (.getfield 269, 3) := dk_180 1 13 (dk_at dksX2_led_1 5 rfl rfl)
theorem dX2_led_31 : decode cX2_led 31 = .ok (.bipush (-2), 2) := dk_16 254 (dk_at dksX2_led_1 8 rfl rfl)
theorem dX2_led_33 : decode cX2_led 33 = .ok (.if_icmp .eq 6, 3) := dk_159 0 6 (dk_at dksX2_led_1 10 rfl rfl)
theorem dX2_led_36 : decode cX2_led 36 = .ok (.goto 18, 3) := dk_167 0 18 (dk_at dksX2_led_1 13 rfl rfl)
theorem dX2_led_39 : decode cX2_led 39 = .ok (.iload_n 2, 1) := dk_28 (dk_at dksX2_led_1 16 rfl rfl)
theorem dX2_led_40 : decode cX2_led 40 = .ok (.iload_n 1, 1) := dk_27 (dk_at dksX2_led_1 17 rfl rfl)
theorem dX2_led_41 : decode cX2_led 41 = .ok (.if_icmp .ne 10, 3) := dk_160 0 10 (dk_at dksX2_led_1 18 rfl rfl)
theorem dX2_led_44 : decode cX2_led 44 = .ok (.aload_n 0, 1) := dk_42 (dk_at dksX2_led_1 21 rfl rfl)
theorem dX2_led_45 : decode cX2_led 45 = .ok (.iconst 0, 1) := dk_3 (dk_at dksX2_led_1 22 rfl rfl)
theorem dX2_led_46 : decode cX2_led 46 = .ok (.putfield 47, 3) := dk_181 0 47 (dk_at dksX2_led_2 0 rfl rfl)
theorem dX2_led_49 : decode cX2_led 49 = .ok (.iload_n 3, 1) := dk_29 (dk_at dksX2_led_2 3 rfl rfl)
theorem dX2_led_50 : decode cX2_led 50 = .ok (.ireturn, 1) := dk_172 (dk_at dksX2_led_2 4 rfl rfl)
theorem dX2_led_51 : decode cX2_led 51 = .ok (.iinc 2 1, 3) := dk_132 2 1 (dk_at dksX2_led_2 5 rfl rfl)
theorem dX2_led_54 : decode cX2_led 54 = .ok (.iinc 3 1, 3) := dk_132 3 1 (dk_at dksX2_led_2 8 rfl rfl)
theorem dX2_led_57 : decode cX2_led 57 = .ok (.goto (-53), 3) := dk_167 255 203 (dk_at dksX2_led_2 11 rfl rfl)
theorem dX2_led_60 : decode cX2_led 60 = .ok (.aload_n 0, 1) := dk_42 (dk_at dksX2_led_2 14 rfl rfl)
theorem dX2_led_61 : decode cX2_led 61 = .ok (.iconst 1, 1) := dk_4 (dk_at dksX2_led_2 15 rfl rfl)
theorem dX2_led_62 : decode cX2_led 62 = .ok (.putfield 47, 3) := dk_181 0 47 (dk_at dksX2_led_2 16 rfl rfl)
theorem dX2_led_65 : decode cX2_led 65 = .ok (.iconst 0, 1) := dk_3 (dk_at dksX2_led_2 19 rfl rfl)
theorem dX2_led_66 : decode cX2_led 66 = .ok (.ireturn, 1) := dk_172 (dk_at dksX2_led_2 20 rfl rfl)
abbrev cX2_size : ByteArray := prog_15_method_129_code
def yX2_size : MethodName := ⟨RX2, "size", "(I)I"⟩
def dkwX2_size_3 : List UInt8 := [16, 10, 160, 0, 10, 42, 180, 0, 182, 167, 0, 4, 2, 172]
abbrev dktX2_size_3 : List UInt8 := dkwX2_size_3 ++ []
def dkwX2_size_2 : List UInt8 := [153, 0, 10, 42, 180, 0, 20, 27, 46, 172, 27, 16, 9, 160, 0, 10, 42, 180, 0, 179, 167, 0, 17, 27]
abbrev dktX2_size_2 : List UInt8 := dkwX2_size_2 ++ dktX2_size_3
def dkwX2_size_1 : List UInt8 := [3, 16, 10, 184, 0, 139, 153, 0, 7, 3, 167, 0, 4, 2, 172, 27, 3, 16, 8, 184, 0, 139]
abbrev dktX2_size_1 : List UInt8 := dkwX2_size_1 ++ dktX2_size_2
def dkwX2_size_0 : List UInt8 := [42, 3, 181, 0, 47, 27, 16, 11, 160, 0, 8, 42, 180, 0, 53, 172, 42, 180, 0, 176, 154, 0, 19, 27]
abbrev dktX2_size_0 : List UInt8 := dkwX2_size_0 ++ dktX2_size_1
theorem dksX2_size_0 : cX2_size.data.toList.drop 0 = dktX2_size_0 := by decide +kernel
theorem dksX2_size_1 : cX2_size.data.toList.drop 24 = dktX2_size_1 := dk_seg dksX2_size_0 24 rfl rfl
theorem dksX2_size_2 : cX2_size.data.toList.drop 46 = dktX2_size_2 := dk_seg dksX2_size_1 22 rfl rfl
theorem dksX2_size_3 : cX2_size.data.toList.drop 70 = dktX2_size_3 := dk_seg dksX2_size_2 24 rfl rfl
theorem dX2_size_0 : decode cX2_size 0 = .ok (.aload_n 0, 1) := dk_42 (dk_at dksX2_size_0 0 rfl rfl)
theorem dX2_size_1 : decode cX2_size 1 = .ok (.iconst 0, 1) := dk_3 (dk_at dksX2_size_0 1 rfl rfl)
theorem dX2_size_2 : decode cX2_size 2 = .ok (.putfield 47, 3) := dk_181 0 47 (dk_at dksX2_size_0 2 rfl rfl)
theorem dX2_size_5 : decode cX2_size 5 = .ok (.iload_n 1, 1) := dk_27 (dk_at dksX2_size_0 5 rfl rfl)
theorem dX2_size_6 : decode cX2_size 6 = .ok (.bipush 11, 2) := dk_16 11 (dk_at dksX2_size_0 6 rfl rfl)
theorem dX2_size_8 : decode cX2_size 8 = .ok (.if_icmp .ne 8, 3) := dk_160 0 8 (dk_at dksX2_size_0 8 rfl rfl)
theorem dX2_size_11 : decode cX2_size 11 = .ok (.aload_n 0, 1) := dk_42 (dk_at dksX2_size_0 11 rfl rfl)
theorem dX2_size_12 : decode cX2_size 12 = .ok (.getfield 53, 3) := dk_180 0 53 (dk_at dksX2_size_0 12 rfl rfl)
theorem dX2_size_15 : decode cX2_size 15 = .ok (.ireturn, 1) := dk_172 (dk_at dksX2_size_0 15 rfl rfl)
theorem dX2_size_16 : decode cX2_size 16 = .ok (.aload_n 0, 1) := dk_42 (dk_at dksX2_size_0 16 rfl rfl)
theorem dX2_size_17 : decode cX2_size 17 = .ok (.getfield 176, 3) := dk_180 0 176 (dk_at dksX2_size_0 17 rfl rfl)
theorem dX2_size_20 : decode cX2_size 20 = .ok (.ifCond .ne 19, 3) := dk_154 0 19 (dk_at dksX2_size_0 20 rfl rfl)
theorem dX2_size_23 : decode cX2_size 23 = .ok (.iload_n 1, 1) := dk_27 (dk_at dksX2_size_0 23 rfl rfl)
theorem dX2_size_24 : decode cX2_size 24 = .ok (.iconst 0, 1) := dk_3 (dk_at dksX2_size_1 0 rfl rfl)
theorem dX2_size_25 : decode cX2_size 25 = .ok (.bipush 10, 2) := dk_16 10 (dk_at dksX2_size_1 1 rfl rfl)
theorem dX2_size_27 : decode cX2_size 27 = .ok (.invokestatic 139, 3) := dk_184 0 139 (dk_at dksX2_size_1 3 rfl rfl)
theorem dX2_size_30 : decode cX2_size 30 = .ok (.ifCond .eq 7, 3) := dk_153 0 7 (dk_at dksX2_size_1 6 rfl rfl)
theorem dX2_size_33 : decode cX2_size 33 = .ok (.iconst 0, 1) := dk_3 (dk_at dksX2_size_1 9 rfl rfl)
theorem dX2_size_34 : decode cX2_size 34 = .ok (.goto 4, 3) := dk_167 0 4 (dk_at dksX2_size_1 10 rfl rfl)
theorem dX2_size_37 : decode cX2_size 37 = .ok (.iconst (-1), 1) := dk_2 (dk_at dksX2_size_1 13 rfl rfl)
theorem dX2_size_38 : decode cX2_size 38 = .ok (.ireturn, 1) := dk_172 (dk_at dksX2_size_1 14 rfl rfl)
theorem dX2_size_39 : decode cX2_size 39 = .ok (.iload_n 1, 1) := dk_27 (dk_at dksX2_size_1 15 rfl rfl)
theorem dX2_size_40 : decode cX2_size 40 = .ok (.iconst 0, 1) := dk_3 (dk_at dksX2_size_1 16 rfl rfl)
theorem dX2_size_41 : decode cX2_size 41 = .ok (.bipush 8, 2) := dk_16 8 (dk_at dksX2_size_1 17 rfl rfl)
theorem dX2_size_43 : decode cX2_size 43 = .ok (.invokestatic 139, 3) := dk_184 0 139 (dk_at dksX2_size_1 19 rfl rfl)
theorem dX2_size_46 : decode cX2_size 46 = .ok (.ifCond .eq 10, 3) := dk_153 0 10 (dk_at dksX2_size_2 0 rfl rfl)
theorem dX2_size_49 : decode cX2_size 49 = .ok (.aload_n 0, 1) := dk_42 (dk_at dksX2_size_2 3 rfl rfl)
theorem dX2_size_50 : decode cX2_size 50 = .ok (.getfield 20, 3) := dk_180 0 20 (dk_at dksX2_size_2 4 rfl rfl)
theorem dX2_size_53 : decode cX2_size 53 = .ok (.iload_n 1, 1) := dk_27 (dk_at dksX2_size_2 7 rfl rfl)
theorem dX2_size_54 : decode cX2_size 54 = .ok (.iaload, 1) := dk_46 (dk_at dksX2_size_2 8 rfl rfl)
theorem dX2_size_55 : decode cX2_size 55 = .ok (.ireturn, 1) := dk_172 (dk_at dksX2_size_2 9 rfl rfl)
theorem dX2_size_56 : decode cX2_size 56 = .ok (.iload_n 1, 1) := dk_27 (dk_at dksX2_size_2 10 rfl rfl)
theorem dX2_size_57 : decode cX2_size 57 = .ok (.bipush 9, 2) := dk_16 9 (dk_at dksX2_size_2 11 rfl rfl)
theorem dX2_size_59 : decode cX2_size 59 = .ok (.if_icmp .ne 10, 3) := dk_160 0 10 (dk_at dksX2_size_2 13 rfl rfl)
theorem dX2_size_62 : decode cX2_size 62 = .ok (.aload_n 0, 1) := dk_42 (dk_at dksX2_size_2 16 rfl rfl)
theorem dX2_size_63 : decode cX2_size 63 = .ok (.getfield 179, 3) := dk_180 0 179 (dk_at dksX2_size_2 17 rfl rfl)
theorem dX2_size_66 : decode cX2_size 66 = .ok (.goto 17, 3) := dk_167 0 17 (dk_at dksX2_size_2 20 rfl rfl)
theorem dX2_size_69 : decode cX2_size 69 = .ok (.iload_n 1, 1) := dk_27 (dk_at dksX2_size_2 23 rfl rfl)
theorem dX2_size_70 : decode cX2_size 70 = .ok (.bipush 10, 2) := dk_16 10 (dk_at dksX2_size_3 0 rfl rfl)
theorem dX2_size_72 : decode cX2_size 72 = .ok (.if_icmp .ne 10, 3) := dk_160 0 10 (dk_at dksX2_size_3 2 rfl rfl)
theorem dX2_size_75 : decode cX2_size 75 = .ok (.aload_n 0, 1) := dk_42 (dk_at dksX2_size_3 5 rfl rfl)
theorem dX2_size_76 : decode cX2_size 76 = .ok (.getfield 182, 3) := dk_180 0 182 (dk_at dksX2_size_3 6 rfl rfl)
theorem dX2_size_79 : decode cX2_size 79 = .ok (.goto 4, 3) := dk_167 0 4 (dk_at dksX2_size_3 9 rfl rfl)
theorem dX2_size_82 : decode cX2_size 82 = .ok (.iconst (-1), 1) := dk_2 (dk_at dksX2_size_3 12 rfl rfl)
theorem dX2_size_83 : decode cX2_size 83 = .ok (.ireturn, 1) := dk_172 (dk_at dksX2_size_3 13 rfl rfl)
abbrev cX2_trouble : ByteArray := prog_15_method_130_code
def yX2_trouble : MethodName := ⟨RX2, "trouble", "()I"⟩
def dkwX2_trouble_0 : List UInt8 := [42, 3, 181, 0, 47, 42, 180, 0, 50, 172]
abbrev dktX2_trouble_0 : List UInt8 := dkwX2_trouble_0 ++ []
theorem dksX2_trouble_0 : cX2_trouble.data.toList.drop 0 = dktX2_trouble_0 := by decide +kernel
theorem dX2_trouble_0 : decode cX2_trouble 0 = .ok (.aload_n 0, 1) := dk_42 (dk_at dksX2_trouble_0 0 rfl rfl)
theorem dX2_trouble_1 : decode cX2_trouble 1 = .ok (.iconst 0, 1) := dk_3 (dk_at dksX2_trouble_0 1 rfl rfl)
theorem dX2_trouble_2 : decode cX2_trouble 2 = .ok (.putfield 47, 3) := dk_181 0 47 (dk_at dksX2_trouble_0 2 rfl rfl)
theorem dX2_trouble_5 : decode cX2_trouble 5 = .ok (.aload_n 0, 1) := dk_42 (dk_at dksX2_trouble_0 5 rfl rfl)
theorem dX2_trouble_6 : decode cX2_trouble 6 = .ok (.getfield 50, 3) := dk_180 0 50 (dk_at dksX2_trouble_0 6 rfl rfl)
theorem dX2_trouble_9 : decode cX2_trouble 9 = .ok (.ireturn, 1) := dk_172 (dk_at dksX2_trouble_0 9 rfl rfl)
