set_option maxRecDepth 100000
abbrev cX14_thrown : ByteArray := prog_15_method_2_code
def yX14_thrown : MethodName := ⟨RX14, "thrown", "()I"⟩
theorem dX14_thrown_0 : decode cX14_thrown 0 = .ok (.aload_n 0, 1) := by decide +kernel
theorem dX14_thrown_1 : decode cX14_thrown 1 = .ok (.getfield 350, 3) := by decide +kernel
theorem dX14_thrown_4 : decode cX14_thrown 4 = .ok (.ireturn, 1) := by decide +kernel
abbrev cX14_feed : ByteArray := prog_15_method_12_code
def yX14_feed : MethodName := ⟨RX14, "feed", "(IIIII)I"⟩
def dkwX14_feed_5 : List UInt8 := [42, 89, 180, 1, 124, 16, 20, 96, 181, 1, 124, 42, 180, 1, 124, 172]
abbrev dktX14_feed_5 : List UInt8 := dkwX14_feed_5 ++ []
def dkwX14_feed_4 : List UInt8 := [21, 7, 16, 24, 16, 8, 21, 6, 7, 112, 104, 100, 122, 17, 0, 255, 126, 79, 132, 6, 1, 167, 255, 169]
abbrev dktX14_feed_4 : List UInt8 := dkwX14_feed_4 ++ dktX14_feed_5
def dkwX14_feed_3 : List UInt8 := [162, 0, 8, 21, 4, 167, 0, 5, 21, 5, 54, 7, 42, 180, 0, 20, 42, 180, 1, 124, 21, 6, 96]
abbrev dktX14_feed_3 : List UInt8 := dkwX14_feed_3 ++ dktX14_feed_4
def dkwX14_feed_2 : List UInt8 := [162, 0, 7, 28, 167, 0, 28, 21, 6, 16, 12, 162, 0, 7, 29, 167, 0, 17, 21, 6, 16, 16]
abbrev dktX14_feed_2 : List UInt8 := dkwX14_feed_2 ++ dktX14_feed_3
def dkwX14_feed_1 : List UInt8 := [3, 54, 6, 21, 6, 16, 20, 162, 0, 86, 21, 6, 7, 162, 0, 7, 27, 167, 0, 39, 21, 6, 16, 8]
abbrev dktX14_feed_1 : List UInt8 := dkwX14_feed_1 ++ dktX14_feed_2
def dkwX14_feed_0 : List UInt8 := [42, 3, 181, 1, 94, 42, 180, 1, 124, 16, 20, 96, 19, 1, 127, 164, 0, 9, 42, 4, 182, 1, 128, 172]
abbrev dktX14_feed_0 : List UInt8 := dkwX14_feed_0 ++ dktX14_feed_1
theorem dksX14_feed_0 : cX14_feed.data.toList.drop 0 = dktX14_feed_0 := by decide +kernel
theorem dksX14_feed_1 : cX14_feed.data.toList.drop 24 = dktX14_feed_1 := dk_seg dksX14_feed_0 24 rfl rfl
theorem dksX14_feed_2 : cX14_feed.data.toList.drop 48 = dktX14_feed_2 := dk_seg dksX14_feed_1 24 rfl rfl
theorem dksX14_feed_3 : cX14_feed.data.toList.drop 70 = dktX14_feed_3 := dk_seg dksX14_feed_2 22 rfl rfl
theorem dksX14_feed_4 : cX14_feed.data.toList.drop 93 = dktX14_feed_4 := dk_seg dksX14_feed_3 23 rfl rfl
theorem dksX14_feed_5 : cX14_feed.data.toList.drop 117 = dktX14_feed_5 := dk_seg dksX14_feed_4 24 rfl rfl
theorem dX14_feed_0 : decode cX14_feed 0 = .ok (.aload_n 0, 1) := dk_42 (dk_at dksX14_feed_0 0 rfl rfl)
theorem dX14_feed_1 : decode cX14_feed 1 = .ok (.iconst 0, 1) := dk_3 (dk_at dksX14_feed_0 1 rfl rfl)
theorem dX14_feed_2 : decode cX14_feed 2 = .ok (.putfield 350, 3) := dk_181 1 94 (dk_at dksX14_feed_0 2 rfl rfl)
theorem dX14_feed_5 : decode cX14_feed 5 = .ok (.aload_n 0, 1) := dk_42 (dk_at dksX14_feed_0 5 rfl rfl)
theorem dX14_feed_6 : decode cX14_feed 6 = .ok (.getfield 380, 3) := dk_180 1 124 (dk_at dksX14_feed_0 6 rfl rfl)
theorem dX14_feed_9 : decode cX14_feed 9 = .ok (.bipush 20, 2) := dk_16 20 (dk_at dksX14_feed_0 9 rfl rfl)
theorem dX14_feed_11 : decode cX14_feed 11 = .ok (.iadd, 1) := dk_96 (dk_at dksX14_feed_0 11 rfl rfl)
theorem dX14_feed_12 : decode cX14_feed 12 = .ok (.ldc_w 383, 3) := dk_19 1 127 (dk_at dksX14_feed_0 12 rfl rfl)
theorem dX14_feed_15 : decode cX14_feed 15 = .ok (.if_icmp .le 9, 3) := dk_164 0 9 (dk_at dksX14_feed_0 15 rfl rfl)
theorem dX14_feed_18 : decode cX14_feed 18 = .ok (.aload_n 0, 1) := dk_42 (dk_at dksX14_feed_0 18 rfl rfl)
theorem dX14_feed_19 : decode cX14_feed 19 = .ok (.iconst 1, 1) := dk_4 (dk_at dksX14_feed_0 19 rfl rfl)
theorem dX14_feed_20 : decode cX14_feed 20 = .ok (.invokevirtual 384, 3) := dk_182 1 128 (dk_at dksX14_feed_0 20 rfl rfl)
theorem dX14_feed_23 : decode cX14_feed 23 = .ok (.ireturn, 1) := dk_172 (dk_at dksX14_feed_0 23 rfl rfl)
theorem dX14_feed_24 : decode cX14_feed 24 = .ok (.iconst 0, 1) := dk_3 (dk_at dksX14_feed_1 0 rfl rfl)
theorem dX14_feed_25 : decode cX14_feed 25 = .ok (.istore 6, 2) := dk_54 6 (dk_at dksX14_feed_1 1 rfl rfl)
theorem dX14_feed_27 : decode cX14_feed 27 = .ok (.iload 6, 2) := dk_21 6 (dk_at dksX14_feed_1 3 rfl rfl)
theorem dX14_feed_29 : decode cX14_feed 29 = .ok (.bipush 20, 2) := dk_16 20 (dk_at dksX14_feed_1 5 rfl rfl)
theorem dX14_feed_31 : decode cX14_feed 31 = .ok (.if_icmp .ge 86, 3) := dk_162 0 86 (dk_at dksX14_feed_1 7 rfl rfl)
theorem dX14_feed_34 : decode cX14_feed 34 = .ok (.iload 6, 2) := dk_21 6 (dk_at dksX14_feed_1 10 rfl rfl)
theorem dX14_feed_36 : decode cX14_feed 36 = .ok (.iconst 4, 1) := dk_7 (dk_at dksX14_feed_1 12 rfl rfl)
theorem dX14_feed_37 : decode cX14_feed 37 = .ok (.if_icmp .ge 7, 3) := dk_162 0 7 (dk_at dksX14_feed_1 13 rfl rfl)
theorem dX14_feed_40 : decode cX14_feed 40 = .ok (.iload_n 1, 1) := dk_27 (dk_at dksX14_feed_1 16 rfl rfl)
theorem dX14_feed_41 : decode cX14_feed 41 = .ok (.goto 39, 3) := dk_167 0 39 (dk_at dksX14_feed_1 17 rfl rfl)
theorem dX14_feed_44 : decode cX14_feed 44 = .ok (.iload 6, 2) := dk_21 6 (dk_at dksX14_feed_1 20 rfl rfl)
theorem dX14_feed_46 : decode cX14_feed 46 = .ok (.bipush 8, 2) := dk_16 8 (dk_at dksX14_feed_1 22 rfl rfl)
theorem dX14_feed_48 : decode cX14_feed 48 = .ok (.if_icmp .ge 7, 3) := dk_162 0 7 (dk_at dksX14_feed_2 0 rfl rfl)
theorem dX14_feed_51 : decode cX14_feed 51 = .ok (.iload_n 2, 1) := dk_28 (dk_at dksX14_feed_2 3 rfl rfl)
theorem dX14_feed_52 : decode cX14_feed 52 = .ok (.goto 28, 3) := dk_167 0 28 (dk_at dksX14_feed_2 4 rfl rfl)
theorem dX14_feed_55 : decode cX14_feed 55 = .ok (.iload 6, 2) := dk_21 6 (dk_at dksX14_feed_2 7 rfl rfl)
theorem dX14_feed_57 : decode cX14_feed 57 = .ok (.bipush 12, 2) := dk_16 12 (dk_at dksX14_feed_2 9 rfl rfl)
theorem dX14_feed_59 : decode cX14_feed 59 = .ok (.if_icmp .ge 7, 3) := dk_162 0 7 (dk_at dksX14_feed_2 11 rfl rfl)
theorem dX14_feed_62 : decode cX14_feed 62 = .ok (.iload_n 3, 1) := dk_29 (dk_at dksX14_feed_2 14 rfl rfl)
theorem dX14_feed_63 : decode cX14_feed 63 = .ok (.goto 17, 3) := dk_167 0 17 (dk_at dksX14_feed_2 15 rfl rfl)
theorem dX14_feed_66 : decode cX14_feed 66 = .ok (.iload 6, 2) := dk_21 6 (dk_at dksX14_feed_2 18 rfl rfl)
theorem dX14_feed_68 : decode cX14_feed 68 = .ok (.bipush 16, 2) := dk_16 16 (dk_at dksX14_feed_2 20 rfl rfl)
theorem dX14_feed_70 : decode cX14_feed 70 = .ok (.if_icmp .ge 8, 3) := dk_162 0 8 (dk_at dksX14_feed_3 0 rfl rfl)
theorem dX14_feed_73 : decode cX14_feed 73 = .ok (.iload 4, 2) := dk_21 4 (dk_at dksX14_feed_3 3 rfl rfl)
theorem dX14_feed_75 : decode cX14_feed 75 = .ok (.goto 5, 3) := dk_167 0 5 (dk_at dksX14_feed_3 5 rfl rfl)
theorem dX14_feed_78 : decode cX14_feed 78 = .ok (.iload 5, 2) := dk_21 5 (dk_at dksX14_feed_3 8 rfl rfl)
theorem dX14_feed_80 : decode cX14_feed 80 = .ok (.istore 7, 2) := dk_54 7 (dk_at dksX14_feed_3 10 rfl rfl)
theorem dX14_feed_82 : decode cX14_feed 82 = .ok (.aload_n 0, 1) := dk_42 (dk_at dksX14_feed_3 12 rfl rfl)
theorem dX14_feed_83 : decode cX14_feed 83 = .ok (.getfield 20, 3) := dk_180 0 20 (dk_at dksX14_feed_3 13 rfl rfl)
theorem dX14_feed_86 : decode cX14_feed 86 = .ok (.aload_n 0, 1) := dk_42 (dk_at dksX14_feed_3 16 rfl rfl)
theorem dX14_feed_87 : decode cX14_feed 87 = .ok (.getfield 380, 3) := dk_180 1 124 (dk_at dksX14_feed_3 17 rfl rfl)
theorem dX14_feed_90 : decode cX14_feed 90 = .ok (.iload 6, 2) := dk_21 6 (dk_at dksX14_feed_3 20 rfl rfl)
theorem dX14_feed_92 : decode cX14_feed 92 = .ok (.iadd, 1) := dk_96 (dk_at dksX14_feed_3 22 rfl rfl)
theorem dX14_feed_93 : decode cX14_feed 93 = .ok (.iload 7, 2) := dk_21 7 (dk_at dksX14_feed_4 0 rfl rfl)
theorem dX14_feed_95 : decode cX14_feed 95 = .ok (.bipush 24, 2) := dk_16 24 (dk_at dksX14_feed_4 2 rfl rfl)
theorem dX14_feed_97 : decode cX14_feed 97 = .ok (.bipush 8, 2) := dk_16 8 (dk_at dksX14_feed_4 4 rfl rfl)
theorem dX14_feed_99 : decode cX14_feed 99 = .ok (.iload 6, 2) := dk_21 6 (dk_at dksX14_feed_4 6 rfl rfl)
theorem dX14_feed_101 : decode cX14_feed 101 = .ok (.iconst 4, 1) := dk_7 (dk_at dksX14_feed_4 8 rfl rfl)
theorem dX14_feed_102 : decode cX14_feed 102 = .ok (.irem, 1) := dk_112 (dk_at dksX14_feed_4 9 rfl rfl)
theorem dX14_feed_103 : decode cX14_feed 103 = .ok (.imul, 1) := dk_104 (dk_at dksX14_feed_4 10 rfl rfl)
theorem dX14_feed_104 : decode cX14_feed 104 = .ok (.isub, 1) := dk_100 (dk_at dksX14_feed_4 11 rfl rfl)
theorem dX14_feed_105 : decode cX14_feed 105 = .ok (.ishr, 1) := dk_122 (dk_at dksX14_feed_4 12 rfl rfl)
theorem dX14_feed_106 : decode cX14_feed 106 = .ok (.sipush 255, 3) := dk_17 0 255 (dk_at dksX14_feed_4 13 rfl rfl)
theorem dX14_feed_109 : decode cX14_feed 109 = .ok (.iand, 1) := dk_126 (dk_at dksX14_feed_4 16 rfl rfl)
theorem dX14_feed_110 : decode cX14_feed 110 = .ok (.iastore, 1) := dk_79 (dk_at dksX14_feed_4 17 rfl rfl)
theorem dX14_feed_111 : decode cX14_feed 111 = .ok (.iinc 6 1, 3) := dk_132 6 1 (dk_at dksX14_feed_4 18 rfl rfl)
theorem dX14_feed_114 : decode cX14_feed 114 = .ok (.goto (-87), 3) := dk_167 255 169 (dk_at dksX14_feed_4 21 rfl rfl)
theorem dX14_feed_117 : decode cX14_feed 117 = .ok (.aload_n 0, 1) := dk_42 (dk_at dksX14_feed_5 0 rfl rfl)
theorem dX14_feed_118 : decode cX14_feed 118 = .ok (.dup, 1) := dk_89 (dk_at dksX14_feed_5 1 rfl rfl)
theorem dX14_feed_119 : decode cX14_feed 119 = .ok (.getfield 380, 3) := dk_180 1 124 (dk_at dksX14_feed_5 2 rfl rfl)
theorem dX14_feed_122 : decode cX14_feed 122 = .ok (.bipush 20, 2) := dk_16 20 (dk_at dksX14_feed_5 5 rfl rfl)
theorem dX14_feed_124 : decode cX14_feed 124 = .ok (.iadd, 1) := dk_96 (dk_at dksX14_feed_5 7 rfl rfl)
theorem dX14_feed_125 : decode cX14_feed 125 = .ok (.putfield 380, 3) := dk_181 1 124 (dk_at dksX14_feed_5 8 rfl rfl)
theorem dX14_feed_128 : decode cX14_feed 128 = .ok (.aload_n 0, 1) := dk_42 (dk_at dksX14_feed_5 11 rfl rfl)
theorem dX14_feed_129 : decode cX14_feed 129 = .ok (.getfield 380, 3) := dk_180 1 124 (dk_at dksX14_feed_5 12 rfl rfl)
theorem dX14_feed_132 : decode cX14_feed 132 = .ok (.ireturn, 1) := dk_172 (dk_at dksX14_feed_5 15 rfl rfl)
abbrev cX14_fail : ByteArray := prog_15_method_3_code
def yX14_fail : MethodName := ⟨RX14, "fail", "(I)I"⟩
def dkwX14_fail_0 : List UInt8 := [42, 27, 181, 1, 94, 3, 172]
abbrev dktX14_fail_0 : List UInt8 := dkwX14_fail_0 ++ []
theorem dksX14_fail_0 : cX14_fail.data.toList.drop 0 = dktX14_fail_0 := by decide +kernel
theorem dX14_fail_0 : decode cX14_fail 0 = .ok (.aload_n 0, 1) := dk_42 (dk_at dksX14_fail_0 0 rfl rfl)
theorem dX14_fail_1 : decode cX14_fail 1 = .ok (.iload_n 1, 1) := dk_27 (dk_at dksX14_fail_0 1 rfl rfl)
theorem dX14_fail_2 : decode cX14_fail 2 = .ok (.putfield 350, 3) := dk_181 1 94 (dk_at dksX14_fail_0 2 rfl rfl)
theorem dX14_fail_5 : decode cX14_fail 5 = .ok (.iconst 0, 1) := dk_3 (dk_at dksX14_fail_0 5 rfl rfl)
theorem dX14_fail_6 : decode cX14_fail 6 = .ok (.ireturn, 1) := dk_172 (dk_at dksX14_fail_0 6 rfl rfl)
abbrev cX14_end : ByteArray := prog_15_method_13_code
def yX14_end : MethodName := ⟨RX14, "end", "(I)I"⟩
def dkwX14_end_2 : List UInt8 := [181, 1, 124, 42, 180, 1, 124, 172]
abbrev dktX14_end_2 : List UInt8 := dkwX14_end_2 ++ []
def dkwX14_end_1 : List UInt8 := [180, 1, 124, 16, 20, 162, 0, 9, 42, 5, 182, 1, 128, 172, 42, 89, 180, 1, 124, 16, 20, 27, 100, 100]
abbrev dktX14_end_1 : List UInt8 := dkwX14_end_1 ++ dktX14_end_2
def dkwX14_end_0 : List UInt8 := [42, 3, 181, 1, 94, 27, 3, 16, 20, 184, 1, 132, 154, 0, 9, 42, 4, 182, 1, 128, 172, 42]
abbrev dktX14_end_0 : List UInt8 := dkwX14_end_0 ++ dktX14_end_1
theorem dksX14_end_0 : cX14_end.data.toList.drop 0 = dktX14_end_0 := by decide +kernel
theorem dksX14_end_1 : cX14_end.data.toList.drop 22 = dktX14_end_1 := dk_seg dksX14_end_0 22 rfl rfl
theorem dksX14_end_2 : cX14_end.data.toList.drop 46 = dktX14_end_2 := dk_seg dksX14_end_1 24 rfl rfl
theorem dX14_end_0 : decode cX14_end 0 = .ok (.aload_n 0, 1) := dk_42 (dk_at dksX14_end_0 0 rfl rfl)
theorem dX14_end_1 : decode cX14_end 1 = .ok (.iconst 0, 1) := dk_3 (dk_at dksX14_end_0 1 rfl rfl)
theorem dX14_end_2 : decode cX14_end 2 = .ok (.putfield 350, 3) := dk_181 1 94 (dk_at dksX14_end_0 2 rfl rfl)
theorem dX14_end_5 : decode cX14_end 5 = .ok (.iload_n 1, 1) := dk_27 (dk_at dksX14_end_0 5 rfl rfl)
theorem dX14_end_6 : decode cX14_end 6 = .ok (.iconst 0, 1) := dk_3 (dk_at dksX14_end_0 6 rfl rfl)
theorem dX14_end_7 : decode cX14_end 7 = .ok (.bipush 20, 2) := dk_16 20 (dk_at dksX14_end_0 7 rfl rfl)
theorem dX14_end_9 : decode cX14_end 9 = .ok (.invokestatic 388, 3) := dk_184 1 132 (dk_at dksX14_end_0 9 rfl rfl)
theorem dX14_end_12 : decode cX14_end 12 = .ok (.ifCond .ne 9, 3) := dk_154 0 9 (dk_at dksX14_end_0 12 rfl rfl)
theorem dX14_end_15 : decode cX14_end 15 = .ok (.aload_n 0, 1) := dk_42 (dk_at dksX14_end_0 15 rfl rfl)
theorem dX14_end_16 : decode cX14_end 16 = .ok (.iconst 1, 1) := dk_4 (dk_at dksX14_end_0 16 rfl rfl)
theorem dX14_end_17 : decode cX14_end 17 = .ok (.invokevirtual 384, 3) := dk_182 1 128 (dk_at dksX14_end_0 17 rfl rfl)
theorem dX14_end_20 : decode cX14_end 20 = .ok (.ireturn, 1) := dk_172 (dk_at dksX14_end_0 20 rfl rfl)
theorem dX14_end_21 : decode cX14_end 21 = .ok (.aload_n 0, 1) := dk_42 (dk_at dksX14_end_0 21 rfl rfl)
theorem dX14_end_22 : decode cX14_end 22 = .ok (.getfield 380, 3) := dk_180 1 124 (dk_at dksX14_end_1 0 rfl rfl)
theorem dX14_end_25 : decode cX14_end 25 = .ok (.bipush 20, 2) := dk_16 20 (dk_at dksX14_end_1 3 rfl rfl)
theorem dX14_end_27 : decode cX14_end 27 = .ok (.if_icmp .ge 9, 3) := dk_162 0 9 (dk_at dksX14_end_1 5 rfl rfl)
theorem dX14_end_30 : decode cX14_end 30 = .ok (.aload_n 0, 1) := dk_42 (dk_at dksX14_end_1 8 rfl rfl)
theorem dX14_end_31 : decode cX14_end 31 = .ok (.iconst 2, 1) := dk_5 (dk_at dksX14_end_1 9 rfl rfl)
theorem dX14_end_32 : decode cX14_end 32 = .ok (.invokevirtual 384, 3) := dk_182 1 128 (dk_at dksX14_end_1 10 rfl rfl)
theorem dX14_end_35 : decode cX14_end 35 = .ok (.ireturn, 1) := dk_172 (dk_at dksX14_end_1 13 rfl rfl)
theorem dX14_end_36 : decode cX14_end 36 = .ok (.aload_n 0, 1) := dk_42 (dk_at dksX14_end_1 14 rfl rfl)
theorem dX14_end_37 : decode cX14_end 37 = .ok (.dup, 1) := dk_89 (dk_at dksX14_end_1 15 rfl rfl)
theorem dX14_end_38 : decode cX14_end 38 = .ok (.getfield 380, 3) := dk_180 1 124 (dk_at dksX14_end_1 16 rfl rfl)
theorem dX14_end_41 : decode cX14_end 41 = .ok (.bipush 20, 2) := dk_16 20 (dk_at dksX14_end_1 19 rfl rfl)
theorem dX14_end_43 : decode cX14_end 43 = .ok (.iload_n 1, 1) := dk_27 (dk_at dksX14_end_1 21 rfl rfl)
theorem dX14_end_44 : decode cX14_end 44 = .ok (.isub, 1) := dk_100 (dk_at dksX14_end_1 22 rfl rfl)
theorem dX14_end_45 : decode cX14_end 45 = .ok (.isub, 1) := dk_100 (dk_at dksX14_end_1 23 rfl rfl)
theorem dX14_end_46 : decode cX14_end 46 = .ok (.putfield 380, 3) := dk_181 1 124 (dk_at dksX14_end_2 0 rfl rfl)
theorem dX14_end_49 : decode cX14_end 49 = .ok (.aload_n 0, 1) := dk_42 (dk_at dksX14_end_2 3 rfl rfl)
theorem dX14_end_50 : decode cX14_end 50 = .ok (.getfield 380, 3) := dk_180 1 124 (dk_at dksX14_end_2 4 rfl rfl)
theorem dX14_end_53 : decode cX14_end 53 = .ok (.ireturn, 1) := dk_172 (dk_at dksX14_end_2 7 rfl rfl)
abbrev cX14_within : ByteArray := prog_15_method_4_code
def yX14_within : MethodName := ⟨RX14, "within", "(III)Z"⟩
def dkwX14_within_0 : List UInt8 := [26, 27, 161, 0, 12, 26, 28, 163, 0, 7, 4, 167, 0, 4, 3, 172]
abbrev dktX14_within_0 : List UInt8 := dkwX14_within_0 ++ []
theorem dksX14_within_0 : cX14_within.data.toList.drop 0 = dktX14_within_0 := by decide +kernel
theorem dX14_within_0 : decode cX14_within 0 = .ok (.iload_n 0, 1) := dk_26 (dk_at dksX14_within_0 0 rfl rfl)
theorem dX14_within_1 : decode cX14_within 1 = .ok (.iload_n 1, 1) := dk_27 (dk_at dksX14_within_0 1 rfl rfl)
theorem dX14_within_2 : decode cX14_within 2 = .ok (.if_icmp .lt 12, 3) := dk_161 0 12 (dk_at dksX14_within_0 2 rfl rfl)
theorem dX14_within_5 : decode cX14_within 5 = .ok (.iload_n 0, 1) := dk_26 (dk_at dksX14_within_0 5 rfl rfl)
theorem dX14_within_6 : decode cX14_within 6 = .ok (.iload_n 2, 1) := dk_28 (dk_at dksX14_within_0 6 rfl rfl)
theorem dX14_within_7 : decode cX14_within 7 = .ok (.if_icmp .gt 7, 3) := dk_163 0 7 (dk_at dksX14_within_0 7 rfl rfl)
theorem dX14_within_10 : decode cX14_within 10 = .ok (.iconst 1, 1) := dk_4 (dk_at dksX14_within_0 10 rfl rfl)
theorem dX14_within_11 : decode cX14_within 11 = .ok (.goto 4, 3) := dk_167 0 4 (dk_at dksX14_within_0 11 rfl rfl)
theorem dX14_within_14 : decode cX14_within 14 = .ok (.iconst 0, 1) := dk_3 (dk_at dksX14_within_0 14 rfl rfl)
theorem dX14_within_15 : decode cX14_within 15 = .ok (.ireturn, 1) := dk_172 (dk_at dksX14_within_0 15 rfl rfl)
abbrev cX14_compile : ByteArray := prog_15_method_126_code
def yX14_compile : MethodName := ⟨RX14, "compile", "()I"⟩
def dkwX14_compile_13 : List UInt8 := [181, 3, 49, 42, 180, 1, 237, 172]
abbrev dktX14_compile_13 : List UInt8 := dkwX14_compile_13 ++ []
def dkwX14_compile_12 : List UInt8 := [154, 0, 7, 42, 182, 3, 88, 42, 180, 1, 97, 158, 0, 9, 42, 4, 182, 1, 128, 172, 42, 4]
abbrev dktX14_compile_12 : List UInt8 := dkwX14_compile_12 ++ dktX14_compile_13
def dkwX14_compile_11 : List UInt8 := [154, 0, 7, 42, 182, 3, 82, 42, 180, 1, 97, 154, 0, 7, 42, 182, 3, 85, 42, 180, 1, 97]
abbrev dktX14_compile_11 : List UInt8 := dkwX14_compile_11 ++ dktX14_compile_12
def dkwX14_compile_10 : List UInt8 := [154, 0, 7, 42, 182, 3, 76, 42, 180, 1, 97, 154, 0, 7, 42, 182, 3, 79, 42, 180, 1, 97]
abbrev dktX14_compile_10 : List UInt8 := dkwX14_compile_10 ++ dktX14_compile_11
def dkwX14_compile_9 : List UInt8 := [154, 0, 7, 42, 182, 3, 70, 42, 180, 1, 97, 154, 0, 7, 42, 182, 3, 73, 42, 180, 1, 97]
abbrev dktX14_compile_9 : List UInt8 := dkwX14_compile_9 ++ dktX14_compile_10
def dkwX14_compile_8 : List UInt8 := [154, 0, 7, 42, 182, 3, 64, 42, 180, 1, 97, 154, 0, 7, 42, 182, 3, 67, 42, 180, 1, 97]
abbrev dktX14_compile_8 : List UInt8 := dkwX14_compile_8 ++ dktX14_compile_9
def dkwX14_compile_7 : List UInt8 := [27, 2, 79, 132, 1, 1, 167, 255, 231, 42, 180, 1, 97, 154, 0, 7, 42, 182, 3, 61, 42, 180, 1, 97]
abbrev dktX14_compile_7 : List UInt8 := dkwX14_compile_7 ++ dktX14_compile_8
def dkwX14_compile_6 : List UInt8 := [182, 3, 58, 3, 60, 27, 42, 180, 1, 111, 163, 0, 23, 42, 180, 0, 202, 27, 2, 79, 42, 180, 0, 205]
abbrev dktX14_compile_6 : List UInt8 := dkwX14_compile_6 ++ dktX14_compile_7
def dkwX14_compile_5 : List UInt8 := [42, 3, 181, 1, 237, 42, 3, 181, 1, 199, 42, 3, 181, 1, 196, 42, 182, 3, 52, 42, 182, 3, 55, 42]
abbrev dktX14_compile_5 : List UInt8 := dkwX14_compile_5 ++ dktX14_compile_6
def dkwX14_compile_4 : List UInt8 := [3, 181, 2, 53, 42, 3, 181, 2, 56, 42, 3, 181, 2, 63, 42, 3, 181, 2, 66, 42, 3, 181, 1, 230]
abbrev dktX14_compile_4 : List UInt8 := dkwX14_compile_4 ++ dktX14_compile_5
def dkwX14_compile_3 : List UInt8 := [181, 2, 5, 42, 2, 181, 1, 4, 42, 3, 181, 2, 8, 42, 3, 181, 2, 50, 42, 3, 181, 2, 47, 42]
abbrev dktX14_compile_3 : List UInt8 := dkwX14_compile_3 ++ dktX14_compile_4
def dkwX14_compile_2 : List UInt8 := [180, 0, 30, 27, 42, 180, 0, 20, 27, 46, 79, 132, 1, 1, 167, 255, 233, 42, 3, 181, 1, 124, 42, 3]
abbrev dktX14_compile_2 : List UInt8 := dkwX14_compile_2 ++ dktX14_compile_3
def dkwX14_compile_1 : List UInt8 := [181, 2, 79, 42, 42, 180, 1, 124, 181, 1, 103, 3, 60, 27, 42, 180, 1, 124, 162, 0, 21, 42]
abbrev dktX14_compile_1 : List UInt8 := dkwX14_compile_1 ++ dktX14_compile_2
def dkwX14_compile_0 : List UInt8 := [42, 3, 181, 1, 94, 42, 3, 181, 3, 49, 42, 3, 181, 1, 97, 42, 3, 181, 1, 100, 42, 2]
abbrev dktX14_compile_0 : List UInt8 := dkwX14_compile_0 ++ dktX14_compile_1
theorem dksX14_compile_0 : cX14_compile.data.toList.drop 0 = dktX14_compile_0 := by decide +kernel
theorem dksX14_compile_1 : cX14_compile.data.toList.drop 22 = dktX14_compile_1 := dk_seg dksX14_compile_0 22 rfl rfl
theorem dksX14_compile_2 : cX14_compile.data.toList.drop 44 = dktX14_compile_2 := dk_seg dksX14_compile_1 22 rfl rfl
theorem dksX14_compile_3 : cX14_compile.data.toList.drop 68 = dktX14_compile_3 := dk_seg dksX14_compile_2 24 rfl rfl
theorem dksX14_compile_4 : cX14_compile.data.toList.drop 92 = dktX14_compile_4 := dk_seg dksX14_compile_3 24 rfl rfl
theorem dksX14_compile_5 : cX14_compile.data.toList.drop 116 = dktX14_compile_5 := dk_seg dksX14_compile_4 24 rfl rfl
theorem dksX14_compile_6 : cX14_compile.data.toList.drop 140 = dktX14_compile_6 := dk_seg dksX14_compile_5 24 rfl rfl
theorem dksX14_compile_7 : cX14_compile.data.toList.drop 164 = dktX14_compile_7 := dk_seg dksX14_compile_6 24 rfl rfl
theorem dksX14_compile_8 : cX14_compile.data.toList.drop 188 = dktX14_compile_8 := dk_seg dksX14_compile_7 24 rfl rfl
theorem dksX14_compile_9 : cX14_compile.data.toList.drop 210 = dktX14_compile_9 := dk_seg dksX14_compile_8 22 rfl rfl
theorem dksX14_compile_10 : cX14_compile.data.toList.drop 232 = dktX14_compile_10 := dk_seg dksX14_compile_9 22 rfl rfl
theorem dksX14_compile_11 : cX14_compile.data.toList.drop 254 = dktX14_compile_11 := dk_seg dksX14_compile_10 22 rfl rfl
theorem dksX14_compile_12 : cX14_compile.data.toList.drop 276 = dktX14_compile_12 := dk_seg dksX14_compile_11 22 rfl rfl
theorem dksX14_compile_13 : cX14_compile.data.toList.drop 298 = dktX14_compile_13 := dk_seg dksX14_compile_12 22 rfl rfl
theorem dX14_compile_0 : decode cX14_compile 0 = .ok (.aload_n 0, 1) := dk_42 (dk_at dksX14_compile_0 0 rfl rfl)
theorem dX14_compile_1 : decode cX14_compile 1 = .ok (.iconst 0, 1) := dk_3 (dk_at dksX14_compile_0 1 rfl rfl)
theorem dX14_compile_2 : decode cX14_compile 2 = .ok (.putfield 350, 3) := dk_181 1 94 (dk_at dksX14_compile_0 2 rfl rfl)
theorem dX14_compile_5 : decode cX14_compile 5 = .ok (.aload_n 0, 1) := dk_42 (dk_at dksX14_compile_0 5 rfl rfl)
theorem dX14_compile_6 : decode cX14_compile 6 = .ok (.iconst 0, 1) := dk_3 (dk_at dksX14_compile_0 6 rfl rfl)
theorem dX14_compile_7 : decode cX14_compile 7 = .ok (.putfield 817, 3) := dk_181 3 49 (dk_at dksX14_compile_0 7 rfl rfl)
theorem dX14_compile_10 : decode cX14_compile 10 = .ok (.aload_n 0, 1) := dk_42 (dk_at dksX14_compile_0 10 rfl rfl)
theorem dX14_compile_11 : decode cX14_compile 11 = .ok (.iconst 0, 1) := dk_3 (dk_at dksX14_compile_0 11 rfl rfl)
theorem dX14_compile_12 : decode cX14_compile 12 = .ok (.putfield 353, 3) := dk_181 1 97 (dk_at dksX14_compile_0 12 rfl rfl)
theorem dX14_compile_15 : decode cX14_compile 15 = .ok (.aload_n 0, 1) := dk_42 (dk_at dksX14_compile_0 15 rfl rfl)
theorem dX14_compile_16 : decode cX14_compile 16 = .ok (.iconst 0, 1) := dk_3 (dk_at dksX14_compile_0 16 rfl rfl)
theorem dX14_compile_17 : decode cX14_compile 17 = .ok (.putfield 356, 3) := dk_181 1 100 (dk_at dksX14_compile_0 17 rfl rfl)
theorem dX14_compile_20 : decode cX14_compile 20 = .ok (.aload_n 0, 1) := dk_42 (dk_at dksX14_compile_0 20 rfl rfl)
theorem dX14_compile_21 : decode cX14_compile 21 = .ok (.iconst (-1), 1) := dk_2 (dk_at dksX14_compile_0 21 rfl rfl)
theorem dX14_compile_22 : decode cX14_compile 22 = .ok (.putfield 591, 3) := dk_181 2 79 (dk_at dksX14_compile_1 0 rfl rfl)
theorem dX14_compile_25 : decode cX14_compile 25 = .ok (.aload_n 0, 1) := dk_42 (dk_at dksX14_compile_1 3 rfl rfl)
theorem dX14_compile_26 : decode cX14_compile 26 = .ok (.aload_n 0, 1) := dk_42 (dk_at dksX14_compile_1 4 rfl rfl)
theorem dX14_compile_27 : decode cX14_compile 27 = .ok (.getfield 380, 3) := dk_180 1 124 (dk_at dksX14_compile_1 5 rfl rfl)
theorem dX14_compile_30 : decode cX14_compile 30 = .ok (.putfield 359, 3) := dk_181 1 103 (dk_at dksX14_compile_1 8 rfl rfl)
theorem dX14_compile_33 : decode cX14_compile 33 = .ok (.iconst 0, 1) := dk_3 (dk_at dksX14_compile_1 11 rfl rfl)
theorem dX14_compile_34 : decode cX14_compile 34 = .ok (.istore_n 1, 1) := dk_60 (dk_at dksX14_compile_1 12 rfl rfl)
theorem dX14_compile_35 : decode cX14_compile 35 = .ok (.iload_n 1, 1) := dk_27 (dk_at dksX14_compile_1 13 rfl rfl)
theorem dX14_compile_36 : decode cX14_compile 36 = .ok (.aload_n 0, 1) := dk_42 (dk_at dksX14_compile_1 14 rfl rfl)
theorem dX14_compile_37 : decode cX14_compile 37 = .ok (.getfield 380, 3) := dk_180 1 124 (dk_at dksX14_compile_1 15 rfl rfl)
theorem dX14_compile_40 : decode cX14_compile 40 = .ok (.if_icmp .ge 21, 3) := dk_162 0 21 (dk_at dksX14_compile_1 18 rfl rfl)
theorem dX14_compile_43 : decode cX14_compile 43 = .ok (.aload_n 0, 1) := dk_42 (dk_at dksX14_compile_1 21 rfl rfl)
theorem dX14_compile_44 : decode cX14_compile 44 = .ok (.getfield 30, 3) := dk_180 0 30 (dk_at dksX14_compile_2 0 rfl rfl)
theorem dX14_compile_47 : decode cX14_compile 47 = .ok (.iload_n 1, 1) := dk_27 (dk_at dksX14_compile_2 3 rfl rfl)
theorem dX14_compile_48 : decode cX14_compile 48 = .ok (.aload_n 0, 1) := dk_42 (dk_at dksX14_compile_2 4 rfl rfl)
theorem dX14_compile_49 : decode cX14_compile 49 = .ok (.getfield 20, 3) := dk_180 0 20 (dk_at dksX14_compile_2 5 rfl rfl)
theorem dX14_compile_52 : decode cX14_compile 52 = .ok (.iload_n 1, 1) := dk_27 (dk_at dksX14_compile_2 8 rfl rfl)
theorem dX14_compile_53 : decode cX14_compile 53 = .ok (.iaload, 1) := dk_46 (dk_at dksX14_compile_2 9 rfl rfl)
theorem dX14_compile_54 : decode cX14_compile 54 = .ok (.iastore, 1) := dk_79 (dk_at dksX14_compile_2 10 rfl rfl)
theorem dX14_compile_55 : decode cX14_compile 55 = .ok (.iinc 1 1, 3) := dk_132 1 1 (dk_at dksX14_compile_2 11 rfl rfl)
theorem dX14_compile_58 : decode cX14_compile 58 = .ok (.goto (-23), 3) := dk_167 255 233 (dk_at dksX14_compile_2 14 rfl rfl)
theorem dX14_compile_61 : decode cX14_compile 61 = .ok (.aload_n 0, 1) := dk_42 (dk_at dksX14_compile_2 17 rfl rfl)
theorem dX14_compile_62 : decode cX14_compile 62 = .ok (.iconst 0, 1) := dk_3 (dk_at dksX14_compile_2 18 rfl rfl)
theorem dX14_compile_63 : decode cX14_compile 63 = .ok (.putfield 380, 3) := dk_181 1 124 (dk_at dksX14_compile_2 19 rfl rfl)
theorem dX14_compile_66 : decode cX14_compile 66 = .ok (.aload_n 0, 1) := dk_42 (dk_at dksX14_compile_2 22 rfl rfl)
theorem dX14_compile_67 : decode cX14_compile 67 = .ok (.iconst 0, 1) := dk_3 (dk_at dksX14_compile_2 23 rfl rfl)
theorem dX14_compile_68 : decode cX14_compile 68 = .ok (.putfield 517, 3) := dk_181 2 5 (dk_at dksX14_compile_3 0 rfl rfl)
theorem dX14_compile_71 : decode cX14_compile 71 = .ok (.aload_n 0, 1) := dk_42 (dk_at dksX14_compile_3 3 rfl rfl)
theorem dX14_compile_72 : decode cX14_compile 72 = .ok (.iconst (-1), 1) := dk_2 (dk_at dksX14_compile_3 4 rfl rfl)
theorem dX14_compile_73 : decode cX14_compile 73 = .ok (.putfield 260, 3) := dk_181 1 4 (dk_at dksX14_compile_3 5 rfl rfl)
theorem dX14_compile_76 : decode cX14_compile 76 = .ok (.aload_n 0, 1) := dk_42 (dk_at dksX14_compile_3 8 rfl rfl)
theorem dX14_compile_77 : decode cX14_compile 77 = .ok (.iconst 0, 1) := dk_3 (dk_at dksX14_compile_3 9 rfl rfl)
theorem dX14_compile_78 : decode cX14_compile 78 = .ok (.putfield 520, 3) := dk_181 2 8 (dk_at dksX14_compile_3 10 rfl rfl)
theorem dX14_compile_81 : decode cX14_compile 81 = .ok (.aload_n 0, 1) := dk_42 (dk_at dksX14_compile_3 13 rfl rfl)
theorem dX14_compile_82 : decode cX14_compile 82 = .ok (.iconst 0, 1) := dk_3 (dk_at dksX14_compile_3 14 rfl rfl)
theorem dX14_compile_83 : decode cX14_compile 83 = .ok (.putfield 562, 3) := dk_181 2 50 (dk_at dksX14_compile_3 15 rfl rfl)
theorem dX14_compile_86 : decode cX14_compile 86 = .ok (.aload_n 0, 1) := dk_42 (dk_at dksX14_compile_3 18 rfl rfl)
theorem dX14_compile_87 : decode cX14_compile 87 = .ok (.iconst 0, 1) := dk_3 (dk_at dksX14_compile_3 19 rfl rfl)
theorem dX14_compile_88 : decode cX14_compile 88 = .ok (.putfield 559, 3) := dk_181 2 47 (dk_at dksX14_compile_3 20 rfl rfl)
theorem dX14_compile_91 : decode cX14_compile 91 = .ok (.aload_n 0, 1) := dk_42 (dk_at dksX14_compile_3 23 rfl rfl)
theorem dX14_compile_92 : decode cX14_compile 92 = .ok (.iconst 0, 1) := dk_3 (dk_at dksX14_compile_4 0 rfl rfl)
theorem dX14_compile_93 : decode cX14_compile 93 = .ok (.putfield 565, 3) := dk_181 2 53 (dk_at dksX14_compile_4 1 rfl rfl)
theorem dX14_compile_96 : decode cX14_compile 96 = .ok (.aload_n 0, 1) := dk_42 (dk_at dksX14_compile_4 4 rfl rfl)
theorem dX14_compile_97 : decode cX14_compile 97 = .ok (.iconst 0, 1) := dk_3 (dk_at dksX14_compile_4 5 rfl rfl)
theorem dX14_compile_98 : decode cX14_compile 98 = .ok (.putfield 568, 3) := dk_181 2 56 (dk_at dksX14_compile_4 6 rfl rfl)
theorem dX14_compile_101 : decode cX14_compile 101 = .ok (.aload_n 0, 1) := dk_42 (dk_at dksX14_compile_4 9 rfl rfl)
theorem dX14_compile_102 : decode cX14_compile 102 = .ok (.iconst 0, 1) := dk_3 (dk_at dksX14_compile_4 10 rfl rfl)
theorem dX14_compile_103 : decode cX14_compile 103 = .ok (.putfield 575, 3) := dk_181 2 63 (dk_at dksX14_compile_4 11 rfl rfl)
theorem dX14_compile_106 : decode cX14_compile 106 = .ok (.aload_n 0, 1) := dk_42 (dk_at dksX14_compile_4 14 rfl rfl)
theorem dX14_compile_107 : decode cX14_compile 107 = .ok (.iconst 0, 1) := dk_3 (dk_at dksX14_compile_4 15 rfl rfl)
theorem dX14_compile_108 : decode cX14_compile 108 = .ok (.putfield 578, 3) := dk_181 2 66 (dk_at dksX14_compile_4 16 rfl rfl)
theorem dX14_compile_111 : decode cX14_compile 111 = .ok (.aload_n 0, 1) := dk_42 (dk_at dksX14_compile_4 19 rfl rfl)
theorem dX14_compile_112 : decode cX14_compile 112 = .ok (.iconst 0, 1) := dk_3 (dk_at dksX14_compile_4 20 rfl rfl)
theorem dX14_compile_113 : decode cX14_compile 113 = .ok (.putfield 486, 3) := dk_181 1 230 (dk_at dksX14_compile_4 21 rfl rfl)
theorem dX14_compile_116 : decode cX14_compile 116 = .ok (.aload_n 0, 1) := dk_42 (dk_at dksX14_compile_5 0 rfl rfl)
theorem dX14_compile_117 : decode cX14_compile 117 = .ok (.iconst 0, 1) := dk_3 (dk_at dksX14_compile_5 1 rfl rfl)
theorem dX14_compile_118 : decode cX14_compile 118 = .ok (.putfield 493, 3) := dk_181 1 237 (dk_at dksX14_compile_5 2 rfl rfl)
theorem dX14_compile_121 : decode cX14_compile 121 = .ok (.aload_n 0, 1) := dk_42 (dk_at dksX14_compile_5 5 rfl rfl)
theorem dX14_compile_122 : decode cX14_compile 122 = .ok (.iconst 0, 1) := dk_3 (dk_at dksX14_compile_5 6 rfl rfl)
theorem dX14_compile_123 : decode cX14_compile 123 = .ok (.putfield 455, 3) := dk_181 1 199 (dk_at dksX14_compile_5 7 rfl rfl)
theorem dX14_compile_126 : decode cX14_compile 126 = .ok (.aload_n 0, 1) := dk_42 (dk_at dksX14_compile_5 10 rfl rfl)
theorem dX14_compile_127 : decode cX14_compile 127 = .ok (.iconst 0, 1) := dk_3 (dk_at dksX14_compile_5 11 rfl rfl)
theorem dX14_compile_128 : decode cX14_compile 128 = .ok (.putfield 452, 3) := dk_181 1 196 (dk_at dksX14_compile_5 12 rfl rfl)
theorem dX14_compile_131 : decode cX14_compile 131 = .ok (.aload_n 0, 1) := dk_42 (dk_at dksX14_compile_5 15 rfl rfl)
theorem dX14_compile_132 : decode cX14_compile 132 = .ok (.invokevirtual 820, 3) := dk_182 3 52 (dk_at dksX14_compile_5 16 rfl rfl)
theorem dX14_compile_135 : decode cX14_compile 135 = .ok (.aload_n 0, 1) := dk_42 (dk_at dksX14_compile_5 19 rfl rfl)
theorem dX14_compile_136 : decode cX14_compile 136 = .ok (.invokevirtual 823, 3) := dk_182 3 55 (dk_at dksX14_compile_5 20 rfl rfl)
theorem dX14_compile_139 : decode cX14_compile 139 = .ok (.aload_n 0, 1) := dk_42 (dk_at dksX14_compile_5 23 rfl rfl)
theorem dX14_compile_140 : decode cX14_compile 140 = .ok (.invokevirtual 826, 3) := dk_182 3 58 (dk_at dksX14_compile_6 0 rfl rfl)
theorem dX14_compile_143 : decode cX14_compile 143 = .ok (.iconst 0, 1) := dk_3 (dk_at dksX14_compile_6 3 rfl rfl)
theorem dX14_compile_144 : decode cX14_compile 144 = .ok (.istore_n 1, 1) := dk_60 (dk_at dksX14_compile_6 4 rfl rfl)
theorem dX14_compile_145 : decode cX14_compile 145 = .ok (.iload_n 1, 1) := dk_27 (dk_at dksX14_compile_6 5 rfl rfl)
theorem dX14_compile_146 : decode cX14_compile 146 = .ok (.aload_n 0, 1) := dk_42 (dk_at dksX14_compile_6 6 rfl rfl)
theorem dX14_compile_147 : decode cX14_compile 147 = .ok (.getfield 367, 3) := dk_180 1 111 (dk_at dksX14_compile_6 7 rfl rfl)
theorem dX14_compile_150 : decode cX14_compile 150 = .ok (.if_icmp .gt 23, 3) := dk_163 0 23 (dk_at dksX14_compile_6 10 rfl rfl)
theorem dX14_compile_153 : decode cX14_compile 153 = .ok (.aload_n 0, 1) := dk_42 (dk_at dksX14_compile_6 13 rfl rfl)
theorem dX14_compile_154 : decode cX14_compile 154 = .ok (.getfield 202, 3) := dk_180 0 202 (dk_at dksX14_compile_6 14 rfl rfl)
theorem dX14_compile_157 : decode cX14_compile 157 = .ok (.iload_n 1, 1) := dk_27 (dk_at dksX14_compile_6 17 rfl rfl)
theorem dX14_compile_158 : decode cX14_compile 158 = .ok (.iconst (-1), 1) := dk_2 (dk_at dksX14_compile_6 18 rfl rfl)
theorem dX14_compile_159 : decode cX14_compile 159 = .ok (.iastore, 1) := dk_79 (dk_at dksX14_compile_6 19 rfl rfl)
theorem dX14_compile_160 : decode cX14_compile 160 = .ok (.aload_n 0, 1) := dk_42 (dk_at dksX14_compile_6 20 rfl rfl)
theorem dX14_compile_161 : decode cX14_compile 161 = .ok (.getfield 205, 3) := dk_180 0 205 (dk_at dksX14_compile_6 21 rfl rfl)
theorem dX14_compile_164 : decode cX14_compile 164 = .ok (.iload_n 1, 1) := dk_27 (dk_at dksX14_compile_7 0 rfl rfl)
theorem dX14_compile_165 : decode cX14_compile 165 = .ok (.iconst (-1), 1) := dk_2 (dk_at dksX14_compile_7 1 rfl rfl)
theorem dX14_compile_166 : decode cX14_compile 166 = .ok (.iastore, 1) := dk_79 (dk_at dksX14_compile_7 2 rfl rfl)
theorem dX14_compile_167 : decode cX14_compile 167 = .ok (.iinc 1 1, 3) := dk_132 1 1 (dk_at dksX14_compile_7 3 rfl rfl)
theorem dX14_compile_170 : decode cX14_compile 170 = .ok (.goto (-25), 3) := dk_167 255 231 (dk_at dksX14_compile_7 6 rfl rfl)
theorem dX14_compile_173 : decode cX14_compile 173 = .ok (.aload_n 0, 1) := dk_42 (dk_at dksX14_compile_7 9 rfl rfl)
theorem dX14_compile_174 : decode cX14_compile 174 = .ok (.getfield 353, 3) := dk_180 1 97 (dk_at dksX14_compile_7 10 rfl rfl)
theorem dX14_compile_177 : decode cX14_compile 177 = .ok (.ifCond .ne 7, 3) := dk_154 0 7 (dk_at dksX14_compile_7 13 rfl rfl)
theorem dX14_compile_180 : decode cX14_compile 180 = .ok (.aload_n 0, 1) := dk_42 (dk_at dksX14_compile_7 16 rfl rfl)
theorem dX14_compile_181 : decode cX14_compile 181 = .ok (.invokevirtual 829, 3) := dk_182 3 61 (dk_at dksX14_compile_7 17 rfl rfl)
theorem dX14_compile_184 : decode cX14_compile 184 = .ok (.aload_n 0, 1) := dk_42 (dk_at dksX14_compile_7 20 rfl rfl)
theorem dX14_compile_185 : decode cX14_compile 185 = .ok (.getfield 353, 3) := dk_180 1 97 (dk_at dksX14_compile_7 21 rfl rfl)
theorem dX14_compile_188 : decode cX14_compile 188 = .ok (.ifCond .ne 7, 3) := dk_154 0 7 (dk_at dksX14_compile_8 0 rfl rfl)
theorem dX14_compile_191 : decode cX14_compile 191 = .ok (.aload_n 0, 1) := dk_42 (dk_at dksX14_compile_8 3 rfl rfl)
theorem dX14_compile_192 : decode cX14_compile 192 = .ok (.invokevirtual 832, 3) := dk_182 3 64 (dk_at dksX14_compile_8 4 rfl rfl)
theorem dX14_compile_195 : decode cX14_compile 195 = .ok (.aload_n 0, 1) := dk_42 (dk_at dksX14_compile_8 7 rfl rfl)
theorem dX14_compile_196 : decode cX14_compile 196 = .ok (.getfield 353, 3) := dk_180 1 97 (dk_at dksX14_compile_8 8 rfl rfl)
theorem dX14_compile_199 : decode cX14_compile 199 = .ok (.ifCond .ne 7, 3) := dk_154 0 7 (dk_at dksX14_compile_8 11 rfl rfl)
theorem dX14_compile_202 : decode cX14_compile 202 = .ok (.aload_n 0, 1) := dk_42 (dk_at dksX14_compile_8 14 rfl rfl)
theorem dX14_compile_203 : decode cX14_compile 203 = .ok (.invokevirtual 835, 3) := dk_182 3 67 (dk_at dksX14_compile_8 15 rfl rfl)
theorem dX14_compile_206 : decode cX14_compile 206 = .ok (.aload_n 0, 1) := dk_42 (dk_at dksX14_compile_8 18 rfl rfl)
theorem dX14_compile_207 : decode cX14_compile 207 = .ok (.getfield 353, 3) := dk_180 1 97 (dk_at dksX14_compile_8 19 rfl rfl)
theorem dX14_compile_210 : decode cX14_compile 210 = .ok (.ifCond .ne 7, 3) := dk_154 0 7 (dk_at dksX14_compile_9 0 rfl rfl)
theorem dX14_compile_213 : decode cX14_compile 213 = .ok (.aload_n 0, 1) := dk_42 (dk_at dksX14_compile_9 3 rfl rfl)
theorem dX14_compile_214 : decode cX14_compile 214 = .ok (.invokevirtual 838, 3) := dk_182 3 70 (dk_at dksX14_compile_9 4 rfl rfl)
theorem dX14_compile_217 : decode cX14_compile 217 = .ok (.aload_n 0, 1) := dk_42 (dk_at dksX14_compile_9 7 rfl rfl)
theorem dX14_compile_218 : decode cX14_compile 218 = .ok (.getfield 353, 3) := dk_180 1 97 (dk_at dksX14_compile_9 8 rfl rfl)
theorem dX14_compile_221 : decode cX14_compile 221 = .ok (.ifCond .ne 7, 3) := dk_154 0 7 (dk_at dksX14_compile_9 11 rfl rfl)
theorem dX14_compile_224 : decode cX14_compile 224 = .ok (.aload_n 0, 1) := dk_42 (dk_at dksX14_compile_9 14 rfl rfl)
theorem dX14_compile_225 : decode cX14_compile 225 = .ok (.invokevirtual 841, 3) := dk_182 3 73 (dk_at dksX14_compile_9 15 rfl rfl)
theorem dX14_compile_228 : decode cX14_compile 228 = .ok (.aload_n 0, 1) := dk_42 (dk_at dksX14_compile_9 18 rfl rfl)
theorem dX14_compile_229 : decode cX14_compile 229 = .ok (.getfield 353, 3) := dk_180 1 97 (dk_at dksX14_compile_9 19 rfl rfl)
theorem dX14_compile_232 : decode cX14_compile 232 = .ok (.ifCond .ne 7, 3) := dk_154 0 7 (dk_at dksX14_compile_10 0 rfl rfl)
theorem dX14_compile_235 : decode cX14_compile 235 = .ok (.aload_n 0, 1) := dk_42 (dk_at dksX14_compile_10 3 rfl rfl)
theorem dX14_compile_236 : decode cX14_compile 236 = .ok (.invokevirtual 844, 3) := dk_182 3 76 (dk_at dksX14_compile_10 4 rfl rfl)
theorem dX14_compile_239 : decode cX14_compile 239 = .ok (.aload_n 0, 1) := dk_42 (dk_at dksX14_compile_10 7 rfl rfl)
theorem dX14_compile_240 : decode cX14_compile 240 = .ok (.getfield 353, 3) := dk_180 1 97 (dk_at dksX14_compile_10 8 rfl rfl)
theorem dX14_compile_243 : decode cX14_compile 243 = .ok (.ifCond .ne 7, 3) := dk_154 0 7 (dk_at dksX14_compile_10 11 rfl rfl)
theorem dX14_compile_246 : decode cX14_compile 246 = .ok (.aload_n 0, 1) := dk_42 (dk_at dksX14_compile_10 14 rfl rfl)
theorem dX14_compile_247 : decode cX14_compile 247 = .ok (.invokevirtual 847, 3) := dk_182 3 79 (dk_at dksX14_compile_10 15 rfl rfl)
theorem dX14_compile_250 : decode cX14_compile 250 = .ok (.aload_n 0, 1) := dk_42 (dk_at dksX14_compile_10 18 rfl rfl)
theorem dX14_compile_251 : decode cX14_compile 251 = .ok (.getfield 353, 3) := dk_180 1 97 (dk_at dksX14_compile_10 19 rfl rfl)
theorem dX14_compile_254 : decode cX14_compile 254 = .ok (.ifCond .ne 7, 3) := dk_154 0 7 (dk_at dksX14_compile_11 0 rfl rfl)
theorem dX14_compile_257 : decode cX14_compile 257 = .ok (.aload_n 0, 1) := dk_42 (dk_at dksX14_compile_11 3 rfl rfl)
theorem dX14_compile_258 : decode cX14_compile 258 = .ok (.invokevirtual 850, 3) := dk_182 3 82 (dk_at dksX14_compile_11 4 rfl rfl)
theorem dX14_compile_261 : decode cX14_compile 261 = .ok (.aload_n 0, 1) := dk_42 (dk_at dksX14_compile_11 7 rfl rfl)
theorem dX14_compile_262 : decode cX14_compile 262 = .ok (.getfield 353, 3) := dk_180 1 97 (dk_at dksX14_compile_11 8 rfl rfl)
theorem dX14_compile_265 : decode cX14_compile 265 = .ok (.ifCond .ne 7, 3) := dk_154 0 7 (dk_at dksX14_compile_11 11 rfl rfl)
theorem dX14_compile_268 : decode cX14_compile 268 = .ok (.aload_n 0, 1) := dk_42 (dk_at dksX14_compile_11 14 rfl rfl)
theorem dX14_compile_269 : decode cX14_compile 269 = .ok (.invokevirtual 853, 3) := dk_182 3 85 (dk_at dksX14_compile_11 15 rfl rfl)
theorem dX14_compile_272 : decode cX14_compile 272 = .ok (.aload_n 0, 1) := dk_42 (dk_at dksX14_compile_11 18 rfl rfl)
theorem dX14_compile_273 : decode cX14_compile 273 = .ok (.getfield 353, 3) := dk_180 1 97 (dk_at dksX14_compile_11 19 rfl rfl)
theorem dX14_compile_276 : decode cX14_compile 276 = .ok (.ifCond .ne 7, 3) := dk_154 0 7 (dk_at dksX14_compile_12 0 rfl rfl)
theorem dX14_compile_279 : decode cX14_compile 279 = .ok (.aload_n 0, 1) := dk_42 (dk_at dksX14_compile_12 3 rfl rfl)
theorem dX14_compile_280 : decode cX14_compile 280 = .ok (.invokevirtual 856, 3) := dk_182 3 88 (dk_at dksX14_compile_12 4 rfl rfl)
theorem dX14_compile_283 : decode cX14_compile 283 = .ok (.aload_n 0, 1) := dk_42 (dk_at dksX14_compile_12 7 rfl rfl)
theorem dX14_compile_284 : decode cX14_compile 284 = .ok (.getfield 353, 3) := dk_180 1 97 (dk_at dksX14_compile_12 8 rfl rfl)
theorem dX14_compile_287 : decode cX14_compile 287 = .ok (.ifCond .le 9, 3) := dk_158 0 9 (dk_at dksX14_compile_12 11 rfl rfl)
theorem dX14_compile_290 : decode cX14_compile 290 = .ok (.aload_n 0, 1) := dk_42 (dk_at dksX14_compile_12 14 rfl rfl)
theorem dX14_compile_291 : decode cX14_compile 291 = .ok (.iconst 1, 1) := dk_4 (dk_at dksX14_compile_12 15 rfl rfl)
theorem dX14_compile_292 : decode cX14_compile 292 = .ok (.invokevirtual 384, 3) := dk_182 1 128 (dk_at dksX14_compile_12 16 rfl rfl)
theorem dX14_compile_295 : decode cX14_compile 295 = .ok (.ireturn, 1) := dk_172 (dk_at dksX14_compile_12 19 rfl rfl)
theorem dX14_compile_296 : decode cX14_compile 296 = .ok (.aload_n 0, 1) := dk_42 (dk_at dksX14_compile_12 20 rfl rfl)
theorem dX14_compile_297 : decode cX14_compile 297 = .ok (.iconst 1, 1) := dk_4 (dk_at dksX14_compile_12 21 rfl rfl)
theorem dX14_compile_298 : decode cX14_compile 298 = .ok (.putfield 817, 3) := dk_181 3 49 (dk_at dksX14_compile_13 0 rfl rfl)
theorem dX14_compile_301 : decode cX14_compile 301 = .ok (.aload_n 0, 1) := dk_42 (dk_at dksX14_compile_13 3 rfl rfl)
theorem dX14_compile_302 : decode cX14_compile 302 = .ok (.getfield 493, 3) := dk_180 1 237 (dk_at dksX14_compile_13 4 rfl rfl)
theorem dX14_compile_305 : decode cX14_compile 305 = .ok (.ireturn, 1) := dk_172 (dk_at dksX14_compile_13 7 rfl rfl)
abbrev cX14_roomForLexemes : ByteArray := prog_15_method_7_code
def yX14_roomForLexemes : MethodName := ⟨RX14, "roomForLexemes", "()V"⟩
def dkwX14_roomForLexemes_2 : List UInt8 := [181, 0, 39, 177]
abbrev dktX14_roomForLexemes_2 : List UInt8 := dkwX14_roomForLexemes_2 ++ []
def dkwX14_roomForLexemes_1 : List UInt8 := [184, 1, 107, 60, 42, 27, 188, 10, 181, 0, 33, 42, 27, 188, 10, 181, 0, 36, 42, 27, 188, 10]
abbrev dktX14_roomForLexemes_1 : List UInt8 := dkwX14_roomForLexemes_1 ++ dktX14_roomForLexemes_2
def dkwX14_roomForLexemes_0 : List UInt8 := [42, 180, 0, 33, 190, 42, 180, 1, 103, 7, 96, 161, 0, 4, 177, 42, 180, 1, 103, 7, 96, 19, 1, 106]
abbrev dktX14_roomForLexemes_0 : List UInt8 := dkwX14_roomForLexemes_0 ++ dktX14_roomForLexemes_1
theorem dksX14_roomForLexemes_0 : cX14_roomForLexemes.data.toList.drop 0 = dktX14_roomForLexemes_0 := by decide +kernel
theorem dksX14_roomForLexemes_1 : cX14_roomForLexemes.data.toList.drop 24 = dktX14_roomForLexemes_1 := dk_seg dksX14_roomForLexemes_0 24 rfl rfl
theorem dksX14_roomForLexemes_2 : cX14_roomForLexemes.data.toList.drop 46 = dktX14_roomForLexemes_2 := dk_seg dksX14_roomForLexemes_1 22 rfl rfl
theorem dX14_roomForLexemes_0 : decode cX14_roomForLexemes 0 = .ok (.aload_n 0, 1) := dk_42 (dk_at dksX14_roomForLexemes_0 0 rfl rfl)
theorem dX14_roomForLexemes_1 : decode cX14_roomForLexemes 1 = .ok (.getfield 33, 3) := dk_180 0 33 (dk_at dksX14_roomForLexemes_0 1 rfl rfl)
theorem dX14_roomForLexemes_4 : decode cX14_roomForLexemes 4 = .ok (.arraylength, 1) := dk_190 (dk_at dksX14_roomForLexemes_0 4 rfl rfl)
theorem dX14_roomForLexemes_5 : decode cX14_roomForLexemes 5 = .ok (.aload_n 0, 1) := dk_42 (dk_at dksX14_roomForLexemes_0 5 rfl rfl)
theorem dX14_roomForLexemes_6 : decode cX14_roomForLexemes 6 = .ok (.getfield 359, 3) := dk_180 1 103 (dk_at dksX14_roomForLexemes_0 6 rfl rfl)
theorem dX14_roomForLexemes_9 : decode cX14_roomForLexemes 9 = .ok (.iconst 4, 1) := dk_7 (dk_at dksX14_roomForLexemes_0 9 rfl rfl)
theorem dX14_roomForLexemes_10 : decode cX14_roomForLexemes 10 = .ok (.iadd, 1) := dk_96 (dk_at dksX14_roomForLexemes_0 10 rfl rfl)
theorem dX14_roomForLexemes_11 : decode cX14_roomForLexemes 11 = .ok (.if_icmp .lt 4, 3) := dk_161 0 4 (dk_at dksX14_roomForLexemes_0 11 rfl rfl)
theorem dX14_roomForLexemes_14 : decode cX14_roomForLexemes 14 = .ok (.return_, 1) := dk_177 (dk_at dksX14_roomForLexemes_0 14 rfl rfl)
theorem dX14_roomForLexemes_15 : decode cX14_roomForLexemes 15 = .ok (.aload_n 0, 1) := dk_42 (dk_at dksX14_roomForLexemes_0 15 rfl rfl)
theorem dX14_roomForLexemes_16 : decode cX14_roomForLexemes 16 = .ok (.getfield 359, 3) := dk_180 1 103 (dk_at dksX14_roomForLexemes_0 16 rfl rfl)
theorem dX14_roomForLexemes_19 : decode cX14_roomForLexemes 19 = .ok (.iconst 4, 1) := dk_7 (dk_at dksX14_roomForLexemes_0 19 rfl rfl)
theorem dX14_roomForLexemes_20 : decode cX14_roomForLexemes 20 = .ok (.iadd, 1) := dk_96 (dk_at dksX14_roomForLexemes_0 20 rfl rfl)
theorem dX14_roomForLexemes_21 : decode cX14_roomForLexemes 21 = .ok (.ldc_w 362, 3) := dk_19 1 106 (dk_at dksX14_roomForLexemes_0 21 rfl rfl)
theorem dX14_roomForLexemes_24 : decode cX14_roomForLexemes 24 = .ok (.invokestatic 363, 3) := dk_184 1 107 (dk_at dksX14_roomForLexemes_1 0 rfl rfl)
theorem dX14_roomForLexemes_27 : decode cX14_roomForLexemes 27 = .ok (.istore_n 1, 1) := dk_60 (dk_at dksX14_roomForLexemes_1 3 rfl rfl)
theorem dX14_roomForLexemes_28 : decode cX14_roomForLexemes 28 = .ok (.aload_n 0, 1) := dk_42 (dk_at dksX14_roomForLexemes_1 4 rfl rfl)
theorem dX14_roomForLexemes_29 : decode cX14_roomForLexemes 29 = .ok (.iload_n 1, 1) := dk_27 (dk_at dksX14_roomForLexemes_1 5 rfl rfl)
theorem dX14_roomForLexemes_30 : decode cX14_roomForLexemes 30 = .ok (.newarray .int, 2) := dk_188_10 (dk_at dksX14_roomForLexemes_1 6 rfl rfl)
theorem dX14_roomForLexemes_32 : decode cX14_roomForLexemes 32 = .ok (.putfield 33, 3) := dk_181 0 33 (dk_at dksX14_roomForLexemes_1 8 rfl rfl)
theorem dX14_roomForLexemes_35 : decode cX14_roomForLexemes 35 = .ok (.aload_n 0, 1) := dk_42 (dk_at dksX14_roomForLexemes_1 11 rfl rfl)
theorem dX14_roomForLexemes_36 : decode cX14_roomForLexemes 36 = .ok (.iload_n 1, 1) := dk_27 (dk_at dksX14_roomForLexemes_1 12 rfl rfl)
theorem dX14_roomForLexemes_37 : decode cX14_roomForLexemes 37 = .ok (.newarray .int, 2) := dk_188_10 (dk_at dksX14_roomForLexemes_1 13 rfl rfl)
theorem dX14_roomForLexemes_39 : decode cX14_roomForLexemes 39 = .ok (.putfield 36, 3) := dk_181 0 36 (dk_at dksX14_roomForLexemes_1 15 rfl rfl)
theorem dX14_roomForLexemes_42 : decode cX14_roomForLexemes 42 = .ok (.aload_n 0, 1) := dk_42 (dk_at dksX14_roomForLexemes_1 18 rfl rfl)
theorem dX14_roomForLexemes_43 : decode cX14_roomForLexemes 43 = .ok (.iload_n 1, 1) := dk_27 (dk_at dksX14_roomForLexemes_1 19 rfl rfl)
theorem dX14_roomForLexemes_44 : decode cX14_roomForLexemes 44 = .ok (.newarray .int, 2) := dk_188_10 (dk_at dksX14_roomForLexemes_1 20 rfl rfl)
theorem dX14_roomForLexemes_46 : decode cX14_roomForLexemes 46 = .ok (.putfield 39, 3) := dk_181 0 39 (dk_at dksX14_roomForLexemes_2 0 rfl rfl)
theorem dX14_roomForLexemes_49 : decode cX14_roomForLexemes 49 = .ok (.return_, 1) := dk_177 (dk_at dksX14_roomForLexemes_2 3 rfl rfl)
abbrev cX14_room : ByteArray := prog_15_method_6_code
def yX14_room : MethodName := ⟨RX14, "room", "(II)I"⟩
def dkwX14_room_1 : List UInt8 := [16, 8, 108, 167, 0, 4, 27, 172]
abbrev dktX14_room_1 : List UInt8 := dkwX14_room_1 ++ []
def dkwX14_room_0 : List UInt8 := [26, 27, 16, 64, 108, 163, 0, 10, 27, 16, 64, 108, 167, 0, 19, 26, 27, 16, 8, 108, 163, 0, 10, 27]
abbrev dktX14_room_0 : List UInt8 := dkwX14_room_0 ++ dktX14_room_1
theorem dksX14_room_0 : cX14_room.data.toList.drop 0 = dktX14_room_0 := by decide +kernel
theorem dksX14_room_1 : cX14_room.data.toList.drop 24 = dktX14_room_1 := dk_seg dksX14_room_0 24 rfl rfl
theorem dX14_room_0 : decode cX14_room 0 = .ok (.iload_n 0, 1) := dk_26 (dk_at dksX14_room_0 0 rfl rfl)
theorem dX14_room_1 : decode cX14_room 1 = .ok (.iload_n 1, 1) := dk_27 (dk_at dksX14_room_0 1 rfl rfl)
theorem dX14_room_2 : decode cX14_room 2 = .ok (.bipush 64, 2) := dk_16 64 (dk_at dksX14_room_0 2 rfl rfl)
theorem dX14_room_4 : decode cX14_room 4 = .ok (.idiv, 1) := dk_108 (dk_at dksX14_room_0 4 rfl rfl)
theorem dX14_room_5 : decode cX14_room 5 = .ok (.if_icmp .gt 10, 3) := dk_163 0 10 (dk_at dksX14_room_0 5 rfl rfl)
theorem dX14_room_8 : decode cX14_room 8 = .ok (.iload_n 1, 1) := dk_27 (dk_at dksX14_room_0 8 rfl rfl)
theorem dX14_room_9 : decode cX14_room 9 = .ok (.bipush 64, 2) := dk_16 64 (dk_at dksX14_room_0 9 rfl rfl)
theorem dX14_room_11 : decode cX14_room 11 = .ok (.idiv, 1) := dk_108 (dk_at dksX14_room_0 11 rfl rfl)
theorem dX14_room_12 : decode cX14_room 12 = .ok (.goto 19, 3) := dk_167 0 19 (dk_at dksX14_room_0 12 rfl rfl)
theorem dX14_room_15 : decode cX14_room 15 = .ok (.iload_n 0, 1) := dk_26 (dk_at dksX14_room_0 15 rfl rfl)
theorem dX14_room_16 : decode cX14_room 16 = .ok (.iload_n 1, 1) := dk_27 (dk_at dksX14_room_0 16 rfl rfl)
theorem dX14_room_17 : decode cX14_room 17 = .ok (.bipush 8, 2) := dk_16 8 (dk_at dksX14_room_0 17 rfl rfl)
theorem dX14_room_19 : decode cX14_room 19 = .ok (.idiv, 1) := dk_108 (dk_at dksX14_room_0 19 rfl rfl)
theorem dX14_room_20 : decode cX14_room 20 = .ok (.if_icmp .gt 10, 3) := dk_163 0 10 (dk_at dksX14_room_0 20 rfl rfl)
theorem dX14_room_23 : decode cX14_room 23 = .ok (.iload_n 1, 1) := dk_27 (dk_at dksX14_room_0 23 rfl rfl)
theorem dX14_room_24 : decode cX14_room 24 = .ok (.bipush 8, 2) := dk_16 8 (dk_at dksX14_room_1 0 rfl rfl)
theorem dX14_room_26 : decode cX14_room 26 = .ok (.idiv, 1) := dk_108 (dk_at dksX14_room_1 2 rfl rfl)
theorem dX14_room_27 : decode cX14_room 27 = .ok (.goto 4, 3) := dk_167 0 4 (dk_at dksX14_room_1 3 rfl rfl)
theorem dX14_room_30 : decode cX14_room 30 = .ok (.iload_n 1, 1) := dk_27 (dk_at dksX14_room_1 6 rfl rfl)
theorem dX14_room_31 : decode cX14_room 31 = .ok (.ireturn, 1) := dk_172 (dk_at dksX14_room_1 7 rfl rfl)
abbrev cX14_cutText : ByteArray := prog_15_method_29_code
def yX14_cutText : MethodName := ⟨RX14, "cutText", "()V"⟩
def dkwX14_cutText_10 : List UInt8 := [79, 177]
abbrev dktX14_cutText_10 : List UInt8 := dkwX14_cutText_10 ++ []
def dkwX14_cutText_9 : List UInt8 := [180, 0, 36, 42, 180, 1, 111, 42, 180, 1, 103, 79, 42, 180, 0, 39, 42, 180, 1, 111, 42, 180, 1, 103]
abbrev dktX14_cutText_9 : List UInt8 := dkwX14_cutText_9 ++ dktX14_cutText_10
def dkwX14_cutText_8 : List UInt8 := [154, 0, 9, 42, 29, 182, 1, 165, 60, 167, 255, 70, 42, 180, 0, 33, 42, 180, 1, 111, 3, 79, 42]
abbrev dktX14_cutText_8 : List UInt8 := dkwX14_cutText_8 ++ dktX14_cutText_9
def dkwX14_cutText_7 : List UInt8 := [180, 0, 39, 42, 180, 1, 111, 29, 79, 42, 89, 180, 1, 111, 4, 96, 181, 1, 111, 42, 180, 1, 97]
abbrev dktX14_cutText_7 : List UInt8 := dkwX14_cutText_7 ++ dktX14_cutText_8
def dkwX14_cutText_6 : List UInt8 := [16, 6, 79, 167, 0, 9, 42, 27, 182, 1, 183, 62, 42, 180, 0, 36, 42, 180, 1, 111, 27, 79, 42]
abbrev dktX14_cutText_6 : List UInt8 := dkwX14_cutText_6 ++ dktX14_cutText_7
def dkwX14_cutText_5 : List UInt8 := [167, 0, 35, 28, 16, 34, 160, 0, 23, 42, 27, 182, 1, 180, 62, 42, 180, 0, 33, 42, 180, 1, 111]
abbrev dktX14_cutText_5 : List UInt8 := dkwX14_cutText_5 ++ dktX14_cutText_6
def dkwX14_cutText_4 : List UInt8 := [180, 0, 33, 42, 180, 1, 111, 6, 79, 167, 0, 50, 28, 16, 39, 160, 0, 12, 42, 27, 182, 1, 177, 62]
abbrev dktX14_cutText_4 : List UInt8 := dkwX14_cutText_4 ++ dktX14_cutText_5
def dkwX14_cutText_3 : List UInt8 := [42, 27, 29, 182, 1, 171, 79, 167, 0, 76, 28, 184, 1, 143, 153, 0, 22, 42, 27, 182, 1, 174, 62, 42]
abbrev dktX14_cutText_3 : List UInt8 := dkwX14_cutText_3 ++ dktX14_cutText_4
def dkwX14_cutText_2 : List UInt8 := [27, 182, 1, 168, 62, 42, 180, 0, 33, 42, 180, 1, 111, 28, 184, 1, 136, 153, 0, 7, 5, 167, 0, 9]
abbrev dktX14_cutText_2 : List UInt8 := dkwX14_cutText_2 ++ dktX14_cutText_3
def dkwX14_cutText_1 : List UInt8 := [162, 0, 177, 42, 27, 182, 1, 146, 61, 28, 184, 1, 136, 154, 0, 10, 28, 184, 1, 140, 153, 0, 38, 42]
abbrev dktX14_cutText_1 : List UInt8 := dkwX14_cutText_1 ++ dktX14_cutText_2
def dkwX14_cutText_0 : List UInt8 := [42, 3, 181, 1, 111, 42, 3, 182, 1, 165, 60, 42, 180, 1, 97, 154, 0, 185, 27, 42, 180, 1, 103]
abbrev dktX14_cutText_0 : List UInt8 := dkwX14_cutText_0 ++ dktX14_cutText_1
theorem dksX14_cutText_0 : cX14_cutText.data.toList.drop 0 = dktX14_cutText_0 := by decide +kernel
theorem dksX14_cutText_1 : cX14_cutText.data.toList.drop 23 = dktX14_cutText_1 := dk_seg dksX14_cutText_0 23 rfl rfl
theorem dksX14_cutText_2 : cX14_cutText.data.toList.drop 47 = dktX14_cutText_2 := dk_seg dksX14_cutText_1 24 rfl rfl
theorem dksX14_cutText_3 : cX14_cutText.data.toList.drop 71 = dktX14_cutText_3 := dk_seg dksX14_cutText_2 24 rfl rfl
theorem dksX14_cutText_4 : cX14_cutText.data.toList.drop 95 = dktX14_cutText_4 := dk_seg dksX14_cutText_3 24 rfl rfl
theorem dksX14_cutText_5 : cX14_cutText.data.toList.drop 119 = dktX14_cutText_5 := dk_seg dksX14_cutText_4 24 rfl rfl
theorem dksX14_cutText_6 : cX14_cutText.data.toList.drop 142 = dktX14_cutText_6 := dk_seg dksX14_cutText_5 23 rfl rfl
theorem dksX14_cutText_7 : cX14_cutText.data.toList.drop 165 = dktX14_cutText_7 := dk_seg dksX14_cutText_6 23 rfl rfl
theorem dksX14_cutText_8 : cX14_cutText.data.toList.drop 188 = dktX14_cutText_8 := dk_seg dksX14_cutText_7 23 rfl rfl
theorem dksX14_cutText_9 : cX14_cutText.data.toList.drop 211 = dktX14_cutText_9 := dk_seg dksX14_cutText_8 23 rfl rfl
theorem dksX14_cutText_10 : cX14_cutText.data.toList.drop 235 = dktX14_cutText_10 := dk_seg dksX14_cutText_9 24 rfl rfl
theorem dX14_cutText_0 : decode cX14_cutText 0 = .ok (.aload_n 0, 1) := dk_42 (dk_at dksX14_cutText_0 0 rfl rfl)
theorem dX14_cutText_1 : decode cX14_cutText 1 = .ok (.iconst 0, 1) := dk_3 (dk_at dksX14_cutText_0 1 rfl rfl)
theorem dX14_cutText_2 : decode cX14_cutText 2 = .ok (.putfield 367, 3) := dk_181 1 111 (dk_at dksX14_cutText_0 2 rfl rfl)
theorem dX14_cutText_5 : decode cX14_cutText 5 = .ok (.aload_n 0, 1) := dk_42 (dk_at dksX14_cutText_0 5 rfl rfl)
theorem dX14_cutText_6 : decode cX14_cutText 6 = .ok (.iconst 0, 1) := dk_3 (dk_at dksX14_cutText_0 6 rfl rfl)
theorem dX14_cutText_7 : decode cX14_cutText 7 = .ok (.invokevirtual 421, 3) := dk_182 1 165 (dk_at dksX14_cutText_0 7 rfl rfl)
theorem dX14_cutText_10 : decode cX14_cutText 10 = .ok (.istore_n 1, 1) := dk_60 (dk_at dksX14_cutText_0 10 rfl rfl)
theorem dX14_cutText_11 : decode cX14_cutText 11 = .ok (.aload_n 0, 1) := dk_42 (dk_at dksX14_cutText_0 11 rfl rfl)
theorem dX14_cutText_12 : decode cX14_cutText 12 = .ok (.getfield 353, 3) := dk_180 1 97 (dk_at dksX14_cutText_0 12 rfl rfl)
theorem dX14_cutText_15 : decode cX14_cutText 15 = .ok (.ifCond .ne 185, 3) := dk_154 0 185 (dk_at dksX14_cutText_0 15 rfl rfl)
theorem dX14_cutText_18 : decode cX14_cutText 18 = .ok (.iload_n 1, 1) := dk_27 (dk_at dksX14_cutText_0 18 rfl rfl)
theorem dX14_cutText_19 : decode cX14_cutText 19 = .ok (.aload_n 0, 1) := dk_42 (dk_at dksX14_cutText_0 19 rfl rfl)
theorem dX14_cutText_20 : decode cX14_cutText 20 = .ok (.getfield 359, 3) := dk_180 1 103 (dk_at dksX14_cutText_0 20 rfl rfl)
theorem dX14_cutText_23 : decode cX14_cutText 23 = .ok (.if_icmp .ge 177, 3) := dk_162 0 177 (dk_at dksX14_cutText_1 0 rfl rfl)
theorem dX14_cutText_26 : decode cX14_cutText 26 = .ok (.aload_n 0, 1) := dk_42 (dk_at dksX14_cutText_1 3 rfl rfl)
theorem dX14_cutText_27 : decode cX14_cutText 27 = .ok (.iload_n 1, 1) := dk_27 (dk_at dksX14_cutText_1 4 rfl rfl)
theorem dX14_cutText_28 : decode cX14_cutText 28 = .ok (.invokevirtual 402, 3) := dk_182 1 146 (dk_at dksX14_cutText_1 5 rfl rfl)
theorem dX14_cutText_31 : decode cX14_cutText 31 = .ok (.istore_n 2, 1) := dk_61 (dk_at dksX14_cutText_1 8 rfl rfl)
theorem dX14_cutText_32 : decode cX14_cutText 32 = .ok (.iload_n 2, 1) := dk_28 (dk_at dksX14_cutText_1 9 rfl rfl)
theorem dX14_cutText_33 : decode cX14_cutText 33 = .ok (.invokestatic 392, 3) := dk_184 1 136 (dk_at dksX14_cutText_1 10 rfl rfl)
theorem dX14_cutText_36 : decode cX14_cutText 36 = .ok (.ifCond .ne 10, 3) := dk_154 0 10 (dk_at dksX14_cutText_1 13 rfl rfl)
theorem dX14_cutText_39 : decode cX14_cutText 39 = .ok (.iload_n 2, 1) := dk_28 (dk_at dksX14_cutText_1 16 rfl rfl)
theorem dX14_cutText_40 : decode cX14_cutText 40 = .ok (.invokestatic 396, 3) := dk_184 1 140 (dk_at dksX14_cutText_1 17 rfl rfl)
theorem dX14_cutText_43 : decode cX14_cutText 43 = .ok (.ifCond .eq 38, 3) := dk_153 0 38 (dk_at dksX14_cutText_1 20 rfl rfl)
theorem dX14_cutText_46 : decode cX14_cutText 46 = .ok (.aload_n 0, 1) := dk_42 (dk_at dksX14_cutText_1 23 rfl rfl)
theorem dX14_cutText_47 : decode cX14_cutText 47 = .ok (.iload_n 1, 1) := dk_27 (dk_at dksX14_cutText_2 0 rfl rfl)
theorem dX14_cutText_48 : decode cX14_cutText 48 = .ok (.invokevirtual 424, 3) := dk_182 1 168 (dk_at dksX14_cutText_2 1 rfl rfl)
theorem dX14_cutText_51 : decode cX14_cutText 51 = .ok (.istore_n 3, 1) := dk_62 (dk_at dksX14_cutText_2 4 rfl rfl)
theorem dX14_cutText_52 : decode cX14_cutText 52 = .ok (.aload_n 0, 1) := dk_42 (dk_at dksX14_cutText_2 5 rfl rfl)
theorem dX14_cutText_53 : decode cX14_cutText 53 = .ok (.getfield 33, 3) := dk_180 0 33 (dk_at dksX14_cutText_2 6 rfl rfl)
theorem dX14_cutText_56 : decode cX14_cutText 56 = .ok (.aload_n 0, 1) := dk_42 (dk_at dksX14_cutText_2 9 rfl rfl)
theorem dX14_cutText_57 : decode cX14_cutText 57 = .ok (.getfield 367, 3) := dk_180 1 111 (dk_at dksX14_cutText_2 10 rfl rfl)
theorem dX14_cutText_60 : decode cX14_cutText 60 = .ok (.iload_n 2, 1) := dk_28 (dk_at dksX14_cutText_2 13 rfl rfl)
theorem dX14_cutText_61 : decode cX14_cutText 61 = .ok (.invokestatic 392, 3) := dk_184 1 136 (dk_at dksX14_cutText_2 14 rfl rfl)
theorem dX14_cutText_64 : decode cX14_cutText 64 = .ok (.ifCond .eq 7, 3) := dk_153 0 7 (dk_at dksX14_cutText_2 17 rfl rfl)
theorem dX14_cutText_67 : decode cX14_cutText 67 = .ok (.iconst 2, 1) := dk_5 (dk_at dksX14_cutText_2 20 rfl rfl)
theorem dX14_cutText_68 : decode cX14_cutText 68 = .ok (.goto 9, 3) := dk_167 0 9 (dk_at dksX14_cutText_2 21 rfl rfl)
theorem dX14_cutText_71 : decode cX14_cutText 71 = .ok (.aload_n 0, 1) := dk_42 (dk_at dksX14_cutText_3 0 rfl rfl)
theorem dX14_cutText_72 : decode cX14_cutText 72 = .ok (.iload_n 1, 1) := dk_27 (dk_at dksX14_cutText_3 1 rfl rfl)
theorem dX14_cutText_73 : decode cX14_cutText 73 = .ok (.iload_n 3, 1) := dk_29 (dk_at dksX14_cutText_3 2 rfl rfl)
theorem dX14_cutText_74 : decode cX14_cutText 74 = .ok (.invokevirtual 427, 3) := dk_182 1 171 (dk_at dksX14_cutText_3 3 rfl rfl)
theorem dX14_cutText_77 : decode cX14_cutText 77 = .ok (.iastore, 1) := dk_79 (dk_at dksX14_cutText_3 6 rfl rfl)
theorem dX14_cutText_78 : decode cX14_cutText 78 = .ok (.goto 76, 3) := dk_167 0 76 (dk_at dksX14_cutText_3 7 rfl rfl)
theorem dX14_cutText_81 : decode cX14_cutText 81 = .ok (.iload_n 2, 1) := dk_28 (dk_at dksX14_cutText_3 10 rfl rfl)
theorem dX14_cutText_82 : decode cX14_cutText 82 = .ok (.invokestatic 399, 3) := dk_184 1 143 (dk_at dksX14_cutText_3 11 rfl rfl)
theorem dX14_cutText_85 : decode cX14_cutText 85 = .ok (.ifCond .eq 22, 3) := dk_153 0 22 (dk_at dksX14_cutText_3 14 rfl rfl)
theorem dX14_cutText_88 : decode cX14_cutText 88 = .ok (.aload_n 0, 1) := dk_42 (dk_at dksX14_cutText_3 17 rfl rfl)
theorem dX14_cutText_89 : decode cX14_cutText 89 = .ok (.iload_n 1, 1) := dk_27 (dk_at dksX14_cutText_3 18 rfl rfl)
theorem dX14_cutText_90 : decode cX14_cutText 90 = .ok (.invokevirtual 430, 3) := dk_182 1 174 (dk_at dksX14_cutText_3 19 rfl rfl)
theorem dX14_cutText_93 : decode cX14_cutText 93 = .ok (.istore_n 3, 1) := dk_62 (dk_at dksX14_cutText_3 22 rfl rfl)
theorem dX14_cutText_94 : decode cX14_cutText 94 = .ok (.aload_n 0, 1) := dk_42 (dk_at dksX14_cutText_3 23 rfl rfl)
theorem dX14_cutText_95 : decode cX14_cutText 95 = .ok (.getfield 33, 3) := dk_180 0 33 (dk_at dksX14_cutText_4 0 rfl rfl)
theorem dX14_cutText_98 : decode cX14_cutText 98 = .ok (.aload_n 0, 1) := dk_42 (dk_at dksX14_cutText_4 3 rfl rfl)
theorem dX14_cutText_99 : decode cX14_cutText 99 = .ok (.getfield 367, 3) := dk_180 1 111 (dk_at dksX14_cutText_4 4 rfl rfl)
theorem dX14_cutText_102 : decode cX14_cutText 102 = .ok (.iconst 3, 1) := dk_6 (dk_at dksX14_cutText_4 7 rfl rfl)
theorem dX14_cutText_103 : decode cX14_cutText 103 = .ok (.iastore, 1) := dk_79 (dk_at dksX14_cutText_4 8 rfl rfl)
theorem dX14_cutText_104 : decode cX14_cutText 104 = .ok (.goto 50, 3) := dk_167 0 50 (dk_at dksX14_cutText_4 9 rfl rfl)
theorem dX14_cutText_107 : decode cX14_cutText 107 = .ok (.iload_n 2, 1) := dk_28 (dk_at dksX14_cutText_4 12 rfl rfl)
theorem dX14_cutText_108 : decode cX14_cutText 108 = .ok (.bipush 39, 2) := dk_16 39 (dk_at dksX14_cutText_4 13 rfl rfl)
theorem dX14_cutText_110 : decode cX14_cutText 110 = .ok (.if_icmp .ne 12, 3) := dk_160 0 12 (dk_at dksX14_cutText_4 15 rfl rfl)
theorem dX14_cutText_113 : decode cX14_cutText 113 = .ok (.aload_n 0, 1) := dk_42 (dk_at dksX14_cutText_4 18 rfl rfl)
theorem dX14_cutText_114 : decode cX14_cutText 114 = .ok (.iload_n 1, 1) := dk_27 (dk_at dksX14_cutText_4 19 rfl rfl)
theorem dX14_cutText_115 : decode cX14_cutText 115 = .ok (.invokevirtual 433, 3) := dk_182 1 177 (dk_at dksX14_cutText_4 20 rfl rfl)
theorem dX14_cutText_118 : decode cX14_cutText 118 = .ok (.istore_n 3, 1) := dk_62 (dk_at dksX14_cutText_4 23 rfl rfl)
theorem dX14_cutText_119 : decode cX14_cutText 119 = .ok (.goto 35, 3) := dk_167 0 35 (dk_at dksX14_cutText_5 0 rfl rfl)
theorem dX14_cutText_122 : decode cX14_cutText 122 = .ok (.iload_n 2, 1) := dk_28 (dk_at dksX14_cutText_5 3 rfl rfl)
theorem dX14_cutText_123 : decode cX14_cutText 123 = .ok (.bipush 34, 2) := dk_16 34 (dk_at dksX14_cutText_5 4 rfl rfl)
theorem dX14_cutText_125 : decode cX14_cutText 125 = .ok (.if_icmp .ne 23, 3) := dk_160 0 23 (dk_at dksX14_cutText_5 6 rfl rfl)
theorem dX14_cutText_128 : decode cX14_cutText 128 = .ok (.aload_n 0, 1) := dk_42 (dk_at dksX14_cutText_5 9 rfl rfl)
theorem dX14_cutText_129 : decode cX14_cutText 129 = .ok (.iload_n 1, 1) := dk_27 (dk_at dksX14_cutText_5 10 rfl rfl)
theorem dX14_cutText_130 : decode cX14_cutText 130 = .ok (.invokevirtual 436, 3) := dk_182 1 180 (dk_at dksX14_cutText_5 11 rfl rfl)
theorem dX14_cutText_133 : decode cX14_cutText 133 = .ok (.istore_n 3, 1) := dk_62 (dk_at dksX14_cutText_5 14 rfl rfl)
theorem dX14_cutText_134 : decode cX14_cutText 134 = .ok (.aload_n 0, 1) := dk_42 (dk_at dksX14_cutText_5 15 rfl rfl)
theorem dX14_cutText_135 : decode cX14_cutText 135 = .ok (.getfield 33, 3) := dk_180 0 33 (dk_at dksX14_cutText_5 16 rfl rfl)
theorem dX14_cutText_138 : decode cX14_cutText 138 = .ok (.aload_n 0, 1) := dk_42 (dk_at dksX14_cutText_5 19 rfl rfl)
theorem dX14_cutText_139 : decode cX14_cutText 139 = .ok (.getfield 367, 3) := dk_180 1 111 (dk_at dksX14_cutText_5 20 rfl rfl)
theorem dX14_cutText_142 : decode cX14_cutText 142 = .ok (.bipush 6, 2) := dk_16 6 (dk_at dksX14_cutText_6 0 rfl rfl)
theorem dX14_cutText_144 : decode cX14_cutText 144 = .ok (.iastore, 1) := dk_79 (dk_at dksX14_cutText_6 2 rfl rfl)
theorem dX14_cutText_145 : decode cX14_cutText 145 = .ok (.goto 9, 3) := dk_167 0 9 (dk_at dksX14_cutText_6 3 rfl rfl)
theorem dX14_cutText_148 : decode cX14_cutText 148 = .ok (.aload_n 0, 1) := dk_42 (dk_at dksX14_cutText_6 6 rfl rfl)
theorem dX14_cutText_149 : decode cX14_cutText 149 = .ok (.iload_n 1, 1) := dk_27 (dk_at dksX14_cutText_6 7 rfl rfl)
theorem dX14_cutText_150 : decode cX14_cutText 150 = .ok (.invokevirtual 439, 3) := dk_182 1 183 (dk_at dksX14_cutText_6 8 rfl rfl)
theorem dX14_cutText_153 : decode cX14_cutText 153 = .ok (.istore_n 3, 1) := dk_62 (dk_at dksX14_cutText_6 11 rfl rfl)
theorem dX14_cutText_154 : decode cX14_cutText 154 = .ok (.aload_n 0, 1) := dk_42 (dk_at dksX14_cutText_6 12 rfl rfl)
theorem dX14_cutText_155 : decode cX14_cutText 155 = .ok (.getfield 36, 3) := dk_180 0 36 (dk_at dksX14_cutText_6 13 rfl rfl)
theorem dX14_cutText_158 : decode cX14_cutText 158 = .ok (.aload_n 0, 1) := dk_42 (dk_at dksX14_cutText_6 16 rfl rfl)
theorem dX14_cutText_159 : decode cX14_cutText 159 = .ok (.getfield 367, 3) := dk_180 1 111 (dk_at dksX14_cutText_6 17 rfl rfl)
theorem dX14_cutText_162 : decode cX14_cutText 162 = .ok (.iload_n 1, 1) := dk_27 (dk_at dksX14_cutText_6 20 rfl rfl)
theorem dX14_cutText_163 : decode cX14_cutText 163 = .ok (.iastore, 1) := dk_79 (dk_at dksX14_cutText_6 21 rfl rfl)
theorem dX14_cutText_164 : decode cX14_cutText 164 = .ok (.aload_n 0, 1) := dk_42 (dk_at dksX14_cutText_6 22 rfl rfl)
theorem dX14_cutText_165 : decode cX14_cutText 165 = .ok (.getfield 39, 3) := dk_180 0 39 (dk_at dksX14_cutText_7 0 rfl rfl)
theorem dX14_cutText_168 : decode cX14_cutText 168 = .ok (.aload_n 0, 1) := dk_42 (dk_at dksX14_cutText_7 3 rfl rfl)
theorem dX14_cutText_169 : decode cX14_cutText 169 = .ok (.getfield 367, 3) := dk_180 1 111 (dk_at dksX14_cutText_7 4 rfl rfl)
theorem dX14_cutText_172 : decode cX14_cutText 172 = .ok (.iload_n 3, 1) := dk_29 (dk_at dksX14_cutText_7 7 rfl rfl)
theorem dX14_cutText_173 : decode cX14_cutText 173 = .ok (.iastore, 1) := dk_79 (dk_at dksX14_cutText_7 8 rfl rfl)
theorem dX14_cutText_174 : decode cX14_cutText 174 = .ok (.aload_n 0, 1) := dk_42 (dk_at dksX14_cutText_7 9 rfl rfl)
theorem dX14_cutText_175 : decode cX14_cutText 175 = .ok (.dup, 1) := dk_89 (dk_at dksX14_cutText_7 10 rfl rfl)
theorem dX14_cutText_176 : decode cX14_cutText 176 = .ok (.getfield 367, 3) := dk_180 1 111 (dk_at dksX14_cutText_7 11 rfl rfl)
theorem dX14_cutText_179 : decode cX14_cutText 179 = .ok (.iconst 1, 1) := dk_4 (dk_at dksX14_cutText_7 14 rfl rfl)
theorem dX14_cutText_180 : decode cX14_cutText 180 = .ok (.iadd, 1) := dk_96 (dk_at dksX14_cutText_7 15 rfl rfl)
theorem dX14_cutText_181 : decode cX14_cutText 181 = .ok (.putfield 367, 3) := dk_181 1 111 (dk_at dksX14_cutText_7 16 rfl rfl)
theorem dX14_cutText_184 : decode cX14_cutText 184 = .ok (.aload_n 0, 1) := dk_42 (dk_at dksX14_cutText_7 19 rfl rfl)
theorem dX14_cutText_185 : decode cX14_cutText 185 = .ok (.getfield 353, 3) := dk_180 1 97 (dk_at dksX14_cutText_7 20 rfl rfl)
theorem dX14_cutText_188 : decode cX14_cutText 188 = .ok (.ifCond .ne 9, 3) := dk_154 0 9 (dk_at dksX14_cutText_8 0 rfl rfl)
theorem dX14_cutText_191 : decode cX14_cutText 191 = .ok (.aload_n 0, 1) := dk_42 (dk_at dksX14_cutText_8 3 rfl rfl)
theorem dX14_cutText_192 : decode cX14_cutText 192 = .ok (.iload_n 3, 1) := dk_29 (dk_at dksX14_cutText_8 4 rfl rfl)
theorem dX14_cutText_193 : decode cX14_cutText 193 = .ok (.invokevirtual 421, 3) := dk_182 1 165 (dk_at dksX14_cutText_8 5 rfl rfl)
theorem dX14_cutText_196 : decode cX14_cutText 196 = .ok (.istore_n 1, 1) := dk_60 (dk_at dksX14_cutText_8 8 rfl rfl)
theorem dX14_cutText_197 : decode cX14_cutText 197 = .ok (.goto (-186), 3) := dk_167 255 70 (dk_at dksX14_cutText_8 9 rfl rfl)
theorem dX14_cutText_200 : decode cX14_cutText 200 = .ok (.aload_n 0, 1) := dk_42 (dk_at dksX14_cutText_8 12 rfl rfl)
theorem dX14_cutText_201 : decode cX14_cutText 201 = .ok (.getfield 33, 3) := dk_180 0 33 (dk_at dksX14_cutText_8 13 rfl rfl)
theorem dX14_cutText_204 : decode cX14_cutText 204 = .ok (.aload_n 0, 1) := dk_42 (dk_at dksX14_cutText_8 16 rfl rfl)
theorem dX14_cutText_205 : decode cX14_cutText 205 = .ok (.getfield 367, 3) := dk_180 1 111 (dk_at dksX14_cutText_8 17 rfl rfl)
theorem dX14_cutText_208 : decode cX14_cutText 208 = .ok (.iconst 0, 1) := dk_3 (dk_at dksX14_cutText_8 20 rfl rfl)
theorem dX14_cutText_209 : decode cX14_cutText 209 = .ok (.iastore, 1) := dk_79 (dk_at dksX14_cutText_8 21 rfl rfl)
theorem dX14_cutText_210 : decode cX14_cutText 210 = .ok (.aload_n 0, 1) := dk_42 (dk_at dksX14_cutText_8 22 rfl rfl)
theorem dX14_cutText_211 : decode cX14_cutText 211 = .ok (.getfield 36, 3) := dk_180 0 36 (dk_at dksX14_cutText_9 0 rfl rfl)
theorem dX14_cutText_214 : decode cX14_cutText 214 = .ok (.aload_n 0, 1) := dk_42 (dk_at dksX14_cutText_9 3 rfl rfl)
theorem dX14_cutText_215 : decode cX14_cutText 215 = .ok (.getfield 367, 3) := dk_180 1 111 (dk_at dksX14_cutText_9 4 rfl rfl)
theorem dX14_cutText_218 : decode cX14_cutText 218 = .ok (.aload_n 0, 1) := dk_42 (dk_at dksX14_cutText_9 7 rfl rfl)
theorem dX14_cutText_219 : decode cX14_cutText 219 = .ok (.getfield 359, 3) := dk_180 1 103 (dk_at dksX14_cutText_9 8 rfl rfl)
theorem dX14_cutText_222 : decode cX14_cutText 222 = .ok (.iastore, 1) := dk_79 (dk_at dksX14_cutText_9 11 rfl rfl)
theorem dX14_cutText_223 : decode cX14_cutText 223 = .ok (.aload_n 0, 1) := dk_42 (dk_at dksX14_cutText_9 12 rfl rfl)
theorem dX14_cutText_224 : decode cX14_cutText 224 = .ok (.getfield 39, 3) := dk_180 0 39 (dk_at dksX14_cutText_9 13 rfl rfl)
theorem dX14_cutText_227 : decode cX14_cutText 227 = .ok (.aload_n 0, 1) := dk_42 (dk_at dksX14_cutText_9 16 rfl rfl)
theorem dX14_cutText_228 : decode cX14_cutText 228 = .ok (.getfield 367, 3) := dk_180 1 111 (dk_at dksX14_cutText_9 17 rfl rfl)
theorem dX14_cutText_231 : decode cX14_cutText 231 = .ok (.aload_n 0, 1) := dk_42 (dk_at dksX14_cutText_9 20 rfl rfl)
theorem dX14_cutText_232 : decode cX14_cutText 232 = .ok (.getfield 359, 3) := dk_180 1 103 (dk_at dksX14_cutText_9 21 rfl rfl)
theorem dX14_cutText_235 : decode cX14_cutText 235 = .ok (.iastore, 1) := dk_79 (dk_at dksX14_cutText_10 0 rfl rfl)
theorem dX14_cutText_236 : decode cX14_cutText 236 = .ok (.return_, 1) := dk_177 (dk_at dksX14_cutText_10 1 rfl rfl)
abbrev cX14_skip : ByteArray := prog_15_method_20_code
def yX14_skip : MethodName := ⟨RX14, "skip", "(I)I"⟩
def dkwX14_skip_4 : List UInt8 := [167, 255, 167, 3, 62, 167, 255, 162, 28, 172]
abbrev dktX14_skip_4 : List UInt8 := dkwX14_skip_4 ++ []
def dkwX14_skip_3 : List UInt8 := [16, 47, 160, 0, 24, 42, 28, 4, 96, 182, 1, 146, 16, 42, 160, 0, 12, 42, 28, 182, 1, 155, 61]
abbrev dktX14_skip_3 : List UInt8 := dkwX14_skip_3 ++ dktX14_skip_4
def dkwX14_skip_2 : List UInt8 := [182, 1, 146, 16, 45, 160, 0, 14, 42, 28, 5, 96, 182, 1, 152, 61, 167, 255, 198, 42, 28, 182, 1, 146]
abbrev dktX14_skip_2 : List UInt8 := dkwX14_skip_2 ++ dktX14_skip_3
def dkwX14_skip_1 : List UInt8 := [153, 0, 9, 132, 2, 1, 167, 255, 231, 42, 28, 182, 1, 146, 16, 45, 160, 0, 26, 42, 28, 4, 96]
abbrev dktX14_skip_1 : List UInt8 := dkwX14_skip_1 ++ dktX14_skip_2
def dkwX14_skip_0 : List UInt8 := [27, 61, 4, 62, 29, 153, 0, 96, 42, 180, 1, 97, 154, 0, 89, 42, 28, 182, 1, 146, 184, 1, 149]
abbrev dktX14_skip_0 : List UInt8 := dkwX14_skip_0 ++ dktX14_skip_1
theorem dksX14_skip_0 : cX14_skip.data.toList.drop 0 = dktX14_skip_0 := by decide +kernel
theorem dksX14_skip_1 : cX14_skip.data.toList.drop 23 = dktX14_skip_1 := dk_seg dksX14_skip_0 23 rfl rfl
theorem dksX14_skip_2 : cX14_skip.data.toList.drop 46 = dktX14_skip_2 := dk_seg dksX14_skip_1 23 rfl rfl
theorem dksX14_skip_3 : cX14_skip.data.toList.drop 70 = dktX14_skip_3 := dk_seg dksX14_skip_2 24 rfl rfl
theorem dksX14_skip_4 : cX14_skip.data.toList.drop 93 = dktX14_skip_4 := dk_seg dksX14_skip_3 23 rfl rfl
theorem dX14_skip_0 : decode cX14_skip 0 = .ok (.iload_n 1, 1) := dk_27 (dk_at dksX14_skip_0 0 rfl rfl)
theorem dX14_skip_1 : decode cX14_skip 1 = .ok (.istore_n 2, 1) := dk_61 (dk_at dksX14_skip_0 1 rfl rfl)
theorem dX14_skip_2 : decode cX14_skip 2 = .ok (.iconst 1, 1) := dk_4 (dk_at dksX14_skip_0 2 rfl rfl)
theorem dX14_skip_3 : decode cX14_skip 3 = .ok (.istore_n 3, 1) := dk_62 (dk_at dksX14_skip_0 3 rfl rfl)
theorem dX14_skip_4 : decode cX14_skip 4 = .ok (.iload_n 3, 1) := dk_29 (dk_at dksX14_skip_0 4 rfl rfl)
theorem dX14_skip_5 : decode cX14_skip 5 = .ok (.ifCond .eq 96, 3) := dk_153 0 96 (dk_at dksX14_skip_0 5 rfl rfl)
theorem dX14_skip_8 : decode cX14_skip 8 = .ok (.aload_n 0, 1) := dk_42 (dk_at dksX14_skip_0 8 rfl rfl)
theorem dX14_skip_9 : decode cX14_skip 9 = .ok (.getfield 353, 3) := dk_180 1 97 (dk_at dksX14_skip_0 9 rfl rfl)
theorem dX14_skip_12 : decode cX14_skip 12 = .ok (.ifCond .ne 89, 3) := dk_154 0 89 (dk_at dksX14_skip_0 12 rfl rfl)
theorem dX14_skip_15 : decode cX14_skip 15 = .ok (.aload_n 0, 1) := dk_42 (dk_at dksX14_skip_0 15 rfl rfl)
theorem dX14_skip_16 : decode cX14_skip 16 = .ok (.iload_n 2, 1) := dk_28 (dk_at dksX14_skip_0 16 rfl rfl)
theorem dX14_skip_17 : decode cX14_skip 17 = .ok (.invokevirtual 402, 3) := dk_182 1 146 (dk_at dksX14_skip_0 17 rfl rfl)
theorem dX14_skip_20 : decode cX14_skip 20 = .ok (.invokestatic 405, 3) := dk_184 1 149 (dk_at dksX14_skip_0 20 rfl rfl)
theorem dX14_skip_23 : decode cX14_skip 23 = .ok (.ifCond .eq 9, 3) := dk_153 0 9 (dk_at dksX14_skip_1 0 rfl rfl)
theorem dX14_skip_26 : decode cX14_skip 26 = .ok (.iinc 2 1, 3) := dk_132 2 1 (dk_at dksX14_skip_1 3 rfl rfl)
theorem dX14_skip_29 : decode cX14_skip 29 = .ok (.goto (-25), 3) := dk_167 255 231 (dk_at dksX14_skip_1 6 rfl rfl)
theorem dX14_skip_32 : decode cX14_skip 32 = .ok (.aload_n 0, 1) := dk_42 (dk_at dksX14_skip_1 9 rfl rfl)
theorem dX14_skip_33 : decode cX14_skip 33 = .ok (.iload_n 2, 1) := dk_28 (dk_at dksX14_skip_1 10 rfl rfl)
theorem dX14_skip_34 : decode cX14_skip 34 = .ok (.invokevirtual 402, 3) := dk_182 1 146 (dk_at dksX14_skip_1 11 rfl rfl)
theorem dX14_skip_37 : decode cX14_skip 37 = .ok (.bipush 45, 2) := dk_16 45 (dk_at dksX14_skip_1 14 rfl rfl)
theorem dX14_skip_39 : decode cX14_skip 39 = .ok (.if_icmp .ne 26, 3) := dk_160 0 26 (dk_at dksX14_skip_1 16 rfl rfl)
theorem dX14_skip_42 : decode cX14_skip 42 = .ok (.aload_n 0, 1) := dk_42 (dk_at dksX14_skip_1 19 rfl rfl)
theorem dX14_skip_43 : decode cX14_skip 43 = .ok (.iload_n 2, 1) := dk_28 (dk_at dksX14_skip_1 20 rfl rfl)
theorem dX14_skip_44 : decode cX14_skip 44 = .ok (.iconst 1, 1) := dk_4 (dk_at dksX14_skip_1 21 rfl rfl)
theorem dX14_skip_45 : decode cX14_skip 45 = .ok (.iadd, 1) := dk_96 (dk_at dksX14_skip_1 22 rfl rfl)
theorem dX14_skip_46 : decode cX14_skip 46 = .ok (.invokevirtual 402, 3) := dk_182 1 146 (dk_at dksX14_skip_2 0 rfl rfl)
theorem dX14_skip_49 : decode cX14_skip 49 = .ok (.bipush 45, 2) := dk_16 45 (dk_at dksX14_skip_2 3 rfl rfl)
theorem dX14_skip_51 : decode cX14_skip 51 = .ok (.if_icmp .ne 14, 3) := dk_160 0 14 (dk_at dksX14_skip_2 5 rfl rfl)
theorem dX14_skip_54 : decode cX14_skip 54 = .ok (.aload_n 0, 1) := dk_42 (dk_at dksX14_skip_2 8 rfl rfl)
theorem dX14_skip_55 : decode cX14_skip 55 = .ok (.iload_n 2, 1) := dk_28 (dk_at dksX14_skip_2 9 rfl rfl)
theorem dX14_skip_56 : decode cX14_skip 56 = .ok (.iconst 2, 1) := dk_5 (dk_at dksX14_skip_2 10 rfl rfl)
theorem dX14_skip_57 : decode cX14_skip 57 = .ok (.iadd, 1) := dk_96 (dk_at dksX14_skip_2 11 rfl rfl)
theorem dX14_skip_58 : decode cX14_skip 58 = .ok (.invokevirtual 408, 3) := dk_182 1 152 (dk_at dksX14_skip_2 12 rfl rfl)
theorem dX14_skip_61 : decode cX14_skip 61 = .ok (.istore_n 2, 1) := dk_61 (dk_at dksX14_skip_2 15 rfl rfl)
theorem dX14_skip_62 : decode cX14_skip 62 = .ok (.goto (-58), 3) := dk_167 255 198 (dk_at dksX14_skip_2 16 rfl rfl)
theorem dX14_skip_65 : decode cX14_skip 65 = .ok (.aload_n 0, 1) := dk_42 (dk_at dksX14_skip_2 19 rfl rfl)
theorem dX14_skip_66 : decode cX14_skip 66 = .ok (.iload_n 2, 1) := dk_28 (dk_at dksX14_skip_2 20 rfl rfl)
theorem dX14_skip_67 : decode cX14_skip 67 = .ok (.invokevirtual 402, 3) := dk_182 1 146 (dk_at dksX14_skip_2 21 rfl rfl)
theorem dX14_skip_70 : decode cX14_skip 70 = .ok (.bipush 47, 2) := dk_16 47 (dk_at dksX14_skip_3 0 rfl rfl)
theorem dX14_skip_72 : decode cX14_skip 72 = .ok (.if_icmp .ne 24, 3) := dk_160 0 24 (dk_at dksX14_skip_3 2 rfl rfl)
theorem dX14_skip_75 : decode cX14_skip 75 = .ok (.aload_n 0, 1) := dk_42 (dk_at dksX14_skip_3 5 rfl rfl)
theorem dX14_skip_76 : decode cX14_skip 76 = .ok (.iload_n 2, 1) := dk_28 (dk_at dksX14_skip_3 6 rfl rfl)
theorem dX14_skip_77 : decode cX14_skip 77 = .ok (.iconst 1, 1) := dk_4 (dk_at dksX14_skip_3 7 rfl rfl)
theorem dX14_skip_78 : decode cX14_skip 78 = .ok (.iadd, 1) := dk_96 (dk_at dksX14_skip_3 8 rfl rfl)
theorem dX14_skip_79 : decode cX14_skip 79 = .ok (.invokevirtual 402, 3) := dk_182 1 146 (dk_at dksX14_skip_3 9 rfl rfl)
theorem dX14_skip_82 : decode cX14_skip 82 = .ok (.bipush 42, 2) := dk_16 42 (dk_at dksX14_skip_3 12 rfl rfl)
theorem dX14_skip_84 : decode cX14_skip 84 = .ok (.if_icmp .ne 12, 3) := dk_160 0 12 (dk_at dksX14_skip_3 14 rfl rfl)
theorem dX14_skip_87 : decode cX14_skip 87 = .ok (.aload_n 0, 1) := dk_42 (dk_at dksX14_skip_3 17 rfl rfl)
theorem dX14_skip_88 : decode cX14_skip 88 = .ok (.iload_n 2, 1) := dk_28 (dk_at dksX14_skip_3 18 rfl rfl)
theorem dX14_skip_89 : decode cX14_skip 89 = .ok (.invokevirtual 411, 3) := dk_182 1 155 (dk_at dksX14_skip_3 19 rfl rfl)
theorem dX14_skip_92 : decode cX14_skip 92 = .ok (.istore_n 2, 1) := dk_61 (dk_at dksX14_skip_3 22 rfl rfl)
theorem dX14_skip_93 : decode cX14_skip 93 = .ok (.goto (-89), 3) := dk_167 255 167 (dk_at dksX14_skip_4 0 rfl rfl)
theorem dX14_skip_96 : decode cX14_skip 96 = .ok (.iconst 0, 1) := dk_3 (dk_at dksX14_skip_4 3 rfl rfl)
theorem dX14_skip_97 : decode cX14_skip 97 = .ok (.istore_n 3, 1) := dk_62 (dk_at dksX14_skip_4 4 rfl rfl)
theorem dX14_skip_98 : decode cX14_skip 98 = .ok (.goto (-94), 3) := dk_167 255 162 (dk_at dksX14_skip_4 5 rfl rfl)
theorem dX14_skip_101 : decode cX14_skip 101 = .ok (.iload_n 2, 1) := dk_28 (dk_at dksX14_skip_4 8 rfl rfl)
theorem dX14_skip_102 : decode cX14_skip 102 = .ok (.ireturn, 1) := dk_172 (dk_at dksX14_skip_4 9 rfl rfl)
abbrev cX14_ch : ByteArray := prog_15_method_14_code
def yX14_ch : MethodName := ⟨RX14, "ch", "(I)I"⟩
def dkwX14_ch_0 : List UInt8 := [27, 42, 180, 1, 103, 162, 0, 12, 42, 180, 0, 30, 27, 46, 167, 0, 4, 2, 172]
abbrev dktX14_ch_0 : List UInt8 := dkwX14_ch_0 ++ []
theorem dksX14_ch_0 : cX14_ch.data.toList.drop 0 = dktX14_ch_0 := by decide +kernel
theorem dX14_ch_0 : decode cX14_ch 0 = .ok (.iload_n 1, 1) := dk_27 (dk_at dksX14_ch_0 0 rfl rfl)
theorem dX14_ch_1 : decode cX14_ch 1 = .ok (.aload_n 0, 1) := dk_42 (dk_at dksX14_ch_0 1 rfl rfl)
theorem dX14_ch_2 : decode cX14_ch 2 = .ok (.getfield 359, 3) := dk_180 1 103 (dk_at dksX14_ch_0 2 rfl rfl)
theorem dX14_ch_5 : decode cX14_ch 5 = .ok (.if_icmp .ge 12, 3) := dk_162 0 12 (dk_at dksX14_ch_0 5 rfl rfl)
theorem dX14_ch_8 : decode cX14_ch 8 = .ok (.aload_n 0, 1) := dk_42 (dk_at dksX14_ch_0 8 rfl rfl)
theorem dX14_ch_9 : decode cX14_ch 9 = .ok (.getfield 30, 3) := dk_180 0 30 (dk_at dksX14_ch_0 9 rfl rfl)
theorem dX14_ch_12 : decode cX14_ch 12 = .ok (.iload_n 1, 1) := dk_27 (dk_at dksX14_ch_0 12 rfl rfl)
theorem dX14_ch_13 : decode cX14_ch 13 = .ok (.iaload, 1) := dk_46 (dk_at dksX14_ch_0 13 rfl rfl)
theorem dX14_ch_14 : decode cX14_ch 14 = .ok (.goto 4, 3) := dk_167 0 4 (dk_at dksX14_ch_0 14 rfl rfl)
theorem dX14_ch_17 : decode cX14_ch 17 = .ok (.iconst (-1), 1) := dk_2 (dk_at dksX14_ch_0 17 rfl rfl)
theorem dX14_ch_18 : decode cX14_ch 18 = .ok (.ireturn, 1) := dk_172 (dk_at dksX14_ch_0 18 rfl rfl)
abbrev cX14_isWhite : ByteArray := prog_15_method_19_code
def yX14_isWhite : MethodName := ⟨RX14, "isWhite", "(I)Z"⟩
def dkwX14_isWhite_0 : List UInt8 := [26, 16, 9, 16, 13, 184, 1, 132, 154, 0, 9, 26, 16, 32, 160, 0, 7, 4, 167, 0, 4, 3, 172]
abbrev dktX14_isWhite_0 : List UInt8 := dkwX14_isWhite_0 ++ []
theorem dksX14_isWhite_0 : cX14_isWhite.data.toList.drop 0 = dktX14_isWhite_0 := by decide +kernel
theorem dX14_isWhite_0 : decode cX14_isWhite 0 = .ok (.iload_n 0, 1) := dk_26 (dk_at dksX14_isWhite_0 0 rfl rfl)
theorem dX14_isWhite_1 : decode cX14_isWhite 1 = .ok (.bipush 9, 2) := dk_16 9 (dk_at dksX14_isWhite_0 1 rfl rfl)
theorem dX14_isWhite_3 : decode cX14_isWhite 3 = .ok (.bipush 13, 2) := dk_16 13 (dk_at dksX14_isWhite_0 3 rfl rfl)
theorem dX14_isWhite_5 : decode cX14_isWhite 5 = .ok (.invokestatic 388, 3) := dk_184 1 132 (dk_at dksX14_isWhite_0 5 rfl rfl)
theorem dX14_isWhite_8 : decode cX14_isWhite 8 = .ok (.ifCond .ne 9, 3) := dk_154 0 9 (dk_at dksX14_isWhite_0 8 rfl rfl)
theorem dX14_isWhite_11 : decode cX14_isWhite 11 = .ok (.iload_n 0, 1) := dk_26 (dk_at dksX14_isWhite_0 11 rfl rfl)
theorem dX14_isWhite_12 : decode cX14_isWhite 12 = .ok (.bipush 32, 2) := dk_16 32 (dk_at dksX14_isWhite_0 12 rfl rfl)
theorem dX14_isWhite_14 : decode cX14_isWhite 14 = .ok (.if_icmp .ne 7, 3) := dk_160 0 7 (dk_at dksX14_isWhite_0 14 rfl rfl)
theorem dX14_isWhite_17 : decode cX14_isWhite 17 = .ok (.iconst 1, 1) := dk_4 (dk_at dksX14_isWhite_0 17 rfl rfl)
theorem dX14_isWhite_18 : decode cX14_isWhite 18 = .ok (.goto 4, 3) := dk_167 0 4 (dk_at dksX14_isWhite_0 18 rfl rfl)
theorem dX14_isWhite_21 : decode cX14_isWhite 21 = .ok (.iconst 0, 1) := dk_3 (dk_at dksX14_isWhite_0 21 rfl rfl)
theorem dX14_isWhite_22 : decode cX14_isWhite 22 = .ok (.ireturn, 1) := dk_172 (dk_at dksX14_isWhite_0 22 rfl rfl)
abbrev cX14_skipLine : ByteArray := prog_15_method_21_code
def yX14_skipLine : MethodName := ⟨RX14, "skipLine", "(I)I"⟩
def dkwX14_skipLine_3 : List UInt8 := [160, 0, 9, 28, 5, 96, 167, 0, 4, 28, 172]
abbrev dktX14_skipLine_3 : List UInt8 := dkwX14_skipLine_3 ++ []
def dkwX14_skipLine_2 : List UInt8 := [159, 0, 9, 132, 2, 1, 167, 255, 208, 28, 42, 180, 1, 103, 162, 0, 19, 42, 28, 182, 1, 146, 16, 45]
abbrev dktX14_skipLine_2 : List UInt8 := dkwX14_skipLine_2 ++ dktX14_skipLine_3
def dkwX14_skipLine_1 : List UInt8 := [154, 0, 31, 42, 28, 182, 1, 146, 16, 45, 160, 0, 15, 42, 28, 4, 96, 182, 1, 146, 16, 45]
abbrev dktX14_skipLine_1 : List UInt8 := dkwX14_skipLine_1 ++ dktX14_skipLine_2
def dkwX14_skipLine_0 : List UInt8 := [27, 61, 28, 42, 180, 1, 103, 162, 0, 46, 42, 28, 182, 1, 146, 16, 10, 16, 13, 184, 1, 132]
abbrev dktX14_skipLine_0 : List UInt8 := dkwX14_skipLine_0 ++ dktX14_skipLine_1
theorem dksX14_skipLine_0 : cX14_skipLine.data.toList.drop 0 = dktX14_skipLine_0 := by decide +kernel
theorem dksX14_skipLine_1 : cX14_skipLine.data.toList.drop 22 = dktX14_skipLine_1 := dk_seg dksX14_skipLine_0 22 rfl rfl
theorem dksX14_skipLine_2 : cX14_skipLine.data.toList.drop 44 = dktX14_skipLine_2 := dk_seg dksX14_skipLine_1 22 rfl rfl
theorem dksX14_skipLine_3 : cX14_skipLine.data.toList.drop 68 = dktX14_skipLine_3 := dk_seg dksX14_skipLine_2 24 rfl rfl
theorem dX14_skipLine_0 : decode cX14_skipLine 0 = .ok (.iload_n 1, 1) := dk_27 (dk_at dksX14_skipLine_0 0 rfl rfl)
theorem dX14_skipLine_1 : decode cX14_skipLine 1 = .ok (.istore_n 2, 1) := dk_61 (dk_at dksX14_skipLine_0 1 rfl rfl)
theorem dX14_skipLine_2 : decode cX14_skipLine 2 = .ok (.iload_n 2, 1) := dk_28 (dk_at dksX14_skipLine_0 2 rfl rfl)
theorem dX14_skipLine_3 : decode cX14_skipLine 3 = .ok (.aload_n 0, 1) := dk_42 (dk_at dksX14_skipLine_0 3 rfl rfl)
theorem dX14_skipLine_4 : decode cX14_skipLine 4 = .ok (.getfield 359, 3) := dk_180 1 103 (dk_at dksX14_skipLine_0 4 rfl rfl)
theorem dX14_skipLine_7 : decode cX14_skipLine 7 = .ok (.if_icmp .ge 46, 3) := dk_162 0 46 (dk_at dksX14_skipLine_0 7 rfl rfl)
theorem dX14_skipLine_10 : decode cX14_skipLine 10 = .ok (.aload_n 0, 1) := dk_42 (dk_at dksX14_skipLine_0 10 rfl rfl)
theorem dX14_skipLine_11 : decode cX14_skipLine 11 = .ok (.iload_n 2, 1) := dk_28 (dk_at dksX14_skipLine_0 11 rfl rfl)
theorem dX14_skipLine_12 : decode cX14_skipLine 12 = .ok (.invokevirtual 402, 3) := dk_182 1 146 (dk_at dksX14_skipLine_0 12 rfl rfl)
theorem dX14_skipLine_15 : decode cX14_skipLine 15 = .ok (.bipush 10, 2) := dk_16 10 (dk_at dksX14_skipLine_0 15 rfl rfl)
theorem dX14_skipLine_17 : decode cX14_skipLine 17 = .ok (.bipush 13, 2) := dk_16 13 (dk_at dksX14_skipLine_0 17 rfl rfl)
theorem dX14_skipLine_19 : decode cX14_skipLine 19 = .ok (.invokestatic 388, 3) := dk_184 1 132 (dk_at dksX14_skipLine_0 19 rfl rfl)
theorem dX14_skipLine_22 : decode cX14_skipLine 22 = .ok (.ifCond .ne 31, 3) := dk_154 0 31 (dk_at dksX14_skipLine_1 0 rfl rfl)
theorem dX14_skipLine_25 : decode cX14_skipLine 25 = .ok (.aload_n 0, 1) := dk_42 (dk_at dksX14_skipLine_1 3 rfl rfl)
theorem dX14_skipLine_26 : decode cX14_skipLine 26 = .ok (.iload_n 2, 1) := dk_28 (dk_at dksX14_skipLine_1 4 rfl rfl)
theorem dX14_skipLine_27 : decode cX14_skipLine 27 = .ok (.invokevirtual 402, 3) := dk_182 1 146 (dk_at dksX14_skipLine_1 5 rfl rfl)
theorem dX14_skipLine_30 : decode cX14_skipLine 30 = .ok (.bipush 45, 2) := dk_16 45 (dk_at dksX14_skipLine_1 8 rfl rfl)
theorem dX14_skipLine_32 : decode cX14_skipLine 32 = .ok (.if_icmp .ne 15, 3) := dk_160 0 15 (dk_at dksX14_skipLine_1 10 rfl rfl)
theorem dX14_skipLine_35 : decode cX14_skipLine 35 = .ok (.aload_n 0, 1) := dk_42 (dk_at dksX14_skipLine_1 13 rfl rfl)
theorem dX14_skipLine_36 : decode cX14_skipLine 36 = .ok (.iload_n 2, 1) := dk_28 (dk_at dksX14_skipLine_1 14 rfl rfl)
theorem dX14_skipLine_37 : decode cX14_skipLine 37 = .ok (.iconst 1, 1) := dk_4 (dk_at dksX14_skipLine_1 15 rfl rfl)
theorem dX14_skipLine_38 : decode cX14_skipLine 38 = .ok (.iadd, 1) := dk_96 (dk_at dksX14_skipLine_1 16 rfl rfl)
theorem dX14_skipLine_39 : decode cX14_skipLine 39 = .ok (.invokevirtual 402, 3) := dk_182 1 146 (dk_at dksX14_skipLine_1 17 rfl rfl)
theorem dX14_skipLine_42 : decode cX14_skipLine 42 = .ok (.bipush 45, 2) := dk_16 45 (dk_at dksX14_skipLine_1 20 rfl rfl)
theorem dX14_skipLine_44 : decode cX14_skipLine 44 = .ok (.if_icmp .eq 9, 3) := dk_159 0 9 (dk_at dksX14_skipLine_2 0 rfl rfl)
theorem dX14_skipLine_47 : decode cX14_skipLine 47 = .ok (.iinc 2 1, 3) := dk_132 2 1 (dk_at dksX14_skipLine_2 3 rfl rfl)
theorem dX14_skipLine_50 : decode cX14_skipLine 50 = .ok (.goto (-48), 3) := dk_167 255 208 (dk_at dksX14_skipLine_2 6 rfl rfl)
theorem dX14_skipLine_53 : decode cX14_skipLine 53 = .ok (.iload_n 2, 1) := dk_28 (dk_at dksX14_skipLine_2 9 rfl rfl)
theorem dX14_skipLine_54 : decode cX14_skipLine 54 = .ok (.aload_n 0, 1) := dk_42 (dk_at dksX14_skipLine_2 10 rfl rfl)
theorem dX14_skipLine_55 : decode cX14_skipLine 55 = .ok (.getfield 359, 3) := dk_180 1 103 (dk_at dksX14_skipLine_2 11 rfl rfl)
theorem dX14_skipLine_58 : decode cX14_skipLine 58 = .ok (.if_icmp .ge 19, 3) := dk_162 0 19 (dk_at dksX14_skipLine_2 14 rfl rfl)
theorem dX14_skipLine_61 : decode cX14_skipLine 61 = .ok (.aload_n 0, 1) := dk_42 (dk_at dksX14_skipLine_2 17 rfl rfl)
theorem dX14_skipLine_62 : decode cX14_skipLine 62 = .ok (.iload_n 2, 1) := dk_28 (dk_at dksX14_skipLine_2 18 rfl rfl)
theorem dX14_skipLine_63 : decode cX14_skipLine 63 = .ok (.invokevirtual 402, 3) := dk_182 1 146 (dk_at dksX14_skipLine_2 19 rfl rfl)
theorem dX14_skipLine_66 : decode cX14_skipLine 66 = .ok (.bipush 45, 2) := dk_16 45 (dk_at dksX14_skipLine_2 22 rfl rfl)
theorem dX14_skipLine_68 : decode cX14_skipLine 68 = .ok (.if_icmp .ne 9, 3) := dk_160 0 9 (dk_at dksX14_skipLine_3 0 rfl rfl)
theorem dX14_skipLine_71 : decode cX14_skipLine 71 = .ok (.iload_n 2, 1) := dk_28 (dk_at dksX14_skipLine_3 3 rfl rfl)
theorem dX14_skipLine_72 : decode cX14_skipLine 72 = .ok (.iconst 2, 1) := dk_5 (dk_at dksX14_skipLine_3 4 rfl rfl)
theorem dX14_skipLine_73 : decode cX14_skipLine 73 = .ok (.iadd, 1) := dk_96 (dk_at dksX14_skipLine_3 5 rfl rfl)
theorem dX14_skipLine_74 : decode cX14_skipLine 74 = .ok (.goto 4, 3) := dk_167 0 4 (dk_at dksX14_skipLine_3 6 rfl rfl)
theorem dX14_skipLine_77 : decode cX14_skipLine 77 = .ok (.iload_n 2, 1) := dk_28 (dk_at dksX14_skipLine_3 9 rfl rfl)
theorem dX14_skipLine_78 : decode cX14_skipLine 78 = .ok (.ireturn, 1) := dk_172 (dk_at dksX14_skipLine_3 10 rfl rfl)
abbrev cX14_skipStars : ByteArray := prog_15_method_22_code
def yX14_skipStars : MethodName := ⟨RX14, "skipStars", "(I)I"⟩
def dkwX14_skipStars_4 : List UInt8 := [27, 182, 1, 158, 28, 172]
abbrev dktX14_skipStars_4 : List UInt8 := dkwX14_skipStars_4 ++ []
def dkwX14_skipStars_3 : List UInt8 := [160, 0, 12, 132, 3, 255, 132, 2, 2, 167, 255, 185, 132, 2, 1, 167, 255, 179, 29, 158, 0, 9, 42, 4]
abbrev dktX14_skipStars_3 : List UInt8 := dkwX14_skipStars_3 ++ dktX14_skipStars_4
def dkwX14_skipStars_2 : List UInt8 := [167, 255, 216, 42, 28, 182, 1, 146, 16, 42, 160, 0, 24, 42, 28, 4, 96, 182, 1, 146, 16, 47]
abbrev dktX14_skipStars_2 : List UInt8 := dkwX14_skipStars_2 ++ dktX14_skipStars_3
def dkwX14_skipStars_1 : List UInt8 := [16, 47, 160, 0, 24, 42, 28, 4, 96, 182, 1, 146, 16, 42, 160, 0, 12, 132, 3, 1, 132, 2, 2]
abbrev dktX14_skipStars_1 : List UInt8 := dkwX14_skipStars_1 ++ dktX14_skipStars_2
def dkwX14_skipStars_0 : List UInt8 := [27, 5, 96, 61, 4, 62, 29, 158, 0, 79, 28, 42, 180, 1, 103, 162, 0, 71, 42, 28, 182, 1, 146]
abbrev dktX14_skipStars_0 : List UInt8 := dkwX14_skipStars_0 ++ dktX14_skipStars_1
theorem dksX14_skipStars_0 : cX14_skipStars.data.toList.drop 0 = dktX14_skipStars_0 := by decide +kernel
theorem dksX14_skipStars_1 : cX14_skipStars.data.toList.drop 23 = dktX14_skipStars_1 := dk_seg dksX14_skipStars_0 23 rfl rfl
theorem dksX14_skipStars_2 : cX14_skipStars.data.toList.drop 46 = dktX14_skipStars_2 := dk_seg dksX14_skipStars_1 23 rfl rfl
theorem dksX14_skipStars_3 : cX14_skipStars.data.toList.drop 68 = dktX14_skipStars_3 := dk_seg dksX14_skipStars_2 22 rfl rfl
theorem dksX14_skipStars_4 : cX14_skipStars.data.toList.drop 92 = dktX14_skipStars_4 := dk_seg dksX14_skipStars_3 24 rfl rfl
theorem dX14_skipStars_0 : decode cX14_skipStars 0 = .ok (.iload_n 1, 1) := dk_27 (dk_at dksX14_skipStars_0 0 rfl rfl)
theorem dX14_skipStars_1 : decode cX14_skipStars 1 = .ok (.iconst 2, 1) := dk_5 (dk_at dksX14_skipStars_0 1 rfl rfl)
theorem dX14_skipStars_2 : decode cX14_skipStars 2 = .ok (.iadd, 1) := dk_96 (dk_at dksX14_skipStars_0 2 rfl rfl)
theorem dX14_skipStars_3 : decode cX14_skipStars 3 = .ok (.istore_n 2, 1) := dk_61 (dk_at dksX14_skipStars_0 3 rfl rfl)
theorem dX14_skipStars_4 : decode cX14_skipStars 4 = .ok (.iconst 1, 1) := dk_4 (dk_at dksX14_skipStars_0 4 rfl rfl)
theorem dX14_skipStars_5 : decode cX14_skipStars 5 = .ok (.istore_n 3, 1) := dk_62 (dk_at dksX14_skipStars_0 5 rfl rfl)
theorem dX14_skipStars_6 : decode cX14_skipStars 6 = .ok (.iload_n 3, 1) := dk_29 (dk_at dksX14_skipStars_0 6 rfl rfl)
theorem dX14_skipStars_7 : decode cX14_skipStars 7 = .ok (.ifCond .le 79, 3) := dk_158 0 79 (dk_at dksX14_skipStars_0 7 rfl rfl)
theorem dX14_skipStars_10 : decode cX14_skipStars 10 = .ok (.iload_n 2, 1) := dk_28 (dk_at dksX14_skipStars_0 10 rfl rfl)
theorem dX14_skipStars_11 : decode cX14_skipStars 11 = .ok (.aload_n 0, 1) := dk_42 (dk_at dksX14_skipStars_0 11 rfl rfl)
theorem dX14_skipStars_12 : decode cX14_skipStars 12 = .ok (.getfield 359, 3) := dk_180 1 103 (dk_at dksX14_skipStars_0 12 rfl rfl)
theorem dX14_skipStars_15 : decode cX14_skipStars 15 = .ok (.if_icmp .ge 71, 3) := dk_162 0 71 (dk_at dksX14_skipStars_0 15 rfl rfl)
theorem dX14_skipStars_18 : decode cX14_skipStars 18 = .ok (.aload_n 0, 1) := dk_42 (dk_at dksX14_skipStars_0 18 rfl rfl)
theorem dX14_skipStars_19 : decode cX14_skipStars 19 = .ok (.iload_n 2, 1) := dk_28 (dk_at dksX14_skipStars_0 19 rfl rfl)
theorem dX14_skipStars_20 : decode cX14_skipStars 20 = .ok (.invokevirtual 402, 3) := dk_182 1 146 (dk_at dksX14_skipStars_0 20 rfl rfl)
theorem dX14_skipStars_23 : decode cX14_skipStars 23 = .ok (.bipush 47, 2) := dk_16 47 (dk_at dksX14_skipStars_1 0 rfl rfl)
theorem dX14_skipStars_25 : decode cX14_skipStars 25 = .ok (.if_icmp .ne 24, 3) := dk_160 0 24 (dk_at dksX14_skipStars_1 2 rfl rfl)
theorem dX14_skipStars_28 : decode cX14_skipStars 28 = .ok (.aload_n 0, 1) := dk_42 (dk_at dksX14_skipStars_1 5 rfl rfl)
theorem dX14_skipStars_29 : decode cX14_skipStars 29 = .ok (.iload_n 2, 1) := dk_28 (dk_at dksX14_skipStars_1 6 rfl rfl)
theorem dX14_skipStars_30 : decode cX14_skipStars 30 = .ok (.iconst 1, 1) := dk_4 (dk_at dksX14_skipStars_1 7 rfl rfl)
theorem dX14_skipStars_31 : decode cX14_skipStars 31 = .ok (.iadd, 1) := dk_96 (dk_at dksX14_skipStars_1 8 rfl rfl)
theorem dX14_skipStars_32 : decode cX14_skipStars 32 = .ok (.invokevirtual 402, 3) := dk_182 1 146 (dk_at dksX14_skipStars_1 9 rfl rfl)
theorem dX14_skipStars_35 : decode cX14_skipStars 35 = .ok (.bipush 42, 2) := dk_16 42 (dk_at dksX14_skipStars_1 12 rfl rfl)
theorem dX14_skipStars_37 : decode cX14_skipStars 37 = .ok (.if_icmp .ne 12, 3) := dk_160 0 12 (dk_at dksX14_skipStars_1 14 rfl rfl)
theorem dX14_skipStars_40 : decode cX14_skipStars 40 = .ok (.iinc 3 1, 3) := dk_132 3 1 (dk_at dksX14_skipStars_1 17 rfl rfl)
theorem dX14_skipStars_43 : decode cX14_skipStars 43 = .ok (.iinc 2 2, 3) := dk_132 2 2 (dk_at dksX14_skipStars_1 20 rfl rfl)
theorem dX14_skipStars_46 : decode cX14_skipStars 46 = .ok (.goto (-40), 3) := dk_167 255 216 (dk_at dksX14_skipStars_2 0 rfl rfl)
theorem dX14_skipStars_49 : decode cX14_skipStars 49 = .ok (.aload_n 0, 1) := dk_42 (dk_at dksX14_skipStars_2 3 rfl rfl)
theorem dX14_skipStars_50 : decode cX14_skipStars 50 = .ok (.iload_n 2, 1) := dk_28 (dk_at dksX14_skipStars_2 4 rfl rfl)
theorem dX14_skipStars_51 : decode cX14_skipStars 51 = .ok (.invokevirtual 402, 3) := dk_182 1 146 (dk_at dksX14_skipStars_2 5 rfl rfl)
theorem dX14_skipStars_54 : decode cX14_skipStars 54 = .ok (.bipush 42, 2) := dk_16 42 (dk_at dksX14_skipStars_2 8 rfl rfl)
theorem dX14_skipStars_56 : decode cX14_skipStars 56 = .ok (.if_icmp .ne 24, 3) := dk_160 0 24 (dk_at dksX14_skipStars_2 10 rfl rfl)
theorem dX14_skipStars_59 : decode cX14_skipStars 59 = .ok (.aload_n 0, 1) := dk_42 (dk_at dksX14_skipStars_2 13 rfl rfl)
theorem dX14_skipStars_60 : decode cX14_skipStars 60 = .ok (.iload_n 2, 1) := dk_28 (dk_at dksX14_skipStars_2 14 rfl rfl)
theorem dX14_skipStars_61 : decode cX14_skipStars 61 = .ok (.iconst 1, 1) := dk_4 (dk_at dksX14_skipStars_2 15 rfl rfl)
theorem dX14_skipStars_62 : decode cX14_skipStars 62 = .ok (.iadd, 1) := dk_96 (dk_at dksX14_skipStars_2 16 rfl rfl)
theorem dX14_skipStars_63 : decode cX14_skipStars 63 = .ok (.invokevirtual 402, 3) := dk_182 1 146 (dk_at dksX14_skipStars_2 17 rfl rfl)
theorem dX14_skipStars_66 : decode cX14_skipStars 66 = .ok (.bipush 47, 2) := dk_16 47 (dk_at dksX14_skipStars_2 20 rfl rfl)
theorem dX14_skipStars_68 : decode cX14_skipStars 68 = .ok (.if_icmp .ne 12, 3) := dk_160 0 12 (dk_at dksX14_skipStars_3 0 rfl rfl)
theorem dX14_skipStars_71 : decode cX14_skipStars 71 = .ok (.iinc 3 (-1), 3) := dk_132 3 255 (dk_at dksX14_skipStars_3 3 rfl rfl)
theorem dX14_skipStars_74 : decode cX14_skipStars 74 = .ok (.iinc 2 2, 3) := dk_132 2 2 (dk_at dksX14_skipStars_3 6 rfl rfl)
theorem dX14_skipStars_77 : decode cX14_skipStars 77 = .ok (.goto (-71), 3) := dk_167 255 185 (dk_at dksX14_skipStars_3 9 rfl rfl)
theorem dX14_skipStars_80 : decode cX14_skipStars 80 = .ok (.iinc 2 1, 3) := dk_132 2 1 (dk_at dksX14_skipStars_3 12 rfl rfl)
theorem dX14_skipStars_83 : decode cX14_skipStars 83 = .ok (.goto (-77), 3) := dk_167 255 179 (dk_at dksX14_skipStars_3 15 rfl rfl)
theorem dX14_skipStars_86 : decode cX14_skipStars 86 = .ok (.iload_n 3, 1) := dk_29 (dk_at dksX14_skipStars_3 18 rfl rfl)
theorem dX14_skipStars_87 : decode cX14_skipStars 87 = .ok (.ifCond .le 9, 3) := dk_158 0 9 (dk_at dksX14_skipStars_3 19 rfl rfl)
theorem dX14_skipStars_90 : decode cX14_skipStars 90 = .ok (.aload_n 0, 1) := dk_42 (dk_at dksX14_skipStars_3 22 rfl rfl)
theorem dX14_skipStars_91 : decode cX14_skipStars 91 = .ok (.iconst 1, 1) := dk_4 (dk_at dksX14_skipStars_3 23 rfl rfl)
theorem dX14_skipStars_92 : decode cX14_skipStars 92 = .ok (.iload_n 1, 1) := dk_27 (dk_at dksX14_skipStars_4 0 rfl rfl)
theorem dX14_skipStars_93 : decode cX14_skipStars 93 = .ok (.invokevirtual 414, 3) := dk_182 1 158 (dk_at dksX14_skipStars_4 1 rfl rfl)
theorem dX14_skipStars_96 : decode cX14_skipStars 96 = .ok (.iload_n 2, 1) := dk_28 (dk_at dksX14_skipStars_4 4 rfl rfl)
theorem dX14_skipStars_97 : decode cX14_skipStars 97 = .ok (.ireturn, 1) := dk_172 (dk_at dksX14_skipStars_4 5 rfl rfl)
abbrev cX14_tell : ByteArray := prog_15_method_5_code
def yX14_tell : MethodName := ⟨RX14, "tell", "(II)V"⟩
def dkwX14_tell_0 : List UInt8 := [42, 180, 1, 97, 158, 0, 4, 177, 42, 27, 181, 1, 97, 42, 28, 181, 1, 100, 177]
abbrev dktX14_tell_0 : List UInt8 := dkwX14_tell_0 ++ []
theorem dksX14_tell_0 : cX14_tell.data.toList.drop 0 = dktX14_tell_0 := by decide +kernel
theorem dX14_tell_0 : decode cX14_tell 0 = .ok (.aload_n 0, 1) := dk_42 (dk_at dksX14_tell_0 0 rfl rfl)
theorem dX14_tell_1 : decode cX14_tell 1 = .ok (.getfield 353, 3) := dk_180 1 97 (dk_at dksX14_tell_0 1 rfl rfl)
theorem dX14_tell_4 : decode cX14_tell 4 = .ok (.ifCond .le 4, 3) := dk_158 0 4 (dk_at dksX14_tell_0 4 rfl rfl)
theorem dX14_tell_7 : decode cX14_tell 7 = .ok (.return_, 1) := dk_177 (dk_at dksX14_tell_0 7 rfl rfl)
theorem dX14_tell_8 : decode cX14_tell 8 = .ok (.aload_n 0, 1) := dk_42 (dk_at dksX14_tell_0 8 rfl rfl)
theorem dX14_tell_9 : decode cX14_tell 9 = .ok (.iload_n 1, 1) := dk_27 (dk_at dksX14_tell_0 9 rfl rfl)
theorem dX14_tell_10 : decode cX14_tell 10 = .ok (.putfield 353, 3) := dk_181 1 97 (dk_at dksX14_tell_0 10 rfl rfl)
theorem dX14_tell_13 : decode cX14_tell 13 = .ok (.aload_n 0, 1) := dk_42 (dk_at dksX14_tell_0 13 rfl rfl)
theorem dX14_tell_14 : decode cX14_tell 14 = .ok (.iload_n 2, 1) := dk_28 (dk_at dksX14_tell_0 14 rfl rfl)
theorem dX14_tell_15 : decode cX14_tell 15 = .ok (.putfield 356, 3) := dk_181 1 100 (dk_at dksX14_tell_0 15 rfl rfl)
theorem dX14_tell_18 : decode cX14_tell 18 = .ok (.return_, 1) := dk_177 (dk_at dksX14_tell_0 18 rfl rfl)
abbrev cX14_isSmall : ByteArray := prog_15_method_15_code
def yX14_isSmall : MethodName := ⟨RX14, "isSmall", "(I)Z"⟩
def dkwX14_isSmall_0 : List UInt8 := [26, 16, 97, 16, 122, 184, 1, 132, 172]
abbrev dktX14_isSmall_0 : List UInt8 := dkwX14_isSmall_0 ++ []
theorem dksX14_isSmall_0 : cX14_isSmall.data.toList.drop 0 = dktX14_isSmall_0 := by decide +kernel
theorem dX14_isSmall_0 : decode cX14_isSmall 0 = .ok (.iload_n 0, 1) := dk_26 (dk_at dksX14_isSmall_0 0 rfl rfl)
theorem dX14_isSmall_1 : decode cX14_isSmall 1 = .ok (.bipush 97, 2) := dk_16 97 (dk_at dksX14_isSmall_0 1 rfl rfl)
theorem dX14_isSmall_3 : decode cX14_isSmall 3 = .ok (.bipush 122, 2) := dk_16 122 (dk_at dksX14_isSmall_0 3 rfl rfl)
theorem dX14_isSmall_5 : decode cX14_isSmall 5 = .ok (.invokestatic 388, 3) := dk_184 1 132 (dk_at dksX14_isSmall_0 5 rfl rfl)
theorem dX14_isSmall_8 : decode cX14_isSmall 8 = .ok (.ireturn, 1) := dk_172 (dk_at dksX14_isSmall_0 8 rfl rfl)
abbrev cX14_isLarge : ByteArray := prog_15_method_16_code
def yX14_isLarge : MethodName := ⟨RX14, "isLarge", "(I)Z"⟩
def dkwX14_isLarge_0 : List UInt8 := [26, 16, 65, 16, 90, 184, 1, 132, 172]
abbrev dktX14_isLarge_0 : List UInt8 := dkwX14_isLarge_0 ++ []
theorem dksX14_isLarge_0 : cX14_isLarge.data.toList.drop 0 = dktX14_isLarge_0 := by decide +kernel
theorem dX14_isLarge_0 : decode cX14_isLarge 0 = .ok (.iload_n 0, 1) := dk_26 (dk_at dksX14_isLarge_0 0 rfl rfl)
theorem dX14_isLarge_1 : decode cX14_isLarge 1 = .ok (.bipush 65, 2) := dk_16 65 (dk_at dksX14_isLarge_0 1 rfl rfl)
theorem dX14_isLarge_3 : decode cX14_isLarge 3 = .ok (.bipush 90, 2) := dk_16 90 (dk_at dksX14_isLarge_0 3 rfl rfl)
theorem dX14_isLarge_5 : decode cX14_isLarge 5 = .ok (.invokestatic 388, 3) := dk_184 1 132 (dk_at dksX14_isLarge_0 5 rfl rfl)
theorem dX14_isLarge_8 : decode cX14_isLarge 8 = .ok (.ireturn, 1) := dk_172 (dk_at dksX14_isLarge_0 8 rfl rfl)
abbrev cX14_nameEnd : ByteArray := prog_15_method_24_code
def yX14_nameEnd : MethodName := ⟨RX14, "nameEnd", "(I)I"⟩
def dkwX14_nameEnd_1 : List UInt8 := [28, 4, 96, 182, 1, 146, 184, 1, 162, 153, 0, 9, 132, 2, 1, 167, 255, 219, 28, 172]
abbrev dktX14_nameEnd_1 : List UInt8 := dkwX14_nameEnd_1 ++ []
def dkwX14_nameEnd_0 : List UInt8 := [27, 61, 42, 28, 182, 1, 146, 184, 1, 162, 154, 0, 26, 42, 28, 182, 1, 146, 16, 45, 160, 0, 22, 42]
abbrev dktX14_nameEnd_0 : List UInt8 := dkwX14_nameEnd_0 ++ dktX14_nameEnd_1
theorem dksX14_nameEnd_0 : cX14_nameEnd.data.toList.drop 0 = dktX14_nameEnd_0 := by decide +kernel
theorem dksX14_nameEnd_1 : cX14_nameEnd.data.toList.drop 24 = dktX14_nameEnd_1 := dk_seg dksX14_nameEnd_0 24 rfl rfl
theorem dX14_nameEnd_0 : decode cX14_nameEnd 0 = .ok (.iload_n 1, 1) := dk_27 (dk_at dksX14_nameEnd_0 0 rfl rfl)
theorem dX14_nameEnd_1 : decode cX14_nameEnd 1 = .ok (.istore_n 2, 1) := dk_61 (dk_at dksX14_nameEnd_0 1 rfl rfl)
theorem dX14_nameEnd_2 : decode cX14_nameEnd 2 = .ok (.aload_n 0, 1) := dk_42 (dk_at dksX14_nameEnd_0 2 rfl rfl)
theorem dX14_nameEnd_3 : decode cX14_nameEnd 3 = .ok (.iload_n 2, 1) := dk_28 (dk_at dksX14_nameEnd_0 3 rfl rfl)
theorem dX14_nameEnd_4 : decode cX14_nameEnd 4 = .ok (.invokevirtual 402, 3) := dk_182 1 146 (dk_at dksX14_nameEnd_0 4 rfl rfl)
theorem dX14_nameEnd_7 : decode cX14_nameEnd 7 = .ok (.invokestatic 418, 3) := dk_184 1 162 (dk_at dksX14_nameEnd_0 7 rfl rfl)
theorem dX14_nameEnd_10 : decode cX14_nameEnd 10 = .ok (.ifCond .ne 26, 3) := dk_154 0 26 (dk_at dksX14_nameEnd_0 10 rfl rfl)
theorem dX14_nameEnd_13 : decode cX14_nameEnd 13 = .ok (.aload_n 0, 1) := dk_42 (dk_at dksX14_nameEnd_0 13 rfl rfl)
theorem dX14_nameEnd_14 : decode cX14_nameEnd 14 = .ok (.iload_n 2, 1) := dk_28 (dk_at dksX14_nameEnd_0 14 rfl rfl)
theorem dX14_nameEnd_15 : decode cX14_nameEnd 15 = .ok (.invokevirtual 402, 3) := dk_182 1 146 (dk_at dksX14_nameEnd_0 15 rfl rfl)
theorem dX14_nameEnd_18 : decode cX14_nameEnd 18 = .ok (.bipush 45, 2) := dk_16 45 (dk_at dksX14_nameEnd_0 18 rfl rfl)
theorem dX14_nameEnd_20 : decode cX14_nameEnd 20 = .ok (.if_icmp .ne 22, 3) := dk_160 0 22 (dk_at dksX14_nameEnd_0 20 rfl rfl)
theorem dX14_nameEnd_23 : decode cX14_nameEnd 23 = .ok (.aload_n 0, 1) := dk_42 (dk_at dksX14_nameEnd_0 23 rfl rfl)
theorem dX14_nameEnd_24 : decode cX14_nameEnd 24 = .ok (.iload_n 2, 1) := dk_28 (dk_at dksX14_nameEnd_1 0 rfl rfl)
theorem dX14_nameEnd_25 : decode cX14_nameEnd 25 = .ok (.iconst 1, 1) := dk_4 (dk_at dksX14_nameEnd_1 1 rfl rfl)
theorem dX14_nameEnd_26 : decode cX14_nameEnd 26 = .ok (.iadd, 1) := dk_96 (dk_at dksX14_nameEnd_1 2 rfl rfl)
theorem dX14_nameEnd_27 : decode cX14_nameEnd 27 = .ok (.invokevirtual 402, 3) := dk_182 1 146 (dk_at dksX14_nameEnd_1 3 rfl rfl)
theorem dX14_nameEnd_30 : decode cX14_nameEnd 30 = .ok (.invokestatic 418, 3) := dk_184 1 162 (dk_at dksX14_nameEnd_1 6 rfl rfl)
theorem dX14_nameEnd_33 : decode cX14_nameEnd 33 = .ok (.ifCond .eq 9, 3) := dk_153 0 9 (dk_at dksX14_nameEnd_1 9 rfl rfl)
theorem dX14_nameEnd_36 : decode cX14_nameEnd 36 = .ok (.iinc 2 1, 3) := dk_132 2 1 (dk_at dksX14_nameEnd_1 12 rfl rfl)
theorem dX14_nameEnd_39 : decode cX14_nameEnd 39 = .ok (.goto (-37), 3) := dk_167 255 219 (dk_at dksX14_nameEnd_1 15 rfl rfl)
theorem dX14_nameEnd_42 : decode cX14_nameEnd 42 = .ok (.iload_n 2, 1) := dk_28 (dk_at dksX14_nameEnd_1 18 rfl rfl)
theorem dX14_nameEnd_43 : decode cX14_nameEnd 43 = .ok (.ireturn, 1) := dk_172 (dk_at dksX14_nameEnd_1 19 rfl rfl)
abbrev cX14_isNameChar : ByteArray := prog_15_method_18_code
def yX14_isNameChar : MethodName := ⟨RX14, "isNameChar", "(I)Z"⟩
def dkwX14_isNameChar_1 : List UInt8 := [167, 0, 4, 3, 172]
abbrev dktX14_isNameChar_1 : List UInt8 := dkwX14_isNameChar_1 ++ []
def dkwX14_isNameChar_0 : List UInt8 := [26, 184, 1, 136, 154, 0, 17, 26, 184, 1, 140, 154, 0, 10, 26, 184, 1, 143, 153, 0, 7, 4]
abbrev dktX14_isNameChar_0 : List UInt8 := dkwX14_isNameChar_0 ++ dktX14_isNameChar_1
theorem dksX14_isNameChar_0 : cX14_isNameChar.data.toList.drop 0 = dktX14_isNameChar_0 := by decide +kernel
theorem dksX14_isNameChar_1 : cX14_isNameChar.data.toList.drop 22 = dktX14_isNameChar_1 := dk_seg dksX14_isNameChar_0 22 rfl rfl
theorem dX14_isNameChar_0 : decode cX14_isNameChar 0 = .ok (.iload_n 0, 1) := dk_26 (dk_at dksX14_isNameChar_0 0 rfl rfl)
theorem dX14_isNameChar_1 : decode cX14_isNameChar 1 = .ok (.invokestatic 392, 3) := dk_184 1 136 (dk_at dksX14_isNameChar_0 1 rfl rfl)
theorem dX14_isNameChar_4 : decode cX14_isNameChar 4 = .ok (.ifCond .ne 17, 3) := dk_154 0 17 (dk_at dksX14_isNameChar_0 4 rfl rfl)
theorem dX14_isNameChar_7 : decode cX14_isNameChar 7 = .ok (.iload_n 0, 1) := dk_26 (dk_at dksX14_isNameChar_0 7 rfl rfl)
theorem dX14_isNameChar_8 : decode cX14_isNameChar 8 = .ok (.invokestatic 396, 3) := dk_184 1 140 (dk_at dksX14_isNameChar_0 8 rfl rfl)
theorem dX14_isNameChar_11 : decode cX14_isNameChar 11 = .ok (.ifCond .ne 10, 3) := dk_154 0 10 (dk_at dksX14_isNameChar_0 11 rfl rfl)
theorem dX14_isNameChar_14 : decode cX14_isNameChar 14 = .ok (.iload_n 0, 1) := dk_26 (dk_at dksX14_isNameChar_0 14 rfl rfl)
theorem dX14_isNameChar_15 : decode cX14_isNameChar 15 = .ok (.invokestatic 399, 3) := dk_184 1 143 (dk_at dksX14_isNameChar_0 15 rfl rfl)
theorem dX14_isNameChar_18 : decode cX14_isNameChar 18 = .ok (.ifCond .eq 7, 3) := dk_153 0 7 (dk_at dksX14_isNameChar_0 18 rfl rfl)
theorem dX14_isNameChar_21 : decode cX14_isNameChar 21 = .ok (.iconst 1, 1) := dk_4 (dk_at dksX14_isNameChar_0 21 rfl rfl)
theorem dX14_isNameChar_22 : decode cX14_isNameChar 22 = .ok (.goto 4, 3) := dk_167 0 4 (dk_at dksX14_isNameChar_1 0 rfl rfl)
theorem dX14_isNameChar_25 : decode cX14_isNameChar 25 = .ok (.iconst 0, 1) := dk_3 (dk_at dksX14_isNameChar_1 3 rfl rfl)
theorem dX14_isNameChar_26 : decode cX14_isNameChar 26 = .ok (.ireturn, 1) := dk_172 (dk_at dksX14_isNameChar_1 4 rfl rfl)
abbrev cX14_isDigit : ByteArray := prog_15_method_17_code
def yX14_isDigit : MethodName := ⟨RX14, "isDigit", "(I)Z"⟩
def dkwX14_isDigit_0 : List UInt8 := [26, 16, 48, 16, 57, 184, 1, 132, 172]
abbrev dktX14_isDigit_0 : List UInt8 := dkwX14_isDigit_0 ++ []
theorem dksX14_isDigit_0 : cX14_isDigit.data.toList.drop 0 = dktX14_isDigit_0 := by decide +kernel
theorem dX14_isDigit_0 : decode cX14_isDigit 0 = .ok (.iload_n 0, 1) := dk_26 (dk_at dksX14_isDigit_0 0 rfl rfl)
theorem dX14_isDigit_1 : decode cX14_isDigit 1 = .ok (.bipush 48, 2) := dk_16 48 (dk_at dksX14_isDigit_0 1 rfl rfl)
theorem dX14_isDigit_3 : decode cX14_isDigit 3 = .ok (.bipush 57, 2) := dk_16 57 (dk_at dksX14_isDigit_0 3 rfl rfl)
theorem dX14_isDigit_5 : decode cX14_isDigit 5 = .ok (.invokestatic 388, 3) := dk_184 1 132 (dk_at dksX14_isDigit_0 5 rfl rfl)
theorem dX14_isDigit_8 : decode cX14_isDigit 8 = .ok (.ireturn, 1) := dk_172 (dk_at dksX14_isDigit_0 8 rfl rfl)
abbrev cX14_wordAt : ByteArray := prog_15_method_23_code
def yX14_wordAt : MethodName := ⟨RX14, "wordAt", "(II)I"⟩
def dkwX14_wordAt_4 : List UInt8 := [21, 4, 46, 153, 0, 9, 132, 4, 1, 167, 255, 243, 132, 4, 1, 132, 3, 1, 167, 255, 148, 4, 172]
abbrev dktX14_wordAt_4 : List UInt8 := dkwX14_wordAt_4 ++ []
def dkwX14_wordAt_3 : List UInt8 := [21, 5, 96, 46, 154, 0, 16, 27, 21, 5, 96, 28, 160, 0, 8, 16, 40, 29, 96, 172, 42, 180, 0, 7]
abbrev dktX14_wordAt_3 : List UInt8 := dkwX14_wordAt_3 ++ dktX14_wordAt_4
def dkwX14_wordAt_2 : List UInt8 := [180, 0, 30, 27, 21, 5, 96, 46, 160, 0, 9, 132, 5, 1, 167, 255, 210, 42, 180, 0, 7, 21, 4]
abbrev dktX14_wordAt_2 : List UInt8 := dkwX14_wordAt_2 ++ dktX14_wordAt_3
def dkwX14_wordAt_1 : List UInt8 := [96, 46, 153, 0, 39, 27, 21, 5, 96, 28, 162, 0, 31, 42, 180, 0, 7, 21, 4, 21, 5, 96, 46, 42]
abbrev dktX14_wordAt_1 : List UInt8 := dkwX14_wordAt_1 ++ dktX14_wordAt_2
def dkwX14_wordAt_0 : List UInt8 := [3, 62, 3, 54, 4, 21, 4, 17, 2, 174, 162, 0, 106, 3, 54, 5, 42, 180, 0, 7, 21, 4, 21, 5]
abbrev dktX14_wordAt_0 : List UInt8 := dkwX14_wordAt_0 ++ dktX14_wordAt_1
theorem dksX14_wordAt_0 : cX14_wordAt.data.toList.drop 0 = dktX14_wordAt_0 := by decide +kernel
theorem dksX14_wordAt_1 : cX14_wordAt.data.toList.drop 24 = dktX14_wordAt_1 := dk_seg dksX14_wordAt_0 24 rfl rfl
theorem dksX14_wordAt_2 : cX14_wordAt.data.toList.drop 48 = dktX14_wordAt_2 := dk_seg dksX14_wordAt_1 24 rfl rfl
theorem dksX14_wordAt_3 : cX14_wordAt.data.toList.drop 71 = dktX14_wordAt_3 := dk_seg dksX14_wordAt_2 23 rfl rfl
theorem dksX14_wordAt_4 : cX14_wordAt.data.toList.drop 95 = dktX14_wordAt_4 := dk_seg dksX14_wordAt_3 24 rfl rfl
theorem dX14_wordAt_0 : decode cX14_wordAt 0 = .ok (.iconst 0, 1) := dk_3 (dk_at dksX14_wordAt_0 0 rfl rfl)
theorem dX14_wordAt_1 : decode cX14_wordAt 1 = .ok (.istore_n 3, 1) := dk_62 (dk_at dksX14_wordAt_0 1 rfl rfl)
theorem dX14_wordAt_2 : decode cX14_wordAt 2 = .ok (.iconst 0, 1) := dk_3 (dk_at dksX14_wordAt_0 2 rfl rfl)
theorem dX14_wordAt_3 : decode cX14_wordAt 3 = .ok (.istore 4, 2) := dk_54 4 (dk_at dksX14_wordAt_0 3 rfl rfl)
theorem dX14_wordAt_5 : decode cX14_wordAt 5 = .ok (.iload 4, 2) := dk_21 4 (dk_at dksX14_wordAt_0 5 rfl rfl)
theorem dX14_wordAt_7 : decode cX14_wordAt 7 = .ok (.sipush 686, 3) := dk_17 2 174 (dk_at dksX14_wordAt_0 7 rfl rfl)
theorem dX14_wordAt_10 : decode cX14_wordAt 10 = .ok (.if_icmp .ge 106, 3) := dk_162 0 106 (dk_at dksX14_wordAt_0 10 rfl rfl)
theorem dX14_wordAt_13 : decode cX14_wordAt 13 = .ok (.iconst 0, 1) := dk_3 (dk_at dksX14_wordAt_0 13 rfl rfl)
theorem dX14_wordAt_14 : decode cX14_wordAt 14 = .ok (.istore 5, 2) := dk_54 5 (dk_at dksX14_wordAt_0 14 rfl rfl)
theorem dX14_wordAt_16 : decode cX14_wordAt 16 = .ok (.aload_n 0, 1) := dk_42 (dk_at dksX14_wordAt_0 16 rfl rfl)
theorem dX14_wordAt_17 : decode cX14_wordAt 17 = .ok (.getfield 7, 3) := dk_180 0 7 (dk_at dksX14_wordAt_0 17 rfl rfl)
theorem dX14_wordAt_20 : decode cX14_wordAt 20 = .ok (.iload 4, 2) := dk_21 4 (dk_at dksX14_wordAt_0 20 rfl rfl)
theorem dX14_wordAt_22 : decode cX14_wordAt 22 = .ok (.iload 5, 2) := dk_21 5 (dk_at dksX14_wordAt_0 22 rfl rfl)
theorem dX14_wordAt_24 : decode cX14_wordAt 24 = .ok (.iadd, 1) := dk_96 (dk_at dksX14_wordAt_1 0 rfl rfl)
theorem dX14_wordAt_25 : decode cX14_wordAt 25 = .ok (.iaload, 1) := dk_46 (dk_at dksX14_wordAt_1 1 rfl rfl)
theorem dX14_wordAt_26 : decode cX14_wordAt 26 = .ok (.ifCond .eq 39, 3) := dk_153 0 39 (dk_at dksX14_wordAt_1 2 rfl rfl)
theorem dX14_wordAt_29 : decode cX14_wordAt 29 = .ok (.iload_n 1, 1) := dk_27 (dk_at dksX14_wordAt_1 5 rfl rfl)
theorem dX14_wordAt_30 : decode cX14_wordAt 30 = .ok (.iload 5, 2) := dk_21 5 (dk_at dksX14_wordAt_1 6 rfl rfl)
theorem dX14_wordAt_32 : decode cX14_wordAt 32 = .ok (.iadd, 1) := dk_96 (dk_at dksX14_wordAt_1 8 rfl rfl)
theorem dX14_wordAt_33 : decode cX14_wordAt 33 = .ok (.iload_n 2, 1) := dk_28 (dk_at dksX14_wordAt_1 9 rfl rfl)
theorem dX14_wordAt_34 : decode cX14_wordAt 34 = .ok (.if_icmp .ge 31, 3) := dk_162 0 31 (dk_at dksX14_wordAt_1 10 rfl rfl)
theorem dX14_wordAt_37 : decode cX14_wordAt 37 = .ok (.aload_n 0, 1) := dk_42 (dk_at dksX14_wordAt_1 13 rfl rfl)
theorem dX14_wordAt_38 : decode cX14_wordAt 38 = .ok (.getfield 7, 3) := dk_180 0 7 (dk_at dksX14_wordAt_1 14 rfl rfl)
theorem dX14_wordAt_41 : decode cX14_wordAt 41 = .ok (.iload 4, 2) := dk_21 4 (dk_at dksX14_wordAt_1 17 rfl rfl)
theorem dX14_wordAt_43 : decode cX14_wordAt 43 = .ok (.iload 5, 2) := dk_21 5 (dk_at dksX14_wordAt_1 19 rfl rfl)
theorem dX14_wordAt_45 : decode cX14_wordAt 45 = .ok (.iadd, 1) := dk_96 (dk_at dksX14_wordAt_1 21 rfl rfl)
theorem dX14_wordAt_46 : decode cX14_wordAt 46 = .ok (.iaload, 1) := dk_46 (dk_at dksX14_wordAt_1 22 rfl rfl)
theorem dX14_wordAt_47 : decode cX14_wordAt 47 = .ok (.aload_n 0, 1) := dk_42 (dk_at dksX14_wordAt_1 23 rfl rfl)
theorem dX14_wordAt_48 : decode cX14_wordAt 48 = .ok (.getfield 30, 3) := dk_180 0 30 (dk_at dksX14_wordAt_2 0 rfl rfl)
theorem dX14_wordAt_51 : decode cX14_wordAt 51 = .ok (.iload_n 1, 1) := dk_27 (dk_at dksX14_wordAt_2 3 rfl rfl)
theorem dX14_wordAt_52 : decode cX14_wordAt 52 = .ok (.iload 5, 2) := dk_21 5 (dk_at dksX14_wordAt_2 4 rfl rfl)
theorem dX14_wordAt_54 : decode cX14_wordAt 54 = .ok (.iadd, 1) := dk_96 (dk_at dksX14_wordAt_2 6 rfl rfl)
theorem dX14_wordAt_55 : decode cX14_wordAt 55 = .ok (.iaload, 1) := dk_46 (dk_at dksX14_wordAt_2 7 rfl rfl)
theorem dX14_wordAt_56 : decode cX14_wordAt 56 = .ok (.if_icmp .ne 9, 3) := dk_160 0 9 (dk_at dksX14_wordAt_2 8 rfl rfl)
theorem dX14_wordAt_59 : decode cX14_wordAt 59 = .ok (.iinc 5 1, 3) := dk_132 5 1 (dk_at dksX14_wordAt_2 11 rfl rfl)
theorem dX14_wordAt_62 : decode cX14_wordAt 62 = .ok (.goto (-46), 3) := dk_167 255 210 (dk_at dksX14_wordAt_2 14 rfl rfl)
theorem dX14_wordAt_65 : decode cX14_wordAt 65 = .ok (.aload_n 0, 1) := dk_42 (dk_at dksX14_wordAt_2 17 rfl rfl)
theorem dX14_wordAt_66 : decode cX14_wordAt 66 = .ok (.getfield 7, 3) := dk_180 0 7 (dk_at dksX14_wordAt_2 18 rfl rfl)
theorem dX14_wordAt_69 : decode cX14_wordAt 69 = .ok (.iload 4, 2) := dk_21 4 (dk_at dksX14_wordAt_2 21 rfl rfl)
theorem dX14_wordAt_71 : decode cX14_wordAt 71 = .ok (.iload 5, 2) := dk_21 5 (dk_at dksX14_wordAt_3 0 rfl rfl)
theorem dX14_wordAt_73 : decode cX14_wordAt 73 = .ok (.iadd, 1) := dk_96 (dk_at dksX14_wordAt_3 2 rfl rfl)
theorem dX14_wordAt_74 : decode cX14_wordAt 74 = .ok (.iaload, 1) := dk_46 (dk_at dksX14_wordAt_3 3 rfl rfl)
theorem dX14_wordAt_75 : decode cX14_wordAt 75 = .ok (.ifCond .ne 16, 3) := dk_154 0 16 (dk_at dksX14_wordAt_3 4 rfl rfl)
theorem dX14_wordAt_78 : decode cX14_wordAt 78 = .ok (.iload_n 1, 1) := dk_27 (dk_at dksX14_wordAt_3 7 rfl rfl)
theorem dX14_wordAt_79 : decode cX14_wordAt 79 = .ok (.iload 5, 2) := dk_21 5 (dk_at dksX14_wordAt_3 8 rfl rfl)
theorem dX14_wordAt_81 : decode cX14_wordAt 81 = .ok (.iadd, 1) := dk_96 (dk_at dksX14_wordAt_3 10 rfl rfl)
theorem dX14_wordAt_82 : decode cX14_wordAt 82 = .ok (.iload_n 2, 1) := dk_28 (dk_at dksX14_wordAt_3 11 rfl rfl)
theorem dX14_wordAt_83 : decode cX14_wordAt 83 = .ok (.if_icmp .ne 8, 3) := dk_160 0 8 (dk_at dksX14_wordAt_3 12 rfl rfl)
theorem dX14_wordAt_86 : decode cX14_wordAt 86 = .ok (.bipush 40, 2) := dk_16 40 (dk_at dksX14_wordAt_3 15 rfl rfl)
theorem dX14_wordAt_88 : decode cX14_wordAt 88 = .ok (.iload_n 3, 1) := dk_29 (dk_at dksX14_wordAt_3 17 rfl rfl)
theorem dX14_wordAt_89 : decode cX14_wordAt 89 = .ok (.iadd, 1) := dk_96 (dk_at dksX14_wordAt_3 18 rfl rfl)
theorem dX14_wordAt_90 : decode cX14_wordAt 90 = .ok (.ireturn, 1) := dk_172 (dk_at dksX14_wordAt_3 19 rfl rfl)
theorem dX14_wordAt_91 : decode cX14_wordAt 91 = .ok (.aload_n 0, 1) := dk_42 (dk_at dksX14_wordAt_3 20 rfl rfl)
theorem dX14_wordAt_92 : decode cX14_wordAt 92 = .ok (.getfield 7, 3) := dk_180 0 7 (dk_at dksX14_wordAt_3 21 rfl rfl)
theorem dX14_wordAt_95 : decode cX14_wordAt 95 = .ok (.iload 4, 2) := dk_21 4 (dk_at dksX14_wordAt_4 0 rfl rfl)
theorem dX14_wordAt_97 : decode cX14_wordAt 97 = .ok (.iaload, 1) := dk_46 (dk_at dksX14_wordAt_4 2 rfl rfl)
theorem dX14_wordAt_98 : decode cX14_wordAt 98 = .ok (.ifCond .eq 9, 3) := dk_153 0 9 (dk_at dksX14_wordAt_4 3 rfl rfl)
theorem dX14_wordAt_101 : decode cX14_wordAt 101 = .ok (.iinc 4 1, 3) := dk_132 4 1 (dk_at dksX14_wordAt_4 6 rfl rfl)
theorem dX14_wordAt_104 : decode cX14_wordAt 104 = .ok (.goto (-13), 3) := dk_167 255 243 (dk_at dksX14_wordAt_4 9 rfl rfl)
theorem dX14_wordAt_107 : decode cX14_wordAt 107 = .ok (.iinc 4 1, 3) := dk_132 4 1 (dk_at dksX14_wordAt_4 12 rfl rfl)
theorem dX14_wordAt_110 : decode cX14_wordAt 110 = .ok (.iinc 3 1, 3) := dk_132 3 1 (dk_at dksX14_wordAt_4 15 rfl rfl)
theorem dX14_wordAt_113 : decode cX14_wordAt 113 = .ok (.goto (-108), 3) := dk_167 255 148 (dk_at dksX14_wordAt_4 18 rfl rfl)
theorem dX14_wordAt_116 : decode cX14_wordAt 116 = .ok (.iconst 1, 1) := dk_4 (dk_at dksX14_wordAt_4 21 rfl rfl)
theorem dX14_wordAt_117 : decode cX14_wordAt 117 = .ok (.ireturn, 1) := dk_172 (dk_at dksX14_wordAt_4 22 rfl rfl)
abbrev cX14_numberEnd : ByteArray := prog_15_method_27_code
def yX14_numberEnd : MethodName := ⟨RX14, "numberEnd", "(I)I"⟩
def dkwX14_numberEnd_1 : List UInt8 := [16, 48, 160, 0, 16, 28, 27, 4, 96, 164, 0, 9, 42, 4, 27, 182, 1, 158, 28, 172]
abbrev dktX14_numberEnd_1 : List UInt8 := dkwX14_numberEnd_1 ++ []
def dkwX14_numberEnd_0 : List UInt8 := [27, 61, 42, 28, 182, 1, 146, 184, 1, 143, 153, 0, 9, 132, 2, 1, 167, 255, 242, 42, 27, 182, 1, 146]
abbrev dktX14_numberEnd_0 : List UInt8 := dkwX14_numberEnd_0 ++ dktX14_numberEnd_1
theorem dksX14_numberEnd_0 : cX14_numberEnd.data.toList.drop 0 = dktX14_numberEnd_0 := by decide +kernel
theorem dksX14_numberEnd_1 : cX14_numberEnd.data.toList.drop 24 = dktX14_numberEnd_1 := dk_seg dksX14_numberEnd_0 24 rfl rfl
theorem dX14_numberEnd_0 : decode cX14_numberEnd 0 = .ok (.iload_n 1, 1) := dk_27 (dk_at dksX14_numberEnd_0 0 rfl rfl)
theorem dX14_numberEnd_1 : decode cX14_numberEnd 1 = .ok (.istore_n 2, 1) := dk_61 (dk_at dksX14_numberEnd_0 1 rfl rfl)
theorem dX14_numberEnd_2 : decode cX14_numberEnd 2 = .ok (.aload_n 0, 1) := dk_42 (dk_at dksX14_numberEnd_0 2 rfl rfl)
theorem dX14_numberEnd_3 : decode cX14_numberEnd 3 = .ok (.iload_n 2, 1) := dk_28 (dk_at dksX14_numberEnd_0 3 rfl rfl)
theorem dX14_numberEnd_4 : decode cX14_numberEnd 4 = .ok (.invokevirtual 402, 3) := dk_182 1 146 (dk_at dksX14_numberEnd_0 4 rfl rfl)
theorem dX14_numberEnd_7 : decode cX14_numberEnd 7 = .ok (.invokestatic 399, 3) := dk_184 1 143 (dk_at dksX14_numberEnd_0 7 rfl rfl)
theorem dX14_numberEnd_10 : decode cX14_numberEnd 10 = .ok (.ifCond .eq 9, 3) := dk_153 0 9 (dk_at dksX14_numberEnd_0 10 rfl rfl)
theorem dX14_numberEnd_13 : decode cX14_numberEnd 13 = .ok (.iinc 2 1, 3) := dk_132 2 1 (dk_at dksX14_numberEnd_0 13 rfl rfl)
theorem dX14_numberEnd_16 : decode cX14_numberEnd 16 = .ok (.goto (-14), 3) := dk_167 255 242 (dk_at dksX14_numberEnd_0 16 rfl rfl)
theorem dX14_numberEnd_19 : decode cX14_numberEnd 19 = .ok (.aload_n 0, 1) := dk_42 (dk_at dksX14_numberEnd_0 19 rfl rfl)
theorem dX14_numberEnd_20 : decode cX14_numberEnd 20 = .ok (.iload_n 1, 1) := dk_27 (dk_at dksX14_numberEnd_0 20 rfl rfl)
theorem dX14_numberEnd_21 : decode cX14_numberEnd 21 = .ok (.invokevirtual 402, 3) := dk_182 1 146 (dk_at dksX14_numberEnd_0 21 rfl rfl)
theorem dX14_numberEnd_24 : decode cX14_numberEnd 24 = .ok (.bipush 48, 2) := dk_16 48 (dk_at dksX14_numberEnd_1 0 rfl rfl)
theorem dX14_numberEnd_26 : decode cX14_numberEnd 26 = .ok (.if_icmp .ne 16, 3) := dk_160 0 16 (dk_at dksX14_numberEnd_1 2 rfl rfl)
theorem dX14_numberEnd_29 : decode cX14_numberEnd 29 = .ok (.iload_n 2, 1) := dk_28 (dk_at dksX14_numberEnd_1 5 rfl rfl)
theorem dX14_numberEnd_30 : decode cX14_numberEnd 30 = .ok (.iload_n 1, 1) := dk_27 (dk_at dksX14_numberEnd_1 6 rfl rfl)
theorem dX14_numberEnd_31 : decode cX14_numberEnd 31 = .ok (.iconst 1, 1) := dk_4 (dk_at dksX14_numberEnd_1 7 rfl rfl)
theorem dX14_numberEnd_32 : decode cX14_numberEnd 32 = .ok (.iadd, 1) := dk_96 (dk_at dksX14_numberEnd_1 8 rfl rfl)
theorem dX14_numberEnd_33 : decode cX14_numberEnd 33 = .ok (.if_icmp .le 9, 3) := dk_164 0 9 (dk_at dksX14_numberEnd_1 9 rfl rfl)
theorem dX14_numberEnd_36 : decode cX14_numberEnd 36 = .ok (.aload_n 0, 1) := dk_42 (dk_at dksX14_numberEnd_1 12 rfl rfl)
theorem dX14_numberEnd_37 : decode cX14_numberEnd 37 = .ok (.iconst 1, 1) := dk_4 (dk_at dksX14_numberEnd_1 13 rfl rfl)
theorem dX14_numberEnd_38 : decode cX14_numberEnd 38 = .ok (.iload_n 1, 1) := dk_27 (dk_at dksX14_numberEnd_1 14 rfl rfl)
theorem dX14_numberEnd_39 : decode cX14_numberEnd 39 = .ok (.invokevirtual 414, 3) := dk_182 1 158 (dk_at dksX14_numberEnd_1 15 rfl rfl)
theorem dX14_numberEnd_42 : decode cX14_numberEnd 42 = .ok (.iload_n 2, 1) := dk_28 (dk_at dksX14_numberEnd_1 18 rfl rfl)
theorem dX14_numberEnd_43 : decode cX14_numberEnd 43 = .ok (.ireturn, 1) := dk_172 (dk_at dksX14_numberEnd_1 19 rfl rfl)
abbrev cX14_quoted : ByteArray := prog_15_method_25_code
def yX14_quoted : MethodName := ⟨RX14, "quoted", "(I)I"⟩
def dkwX14_quoted_7 : List UInt8 := [16, 66, 160, 0, 7, 7, 167, 0, 4, 8, 79, 28, 5, 96, 172]
abbrev dktX14_quoted_7 : List UInt8 := dkwX14_quoted_7 ++ []
def dkwX14_quoted_6 : List UInt8 := [182, 1, 158, 42, 180, 0, 33, 42, 180, 1, 111, 21, 4, 153, 0, 19, 42, 28, 4, 96, 182, 1, 146]
abbrev dktX14_quoted_6 : List UInt8 := dkwX14_quoted_6 ++ dktX14_quoted_7
def dkwX14_quoted_5 : List UInt8 := [16, 66, 160, 0, 11, 29, 153, 0, 7, 4, 167, 0, 4, 3, 54, 4, 21, 4, 154, 0, 9, 42, 4, 27]
abbrev dktX14_quoted_5 : List UInt8 := dkwX14_quoted_5 ++ dktX14_quoted_6
def dkwX14_quoted_4 : List UInt8 := [16, 39, 160, 0, 35, 42, 28, 4, 96, 182, 1, 146, 16, 72, 159, 0, 19, 42, 28, 4, 96, 182, 1, 146]
abbrev dktX14_quoted_4 : List UInt8 := dkwX14_quoted_4 ++ dktX14_quoted_5
def dkwX14_quoted_3 : List UInt8 := [184, 1, 132, 153, 0, 7, 4, 167, 0, 4, 3, 62, 132, 2, 1, 167, 255, 180, 42, 28, 182, 1, 146]
abbrev dktX14_quoted_3 : List UInt8 := dkwX14_quoted_3 ++ dktX14_quoted_4
def dkwX14_quoted_2 : List UInt8 := [153, 0, 33, 42, 28, 182, 1, 146, 184, 1, 149, 154, 0, 18, 42, 28, 182, 1, 146, 16, 48, 16, 49]
abbrev dktX14_quoted_2 : List UInt8 := dkwX14_quoted_2 ++ dktX14_quoted_3
def dkwX14_quoted_1 : List UInt8 := [184, 1, 143, 154, 0, 18, 42, 28, 182, 1, 146, 16, 65, 16, 70, 184, 1, 132, 153, 0, 45, 29]
abbrev dktX14_quoted_1 : List UInt8 := dkwX14_quoted_1 ++ dktX14_quoted_2
def dkwX14_quoted_0 : List UInt8 := [27, 4, 96, 61, 4, 62, 42, 28, 182, 1, 146, 184, 1, 149, 154, 0, 29, 42, 28, 182, 1, 146]
abbrev dktX14_quoted_0 : List UInt8 := dkwX14_quoted_0 ++ dktX14_quoted_1
theorem dksX14_quoted_0 : cX14_quoted.data.toList.drop 0 = dktX14_quoted_0 := by decide +kernel
theorem dksX14_quoted_1 : cX14_quoted.data.toList.drop 22 = dktX14_quoted_1 := dk_seg dksX14_quoted_0 22 rfl rfl
theorem dksX14_quoted_2 : cX14_quoted.data.toList.drop 44 = dktX14_quoted_2 := dk_seg dksX14_quoted_1 22 rfl rfl
theorem dksX14_quoted_3 : cX14_quoted.data.toList.drop 67 = dktX14_quoted_3 := dk_seg dksX14_quoted_2 23 rfl rfl
theorem dksX14_quoted_4 : cX14_quoted.data.toList.drop 90 = dktX14_quoted_4 := dk_seg dksX14_quoted_3 23 rfl rfl
theorem dksX14_quoted_5 : cX14_quoted.data.toList.drop 114 = dktX14_quoted_5 := dk_seg dksX14_quoted_4 24 rfl rfl
theorem dksX14_quoted_6 : cX14_quoted.data.toList.drop 138 = dktX14_quoted_6 := dk_seg dksX14_quoted_5 24 rfl rfl
theorem dksX14_quoted_7 : cX14_quoted.data.toList.drop 161 = dktX14_quoted_7 := dk_seg dksX14_quoted_6 23 rfl rfl
theorem dX14_quoted_0 : decode cX14_quoted 0 = .ok (.iload_n 1, 1) := dk_27 (dk_at dksX14_quoted_0 0 rfl rfl)
theorem dX14_quoted_1 : decode cX14_quoted 1 = .ok (.iconst 1, 1) := dk_4 (dk_at dksX14_quoted_0 1 rfl rfl)
theorem dX14_quoted_2 : decode cX14_quoted 2 = .ok (.iadd, 1) := dk_96 (dk_at dksX14_quoted_0 2 rfl rfl)
theorem dX14_quoted_3 : decode cX14_quoted 3 = .ok (.istore_n 2, 1) := dk_61 (dk_at dksX14_quoted_0 3 rfl rfl)
theorem dX14_quoted_4 : decode cX14_quoted 4 = .ok (.iconst 1, 1) := dk_4 (dk_at dksX14_quoted_0 4 rfl rfl)
theorem dX14_quoted_5 : decode cX14_quoted 5 = .ok (.istore_n 3, 1) := dk_62 (dk_at dksX14_quoted_0 5 rfl rfl)
theorem dX14_quoted_6 : decode cX14_quoted 6 = .ok (.aload_n 0, 1) := dk_42 (dk_at dksX14_quoted_0 6 rfl rfl)
theorem dX14_quoted_7 : decode cX14_quoted 7 = .ok (.iload_n 2, 1) := dk_28 (dk_at dksX14_quoted_0 7 rfl rfl)
theorem dX14_quoted_8 : decode cX14_quoted 8 = .ok (.invokevirtual 402, 3) := dk_182 1 146 (dk_at dksX14_quoted_0 8 rfl rfl)
theorem dX14_quoted_11 : decode cX14_quoted 11 = .ok (.invokestatic 405, 3) := dk_184 1 149 (dk_at dksX14_quoted_0 11 rfl rfl)
theorem dX14_quoted_14 : decode cX14_quoted 14 = .ok (.ifCond .ne 29, 3) := dk_154 0 29 (dk_at dksX14_quoted_0 14 rfl rfl)
theorem dX14_quoted_17 : decode cX14_quoted 17 = .ok (.aload_n 0, 1) := dk_42 (dk_at dksX14_quoted_0 17 rfl rfl)
theorem dX14_quoted_18 : decode cX14_quoted 18 = .ok (.iload_n 2, 1) := dk_28 (dk_at dksX14_quoted_0 18 rfl rfl)
theorem dX14_quoted_19 : decode cX14_quoted 19 = .ok (.invokevirtual 402, 3) := dk_182 1 146 (dk_at dksX14_quoted_0 19 rfl rfl)
theorem dX14_quoted_22 : decode cX14_quoted 22 = .ok (.invokestatic 399, 3) := dk_184 1 143 (dk_at dksX14_quoted_1 0 rfl rfl)
theorem dX14_quoted_25 : decode cX14_quoted 25 = .ok (.ifCond .ne 18, 3) := dk_154 0 18 (dk_at dksX14_quoted_1 3 rfl rfl)
theorem dX14_quoted_28 : decode cX14_quoted 28 = .ok (.aload_n 0, 1) := dk_42 (dk_at dksX14_quoted_1 6 rfl rfl)
theorem dX14_quoted_29 : decode cX14_quoted 29 = .ok (.iload_n 2, 1) := dk_28 (dk_at dksX14_quoted_1 7 rfl rfl)
theorem dX14_quoted_30 : decode cX14_quoted 30 = .ok (.invokevirtual 402, 3) := dk_182 1 146 (dk_at dksX14_quoted_1 8 rfl rfl)
theorem dX14_quoted_33 : decode cX14_quoted 33 = .ok (.bipush 65, 2) := dk_16 65 (dk_at dksX14_quoted_1 11 rfl rfl)
theorem dX14_quoted_35 : decode cX14_quoted 35 = .ok (.bipush 70, 2) := dk_16 70 (dk_at dksX14_quoted_1 13 rfl rfl)
theorem dX14_quoted_37 : decode cX14_quoted 37 = .ok (.invokestatic 388, 3) := dk_184 1 132 (dk_at dksX14_quoted_1 15 rfl rfl)
theorem dX14_quoted_40 : decode cX14_quoted 40 = .ok (.ifCond .eq 45, 3) := dk_153 0 45 (dk_at dksX14_quoted_1 18 rfl rfl)
theorem dX14_quoted_43 : decode cX14_quoted 43 = .ok (.iload_n 3, 1) := dk_29 (dk_at dksX14_quoted_1 21 rfl rfl)
theorem dX14_quoted_44 : decode cX14_quoted 44 = .ok (.ifCond .eq 33, 3) := dk_153 0 33 (dk_at dksX14_quoted_2 0 rfl rfl)
theorem dX14_quoted_47 : decode cX14_quoted 47 = .ok (.aload_n 0, 1) := dk_42 (dk_at dksX14_quoted_2 3 rfl rfl)
theorem dX14_quoted_48 : decode cX14_quoted 48 = .ok (.iload_n 2, 1) := dk_28 (dk_at dksX14_quoted_2 4 rfl rfl)
theorem dX14_quoted_49 : decode cX14_quoted 49 = .ok (.invokevirtual 402, 3) := dk_182 1 146 (dk_at dksX14_quoted_2 5 rfl rfl)
theorem dX14_quoted_52 : decode cX14_quoted 52 = .ok (.invokestatic 405, 3) := dk_184 1 149 (dk_at dksX14_quoted_2 8 rfl rfl)
theorem dX14_quoted_55 : decode cX14_quoted 55 = .ok (.ifCond .ne 18, 3) := dk_154 0 18 (dk_at dksX14_quoted_2 11 rfl rfl)
theorem dX14_quoted_58 : decode cX14_quoted 58 = .ok (.aload_n 0, 1) := dk_42 (dk_at dksX14_quoted_2 14 rfl rfl)
theorem dX14_quoted_59 : decode cX14_quoted 59 = .ok (.iload_n 2, 1) := dk_28 (dk_at dksX14_quoted_2 15 rfl rfl)
theorem dX14_quoted_60 : decode cX14_quoted 60 = .ok (.invokevirtual 402, 3) := dk_182 1 146 (dk_at dksX14_quoted_2 16 rfl rfl)
theorem dX14_quoted_63 : decode cX14_quoted 63 = .ok (.bipush 48, 2) := dk_16 48 (dk_at dksX14_quoted_2 19 rfl rfl)
theorem dX14_quoted_65 : decode cX14_quoted 65 = .ok (.bipush 49, 2) := dk_16 49 (dk_at dksX14_quoted_2 21 rfl rfl)
theorem dX14_quoted_67 : decode cX14_quoted 67 = .ok (.invokestatic 388, 3) := dk_184 1 132 (dk_at dksX14_quoted_3 0 rfl rfl)
theorem dX14_quoted_70 : decode cX14_quoted 70 = .ok (.ifCond .eq 7, 3) := dk_153 0 7 (dk_at dksX14_quoted_3 3 rfl rfl)
theorem dX14_quoted_73 : decode cX14_quoted 73 = .ok (.iconst 1, 1) := dk_4 (dk_at dksX14_quoted_3 6 rfl rfl)
theorem dX14_quoted_74 : decode cX14_quoted 74 = .ok (.goto 4, 3) := dk_167 0 4 (dk_at dksX14_quoted_3 7 rfl rfl)
theorem dX14_quoted_77 : decode cX14_quoted 77 = .ok (.iconst 0, 1) := dk_3 (dk_at dksX14_quoted_3 10 rfl rfl)
theorem dX14_quoted_78 : decode cX14_quoted 78 = .ok (.istore_n 3, 1) := dk_62 (dk_at dksX14_quoted_3 11 rfl rfl)
theorem dX14_quoted_79 : decode cX14_quoted 79 = .ok (.iinc 2 1, 3) := dk_132 2 1 (dk_at dksX14_quoted_3 12 rfl rfl)
theorem dX14_quoted_82 : decode cX14_quoted 82 = .ok (.goto (-76), 3) := dk_167 255 180 (dk_at dksX14_quoted_3 15 rfl rfl)
theorem dX14_quoted_85 : decode cX14_quoted 85 = .ok (.aload_n 0, 1) := dk_42 (dk_at dksX14_quoted_3 18 rfl rfl)
theorem dX14_quoted_86 : decode cX14_quoted 86 = .ok (.iload_n 2, 1) := dk_28 (dk_at dksX14_quoted_3 19 rfl rfl)
theorem dX14_quoted_87 : decode cX14_quoted 87 = .ok (.invokevirtual 402, 3) := dk_182 1 146 (dk_at dksX14_quoted_3 20 rfl rfl)
theorem dX14_quoted_90 : decode cX14_quoted 90 = .ok (.bipush 39, 2) := dk_16 39 (dk_at dksX14_quoted_4 0 rfl rfl)
theorem dX14_quoted_92 : decode cX14_quoted 92 = .ok (.if_icmp .ne 35, 3) := dk_160 0 35 (dk_at dksX14_quoted_4 2 rfl rfl)
theorem dX14_quoted_95 : decode cX14_quoted 95 = .ok (.aload_n 0, 1) := dk_42 (dk_at dksX14_quoted_4 5 rfl rfl)
theorem dX14_quoted_96 : decode cX14_quoted 96 = .ok (.iload_n 2, 1) := dk_28 (dk_at dksX14_quoted_4 6 rfl rfl)
theorem dX14_quoted_97 : decode cX14_quoted 97 = .ok (.iconst 1, 1) := dk_4 (dk_at dksX14_quoted_4 7 rfl rfl)
theorem dX14_quoted_98 : decode cX14_quoted 98 = .ok (.iadd, 1) := dk_96 (dk_at dksX14_quoted_4 8 rfl rfl)
theorem dX14_quoted_99 : decode cX14_quoted 99 = .ok (.invokevirtual 402, 3) := dk_182 1 146 (dk_at dksX14_quoted_4 9 rfl rfl)
theorem dX14_quoted_102 : decode cX14_quoted 102 = .ok (.bipush 72, 2) := dk_16 72 (dk_at dksX14_quoted_4 12 rfl rfl)
theorem dX14_quoted_104 : decode cX14_quoted 104 = .ok (.if_icmp .eq 19, 3) := dk_159 0 19 (dk_at dksX14_quoted_4 14 rfl rfl)
theorem dX14_quoted_107 : decode cX14_quoted 107 = .ok (.aload_n 0, 1) := dk_42 (dk_at dksX14_quoted_4 17 rfl rfl)
theorem dX14_quoted_108 : decode cX14_quoted 108 = .ok (.iload_n 2, 1) := dk_28 (dk_at dksX14_quoted_4 18 rfl rfl)
theorem dX14_quoted_109 : decode cX14_quoted 109 = .ok (.iconst 1, 1) := dk_4 (dk_at dksX14_quoted_4 19 rfl rfl)
theorem dX14_quoted_110 : decode cX14_quoted 110 = .ok (.iadd, 1) := dk_96 (dk_at dksX14_quoted_4 20 rfl rfl)
theorem dX14_quoted_111 : decode cX14_quoted 111 = .ok (.invokevirtual 402, 3) := dk_182 1 146 (dk_at dksX14_quoted_4 21 rfl rfl)
theorem dX14_quoted_114 : decode cX14_quoted 114 = .ok (.bipush 66, 2) := dk_16 66 (dk_at dksX14_quoted_5 0 rfl rfl)
theorem dX14_quoted_116 : decode cX14_quoted 116 = .ok (.if_icmp .ne 11, 3) := dk_160 0 11 (dk_at dksX14_quoted_5 2 rfl rfl)
theorem dX14_quoted_119 : decode cX14_quoted 119 = .ok (.iload_n 3, 1) := dk_29 (dk_at dksX14_quoted_5 5 rfl rfl)
theorem dX14_quoted_120 : decode cX14_quoted 120 = .ok (.ifCond .eq 7, 3) := dk_153 0 7 (dk_at dksX14_quoted_5 6 rfl rfl)
theorem dX14_quoted_123 : decode cX14_quoted 123 = .ok (.iconst 1, 1) := dk_4 (dk_at dksX14_quoted_5 9 rfl rfl)
theorem dX14_quoted_124 : decode cX14_quoted 124 = .ok (.goto 4, 3) := dk_167 0 4 (dk_at dksX14_quoted_5 10 rfl rfl)
theorem dX14_quoted_127 : decode cX14_quoted 127 = .ok (.iconst 0, 1) := dk_3 (dk_at dksX14_quoted_5 13 rfl rfl)
theorem dX14_quoted_128 : decode cX14_quoted 128 = .ok (.istore 4, 2) := dk_54 4 (dk_at dksX14_quoted_5 14 rfl rfl)
theorem dX14_quoted_130 : decode cX14_quoted 130 = .ok (.iload 4, 2) := dk_21 4 (dk_at dksX14_quoted_5 16 rfl rfl)
theorem dX14_quoted_132 : decode cX14_quoted 132 = .ok (.ifCond .ne 9, 3) := dk_154 0 9 (dk_at dksX14_quoted_5 18 rfl rfl)
theorem dX14_quoted_135 : decode cX14_quoted 135 = .ok (.aload_n 0, 1) := dk_42 (dk_at dksX14_quoted_5 21 rfl rfl)
theorem dX14_quoted_136 : decode cX14_quoted 136 = .ok (.iconst 1, 1) := dk_4 (dk_at dksX14_quoted_5 22 rfl rfl)
theorem dX14_quoted_137 : decode cX14_quoted 137 = .ok (.iload_n 1, 1) := dk_27 (dk_at dksX14_quoted_5 23 rfl rfl)
theorem dX14_quoted_138 : decode cX14_quoted 138 = .ok (.invokevirtual 414, 3) := dk_182 1 158 (dk_at dksX14_quoted_6 0 rfl rfl)
theorem dX14_quoted_141 : decode cX14_quoted 141 = .ok (.aload_n 0, 1) := dk_42 (dk_at dksX14_quoted_6 3 rfl rfl)
theorem dX14_quoted_142 : decode cX14_quoted 142 = .ok (.getfield 33, 3) := dk_180 0 33 (dk_at dksX14_quoted_6 4 rfl rfl)
theorem dX14_quoted_145 : decode cX14_quoted 145 = .ok (.aload_n 0, 1) := dk_42 (dk_at dksX14_quoted_6 7 rfl rfl)
theorem dX14_quoted_146 : decode cX14_quoted 146 = .ok (.getfield 367, 3) := dk_180 1 111 (dk_at dksX14_quoted_6 8 rfl rfl)
theorem dX14_quoted_149 : decode cX14_quoted 149 = .ok (.iload 4, 2) := dk_21 4 (dk_at dksX14_quoted_6 11 rfl rfl)
theorem dX14_quoted_151 : decode cX14_quoted 151 = .ok (.ifCond .eq 19, 3) := dk_153 0 19 (dk_at dksX14_quoted_6 13 rfl rfl)
theorem dX14_quoted_154 : decode cX14_quoted 154 = .ok (.aload_n 0, 1) := dk_42 (dk_at dksX14_quoted_6 16 rfl rfl)
theorem dX14_quoted_155 : decode cX14_quoted 155 = .ok (.iload_n 2, 1) := dk_28 (dk_at dksX14_quoted_6 17 rfl rfl)
theorem dX14_quoted_156 : decode cX14_quoted 156 = .ok (.iconst 1, 1) := dk_4 (dk_at dksX14_quoted_6 18 rfl rfl)
theorem dX14_quoted_157 : decode cX14_quoted 157 = .ok (.iadd, 1) := dk_96 (dk_at dksX14_quoted_6 19 rfl rfl)
theorem dX14_quoted_158 : decode cX14_quoted 158 = .ok (.invokevirtual 402, 3) := dk_182 1 146 (dk_at dksX14_quoted_6 20 rfl rfl)
theorem dX14_quoted_161 : decode cX14_quoted 161 = .ok (.bipush 66, 2) := dk_16 66 (dk_at dksX14_quoted_7 0 rfl rfl)
theorem dX14_quoted_163 : decode cX14_quoted 163 = .ok (.if_icmp .ne 7, 3) := dk_160 0 7 (dk_at dksX14_quoted_7 2 rfl rfl)
theorem dX14_quoted_166 : decode cX14_quoted 166 = .ok (.iconst 4, 1) := dk_7 (dk_at dksX14_quoted_7 5 rfl rfl)
theorem dX14_quoted_167 : decode cX14_quoted 167 = .ok (.goto 4, 3) := dk_167 0 4 (dk_at dksX14_quoted_7 6 rfl rfl)
theorem dX14_quoted_170 : decode cX14_quoted 170 = .ok (.iconst 5, 1) := dk_8 (dk_at dksX14_quoted_7 9 rfl rfl)
theorem dX14_quoted_171 : decode cX14_quoted 171 = .ok (.iastore, 1) := dk_79 (dk_at dksX14_quoted_7 10 rfl rfl)
theorem dX14_quoted_172 : decode cX14_quoted 172 = .ok (.iload_n 2, 1) := dk_28 (dk_at dksX14_quoted_7 11 rfl rfl)
theorem dX14_quoted_173 : decode cX14_quoted 173 = .ok (.iconst 2, 1) := dk_5 (dk_at dksX14_quoted_7 12 rfl rfl)
theorem dX14_quoted_174 : decode cX14_quoted 174 = .ok (.iadd, 1) := dk_96 (dk_at dksX14_quoted_7 13 rfl rfl)
theorem dX14_quoted_175 : decode cX14_quoted 175 = .ok (.ireturn, 1) := dk_172 (dk_at dksX14_quoted_7 14 rfl rfl)
abbrev cX14_textEnd : ByteArray := prog_15_method_26_code
def yX14_textEnd : MethodName := ⟨RX14, "textEnd", "(I)I"⟩
def dkwX14_textEnd_3 : List UInt8 := [159, 0, 9, 42, 4, 27, 182, 1, 158, 28, 4, 96, 172]
abbrev dktX14_textEnd_3 : List UInt8 := dkwX14_textEnd_3 ++ []
def dkwX14_textEnd_2 : List UInt8 := [16, 34, 160, 0, 7, 5, 167, 0, 4, 4, 96, 61, 167, 255, 201, 42, 28, 182, 1, 146, 16, 34]
abbrev dktX14_textEnd_2 : List UInt8 := dkwX14_textEnd_2 ++ dktX14_textEnd_3
def dkwX14_textEnd_1 : List UInt8 := [16, 34, 160, 0, 15, 42, 28, 4, 96, 182, 1, 146, 16, 34, 160, 0, 24, 28, 42, 28, 182, 1, 146]
abbrev dktX14_textEnd_1 : List UInt8 := dkwX14_textEnd_1 ++ dktX14_textEnd_2
def dkwX14_textEnd_0 : List UInt8 := [27, 4, 96, 61, 42, 28, 182, 1, 146, 16, 32, 16, 126, 184, 1, 132, 153, 0, 46, 42, 28, 182, 1, 146]
abbrev dktX14_textEnd_0 : List UInt8 := dkwX14_textEnd_0 ++ dktX14_textEnd_1
theorem dksX14_textEnd_0 : cX14_textEnd.data.toList.drop 0 = dktX14_textEnd_0 := by decide +kernel
theorem dksX14_textEnd_1 : cX14_textEnd.data.toList.drop 24 = dktX14_textEnd_1 := dk_seg dksX14_textEnd_0 24 rfl rfl
theorem dksX14_textEnd_2 : cX14_textEnd.data.toList.drop 47 = dktX14_textEnd_2 := dk_seg dksX14_textEnd_1 23 rfl rfl
theorem dksX14_textEnd_3 : cX14_textEnd.data.toList.drop 69 = dktX14_textEnd_3 := dk_seg dksX14_textEnd_2 22 rfl rfl
theorem dX14_textEnd_0 : decode cX14_textEnd 0 = .ok (.iload_n 1, 1) := dk_27 (dk_at dksX14_textEnd_0 0 rfl rfl)
theorem dX14_textEnd_1 : decode cX14_textEnd 1 = .ok (.iconst 1, 1) := dk_4 (dk_at dksX14_textEnd_0 1 rfl rfl)
theorem dX14_textEnd_2 : decode cX14_textEnd 2 = .ok (.iadd, 1) := dk_96 (dk_at dksX14_textEnd_0 2 rfl rfl)
theorem dX14_textEnd_3 : decode cX14_textEnd 3 = .ok (.istore_n 2, 1) := dk_61 (dk_at dksX14_textEnd_0 3 rfl rfl)
theorem dX14_textEnd_4 : decode cX14_textEnd 4 = .ok (.aload_n 0, 1) := dk_42 (dk_at dksX14_textEnd_0 4 rfl rfl)
theorem dX14_textEnd_5 : decode cX14_textEnd 5 = .ok (.iload_n 2, 1) := dk_28 (dk_at dksX14_textEnd_0 5 rfl rfl)
theorem dX14_textEnd_6 : decode cX14_textEnd 6 = .ok (.invokevirtual 402, 3) := dk_182 1 146 (dk_at dksX14_textEnd_0 6 rfl rfl)
theorem dX14_textEnd_9 : decode cX14_textEnd 9 = .ok (.bipush 32, 2) := dk_16 32 (dk_at dksX14_textEnd_0 9 rfl rfl)
theorem dX14_textEnd_11 : decode cX14_textEnd 11 = .ok (.bipush 126, 2) := dk_16 126 (dk_at dksX14_textEnd_0 11 rfl rfl)
theorem dX14_textEnd_13 : decode cX14_textEnd 13 = .ok (.invokestatic 388, 3) := dk_184 1 132 (dk_at dksX14_textEnd_0 13 rfl rfl)
theorem dX14_textEnd_16 : decode cX14_textEnd 16 = .ok (.ifCond .eq 46, 3) := dk_153 0 46 (dk_at dksX14_textEnd_0 16 rfl rfl)
theorem dX14_textEnd_19 : decode cX14_textEnd 19 = .ok (.aload_n 0, 1) := dk_42 (dk_at dksX14_textEnd_0 19 rfl rfl)
theorem dX14_textEnd_20 : decode cX14_textEnd 20 = .ok (.iload_n 2, 1) := dk_28 (dk_at dksX14_textEnd_0 20 rfl rfl)
theorem dX14_textEnd_21 : decode cX14_textEnd 21 = .ok (.invokevirtual 402, 3) := dk_182 1 146 (dk_at dksX14_textEnd_0 21 rfl rfl)
theorem dX14_textEnd_24 : decode cX14_textEnd 24 = .ok (.bipush 34, 2) := dk_16 34 (dk_at dksX14_textEnd_1 0 rfl rfl)
theorem dX14_textEnd_26 : decode cX14_textEnd 26 = .ok (.if_icmp .ne 15, 3) := dk_160 0 15 (dk_at dksX14_textEnd_1 2 rfl rfl)
theorem dX14_textEnd_29 : decode cX14_textEnd 29 = .ok (.aload_n 0, 1) := dk_42 (dk_at dksX14_textEnd_1 5 rfl rfl)
theorem dX14_textEnd_30 : decode cX14_textEnd 30 = .ok (.iload_n 2, 1) := dk_28 (dk_at dksX14_textEnd_1 6 rfl rfl)
theorem dX14_textEnd_31 : decode cX14_textEnd 31 = .ok (.iconst 1, 1) := dk_4 (dk_at dksX14_textEnd_1 7 rfl rfl)
theorem dX14_textEnd_32 : decode cX14_textEnd 32 = .ok (.iadd, 1) := dk_96 (dk_at dksX14_textEnd_1 8 rfl rfl)
theorem dX14_textEnd_33 : decode cX14_textEnd 33 = .ok (.invokevirtual 402, 3) := dk_182 1 146 (dk_at dksX14_textEnd_1 9 rfl rfl)
theorem dX14_textEnd_36 : decode cX14_textEnd 36 = .ok (.bipush 34, 2) := dk_16 34 (dk_at dksX14_textEnd_1 12 rfl rfl)
theorem dX14_textEnd_38 : decode cX14_textEnd 38 = .ok (.if_icmp .ne 24, 3) := dk_160 0 24 (dk_at dksX14_textEnd_1 14 rfl rfl)
theorem dX14_textEnd_41 : decode cX14_textEnd 41 = .ok (.iload_n 2, 1) := dk_28 (dk_at dksX14_textEnd_1 17 rfl rfl)
theorem dX14_textEnd_42 : decode cX14_textEnd 42 = .ok (.aload_n 0, 1) := dk_42 (dk_at dksX14_textEnd_1 18 rfl rfl)
theorem dX14_textEnd_43 : decode cX14_textEnd 43 = .ok (.iload_n 2, 1) := dk_28 (dk_at dksX14_textEnd_1 19 rfl rfl)
theorem dX14_textEnd_44 : decode cX14_textEnd 44 = .ok (.invokevirtual 402, 3) := dk_182 1 146 (dk_at dksX14_textEnd_1 20 rfl rfl)
theorem dX14_textEnd_47 : decode cX14_textEnd 47 = .ok (.bipush 34, 2) := dk_16 34 (dk_at dksX14_textEnd_2 0 rfl rfl)
theorem dX14_textEnd_49 : decode cX14_textEnd 49 = .ok (.if_icmp .ne 7, 3) := dk_160 0 7 (dk_at dksX14_textEnd_2 2 rfl rfl)
theorem dX14_textEnd_52 : decode cX14_textEnd 52 = .ok (.iconst 2, 1) := dk_5 (dk_at dksX14_textEnd_2 5 rfl rfl)
theorem dX14_textEnd_53 : decode cX14_textEnd 53 = .ok (.goto 4, 3) := dk_167 0 4 (dk_at dksX14_textEnd_2 6 rfl rfl)
theorem dX14_textEnd_56 : decode cX14_textEnd 56 = .ok (.iconst 1, 1) := dk_4 (dk_at dksX14_textEnd_2 9 rfl rfl)
theorem dX14_textEnd_57 : decode cX14_textEnd 57 = .ok (.iadd, 1) := dk_96 (dk_at dksX14_textEnd_2 10 rfl rfl)
theorem dX14_textEnd_58 : decode cX14_textEnd 58 = .ok (.istore_n 2, 1) := dk_61 (dk_at dksX14_textEnd_2 11 rfl rfl)
theorem dX14_textEnd_59 : decode cX14_textEnd 59 = .ok (.goto (-55), 3) := dk_167 255 201 (dk_at dksX14_textEnd_2 12 rfl rfl)
theorem dX14_textEnd_62 : decode cX14_textEnd 62 = .ok (.aload_n 0, 1) := dk_42 (dk_at dksX14_textEnd_2 15 rfl rfl)
theorem dX14_textEnd_63 : decode cX14_textEnd 63 = .ok (.iload_n 2, 1) := dk_28 (dk_at dksX14_textEnd_2 16 rfl rfl)
theorem dX14_textEnd_64 : decode cX14_textEnd 64 = .ok (.invokevirtual 402, 3) := dk_182 1 146 (dk_at dksX14_textEnd_2 17 rfl rfl)
theorem dX14_textEnd_67 : decode cX14_textEnd 67 = .ok (.bipush 34, 2) := dk_16 34 (dk_at dksX14_textEnd_2 20 rfl rfl)
theorem dX14_textEnd_69 : decode cX14_textEnd 69 = .ok (.if_icmp .eq 9, 3) := dk_159 0 9 (dk_at dksX14_textEnd_3 0 rfl rfl)
theorem dX14_textEnd_72 : decode cX14_textEnd 72 = .ok (.aload_n 0, 1) := dk_42 (dk_at dksX14_textEnd_3 3 rfl rfl)
theorem dX14_textEnd_73 : decode cX14_textEnd 73 = .ok (.iconst 1, 1) := dk_4 (dk_at dksX14_textEnd_3 4 rfl rfl)
theorem dX14_textEnd_74 : decode cX14_textEnd 74 = .ok (.iload_n 1, 1) := dk_27 (dk_at dksX14_textEnd_3 5 rfl rfl)
theorem dX14_textEnd_75 : decode cX14_textEnd 75 = .ok (.invokevirtual 414, 3) := dk_182 1 158 (dk_at dksX14_textEnd_3 6 rfl rfl)
theorem dX14_textEnd_78 : decode cX14_textEnd 78 = .ok (.iload_n 2, 1) := dk_28 (dk_at dksX14_textEnd_3 9 rfl rfl)
theorem dX14_textEnd_79 : decode cX14_textEnd 79 = .ok (.iconst 1, 1) := dk_4 (dk_at dksX14_textEnd_3 10 rfl rfl)
theorem dX14_textEnd_80 : decode cX14_textEnd 80 = .ok (.iadd, 1) := dk_96 (dk_at dksX14_textEnd_3 11 rfl rfl)
theorem dX14_textEnd_81 : decode cX14_textEnd 81 = .ok (.ireturn, 1) := dk_172 (dk_at dksX14_textEnd_3 12 rfl rfl)
abbrev cX14_signEnd : ByteArray := prog_15_method_28_code
def yX14_signEnd : MethodName := ⟨RX14, "signEnd", "(I)I"⟩
def dkwX14_signEnd_16 : List UInt8 := [79, 27, 21, 4, 96, 172]
abbrev dktX14_signEnd_16 : List UInt8 := dkwX14_signEnd_16 ++ []
def dkwX14_signEnd_15 : List UInt8 := [160, 0, 14, 21, 6, 154, 0, 9, 42, 4, 27, 182, 1, 158, 42, 180, 0, 33, 42, 180, 1, 111, 21, 5]
abbrev dktX14_signEnd_15 : List UInt8 := dkwX14_signEnd_15 ++ dktX14_signEnd_16
def dkwX14_signEnd_14 : List UInt8 := [28, 16, 47, 159, 0, 9, 28, 16, 38, 160, 0, 7, 4, 167, 0, 4, 3, 54, 6, 21, 5, 16, 22]
abbrev dktX14_signEnd_14 : List UInt8 := dkwX14_signEnd_14 ++ dktX14_signEnd_15
def dkwX14_signEnd_13 : List UInt8 := [28, 16, 64, 159, 0, 33, 28, 16, 33, 159, 0, 27, 28, 16, 94, 159, 0, 21, 28, 16, 42, 159, 0, 15]
abbrev dktX14_signEnd_13 : List UInt8 := dkwX14_signEnd_13 ++ dktX14_signEnd_14
def dkwX14_signEnd_12 : List UInt8 := [28, 16, 59, 159, 0, 57, 28, 16, 46, 159, 0, 51, 28, 16, 62, 159, 0, 45, 28, 16, 61, 159, 0, 39]
abbrev dktX14_signEnd_12 : List UInt8 := dkwX14_signEnd_12 ++ dktX14_signEnd_13
def dkwX14_signEnd_11 : List UInt8 := [167, 0, 16, 28, 16, 124, 160, 0, 8, 16, 21, 167, 0, 5, 16, 22, 54, 5, 28, 16, 58, 159, 0, 63]
abbrev dktX14_signEnd_11 : List UInt8 := dkwX14_signEnd_11 ++ dktX14_signEnd_12
def dkwX14_signEnd_10 : List UInt8 := [167, 0, 38, 28, 16, 45, 160, 0, 8, 16, 19, 167, 0, 27, 28, 16, 60, 160, 0, 8, 16, 20]
abbrev dktX14_signEnd_10 : List UInt8 := dkwX14_signEnd_10 ++ dktX14_signEnd_11
def dkwX14_signEnd_9 : List UInt8 := [167, 0, 60, 28, 16, 41, 160, 0, 8, 16, 17, 167, 0, 49, 28, 16, 44, 160, 0, 8, 16, 18]
abbrev dktX14_signEnd_9 : List UInt8 := dkwX14_signEnd_9 ++ dktX14_signEnd_10
def dkwX14_signEnd_8 : List UInt8 := [167, 0, 82, 28, 16, 125, 160, 0, 8, 16, 13, 167, 0, 71, 28, 16, 40, 160, 0, 8, 16, 16]
abbrev dktX14_signEnd_8 : List UInt8 := dkwX14_signEnd_8 ++ dktX14_signEnd_9
def dkwX14_signEnd_7 : List UInt8 := [160, 0, 8, 16, 11, 167, 0, 5, 16, 15, 54, 5, 167, 0, 95, 28, 16, 123, 160, 0, 8, 16, 12]
abbrev dktX14_signEnd_7 : List UInt8 := dkwX14_signEnd_7 ++ dktX14_signEnd_8
def dkwX14_signEnd_6 : List UInt8 := [28, 16, 93, 160, 0, 34, 29, 16, 93, 160, 0, 7, 5, 167, 0, 4, 4, 54, 4, 21, 4, 5]
abbrev dktX14_signEnd_6 : List UInt8 := dkwX14_signEnd_6 ++ dktX14_signEnd_7
def dkwX14_signEnd_5 : List UInt8 := [167, 0, 4, 4, 54, 4, 21, 4, 5, 160, 0, 8, 16, 10, 167, 0, 5, 16, 14, 54, 5, 167, 0, 132]
abbrev dktX14_signEnd_5 : List UInt8 := dkwX14_signEnd_5 ++ dktX14_signEnd_6
def dkwX14_signEnd_4 : List UInt8 := [167, 0, 5, 16, 9, 54, 5, 167, 0, 169, 28, 16, 91, 160, 0, 34, 29, 16, 91, 160, 0, 7, 5]
abbrev dktX14_signEnd_4 : List UInt8 := dkwX14_signEnd_4 ++ dktX14_signEnd_5
def dkwX14_signEnd_3 : List UInt8 := [182, 1, 146, 16, 46, 160, 0, 7, 6, 167, 0, 4, 5, 54, 4, 21, 4, 6, 160, 0, 8, 16, 8]
abbrev dktX14_signEnd_3 : List UInt8 := dkwX14_signEnd_3 ++ dktX14_signEnd_4
def dkwX14_signEnd_2 : List UInt8 := [54, 5, 6, 54, 4, 167, 0, 218, 28, 16, 46, 160, 0, 46, 29, 16, 46, 160, 0, 40, 42, 27, 5, 96]
abbrev dktX14_signEnd_2 : List UInt8 := dkwX14_signEnd_2 ++ dktX14_signEnd_3
def dkwX14_signEnd_1 : List UInt8 := [160, 0, 31, 29, 16, 58, 160, 0, 25, 42, 27, 5, 96, 182, 1, 146, 16, 61, 160, 0, 13, 16, 7]
abbrev dktX14_signEnd_1 : List UInt8 := dkwX14_signEnd_1 ++ dktX14_signEnd_2
def dkwX14_signEnd_0 : List UInt8 := [42, 27, 182, 1, 146, 61, 42, 27, 4, 96, 182, 1, 146, 62, 4, 54, 4, 16, 22, 54, 5, 28, 16, 58]
abbrev dktX14_signEnd_0 : List UInt8 := dkwX14_signEnd_0 ++ dktX14_signEnd_1
theorem dksX14_signEnd_0 : cX14_signEnd.data.toList.drop 0 = dktX14_signEnd_0 := by decide +kernel
theorem dksX14_signEnd_1 : cX14_signEnd.data.toList.drop 24 = dktX14_signEnd_1 := dk_seg dksX14_signEnd_0 24 rfl rfl
theorem dksX14_signEnd_2 : cX14_signEnd.data.toList.drop 47 = dktX14_signEnd_2 := dk_seg dksX14_signEnd_1 23 rfl rfl
theorem dksX14_signEnd_3 : cX14_signEnd.data.toList.drop 71 = dktX14_signEnd_3 := dk_seg dksX14_signEnd_2 24 rfl rfl
theorem dksX14_signEnd_4 : cX14_signEnd.data.toList.drop 94 = dktX14_signEnd_4 := dk_seg dksX14_signEnd_3 23 rfl rfl
theorem dksX14_signEnd_5 : cX14_signEnd.data.toList.drop 117 = dktX14_signEnd_5 := dk_seg dksX14_signEnd_4 23 rfl rfl
theorem dksX14_signEnd_6 : cX14_signEnd.data.toList.drop 141 = dktX14_signEnd_6 := dk_seg dksX14_signEnd_5 24 rfl rfl
theorem dksX14_signEnd_7 : cX14_signEnd.data.toList.drop 163 = dktX14_signEnd_7 := dk_seg dksX14_signEnd_6 22 rfl rfl
theorem dksX14_signEnd_8 : cX14_signEnd.data.toList.drop 186 = dktX14_signEnd_8 := dk_seg dksX14_signEnd_7 23 rfl rfl
theorem dksX14_signEnd_9 : cX14_signEnd.data.toList.drop 208 = dktX14_signEnd_9 := dk_seg dksX14_signEnd_8 22 rfl rfl
theorem dksX14_signEnd_10 : cX14_signEnd.data.toList.drop 230 = dktX14_signEnd_10 := dk_seg dksX14_signEnd_9 22 rfl rfl
theorem dksX14_signEnd_11 : cX14_signEnd.data.toList.drop 252 = dktX14_signEnd_11 := dk_seg dksX14_signEnd_10 22 rfl rfl
theorem dksX14_signEnd_12 : cX14_signEnd.data.toList.drop 276 = dktX14_signEnd_12 := dk_seg dksX14_signEnd_11 24 rfl rfl
theorem dksX14_signEnd_13 : cX14_signEnd.data.toList.drop 300 = dktX14_signEnd_13 := dk_seg dksX14_signEnd_12 24 rfl rfl
theorem dksX14_signEnd_14 : cX14_signEnd.data.toList.drop 324 = dktX14_signEnd_14 := dk_seg dksX14_signEnd_13 24 rfl rfl
theorem dksX14_signEnd_15 : cX14_signEnd.data.toList.drop 347 = dktX14_signEnd_15 := dk_seg dksX14_signEnd_14 23 rfl rfl
theorem dksX14_signEnd_16 : cX14_signEnd.data.toList.drop 371 = dktX14_signEnd_16 := dk_seg dksX14_signEnd_15 24 rfl rfl
theorem dX14_signEnd_0 : decode cX14_signEnd 0 = .ok (.aload_n 0, 1) := dk_42 (dk_at dksX14_signEnd_0 0 rfl rfl)
theorem dX14_signEnd_1 : decode cX14_signEnd 1 = .ok (.iload_n 1, 1) := dk_27 (dk_at dksX14_signEnd_0 1 rfl rfl)
theorem dX14_signEnd_2 : decode cX14_signEnd 2 = .ok (.invokevirtual 402, 3) := dk_182 1 146 (dk_at dksX14_signEnd_0 2 rfl rfl)
theorem dX14_signEnd_5 : decode cX14_signEnd 5 = .ok (.istore_n 2, 1) := dk_61 (dk_at dksX14_signEnd_0 5 rfl rfl)
theorem dX14_signEnd_6 : decode cX14_signEnd 6 = .ok (.aload_n 0, 1) := dk_42 (dk_at dksX14_signEnd_0 6 rfl rfl)
theorem dX14_signEnd_7 : decode cX14_signEnd 7 = .ok (.iload_n 1, 1) := dk_27 (dk_at dksX14_signEnd_0 7 rfl rfl)
theorem dX14_signEnd_8 : decode cX14_signEnd 8 = .ok (.iconst 1, 1) := dk_4 (dk_at dksX14_signEnd_0 8 rfl rfl)
theorem dX14_signEnd_9 : decode cX14_signEnd 9 = .ok (.iadd, 1) := dk_96 (dk_at dksX14_signEnd_0 9 rfl rfl)
theorem dX14_signEnd_10 : decode cX14_signEnd 10 = .ok (.invokevirtual 402, 3) := dk_182 1 146 (dk_at dksX14_signEnd_0 10 rfl rfl)
theorem dX14_signEnd_13 : decode cX14_signEnd 13 = .ok (.istore_n 3, 1) := dk_62 (dk_at dksX14_signEnd_0 13 rfl rfl)
theorem dX14_signEnd_14 : decode cX14_signEnd 14 = .ok (.iconst 1, 1) := dk_4 (dk_at dksX14_signEnd_0 14 rfl rfl)
theorem dX14_signEnd_15 : decode cX14_signEnd 15 = .ok (.istore 4, 2) := dk_54 4 (dk_at dksX14_signEnd_0 15 rfl rfl)
theorem dX14_signEnd_17 : decode cX14_signEnd 17 = .ok (.bipush 22, 2) := dk_16 22 (dk_at dksX14_signEnd_0 17 rfl rfl)
theorem dX14_signEnd_19 : decode cX14_signEnd 19 = .ok (.istore 5, 2) := dk_54 5 (dk_at dksX14_signEnd_0 19 rfl rfl)
theorem dX14_signEnd_21 : decode cX14_signEnd 21 = .ok (.iload_n 2, 1) := dk_28 (dk_at dksX14_signEnd_0 21 rfl rfl)
theorem dX14_signEnd_22 : decode cX14_signEnd 22 = .ok (.bipush 58, 2) := dk_16 58 (dk_at dksX14_signEnd_0 22 rfl rfl)
theorem dX14_signEnd_24 : decode cX14_signEnd 24 = .ok (.if_icmp .ne 31, 3) := dk_160 0 31 (dk_at dksX14_signEnd_1 0 rfl rfl)
theorem dX14_signEnd_27 : decode cX14_signEnd 27 = .ok (.iload_n 3, 1) := dk_29 (dk_at dksX14_signEnd_1 3 rfl rfl)
theorem dX14_signEnd_28 : decode cX14_signEnd 28 = .ok (.bipush 58, 2) := dk_16 58 (dk_at dksX14_signEnd_1 4 rfl rfl)
theorem dX14_signEnd_30 : decode cX14_signEnd 30 = .ok (.if_icmp .ne 25, 3) := dk_160 0 25 (dk_at dksX14_signEnd_1 6 rfl rfl)
theorem dX14_signEnd_33 : decode cX14_signEnd 33 = .ok (.aload_n 0, 1) := dk_42 (dk_at dksX14_signEnd_1 9 rfl rfl)
theorem dX14_signEnd_34 : decode cX14_signEnd 34 = .ok (.iload_n 1, 1) := dk_27 (dk_at dksX14_signEnd_1 10 rfl rfl)
theorem dX14_signEnd_35 : decode cX14_signEnd 35 = .ok (.iconst 2, 1) := dk_5 (dk_at dksX14_signEnd_1 11 rfl rfl)
theorem dX14_signEnd_36 : decode cX14_signEnd 36 = .ok (.iadd, 1) := dk_96 (dk_at dksX14_signEnd_1 12 rfl rfl)
theorem dX14_signEnd_37 : decode cX14_signEnd 37 = .ok (.invokevirtual 402, 3) := dk_182 1 146 (dk_at dksX14_signEnd_1 13 rfl rfl)
theorem dX14_signEnd_40 : decode cX14_signEnd 40 = .ok (.bipush 61, 2) := dk_16 61 (dk_at dksX14_signEnd_1 16 rfl rfl)
theorem dX14_signEnd_42 : decode cX14_signEnd 42 = .ok (.if_icmp .ne 13, 3) := dk_160 0 13 (dk_at dksX14_signEnd_1 18 rfl rfl)
theorem dX14_signEnd_45 : decode cX14_signEnd 45 = .ok (.bipush 7, 2) := dk_16 7 (dk_at dksX14_signEnd_1 21 rfl rfl)
theorem dX14_signEnd_47 : decode cX14_signEnd 47 = .ok (.istore 5, 2) := dk_54 5 (dk_at dksX14_signEnd_2 0 rfl rfl)
theorem dX14_signEnd_49 : decode cX14_signEnd 49 = .ok (.iconst 3, 1) := dk_6 (dk_at dksX14_signEnd_2 2 rfl rfl)
theorem dX14_signEnd_50 : decode cX14_signEnd 50 = .ok (.istore 4, 2) := dk_54 4 (dk_at dksX14_signEnd_2 3 rfl rfl)
theorem dX14_signEnd_52 : decode cX14_signEnd 52 = .ok (.goto 218, 3) := dk_167 0 218 (dk_at dksX14_signEnd_2 5 rfl rfl)
theorem dX14_signEnd_55 : decode cX14_signEnd 55 = .ok (.iload_n 2, 1) := dk_28 (dk_at dksX14_signEnd_2 8 rfl rfl)
theorem dX14_signEnd_56 : decode cX14_signEnd 56 = .ok (.bipush 46, 2) := dk_16 46 (dk_at dksX14_signEnd_2 9 rfl rfl)
theorem dX14_signEnd_58 : decode cX14_signEnd 58 = .ok (.if_icmp .ne 46, 3) := dk_160 0 46 (dk_at dksX14_signEnd_2 11 rfl rfl)
theorem dX14_signEnd_61 : decode cX14_signEnd 61 = .ok (.iload_n 3, 1) := dk_29 (dk_at dksX14_signEnd_2 14 rfl rfl)
theorem dX14_signEnd_62 : decode cX14_signEnd 62 = .ok (.bipush 46, 2) := dk_16 46 (dk_at dksX14_signEnd_2 15 rfl rfl)
theorem dX14_signEnd_64 : decode cX14_signEnd 64 = .ok (.if_icmp .ne 40, 3) := dk_160 0 40 (dk_at dksX14_signEnd_2 17 rfl rfl)
theorem dX14_signEnd_67 : decode cX14_signEnd 67 = .ok (.aload_n 0, 1) := dk_42 (dk_at dksX14_signEnd_2 20 rfl rfl)
theorem dX14_signEnd_68 : decode cX14_signEnd 68 = .ok (.iload_n 1, 1) := dk_27 (dk_at dksX14_signEnd_2 21 rfl rfl)
theorem dX14_signEnd_69 : decode cX14_signEnd 69 = .ok (.iconst 2, 1) := dk_5 (dk_at dksX14_signEnd_2 22 rfl rfl)
theorem dX14_signEnd_70 : decode cX14_signEnd 70 = .ok (.iadd, 1) := dk_96 (dk_at dksX14_signEnd_2 23 rfl rfl)
theorem dX14_signEnd_71 : decode cX14_signEnd 71 = .ok (.invokevirtual 402, 3) := dk_182 1 146 (dk_at dksX14_signEnd_3 0 rfl rfl)
theorem dX14_signEnd_74 : decode cX14_signEnd 74 = .ok (.bipush 46, 2) := dk_16 46 (dk_at dksX14_signEnd_3 3 rfl rfl)
theorem dX14_signEnd_76 : decode cX14_signEnd 76 = .ok (.if_icmp .ne 7, 3) := dk_160 0 7 (dk_at dksX14_signEnd_3 5 rfl rfl)
theorem dX14_signEnd_79 : decode cX14_signEnd 79 = .ok (.iconst 3, 1) := dk_6 (dk_at dksX14_signEnd_3 8 rfl rfl)
theorem dX14_signEnd_80 : decode cX14_signEnd 80 = .ok (.goto 4, 3) := dk_167 0 4 (dk_at dksX14_signEnd_3 9 rfl rfl)
theorem dX14_signEnd_83 : decode cX14_signEnd 83 = .ok (.iconst 2, 1) := dk_5 (dk_at dksX14_signEnd_3 12 rfl rfl)
theorem dX14_signEnd_84 : decode cX14_signEnd 84 = .ok (.istore 4, 2) := dk_54 4 (dk_at dksX14_signEnd_3 13 rfl rfl)
theorem dX14_signEnd_86 : decode cX14_signEnd 86 = .ok (.iload 4, 2) := dk_21 4 (dk_at dksX14_signEnd_3 15 rfl rfl)
theorem dX14_signEnd_88 : decode cX14_signEnd 88 = .ok (.iconst 3, 1) := dk_6 (dk_at dksX14_signEnd_3 17 rfl rfl)
theorem dX14_signEnd_89 : decode cX14_signEnd 89 = .ok (.if_icmp .ne 8, 3) := dk_160 0 8 (dk_at dksX14_signEnd_3 18 rfl rfl)
theorem dX14_signEnd_92 : decode cX14_signEnd 92 = .ok (.bipush 8, 2) := dk_16 8 (dk_at dksX14_signEnd_3 21 rfl rfl)
theorem dX14_signEnd_94 : decode cX14_signEnd 94 = .ok (.goto 5, 3) := dk_167 0 5 (dk_at dksX14_signEnd_4 0 rfl rfl)
theorem dX14_signEnd_97 : decode cX14_signEnd 97 = .ok (.bipush 9, 2) := dk_16 9 (dk_at dksX14_signEnd_4 3 rfl rfl)
theorem dX14_signEnd_99 : decode cX14_signEnd 99 = .ok (.istore 5, 2) := dk_54 5 (dk_at dksX14_signEnd_4 5 rfl rfl)
theorem dX14_signEnd_101 : decode cX14_signEnd 101 = .ok (.goto 169, 3) := dk_167 0 169 (dk_at dksX14_signEnd_4 7 rfl rfl)
theorem dX14_signEnd_104 : decode cX14_signEnd 104 = .ok (.iload_n 2, 1) := dk_28 (dk_at dksX14_signEnd_4 10 rfl rfl)
theorem dX14_signEnd_105 : decode cX14_signEnd 105 = .ok (.bipush 91, 2) := dk_16 91 (dk_at dksX14_signEnd_4 11 rfl rfl)
theorem dX14_signEnd_107 : decode cX14_signEnd 107 = .ok (.if_icmp .ne 34, 3) := dk_160 0 34 (dk_at dksX14_signEnd_4 13 rfl rfl)
theorem dX14_signEnd_110 : decode cX14_signEnd 110 = .ok (.iload_n 3, 1) := dk_29 (dk_at dksX14_signEnd_4 16 rfl rfl)
theorem dX14_signEnd_111 : decode cX14_signEnd 111 = .ok (.bipush 91, 2) := dk_16 91 (dk_at dksX14_signEnd_4 17 rfl rfl)
theorem dX14_signEnd_113 : decode cX14_signEnd 113 = .ok (.if_icmp .ne 7, 3) := dk_160 0 7 (dk_at dksX14_signEnd_4 19 rfl rfl)
theorem dX14_signEnd_116 : decode cX14_signEnd 116 = .ok (.iconst 2, 1) := dk_5 (dk_at dksX14_signEnd_4 22 rfl rfl)
theorem dX14_signEnd_117 : decode cX14_signEnd 117 = .ok (.goto 4, 3) := dk_167 0 4 (dk_at dksX14_signEnd_5 0 rfl rfl)
theorem dX14_signEnd_120 : decode cX14_signEnd 120 = .ok (.iconst 1, 1) := dk_4 (dk_at dksX14_signEnd_5 3 rfl rfl)
theorem dX14_signEnd_121 : decode cX14_signEnd 121 = .ok (.istore 4, 2) := dk_54 4 (dk_at dksX14_signEnd_5 4 rfl rfl)
theorem dX14_signEnd_123 : decode cX14_signEnd 123 = .ok (.iload 4, 2) := dk_21 4 (dk_at dksX14_signEnd_5 6 rfl rfl)
theorem dX14_signEnd_125 : decode cX14_signEnd 125 = .ok (.iconst 2, 1) := dk_5 (dk_at dksX14_signEnd_5 8 rfl rfl)
theorem dX14_signEnd_126 : decode cX14_signEnd 126 = .ok (.if_icmp .ne 8, 3) := dk_160 0 8 (dk_at dksX14_signEnd_5 9 rfl rfl)
theorem dX14_signEnd_129 : decode cX14_signEnd 129 = .ok (.bipush 10, 2) := dk_16 10 (dk_at dksX14_signEnd_5 12 rfl rfl)
theorem dX14_signEnd_131 : decode cX14_signEnd 131 = .ok (.goto 5, 3) := dk_167 0 5 (dk_at dksX14_signEnd_5 14 rfl rfl)
theorem dX14_signEnd_134 : decode cX14_signEnd 134 = .ok (.bipush 14, 2) := dk_16 14 (dk_at dksX14_signEnd_5 17 rfl rfl)
theorem dX14_signEnd_136 : decode cX14_signEnd 136 = .ok (.istore 5, 2) := dk_54 5 (dk_at dksX14_signEnd_5 19 rfl rfl)
theorem dX14_signEnd_138 : decode cX14_signEnd 138 = .ok (.goto 132, 3) := dk_167 0 132 (dk_at dksX14_signEnd_5 21 rfl rfl)
theorem dX14_signEnd_141 : decode cX14_signEnd 141 = .ok (.iload_n 2, 1) := dk_28 (dk_at dksX14_signEnd_6 0 rfl rfl)
theorem dX14_signEnd_142 : decode cX14_signEnd 142 = .ok (.bipush 93, 2) := dk_16 93 (dk_at dksX14_signEnd_6 1 rfl rfl)
theorem dX14_signEnd_144 : decode cX14_signEnd 144 = .ok (.if_icmp .ne 34, 3) := dk_160 0 34 (dk_at dksX14_signEnd_6 3 rfl rfl)
theorem dX14_signEnd_147 : decode cX14_signEnd 147 = .ok (.iload_n 3, 1) := dk_29 (dk_at dksX14_signEnd_6 6 rfl rfl)
theorem dX14_signEnd_148 : decode cX14_signEnd 148 = .ok (.bipush 93, 2) := dk_16 93 (dk_at dksX14_signEnd_6 7 rfl rfl)
theorem dX14_signEnd_150 : decode cX14_signEnd 150 = .ok (.if_icmp .ne 7, 3) := dk_160 0 7 (dk_at dksX14_signEnd_6 9 rfl rfl)
theorem dX14_signEnd_153 : decode cX14_signEnd 153 = .ok (.iconst 2, 1) := dk_5 (dk_at dksX14_signEnd_6 12 rfl rfl)
theorem dX14_signEnd_154 : decode cX14_signEnd 154 = .ok (.goto 4, 3) := dk_167 0 4 (dk_at dksX14_signEnd_6 13 rfl rfl)
theorem dX14_signEnd_157 : decode cX14_signEnd 157 = .ok (.iconst 1, 1) := dk_4 (dk_at dksX14_signEnd_6 16 rfl rfl)
theorem dX14_signEnd_158 : decode cX14_signEnd 158 = .ok (.istore 4, 2) := dk_54 4 (dk_at dksX14_signEnd_6 17 rfl rfl)
theorem dX14_signEnd_160 : decode cX14_signEnd 160 = .ok (.iload 4, 2) := dk_21 4 (dk_at dksX14_signEnd_6 19 rfl rfl)
theorem dX14_signEnd_162 : decode cX14_signEnd 162 = .ok (.iconst 2, 1) := dk_5 (dk_at dksX14_signEnd_6 21 rfl rfl)
theorem dX14_signEnd_163 : decode cX14_signEnd 163 = .ok (.if_icmp .ne 8, 3) := dk_160 0 8 (dk_at dksX14_signEnd_7 0 rfl rfl)
theorem dX14_signEnd_166 : decode cX14_signEnd 166 = .ok (.bipush 11, 2) := dk_16 11 (dk_at dksX14_signEnd_7 3 rfl rfl)
theorem dX14_signEnd_168 : decode cX14_signEnd 168 = .ok (.goto 5, 3) := dk_167 0 5 (dk_at dksX14_signEnd_7 5 rfl rfl)
theorem dX14_signEnd_171 : decode cX14_signEnd 171 = .ok (.bipush 15, 2) := dk_16 15 (dk_at dksX14_signEnd_7 8 rfl rfl)
theorem dX14_signEnd_173 : decode cX14_signEnd 173 = .ok (.istore 5, 2) := dk_54 5 (dk_at dksX14_signEnd_7 10 rfl rfl)
theorem dX14_signEnd_175 : decode cX14_signEnd 175 = .ok (.goto 95, 3) := dk_167 0 95 (dk_at dksX14_signEnd_7 12 rfl rfl)
theorem dX14_signEnd_178 : decode cX14_signEnd 178 = .ok (.iload_n 2, 1) := dk_28 (dk_at dksX14_signEnd_7 15 rfl rfl)
theorem dX14_signEnd_179 : decode cX14_signEnd 179 = .ok (.bipush 123, 2) := dk_16 123 (dk_at dksX14_signEnd_7 16 rfl rfl)
theorem dX14_signEnd_181 : decode cX14_signEnd 181 = .ok (.if_icmp .ne 8, 3) := dk_160 0 8 (dk_at dksX14_signEnd_7 18 rfl rfl)
theorem dX14_signEnd_184 : decode cX14_signEnd 184 = .ok (.bipush 12, 2) := dk_16 12 (dk_at dksX14_signEnd_7 21 rfl rfl)
theorem dX14_signEnd_186 : decode cX14_signEnd 186 = .ok (.goto 82, 3) := dk_167 0 82 (dk_at dksX14_signEnd_8 0 rfl rfl)
theorem dX14_signEnd_189 : decode cX14_signEnd 189 = .ok (.iload_n 2, 1) := dk_28 (dk_at dksX14_signEnd_8 3 rfl rfl)
theorem dX14_signEnd_190 : decode cX14_signEnd 190 = .ok (.bipush 125, 2) := dk_16 125 (dk_at dksX14_signEnd_8 4 rfl rfl)
theorem dX14_signEnd_192 : decode cX14_signEnd 192 = .ok (.if_icmp .ne 8, 3) := dk_160 0 8 (dk_at dksX14_signEnd_8 6 rfl rfl)
theorem dX14_signEnd_195 : decode cX14_signEnd 195 = .ok (.bipush 13, 2) := dk_16 13 (dk_at dksX14_signEnd_8 9 rfl rfl)
theorem dX14_signEnd_197 : decode cX14_signEnd 197 = .ok (.goto 71, 3) := dk_167 0 71 (dk_at dksX14_signEnd_8 11 rfl rfl)
theorem dX14_signEnd_200 : decode cX14_signEnd 200 = .ok (.iload_n 2, 1) := dk_28 (dk_at dksX14_signEnd_8 14 rfl rfl)
theorem dX14_signEnd_201 : decode cX14_signEnd 201 = .ok (.bipush 40, 2) := dk_16 40 (dk_at dksX14_signEnd_8 15 rfl rfl)
theorem dX14_signEnd_203 : decode cX14_signEnd 203 = .ok (.if_icmp .ne 8, 3) := dk_160 0 8 (dk_at dksX14_signEnd_8 17 rfl rfl)
theorem dX14_signEnd_206 : decode cX14_signEnd 206 = .ok (.bipush 16, 2) := dk_16 16 (dk_at dksX14_signEnd_8 20 rfl rfl)
theorem dX14_signEnd_208 : decode cX14_signEnd 208 = .ok (.goto 60, 3) := dk_167 0 60 (dk_at dksX14_signEnd_9 0 rfl rfl)
theorem dX14_signEnd_211 : decode cX14_signEnd 211 = .ok (.iload_n 2, 1) := dk_28 (dk_at dksX14_signEnd_9 3 rfl rfl)
theorem dX14_signEnd_212 : decode cX14_signEnd 212 = .ok (.bipush 41, 2) := dk_16 41 (dk_at dksX14_signEnd_9 4 rfl rfl)
theorem dX14_signEnd_214 : decode cX14_signEnd 214 = .ok (.if_icmp .ne 8, 3) := dk_160 0 8 (dk_at dksX14_signEnd_9 6 rfl rfl)
theorem dX14_signEnd_217 : decode cX14_signEnd 217 = .ok (.bipush 17, 2) := dk_16 17 (dk_at dksX14_signEnd_9 9 rfl rfl)
theorem dX14_signEnd_219 : decode cX14_signEnd 219 = .ok (.goto 49, 3) := dk_167 0 49 (dk_at dksX14_signEnd_9 11 rfl rfl)
theorem dX14_signEnd_222 : decode cX14_signEnd 222 = .ok (.iload_n 2, 1) := dk_28 (dk_at dksX14_signEnd_9 14 rfl rfl)
theorem dX14_signEnd_223 : decode cX14_signEnd 223 = .ok (.bipush 44, 2) := dk_16 44 (dk_at dksX14_signEnd_9 15 rfl rfl)
theorem dX14_signEnd_225 : decode cX14_signEnd 225 = .ok (.if_icmp .ne 8, 3) := dk_160 0 8 (dk_at dksX14_signEnd_9 17 rfl rfl)
theorem dX14_signEnd_228 : decode cX14_signEnd 228 = .ok (.bipush 18, 2) := dk_16 18 (dk_at dksX14_signEnd_9 20 rfl rfl)
theorem dX14_signEnd_230 : decode cX14_signEnd 230 = .ok (.goto 38, 3) := dk_167 0 38 (dk_at dksX14_signEnd_10 0 rfl rfl)
theorem dX14_signEnd_233 : decode cX14_signEnd 233 = .ok (.iload_n 2, 1) := dk_28 (dk_at dksX14_signEnd_10 3 rfl rfl)
theorem dX14_signEnd_234 : decode cX14_signEnd 234 = .ok (.bipush 45, 2) := dk_16 45 (dk_at dksX14_signEnd_10 4 rfl rfl)
theorem dX14_signEnd_236 : decode cX14_signEnd 236 = .ok (.if_icmp .ne 8, 3) := dk_160 0 8 (dk_at dksX14_signEnd_10 6 rfl rfl)
theorem dX14_signEnd_239 : decode cX14_signEnd 239 = .ok (.bipush 19, 2) := dk_16 19 (dk_at dksX14_signEnd_10 9 rfl rfl)
theorem dX14_signEnd_241 : decode cX14_signEnd 241 = .ok (.goto 27, 3) := dk_167 0 27 (dk_at dksX14_signEnd_10 11 rfl rfl)
theorem dX14_signEnd_244 : decode cX14_signEnd 244 = .ok (.iload_n 2, 1) := dk_28 (dk_at dksX14_signEnd_10 14 rfl rfl)
theorem dX14_signEnd_245 : decode cX14_signEnd 245 = .ok (.bipush 60, 2) := dk_16 60 (dk_at dksX14_signEnd_10 15 rfl rfl)
theorem dX14_signEnd_247 : decode cX14_signEnd 247 = .ok (.if_icmp .ne 8, 3) := dk_160 0 8 (dk_at dksX14_signEnd_10 17 rfl rfl)
theorem dX14_signEnd_250 : decode cX14_signEnd 250 = .ok (.bipush 20, 2) := dk_16 20 (dk_at dksX14_signEnd_10 20 rfl rfl)
theorem dX14_signEnd_252 : decode cX14_signEnd 252 = .ok (.goto 16, 3) := dk_167 0 16 (dk_at dksX14_signEnd_11 0 rfl rfl)
theorem dX14_signEnd_255 : decode cX14_signEnd 255 = .ok (.iload_n 2, 1) := dk_28 (dk_at dksX14_signEnd_11 3 rfl rfl)
theorem dX14_signEnd_256 : decode cX14_signEnd 256 = .ok (.bipush 124, 2) := dk_16 124 (dk_at dksX14_signEnd_11 4 rfl rfl)
theorem dX14_signEnd_258 : decode cX14_signEnd 258 = .ok (.if_icmp .ne 8, 3) := dk_160 0 8 (dk_at dksX14_signEnd_11 6 rfl rfl)
theorem dX14_signEnd_261 : decode cX14_signEnd 261 = .ok (.bipush 21, 2) := dk_16 21 (dk_at dksX14_signEnd_11 9 rfl rfl)
theorem dX14_signEnd_263 : decode cX14_signEnd 263 = .ok (.goto 5, 3) := dk_167 0 5 (dk_at dksX14_signEnd_11 11 rfl rfl)
theorem dX14_signEnd_266 : decode cX14_signEnd 266 = .ok (.bipush 22, 2) := dk_16 22 (dk_at dksX14_signEnd_11 14 rfl rfl)
theorem dX14_signEnd_268 : decode cX14_signEnd 268 = .ok (.istore 5, 2) := dk_54 5 (dk_at dksX14_signEnd_11 16 rfl rfl)
theorem dX14_signEnd_270 : decode cX14_signEnd 270 = .ok (.iload_n 2, 1) := dk_28 (dk_at dksX14_signEnd_11 18 rfl rfl)
theorem dX14_signEnd_271 : decode cX14_signEnd 271 = .ok (.bipush 58, 2) := dk_16 58 (dk_at dksX14_signEnd_11 19 rfl rfl)
theorem dX14_signEnd_273 : decode cX14_signEnd 273 = .ok (.if_icmp .eq 63, 3) := dk_159 0 63 (dk_at dksX14_signEnd_11 21 rfl rfl)
theorem dX14_signEnd_276 : decode cX14_signEnd 276 = .ok (.iload_n 2, 1) := dk_28 (dk_at dksX14_signEnd_12 0 rfl rfl)
theorem dX14_signEnd_277 : decode cX14_signEnd 277 = .ok (.bipush 59, 2) := dk_16 59 (dk_at dksX14_signEnd_12 1 rfl rfl)
theorem dX14_signEnd_279 : decode cX14_signEnd 279 = .ok (.if_icmp .eq 57, 3) := dk_159 0 57 (dk_at dksX14_signEnd_12 3 rfl rfl)
theorem dX14_signEnd_282 : decode cX14_signEnd 282 = .ok (.iload_n 2, 1) := dk_28 (dk_at dksX14_signEnd_12 6 rfl rfl)
theorem dX14_signEnd_283 : decode cX14_signEnd 283 = .ok (.bipush 46, 2) := dk_16 46 (dk_at dksX14_signEnd_12 7 rfl rfl)
theorem dX14_signEnd_285 : decode cX14_signEnd 285 = .ok (.if_icmp .eq 51, 3) := dk_159 0 51 (dk_at dksX14_signEnd_12 9 rfl rfl)
theorem dX14_signEnd_288 : decode cX14_signEnd 288 = .ok (.iload_n 2, 1) := dk_28 (dk_at dksX14_signEnd_12 12 rfl rfl)
theorem dX14_signEnd_289 : decode cX14_signEnd 289 = .ok (.bipush 62, 2) := dk_16 62 (dk_at dksX14_signEnd_12 13 rfl rfl)
theorem dX14_signEnd_291 : decode cX14_signEnd 291 = .ok (.if_icmp .eq 45, 3) := dk_159 0 45 (dk_at dksX14_signEnd_12 15 rfl rfl)
theorem dX14_signEnd_294 : decode cX14_signEnd 294 = .ok (.iload_n 2, 1) := dk_28 (dk_at dksX14_signEnd_12 18 rfl rfl)
theorem dX14_signEnd_295 : decode cX14_signEnd 295 = .ok (.bipush 61, 2) := dk_16 61 (dk_at dksX14_signEnd_12 19 rfl rfl)
theorem dX14_signEnd_297 : decode cX14_signEnd 297 = .ok (.if_icmp .eq 39, 3) := dk_159 0 39 (dk_at dksX14_signEnd_12 21 rfl rfl)
theorem dX14_signEnd_300 : decode cX14_signEnd 300 = .ok (.iload_n 2, 1) := dk_28 (dk_at dksX14_signEnd_13 0 rfl rfl)
theorem dX14_signEnd_301 : decode cX14_signEnd 301 = .ok (.bipush 64, 2) := dk_16 64 (dk_at dksX14_signEnd_13 1 rfl rfl)
theorem dX14_signEnd_303 : decode cX14_signEnd 303 = .ok (.if_icmp .eq 33, 3) := dk_159 0 33 (dk_at dksX14_signEnd_13 3 rfl rfl)
theorem dX14_signEnd_306 : decode cX14_signEnd 306 = .ok (.iload_n 2, 1) := dk_28 (dk_at dksX14_signEnd_13 6 rfl rfl)
theorem dX14_signEnd_307 : decode cX14_signEnd 307 = .ok (.bipush 33, 2) := dk_16 33 (dk_at dksX14_signEnd_13 7 rfl rfl)
theorem dX14_signEnd_309 : decode cX14_signEnd 309 = .ok (.if_icmp .eq 27, 3) := dk_159 0 27 (dk_at dksX14_signEnd_13 9 rfl rfl)
theorem dX14_signEnd_312 : decode cX14_signEnd 312 = .ok (.iload_n 2, 1) := dk_28 (dk_at dksX14_signEnd_13 12 rfl rfl)
theorem dX14_signEnd_313 : decode cX14_signEnd 313 = .ok (.bipush 94, 2) := dk_16 94 (dk_at dksX14_signEnd_13 13 rfl rfl)
theorem dX14_signEnd_315 : decode cX14_signEnd 315 = .ok (.if_icmp .eq 21, 3) := dk_159 0 21 (dk_at dksX14_signEnd_13 15 rfl rfl)
theorem dX14_signEnd_318 : decode cX14_signEnd 318 = .ok (.iload_n 2, 1) := dk_28 (dk_at dksX14_signEnd_13 18 rfl rfl)
theorem dX14_signEnd_319 : decode cX14_signEnd 319 = .ok (.bipush 42, 2) := dk_16 42 (dk_at dksX14_signEnd_13 19 rfl rfl)
theorem dX14_signEnd_321 : decode cX14_signEnd 321 = .ok (.if_icmp .eq 15, 3) := dk_159 0 15 (dk_at dksX14_signEnd_13 21 rfl rfl)
theorem dX14_signEnd_324 : decode cX14_signEnd 324 = .ok (.iload_n 2, 1) := dk_28 (dk_at dksX14_signEnd_14 0 rfl rfl)
theorem dX14_signEnd_325 : decode cX14_signEnd 325 = .ok (.bipush 47, 2) := dk_16 47 (dk_at dksX14_signEnd_14 1 rfl rfl)
theorem dX14_signEnd_327 : decode cX14_signEnd 327 = .ok (.if_icmp .eq 9, 3) := dk_159 0 9 (dk_at dksX14_signEnd_14 3 rfl rfl)
theorem dX14_signEnd_330 : decode cX14_signEnd 330 = .ok (.iload_n 2, 1) := dk_28 (dk_at dksX14_signEnd_14 6 rfl rfl)
theorem dX14_signEnd_331 : decode cX14_signEnd 331 = .ok (.bipush 38, 2) := dk_16 38 (dk_at dksX14_signEnd_14 7 rfl rfl)
theorem dX14_signEnd_333 : decode cX14_signEnd 333 = .ok (.if_icmp .ne 7, 3) := dk_160 0 7 (dk_at dksX14_signEnd_14 9 rfl rfl)
theorem dX14_signEnd_336 : decode cX14_signEnd 336 = .ok (.iconst 1, 1) := dk_4 (dk_at dksX14_signEnd_14 12 rfl rfl)
theorem dX14_signEnd_337 : decode cX14_signEnd 337 = .ok (.goto 4, 3) := dk_167 0 4 (dk_at dksX14_signEnd_14 13 rfl rfl)
theorem dX14_signEnd_340 : decode cX14_signEnd 340 = .ok (.iconst 0, 1) := dk_3 (dk_at dksX14_signEnd_14 16 rfl rfl)
theorem dX14_signEnd_341 : decode cX14_signEnd 341 = .ok (.istore 6, 2) := dk_54 6 (dk_at dksX14_signEnd_14 17 rfl rfl)
theorem dX14_signEnd_343 : decode cX14_signEnd 343 = .ok (.iload 5, 2) := dk_21 5 (dk_at dksX14_signEnd_14 19 rfl rfl)
theorem dX14_signEnd_345 : decode cX14_signEnd 345 = .ok (.bipush 22, 2) := dk_16 22 (dk_at dksX14_signEnd_14 21 rfl rfl)
theorem dX14_signEnd_347 : decode cX14_signEnd 347 = .ok (.if_icmp .ne 14, 3) := dk_160 0 14 (dk_at dksX14_signEnd_15 0 rfl rfl)
theorem dX14_signEnd_350 : decode cX14_signEnd 350 = .ok (.iload 6, 2) := dk_21 6 (dk_at dksX14_signEnd_15 3 rfl rfl)
theorem dX14_signEnd_352 : decode cX14_signEnd 352 = .ok (.ifCond .ne 9, 3) := dk_154 0 9 (dk_at dksX14_signEnd_15 5 rfl rfl)
theorem dX14_signEnd_355 : decode cX14_signEnd 355 = .ok (.aload_n 0, 1) := dk_42 (dk_at dksX14_signEnd_15 8 rfl rfl)
theorem dX14_signEnd_356 : decode cX14_signEnd 356 = .ok (.iconst 1, 1) := dk_4 (dk_at dksX14_signEnd_15 9 rfl rfl)
theorem dX14_signEnd_357 : decode cX14_signEnd 357 = .ok (.iload_n 1, 1) := dk_27 (dk_at dksX14_signEnd_15 10 rfl rfl)
theorem dX14_signEnd_358 : decode cX14_signEnd 358 = .ok (.invokevirtual 414, 3) := dk_182 1 158 (dk_at dksX14_signEnd_15 11 rfl rfl)
theorem dX14_signEnd_361 : decode cX14_signEnd 361 = .ok (.aload_n 0, 1) := dk_42 (dk_at dksX14_signEnd_15 14 rfl rfl)
theorem dX14_signEnd_362 : decode cX14_signEnd 362 = .ok (.getfield 33, 3) := dk_180 0 33 (dk_at dksX14_signEnd_15 15 rfl rfl)
theorem dX14_signEnd_365 : decode cX14_signEnd 365 = .ok (.aload_n 0, 1) := dk_42 (dk_at dksX14_signEnd_15 18 rfl rfl)
theorem dX14_signEnd_366 : decode cX14_signEnd 366 = .ok (.getfield 367, 3) := dk_180 1 111 (dk_at dksX14_signEnd_15 19 rfl rfl)
theorem dX14_signEnd_369 : decode cX14_signEnd 369 = .ok (.iload 5, 2) := dk_21 5 (dk_at dksX14_signEnd_15 22 rfl rfl)
theorem dX14_signEnd_371 : decode cX14_signEnd 371 = .ok (.iastore, 1) := dk_79 (dk_at dksX14_signEnd_16 0 rfl rfl)
theorem dX14_signEnd_372 : decode cX14_signEnd 372 = .ok (.iload_n 1, 1) := dk_27 (dk_at dksX14_signEnd_16 1 rfl rfl)
theorem dX14_signEnd_373 : decode cX14_signEnd 373 = .ok (.iload 4, 2) := dk_21 4 (dk_at dksX14_signEnd_16 2 rfl rfl)
theorem dX14_signEnd_375 : decode cX14_signEnd 375 = .ok (.iadd, 1) := dk_96 (dk_at dksX14_signEnd_16 4 rfl rfl)
theorem dX14_signEnd_376 : decode cX14_signEnd 376 = .ok (.ireturn, 1) := dk_172 (dk_at dksX14_signEnd_16 5 rfl rfl)
abbrev cX14_roomForTypes : ByteArray := prog_15_method_8_code
def yX14_roomForTypes : MethodName := ⟨RX14, "roomForTypes", "()V"⟩
def dkwX14_roomForTypes_26 : List UInt8 := [181, 0, 214, 42, 27, 6, 108, 16, 8, 96, 188, 11, 181, 0, 230, 177]
abbrev dktX14_roomForTypes_26 : List UInt8 := dkwX14_roomForTypes_26 ++ []
def dkwX14_roomForTypes_25 : List UInt8 := [181, 0, 181, 42, 27, 6, 108, 16, 8, 96, 188, 10, 181, 0, 184, 42, 27, 6, 108, 16, 8, 96, 188, 10]
abbrev dktX14_roomForTypes_25 : List UInt8 := dkwX14_roomForTypes_25 ++ dktX14_roomForTypes_26
def dkwX14_roomForTypes_24 : List UInt8 := [181, 0, 175, 42, 27, 6, 108, 16, 8, 96, 188, 10, 181, 0, 178, 42, 27, 6, 108, 16, 8, 96, 188, 10]
abbrev dktX14_roomForTypes_24 : List UInt8 := dkwX14_roomForTypes_24 ++ dktX14_roomForTypes_25
def dkwX14_roomForTypes_23 : List UInt8 := [181, 0, 124, 42, 27, 6, 108, 16, 8, 96, 188, 10, 181, 0, 127, 42, 27, 6, 108, 16, 8, 96, 188, 10]
abbrev dktX14_roomForTypes_23 : List UInt8 := dkwX14_roomForTypes_23 ++ dktX14_roomForTypes_24
def dkwX14_roomForTypes_22 : List UInt8 := [181, 0, 118, 42, 27, 6, 108, 16, 8, 96, 188, 10, 181, 0, 121, 42, 27, 6, 108, 16, 8, 96, 188, 10]
abbrev dktX14_roomForTypes_22 : List UInt8 := dkwX14_roomForTypes_22 ++ dktX14_roomForTypes_23
def dkwX14_roomForTypes_21 : List UInt8 := [181, 0, 84, 42, 27, 6, 108, 16, 8, 96, 188, 10, 181, 0, 115, 42, 27, 6, 108, 16, 8, 96, 188, 4]
abbrev dktX14_roomForTypes_21 : List UInt8 := dkwX14_roomForTypes_21 ++ dktX14_roomForTypes_22
def dkwX14_roomForTypes_20 : List UInt8 := [181, 0, 78, 42, 27, 6, 108, 16, 8, 96, 188, 10, 181, 0, 81, 42, 27, 6, 108, 16, 8, 96, 188, 10]
abbrev dktX14_roomForTypes_20 : List UInt8 := dkwX14_roomForTypes_20 ++ dktX14_roomForTypes_21
def dkwX14_roomForTypes_19 : List UInt8 := [181, 1, 1, 42, 27, 6, 108, 16, 8, 96, 188, 10, 181, 0, 75, 42, 27, 6, 108, 16, 8, 96, 188, 10]
abbrev dktX14_roomForTypes_19 : List UInt8 := dkwX14_roomForTypes_19 ++ dktX14_roomForTypes_20
def dkwX14_roomForTypes_18 : List UInt8 := [181, 0, 251, 42, 27, 5, 108, 7, 96, 188, 10, 181, 0, 254, 42, 27, 5, 108, 7, 96, 188, 10]
abbrev dktX14_roomForTypes_18 : List UInt8 := dkwX14_roomForTypes_18 ++ dktX14_roomForTypes_19
def dkwX14_roomForTypes_17 : List UInt8 := [181, 0, 163, 42, 27, 5, 108, 7, 96, 188, 10, 181, 0, 166, 42, 27, 5, 108, 7, 96, 188, 10]
abbrev dktX14_roomForTypes_17 : List UInt8 := dkwX14_roomForTypes_17 ++ dktX14_roomForTypes_18
def dkwX14_roomForTypes_16 : List UInt8 := [181, 0, 157, 42, 27, 5, 108, 7, 96, 188, 10, 181, 0, 160, 42, 27, 5, 108, 7, 96, 188, 10]
abbrev dktX14_roomForTypes_16 : List UInt8 := dkwX14_roomForTypes_16 ++ dktX14_roomForTypes_17
def dkwX14_roomForTypes_15 : List UInt8 := [181, 0, 151, 42, 27, 5, 108, 7, 96, 188, 10, 181, 0, 154, 42, 27, 5, 108, 7, 96, 188, 4]
abbrev dktX14_roomForTypes_15 : List UInt8 := dkwX14_roomForTypes_15 ++ dktX14_roomForTypes_16
def dkwX14_roomForTypes_14 : List UInt8 := [181, 0, 145, 42, 27, 5, 108, 7, 96, 188, 10, 181, 0, 148, 42, 27, 5, 108, 7, 96, 188, 10]
abbrev dktX14_roomForTypes_14 : List UInt8 := dkwX14_roomForTypes_14 ++ dktX14_roomForTypes_15
def dkwX14_roomForTypes_13 : List UInt8 := [181, 0, 139, 42, 27, 5, 108, 7, 96, 188, 10, 181, 0, 142, 42, 27, 5, 108, 7, 96, 188, 10]
abbrev dktX14_roomForTypes_13 : List UInt8 := dkwX14_roomForTypes_13 ++ dktX14_roomForTypes_14
def dkwX14_roomForTypes_12 : List UInt8 := [181, 0, 133, 42, 27, 5, 108, 7, 96, 188, 10, 181, 0, 136, 42, 27, 5, 108, 7, 96, 188, 4]
abbrev dktX14_roomForTypes_12 : List UInt8 := dkwX14_roomForTypes_12 ++ dktX14_roomForTypes_13
def dkwX14_roomForTypes_11 : List UInt8 := [181, 0, 112, 42, 27, 5, 108, 7, 96, 188, 10, 181, 0, 130, 42, 27, 5, 108, 7, 96, 188, 4]
abbrev dktX14_roomForTypes_11 : List UInt8 := dkwX14_roomForTypes_11 ++ dktX14_roomForTypes_12
def dkwX14_roomForTypes_10 : List UInt8 := [181, 0, 106, 42, 27, 5, 108, 7, 96, 188, 10, 181, 0, 109, 42, 27, 5, 108, 7, 96, 188, 10]
abbrev dktX14_roomForTypes_10 : List UInt8 := dkwX14_roomForTypes_10 ++ dktX14_roomForTypes_11
def dkwX14_roomForTypes_9 : List UInt8 := [188, 10, 181, 0, 100, 42, 27, 5, 108, 7, 96, 188, 10, 181, 0, 103, 42, 27, 5, 108, 7, 96, 188, 10]
abbrev dktX14_roomForTypes_9 : List UInt8 := dkwX14_roomForTypes_9 ++ dktX14_roomForTypes_10
def dkwX14_roomForTypes_8 : List UInt8 := [96, 188, 4, 181, 0, 93, 42, 27, 5, 108, 7, 96, 188, 10, 181, 0, 97, 42, 27, 5, 108, 7, 96]
abbrev dktX14_roomForTypes_8 : List UInt8 := dkwX14_roomForTypes_8 ++ dktX14_roomForTypes_9
def dkwX14_roomForTypes_7 : List UInt8 := [108, 7, 96, 188, 10, 181, 0, 87, 42, 27, 5, 108, 7, 96, 188, 10, 181, 0, 90, 42, 27, 5, 108, 7]
abbrev dktX14_roomForTypes_7 : List UInt8 := dkwX14_roomForTypes_7 ++ dktX14_roomForTypes_8
def dkwX14_roomForTypes_6 : List UInt8 := [42, 27, 188, 10, 181, 0, 205, 42, 27, 188, 10, 181, 0, 169, 42, 27, 188, 10, 181, 0, 172, 42, 27, 5]
abbrev dktX14_roomForTypes_6 : List UInt8 := dkwX14_roomForTypes_6 ++ dktX14_roomForTypes_7
def dkwX14_roomForTypes_5 : List UInt8 := [181, 0, 220, 42, 27, 188, 10, 181, 0, 224, 42, 27, 188, 10, 181, 0, 233, 42, 27, 188, 10, 181, 0, 202]
abbrev dktX14_roomForTypes_5 : List UInt8 := dkwX14_roomForTypes_5 ++ dktX14_roomForTypes_6
def dkwX14_roomForTypes_4 : List UInt8 := [188, 10, 181, 0, 69, 42, 27, 188, 10, 181, 0, 72, 42, 27, 188, 4, 181, 0, 217, 42, 27, 188, 11]
abbrev dktX14_roomForTypes_4 : List UInt8 := dkwX14_roomForTypes_4 ++ dktX14_roomForTypes_5
def dkwX14_roomForTypes_3 : List UInt8 := [42, 27, 188, 10, 181, 0, 60, 42, 27, 188, 10, 181, 0, 63, 42, 27, 188, 10, 181, 0, 66, 42, 27]
abbrev dktX14_roomForTypes_3 : List UInt8 := dkwX14_roomForTypes_3 ++ dktX14_roomForTypes_4
def dkwX14_roomForTypes_2 : List UInt8 := [181, 0, 48, 42, 27, 188, 10, 181, 0, 51, 42, 27, 188, 10, 181, 0, 54, 42, 27, 188, 10, 181, 0, 57]
abbrev dktX14_roomForTypes_2 : List UInt8 := dkwX14_roomForTypes_2 ++ dktX14_roomForTypes_3
def dkwX14_roomForTypes_1 : List UInt8 := [184, 1, 107, 60, 42, 27, 188, 10, 181, 0, 42, 42, 27, 188, 10, 181, 0, 45, 42, 27, 188, 10]
abbrev dktX14_roomForTypes_1 : List UInt8 := dkwX14_roomForTypes_1 ++ dktX14_roomForTypes_2
def dkwX14_roomForTypes_0 : List UInt8 := [42, 180, 0, 42, 190, 42, 180, 1, 111, 7, 96, 161, 0, 4, 177, 42, 180, 1, 111, 7, 96, 19, 1, 106]
abbrev dktX14_roomForTypes_0 : List UInt8 := dkwX14_roomForTypes_0 ++ dktX14_roomForTypes_1
theorem dksX14_roomForTypes_0 : cX14_roomForTypes.data.toList.drop 0 = dktX14_roomForTypes_0 := by decide +kernel
theorem dksX14_roomForTypes_1 : cX14_roomForTypes.data.toList.drop 24 = dktX14_roomForTypes_1 := dk_seg dksX14_roomForTypes_0 24 rfl rfl
theorem dksX14_roomForTypes_2 : cX14_roomForTypes.data.toList.drop 46 = dktX14_roomForTypes_2 := dk_seg dksX14_roomForTypes_1 22 rfl rfl
theorem dksX14_roomForTypes_3 : cX14_roomForTypes.data.toList.drop 70 = dktX14_roomForTypes_3 := dk_seg dksX14_roomForTypes_2 24 rfl rfl
theorem dksX14_roomForTypes_4 : cX14_roomForTypes.data.toList.drop 93 = dktX14_roomForTypes_4 := dk_seg dksX14_roomForTypes_3 23 rfl rfl
theorem dksX14_roomForTypes_5 : cX14_roomForTypes.data.toList.drop 116 = dktX14_roomForTypes_5 := dk_seg dksX14_roomForTypes_4 23 rfl rfl
theorem dksX14_roomForTypes_6 : cX14_roomForTypes.data.toList.drop 140 = dktX14_roomForTypes_6 := dk_seg dksX14_roomForTypes_5 24 rfl rfl
theorem dksX14_roomForTypes_7 : cX14_roomForTypes.data.toList.drop 164 = dktX14_roomForTypes_7 := dk_seg dksX14_roomForTypes_6 24 rfl rfl
theorem dksX14_roomForTypes_8 : cX14_roomForTypes.data.toList.drop 188 = dktX14_roomForTypes_8 := dk_seg dksX14_roomForTypes_7 24 rfl rfl
theorem dksX14_roomForTypes_9 : cX14_roomForTypes.data.toList.drop 211 = dktX14_roomForTypes_9 := dk_seg dksX14_roomForTypes_8 23 rfl rfl
theorem dksX14_roomForTypes_10 : cX14_roomForTypes.data.toList.drop 235 = dktX14_roomForTypes_10 := dk_seg dksX14_roomForTypes_9 24 rfl rfl
theorem dksX14_roomForTypes_11 : cX14_roomForTypes.data.toList.drop 257 = dktX14_roomForTypes_11 := dk_seg dksX14_roomForTypes_10 22 rfl rfl
theorem dksX14_roomForTypes_12 : cX14_roomForTypes.data.toList.drop 279 = dktX14_roomForTypes_12 := dk_seg dksX14_roomForTypes_11 22 rfl rfl
theorem dksX14_roomForTypes_13 : cX14_roomForTypes.data.toList.drop 301 = dktX14_roomForTypes_13 := dk_seg dksX14_roomForTypes_12 22 rfl rfl
theorem dksX14_roomForTypes_14 : cX14_roomForTypes.data.toList.drop 323 = dktX14_roomForTypes_14 := dk_seg dksX14_roomForTypes_13 22 rfl rfl
theorem dksX14_roomForTypes_15 : cX14_roomForTypes.data.toList.drop 345 = dktX14_roomForTypes_15 := dk_seg dksX14_roomForTypes_14 22 rfl rfl
theorem dksX14_roomForTypes_16 : cX14_roomForTypes.data.toList.drop 367 = dktX14_roomForTypes_16 := dk_seg dksX14_roomForTypes_15 22 rfl rfl
theorem dksX14_roomForTypes_17 : cX14_roomForTypes.data.toList.drop 389 = dktX14_roomForTypes_17 := dk_seg dksX14_roomForTypes_16 22 rfl rfl
theorem dksX14_roomForTypes_18 : cX14_roomForTypes.data.toList.drop 411 = dktX14_roomForTypes_18 := dk_seg dksX14_roomForTypes_17 22 rfl rfl
theorem dksX14_roomForTypes_19 : cX14_roomForTypes.data.toList.drop 433 = dktX14_roomForTypes_19 := dk_seg dksX14_roomForTypes_18 22 rfl rfl
theorem dksX14_roomForTypes_20 : cX14_roomForTypes.data.toList.drop 457 = dktX14_roomForTypes_20 := dk_seg dksX14_roomForTypes_19 24 rfl rfl
theorem dksX14_roomForTypes_21 : cX14_roomForTypes.data.toList.drop 481 = dktX14_roomForTypes_21 := dk_seg dksX14_roomForTypes_20 24 rfl rfl
theorem dksX14_roomForTypes_22 : cX14_roomForTypes.data.toList.drop 505 = dktX14_roomForTypes_22 := dk_seg dksX14_roomForTypes_21 24 rfl rfl
theorem dksX14_roomForTypes_23 : cX14_roomForTypes.data.toList.drop 529 = dktX14_roomForTypes_23 := dk_seg dksX14_roomForTypes_22 24 rfl rfl
theorem dksX14_roomForTypes_24 : cX14_roomForTypes.data.toList.drop 553 = dktX14_roomForTypes_24 := dk_seg dksX14_roomForTypes_23 24 rfl rfl
theorem dksX14_roomForTypes_25 : cX14_roomForTypes.data.toList.drop 577 = dktX14_roomForTypes_25 := dk_seg dksX14_roomForTypes_24 24 rfl rfl
theorem dksX14_roomForTypes_26 : cX14_roomForTypes.data.toList.drop 601 = dktX14_roomForTypes_26 := dk_seg dksX14_roomForTypes_25 24 rfl rfl
theorem dX14_roomForTypes_0 : decode cX14_roomForTypes 0 = .ok (.aload_n 0, 1) := dk_42 (dk_at dksX14_roomForTypes_0 0 rfl rfl)
theorem dX14_roomForTypes_1 : decode cX14_roomForTypes 1 = .ok (.getfield 42, 3) := dk_180 0 42 (dk_at dksX14_roomForTypes_0 1 rfl rfl)
theorem dX14_roomForTypes_4 : decode cX14_roomForTypes 4 = .ok (.arraylength, 1) := dk_190 (dk_at dksX14_roomForTypes_0 4 rfl rfl)
theorem dX14_roomForTypes_5 : decode cX14_roomForTypes 5 = .ok (.aload_n 0, 1) := dk_42 (dk_at dksX14_roomForTypes_0 5 rfl rfl)
theorem dX14_roomForTypes_6 : decode cX14_roomForTypes 6 = .ok (.getfield 367, 3) := dk_180 1 111 (dk_at dksX14_roomForTypes_0 6 rfl rfl)
theorem dX14_roomForTypes_9 : decode cX14_roomForTypes 9 = .ok (.iconst 4, 1) := dk_7 (dk_at dksX14_roomForTypes_0 9 rfl rfl)
theorem dX14_roomForTypes_10 : decode cX14_roomForTypes 10 = .ok (.iadd, 1) := dk_96 (dk_at dksX14_roomForTypes_0 10 rfl rfl)
theorem dX14_roomForTypes_11 : decode cX14_roomForTypes 11 = .ok (.if_icmp .lt 4, 3) := dk_161 0 4 (dk_at dksX14_roomForTypes_0 11 rfl rfl)
theorem dX14_roomForTypes_14 : decode cX14_roomForTypes 14 = .ok (.return_, 1) := dk_177 (dk_at dksX14_roomForTypes_0 14 rfl rfl)
theorem dX14_roomForTypes_15 : decode cX14_roomForTypes 15 = .ok (.aload_n 0, 1) := dk_42 (dk_at dksX14_roomForTypes_0 15 rfl rfl)
theorem dX14_roomForTypes_16 : decode cX14_roomForTypes 16 = .ok (.getfield 367, 3) := dk_180 1 111 (dk_at dksX14_roomForTypes_0 16 rfl rfl)
theorem dX14_roomForTypes_19 : decode cX14_roomForTypes 19 = .ok (.iconst 4, 1) := dk_7 (dk_at dksX14_roomForTypes_0 19 rfl rfl)
theorem dX14_roomForTypes_20 : decode cX14_roomForTypes 20 = .ok (.iadd, 1) := dk_96 (dk_at dksX14_roomForTypes_0 20 rfl rfl)
theorem dX14_roomForTypes_21 : decode cX14_roomForTypes 21 = .ok (.ldc_w 362, 3) := dk_19 1 106 (dk_at dksX14_roomForTypes_0 21 rfl rfl)
theorem dX14_roomForTypes_24 : decode cX14_roomForTypes 24 = .ok (.invokestatic 363, 3) := dk_184 1 107 (dk_at dksX14_roomForTypes_1 0 rfl rfl)
theorem dX14_roomForTypes_27 : decode cX14_roomForTypes 27 = .ok (.istore_n 1, 1) := dk_60 (dk_at dksX14_roomForTypes_1 3 rfl rfl)
theorem dX14_roomForTypes_28 : decode cX14_roomForTypes 28 = .ok (.aload_n 0, 1) := dk_42 (dk_at dksX14_roomForTypes_1 4 rfl rfl)
theorem dX14_roomForTypes_29 : decode cX14_roomForTypes 29 = .ok (.iload_n 1, 1) := dk_27 (dk_at dksX14_roomForTypes_1 5 rfl rfl)
theorem dX14_roomForTypes_30 : decode cX14_roomForTypes 30 = .ok (.newarray .int, 2) := dk_188_10 (dk_at dksX14_roomForTypes_1 6 rfl rfl)
theorem dX14_roomForTypes_32 : decode cX14_roomForTypes 32 = .ok (.putfield 42, 3) := dk_181 0 42 (dk_at dksX14_roomForTypes_1 8 rfl rfl)
theorem dX14_roomForTypes_35 : decode cX14_roomForTypes 35 = .ok (.aload_n 0, 1) := dk_42 (dk_at dksX14_roomForTypes_1 11 rfl rfl)
theorem dX14_roomForTypes_36 : decode cX14_roomForTypes 36 = .ok (.iload_n 1, 1) := dk_27 (dk_at dksX14_roomForTypes_1 12 rfl rfl)
theorem dX14_roomForTypes_37 : decode cX14_roomForTypes 37 = .ok (.newarray .int, 2) := dk_188_10 (dk_at dksX14_roomForTypes_1 13 rfl rfl)
theorem dX14_roomForTypes_39 : decode cX14_roomForTypes 39 = .ok (.putfield 45, 3) := dk_181 0 45 (dk_at dksX14_roomForTypes_1 15 rfl rfl)
theorem dX14_roomForTypes_42 : decode cX14_roomForTypes 42 = .ok (.aload_n 0, 1) := dk_42 (dk_at dksX14_roomForTypes_1 18 rfl rfl)
theorem dX14_roomForTypes_43 : decode cX14_roomForTypes 43 = .ok (.iload_n 1, 1) := dk_27 (dk_at dksX14_roomForTypes_1 19 rfl rfl)
theorem dX14_roomForTypes_44 : decode cX14_roomForTypes 44 = .ok (.newarray .int, 2) := dk_188_10 (dk_at dksX14_roomForTypes_1 20 rfl rfl)
theorem dX14_roomForTypes_46 : decode cX14_roomForTypes 46 = .ok (.putfield 48, 3) := dk_181 0 48 (dk_at dksX14_roomForTypes_2 0 rfl rfl)
theorem dX14_roomForTypes_49 : decode cX14_roomForTypes 49 = .ok (.aload_n 0, 1) := dk_42 (dk_at dksX14_roomForTypes_2 3 rfl rfl)
theorem dX14_roomForTypes_50 : decode cX14_roomForTypes 50 = .ok (.iload_n 1, 1) := dk_27 (dk_at dksX14_roomForTypes_2 4 rfl rfl)
theorem dX14_roomForTypes_51 : decode cX14_roomForTypes 51 = .ok (.newarray .int, 2) := dk_188_10 (dk_at dksX14_roomForTypes_2 5 rfl rfl)
theorem dX14_roomForTypes_53 : decode cX14_roomForTypes 53 = .ok (.putfield 51, 3) := dk_181 0 51 (dk_at dksX14_roomForTypes_2 7 rfl rfl)
theorem dX14_roomForTypes_56 : decode cX14_roomForTypes 56 = .ok (.aload_n 0, 1) := dk_42 (dk_at dksX14_roomForTypes_2 10 rfl rfl)
theorem dX14_roomForTypes_57 : decode cX14_roomForTypes 57 = .ok (.iload_n 1, 1) := dk_27 (dk_at dksX14_roomForTypes_2 11 rfl rfl)
theorem dX14_roomForTypes_58 : decode cX14_roomForTypes 58 = .ok (.newarray .int, 2) := dk_188_10 (dk_at dksX14_roomForTypes_2 12 rfl rfl)
theorem dX14_roomForTypes_60 : decode cX14_roomForTypes 60 = .ok (.putfield 54, 3) := dk_181 0 54 (dk_at dksX14_roomForTypes_2 14 rfl rfl)
theorem dX14_roomForTypes_63 : decode cX14_roomForTypes 63 = .ok (.aload_n 0, 1) := dk_42 (dk_at dksX14_roomForTypes_2 17 rfl rfl)
theorem dX14_roomForTypes_64 : decode cX14_roomForTypes 64 = .ok (.iload_n 1, 1) := dk_27 (dk_at dksX14_roomForTypes_2 18 rfl rfl)
theorem dX14_roomForTypes_65 : decode cX14_roomForTypes 65 = .ok (.newarray .int, 2) := dk_188_10 (dk_at dksX14_roomForTypes_2 19 rfl rfl)
theorem dX14_roomForTypes_67 : decode cX14_roomForTypes 67 = .ok (.putfield 57, 3) := dk_181 0 57 (dk_at dksX14_roomForTypes_2 21 rfl rfl)
theorem dX14_roomForTypes_70 : decode cX14_roomForTypes 70 = .ok (.aload_n 0, 1) := dk_42 (dk_at dksX14_roomForTypes_3 0 rfl rfl)
theorem dX14_roomForTypes_71 : decode cX14_roomForTypes 71 = .ok (.iload_n 1, 1) := dk_27 (dk_at dksX14_roomForTypes_3 1 rfl rfl)
theorem dX14_roomForTypes_72 : decode cX14_roomForTypes 72 = .ok (.newarray .int, 2) := dk_188_10 (dk_at dksX14_roomForTypes_3 2 rfl rfl)
theorem dX14_roomForTypes_74 : decode cX14_roomForTypes 74 = .ok (.putfield 60, 3) := dk_181 0 60 (dk_at dksX14_roomForTypes_3 4 rfl rfl)
theorem dX14_roomForTypes_77 : decode cX14_roomForTypes 77 = .ok (.aload_n 0, 1) := dk_42 (dk_at dksX14_roomForTypes_3 7 rfl rfl)
theorem dX14_roomForTypes_78 : decode cX14_roomForTypes 78 = .ok (.iload_n 1, 1) := dk_27 (dk_at dksX14_roomForTypes_3 8 rfl rfl)
theorem dX14_roomForTypes_79 : decode cX14_roomForTypes 79 = .ok (.newarray .int, 2) := dk_188_10 (dk_at dksX14_roomForTypes_3 9 rfl rfl)
theorem dX14_roomForTypes_81 : decode cX14_roomForTypes 81 = .ok (.putfield 63, 3) := dk_181 0 63 (dk_at dksX14_roomForTypes_3 11 rfl rfl)
theorem dX14_roomForTypes_84 : decode cX14_roomForTypes 84 = .ok (.aload_n 0, 1) := dk_42 (dk_at dksX14_roomForTypes_3 14 rfl rfl)
theorem dX14_roomForTypes_85 : decode cX14_roomForTypes 85 = .ok (.iload_n 1, 1) := dk_27 (dk_at dksX14_roomForTypes_3 15 rfl rfl)
theorem dX14_roomForTypes_86 : decode cX14_roomForTypes 86 = .ok (.newarray .int, 2) := dk_188_10 (dk_at dksX14_roomForTypes_3 16 rfl rfl)
theorem dX14_roomForTypes_88 : decode cX14_roomForTypes 88 = .ok (.putfield 66, 3) := dk_181 0 66 (dk_at dksX14_roomForTypes_3 18 rfl rfl)
theorem dX14_roomForTypes_91 : decode cX14_roomForTypes 91 = .ok (.aload_n 0, 1) := dk_42 (dk_at dksX14_roomForTypes_3 21 rfl rfl)
theorem dX14_roomForTypes_92 : decode cX14_roomForTypes 92 = .ok (.iload_n 1, 1) := dk_27 (dk_at dksX14_roomForTypes_3 22 rfl rfl)
theorem dX14_roomForTypes_93 : decode cX14_roomForTypes 93 = .ok (.newarray .int, 2) := dk_188_10 (dk_at dksX14_roomForTypes_4 0 rfl rfl)
theorem dX14_roomForTypes_95 : decode cX14_roomForTypes 95 = .ok (.putfield 69, 3) := dk_181 0 69 (dk_at dksX14_roomForTypes_4 2 rfl rfl)
theorem dX14_roomForTypes_98 : decode cX14_roomForTypes 98 = .ok (.aload_n 0, 1) := dk_42 (dk_at dksX14_roomForTypes_4 5 rfl rfl)
theorem dX14_roomForTypes_99 : decode cX14_roomForTypes 99 = .ok (.iload_n 1, 1) := dk_27 (dk_at dksX14_roomForTypes_4 6 rfl rfl)
theorem dX14_roomForTypes_100 : decode cX14_roomForTypes 100 = .ok (.newarray .int, 2) := dk_188_10 (dk_at dksX14_roomForTypes_4 7 rfl rfl)
theorem dX14_roomForTypes_102 : decode cX14_roomForTypes 102 = .ok (.putfield 72, 3) := dk_181 0 72 (dk_at dksX14_roomForTypes_4 9 rfl rfl)
theorem dX14_roomForTypes_105 : decode cX14_roomForTypes 105 = .ok (.aload_n 0, 1) := dk_42 (dk_at dksX14_roomForTypes_4 12 rfl rfl)
theorem dX14_roomForTypes_106 : decode cX14_roomForTypes 106 = .ok (.iload_n 1, 1) := dk_27 (dk_at dksX14_roomForTypes_4 13 rfl rfl)
theorem dX14_roomForTypes_107 : decode cX14_roomForTypes 107 = .ok (.newarray .boolean, 2) := dk_188_4 (dk_at dksX14_roomForTypes_4 14 rfl rfl)
theorem dX14_roomForTypes_109 : decode cX14_roomForTypes 109 = .ok (.putfield 217, 3) := dk_181 0 217 (dk_at dksX14_roomForTypes_4 16 rfl rfl)
theorem dX14_roomForTypes_112 : decode cX14_roomForTypes 112 = .ok (.aload_n 0, 1) := dk_42 (dk_at dksX14_roomForTypes_4 19 rfl rfl)
theorem dX14_roomForTypes_113 : decode cX14_roomForTypes 113 = .ok (.iload_n 1, 1) := dk_27 (dk_at dksX14_roomForTypes_4 20 rfl rfl)
theorem dX14_roomForTypes_114 : decode cX14_roomForTypes 114 = .ok (.newarray .long, 2) := dk_188_11 (dk_at dksX14_roomForTypes_4 21 rfl rfl)
theorem dX14_roomForTypes_116 : decode cX14_roomForTypes 116 = .ok (.putfield 220, 3) := dk_181 0 220 (dk_at dksX14_roomForTypes_5 0 rfl rfl)
theorem dX14_roomForTypes_119 : decode cX14_roomForTypes 119 = .ok (.aload_n 0, 1) := dk_42 (dk_at dksX14_roomForTypes_5 3 rfl rfl)
theorem dX14_roomForTypes_120 : decode cX14_roomForTypes 120 = .ok (.iload_n 1, 1) := dk_27 (dk_at dksX14_roomForTypes_5 4 rfl rfl)
theorem dX14_roomForTypes_121 : decode cX14_roomForTypes 121 = .ok (.newarray .int, 2) := dk_188_10 (dk_at dksX14_roomForTypes_5 5 rfl rfl)
theorem dX14_roomForTypes_123 : decode cX14_roomForTypes 123 = .ok (.putfield 224, 3) := dk_181 0 224 (dk_at dksX14_roomForTypes_5 7 rfl rfl)
theorem dX14_roomForTypes_126 : decode cX14_roomForTypes 126 = .ok (.aload_n 0, 1) := dk_42 (dk_at dksX14_roomForTypes_5 10 rfl rfl)
theorem dX14_roomForTypes_127 : decode cX14_roomForTypes 127 = .ok (.iload_n 1, 1) := dk_27 (dk_at dksX14_roomForTypes_5 11 rfl rfl)
theorem dX14_roomForTypes_128 : decode cX14_roomForTypes 128 = .ok (.newarray .int, 2) := dk_188_10 (dk_at dksX14_roomForTypes_5 12 rfl rfl)
theorem dX14_roomForTypes_130 : decode cX14_roomForTypes 130 = .ok (.putfield 233, 3) := dk_181 0 233 (dk_at dksX14_roomForTypes_5 14 rfl rfl)
theorem dX14_roomForTypes_133 : decode cX14_roomForTypes 133 = .ok (.aload_n 0, 1) := dk_42 (dk_at dksX14_roomForTypes_5 17 rfl rfl)
theorem dX14_roomForTypes_134 : decode cX14_roomForTypes 134 = .ok (.iload_n 1, 1) := dk_27 (dk_at dksX14_roomForTypes_5 18 rfl rfl)
theorem dX14_roomForTypes_135 : decode cX14_roomForTypes 135 = .ok (.newarray .int, 2) := dk_188_10 (dk_at dksX14_roomForTypes_5 19 rfl rfl)
theorem dX14_roomForTypes_137 : decode cX14_roomForTypes 137 = .ok (.putfield 202, 3) := dk_181 0 202 (dk_at dksX14_roomForTypes_5 21 rfl rfl)
theorem dX14_roomForTypes_140 : decode cX14_roomForTypes 140 = .ok (.aload_n 0, 1) := dk_42 (dk_at dksX14_roomForTypes_6 0 rfl rfl)
theorem dX14_roomForTypes_141 : decode cX14_roomForTypes 141 = .ok (.iload_n 1, 1) := dk_27 (dk_at dksX14_roomForTypes_6 1 rfl rfl)
theorem dX14_roomForTypes_142 : decode cX14_roomForTypes 142 = .ok (.newarray .int, 2) := dk_188_10 (dk_at dksX14_roomForTypes_6 2 rfl rfl)
theorem dX14_roomForTypes_144 : decode cX14_roomForTypes 144 = .ok (.putfield 205, 3) := dk_181 0 205 (dk_at dksX14_roomForTypes_6 4 rfl rfl)
theorem dX14_roomForTypes_147 : decode cX14_roomForTypes 147 = .ok (.aload_n 0, 1) := dk_42 (dk_at dksX14_roomForTypes_6 7 rfl rfl)
theorem dX14_roomForTypes_148 : decode cX14_roomForTypes 148 = .ok (.iload_n 1, 1) := dk_27 (dk_at dksX14_roomForTypes_6 8 rfl rfl)
theorem dX14_roomForTypes_149 : decode cX14_roomForTypes 149 = .ok (.newarray .int, 2) := dk_188_10 (dk_at dksX14_roomForTypes_6 9 rfl rfl)
theorem dX14_roomForTypes_151 : decode cX14_roomForTypes 151 = .ok (.putfield 169, 3) := dk_181 0 169 (dk_at dksX14_roomForTypes_6 11 rfl rfl)
theorem dX14_roomForTypes_154 : decode cX14_roomForTypes 154 = .ok (.aload_n 0, 1) := dk_42 (dk_at dksX14_roomForTypes_6 14 rfl rfl)
theorem dX14_roomForTypes_155 : decode cX14_roomForTypes 155 = .ok (.iload_n 1, 1) := dk_27 (dk_at dksX14_roomForTypes_6 15 rfl rfl)
theorem dX14_roomForTypes_156 : decode cX14_roomForTypes 156 = .ok (.newarray .int, 2) := dk_188_10 (dk_at dksX14_roomForTypes_6 16 rfl rfl)
theorem dX14_roomForTypes_158 : decode cX14_roomForTypes 158 = .ok (.putfield 172, 3) := dk_181 0 172 (dk_at dksX14_roomForTypes_6 18 rfl rfl)
theorem dX14_roomForTypes_161 : decode cX14_roomForTypes 161 = .ok (.aload_n 0, 1) := dk_42 (dk_at dksX14_roomForTypes_6 21 rfl rfl)
theorem dX14_roomForTypes_162 : decode cX14_roomForTypes 162 = .ok (.iload_n 1, 1) := dk_27 (dk_at dksX14_roomForTypes_6 22 rfl rfl)
theorem dX14_roomForTypes_163 : decode cX14_roomForTypes 163 = .ok (.iconst 2, 1) := dk_5 (dk_at dksX14_roomForTypes_6 23 rfl rfl)
theorem dX14_roomForTypes_164 : decode cX14_roomForTypes 164 = .ok (.idiv, 1) := dk_108 (dk_at dksX14_roomForTypes_7 0 rfl rfl)
theorem dX14_roomForTypes_165 : decode cX14_roomForTypes 165 = .ok (.iconst 4, 1) := dk_7 (dk_at dksX14_roomForTypes_7 1 rfl rfl)
theorem dX14_roomForTypes_166 : decode cX14_roomForTypes 166 = .ok (.iadd, 1) := dk_96 (dk_at dksX14_roomForTypes_7 2 rfl rfl)
theorem dX14_roomForTypes_167 : decode cX14_roomForTypes 167 = .ok (.newarray .int, 2) := dk_188_10 (dk_at dksX14_roomForTypes_7 3 rfl rfl)
theorem dX14_roomForTypes_169 : decode cX14_roomForTypes 169 = .ok (.putfield 87, 3) := dk_181 0 87 (dk_at dksX14_roomForTypes_7 5 rfl rfl)
theorem dX14_roomForTypes_172 : decode cX14_roomForTypes 172 = .ok (.aload_n 0, 1) := dk_42 (dk_at dksX14_roomForTypes_7 8 rfl rfl)
theorem dX14_roomForTypes_173 : decode cX14_roomForTypes 173 = .ok (.iload_n 1, 1) := dk_27 (dk_at dksX14_roomForTypes_7 9 rfl rfl)
theorem dX14_roomForTypes_174 : decode cX14_roomForTypes 174 = .ok (.iconst 2, 1) := dk_5 (dk_at dksX14_roomForTypes_7 10 rfl rfl)
theorem dX14_roomForTypes_175 : decode cX14_roomForTypes 175 = .ok (.idiv, 1) := dk_108 (dk_at dksX14_roomForTypes_7 11 rfl rfl)
theorem dX14_roomForTypes_176 : decode cX14_roomForTypes 176 = .ok (.iconst 4, 1) := dk_7 (dk_at dksX14_roomForTypes_7 12 rfl rfl)
theorem dX14_roomForTypes_177 : decode cX14_roomForTypes 177 = .ok (.iadd, 1) := dk_96 (dk_at dksX14_roomForTypes_7 13 rfl rfl)
theorem dX14_roomForTypes_178 : decode cX14_roomForTypes 178 = .ok (.newarray .int, 2) := dk_188_10 (dk_at dksX14_roomForTypes_7 14 rfl rfl)
theorem dX14_roomForTypes_180 : decode cX14_roomForTypes 180 = .ok (.putfield 90, 3) := dk_181 0 90 (dk_at dksX14_roomForTypes_7 16 rfl rfl)
theorem dX14_roomForTypes_183 : decode cX14_roomForTypes 183 = .ok (.aload_n 0, 1) := dk_42 (dk_at dksX14_roomForTypes_7 19 rfl rfl)
theorem dX14_roomForTypes_184 : decode cX14_roomForTypes 184 = .ok (.iload_n 1, 1) := dk_27 (dk_at dksX14_roomForTypes_7 20 rfl rfl)
theorem dX14_roomForTypes_185 : decode cX14_roomForTypes 185 = .ok (.iconst 2, 1) := dk_5 (dk_at dksX14_roomForTypes_7 21 rfl rfl)
theorem dX14_roomForTypes_186 : decode cX14_roomForTypes 186 = .ok (.idiv, 1) := dk_108 (dk_at dksX14_roomForTypes_7 22 rfl rfl)
theorem dX14_roomForTypes_187 : decode cX14_roomForTypes 187 = .ok (.iconst 4, 1) := dk_7 (dk_at dksX14_roomForTypes_7 23 rfl rfl)
theorem dX14_roomForTypes_188 : decode cX14_roomForTypes 188 = .ok (.iadd, 1) := dk_96 (dk_at dksX14_roomForTypes_8 0 rfl rfl)
theorem dX14_roomForTypes_189 : decode cX14_roomForTypes 189 = .ok (.newarray .boolean, 2) := dk_188_4 (dk_at dksX14_roomForTypes_8 1 rfl rfl)
theorem dX14_roomForTypes_191 : decode cX14_roomForTypes 191 = .ok (.putfield 93, 3) := dk_181 0 93 (dk_at dksX14_roomForTypes_8 3 rfl rfl)
theorem dX14_roomForTypes_194 : decode cX14_roomForTypes 194 = .ok (.aload_n 0, 1) := dk_42 (dk_at dksX14_roomForTypes_8 6 rfl rfl)
theorem dX14_roomForTypes_195 : decode cX14_roomForTypes 195 = .ok (.iload_n 1, 1) := dk_27 (dk_at dksX14_roomForTypes_8 7 rfl rfl)
theorem dX14_roomForTypes_196 : decode cX14_roomForTypes 196 = .ok (.iconst 2, 1) := dk_5 (dk_at dksX14_roomForTypes_8 8 rfl rfl)
theorem dX14_roomForTypes_197 : decode cX14_roomForTypes 197 = .ok (.idiv, 1) := dk_108 (dk_at dksX14_roomForTypes_8 9 rfl rfl)
theorem dX14_roomForTypes_198 : decode cX14_roomForTypes 198 = .ok (.iconst 4, 1) := dk_7 (dk_at dksX14_roomForTypes_8 10 rfl rfl)
theorem dX14_roomForTypes_199 : decode cX14_roomForTypes 199 = .ok (.iadd, 1) := dk_96 (dk_at dksX14_roomForTypes_8 11 rfl rfl)
theorem dX14_roomForTypes_200 : decode cX14_roomForTypes 200 = .ok (.newarray .int, 2) := dk_188_10 (dk_at dksX14_roomForTypes_8 12 rfl rfl)
theorem dX14_roomForTypes_202 : decode cX14_roomForTypes 202 = .ok (.putfield 97, 3) := dk_181 0 97 (dk_at dksX14_roomForTypes_8 14 rfl rfl)
theorem dX14_roomForTypes_205 : decode cX14_roomForTypes 205 = .ok (.aload_n 0, 1) := dk_42 (dk_at dksX14_roomForTypes_8 17 rfl rfl)
theorem dX14_roomForTypes_206 : decode cX14_roomForTypes 206 = .ok (.iload_n 1, 1) := dk_27 (dk_at dksX14_roomForTypes_8 18 rfl rfl)
theorem dX14_roomForTypes_207 : decode cX14_roomForTypes 207 = .ok (.iconst 2, 1) := dk_5 (dk_at dksX14_roomForTypes_8 19 rfl rfl)
theorem dX14_roomForTypes_208 : decode cX14_roomForTypes 208 = .ok (.idiv, 1) := dk_108 (dk_at dksX14_roomForTypes_8 20 rfl rfl)
theorem dX14_roomForTypes_209 : decode cX14_roomForTypes 209 = .ok (.iconst 4, 1) := dk_7 (dk_at dksX14_roomForTypes_8 21 rfl rfl)
theorem dX14_roomForTypes_210 : decode cX14_roomForTypes 210 = .ok (.iadd, 1) := dk_96 (dk_at dksX14_roomForTypes_8 22 rfl rfl)
theorem dX14_roomForTypes_211 : decode cX14_roomForTypes 211 = .ok (.newarray .int, 2) := dk_188_10 (dk_at dksX14_roomForTypes_9 0 rfl rfl)
theorem dX14_roomForTypes_213 : decode cX14_roomForTypes 213 = .ok (.putfield 100, 3) := dk_181 0 100 (dk_at dksX14_roomForTypes_9 2 rfl rfl)
theorem dX14_roomForTypes_216 : decode cX14_roomForTypes 216 = .ok (.aload_n 0, 1) := dk_42 (dk_at dksX14_roomForTypes_9 5 rfl rfl)
theorem dX14_roomForTypes_217 : decode cX14_roomForTypes 217 = .ok (.iload_n 1, 1) := dk_27 (dk_at dksX14_roomForTypes_9 6 rfl rfl)
theorem dX14_roomForTypes_218 : decode cX14_roomForTypes 218 = .ok (.iconst 2, 1) := dk_5 (dk_at dksX14_roomForTypes_9 7 rfl rfl)
theorem dX14_roomForTypes_219 : decode cX14_roomForTypes 219 = .ok (.idiv, 1) := dk_108 (dk_at dksX14_roomForTypes_9 8 rfl rfl)
theorem dX14_roomForTypes_220 : decode cX14_roomForTypes 220 = .ok (.iconst 4, 1) := dk_7 (dk_at dksX14_roomForTypes_9 9 rfl rfl)
theorem dX14_roomForTypes_221 : decode cX14_roomForTypes 221 = .ok (.iadd, 1) := dk_96 (dk_at dksX14_roomForTypes_9 10 rfl rfl)
theorem dX14_roomForTypes_222 : decode cX14_roomForTypes 222 = .ok (.newarray .int, 2) := dk_188_10 (dk_at dksX14_roomForTypes_9 11 rfl rfl)
theorem dX14_roomForTypes_224 : decode cX14_roomForTypes 224 = .ok (.putfield 103, 3) := dk_181 0 103 (dk_at dksX14_roomForTypes_9 13 rfl rfl)
theorem dX14_roomForTypes_227 : decode cX14_roomForTypes 227 = .ok (.aload_n 0, 1) := dk_42 (dk_at dksX14_roomForTypes_9 16 rfl rfl)
theorem dX14_roomForTypes_228 : decode cX14_roomForTypes 228 = .ok (.iload_n 1, 1) := dk_27 (dk_at dksX14_roomForTypes_9 17 rfl rfl)
theorem dX14_roomForTypes_229 : decode cX14_roomForTypes 229 = .ok (.iconst 2, 1) := dk_5 (dk_at dksX14_roomForTypes_9 18 rfl rfl)
theorem dX14_roomForTypes_230 : decode cX14_roomForTypes 230 = .ok (.idiv, 1) := dk_108 (dk_at dksX14_roomForTypes_9 19 rfl rfl)
theorem dX14_roomForTypes_231 : decode cX14_roomForTypes 231 = .ok (.iconst 4, 1) := dk_7 (dk_at dksX14_roomForTypes_9 20 rfl rfl)
theorem dX14_roomForTypes_232 : decode cX14_roomForTypes 232 = .ok (.iadd, 1) := dk_96 (dk_at dksX14_roomForTypes_9 21 rfl rfl)
theorem dX14_roomForTypes_233 : decode cX14_roomForTypes 233 = .ok (.newarray .int, 2) := dk_188_10 (dk_at dksX14_roomForTypes_9 22 rfl rfl)
theorem dX14_roomForTypes_235 : decode cX14_roomForTypes 235 = .ok (.putfield 106, 3) := dk_181 0 106 (dk_at dksX14_roomForTypes_10 0 rfl rfl)
theorem dX14_roomForTypes_238 : decode cX14_roomForTypes 238 = .ok (.aload_n 0, 1) := dk_42 (dk_at dksX14_roomForTypes_10 3 rfl rfl)
theorem dX14_roomForTypes_239 : decode cX14_roomForTypes 239 = .ok (.iload_n 1, 1) := dk_27 (dk_at dksX14_roomForTypes_10 4 rfl rfl)
theorem dX14_roomForTypes_240 : decode cX14_roomForTypes 240 = .ok (.iconst 2, 1) := dk_5 (dk_at dksX14_roomForTypes_10 5 rfl rfl)
theorem dX14_roomForTypes_241 : decode cX14_roomForTypes 241 = .ok (.idiv, 1) := dk_108 (dk_at dksX14_roomForTypes_10 6 rfl rfl)
theorem dX14_roomForTypes_242 : decode cX14_roomForTypes 242 = .ok (.iconst 4, 1) := dk_7 (dk_at dksX14_roomForTypes_10 7 rfl rfl)
theorem dX14_roomForTypes_243 : decode cX14_roomForTypes 243 = .ok (.iadd, 1) := dk_96 (dk_at dksX14_roomForTypes_10 8 rfl rfl)
theorem dX14_roomForTypes_244 : decode cX14_roomForTypes 244 = .ok (.newarray .int, 2) := dk_188_10 (dk_at dksX14_roomForTypes_10 9 rfl rfl)
theorem dX14_roomForTypes_246 : decode cX14_roomForTypes 246 = .ok (.putfield 109, 3) := dk_181 0 109 (dk_at dksX14_roomForTypes_10 11 rfl rfl)
theorem dX14_roomForTypes_249 : decode cX14_roomForTypes 249 = .ok (.aload_n 0, 1) := dk_42 (dk_at dksX14_roomForTypes_10 14 rfl rfl)
theorem dX14_roomForTypes_250 : decode cX14_roomForTypes 250 = .ok (.iload_n 1, 1) := dk_27 (dk_at dksX14_roomForTypes_10 15 rfl rfl)
theorem dX14_roomForTypes_251 : decode cX14_roomForTypes 251 = .ok (.iconst 2, 1) := dk_5 (dk_at dksX14_roomForTypes_10 16 rfl rfl)
theorem dX14_roomForTypes_252 : decode cX14_roomForTypes 252 = .ok (.idiv, 1) := dk_108 (dk_at dksX14_roomForTypes_10 17 rfl rfl)
theorem dX14_roomForTypes_253 : decode cX14_roomForTypes 253 = .ok (.iconst 4, 1) := dk_7 (dk_at dksX14_roomForTypes_10 18 rfl rfl)
theorem dX14_roomForTypes_254 : decode cX14_roomForTypes 254 = .ok (.iadd, 1) := dk_96 (dk_at dksX14_roomForTypes_10 19 rfl rfl)
theorem dX14_roomForTypes_255 : decode cX14_roomForTypes 255 = .ok (.newarray .int, 2) := dk_188_10 (dk_at dksX14_roomForTypes_10 20 rfl rfl)
theorem dX14_roomForTypes_257 : decode cX14_roomForTypes 257 = .ok (.putfield 112, 3) := dk_181 0 112 (dk_at dksX14_roomForTypes_11 0 rfl rfl)
theorem dX14_roomForTypes_260 : decode cX14_roomForTypes 260 = .ok (.aload_n 0, 1) := dk_42 (dk_at dksX14_roomForTypes_11 3 rfl rfl)
theorem dX14_roomForTypes_261 : decode cX14_roomForTypes 261 = .ok (.iload_n 1, 1) := dk_27 (dk_at dksX14_roomForTypes_11 4 rfl rfl)
theorem dX14_roomForTypes_262 : decode cX14_roomForTypes 262 = .ok (.iconst 2, 1) := dk_5 (dk_at dksX14_roomForTypes_11 5 rfl rfl)
theorem dX14_roomForTypes_263 : decode cX14_roomForTypes 263 = .ok (.idiv, 1) := dk_108 (dk_at dksX14_roomForTypes_11 6 rfl rfl)
theorem dX14_roomForTypes_264 : decode cX14_roomForTypes 264 = .ok (.iconst 4, 1) := dk_7 (dk_at dksX14_roomForTypes_11 7 rfl rfl)
theorem dX14_roomForTypes_265 : decode cX14_roomForTypes 265 = .ok (.iadd, 1) := dk_96 (dk_at dksX14_roomForTypes_11 8 rfl rfl)
theorem dX14_roomForTypes_266 : decode cX14_roomForTypes 266 = .ok (.newarray .int, 2) := dk_188_10 (dk_at dksX14_roomForTypes_11 9 rfl rfl)
theorem dX14_roomForTypes_268 : decode cX14_roomForTypes 268 = .ok (.putfield 130, 3) := dk_181 0 130 (dk_at dksX14_roomForTypes_11 11 rfl rfl)
theorem dX14_roomForTypes_271 : decode cX14_roomForTypes 271 = .ok (.aload_n 0, 1) := dk_42 (dk_at dksX14_roomForTypes_11 14 rfl rfl)
theorem dX14_roomForTypes_272 : decode cX14_roomForTypes 272 = .ok (.iload_n 1, 1) := dk_27 (dk_at dksX14_roomForTypes_11 15 rfl rfl)
theorem dX14_roomForTypes_273 : decode cX14_roomForTypes 273 = .ok (.iconst 2, 1) := dk_5 (dk_at dksX14_roomForTypes_11 16 rfl rfl)
theorem dX14_roomForTypes_274 : decode cX14_roomForTypes 274 = .ok (.idiv, 1) := dk_108 (dk_at dksX14_roomForTypes_11 17 rfl rfl)
theorem dX14_roomForTypes_275 : decode cX14_roomForTypes 275 = .ok (.iconst 4, 1) := dk_7 (dk_at dksX14_roomForTypes_11 18 rfl rfl)
theorem dX14_roomForTypes_276 : decode cX14_roomForTypes 276 = .ok (.iadd, 1) := dk_96 (dk_at dksX14_roomForTypes_11 19 rfl rfl)
theorem dX14_roomForTypes_277 : decode cX14_roomForTypes 277 = .ok (.newarray .boolean, 2) := dk_188_4 (dk_at dksX14_roomForTypes_11 20 rfl rfl)
theorem dX14_roomForTypes_279 : decode cX14_roomForTypes 279 = .ok (.putfield 133, 3) := dk_181 0 133 (dk_at dksX14_roomForTypes_12 0 rfl rfl)
theorem dX14_roomForTypes_282 : decode cX14_roomForTypes 282 = .ok (.aload_n 0, 1) := dk_42 (dk_at dksX14_roomForTypes_12 3 rfl rfl)
theorem dX14_roomForTypes_283 : decode cX14_roomForTypes 283 = .ok (.iload_n 1, 1) := dk_27 (dk_at dksX14_roomForTypes_12 4 rfl rfl)
theorem dX14_roomForTypes_284 : decode cX14_roomForTypes 284 = .ok (.iconst 2, 1) := dk_5 (dk_at dksX14_roomForTypes_12 5 rfl rfl)
theorem dX14_roomForTypes_285 : decode cX14_roomForTypes 285 = .ok (.idiv, 1) := dk_108 (dk_at dksX14_roomForTypes_12 6 rfl rfl)
theorem dX14_roomForTypes_286 : decode cX14_roomForTypes 286 = .ok (.iconst 4, 1) := dk_7 (dk_at dksX14_roomForTypes_12 7 rfl rfl)
theorem dX14_roomForTypes_287 : decode cX14_roomForTypes 287 = .ok (.iadd, 1) := dk_96 (dk_at dksX14_roomForTypes_12 8 rfl rfl)
theorem dX14_roomForTypes_288 : decode cX14_roomForTypes 288 = .ok (.newarray .int, 2) := dk_188_10 (dk_at dksX14_roomForTypes_12 9 rfl rfl)
theorem dX14_roomForTypes_290 : decode cX14_roomForTypes 290 = .ok (.putfield 136, 3) := dk_181 0 136 (dk_at dksX14_roomForTypes_12 11 rfl rfl)
theorem dX14_roomForTypes_293 : decode cX14_roomForTypes 293 = .ok (.aload_n 0, 1) := dk_42 (dk_at dksX14_roomForTypes_12 14 rfl rfl)
theorem dX14_roomForTypes_294 : decode cX14_roomForTypes 294 = .ok (.iload_n 1, 1) := dk_27 (dk_at dksX14_roomForTypes_12 15 rfl rfl)
theorem dX14_roomForTypes_295 : decode cX14_roomForTypes 295 = .ok (.iconst 2, 1) := dk_5 (dk_at dksX14_roomForTypes_12 16 rfl rfl)
theorem dX14_roomForTypes_296 : decode cX14_roomForTypes 296 = .ok (.idiv, 1) := dk_108 (dk_at dksX14_roomForTypes_12 17 rfl rfl)
theorem dX14_roomForTypes_297 : decode cX14_roomForTypes 297 = .ok (.iconst 4, 1) := dk_7 (dk_at dksX14_roomForTypes_12 18 rfl rfl)
theorem dX14_roomForTypes_298 : decode cX14_roomForTypes 298 = .ok (.iadd, 1) := dk_96 (dk_at dksX14_roomForTypes_12 19 rfl rfl)
theorem dX14_roomForTypes_299 : decode cX14_roomForTypes 299 = .ok (.newarray .boolean, 2) := dk_188_4 (dk_at dksX14_roomForTypes_12 20 rfl rfl)
theorem dX14_roomForTypes_301 : decode cX14_roomForTypes 301 = .ok (.putfield 139, 3) := dk_181 0 139 (dk_at dksX14_roomForTypes_13 0 rfl rfl)
theorem dX14_roomForTypes_304 : decode cX14_roomForTypes 304 = .ok (.aload_n 0, 1) := dk_42 (dk_at dksX14_roomForTypes_13 3 rfl rfl)
theorem dX14_roomForTypes_305 : decode cX14_roomForTypes 305 = .ok (.iload_n 1, 1) := dk_27 (dk_at dksX14_roomForTypes_13 4 rfl rfl)
theorem dX14_roomForTypes_306 : decode cX14_roomForTypes 306 = .ok (.iconst 2, 1) := dk_5 (dk_at dksX14_roomForTypes_13 5 rfl rfl)
theorem dX14_roomForTypes_307 : decode cX14_roomForTypes 307 = .ok (.idiv, 1) := dk_108 (dk_at dksX14_roomForTypes_13 6 rfl rfl)
theorem dX14_roomForTypes_308 : decode cX14_roomForTypes 308 = .ok (.iconst 4, 1) := dk_7 (dk_at dksX14_roomForTypes_13 7 rfl rfl)
theorem dX14_roomForTypes_309 : decode cX14_roomForTypes 309 = .ok (.iadd, 1) := dk_96 (dk_at dksX14_roomForTypes_13 8 rfl rfl)
theorem dX14_roomForTypes_310 : decode cX14_roomForTypes 310 = .ok (.newarray .int, 2) := dk_188_10 (dk_at dksX14_roomForTypes_13 9 rfl rfl)
theorem dX14_roomForTypes_312 : decode cX14_roomForTypes 312 = .ok (.putfield 142, 3) := dk_181 0 142 (dk_at dksX14_roomForTypes_13 11 rfl rfl)
theorem dX14_roomForTypes_315 : decode cX14_roomForTypes 315 = .ok (.aload_n 0, 1) := dk_42 (dk_at dksX14_roomForTypes_13 14 rfl rfl)
theorem dX14_roomForTypes_316 : decode cX14_roomForTypes 316 = .ok (.iload_n 1, 1) := dk_27 (dk_at dksX14_roomForTypes_13 15 rfl rfl)
theorem dX14_roomForTypes_317 : decode cX14_roomForTypes 317 = .ok (.iconst 2, 1) := dk_5 (dk_at dksX14_roomForTypes_13 16 rfl rfl)
theorem dX14_roomForTypes_318 : decode cX14_roomForTypes 318 = .ok (.idiv, 1) := dk_108 (dk_at dksX14_roomForTypes_13 17 rfl rfl)
theorem dX14_roomForTypes_319 : decode cX14_roomForTypes 319 = .ok (.iconst 4, 1) := dk_7 (dk_at dksX14_roomForTypes_13 18 rfl rfl)
theorem dX14_roomForTypes_320 : decode cX14_roomForTypes 320 = .ok (.iadd, 1) := dk_96 (dk_at dksX14_roomForTypes_13 19 rfl rfl)
theorem dX14_roomForTypes_321 : decode cX14_roomForTypes 321 = .ok (.newarray .int, 2) := dk_188_10 (dk_at dksX14_roomForTypes_13 20 rfl rfl)
theorem dX14_roomForTypes_323 : decode cX14_roomForTypes 323 = .ok (.putfield 145, 3) := dk_181 0 145 (dk_at dksX14_roomForTypes_14 0 rfl rfl)
theorem dX14_roomForTypes_326 : decode cX14_roomForTypes 326 = .ok (.aload_n 0, 1) := dk_42 (dk_at dksX14_roomForTypes_14 3 rfl rfl)
theorem dX14_roomForTypes_327 : decode cX14_roomForTypes 327 = .ok (.iload_n 1, 1) := dk_27 (dk_at dksX14_roomForTypes_14 4 rfl rfl)
theorem dX14_roomForTypes_328 : decode cX14_roomForTypes 328 = .ok (.iconst 2, 1) := dk_5 (dk_at dksX14_roomForTypes_14 5 rfl rfl)
theorem dX14_roomForTypes_329 : decode cX14_roomForTypes 329 = .ok (.idiv, 1) := dk_108 (dk_at dksX14_roomForTypes_14 6 rfl rfl)
theorem dX14_roomForTypes_330 : decode cX14_roomForTypes 330 = .ok (.iconst 4, 1) := dk_7 (dk_at dksX14_roomForTypes_14 7 rfl rfl)
theorem dX14_roomForTypes_331 : decode cX14_roomForTypes 331 = .ok (.iadd, 1) := dk_96 (dk_at dksX14_roomForTypes_14 8 rfl rfl)
theorem dX14_roomForTypes_332 : decode cX14_roomForTypes 332 = .ok (.newarray .int, 2) := dk_188_10 (dk_at dksX14_roomForTypes_14 9 rfl rfl)
theorem dX14_roomForTypes_334 : decode cX14_roomForTypes 334 = .ok (.putfield 148, 3) := dk_181 0 148 (dk_at dksX14_roomForTypes_14 11 rfl rfl)
theorem dX14_roomForTypes_337 : decode cX14_roomForTypes 337 = .ok (.aload_n 0, 1) := dk_42 (dk_at dksX14_roomForTypes_14 14 rfl rfl)
theorem dX14_roomForTypes_338 : decode cX14_roomForTypes 338 = .ok (.iload_n 1, 1) := dk_27 (dk_at dksX14_roomForTypes_14 15 rfl rfl)
theorem dX14_roomForTypes_339 : decode cX14_roomForTypes 339 = .ok (.iconst 2, 1) := dk_5 (dk_at dksX14_roomForTypes_14 16 rfl rfl)
theorem dX14_roomForTypes_340 : decode cX14_roomForTypes 340 = .ok (.idiv, 1) := dk_108 (dk_at dksX14_roomForTypes_14 17 rfl rfl)
theorem dX14_roomForTypes_341 : decode cX14_roomForTypes 341 = .ok (.iconst 4, 1) := dk_7 (dk_at dksX14_roomForTypes_14 18 rfl rfl)
theorem dX14_roomForTypes_342 : decode cX14_roomForTypes 342 = .ok (.iadd, 1) := dk_96 (dk_at dksX14_roomForTypes_14 19 rfl rfl)
theorem dX14_roomForTypes_343 : decode cX14_roomForTypes 343 = .ok (.newarray .int, 2) := dk_188_10 (dk_at dksX14_roomForTypes_14 20 rfl rfl)
theorem dX14_roomForTypes_345 : decode cX14_roomForTypes 345 = .ok (.putfield 151, 3) := dk_181 0 151 (dk_at dksX14_roomForTypes_15 0 rfl rfl)
theorem dX14_roomForTypes_348 : decode cX14_roomForTypes 348 = .ok (.aload_n 0, 1) := dk_42 (dk_at dksX14_roomForTypes_15 3 rfl rfl)
theorem dX14_roomForTypes_349 : decode cX14_roomForTypes 349 = .ok (.iload_n 1, 1) := dk_27 (dk_at dksX14_roomForTypes_15 4 rfl rfl)
theorem dX14_roomForTypes_350 : decode cX14_roomForTypes 350 = .ok (.iconst 2, 1) := dk_5 (dk_at dksX14_roomForTypes_15 5 rfl rfl)
theorem dX14_roomForTypes_351 : decode cX14_roomForTypes 351 = .ok (.idiv, 1) := dk_108 (dk_at dksX14_roomForTypes_15 6 rfl rfl)
theorem dX14_roomForTypes_352 : decode cX14_roomForTypes 352 = .ok (.iconst 4, 1) := dk_7 (dk_at dksX14_roomForTypes_15 7 rfl rfl)
theorem dX14_roomForTypes_353 : decode cX14_roomForTypes 353 = .ok (.iadd, 1) := dk_96 (dk_at dksX14_roomForTypes_15 8 rfl rfl)
theorem dX14_roomForTypes_354 : decode cX14_roomForTypes 354 = .ok (.newarray .int, 2) := dk_188_10 (dk_at dksX14_roomForTypes_15 9 rfl rfl)
theorem dX14_roomForTypes_356 : decode cX14_roomForTypes 356 = .ok (.putfield 154, 3) := dk_181 0 154 (dk_at dksX14_roomForTypes_15 11 rfl rfl)
theorem dX14_roomForTypes_359 : decode cX14_roomForTypes 359 = .ok (.aload_n 0, 1) := dk_42 (dk_at dksX14_roomForTypes_15 14 rfl rfl)
theorem dX14_roomForTypes_360 : decode cX14_roomForTypes 360 = .ok (.iload_n 1, 1) := dk_27 (dk_at dksX14_roomForTypes_15 15 rfl rfl)
theorem dX14_roomForTypes_361 : decode cX14_roomForTypes 361 = .ok (.iconst 2, 1) := dk_5 (dk_at dksX14_roomForTypes_15 16 rfl rfl)
theorem dX14_roomForTypes_362 : decode cX14_roomForTypes 362 = .ok (.idiv, 1) := dk_108 (dk_at dksX14_roomForTypes_15 17 rfl rfl)
theorem dX14_roomForTypes_363 : decode cX14_roomForTypes 363 = .ok (.iconst 4, 1) := dk_7 (dk_at dksX14_roomForTypes_15 18 rfl rfl)
theorem dX14_roomForTypes_364 : decode cX14_roomForTypes 364 = .ok (.iadd, 1) := dk_96 (dk_at dksX14_roomForTypes_15 19 rfl rfl)
theorem dX14_roomForTypes_365 : decode cX14_roomForTypes 365 = .ok (.newarray .boolean, 2) := dk_188_4 (dk_at dksX14_roomForTypes_15 20 rfl rfl)
theorem dX14_roomForTypes_367 : decode cX14_roomForTypes 367 = .ok (.putfield 157, 3) := dk_181 0 157 (dk_at dksX14_roomForTypes_16 0 rfl rfl)
theorem dX14_roomForTypes_370 : decode cX14_roomForTypes 370 = .ok (.aload_n 0, 1) := dk_42 (dk_at dksX14_roomForTypes_16 3 rfl rfl)
theorem dX14_roomForTypes_371 : decode cX14_roomForTypes 371 = .ok (.iload_n 1, 1) := dk_27 (dk_at dksX14_roomForTypes_16 4 rfl rfl)
theorem dX14_roomForTypes_372 : decode cX14_roomForTypes 372 = .ok (.iconst 2, 1) := dk_5 (dk_at dksX14_roomForTypes_16 5 rfl rfl)
theorem dX14_roomForTypes_373 : decode cX14_roomForTypes 373 = .ok (.idiv, 1) := dk_108 (dk_at dksX14_roomForTypes_16 6 rfl rfl)
theorem dX14_roomForTypes_374 : decode cX14_roomForTypes 374 = .ok (.iconst 4, 1) := dk_7 (dk_at dksX14_roomForTypes_16 7 rfl rfl)
theorem dX14_roomForTypes_375 : decode cX14_roomForTypes 375 = .ok (.iadd, 1) := dk_96 (dk_at dksX14_roomForTypes_16 8 rfl rfl)
theorem dX14_roomForTypes_376 : decode cX14_roomForTypes 376 = .ok (.newarray .int, 2) := dk_188_10 (dk_at dksX14_roomForTypes_16 9 rfl rfl)
theorem dX14_roomForTypes_378 : decode cX14_roomForTypes 378 = .ok (.putfield 160, 3) := dk_181 0 160 (dk_at dksX14_roomForTypes_16 11 rfl rfl)
theorem dX14_roomForTypes_381 : decode cX14_roomForTypes 381 = .ok (.aload_n 0, 1) := dk_42 (dk_at dksX14_roomForTypes_16 14 rfl rfl)
theorem dX14_roomForTypes_382 : decode cX14_roomForTypes 382 = .ok (.iload_n 1, 1) := dk_27 (dk_at dksX14_roomForTypes_16 15 rfl rfl)
theorem dX14_roomForTypes_383 : decode cX14_roomForTypes 383 = .ok (.iconst 2, 1) := dk_5 (dk_at dksX14_roomForTypes_16 16 rfl rfl)
theorem dX14_roomForTypes_384 : decode cX14_roomForTypes 384 = .ok (.idiv, 1) := dk_108 (dk_at dksX14_roomForTypes_16 17 rfl rfl)
theorem dX14_roomForTypes_385 : decode cX14_roomForTypes 385 = .ok (.iconst 4, 1) := dk_7 (dk_at dksX14_roomForTypes_16 18 rfl rfl)
theorem dX14_roomForTypes_386 : decode cX14_roomForTypes 386 = .ok (.iadd, 1) := dk_96 (dk_at dksX14_roomForTypes_16 19 rfl rfl)
theorem dX14_roomForTypes_387 : decode cX14_roomForTypes 387 = .ok (.newarray .int, 2) := dk_188_10 (dk_at dksX14_roomForTypes_16 20 rfl rfl)
theorem dX14_roomForTypes_389 : decode cX14_roomForTypes 389 = .ok (.putfield 163, 3) := dk_181 0 163 (dk_at dksX14_roomForTypes_17 0 rfl rfl)
theorem dX14_roomForTypes_392 : decode cX14_roomForTypes 392 = .ok (.aload_n 0, 1) := dk_42 (dk_at dksX14_roomForTypes_17 3 rfl rfl)
theorem dX14_roomForTypes_393 : decode cX14_roomForTypes 393 = .ok (.iload_n 1, 1) := dk_27 (dk_at dksX14_roomForTypes_17 4 rfl rfl)
theorem dX14_roomForTypes_394 : decode cX14_roomForTypes 394 = .ok (.iconst 2, 1) := dk_5 (dk_at dksX14_roomForTypes_17 5 rfl rfl)
theorem dX14_roomForTypes_395 : decode cX14_roomForTypes 395 = .ok (.idiv, 1) := dk_108 (dk_at dksX14_roomForTypes_17 6 rfl rfl)
theorem dX14_roomForTypes_396 : decode cX14_roomForTypes 396 = .ok (.iconst 4, 1) := dk_7 (dk_at dksX14_roomForTypes_17 7 rfl rfl)
theorem dX14_roomForTypes_397 : decode cX14_roomForTypes 397 = .ok (.iadd, 1) := dk_96 (dk_at dksX14_roomForTypes_17 8 rfl rfl)
theorem dX14_roomForTypes_398 : decode cX14_roomForTypes 398 = .ok (.newarray .int, 2) := dk_188_10 (dk_at dksX14_roomForTypes_17 9 rfl rfl)
theorem dX14_roomForTypes_400 : decode cX14_roomForTypes 400 = .ok (.putfield 166, 3) := dk_181 0 166 (dk_at dksX14_roomForTypes_17 11 rfl rfl)
theorem dX14_roomForTypes_403 : decode cX14_roomForTypes 403 = .ok (.aload_n 0, 1) := dk_42 (dk_at dksX14_roomForTypes_17 14 rfl rfl)
theorem dX14_roomForTypes_404 : decode cX14_roomForTypes 404 = .ok (.iload_n 1, 1) := dk_27 (dk_at dksX14_roomForTypes_17 15 rfl rfl)
theorem dX14_roomForTypes_405 : decode cX14_roomForTypes 405 = .ok (.iconst 2, 1) := dk_5 (dk_at dksX14_roomForTypes_17 16 rfl rfl)
theorem dX14_roomForTypes_406 : decode cX14_roomForTypes 406 = .ok (.idiv, 1) := dk_108 (dk_at dksX14_roomForTypes_17 17 rfl rfl)
theorem dX14_roomForTypes_407 : decode cX14_roomForTypes 407 = .ok (.iconst 4, 1) := dk_7 (dk_at dksX14_roomForTypes_17 18 rfl rfl)
theorem dX14_roomForTypes_408 : decode cX14_roomForTypes 408 = .ok (.iadd, 1) := dk_96 (dk_at dksX14_roomForTypes_17 19 rfl rfl)
theorem dX14_roomForTypes_409 : decode cX14_roomForTypes 409 = .ok (.newarray .int, 2) := dk_188_10 (dk_at dksX14_roomForTypes_17 20 rfl rfl)
theorem dX14_roomForTypes_411 : decode cX14_roomForTypes 411 = .ok (.putfield 251, 3) := dk_181 0 251 (dk_at dksX14_roomForTypes_18 0 rfl rfl)
theorem dX14_roomForTypes_414 : decode cX14_roomForTypes 414 = .ok (.aload_n 0, 1) := dk_42 (dk_at dksX14_roomForTypes_18 3 rfl rfl)
theorem dX14_roomForTypes_415 : decode cX14_roomForTypes 415 = .ok (.iload_n 1, 1) := dk_27 (dk_at dksX14_roomForTypes_18 4 rfl rfl)
theorem dX14_roomForTypes_416 : decode cX14_roomForTypes 416 = .ok (.iconst 2, 1) := dk_5 (dk_at dksX14_roomForTypes_18 5 rfl rfl)
theorem dX14_roomForTypes_417 : decode cX14_roomForTypes 417 = .ok (.idiv, 1) := dk_108 (dk_at dksX14_roomForTypes_18 6 rfl rfl)
theorem dX14_roomForTypes_418 : decode cX14_roomForTypes 418 = .ok (.iconst 4, 1) := dk_7 (dk_at dksX14_roomForTypes_18 7 rfl rfl)
theorem dX14_roomForTypes_419 : decode cX14_roomForTypes 419 = .ok (.iadd, 1) := dk_96 (dk_at dksX14_roomForTypes_18 8 rfl rfl)
theorem dX14_roomForTypes_420 : decode cX14_roomForTypes 420 = .ok (.newarray .int, 2) := dk_188_10 (dk_at dksX14_roomForTypes_18 9 rfl rfl)
theorem dX14_roomForTypes_422 : decode cX14_roomForTypes 422 = .ok (.putfield 254, 3) := dk_181 0 254 (dk_at dksX14_roomForTypes_18 11 rfl rfl)
theorem dX14_roomForTypes_425 : decode cX14_roomForTypes 425 = .ok (.aload_n 0, 1) := dk_42 (dk_at dksX14_roomForTypes_18 14 rfl rfl)
theorem dX14_roomForTypes_426 : decode cX14_roomForTypes 426 = .ok (.iload_n 1, 1) := dk_27 (dk_at dksX14_roomForTypes_18 15 rfl rfl)
theorem dX14_roomForTypes_427 : decode cX14_roomForTypes 427 = .ok (.iconst 2, 1) := dk_5 (dk_at dksX14_roomForTypes_18 16 rfl rfl)
theorem dX14_roomForTypes_428 : decode cX14_roomForTypes 428 = .ok (.idiv, 1) := dk_108 (dk_at dksX14_roomForTypes_18 17 rfl rfl)
theorem dX14_roomForTypes_429 : decode cX14_roomForTypes 429 = .ok (.iconst 4, 1) := dk_7 (dk_at dksX14_roomForTypes_18 18 rfl rfl)
theorem dX14_roomForTypes_430 : decode cX14_roomForTypes 430 = .ok (.iadd, 1) := dk_96 (dk_at dksX14_roomForTypes_18 19 rfl rfl)
theorem dX14_roomForTypes_431 : decode cX14_roomForTypes 431 = .ok (.newarray .int, 2) := dk_188_10 (dk_at dksX14_roomForTypes_18 20 rfl rfl)
theorem dX14_roomForTypes_433 : decode cX14_roomForTypes 433 = .ok (.putfield 257, 3) := dk_181 1 1 (dk_at dksX14_roomForTypes_19 0 rfl rfl)
theorem dX14_roomForTypes_436 : decode cX14_roomForTypes 436 = .ok (.aload_n 0, 1) := dk_42 (dk_at dksX14_roomForTypes_19 3 rfl rfl)
theorem dX14_roomForTypes_437 : decode cX14_roomForTypes 437 = .ok (.iload_n 1, 1) := dk_27 (dk_at dksX14_roomForTypes_19 4 rfl rfl)
theorem dX14_roomForTypes_438 : decode cX14_roomForTypes 438 = .ok (.iconst 3, 1) := dk_6 (dk_at dksX14_roomForTypes_19 5 rfl rfl)
theorem dX14_roomForTypes_439 : decode cX14_roomForTypes 439 = .ok (.idiv, 1) := dk_108 (dk_at dksX14_roomForTypes_19 6 rfl rfl)
theorem dX14_roomForTypes_440 : decode cX14_roomForTypes 440 = .ok (.bipush 8, 2) := dk_16 8 (dk_at dksX14_roomForTypes_19 7 rfl rfl)
theorem dX14_roomForTypes_442 : decode cX14_roomForTypes 442 = .ok (.iadd, 1) := dk_96 (dk_at dksX14_roomForTypes_19 9 rfl rfl)
theorem dX14_roomForTypes_443 : decode cX14_roomForTypes 443 = .ok (.newarray .int, 2) := dk_188_10 (dk_at dksX14_roomForTypes_19 10 rfl rfl)
theorem dX14_roomForTypes_445 : decode cX14_roomForTypes 445 = .ok (.putfield 75, 3) := dk_181 0 75 (dk_at dksX14_roomForTypes_19 12 rfl rfl)
theorem dX14_roomForTypes_448 : decode cX14_roomForTypes 448 = .ok (.aload_n 0, 1) := dk_42 (dk_at dksX14_roomForTypes_19 15 rfl rfl)
theorem dX14_roomForTypes_449 : decode cX14_roomForTypes 449 = .ok (.iload_n 1, 1) := dk_27 (dk_at dksX14_roomForTypes_19 16 rfl rfl)
theorem dX14_roomForTypes_450 : decode cX14_roomForTypes 450 = .ok (.iconst 3, 1) := dk_6 (dk_at dksX14_roomForTypes_19 17 rfl rfl)
theorem dX14_roomForTypes_451 : decode cX14_roomForTypes 451 = .ok (.idiv, 1) := dk_108 (dk_at dksX14_roomForTypes_19 18 rfl rfl)
theorem dX14_roomForTypes_452 : decode cX14_roomForTypes 452 = .ok (.bipush 8, 2) := dk_16 8 (dk_at dksX14_roomForTypes_19 19 rfl rfl)
theorem dX14_roomForTypes_454 : decode cX14_roomForTypes 454 = .ok (.iadd, 1) := dk_96 (dk_at dksX14_roomForTypes_19 21 rfl rfl)
theorem dX14_roomForTypes_455 : decode cX14_roomForTypes 455 = .ok (.newarray .int, 2) := dk_188_10 (dk_at dksX14_roomForTypes_19 22 rfl rfl)
theorem dX14_roomForTypes_457 : decode cX14_roomForTypes 457 = .ok (.putfield 78, 3) := dk_181 0 78 (dk_at dksX14_roomForTypes_20 0 rfl rfl)
theorem dX14_roomForTypes_460 : decode cX14_roomForTypes 460 = .ok (.aload_n 0, 1) := dk_42 (dk_at dksX14_roomForTypes_20 3 rfl rfl)
theorem dX14_roomForTypes_461 : decode cX14_roomForTypes 461 = .ok (.iload_n 1, 1) := dk_27 (dk_at dksX14_roomForTypes_20 4 rfl rfl)
theorem dX14_roomForTypes_462 : decode cX14_roomForTypes 462 = .ok (.iconst 3, 1) := dk_6 (dk_at dksX14_roomForTypes_20 5 rfl rfl)
theorem dX14_roomForTypes_463 : decode cX14_roomForTypes 463 = .ok (.idiv, 1) := dk_108 (dk_at dksX14_roomForTypes_20 6 rfl rfl)
theorem dX14_roomForTypes_464 : decode cX14_roomForTypes 464 = .ok (.bipush 8, 2) := dk_16 8 (dk_at dksX14_roomForTypes_20 7 rfl rfl)
theorem dX14_roomForTypes_466 : decode cX14_roomForTypes 466 = .ok (.iadd, 1) := dk_96 (dk_at dksX14_roomForTypes_20 9 rfl rfl)
theorem dX14_roomForTypes_467 : decode cX14_roomForTypes 467 = .ok (.newarray .int, 2) := dk_188_10 (dk_at dksX14_roomForTypes_20 10 rfl rfl)
theorem dX14_roomForTypes_469 : decode cX14_roomForTypes 469 = .ok (.putfield 81, 3) := dk_181 0 81 (dk_at dksX14_roomForTypes_20 12 rfl rfl)
theorem dX14_roomForTypes_472 : decode cX14_roomForTypes 472 = .ok (.aload_n 0, 1) := dk_42 (dk_at dksX14_roomForTypes_20 15 rfl rfl)
theorem dX14_roomForTypes_473 : decode cX14_roomForTypes 473 = .ok (.iload_n 1, 1) := dk_27 (dk_at dksX14_roomForTypes_20 16 rfl rfl)
theorem dX14_roomForTypes_474 : decode cX14_roomForTypes 474 = .ok (.iconst 3, 1) := dk_6 (dk_at dksX14_roomForTypes_20 17 rfl rfl)
theorem dX14_roomForTypes_475 : decode cX14_roomForTypes 475 = .ok (.idiv, 1) := dk_108 (dk_at dksX14_roomForTypes_20 18 rfl rfl)
theorem dX14_roomForTypes_476 : decode cX14_roomForTypes 476 = .ok (.bipush 8, 2) := dk_16 8 (dk_at dksX14_roomForTypes_20 19 rfl rfl)
theorem dX14_roomForTypes_478 : decode cX14_roomForTypes 478 = .ok (.iadd, 1) := dk_96 (dk_at dksX14_roomForTypes_20 21 rfl rfl)
theorem dX14_roomForTypes_479 : decode cX14_roomForTypes 479 = .ok (.newarray .int, 2) := dk_188_10 (dk_at dksX14_roomForTypes_20 22 rfl rfl)
theorem dX14_roomForTypes_481 : decode cX14_roomForTypes 481 = .ok (.putfield 84, 3) := dk_181 0 84 (dk_at dksX14_roomForTypes_21 0 rfl rfl)
theorem dX14_roomForTypes_484 : decode cX14_roomForTypes 484 = .ok (.aload_n 0, 1) := dk_42 (dk_at dksX14_roomForTypes_21 3 rfl rfl)
theorem dX14_roomForTypes_485 : decode cX14_roomForTypes 485 = .ok (.iload_n 1, 1) := dk_27 (dk_at dksX14_roomForTypes_21 4 rfl rfl)
theorem dX14_roomForTypes_486 : decode cX14_roomForTypes 486 = .ok (.iconst 3, 1) := dk_6 (dk_at dksX14_roomForTypes_21 5 rfl rfl)
theorem dX14_roomForTypes_487 : decode cX14_roomForTypes 487 = .ok (.idiv, 1) := dk_108 (dk_at dksX14_roomForTypes_21 6 rfl rfl)
theorem dX14_roomForTypes_488 : decode cX14_roomForTypes 488 = .ok (.bipush 8, 2) := dk_16 8 (dk_at dksX14_roomForTypes_21 7 rfl rfl)
theorem dX14_roomForTypes_490 : decode cX14_roomForTypes 490 = .ok (.iadd, 1) := dk_96 (dk_at dksX14_roomForTypes_21 9 rfl rfl)
theorem dX14_roomForTypes_491 : decode cX14_roomForTypes 491 = .ok (.newarray .int, 2) := dk_188_10 (dk_at dksX14_roomForTypes_21 10 rfl rfl)
theorem dX14_roomForTypes_493 : decode cX14_roomForTypes 493 = .ok (.putfield 115, 3) := dk_181 0 115 (dk_at dksX14_roomForTypes_21 12 rfl rfl)
theorem dX14_roomForTypes_496 : decode cX14_roomForTypes 496 = .ok (.aload_n 0, 1) := dk_42 (dk_at dksX14_roomForTypes_21 15 rfl rfl)
theorem dX14_roomForTypes_497 : decode cX14_roomForTypes 497 = .ok (.iload_n 1, 1) := dk_27 (dk_at dksX14_roomForTypes_21 16 rfl rfl)
theorem dX14_roomForTypes_498 : decode cX14_roomForTypes 498 = .ok (.iconst 3, 1) := dk_6 (dk_at dksX14_roomForTypes_21 17 rfl rfl)
theorem dX14_roomForTypes_499 : decode cX14_roomForTypes 499 = .ok (.idiv, 1) := dk_108 (dk_at dksX14_roomForTypes_21 18 rfl rfl)
theorem dX14_roomForTypes_500 : decode cX14_roomForTypes 500 = .ok (.bipush 8, 2) := dk_16 8 (dk_at dksX14_roomForTypes_21 19 rfl rfl)
theorem dX14_roomForTypes_502 : decode cX14_roomForTypes 502 = .ok (.iadd, 1) := dk_96 (dk_at dksX14_roomForTypes_21 21 rfl rfl)
theorem dX14_roomForTypes_503 : decode cX14_roomForTypes 503 = .ok (.newarray .boolean, 2) := dk_188_4 (dk_at dksX14_roomForTypes_21 22 rfl rfl)
theorem dX14_roomForTypes_505 : decode cX14_roomForTypes 505 = .ok (.putfield 118, 3) := dk_181 0 118 (dk_at dksX14_roomForTypes_22 0 rfl rfl)
theorem dX14_roomForTypes_508 : decode cX14_roomForTypes 508 = .ok (.aload_n 0, 1) := dk_42 (dk_at dksX14_roomForTypes_22 3 rfl rfl)
theorem dX14_roomForTypes_509 : decode cX14_roomForTypes 509 = .ok (.iload_n 1, 1) := dk_27 (dk_at dksX14_roomForTypes_22 4 rfl rfl)
theorem dX14_roomForTypes_510 : decode cX14_roomForTypes 510 = .ok (.iconst 3, 1) := dk_6 (dk_at dksX14_roomForTypes_22 5 rfl rfl)
theorem dX14_roomForTypes_511 : decode cX14_roomForTypes 511 = .ok (.idiv, 1) := dk_108 (dk_at dksX14_roomForTypes_22 6 rfl rfl)
theorem dX14_roomForTypes_512 : decode cX14_roomForTypes 512 = .ok (.bipush 8, 2) := dk_16 8 (dk_at dksX14_roomForTypes_22 7 rfl rfl)
theorem dX14_roomForTypes_514 : decode cX14_roomForTypes 514 = .ok (.iadd, 1) := dk_96 (dk_at dksX14_roomForTypes_22 9 rfl rfl)
theorem dX14_roomForTypes_515 : decode cX14_roomForTypes 515 = .ok (.newarray .int, 2) := dk_188_10 (dk_at dksX14_roomForTypes_22 10 rfl rfl)
theorem dX14_roomForTypes_517 : decode cX14_roomForTypes 517 = .ok (.putfield 121, 3) := dk_181 0 121 (dk_at dksX14_roomForTypes_22 12 rfl rfl)
theorem dX14_roomForTypes_520 : decode cX14_roomForTypes 520 = .ok (.aload_n 0, 1) := dk_42 (dk_at dksX14_roomForTypes_22 15 rfl rfl)
theorem dX14_roomForTypes_521 : decode cX14_roomForTypes 521 = .ok (.iload_n 1, 1) := dk_27 (dk_at dksX14_roomForTypes_22 16 rfl rfl)
theorem dX14_roomForTypes_522 : decode cX14_roomForTypes 522 = .ok (.iconst 3, 1) := dk_6 (dk_at dksX14_roomForTypes_22 17 rfl rfl)
theorem dX14_roomForTypes_523 : decode cX14_roomForTypes 523 = .ok (.idiv, 1) := dk_108 (dk_at dksX14_roomForTypes_22 18 rfl rfl)
theorem dX14_roomForTypes_524 : decode cX14_roomForTypes 524 = .ok (.bipush 8, 2) := dk_16 8 (dk_at dksX14_roomForTypes_22 19 rfl rfl)
theorem dX14_roomForTypes_526 : decode cX14_roomForTypes 526 = .ok (.iadd, 1) := dk_96 (dk_at dksX14_roomForTypes_22 21 rfl rfl)
theorem dX14_roomForTypes_527 : decode cX14_roomForTypes 527 = .ok (.newarray .int, 2) := dk_188_10 (dk_at dksX14_roomForTypes_22 22 rfl rfl)
theorem dX14_roomForTypes_529 : decode cX14_roomForTypes 529 = .ok (.putfield 124, 3) := dk_181 0 124 (dk_at dksX14_roomForTypes_23 0 rfl rfl)
theorem dX14_roomForTypes_532 : decode cX14_roomForTypes 532 = .ok (.aload_n 0, 1) := dk_42 (dk_at dksX14_roomForTypes_23 3 rfl rfl)
theorem dX14_roomForTypes_533 : decode cX14_roomForTypes 533 = .ok (.iload_n 1, 1) := dk_27 (dk_at dksX14_roomForTypes_23 4 rfl rfl)
theorem dX14_roomForTypes_534 : decode cX14_roomForTypes 534 = .ok (.iconst 3, 1) := dk_6 (dk_at dksX14_roomForTypes_23 5 rfl rfl)
theorem dX14_roomForTypes_535 : decode cX14_roomForTypes 535 = .ok (.idiv, 1) := dk_108 (dk_at dksX14_roomForTypes_23 6 rfl rfl)
theorem dX14_roomForTypes_536 : decode cX14_roomForTypes 536 = .ok (.bipush 8, 2) := dk_16 8 (dk_at dksX14_roomForTypes_23 7 rfl rfl)
theorem dX14_roomForTypes_538 : decode cX14_roomForTypes 538 = .ok (.iadd, 1) := dk_96 (dk_at dksX14_roomForTypes_23 9 rfl rfl)
theorem dX14_roomForTypes_539 : decode cX14_roomForTypes 539 = .ok (.newarray .int, 2) := dk_188_10 (dk_at dksX14_roomForTypes_23 10 rfl rfl)
theorem dX14_roomForTypes_541 : decode cX14_roomForTypes 541 = .ok (.putfield 127, 3) := dk_181 0 127 (dk_at dksX14_roomForTypes_23 12 rfl rfl)
theorem dX14_roomForTypes_544 : decode cX14_roomForTypes 544 = .ok (.aload_n 0, 1) := dk_42 (dk_at dksX14_roomForTypes_23 15 rfl rfl)
theorem dX14_roomForTypes_545 : decode cX14_roomForTypes 545 = .ok (.iload_n 1, 1) := dk_27 (dk_at dksX14_roomForTypes_23 16 rfl rfl)
theorem dX14_roomForTypes_546 : decode cX14_roomForTypes 546 = .ok (.iconst 3, 1) := dk_6 (dk_at dksX14_roomForTypes_23 17 rfl rfl)
theorem dX14_roomForTypes_547 : decode cX14_roomForTypes 547 = .ok (.idiv, 1) := dk_108 (dk_at dksX14_roomForTypes_23 18 rfl rfl)
theorem dX14_roomForTypes_548 : decode cX14_roomForTypes 548 = .ok (.bipush 8, 2) := dk_16 8 (dk_at dksX14_roomForTypes_23 19 rfl rfl)
theorem dX14_roomForTypes_550 : decode cX14_roomForTypes 550 = .ok (.iadd, 1) := dk_96 (dk_at dksX14_roomForTypes_23 21 rfl rfl)
theorem dX14_roomForTypes_551 : decode cX14_roomForTypes 551 = .ok (.newarray .int, 2) := dk_188_10 (dk_at dksX14_roomForTypes_23 22 rfl rfl)
theorem dX14_roomForTypes_553 : decode cX14_roomForTypes 553 = .ok (.putfield 175, 3) := dk_181 0 175 (dk_at dksX14_roomForTypes_24 0 rfl rfl)
theorem dX14_roomForTypes_556 : decode cX14_roomForTypes 556 = .ok (.aload_n 0, 1) := dk_42 (dk_at dksX14_roomForTypes_24 3 rfl rfl)
theorem dX14_roomForTypes_557 : decode cX14_roomForTypes 557 = .ok (.iload_n 1, 1) := dk_27 (dk_at dksX14_roomForTypes_24 4 rfl rfl)
theorem dX14_roomForTypes_558 : decode cX14_roomForTypes 558 = .ok (.iconst 3, 1) := dk_6 (dk_at dksX14_roomForTypes_24 5 rfl rfl)
theorem dX14_roomForTypes_559 : decode cX14_roomForTypes 559 = .ok (.idiv, 1) := dk_108 (dk_at dksX14_roomForTypes_24 6 rfl rfl)
theorem dX14_roomForTypes_560 : decode cX14_roomForTypes 560 = .ok (.bipush 8, 2) := dk_16 8 (dk_at dksX14_roomForTypes_24 7 rfl rfl)
theorem dX14_roomForTypes_562 : decode cX14_roomForTypes 562 = .ok (.iadd, 1) := dk_96 (dk_at dksX14_roomForTypes_24 9 rfl rfl)
theorem dX14_roomForTypes_563 : decode cX14_roomForTypes 563 = .ok (.newarray .int, 2) := dk_188_10 (dk_at dksX14_roomForTypes_24 10 rfl rfl)
theorem dX14_roomForTypes_565 : decode cX14_roomForTypes 565 = .ok (.putfield 178, 3) := dk_181 0 178 (dk_at dksX14_roomForTypes_24 12 rfl rfl)
theorem dX14_roomForTypes_568 : decode cX14_roomForTypes 568 = .ok (.aload_n 0, 1) := dk_42 (dk_at dksX14_roomForTypes_24 15 rfl rfl)
theorem dX14_roomForTypes_569 : decode cX14_roomForTypes 569 = .ok (.iload_n 1, 1) := dk_27 (dk_at dksX14_roomForTypes_24 16 rfl rfl)
theorem dX14_roomForTypes_570 : decode cX14_roomForTypes 570 = .ok (.iconst 3, 1) := dk_6 (dk_at dksX14_roomForTypes_24 17 rfl rfl)
theorem dX14_roomForTypes_571 : decode cX14_roomForTypes 571 = .ok (.idiv, 1) := dk_108 (dk_at dksX14_roomForTypes_24 18 rfl rfl)
theorem dX14_roomForTypes_572 : decode cX14_roomForTypes 572 = .ok (.bipush 8, 2) := dk_16 8 (dk_at dksX14_roomForTypes_24 19 rfl rfl)
theorem dX14_roomForTypes_574 : decode cX14_roomForTypes 574 = .ok (.iadd, 1) := dk_96 (dk_at dksX14_roomForTypes_24 21 rfl rfl)
theorem dX14_roomForTypes_575 : decode cX14_roomForTypes 575 = .ok (.newarray .int, 2) := dk_188_10 (dk_at dksX14_roomForTypes_24 22 rfl rfl)
theorem dX14_roomForTypes_577 : decode cX14_roomForTypes 577 = .ok (.putfield 181, 3) := dk_181 0 181 (dk_at dksX14_roomForTypes_25 0 rfl rfl)
theorem dX14_roomForTypes_580 : decode cX14_roomForTypes 580 = .ok (.aload_n 0, 1) := dk_42 (dk_at dksX14_roomForTypes_25 3 rfl rfl)
theorem dX14_roomForTypes_581 : decode cX14_roomForTypes 581 = .ok (.iload_n 1, 1) := dk_27 (dk_at dksX14_roomForTypes_25 4 rfl rfl)
theorem dX14_roomForTypes_582 : decode cX14_roomForTypes 582 = .ok (.iconst 3, 1) := dk_6 (dk_at dksX14_roomForTypes_25 5 rfl rfl)
theorem dX14_roomForTypes_583 : decode cX14_roomForTypes 583 = .ok (.idiv, 1) := dk_108 (dk_at dksX14_roomForTypes_25 6 rfl rfl)
theorem dX14_roomForTypes_584 : decode cX14_roomForTypes 584 = .ok (.bipush 8, 2) := dk_16 8 (dk_at dksX14_roomForTypes_25 7 rfl rfl)
theorem dX14_roomForTypes_586 : decode cX14_roomForTypes 586 = .ok (.iadd, 1) := dk_96 (dk_at dksX14_roomForTypes_25 9 rfl rfl)
theorem dX14_roomForTypes_587 : decode cX14_roomForTypes 587 = .ok (.newarray .int, 2) := dk_188_10 (dk_at dksX14_roomForTypes_25 10 rfl rfl)
theorem dX14_roomForTypes_589 : decode cX14_roomForTypes 589 = .ok (.putfield 184, 3) := dk_181 0 184 (dk_at dksX14_roomForTypes_25 12 rfl rfl)
theorem dX14_roomForTypes_592 : decode cX14_roomForTypes 592 = .ok (.aload_n 0, 1) := dk_42 (dk_at dksX14_roomForTypes_25 15 rfl rfl)
theorem dX14_roomForTypes_593 : decode cX14_roomForTypes 593 = .ok (.iload_n 1, 1) := dk_27 (dk_at dksX14_roomForTypes_25 16 rfl rfl)
theorem dX14_roomForTypes_594 : decode cX14_roomForTypes 594 = .ok (.iconst 3, 1) := dk_6 (dk_at dksX14_roomForTypes_25 17 rfl rfl)
theorem dX14_roomForTypes_595 : decode cX14_roomForTypes 595 = .ok (.idiv, 1) := dk_108 (dk_at dksX14_roomForTypes_25 18 rfl rfl)
theorem dX14_roomForTypes_596 : decode cX14_roomForTypes 596 = .ok (.bipush 8, 2) := dk_16 8 (dk_at dksX14_roomForTypes_25 19 rfl rfl)
theorem dX14_roomForTypes_598 : decode cX14_roomForTypes 598 = .ok (.iadd, 1) := dk_96 (dk_at dksX14_roomForTypes_25 21 rfl rfl)
theorem dX14_roomForTypes_599 : decode cX14_roomForTypes 599 = .ok (.newarray .int, 2) := dk_188_10 (dk_at dksX14_roomForTypes_25 22 rfl rfl)
theorem dX14_roomForTypes_601 : decode cX14_roomForTypes 601 = .ok (.putfield 214, 3) := dk_181 0 214 (dk_at dksX14_roomForTypes_26 0 rfl rfl)
theorem dX14_roomForTypes_604 : decode cX14_roomForTypes 604 = .ok (.aload_n 0, 1) := dk_42 (dk_at dksX14_roomForTypes_26 3 rfl rfl)
theorem dX14_roomForTypes_605 : decode cX14_roomForTypes 605 = .ok (.iload_n 1, 1) := dk_27 (dk_at dksX14_roomForTypes_26 4 rfl rfl)
theorem dX14_roomForTypes_606 : decode cX14_roomForTypes 606 = .ok (.iconst 3, 1) := dk_6 (dk_at dksX14_roomForTypes_26 5 rfl rfl)
theorem dX14_roomForTypes_607 : decode cX14_roomForTypes 607 = .ok (.idiv, 1) := dk_108 (dk_at dksX14_roomForTypes_26 6 rfl rfl)
theorem dX14_roomForTypes_608 : decode cX14_roomForTypes 608 = .ok (.bipush 8, 2) := dk_16 8 (dk_at dksX14_roomForTypes_26 7 rfl rfl)
theorem dX14_roomForTypes_610 : decode cX14_roomForTypes 610 = .ok (.iadd, 1) := dk_96 (dk_at dksX14_roomForTypes_26 9 rfl rfl)
theorem dX14_roomForTypes_611 : decode cX14_roomForTypes 611 = .ok (.newarray .long, 2) := dk_188_11 (dk_at dksX14_roomForTypes_26 10 rfl rfl)
theorem dX14_roomForTypes_613 : decode cX14_roomForTypes 613 = .ok (.putfield 230, 3) := dk_181 0 230 (dk_at dksX14_roomForTypes_26 12 rfl rfl)
theorem dX14_roomForTypes_616 : decode cX14_roomForTypes 616 = .ok (.return_, 1) := dk_177 (dk_at dksX14_roomForTypes_26 15 rfl rfl)
abbrev cX14_parseModule : ByteArray := prog_15_method_42_code
def yX14_parseModule : MethodName := ⟨RX14, "parseModule", "()V"⟩
def dkwX14_parseModule_8 : List UInt8 := [182, 1, 217, 87, 42, 3, 182, 1, 217, 87, 177]
abbrev dktX14_parseModule_8 : List UInt8 := dkwX14_parseModule_8 ++ []
def dkwX14_parseModule_7 : List UInt8 := [154, 0, 19, 42, 16, 60, 182, 1, 189, 154, 0, 10, 42, 182, 1, 227, 167, 255, 236, 42, 16, 60]
abbrev dktX14_parseModule_7 : List UInt8 := dkwX14_parseModule_7 ++ dktX14_parseModule_8
def dkwX14_parseModule_6 : List UInt8 := [182, 1, 217, 87, 42, 16, 7, 182, 1, 217, 87, 42, 16, 45, 182, 1, 217, 87, 42, 180, 1, 97]
abbrev dktX14_parseModule_6 : List UInt8 := dkwX14_parseModule_6 ++ dktX14_parseModule_7
def dkwX14_parseModule_5 : List UInt8 := [42, 42, 16, 74, 182, 1, 189, 181, 1, 223, 42, 89, 180, 1, 186, 4, 96, 181, 1, 186, 42, 16, 105]
abbrev dktX14_parseModule_5 : List UInt8 := dkwX14_parseModule_5 ++ dktX14_parseModule_6
def dkwX14_parseModule_4 : List UInt8 := [180, 1, 97, 154, 0, 48, 42, 16, 63, 182, 1, 189, 154, 0, 12, 42, 16, 74, 182, 1, 189, 153, 0, 30]
abbrev dktX14_parseModule_4 : List UInt8 := dkwX14_parseModule_4 ++ dktX14_parseModule_5
def dkwX14_parseModule_3 : List UInt8 := [167, 255, 205, 42, 16, 13, 182, 1, 217, 87, 42, 16, 58, 182, 1, 217, 87, 42, 3, 181, 1, 223, 42]
abbrev dktX14_parseModule_3 : List UInt8 := dkwX14_parseModule_3 ++ dktX14_parseModule_4
def dkwX14_parseModule_2 : List UInt8 := [182, 1, 189, 153, 0, 11, 42, 3, 182, 1, 192, 167, 255, 218, 42, 89, 180, 1, 186, 4, 96, 181, 1, 186]
abbrev dktX14_parseModule_2 : List UInt8 := dkwX14_parseModule_2 ++ dktX14_parseModule_3
def dkwX14_parseModule_1 : List UInt8 := [154, 0, 50, 42, 16, 13, 182, 1, 189, 154, 0, 41, 42, 16, 12, 182, 1, 189, 154, 0, 11, 42, 3]
abbrev dktX14_parseModule_1 : List UInt8 := dkwX14_parseModule_1 ++ dktX14_parseModule_2
def dkwX14_parseModule_0 : List UInt8 := [42, 3, 181, 1, 186, 42, 4, 182, 1, 217, 87, 42, 16, 12, 182, 1, 220, 153, 0, 64, 42, 180, 1, 97]
abbrev dktX14_parseModule_0 : List UInt8 := dkwX14_parseModule_0 ++ dktX14_parseModule_1
theorem dksX14_parseModule_0 : cX14_parseModule.data.toList.drop 0 = dktX14_parseModule_0 := by decide +kernel
theorem dksX14_parseModule_1 : cX14_parseModule.data.toList.drop 24 = dktX14_parseModule_1 := dk_seg dksX14_parseModule_0 24 rfl rfl
theorem dksX14_parseModule_2 : cX14_parseModule.data.toList.drop 47 = dktX14_parseModule_2 := dk_seg dksX14_parseModule_1 23 rfl rfl
theorem dksX14_parseModule_3 : cX14_parseModule.data.toList.drop 71 = dktX14_parseModule_3 := dk_seg dksX14_parseModule_2 24 rfl rfl
theorem dksX14_parseModule_4 : cX14_parseModule.data.toList.drop 94 = dktX14_parseModule_4 := dk_seg dksX14_parseModule_3 23 rfl rfl
theorem dksX14_parseModule_5 : cX14_parseModule.data.toList.drop 118 = dktX14_parseModule_5 := dk_seg dksX14_parseModule_4 24 rfl rfl
theorem dksX14_parseModule_6 : cX14_parseModule.data.toList.drop 141 = dktX14_parseModule_6 := dk_seg dksX14_parseModule_5 23 rfl rfl
theorem dksX14_parseModule_7 : cX14_parseModule.data.toList.drop 163 = dktX14_parseModule_7 := dk_seg dksX14_parseModule_6 22 rfl rfl
theorem dksX14_parseModule_8 : cX14_parseModule.data.toList.drop 185 = dktX14_parseModule_8 := dk_seg dksX14_parseModule_7 22 rfl rfl
theorem dX14_parseModule_0 : decode cX14_parseModule 0 = .ok (.aload_n 0, 1) := dk_42 (dk_at dksX14_parseModule_0 0 rfl rfl)
theorem dX14_parseModule_1 : decode cX14_parseModule 1 = .ok (.iconst 0, 1) := dk_3 (dk_at dksX14_parseModule_0 1 rfl rfl)
theorem dX14_parseModule_2 : decode cX14_parseModule 2 = .ok (.putfield 442, 3) := dk_181 1 186 (dk_at dksX14_parseModule_0 2 rfl rfl)
theorem dX14_parseModule_5 : decode cX14_parseModule 5 = .ok (.aload_n 0, 1) := dk_42 (dk_at dksX14_parseModule_0 5 rfl rfl)
theorem dX14_parseModule_6 : decode cX14_parseModule 6 = .ok (.iconst 1, 1) := dk_4 (dk_at dksX14_parseModule_0 6 rfl rfl)
theorem dX14_parseModule_7 : decode cX14_parseModule 7 = .ok (.invokevirtual 473, 3) := dk_182 1 217 (dk_at dksX14_parseModule_0 7 rfl rfl)
theorem dX14_parseModule_10 : decode cX14_parseModule 10 = .ok (.pop, 1) := dk_87 (dk_at dksX14_parseModule_0 10 rfl rfl)
theorem dX14_parseModule_11 : decode cX14_parseModule 11 = .ok (.aload_n 0, 1) := dk_42 (dk_at dksX14_parseModule_0 11 rfl rfl)
theorem dX14_parseModule_12 : decode cX14_parseModule 12 = .ok (.bipush 12, 2) := dk_16 12 (dk_at dksX14_parseModule_0 12 rfl rfl)
theorem dX14_parseModule_14 : decode cX14_parseModule 14 = .ok (.invokevirtual 476, 3) := dk_182 1 220 (dk_at dksX14_parseModule_0 14 rfl rfl)
theorem dX14_parseModule_17 : decode cX14_parseModule 17 = .ok (.ifCond .eq 64, 3) := dk_153 0 64 (dk_at dksX14_parseModule_0 17 rfl rfl)
theorem dX14_parseModule_20 : decode cX14_parseModule 20 = .ok (.aload_n 0, 1) := dk_42 (dk_at dksX14_parseModule_0 20 rfl rfl)
theorem dX14_parseModule_21 : decode cX14_parseModule 21 = .ok (.getfield 353, 3) := dk_180 1 97 (dk_at dksX14_parseModule_0 21 rfl rfl)
theorem dX14_parseModule_24 : decode cX14_parseModule 24 = .ok (.ifCond .ne 50, 3) := dk_154 0 50 (dk_at dksX14_parseModule_1 0 rfl rfl)
theorem dX14_parseModule_27 : decode cX14_parseModule 27 = .ok (.aload_n 0, 1) := dk_42 (dk_at dksX14_parseModule_1 3 rfl rfl)
theorem dX14_parseModule_28 : decode cX14_parseModule 28 = .ok (.bipush 13, 2) := dk_16 13 (dk_at dksX14_parseModule_1 4 rfl rfl)
theorem dX14_parseModule_30 : decode cX14_parseModule 30 = .ok (.invokevirtual 445, 3) := dk_182 1 189 (dk_at dksX14_parseModule_1 6 rfl rfl)
theorem dX14_parseModule_33 : decode cX14_parseModule 33 = .ok (.ifCond .ne 41, 3) := dk_154 0 41 (dk_at dksX14_parseModule_1 9 rfl rfl)
theorem dX14_parseModule_36 : decode cX14_parseModule 36 = .ok (.aload_n 0, 1) := dk_42 (dk_at dksX14_parseModule_1 12 rfl rfl)
theorem dX14_parseModule_37 : decode cX14_parseModule 37 = .ok (.bipush 12, 2) := dk_16 12 (dk_at dksX14_parseModule_1 13 rfl rfl)
theorem dX14_parseModule_39 : decode cX14_parseModule 39 = .ok (.invokevirtual 445, 3) := dk_182 1 189 (dk_at dksX14_parseModule_1 15 rfl rfl)
theorem dX14_parseModule_42 : decode cX14_parseModule 42 = .ok (.ifCond .ne 11, 3) := dk_154 0 11 (dk_at dksX14_parseModule_1 18 rfl rfl)
theorem dX14_parseModule_45 : decode cX14_parseModule 45 = .ok (.aload_n 0, 1) := dk_42 (dk_at dksX14_parseModule_1 21 rfl rfl)
theorem dX14_parseModule_46 : decode cX14_parseModule 46 = .ok (.iconst 0, 1) := dk_3 (dk_at dksX14_parseModule_1 22 rfl rfl)
theorem dX14_parseModule_47 : decode cX14_parseModule 47 = .ok (.invokevirtual 445, 3) := dk_182 1 189 (dk_at dksX14_parseModule_2 0 rfl rfl)
theorem dX14_parseModule_50 : decode cX14_parseModule 50 = .ok (.ifCond .eq 11, 3) := dk_153 0 11 (dk_at dksX14_parseModule_2 3 rfl rfl)
theorem dX14_parseModule_53 : decode cX14_parseModule 53 = .ok (.aload_n 0, 1) := dk_42 (dk_at dksX14_parseModule_2 6 rfl rfl)
theorem dX14_parseModule_54 : decode cX14_parseModule 54 = .ok (.iconst 0, 1) := dk_3 (dk_at dksX14_parseModule_2 7 rfl rfl)
theorem dX14_parseModule_55 : decode cX14_parseModule 55 = .ok (.invokevirtual 448, 3) := dk_182 1 192 (dk_at dksX14_parseModule_2 8 rfl rfl)
theorem dX14_parseModule_58 : decode cX14_parseModule 58 = .ok (.goto (-38), 3) := dk_167 255 218 (dk_at dksX14_parseModule_2 11 rfl rfl)
theorem dX14_parseModule_61 : decode cX14_parseModule 61 = .ok (.aload_n 0, 1) := dk_42 (dk_at dksX14_parseModule_2 14 rfl rfl)
theorem dX14_parseModule_62 : decode cX14_parseModule 62 = .ok (.dup, 1) := dk_89 (dk_at dksX14_parseModule_2 15 rfl rfl)
theorem dX14_parseModule_63 : decode cX14_parseModule 63 = .ok (.getfield 442, 3) := dk_180 1 186 (dk_at dksX14_parseModule_2 16 rfl rfl)
theorem dX14_parseModule_66 : decode cX14_parseModule 66 = .ok (.iconst 1, 1) := dk_4 (dk_at dksX14_parseModule_2 19 rfl rfl)
theorem dX14_parseModule_67 : decode cX14_parseModule 67 = .ok (.iadd, 1) := dk_96 (dk_at dksX14_parseModule_2 20 rfl rfl)
theorem dX14_parseModule_68 : decode cX14_parseModule 68 = .ok (.putfield 442, 3) := dk_181 1 186 (dk_at dksX14_parseModule_2 21 rfl rfl)
theorem dX14_parseModule_71 : decode cX14_parseModule 71 = .ok (.goto (-51), 3) := dk_167 255 205 (dk_at dksX14_parseModule_3 0 rfl rfl)
theorem dX14_parseModule_74 : decode cX14_parseModule 74 = .ok (.aload_n 0, 1) := dk_42 (dk_at dksX14_parseModule_3 3 rfl rfl)
theorem dX14_parseModule_75 : decode cX14_parseModule 75 = .ok (.bipush 13, 2) := dk_16 13 (dk_at dksX14_parseModule_3 4 rfl rfl)
theorem dX14_parseModule_77 : decode cX14_parseModule 77 = .ok (.invokevirtual 473, 3) := dk_182 1 217 (dk_at dksX14_parseModule_3 6 rfl rfl)
theorem dX14_parseModule_80 : decode cX14_parseModule 80 = .ok (.pop, 1) := dk_87 (dk_at dksX14_parseModule_3 9 rfl rfl)
theorem dX14_parseModule_81 : decode cX14_parseModule 81 = .ok (.aload_n 0, 1) := dk_42 (dk_at dksX14_parseModule_3 10 rfl rfl)
theorem dX14_parseModule_82 : decode cX14_parseModule 82 = .ok (.bipush 58, 2) := dk_16 58 (dk_at dksX14_parseModule_3 11 rfl rfl)
theorem dX14_parseModule_84 : decode cX14_parseModule 84 = .ok (.invokevirtual 473, 3) := dk_182 1 217 (dk_at dksX14_parseModule_3 13 rfl rfl)
theorem dX14_parseModule_87 : decode cX14_parseModule 87 = .ok (.pop, 1) := dk_87 (dk_at dksX14_parseModule_3 16 rfl rfl)
theorem dX14_parseModule_88 : decode cX14_parseModule 88 = .ok (.aload_n 0, 1) := dk_42 (dk_at dksX14_parseModule_3 17 rfl rfl)
theorem dX14_parseModule_89 : decode cX14_parseModule 89 = .ok (.iconst 0, 1) := dk_3 (dk_at dksX14_parseModule_3 18 rfl rfl)
theorem dX14_parseModule_90 : decode cX14_parseModule 90 = .ok (.putfield 479, 3) := dk_181 1 223 (dk_at dksX14_parseModule_3 19 rfl rfl)
theorem dX14_parseModule_93 : decode cX14_parseModule 93 = .ok (.aload_n 0, 1) := dk_42 (dk_at dksX14_parseModule_3 22 rfl rfl)
theorem dX14_parseModule_94 : decode cX14_parseModule 94 = .ok (.getfield 353, 3) := dk_180 1 97 (dk_at dksX14_parseModule_4 0 rfl rfl)
theorem dX14_parseModule_97 : decode cX14_parseModule 97 = .ok (.ifCond .ne 48, 3) := dk_154 0 48 (dk_at dksX14_parseModule_4 3 rfl rfl)
theorem dX14_parseModule_100 : decode cX14_parseModule 100 = .ok (.aload_n 0, 1) := dk_42 (dk_at dksX14_parseModule_4 6 rfl rfl)
theorem dX14_parseModule_101 : decode cX14_parseModule 101 = .ok (.bipush 63, 2) := dk_16 63 (dk_at dksX14_parseModule_4 7 rfl rfl)
theorem dX14_parseModule_103 : decode cX14_parseModule 103 = .ok (.invokevirtual 445, 3) := dk_182 1 189 (dk_at dksX14_parseModule_4 9 rfl rfl)
theorem dX14_parseModule_106 : decode cX14_parseModule 106 = .ok (.ifCond .ne 12, 3) := dk_154 0 12 (dk_at dksX14_parseModule_4 12 rfl rfl)
theorem dX14_parseModule_109 : decode cX14_parseModule 109 = .ok (.aload_n 0, 1) := dk_42 (dk_at dksX14_parseModule_4 15 rfl rfl)
theorem dX14_parseModule_110 : decode cX14_parseModule 110 = .ok (.bipush 74, 2) := dk_16 74 (dk_at dksX14_parseModule_4 16 rfl rfl)
theorem dX14_parseModule_112 : decode cX14_parseModule 112 = .ok (.invokevirtual 445, 3) := dk_182 1 189 (dk_at dksX14_parseModule_4 18 rfl rfl)
theorem dX14_parseModule_115 : decode cX14_parseModule 115 = .ok (.ifCond .eq 30, 3) := dk_153 0 30 (dk_at dksX14_parseModule_4 21 rfl rfl)
theorem dX14_parseModule_118 : decode cX14_parseModule 118 = .ok (.aload_n 0, 1) := dk_42 (dk_at dksX14_parseModule_5 0 rfl rfl)
theorem dX14_parseModule_119 : decode cX14_parseModule 119 = .ok (.aload_n 0, 1) := dk_42 (dk_at dksX14_parseModule_5 1 rfl rfl)
theorem dX14_parseModule_120 : decode cX14_parseModule 120 = .ok (.bipush 74, 2) := dk_16 74 (dk_at dksX14_parseModule_5 2 rfl rfl)
theorem dX14_parseModule_122 : decode cX14_parseModule 122 = .ok (.invokevirtual 445, 3) := dk_182 1 189 (dk_at dksX14_parseModule_5 4 rfl rfl)
theorem dX14_parseModule_125 : decode cX14_parseModule 125 = .ok (.putfield 479, 3) := dk_181 1 223 (dk_at dksX14_parseModule_5 7 rfl rfl)
theorem dX14_parseModule_128 : decode cX14_parseModule 128 = .ok (.aload_n 0, 1) := dk_42 (dk_at dksX14_parseModule_5 10 rfl rfl)
theorem dX14_parseModule_129 : decode cX14_parseModule 129 = .ok (.dup, 1) := dk_89 (dk_at dksX14_parseModule_5 11 rfl rfl)
theorem dX14_parseModule_130 : decode cX14_parseModule 130 = .ok (.getfield 442, 3) := dk_180 1 186 (dk_at dksX14_parseModule_5 12 rfl rfl)
theorem dX14_parseModule_133 : decode cX14_parseModule 133 = .ok (.iconst 1, 1) := dk_4 (dk_at dksX14_parseModule_5 15 rfl rfl)
theorem dX14_parseModule_134 : decode cX14_parseModule 134 = .ok (.iadd, 1) := dk_96 (dk_at dksX14_parseModule_5 16 rfl rfl)
theorem dX14_parseModule_135 : decode cX14_parseModule 135 = .ok (.putfield 442, 3) := dk_181 1 186 (dk_at dksX14_parseModule_5 17 rfl rfl)
theorem dX14_parseModule_138 : decode cX14_parseModule 138 = .ok (.aload_n 0, 1) := dk_42 (dk_at dksX14_parseModule_5 20 rfl rfl)
theorem dX14_parseModule_139 : decode cX14_parseModule 139 = .ok (.bipush 105, 2) := dk_16 105 (dk_at dksX14_parseModule_5 21 rfl rfl)
theorem dX14_parseModule_141 : decode cX14_parseModule 141 = .ok (.invokevirtual 473, 3) := dk_182 1 217 (dk_at dksX14_parseModule_6 0 rfl rfl)
theorem dX14_parseModule_144 : decode cX14_parseModule 144 = .ok (.pop, 1) := dk_87 (dk_at dksX14_parseModule_6 3 rfl rfl)
theorem dX14_parseModule_145 : decode cX14_parseModule 145 = .ok (.aload_n 0, 1) := dk_42 (dk_at dksX14_parseModule_6 4 rfl rfl)
theorem dX14_parseModule_146 : decode cX14_parseModule 146 = .ok (.bipush 7, 2) := dk_16 7 (dk_at dksX14_parseModule_6 5 rfl rfl)
theorem dX14_parseModule_148 : decode cX14_parseModule 148 = .ok (.invokevirtual 473, 3) := dk_182 1 217 (dk_at dksX14_parseModule_6 7 rfl rfl)
theorem dX14_parseModule_151 : decode cX14_parseModule 151 = .ok (.pop, 1) := dk_87 (dk_at dksX14_parseModule_6 10 rfl rfl)
theorem dX14_parseModule_152 : decode cX14_parseModule 152 = .ok (.aload_n 0, 1) := dk_42 (dk_at dksX14_parseModule_6 11 rfl rfl)
theorem dX14_parseModule_153 : decode cX14_parseModule 153 = .ok (.bipush 45, 2) := dk_16 45 (dk_at dksX14_parseModule_6 12 rfl rfl)
theorem dX14_parseModule_155 : decode cX14_parseModule 155 = .ok (.invokevirtual 473, 3) := dk_182 1 217 (dk_at dksX14_parseModule_6 14 rfl rfl)
theorem dX14_parseModule_158 : decode cX14_parseModule 158 = .ok (.pop, 1) := dk_87 (dk_at dksX14_parseModule_6 17 rfl rfl)
theorem dX14_parseModule_159 : decode cX14_parseModule 159 = .ok (.aload_n 0, 1) := dk_42 (dk_at dksX14_parseModule_6 18 rfl rfl)
theorem dX14_parseModule_160 : decode cX14_parseModule 160 = .ok (.getfield 353, 3) := dk_180 1 97 (dk_at dksX14_parseModule_6 19 rfl rfl)
theorem dX14_parseModule_163 : decode cX14_parseModule 163 = .ok (.ifCond .ne 19, 3) := dk_154 0 19 (dk_at dksX14_parseModule_7 0 rfl rfl)
theorem dX14_parseModule_166 : decode cX14_parseModule 166 = .ok (.aload_n 0, 1) := dk_42 (dk_at dksX14_parseModule_7 3 rfl rfl)
theorem dX14_parseModule_167 : decode cX14_parseModule 167 = .ok (.bipush 60, 2) := dk_16 60 (dk_at dksX14_parseModule_7 4 rfl rfl)
theorem dX14_parseModule_169 : decode cX14_parseModule 169 = .ok (.invokevirtual 445, 3) := dk_182 1 189 (dk_at dksX14_parseModule_7 6 rfl rfl)
theorem dX14_parseModule_172 : decode cX14_parseModule 172 = .ok (.ifCond .ne 10, 3) := dk_154 0 10 (dk_at dksX14_parseModule_7 9 rfl rfl)
theorem dX14_parseModule_175 : decode cX14_parseModule 175 = .ok (.aload_n 0, 1) := dk_42 (dk_at dksX14_parseModule_7 12 rfl rfl)
theorem dX14_parseModule_176 : decode cX14_parseModule 176 = .ok (.invokevirtual 483, 3) := dk_182 1 227 (dk_at dksX14_parseModule_7 13 rfl rfl)
theorem dX14_parseModule_179 : decode cX14_parseModule 179 = .ok (.goto (-20), 3) := dk_167 255 236 (dk_at dksX14_parseModule_7 16 rfl rfl)
theorem dX14_parseModule_182 : decode cX14_parseModule 182 = .ok (.aload_n 0, 1) := dk_42 (dk_at dksX14_parseModule_7 19 rfl rfl)
theorem dX14_parseModule_183 : decode cX14_parseModule 183 = .ok (.bipush 60, 2) := dk_16 60 (dk_at dksX14_parseModule_7 20 rfl rfl)
theorem dX14_parseModule_185 : decode cX14_parseModule 185 = .ok (.invokevirtual 473, 3) := dk_182 1 217 (dk_at dksX14_parseModule_8 0 rfl rfl)
theorem dX14_parseModule_188 : decode cX14_parseModule 188 = .ok (.pop, 1) := dk_87 (dk_at dksX14_parseModule_8 3 rfl rfl)
theorem dX14_parseModule_189 : decode cX14_parseModule 189 = .ok (.aload_n 0, 1) := dk_42 (dk_at dksX14_parseModule_8 4 rfl rfl)
theorem dX14_parseModule_190 : decode cX14_parseModule 190 = .ok (.iconst 0, 1) := dk_3 (dk_at dksX14_parseModule_8 5 rfl rfl)
theorem dX14_parseModule_191 : decode cX14_parseModule 191 = .ok (.invokevirtual 473, 3) := dk_182 1 217 (dk_at dksX14_parseModule_8 6 rfl rfl)
theorem dX14_parseModule_194 : decode cX14_parseModule 194 = .ok (.pop, 1) := dk_87 (dk_at dksX14_parseModule_8 9 rfl rfl)
theorem dX14_parseModule_195 : decode cX14_parseModule 195 = .ok (.return_, 1) := dk_177 (dk_at dksX14_parseModule_8 10 rfl rfl)
abbrev cX14_take : ByteArray := prog_15_method_32_code
def yX14_take : MethodName := ⟨RX14, "take", "(I)I"⟩
def dkwX14_take_1 : List UInt8 := [42, 89, 180, 1, 186, 4, 96, 181, 1, 186, 42, 180, 1, 186, 4, 100, 172]
abbrev dktX14_take_1 : List UInt8 := dkwX14_take_1 ++ []
def dkwX14_take_0 : List UInt8 := [42, 180, 1, 97, 158, 0, 5, 3, 172, 42, 27, 182, 1, 189, 154, 0, 10, 42, 4, 182, 1, 192, 3, 172]
abbrev dktX14_take_0 : List UInt8 := dkwX14_take_0 ++ dktX14_take_1
theorem dksX14_take_0 : cX14_take.data.toList.drop 0 = dktX14_take_0 := by decide +kernel
theorem dksX14_take_1 : cX14_take.data.toList.drop 24 = dktX14_take_1 := dk_seg dksX14_take_0 24 rfl rfl
theorem dX14_take_0 : decode cX14_take 0 = .ok (.aload_n 0, 1) := dk_42 (dk_at dksX14_take_0 0 rfl rfl)
theorem dX14_take_1 : decode cX14_take 1 = .ok (.getfield 353, 3) := dk_180 1 97 (dk_at dksX14_take_0 1 rfl rfl)
theorem dX14_take_4 : decode cX14_take 4 = .ok (.ifCond .le 5, 3) := dk_158 0 5 (dk_at dksX14_take_0 4 rfl rfl)
theorem dX14_take_7 : decode cX14_take 7 = .ok (.iconst 0, 1) := dk_3 (dk_at dksX14_take_0 7 rfl rfl)
theorem dX14_take_8 : decode cX14_take 8 = .ok (.ireturn, 1) := dk_172 (dk_at dksX14_take_0 8 rfl rfl)
theorem dX14_take_9 : decode cX14_take 9 = .ok (.aload_n 0, 1) := dk_42 (dk_at dksX14_take_0 9 rfl rfl)
theorem dX14_take_10 : decode cX14_take 10 = .ok (.iload_n 1, 1) := dk_27 (dk_at dksX14_take_0 10 rfl rfl)
theorem dX14_take_11 : decode cX14_take 11 = .ok (.invokevirtual 445, 3) := dk_182 1 189 (dk_at dksX14_take_0 11 rfl rfl)
theorem dX14_take_14 : decode cX14_take 14 = .ok (.ifCond .ne 10, 3) := dk_154 0 10 (dk_at dksX14_take_0 14 rfl rfl)
theorem dX14_take_17 : decode cX14_take 17 = .ok (.aload_n 0, 1) := dk_42 (dk_at dksX14_take_0 17 rfl rfl)
theorem dX14_take_18 : decode cX14_take 18 = .ok (.iconst 1, 1) := dk_4 (dk_at dksX14_take_0 18 rfl rfl)
theorem dX14_take_19 : decode cX14_take 19 = .ok (.invokevirtual 448, 3) := dk_182 1 192 (dk_at dksX14_take_0 19 rfl rfl)
theorem dX14_take_22 : decode cX14_take 22 = .ok (.iconst 0, 1) := dk_3 (dk_at dksX14_take_0 22 rfl rfl)
theorem dX14_take_23 : decode cX14_take 23 = .ok (.ireturn, 1) := dk_172 (dk_at dksX14_take_0 23 rfl rfl)
theorem dX14_take_24 : decode cX14_take 24 = .ok (.aload_n 0, 1) := dk_42 (dk_at dksX14_take_1 0 rfl rfl)
theorem dX14_take_25 : decode cX14_take 25 = .ok (.dup, 1) := dk_89 (dk_at dksX14_take_1 1 rfl rfl)
theorem dX14_take_26 : decode cX14_take 26 = .ok (.getfield 442, 3) := dk_180 1 186 (dk_at dksX14_take_1 2 rfl rfl)
theorem dX14_take_29 : decode cX14_take 29 = .ok (.iconst 1, 1) := dk_4 (dk_at dksX14_take_1 5 rfl rfl)
theorem dX14_take_30 : decode cX14_take 30 = .ok (.iadd, 1) := dk_96 (dk_at dksX14_take_1 6 rfl rfl)
theorem dX14_take_31 : decode cX14_take 31 = .ok (.putfield 442, 3) := dk_181 1 186 (dk_at dksX14_take_1 7 rfl rfl)
theorem dX14_take_34 : decode cX14_take 34 = .ok (.aload_n 0, 1) := dk_42 (dk_at dksX14_take_1 10 rfl rfl)
theorem dX14_take_35 : decode cX14_take 35 = .ok (.getfield 442, 3) := dk_180 1 186 (dk_at dksX14_take_1 11 rfl rfl)
theorem dX14_take_38 : decode cX14_take 38 = .ok (.iconst 1, 1) := dk_4 (dk_at dksX14_take_1 14 rfl rfl)
theorem dX14_take_39 : decode cX14_take 39 = .ok (.isub, 1) := dk_100 (dk_at dksX14_take_1 15 rfl rfl)
theorem dX14_take_40 : decode cX14_take 40 = .ok (.ireturn, 1) := dk_172 (dk_at dksX14_take_1 16 rfl rfl)
abbrev cX14_is : ByteArray := prog_15_method_30_code
def yX14_is : MethodName := ⟨RX14, "is", "(I)Z"⟩
def dkwX14_is_0 : List UInt8 := [42, 180, 0, 33, 42, 180, 1, 186, 46, 27, 160, 0, 7, 4, 167, 0, 4, 3, 172]
abbrev dktX14_is_0 : List UInt8 := dkwX14_is_0 ++ []
theorem dksX14_is_0 : cX14_is.data.toList.drop 0 = dktX14_is_0 := by decide +kernel
theorem dX14_is_0 : decode cX14_is 0 = .ok (.aload_n 0, 1) := dk_42 (dk_at dksX14_is_0 0 rfl rfl)
theorem dX14_is_1 : decode cX14_is 1 = .ok (.getfield 33, 3) := dk_180 0 33 (dk_at dksX14_is_0 1 rfl rfl)
theorem dX14_is_4 : decode cX14_is 4 = .ok (.aload_n 0, 1) := dk_42 (dk_at dksX14_is_0 4 rfl rfl)
theorem dX14_is_5 : decode cX14_is 5 = .ok (.getfield 442, 3) := dk_180 1 186 (dk_at dksX14_is_0 5 rfl rfl)
theorem dX14_is_8 : decode cX14_is 8 = .ok (.iaload, 1) := dk_46 (dk_at dksX14_is_0 8 rfl rfl)
theorem dX14_is_9 : decode cX14_is 9 = .ok (.iload_n 1, 1) := dk_27 (dk_at dksX14_is_0 9 rfl rfl)
theorem dX14_is_10 : decode cX14_is 10 = .ok (.if_icmp .ne 7, 3) := dk_160 0 7 (dk_at dksX14_is_0 10 rfl rfl)
theorem dX14_is_13 : decode cX14_is 13 = .ok (.iconst 1, 1) := dk_4 (dk_at dksX14_is_0 13 rfl rfl)
theorem dX14_is_14 : decode cX14_is 14 = .ok (.goto 4, 3) := dk_167 0 4 (dk_at dksX14_is_0 14 rfl rfl)
theorem dX14_is_17 : decode cX14_is 17 = .ok (.iconst 0, 1) := dk_3 (dk_at dksX14_is_0 17 rfl rfl)
theorem dX14_is_18 : decode cX14_is 18 = .ok (.ireturn, 1) := dk_172 (dk_at dksX14_is_0 18 rfl rfl)
abbrev cX14_misfit : ByteArray := prog_15_method_31_code
def yX14_misfit : MethodName := ⟨RX14, "misfit", "(Z)V"⟩
def dkwX14_misfit_5 : List UInt8 := [42, 29, 153, 0, 7, 6, 167, 0, 4, 5, 42, 180, 0, 36, 42, 180, 1, 186, 46, 182, 1, 158, 177]
abbrev dktX14_misfit_5 : List UInt8 := dkwX14_misfit_5 ++ []
def dkwX14_misfit_4 : List UInt8 := [158, 0, 22, 42, 180, 0, 33, 42, 180, 1, 186, 4, 100, 46, 4, 160, 0, 7, 4, 167, 0, 4, 3, 62]
abbrev dktX14_misfit_4 : List UInt8 := dkwX14_misfit_4 ++ dktX14_misfit_5
def dkwX14_misfit_3 : List UInt8 := [132, 4, 1, 167, 255, 225, 29, 154, 0, 35, 27, 153, 0, 35, 28, 16, 12, 160, 0, 29, 42, 180, 1, 186]
abbrev dktX14_misfit_3 : List UInt8 := dkwX14_misfit_3 ++ dktX14_misfit_4
def dkwX14_misfit_2 : List UInt8 := [162, 0, 30, 29, 154, 0, 14, 42, 180, 0, 13, 21, 4, 46, 28, 160, 0, 7, 4, 167, 0, 4, 3, 62]
abbrev dktX14_misfit_2 : List UInt8 := dkwX14_misfit_2 ++ dktX14_misfit_3
def dkwX14_misfit_1 : List UInt8 := [16, 11, 159, 0, 9, 28, 16, 20, 160, 0, 7, 4, 167, 0, 4, 3, 62, 3, 54, 4, 21, 4, 16, 30]
abbrev dktX14_misfit_1 : List UInt8 := dkwX14_misfit_1 ++ dktX14_misfit_2
def dkwX14_misfit_0 : List UInt8 := [42, 180, 0, 33, 42, 180, 1, 186, 46, 61, 28, 16, 8, 159, 0, 21, 28, 16, 10, 159, 0, 15, 28]
abbrev dktX14_misfit_0 : List UInt8 := dkwX14_misfit_0 ++ dktX14_misfit_1
theorem dksX14_misfit_0 : cX14_misfit.data.toList.drop 0 = dktX14_misfit_0 := by decide +kernel
theorem dksX14_misfit_1 : cX14_misfit.data.toList.drop 23 = dktX14_misfit_1 := dk_seg dksX14_misfit_0 23 rfl rfl
theorem dksX14_misfit_2 : cX14_misfit.data.toList.drop 47 = dktX14_misfit_2 := dk_seg dksX14_misfit_1 24 rfl rfl
theorem dksX14_misfit_3 : cX14_misfit.data.toList.drop 71 = dktX14_misfit_3 := dk_seg dksX14_misfit_2 24 rfl rfl
theorem dksX14_misfit_4 : cX14_misfit.data.toList.drop 95 = dktX14_misfit_4 := dk_seg dksX14_misfit_3 24 rfl rfl
theorem dksX14_misfit_5 : cX14_misfit.data.toList.drop 119 = dktX14_misfit_5 := dk_seg dksX14_misfit_4 24 rfl rfl
theorem dX14_misfit_0 : decode cX14_misfit 0 = .ok (.aload_n 0, 1) := dk_42 (dk_at dksX14_misfit_0 0 rfl rfl)
theorem dX14_misfit_1 : decode cX14_misfit 1 = .ok (.getfield 33, 3) := dk_180 0 33 (dk_at dksX14_misfit_0 1 rfl rfl)
theorem dX14_misfit_4 : decode cX14_misfit 4 = .ok (.aload_n 0, 1) := dk_42 (dk_at dksX14_misfit_0 4 rfl rfl)
theorem dX14_misfit_5 : decode cX14_misfit 5 = .ok (.getfield 442, 3) := dk_180 1 186 (dk_at dksX14_misfit_0 5 rfl rfl)
theorem dX14_misfit_8 : decode cX14_misfit 8 = .ok (.iaload, 1) := dk_46 (dk_at dksX14_misfit_0 8 rfl rfl)
theorem dX14_misfit_9 : decode cX14_misfit 9 = .ok (.istore_n 2, 1) := dk_61 (dk_at dksX14_misfit_0 9 rfl rfl)
theorem dX14_misfit_10 : decode cX14_misfit 10 = .ok (.iload_n 2, 1) := dk_28 (dk_at dksX14_misfit_0 10 rfl rfl)
theorem dX14_misfit_11 : decode cX14_misfit 11 = .ok (.bipush 8, 2) := dk_16 8 (dk_at dksX14_misfit_0 11 rfl rfl)
theorem dX14_misfit_13 : decode cX14_misfit 13 = .ok (.if_icmp .eq 21, 3) := dk_159 0 21 (dk_at dksX14_misfit_0 13 rfl rfl)
theorem dX14_misfit_16 : decode cX14_misfit 16 = .ok (.iload_n 2, 1) := dk_28 (dk_at dksX14_misfit_0 16 rfl rfl)
theorem dX14_misfit_17 : decode cX14_misfit 17 = .ok (.bipush 10, 2) := dk_16 10 (dk_at dksX14_misfit_0 17 rfl rfl)
theorem dX14_misfit_19 : decode cX14_misfit 19 = .ok (.if_icmp .eq 15, 3) := dk_159 0 15 (dk_at dksX14_misfit_0 19 rfl rfl)
theorem dX14_misfit_22 : decode cX14_misfit 22 = .ok (.iload_n 2, 1) := dk_28 (dk_at dksX14_misfit_0 22 rfl rfl)
theorem dX14_misfit_23 : decode cX14_misfit 23 = .ok (.bipush 11, 2) := dk_16 11 (dk_at dksX14_misfit_1 0 rfl rfl)
theorem dX14_misfit_25 : decode cX14_misfit 25 = .ok (.if_icmp .eq 9, 3) := dk_159 0 9 (dk_at dksX14_misfit_1 2 rfl rfl)
theorem dX14_misfit_28 : decode cX14_misfit 28 = .ok (.iload_n 2, 1) := dk_28 (dk_at dksX14_misfit_1 5 rfl rfl)
theorem dX14_misfit_29 : decode cX14_misfit 29 = .ok (.bipush 20, 2) := dk_16 20 (dk_at dksX14_misfit_1 6 rfl rfl)
theorem dX14_misfit_31 : decode cX14_misfit 31 = .ok (.if_icmp .ne 7, 3) := dk_160 0 7 (dk_at dksX14_misfit_1 8 rfl rfl)
theorem dX14_misfit_34 : decode cX14_misfit 34 = .ok (.iconst 1, 1) := dk_4 (dk_at dksX14_misfit_1 11 rfl rfl)
theorem dX14_misfit_35 : decode cX14_misfit 35 = .ok (.goto 4, 3) := dk_167 0 4 (dk_at dksX14_misfit_1 12 rfl rfl)
theorem dX14_misfit_38 : decode cX14_misfit 38 = .ok (.iconst 0, 1) := dk_3 (dk_at dksX14_misfit_1 15 rfl rfl)
theorem dX14_misfit_39 : decode cX14_misfit 39 = .ok (.istore_n 3, 1) := dk_62 (dk_at dksX14_misfit_1 16 rfl rfl)
theorem dX14_misfit_40 : decode cX14_misfit 40 = .ok (.iconst 0, 1) := dk_3 (dk_at dksX14_misfit_1 17 rfl rfl)
theorem dX14_misfit_41 : decode cX14_misfit 41 = .ok (.istore 4, 2) := dk_54 4 (dk_at dksX14_misfit_1 18 rfl rfl)
theorem dX14_misfit_43 : decode cX14_misfit 43 = .ok (.iload 4, 2) := dk_21 4 (dk_at dksX14_misfit_1 20 rfl rfl)
theorem dX14_misfit_45 : decode cX14_misfit 45 = .ok (.bipush 30, 2) := dk_16 30 (dk_at dksX14_misfit_1 22 rfl rfl)
theorem dX14_misfit_47 : decode cX14_misfit 47 = .ok (.if_icmp .ge 30, 3) := dk_162 0 30 (dk_at dksX14_misfit_2 0 rfl rfl)
theorem dX14_misfit_50 : decode cX14_misfit 50 = .ok (.iload_n 3, 1) := dk_29 (dk_at dksX14_misfit_2 3 rfl rfl)
theorem dX14_misfit_51 : decode cX14_misfit 51 = .ok (.ifCond .ne 14, 3) := dk_154 0 14 (dk_at dksX14_misfit_2 4 rfl rfl)
theorem dX14_misfit_54 : decode cX14_misfit 54 = .ok (.aload_n 0, 1) := dk_42 (dk_at dksX14_misfit_2 7 rfl rfl)
theorem dX14_misfit_55 : decode cX14_misfit 55 = .ok (.getfield 13, 3) := dk_180 0 13 (dk_at dksX14_misfit_2 8 rfl rfl)
theorem dX14_misfit_58 : decode cX14_misfit 58 = .ok (.iload 4, 2) := dk_21 4 (dk_at dksX14_misfit_2 11 rfl rfl)
theorem dX14_misfit_60 : decode cX14_misfit 60 = .ok (.iaload, 1) := dk_46 (dk_at dksX14_misfit_2 13 rfl rfl)
theorem dX14_misfit_61 : decode cX14_misfit 61 = .ok (.iload_n 2, 1) := dk_28 (dk_at dksX14_misfit_2 14 rfl rfl)
theorem dX14_misfit_62 : decode cX14_misfit 62 = .ok (.if_icmp .ne 7, 3) := dk_160 0 7 (dk_at dksX14_misfit_2 15 rfl rfl)
theorem dX14_misfit_65 : decode cX14_misfit 65 = .ok (.iconst 1, 1) := dk_4 (dk_at dksX14_misfit_2 18 rfl rfl)
theorem dX14_misfit_66 : decode cX14_misfit 66 = .ok (.goto 4, 3) := dk_167 0 4 (dk_at dksX14_misfit_2 19 rfl rfl)
theorem dX14_misfit_69 : decode cX14_misfit 69 = .ok (.iconst 0, 1) := dk_3 (dk_at dksX14_misfit_2 22 rfl rfl)
theorem dX14_misfit_70 : decode cX14_misfit 70 = .ok (.istore_n 3, 1) := dk_62 (dk_at dksX14_misfit_2 23 rfl rfl)
theorem dX14_misfit_71 : decode cX14_misfit 71 = .ok (.iinc 4 1, 3) := dk_132 4 1 (dk_at dksX14_misfit_3 0 rfl rfl)
theorem dX14_misfit_74 : decode cX14_misfit 74 = .ok (.goto (-31), 3) := dk_167 255 225 (dk_at dksX14_misfit_3 3 rfl rfl)
theorem dX14_misfit_77 : decode cX14_misfit 77 = .ok (.iload_n 3, 1) := dk_29 (dk_at dksX14_misfit_3 6 rfl rfl)
theorem dX14_misfit_78 : decode cX14_misfit 78 = .ok (.ifCond .ne 35, 3) := dk_154 0 35 (dk_at dksX14_misfit_3 7 rfl rfl)
theorem dX14_misfit_81 : decode cX14_misfit 81 = .ok (.iload_n 1, 1) := dk_27 (dk_at dksX14_misfit_3 10 rfl rfl)
theorem dX14_misfit_82 : decode cX14_misfit 82 = .ok (.ifCond .eq 35, 3) := dk_153 0 35 (dk_at dksX14_misfit_3 11 rfl rfl)
theorem dX14_misfit_85 : decode cX14_misfit 85 = .ok (.iload_n 2, 1) := dk_28 (dk_at dksX14_misfit_3 14 rfl rfl)
theorem dX14_misfit_86 : decode cX14_misfit 86 = .ok (.bipush 12, 2) := dk_16 12 (dk_at dksX14_misfit_3 15 rfl rfl)
theorem dX14_misfit_88 : decode cX14_misfit 88 = .ok (.if_icmp .ne 29, 3) := dk_160 0 29 (dk_at dksX14_misfit_3 17 rfl rfl)
theorem dX14_misfit_91 : decode cX14_misfit 91 = .ok (.aload_n 0, 1) := dk_42 (dk_at dksX14_misfit_3 20 rfl rfl)
theorem dX14_misfit_92 : decode cX14_misfit 92 = .ok (.getfield 442, 3) := dk_180 1 186 (dk_at dksX14_misfit_3 21 rfl rfl)
theorem dX14_misfit_95 : decode cX14_misfit 95 = .ok (.ifCond .le 22, 3) := dk_158 0 22 (dk_at dksX14_misfit_4 0 rfl rfl)
theorem dX14_misfit_98 : decode cX14_misfit 98 = .ok (.aload_n 0, 1) := dk_42 (dk_at dksX14_misfit_4 3 rfl rfl)
theorem dX14_misfit_99 : decode cX14_misfit 99 = .ok (.getfield 33, 3) := dk_180 0 33 (dk_at dksX14_misfit_4 4 rfl rfl)
theorem dX14_misfit_102 : decode cX14_misfit 102 = .ok (.aload_n 0, 1) := dk_42 (dk_at dksX14_misfit_4 7 rfl rfl)
theorem dX14_misfit_103 : decode cX14_misfit 103 = .ok (.getfield 442, 3) := dk_180 1 186 (dk_at dksX14_misfit_4 8 rfl rfl)
theorem dX14_misfit_106 : decode cX14_misfit 106 = .ok (.iconst 1, 1) := dk_4 (dk_at dksX14_misfit_4 11 rfl rfl)
theorem dX14_misfit_107 : decode cX14_misfit 107 = .ok (.isub, 1) := dk_100 (dk_at dksX14_misfit_4 12 rfl rfl)
theorem dX14_misfit_108 : decode cX14_misfit 108 = .ok (.iaload, 1) := dk_46 (dk_at dksX14_misfit_4 13 rfl rfl)
theorem dX14_misfit_109 : decode cX14_misfit 109 = .ok (.iconst 1, 1) := dk_4 (dk_at dksX14_misfit_4 14 rfl rfl)
theorem dX14_misfit_110 : decode cX14_misfit 110 = .ok (.if_icmp .ne 7, 3) := dk_160 0 7 (dk_at dksX14_misfit_4 15 rfl rfl)
theorem dX14_misfit_113 : decode cX14_misfit 113 = .ok (.iconst 1, 1) := dk_4 (dk_at dksX14_misfit_4 18 rfl rfl)
theorem dX14_misfit_114 : decode cX14_misfit 114 = .ok (.goto 4, 3) := dk_167 0 4 (dk_at dksX14_misfit_4 19 rfl rfl)
theorem dX14_misfit_117 : decode cX14_misfit 117 = .ok (.iconst 0, 1) := dk_3 (dk_at dksX14_misfit_4 22 rfl rfl)
theorem dX14_misfit_118 : decode cX14_misfit 118 = .ok (.istore_n 3, 1) := dk_62 (dk_at dksX14_misfit_4 23 rfl rfl)
theorem dX14_misfit_119 : decode cX14_misfit 119 = .ok (.aload_n 0, 1) := dk_42 (dk_at dksX14_misfit_5 0 rfl rfl)
theorem dX14_misfit_120 : decode cX14_misfit 120 = .ok (.iload_n 3, 1) := dk_29 (dk_at dksX14_misfit_5 1 rfl rfl)
theorem dX14_misfit_121 : decode cX14_misfit 121 = .ok (.ifCond .eq 7, 3) := dk_153 0 7 (dk_at dksX14_misfit_5 2 rfl rfl)
theorem dX14_misfit_124 : decode cX14_misfit 124 = .ok (.iconst 3, 1) := dk_6 (dk_at dksX14_misfit_5 5 rfl rfl)
theorem dX14_misfit_125 : decode cX14_misfit 125 = .ok (.goto 4, 3) := dk_167 0 4 (dk_at dksX14_misfit_5 6 rfl rfl)
theorem dX14_misfit_128 : decode cX14_misfit 128 = .ok (.iconst 2, 1) := dk_5 (dk_at dksX14_misfit_5 9 rfl rfl)
theorem dX14_misfit_129 : decode cX14_misfit 129 = .ok (.aload_n 0, 1) := dk_42 (dk_at dksX14_misfit_5 10 rfl rfl)
theorem dX14_misfit_130 : decode cX14_misfit 130 = .ok (.getfield 36, 3) := dk_180 0 36 (dk_at dksX14_misfit_5 11 rfl rfl)
theorem dX14_misfit_133 : decode cX14_misfit 133 = .ok (.aload_n 0, 1) := dk_42 (dk_at dksX14_misfit_5 14 rfl rfl)
theorem dX14_misfit_134 : decode cX14_misfit 134 = .ok (.getfield 442, 3) := dk_180 1 186 (dk_at dksX14_misfit_5 15 rfl rfl)
theorem dX14_misfit_137 : decode cX14_misfit 137 = .ok (.iaload, 1) := dk_46 (dk_at dksX14_misfit_5 18 rfl rfl)
theorem dX14_misfit_138 : decode cX14_misfit 138 = .ok (.invokevirtual 414, 3) := dk_182 1 158 (dk_at dksX14_misfit_5 19 rfl rfl)
theorem dX14_misfit_141 : decode cX14_misfit 141 = .ok (.return_, 1) := dk_177 (dk_at dksX14_misfit_5 22 rfl rfl)
abbrev cX14_eat : ByteArray := prog_15_method_33_code
def yX14_eat : MethodName := ⟨RX14, "eat", "(I)Z"⟩
def dkwX14_eat_1 : List UInt8 := [181, 1, 186, 4, 172]
abbrev dktX14_eat_1 : List UInt8 := dkwX14_eat_1 ++ []
def dkwX14_eat_0 : List UInt8 := [42, 180, 1, 97, 157, 0, 11, 42, 27, 182, 1, 189, 154, 0, 5, 3, 172, 42, 89, 180, 1, 186, 4, 96]
abbrev dktX14_eat_0 : List UInt8 := dkwX14_eat_0 ++ dktX14_eat_1
theorem dksX14_eat_0 : cX14_eat.data.toList.drop 0 = dktX14_eat_0 := by decide +kernel
theorem dksX14_eat_1 : cX14_eat.data.toList.drop 24 = dktX14_eat_1 := dk_seg dksX14_eat_0 24 rfl rfl
theorem dX14_eat_0 : decode cX14_eat 0 = .ok (.aload_n 0, 1) := dk_42 (dk_at dksX14_eat_0 0 rfl rfl)
theorem dX14_eat_1 : decode cX14_eat 1 = .ok (.getfield 353, 3) := dk_180 1 97 (dk_at dksX14_eat_0 1 rfl rfl)
theorem dX14_eat_4 : decode cX14_eat 4 = .ok (.ifCond .gt 11, 3) := dk_157 0 11 (dk_at dksX14_eat_0 4 rfl rfl)
theorem dX14_eat_7 : decode cX14_eat 7 = .ok (.aload_n 0, 1) := dk_42 (dk_at dksX14_eat_0 7 rfl rfl)
theorem dX14_eat_8 : decode cX14_eat 8 = .ok (.iload_n 1, 1) := dk_27 (dk_at dksX14_eat_0 8 rfl rfl)
theorem dX14_eat_9 : decode cX14_eat 9 = .ok (.invokevirtual 445, 3) := dk_182 1 189 (dk_at dksX14_eat_0 9 rfl rfl)
theorem dX14_eat_12 : decode cX14_eat 12 = .ok (.ifCond .ne 5, 3) := dk_154 0 5 (dk_at dksX14_eat_0 12 rfl rfl)
theorem dX14_eat_15 : decode cX14_eat 15 = .ok (.iconst 0, 1) := dk_3 (dk_at dksX14_eat_0 15 rfl rfl)
theorem dX14_eat_16 : decode cX14_eat 16 = .ok (.ireturn, 1) := dk_172 (dk_at dksX14_eat_0 16 rfl rfl)
theorem dX14_eat_17 : decode cX14_eat 17 = .ok (.aload_n 0, 1) := dk_42 (dk_at dksX14_eat_0 17 rfl rfl)
theorem dX14_eat_18 : decode cX14_eat 18 = .ok (.dup, 1) := dk_89 (dk_at dksX14_eat_0 18 rfl rfl)
theorem dX14_eat_19 : decode cX14_eat 19 = .ok (.getfield 442, 3) := dk_180 1 186 (dk_at dksX14_eat_0 19 rfl rfl)
theorem dX14_eat_22 : decode cX14_eat 22 = .ok (.iconst 1, 1) := dk_4 (dk_at dksX14_eat_0 22 rfl rfl)
theorem dX14_eat_23 : decode cX14_eat 23 = .ok (.iadd, 1) := dk_96 (dk_at dksX14_eat_0 23 rfl rfl)
theorem dX14_eat_24 : decode cX14_eat 24 = .ok (.putfield 442, 3) := dk_181 1 186 (dk_at dksX14_eat_1 0 rfl rfl)
theorem dX14_eat_27 : decode cX14_eat 27 = .ok (.iconst 1, 1) := dk_4 (dk_at dksX14_eat_1 3 rfl rfl)
theorem dX14_eat_28 : decode cX14_eat 28 = .ok (.ireturn, 1) := dk_172 (dk_at dksX14_eat_1 4 rfl rfl)
abbrev cX14_assignment : ByteArray := prog_15_method_43_code
def yX14_assignment : MethodName := ⟨RX14, "assignment", "()V"⟩
def dkwX14_assignment_5 : List UInt8 := [181, 1, 230, 177]
abbrev dktX14_assignment_5 : List UInt8 := dkwX14_assignment_5 ++ []
def dkwX14_assignment_4 : List UInt8 := [180, 0, 181, 27, 42, 42, 180, 0, 178, 27, 46, 182, 1, 240, 79, 42, 89, 180, 1, 230, 4, 96]
abbrev dktX14_assignment_4 : List UInt8 := dkwX14_assignment_4 ++ dktX14_assignment_5
def dkwX14_assignment_3 : List UInt8 := [182, 1, 217, 87, 42, 180, 0, 178, 27, 42, 182, 1, 233, 79, 42, 16, 7, 182, 1, 217, 87, 42]
abbrev dktX14_assignment_3 : List UInt8 := dkwX14_assignment_3 ++ dktX14_assignment_4
def dkwX14_assignment_2 : List UInt8 := [180, 0, 184, 42, 180, 1, 237, 27, 79, 42, 89, 180, 1, 237, 4, 96, 181, 1, 237, 167, 0, 42, 42, 5]
abbrev dktX14_assignment_2 : List UInt8 := dkwX14_assignment_2 ++ dktX14_assignment_3
def dkwX14_assignment_1 : List UInt8 := [182, 1, 220, 153, 0, 43, 42, 16, 7, 182, 1, 217, 87, 42, 180, 0, 178, 27, 42, 182, 1, 233, 79, 42]
abbrev dktX14_assignment_1 : List UInt8 := dkwX14_assignment_1 ++ dktX14_assignment_2
def dkwX14_assignment_0 : List UInt8 := [42, 180, 1, 230, 60, 42, 180, 0, 175, 27, 42, 180, 1, 186, 79, 42, 180, 0, 181, 27, 2, 79, 42, 4]
abbrev dktX14_assignment_0 : List UInt8 := dkwX14_assignment_0 ++ dktX14_assignment_1
theorem dksX14_assignment_0 : cX14_assignment.data.toList.drop 0 = dktX14_assignment_0 := by decide +kernel
theorem dksX14_assignment_1 : cX14_assignment.data.toList.drop 24 = dktX14_assignment_1 := dk_seg dksX14_assignment_0 24 rfl rfl
theorem dksX14_assignment_2 : cX14_assignment.data.toList.drop 48 = dktX14_assignment_2 := dk_seg dksX14_assignment_1 24 rfl rfl
theorem dksX14_assignment_3 : cX14_assignment.data.toList.drop 72 = dktX14_assignment_3 := dk_seg dksX14_assignment_2 24 rfl rfl
theorem dksX14_assignment_4 : cX14_assignment.data.toList.drop 94 = dktX14_assignment_4 := dk_seg dksX14_assignment_3 22 rfl rfl
theorem dksX14_assignment_5 : cX14_assignment.data.toList.drop 116 = dktX14_assignment_5 := dk_seg dksX14_assignment_4 22 rfl rfl
theorem dX14_assignment_0 : decode cX14_assignment 0 = .ok (.aload_n 0, 1) := dk_42 (dk_at dksX14_assignment_0 0 rfl rfl)
theorem dX14_assignment_1 : decode cX14_assignment 1 = .ok (.getfield 486, 3) := dk_180 1 230 (dk_at dksX14_assignment_0 1 rfl rfl)
theorem dX14_assignment_4 : decode cX14_assignment 4 = .ok (.istore_n 1, 1) := dk_60 (dk_at dksX14_assignment_0 4 rfl rfl)
theorem dX14_assignment_5 : decode cX14_assignment 5 = .ok (.aload_n 0, 1) := dk_42 (dk_at dksX14_assignment_0 5 rfl rfl)
theorem dX14_assignment_6 : decode cX14_assignment 6 = .ok (.getfield 175, 3) := dk_180 0 175 (dk_at dksX14_assignment_0 6 rfl rfl)
theorem dX14_assignment_9 : decode cX14_assignment 9 = .ok (.iload_n 1, 1) := dk_27 (dk_at dksX14_assignment_0 9 rfl rfl)
theorem dX14_assignment_10 : decode cX14_assignment 10 = .ok (.aload_n 0, 1) := dk_42 (dk_at dksX14_assignment_0 10 rfl rfl)
theorem dX14_assignment_11 : decode cX14_assignment 11 = .ok (.getfield 442, 3) := dk_180 1 186 (dk_at dksX14_assignment_0 11 rfl rfl)
theorem dX14_assignment_14 : decode cX14_assignment 14 = .ok (.iastore, 1) := dk_79 (dk_at dksX14_assignment_0 14 rfl rfl)
theorem dX14_assignment_15 : decode cX14_assignment 15 = .ok (.aload_n 0, 1) := dk_42 (dk_at dksX14_assignment_0 15 rfl rfl)
theorem dX14_assignment_16 : decode cX14_assignment 16 = .ok (.getfield 181, 3) := dk_180 0 181 (dk_at dksX14_assignment_0 16 rfl rfl)
theorem dX14_assignment_19 : decode cX14_assignment 19 = .ok (.iload_n 1, 1) := dk_27 (dk_at dksX14_assignment_0 19 rfl rfl)
theorem dX14_assignment_20 : decode cX14_assignment 20 = .ok (.iconst (-1), 1) := dk_2 (dk_at dksX14_assignment_0 20 rfl rfl)
theorem dX14_assignment_21 : decode cX14_assignment 21 = .ok (.iastore, 1) := dk_79 (dk_at dksX14_assignment_0 21 rfl rfl)
theorem dX14_assignment_22 : decode cX14_assignment 22 = .ok (.aload_n 0, 1) := dk_42 (dk_at dksX14_assignment_0 22 rfl rfl)
theorem dX14_assignment_23 : decode cX14_assignment 23 = .ok (.iconst 1, 1) := dk_4 (dk_at dksX14_assignment_0 23 rfl rfl)
theorem dX14_assignment_24 : decode cX14_assignment 24 = .ok (.invokevirtual 476, 3) := dk_182 1 220 (dk_at dksX14_assignment_1 0 rfl rfl)
theorem dX14_assignment_27 : decode cX14_assignment 27 = .ok (.ifCond .eq 43, 3) := dk_153 0 43 (dk_at dksX14_assignment_1 3 rfl rfl)
theorem dX14_assignment_30 : decode cX14_assignment 30 = .ok (.aload_n 0, 1) := dk_42 (dk_at dksX14_assignment_1 6 rfl rfl)
theorem dX14_assignment_31 : decode cX14_assignment 31 = .ok (.bipush 7, 2) := dk_16 7 (dk_at dksX14_assignment_1 7 rfl rfl)
theorem dX14_assignment_33 : decode cX14_assignment 33 = .ok (.invokevirtual 473, 3) := dk_182 1 217 (dk_at dksX14_assignment_1 9 rfl rfl)
theorem dX14_assignment_36 : decode cX14_assignment 36 = .ok (.pop, 1) := dk_87 (dk_at dksX14_assignment_1 12 rfl rfl)
theorem dX14_assignment_37 : decode cX14_assignment 37 = .ok (.aload_n 0, 1) := dk_42 (dk_at dksX14_assignment_1 13 rfl rfl)
theorem dX14_assignment_38 : decode cX14_assignment 38 = .ok (.getfield 178, 3) := dk_180 0 178 (dk_at dksX14_assignment_1 14 rfl rfl)
theorem dX14_assignment_41 : decode cX14_assignment 41 = .ok (.iload_n 1, 1) := dk_27 (dk_at dksX14_assignment_1 17 rfl rfl)
theorem dX14_assignment_42 : decode cX14_assignment 42 = .ok (.aload_n 0, 1) := dk_42 (dk_at dksX14_assignment_1 18 rfl rfl)
theorem dX14_assignment_43 : decode cX14_assignment 43 = .ok (.invokevirtual 489, 3) := dk_182 1 233 (dk_at dksX14_assignment_1 19 rfl rfl)
theorem dX14_assignment_46 : decode cX14_assignment 46 = .ok (.iastore, 1) := dk_79 (dk_at dksX14_assignment_1 22 rfl rfl)
theorem dX14_assignment_47 : decode cX14_assignment 47 = .ok (.aload_n 0, 1) := dk_42 (dk_at dksX14_assignment_1 23 rfl rfl)
theorem dX14_assignment_48 : decode cX14_assignment 48 = .ok (.getfield 184, 3) := dk_180 0 184 (dk_at dksX14_assignment_2 0 rfl rfl)
theorem dX14_assignment_51 : decode cX14_assignment 51 = .ok (.aload_n 0, 1) := dk_42 (dk_at dksX14_assignment_2 3 rfl rfl)
theorem dX14_assignment_52 : decode cX14_assignment 52 = .ok (.getfield 493, 3) := dk_180 1 237 (dk_at dksX14_assignment_2 4 rfl rfl)
theorem dX14_assignment_55 : decode cX14_assignment 55 = .ok (.iload_n 1, 1) := dk_27 (dk_at dksX14_assignment_2 7 rfl rfl)
theorem dX14_assignment_56 : decode cX14_assignment 56 = .ok (.iastore, 1) := dk_79 (dk_at dksX14_assignment_2 8 rfl rfl)
theorem dX14_assignment_57 : decode cX14_assignment 57 = .ok (.aload_n 0, 1) := dk_42 (dk_at dksX14_assignment_2 9 rfl rfl)
theorem dX14_assignment_58 : decode cX14_assignment 58 = .ok (.dup, 1) := dk_89 (dk_at dksX14_assignment_2 10 rfl rfl)
theorem dX14_assignment_59 : decode cX14_assignment 59 = .ok (.getfield 493, 3) := dk_180 1 237 (dk_at dksX14_assignment_2 11 rfl rfl)
theorem dX14_assignment_62 : decode cX14_assignment 62 = .ok (.iconst 1, 1) := dk_4 (dk_at dksX14_assignment_2 14 rfl rfl)
theorem dX14_assignment_63 : decode cX14_assignment 63 = .ok (.iadd, 1) := dk_96 (dk_at dksX14_assignment_2 15 rfl rfl)
theorem dX14_assignment_64 : decode cX14_assignment 64 = .ok (.putfield 493, 3) := dk_181 1 237 (dk_at dksX14_assignment_2 16 rfl rfl)
theorem dX14_assignment_67 : decode cX14_assignment 67 = .ok (.goto 42, 3) := dk_167 0 42 (dk_at dksX14_assignment_2 19 rfl rfl)
theorem dX14_assignment_70 : decode cX14_assignment 70 = .ok (.aload_n 0, 1) := dk_42 (dk_at dksX14_assignment_2 22 rfl rfl)
theorem dX14_assignment_71 : decode cX14_assignment 71 = .ok (.iconst 2, 1) := dk_5 (dk_at dksX14_assignment_2 23 rfl rfl)
theorem dX14_assignment_72 : decode cX14_assignment 72 = .ok (.invokevirtual 473, 3) := dk_182 1 217 (dk_at dksX14_assignment_3 0 rfl rfl)
theorem dX14_assignment_75 : decode cX14_assignment 75 = .ok (.pop, 1) := dk_87 (dk_at dksX14_assignment_3 3 rfl rfl)
theorem dX14_assignment_76 : decode cX14_assignment 76 = .ok (.aload_n 0, 1) := dk_42 (dk_at dksX14_assignment_3 4 rfl rfl)
theorem dX14_assignment_77 : decode cX14_assignment 77 = .ok (.getfield 178, 3) := dk_180 0 178 (dk_at dksX14_assignment_3 5 rfl rfl)
theorem dX14_assignment_80 : decode cX14_assignment 80 = .ok (.iload_n 1, 1) := dk_27 (dk_at dksX14_assignment_3 8 rfl rfl)
theorem dX14_assignment_81 : decode cX14_assignment 81 = .ok (.aload_n 0, 1) := dk_42 (dk_at dksX14_assignment_3 9 rfl rfl)
theorem dX14_assignment_82 : decode cX14_assignment 82 = .ok (.invokevirtual 489, 3) := dk_182 1 233 (dk_at dksX14_assignment_3 10 rfl rfl)
theorem dX14_assignment_85 : decode cX14_assignment 85 = .ok (.iastore, 1) := dk_79 (dk_at dksX14_assignment_3 13 rfl rfl)
theorem dX14_assignment_86 : decode cX14_assignment 86 = .ok (.aload_n 0, 1) := dk_42 (dk_at dksX14_assignment_3 14 rfl rfl)
theorem dX14_assignment_87 : decode cX14_assignment 87 = .ok (.bipush 7, 2) := dk_16 7 (dk_at dksX14_assignment_3 15 rfl rfl)
theorem dX14_assignment_89 : decode cX14_assignment 89 = .ok (.invokevirtual 473, 3) := dk_182 1 217 (dk_at dksX14_assignment_3 17 rfl rfl)
theorem dX14_assignment_92 : decode cX14_assignment 92 = .ok (.pop, 1) := dk_87 (dk_at dksX14_assignment_3 20 rfl rfl)
theorem dX14_assignment_93 : decode cX14_assignment 93 = .ok (.aload_n 0, 1) := dk_42 (dk_at dksX14_assignment_3 21 rfl rfl)
theorem dX14_assignment_94 : decode cX14_assignment 94 = .ok (.getfield 181, 3) := dk_180 0 181 (dk_at dksX14_assignment_4 0 rfl rfl)
theorem dX14_assignment_97 : decode cX14_assignment 97 = .ok (.iload_n 1, 1) := dk_27 (dk_at dksX14_assignment_4 3 rfl rfl)
theorem dX14_assignment_98 : decode cX14_assignment 98 = .ok (.aload_n 0, 1) := dk_42 (dk_at dksX14_assignment_4 4 rfl rfl)
theorem dX14_assignment_99 : decode cX14_assignment 99 = .ok (.aload_n 0, 1) := dk_42 (dk_at dksX14_assignment_4 5 rfl rfl)
theorem dX14_assignment_100 : decode cX14_assignment 100 = .ok (.getfield 178, 3) := dk_180 0 178 (dk_at dksX14_assignment_4 6 rfl rfl)
theorem dX14_assignment_103 : decode cX14_assignment 103 = .ok (.iload_n 1, 1) := dk_27 (dk_at dksX14_assignment_4 9 rfl rfl)
theorem dX14_assignment_104 : decode cX14_assignment 104 = .ok (.iaload, 1) := dk_46 (dk_at dksX14_assignment_4 10 rfl rfl)
theorem dX14_assignment_105 : decode cX14_assignment 105 = .ok (.invokevirtual 496, 3) := dk_182 1 240 (dk_at dksX14_assignment_4 11 rfl rfl)
theorem dX14_assignment_108 : decode cX14_assignment 108 = .ok (.iastore, 1) := dk_79 (dk_at dksX14_assignment_4 14 rfl rfl)
theorem dX14_assignment_109 : decode cX14_assignment 109 = .ok (.aload_n 0, 1) := dk_42 (dk_at dksX14_assignment_4 15 rfl rfl)
theorem dX14_assignment_110 : decode cX14_assignment 110 = .ok (.dup, 1) := dk_89 (dk_at dksX14_assignment_4 16 rfl rfl)
theorem dX14_assignment_111 : decode cX14_assignment 111 = .ok (.getfield 486, 3) := dk_180 1 230 (dk_at dksX14_assignment_4 17 rfl rfl)
theorem dX14_assignment_114 : decode cX14_assignment 114 = .ok (.iconst 1, 1) := dk_4 (dk_at dksX14_assignment_4 20 rfl rfl)
theorem dX14_assignment_115 : decode cX14_assignment 115 = .ok (.iadd, 1) := dk_96 (dk_at dksX14_assignment_4 21 rfl rfl)
theorem dX14_assignment_116 : decode cX14_assignment 116 = .ok (.putfield 486, 3) := dk_181 1 230 (dk_at dksX14_assignment_5 0 rfl rfl)
theorem dX14_assignment_119 : decode cX14_assignment 119 = .ok (.return_, 1) := dk_177 (dk_at dksX14_assignment_5 3 rfl rfl)
abbrev cX14_parseType : ByteArray := prog_15_method_44_code
def yX14_parseType : MethodName := ⟨RX14, "parseType", "()I"⟩
def dkwX14_parseType_3 : List UInt8 := [180, 1, 249, 156, 0, 7, 3, 167, 0, 7, 42, 180, 1, 249, 172]
abbrev dktX14_parseType_3 : List UInt8 := dkwX14_parseType_3 ++ []
def dkwX14_parseType_2 : List UInt8 := [182, 1, 255, 42, 180, 1, 243, 154, 0, 8, 4, 60, 167, 255, 214, 42, 182, 2, 2, 167, 255, 207, 42]
abbrev dktX14_parseType_2 : List UInt8 := dkwX14_parseType_2 ++ dktX14_parseType_3
def dkwX14_parseType_1 : List UInt8 := [27, 154, 0, 44, 42, 180, 1, 246, 153, 0, 10, 42, 182, 1, 252, 167, 255, 234, 42, 42, 180, 1, 249]
abbrev dktX14_parseType_1 : List UInt8 := dkwX14_parseType_1 ++ dktX14_parseType_2
def dkwX14_parseType_0 : List UInt8 := [42, 3, 181, 1, 243, 42, 4, 181, 1, 246, 42, 2, 181, 1, 249, 3, 60, 42, 180, 1, 97, 154, 0, 48]
abbrev dktX14_parseType_0 : List UInt8 := dkwX14_parseType_0 ++ dktX14_parseType_1
theorem dksX14_parseType_0 : cX14_parseType.data.toList.drop 0 = dktX14_parseType_0 := by decide +kernel
theorem dksX14_parseType_1 : cX14_parseType.data.toList.drop 24 = dktX14_parseType_1 := dk_seg dksX14_parseType_0 24 rfl rfl
theorem dksX14_parseType_2 : cX14_parseType.data.toList.drop 47 = dktX14_parseType_2 := dk_seg dksX14_parseType_1 23 rfl rfl
theorem dksX14_parseType_3 : cX14_parseType.data.toList.drop 70 = dktX14_parseType_3 := dk_seg dksX14_parseType_2 23 rfl rfl
theorem dX14_parseType_0 : decode cX14_parseType 0 = .ok (.aload_n 0, 1) := dk_42 (dk_at dksX14_parseType_0 0 rfl rfl)
theorem dX14_parseType_1 : decode cX14_parseType 1 = .ok (.iconst 0, 1) := dk_3 (dk_at dksX14_parseType_0 1 rfl rfl)
theorem dX14_parseType_2 : decode cX14_parseType 2 = .ok (.putfield 499, 3) := dk_181 1 243 (dk_at dksX14_parseType_0 2 rfl rfl)
theorem dX14_parseType_5 : decode cX14_parseType 5 = .ok (.aload_n 0, 1) := dk_42 (dk_at dksX14_parseType_0 5 rfl rfl)
theorem dX14_parseType_6 : decode cX14_parseType 6 = .ok (.iconst 1, 1) := dk_4 (dk_at dksX14_parseType_0 6 rfl rfl)
theorem dX14_parseType_7 : decode cX14_parseType 7 = .ok (.putfield 502, 3) := dk_181 1 246 (dk_at dksX14_parseType_0 7 rfl rfl)
theorem dX14_parseType_10 : decode cX14_parseType 10 = .ok (.aload_n 0, 1) := dk_42 (dk_at dksX14_parseType_0 10 rfl rfl)
theorem dX14_parseType_11 : decode cX14_parseType 11 = .ok (.iconst (-1), 1) := dk_2 (dk_at dksX14_parseType_0 11 rfl rfl)
theorem dX14_parseType_12 : decode cX14_parseType 12 = .ok (.putfield 505, 3) := dk_181 1 249 (dk_at dksX14_parseType_0 12 rfl rfl)
theorem dX14_parseType_15 : decode cX14_parseType 15 = .ok (.iconst 0, 1) := dk_3 (dk_at dksX14_parseType_0 15 rfl rfl)
theorem dX14_parseType_16 : decode cX14_parseType 16 = .ok (.istore_n 1, 1) := dk_60 (dk_at dksX14_parseType_0 16 rfl rfl)
theorem dX14_parseType_17 : decode cX14_parseType 17 = .ok (.aload_n 0, 1) := dk_42 (dk_at dksX14_parseType_0 17 rfl rfl)
theorem dX14_parseType_18 : decode cX14_parseType 18 = .ok (.getfield 353, 3) := dk_180 1 97 (dk_at dksX14_parseType_0 18 rfl rfl)
theorem dX14_parseType_21 : decode cX14_parseType 21 = .ok (.ifCond .ne 48, 3) := dk_154 0 48 (dk_at dksX14_parseType_0 21 rfl rfl)
theorem dX14_parseType_24 : decode cX14_parseType 24 = .ok (.iload_n 1, 1) := dk_27 (dk_at dksX14_parseType_1 0 rfl rfl)
theorem dX14_parseType_25 : decode cX14_parseType 25 = .ok (.ifCond .ne 44, 3) := dk_154 0 44 (dk_at dksX14_parseType_1 1 rfl rfl)
theorem dX14_parseType_28 : decode cX14_parseType 28 = .ok (.aload_n 0, 1) := dk_42 (dk_at dksX14_parseType_1 4 rfl rfl)
theorem dX14_parseType_29 : decode cX14_parseType 29 = .ok (.getfield 502, 3) := dk_180 1 246 (dk_at dksX14_parseType_1 5 rfl rfl)
theorem dX14_parseType_32 : decode cX14_parseType 32 = .ok (.ifCond .eq 10, 3) := dk_153 0 10 (dk_at dksX14_parseType_1 8 rfl rfl)
theorem dX14_parseType_35 : decode cX14_parseType 35 = .ok (.aload_n 0, 1) := dk_42 (dk_at dksX14_parseType_1 11 rfl rfl)
theorem dX14_parseType_36 : decode cX14_parseType 36 = .ok (.invokevirtual 508, 3) := dk_182 1 252 (dk_at dksX14_parseType_1 12 rfl rfl)
theorem dX14_parseType_39 : decode cX14_parseType 39 = .ok (.goto (-22), 3) := dk_167 255 234 (dk_at dksX14_parseType_1 15 rfl rfl)
theorem dX14_parseType_42 : decode cX14_parseType 42 = .ok (.aload_n 0, 1) := dk_42 (dk_at dksX14_parseType_1 18 rfl rfl)
theorem dX14_parseType_43 : decode cX14_parseType 43 = .ok (.aload_n 0, 1) := dk_42 (dk_at dksX14_parseType_1 19 rfl rfl)
theorem dX14_parseType_44 : decode cX14_parseType 44 = .ok (.getfield 505, 3) := dk_180 1 249 (dk_at dksX14_parseType_1 20 rfl rfl)
theorem dX14_parseType_47 : decode cX14_parseType 47 = .ok (.invokevirtual 511, 3) := dk_182 1 255 (dk_at dksX14_parseType_2 0 rfl rfl)
theorem dX14_parseType_50 : decode cX14_parseType 50 = .ok (.aload_n 0, 1) := dk_42 (dk_at dksX14_parseType_2 3 rfl rfl)
theorem dX14_parseType_51 : decode cX14_parseType 51 = .ok (.getfield 499, 3) := dk_180 1 243 (dk_at dksX14_parseType_2 4 rfl rfl)
theorem dX14_parseType_54 : decode cX14_parseType 54 = .ok (.ifCond .ne 8, 3) := dk_154 0 8 (dk_at dksX14_parseType_2 7 rfl rfl)
theorem dX14_parseType_57 : decode cX14_parseType 57 = .ok (.iconst 1, 1) := dk_4 (dk_at dksX14_parseType_2 10 rfl rfl)
theorem dX14_parseType_58 : decode cX14_parseType 58 = .ok (.istore_n 1, 1) := dk_60 (dk_at dksX14_parseType_2 11 rfl rfl)
theorem dX14_parseType_59 : decode cX14_parseType 59 = .ok (.goto (-42), 3) := dk_167 255 214 (dk_at dksX14_parseType_2 12 rfl rfl)
theorem dX14_parseType_62 : decode cX14_parseType 62 = .ok (.aload_n 0, 1) := dk_42 (dk_at dksX14_parseType_2 15 rfl rfl)
theorem dX14_parseType_63 : decode cX14_parseType 63 = .ok (.invokevirtual 514, 3) := dk_182 2 2 (dk_at dksX14_parseType_2 16 rfl rfl)
theorem dX14_parseType_66 : decode cX14_parseType 66 = .ok (.goto (-49), 3) := dk_167 255 207 (dk_at dksX14_parseType_2 19 rfl rfl)
theorem dX14_parseType_69 : decode cX14_parseType 69 = .ok (.aload_n 0, 1) := dk_42 (dk_at dksX14_parseType_2 22 rfl rfl)
theorem dX14_parseType_70 : decode cX14_parseType 70 = .ok (.getfield 505, 3) := dk_180 1 249 (dk_at dksX14_parseType_3 0 rfl rfl)
theorem dX14_parseType_73 : decode cX14_parseType 73 = .ok (.ifCond .ge 7, 3) := dk_156 0 7 (dk_at dksX14_parseType_3 3 rfl rfl)
theorem dX14_parseType_76 : decode cX14_parseType 76 = .ok (.iconst 0, 1) := dk_3 (dk_at dksX14_parseType_3 6 rfl rfl)
theorem dX14_parseType_77 : decode cX14_parseType 77 = .ok (.goto 7, 3) := dk_167 0 7 (dk_at dksX14_parseType_3 7 rfl rfl)
theorem dX14_parseType_80 : decode cX14_parseType 80 = .ok (.aload_n 0, 1) := dk_42 (dk_at dksX14_parseType_3 10 rfl rfl)
theorem dX14_parseType_81 : decode cX14_parseType 81 = .ok (.getfield 505, 3) := dk_180 1 249 (dk_at dksX14_parseType_3 11 rfl rfl)
theorem dX14_parseType_84 : decode cX14_parseType 84 = .ok (.ireturn, 1) := dk_172 (dk_at dksX14_parseType_3 14 rfl rfl)
abbrev cX14_begin : ByteArray := prog_15_method_45_code
def yX14_begin : MethodName := ⟨RX14, "begin", "()V"⟩
def dkwX14_begin_7 : List UInt8 := [182, 2, 14, 177]
abbrev dktX14_begin_7 : List UInt8 := dkwX14_begin_7 ++ []
def dkwX14_begin_6 : List UInt8 := [182, 1, 189, 153, 0, 11, 42, 27, 182, 2, 11, 167, 255, 235, 42, 180, 1, 97, 154, 0, 8, 42, 27]
abbrev dktX14_begin_6 : List UInt8 := dkwX14_begin_6 ++ dktX14_begin_7
def dkwX14_begin_5 : List UInt8 := [42, 180, 0, 42, 27, 4, 79, 42, 3, 181, 1, 246, 42, 180, 1, 97, 154, 0, 20, 42, 16, 14]
abbrev dktX14_begin_5 : List UInt8 := dkwX14_begin_5 ++ dktX14_begin_6
def dkwX14_begin_4 : List UInt8 := [27, 3, 79, 42, 180, 0, 69, 27, 2, 79, 42, 180, 0, 72, 27, 2, 79, 42, 180, 0, 54, 27, 2, 79]
abbrev dktX14_begin_4 : List UInt8 := dkwX14_begin_4 ++ dktX14_begin_5
def dkwX14_begin_3 : List UInt8 := [180, 0, 57, 27, 3, 79, 42, 180, 0, 60, 27, 3, 79, 42, 180, 0, 63, 27, 2, 79, 42, 180, 0, 66]
abbrev dktX14_begin_3 : List UInt8 := dkwX14_begin_3 ++ dktX14_begin_4
def dkwX14_begin_2 : List UInt8 := [27, 42, 180, 1, 186, 79, 42, 180, 0, 48, 27, 42, 180, 2, 8, 79, 42, 180, 0, 51, 27, 3, 79, 42]
abbrev dktX14_begin_2 : List UInt8 := dkwX14_begin_2 ++ dktX14_begin_3
def dkwX14_begin_1 : List UInt8 := [42, 180, 2, 5, 60, 42, 89, 180, 2, 5, 4, 96, 181, 2, 5, 42, 27, 181, 1, 249, 42, 180, 0, 45]
abbrev dktX14_begin_1 : List UInt8 := dkwX14_begin_1 ++ dktX14_begin_2
def dkwX14_begin_0 : List UInt8 := [42, 180, 1, 243, 16, 100, 160, 0, 18, 42, 7, 42, 180, 0, 36, 42, 180, 1, 186, 46, 182, 1, 158, 177]
abbrev dktX14_begin_0 : List UInt8 := dkwX14_begin_0 ++ dktX14_begin_1
theorem dksX14_begin_0 : cX14_begin.data.toList.drop 0 = dktX14_begin_0 := by decide +kernel
theorem dksX14_begin_1 : cX14_begin.data.toList.drop 24 = dktX14_begin_1 := dk_seg dksX14_begin_0 24 rfl rfl
theorem dksX14_begin_2 : cX14_begin.data.toList.drop 48 = dktX14_begin_2 := dk_seg dksX14_begin_1 24 rfl rfl
theorem dksX14_begin_3 : cX14_begin.data.toList.drop 72 = dktX14_begin_3 := dk_seg dksX14_begin_2 24 rfl rfl
theorem dksX14_begin_4 : cX14_begin.data.toList.drop 96 = dktX14_begin_4 := dk_seg dksX14_begin_3 24 rfl rfl
theorem dksX14_begin_5 : cX14_begin.data.toList.drop 120 = dktX14_begin_5 := dk_seg dksX14_begin_4 24 rfl rfl
theorem dksX14_begin_6 : cX14_begin.data.toList.drop 142 = dktX14_begin_6 := dk_seg dksX14_begin_5 22 rfl rfl
theorem dksX14_begin_7 : cX14_begin.data.toList.drop 165 = dktX14_begin_7 := dk_seg dksX14_begin_6 23 rfl rfl
theorem dX14_begin_0 : decode cX14_begin 0 = .ok (.aload_n 0, 1) := dk_42 (dk_at dksX14_begin_0 0 rfl rfl)
theorem dX14_begin_1 : decode cX14_begin 1 = .ok (.getfield 499, 3) := dk_180 1 243 (dk_at dksX14_begin_0 1 rfl rfl)
theorem dX14_begin_4 : decode cX14_begin 4 = .ok (.bipush 100, 2) := dk_16 100 (dk_at dksX14_begin_0 4 rfl rfl)
theorem dX14_begin_6 : decode cX14_begin 6 = .ok (.if_icmp .ne 18, 3) := dk_160 0 18 (dk_at dksX14_begin_0 6 rfl rfl)
theorem dX14_begin_9 : decode cX14_begin 9 = .ok (.aload_n 0, 1) := dk_42 (dk_at dksX14_begin_0 9 rfl rfl)
theorem dX14_begin_10 : decode cX14_begin 10 = .ok (.iconst 4, 1) := dk_7 (dk_at dksX14_begin_0 10 rfl rfl)
theorem dX14_begin_11 : decode cX14_begin 11 = .ok (.aload_n 0, 1) := dk_42 (dk_at dksX14_begin_0 11 rfl rfl)
theorem dX14_begin_12 : decode cX14_begin 12 = .ok (.getfield 36, 3) := dk_180 0 36 (dk_at dksX14_begin_0 12 rfl rfl)
theorem dX14_begin_15 : decode cX14_begin 15 = .ok (.aload_n 0, 1) := dk_42 (dk_at dksX14_begin_0 15 rfl rfl)
theorem dX14_begin_16 : decode cX14_begin 16 = .ok (.getfield 442, 3) := dk_180 1 186 (dk_at dksX14_begin_0 16 rfl rfl)
theorem dX14_begin_19 : decode cX14_begin 19 = .ok (.iaload, 1) := dk_46 (dk_at dksX14_begin_0 19 rfl rfl)
theorem dX14_begin_20 : decode cX14_begin 20 = .ok (.invokevirtual 414, 3) := dk_182 1 158 (dk_at dksX14_begin_0 20 rfl rfl)
theorem dX14_begin_23 : decode cX14_begin 23 = .ok (.return_, 1) := dk_177 (dk_at dksX14_begin_0 23 rfl rfl)
theorem dX14_begin_24 : decode cX14_begin 24 = .ok (.aload_n 0, 1) := dk_42 (dk_at dksX14_begin_1 0 rfl rfl)
theorem dX14_begin_25 : decode cX14_begin 25 = .ok (.getfield 517, 3) := dk_180 2 5 (dk_at dksX14_begin_1 1 rfl rfl)
theorem dX14_begin_28 : decode cX14_begin 28 = .ok (.istore_n 1, 1) := dk_60 (dk_at dksX14_begin_1 4 rfl rfl)
theorem dX14_begin_29 : decode cX14_begin 29 = .ok (.aload_n 0, 1) := dk_42 (dk_at dksX14_begin_1 5 rfl rfl)
theorem dX14_begin_30 : decode cX14_begin 30 = .ok (.dup, 1) := dk_89 (dk_at dksX14_begin_1 6 rfl rfl)
theorem dX14_begin_31 : decode cX14_begin 31 = .ok (.getfield 517, 3) := dk_180 2 5 (dk_at dksX14_begin_1 7 rfl rfl)
theorem dX14_begin_34 : decode cX14_begin 34 = .ok (.iconst 1, 1) := dk_4 (dk_at dksX14_begin_1 10 rfl rfl)
theorem dX14_begin_35 : decode cX14_begin 35 = .ok (.iadd, 1) := dk_96 (dk_at dksX14_begin_1 11 rfl rfl)
theorem dX14_begin_36 : decode cX14_begin 36 = .ok (.putfield 517, 3) := dk_181 2 5 (dk_at dksX14_begin_1 12 rfl rfl)
theorem dX14_begin_39 : decode cX14_begin 39 = .ok (.aload_n 0, 1) := dk_42 (dk_at dksX14_begin_1 15 rfl rfl)
theorem dX14_begin_40 : decode cX14_begin 40 = .ok (.iload_n 1, 1) := dk_27 (dk_at dksX14_begin_1 16 rfl rfl)
theorem dX14_begin_41 : decode cX14_begin 41 = .ok (.putfield 505, 3) := dk_181 1 249 (dk_at dksX14_begin_1 17 rfl rfl)
theorem dX14_begin_44 : decode cX14_begin 44 = .ok (.aload_n 0, 1) := dk_42 (dk_at dksX14_begin_1 20 rfl rfl)
theorem dX14_begin_45 : decode cX14_begin 45 = .ok (.getfield 45, 3) := dk_180 0 45 (dk_at dksX14_begin_1 21 rfl rfl)
theorem dX14_begin_48 : decode cX14_begin 48 = .ok (.iload_n 1, 1) := dk_27 (dk_at dksX14_begin_2 0 rfl rfl)
theorem dX14_begin_49 : decode cX14_begin 49 = .ok (.aload_n 0, 1) := dk_42 (dk_at dksX14_begin_2 1 rfl rfl)
theorem dX14_begin_50 : decode cX14_begin 50 = .ok (.getfield 442, 3) := dk_180 1 186 (dk_at dksX14_begin_2 2 rfl rfl)
theorem dX14_begin_53 : decode cX14_begin 53 = .ok (.iastore, 1) := dk_79 (dk_at dksX14_begin_2 5 rfl rfl)
theorem dX14_begin_54 : decode cX14_begin 54 = .ok (.aload_n 0, 1) := dk_42 (dk_at dksX14_begin_2 6 rfl rfl)
theorem dX14_begin_55 : decode cX14_begin 55 = .ok (.getfield 48, 3) := dk_180 0 48 (dk_at dksX14_begin_2 7 rfl rfl)
theorem dX14_begin_58 : decode cX14_begin 58 = .ok (.iload_n 1, 1) := dk_27 (dk_at dksX14_begin_2 10 rfl rfl)
theorem dX14_begin_59 : decode cX14_begin 59 = .ok (.aload_n 0, 1) := dk_42 (dk_at dksX14_begin_2 11 rfl rfl)
theorem dX14_begin_60 : decode cX14_begin 60 = .ok (.getfield 520, 3) := dk_180 2 8 (dk_at dksX14_begin_2 12 rfl rfl)
theorem dX14_begin_63 : decode cX14_begin 63 = .ok (.iastore, 1) := dk_79 (dk_at dksX14_begin_2 15 rfl rfl)
theorem dX14_begin_64 : decode cX14_begin 64 = .ok (.aload_n 0, 1) := dk_42 (dk_at dksX14_begin_2 16 rfl rfl)
theorem dX14_begin_65 : decode cX14_begin 65 = .ok (.getfield 51, 3) := dk_180 0 51 (dk_at dksX14_begin_2 17 rfl rfl)
theorem dX14_begin_68 : decode cX14_begin 68 = .ok (.iload_n 1, 1) := dk_27 (dk_at dksX14_begin_2 20 rfl rfl)
theorem dX14_begin_69 : decode cX14_begin 69 = .ok (.iconst 0, 1) := dk_3 (dk_at dksX14_begin_2 21 rfl rfl)
theorem dX14_begin_70 : decode cX14_begin 70 = .ok (.iastore, 1) := dk_79 (dk_at dksX14_begin_2 22 rfl rfl)
theorem dX14_begin_71 : decode cX14_begin 71 = .ok (.aload_n 0, 1) := dk_42 (dk_at dksX14_begin_2 23 rfl rfl)
theorem dX14_begin_72 : decode cX14_begin 72 = .ok (.getfield 57, 3) := dk_180 0 57 (dk_at dksX14_begin_3 0 rfl rfl)
theorem dX14_begin_75 : decode cX14_begin 75 = .ok (.iload_n 1, 1) := dk_27 (dk_at dksX14_begin_3 3 rfl rfl)
theorem dX14_begin_76 : decode cX14_begin 76 = .ok (.iconst 0, 1) := dk_3 (dk_at dksX14_begin_3 4 rfl rfl)
theorem dX14_begin_77 : decode cX14_begin 77 = .ok (.iastore, 1) := dk_79 (dk_at dksX14_begin_3 5 rfl rfl)
theorem dX14_begin_78 : decode cX14_begin 78 = .ok (.aload_n 0, 1) := dk_42 (dk_at dksX14_begin_3 6 rfl rfl)
theorem dX14_begin_79 : decode cX14_begin 79 = .ok (.getfield 60, 3) := dk_180 0 60 (dk_at dksX14_begin_3 7 rfl rfl)
theorem dX14_begin_82 : decode cX14_begin 82 = .ok (.iload_n 1, 1) := dk_27 (dk_at dksX14_begin_3 10 rfl rfl)
theorem dX14_begin_83 : decode cX14_begin 83 = .ok (.iconst 0, 1) := dk_3 (dk_at dksX14_begin_3 11 rfl rfl)
theorem dX14_begin_84 : decode cX14_begin 84 = .ok (.iastore, 1) := dk_79 (dk_at dksX14_begin_3 12 rfl rfl)
theorem dX14_begin_85 : decode cX14_begin 85 = .ok (.aload_n 0, 1) := dk_42 (dk_at dksX14_begin_3 13 rfl rfl)
theorem dX14_begin_86 : decode cX14_begin 86 = .ok (.getfield 63, 3) := dk_180 0 63 (dk_at dksX14_begin_3 14 rfl rfl)
theorem dX14_begin_89 : decode cX14_begin 89 = .ok (.iload_n 1, 1) := dk_27 (dk_at dksX14_begin_3 17 rfl rfl)
theorem dX14_begin_90 : decode cX14_begin 90 = .ok (.iconst (-1), 1) := dk_2 (dk_at dksX14_begin_3 18 rfl rfl)
theorem dX14_begin_91 : decode cX14_begin 91 = .ok (.iastore, 1) := dk_79 (dk_at dksX14_begin_3 19 rfl rfl)
theorem dX14_begin_92 : decode cX14_begin 92 = .ok (.aload_n 0, 1) := dk_42 (dk_at dksX14_begin_3 20 rfl rfl)
theorem dX14_begin_93 : decode cX14_begin 93 = .ok (.getfield 66, 3) := dk_180 0 66 (dk_at dksX14_begin_3 21 rfl rfl)
theorem dX14_begin_96 : decode cX14_begin 96 = .ok (.iload_n 1, 1) := dk_27 (dk_at dksX14_begin_4 0 rfl rfl)
theorem dX14_begin_97 : decode cX14_begin 97 = .ok (.iconst 0, 1) := dk_3 (dk_at dksX14_begin_4 1 rfl rfl)
theorem dX14_begin_98 : decode cX14_begin 98 = .ok (.iastore, 1) := dk_79 (dk_at dksX14_begin_4 2 rfl rfl)
theorem dX14_begin_99 : decode cX14_begin 99 = .ok (.aload_n 0, 1) := dk_42 (dk_at dksX14_begin_4 3 rfl rfl)
theorem dX14_begin_100 : decode cX14_begin 100 = .ok (.getfield 69, 3) := dk_180 0 69 (dk_at dksX14_begin_4 4 rfl rfl)
theorem dX14_begin_103 : decode cX14_begin 103 = .ok (.iload_n 1, 1) := dk_27 (dk_at dksX14_begin_4 7 rfl rfl)
theorem dX14_begin_104 : decode cX14_begin 104 = .ok (.iconst (-1), 1) := dk_2 (dk_at dksX14_begin_4 8 rfl rfl)
theorem dX14_begin_105 : decode cX14_begin 105 = .ok (.iastore, 1) := dk_79 (dk_at dksX14_begin_4 9 rfl rfl)
theorem dX14_begin_106 : decode cX14_begin 106 = .ok (.aload_n 0, 1) := dk_42 (dk_at dksX14_begin_4 10 rfl rfl)
theorem dX14_begin_107 : decode cX14_begin 107 = .ok (.getfield 72, 3) := dk_180 0 72 (dk_at dksX14_begin_4 11 rfl rfl)
theorem dX14_begin_110 : decode cX14_begin 110 = .ok (.iload_n 1, 1) := dk_27 (dk_at dksX14_begin_4 14 rfl rfl)
theorem dX14_begin_111 : decode cX14_begin 111 = .ok (.iconst (-1), 1) := dk_2 (dk_at dksX14_begin_4 15 rfl rfl)
theorem dX14_begin_112 : decode cX14_begin 112 = .ok (.iastore, 1) := dk_79 (dk_at dksX14_begin_4 16 rfl rfl)
theorem dX14_begin_113 : decode cX14_begin 113 = .ok (.aload_n 0, 1) := dk_42 (dk_at dksX14_begin_4 17 rfl rfl)
theorem dX14_begin_114 : decode cX14_begin 114 = .ok (.getfield 54, 3) := dk_180 0 54 (dk_at dksX14_begin_4 18 rfl rfl)
theorem dX14_begin_117 : decode cX14_begin 117 = .ok (.iload_n 1, 1) := dk_27 (dk_at dksX14_begin_4 21 rfl rfl)
theorem dX14_begin_118 : decode cX14_begin 118 = .ok (.iconst (-1), 1) := dk_2 (dk_at dksX14_begin_4 22 rfl rfl)
theorem dX14_begin_119 : decode cX14_begin 119 = .ok (.iastore, 1) := dk_79 (dk_at dksX14_begin_4 23 rfl rfl)
theorem dX14_begin_120 : decode cX14_begin 120 = .ok (.aload_n 0, 1) := dk_42 (dk_at dksX14_begin_5 0 rfl rfl)
theorem dX14_begin_121 : decode cX14_begin 121 = .ok (.getfield 42, 3) := dk_180 0 42 (dk_at dksX14_begin_5 1 rfl rfl)
theorem dX14_begin_124 : decode cX14_begin 124 = .ok (.iload_n 1, 1) := dk_27 (dk_at dksX14_begin_5 4 rfl rfl)
theorem dX14_begin_125 : decode cX14_begin 125 = .ok (.iconst 1, 1) := dk_4 (dk_at dksX14_begin_5 5 rfl rfl)
theorem dX14_begin_126 : decode cX14_begin 126 = .ok (.iastore, 1) := dk_79 (dk_at dksX14_begin_5 6 rfl rfl)
theorem dX14_begin_127 : decode cX14_begin 127 = .ok (.aload_n 0, 1) := dk_42 (dk_at dksX14_begin_5 7 rfl rfl)
theorem dX14_begin_128 : decode cX14_begin 128 = .ok (.iconst 0, 1) := dk_3 (dk_at dksX14_begin_5 8 rfl rfl)
theorem dX14_begin_129 : decode cX14_begin 129 = .ok (.putfield 502, 3) := dk_181 1 246 (dk_at dksX14_begin_5 9 rfl rfl)
theorem dX14_begin_132 : decode cX14_begin 132 = .ok (.aload_n 0, 1) := dk_42 (dk_at dksX14_begin_5 12 rfl rfl)
theorem dX14_begin_133 : decode cX14_begin 133 = .ok (.getfield 353, 3) := dk_180 1 97 (dk_at dksX14_begin_5 13 rfl rfl)
theorem dX14_begin_136 : decode cX14_begin 136 = .ok (.ifCond .ne 20, 3) := dk_154 0 20 (dk_at dksX14_begin_5 16 rfl rfl)
theorem dX14_begin_139 : decode cX14_begin 139 = .ok (.aload_n 0, 1) := dk_42 (dk_at dksX14_begin_5 19 rfl rfl)
theorem dX14_begin_140 : decode cX14_begin 140 = .ok (.bipush 14, 2) := dk_16 14 (dk_at dksX14_begin_5 20 rfl rfl)
theorem dX14_begin_142 : decode cX14_begin 142 = .ok (.invokevirtual 445, 3) := dk_182 1 189 (dk_at dksX14_begin_6 0 rfl rfl)
theorem dX14_begin_145 : decode cX14_begin 145 = .ok (.ifCond .eq 11, 3) := dk_153 0 11 (dk_at dksX14_begin_6 3 rfl rfl)
theorem dX14_begin_148 : decode cX14_begin 148 = .ok (.aload_n 0, 1) := dk_42 (dk_at dksX14_begin_6 6 rfl rfl)
theorem dX14_begin_149 : decode cX14_begin 149 = .ok (.iload_n 1, 1) := dk_27 (dk_at dksX14_begin_6 7 rfl rfl)
theorem dX14_begin_150 : decode cX14_begin 150 = .ok (.invokevirtual 523, 3) := dk_182 2 11 (dk_at dksX14_begin_6 8 rfl rfl)
theorem dX14_begin_153 : decode cX14_begin 153 = .ok (.goto (-21), 3) := dk_167 255 235 (dk_at dksX14_begin_6 11 rfl rfl)
theorem dX14_begin_156 : decode cX14_begin 156 = .ok (.aload_n 0, 1) := dk_42 (dk_at dksX14_begin_6 14 rfl rfl)
theorem dX14_begin_157 : decode cX14_begin 157 = .ok (.getfield 353, 3) := dk_180 1 97 (dk_at dksX14_begin_6 15 rfl rfl)
theorem dX14_begin_160 : decode cX14_begin 160 = .ok (.ifCond .ne 8, 3) := dk_154 0 8 (dk_at dksX14_begin_6 18 rfl rfl)
theorem dX14_begin_163 : decode cX14_begin 163 = .ok (.aload_n 0, 1) := dk_42 (dk_at dksX14_begin_6 21 rfl rfl)
theorem dX14_begin_164 : decode cX14_begin 164 = .ok (.iload_n 1, 1) := dk_27 (dk_at dksX14_begin_6 22 rfl rfl)
theorem dX14_begin_165 : decode cX14_begin 165 = .ok (.invokevirtual 526, 3) := dk_182 2 14 (dk_at dksX14_begin_7 0 rfl rfl)
theorem dX14_begin_168 : decode cX14_begin 168 = .ok (.return_, 1) := dk_177 (dk_at dksX14_begin_7 3 rfl rfl)
abbrev cX14_tag : ByteArray := prog_15_method_46_code
def yX14_tag : MethodName := ⟨RX14, "tag", "(I)V"⟩
def dkwX14_tag_8 : List UInt8 := [79, 42, 89, 180, 2, 8, 4, 96, 181, 2, 8, 42, 180, 0, 51, 27, 92, 46, 4, 96, 79, 177]
abbrev dktX14_tag_8 : List UInt8 := dkwX14_tag_8 ++ []
def dkwX14_tag_7 : List UInt8 := [182, 1, 220, 153, 0, 7, 4, 167, 0, 17, 42, 16, 63, 182, 1, 220, 153, 0, 7, 5, 167, 0, 4, 3]
abbrev dktX14_tag_7 : List UInt8 := dkwX14_tag_7 ++ dktX14_tag_8
def dkwX14_tag_6 : List UInt8 := [29, 3, 182, 2, 17, 182, 2, 20, 79, 42, 16, 15, 182, 1, 217, 87, 42, 180, 0, 84, 28, 42, 16, 74]
abbrev dktX14_tag_6 : List UInt8 := dkwX14_tag_6 ++ dktX14_tag_7
def dkwX14_tag_5 : List UInt8 := [182, 1, 192, 42, 6, 182, 1, 217, 62, 42, 180, 1, 97, 158, 0, 4, 177, 42, 180, 0, 81, 28, 42, 42]
abbrev dktX14_tag_5 : List UInt8 := dkwX14_tag_5 ++ dktX14_tag_6
def dkwX14_tag_4 : List UInt8 := [153, 0, 27, 42, 42, 42, 180, 1, 186, 3, 182, 2, 17, 182, 2, 20, 19, 2, 23, 164, 0, 8, 42, 4]
abbrev dktX14_tag_4 : List UInt8 := dkwX14_tag_4 ++ dktX14_tag_5
def dkwX14_tag_3 : List UInt8 := [153, 0, 10, 42, 180, 0, 78, 28, 6, 79, 42, 180, 1, 97, 154, 0, 35, 42, 6, 182, 1, 189]
abbrev dktX14_tag_3 : List UInt8 := dkwX14_tag_3 ++ dktX14_tag_4
def dkwX14_tag_2 : List UInt8 := [182, 1, 220, 153, 0, 13, 42, 180, 0, 78, 28, 4, 79, 167, 0, 19, 42, 16, 95, 182, 1, 220]
abbrev dktX14_tag_2 : List UInt8 := dkwX14_tag_2 ++ dktX14_tag_3
def dkwX14_tag_1 : List UInt8 := [42, 16, 110, 182, 1, 220, 153, 0, 13, 42, 180, 0, 78, 28, 3, 79, 167, 0, 38, 42, 16, 43]
abbrev dktX14_tag_1 : List UInt8 := dkwX14_tag_1 ++ dktX14_tag_2
def dkwX14_tag_0 : List UInt8 := [42, 180, 2, 8, 61, 42, 180, 0, 75, 28, 42, 16, 14, 182, 1, 217, 79, 42, 180, 0, 78, 28, 5, 79]
abbrev dktX14_tag_0 : List UInt8 := dkwX14_tag_0 ++ dktX14_tag_1
theorem dksX14_tag_0 : cX14_tag.data.toList.drop 0 = dktX14_tag_0 := by decide +kernel
theorem dksX14_tag_1 : cX14_tag.data.toList.drop 24 = dktX14_tag_1 := dk_seg dksX14_tag_0 24 rfl rfl
theorem dksX14_tag_2 : cX14_tag.data.toList.drop 46 = dktX14_tag_2 := dk_seg dksX14_tag_1 22 rfl rfl
theorem dksX14_tag_3 : cX14_tag.data.toList.drop 68 = dktX14_tag_3 := dk_seg dksX14_tag_2 22 rfl rfl
theorem dksX14_tag_4 : cX14_tag.data.toList.drop 90 = dktX14_tag_4 := dk_seg dksX14_tag_3 22 rfl rfl
theorem dksX14_tag_5 : cX14_tag.data.toList.drop 114 = dktX14_tag_5 := dk_seg dksX14_tag_4 24 rfl rfl
theorem dksX14_tag_6 : cX14_tag.data.toList.drop 138 = dktX14_tag_6 := dk_seg dksX14_tag_5 24 rfl rfl
theorem dksX14_tag_7 : cX14_tag.data.toList.drop 162 = dktX14_tag_7 := dk_seg dksX14_tag_6 24 rfl rfl
theorem dksX14_tag_8 : cX14_tag.data.toList.drop 186 = dktX14_tag_8 := dk_seg dksX14_tag_7 24 rfl rfl
theorem dX14_tag_0 : decode cX14_tag 0 = .ok (.aload_n 0, 1) := dk_42 (dk_at dksX14_tag_0 0 rfl rfl)
theorem dX14_tag_1 : decode cX14_tag 1 = .ok (.getfield 520, 3) := dk_180 2 8 (dk_at dksX14_tag_0 1 rfl rfl)
theorem dX14_tag_4 : decode cX14_tag 4 = .ok (.istore_n 2, 1) := dk_61 (dk_at dksX14_tag_0 4 rfl rfl)
theorem dX14_tag_5 : decode cX14_tag 5 = .ok (.aload_n 0, 1) := dk_42 (dk_at dksX14_tag_0 5 rfl rfl)
theorem dX14_tag_6 : decode cX14_tag 6 = .ok (.getfield 75, 3) := dk_180 0 75 (dk_at dksX14_tag_0 6 rfl rfl)
theorem dX14_tag_9 : decode cX14_tag 9 = .ok (.iload_n 2, 1) := dk_28 (dk_at dksX14_tag_0 9 rfl rfl)
theorem dX14_tag_10 : decode cX14_tag 10 = .ok (.aload_n 0, 1) := dk_42 (dk_at dksX14_tag_0 10 rfl rfl)
theorem dX14_tag_11 : decode cX14_tag 11 = .ok (.bipush 14, 2) := dk_16 14 (dk_at dksX14_tag_0 11 rfl rfl)
theorem dX14_tag_13 : decode cX14_tag 13 = .ok (.invokevirtual 473, 3) := dk_182 1 217 (dk_at dksX14_tag_0 13 rfl rfl)
theorem dX14_tag_16 : decode cX14_tag 16 = .ok (.iastore, 1) := dk_79 (dk_at dksX14_tag_0 16 rfl rfl)
theorem dX14_tag_17 : decode cX14_tag 17 = .ok (.aload_n 0, 1) := dk_42 (dk_at dksX14_tag_0 17 rfl rfl)
theorem dX14_tag_18 : decode cX14_tag 18 = .ok (.getfield 78, 3) := dk_180 0 78 (dk_at dksX14_tag_0 18 rfl rfl)
theorem dX14_tag_21 : decode cX14_tag 21 = .ok (.iload_n 2, 1) := dk_28 (dk_at dksX14_tag_0 21 rfl rfl)
theorem dX14_tag_22 : decode cX14_tag 22 = .ok (.iconst 2, 1) := dk_5 (dk_at dksX14_tag_0 22 rfl rfl)
theorem dX14_tag_23 : decode cX14_tag 23 = .ok (.iastore, 1) := dk_79 (dk_at dksX14_tag_0 23 rfl rfl)
theorem dX14_tag_24 : decode cX14_tag 24 = .ok (.aload_n 0, 1) := dk_42 (dk_at dksX14_tag_1 0 rfl rfl)
theorem dX14_tag_25 : decode cX14_tag 25 = .ok (.bipush 110, 2) := dk_16 110 (dk_at dksX14_tag_1 1 rfl rfl)
theorem dX14_tag_27 : decode cX14_tag 27 = .ok (.invokevirtual 476, 3) := dk_182 1 220 (dk_at dksX14_tag_1 3 rfl rfl)
theorem dX14_tag_30 : decode cX14_tag 30 = .ok (.ifCond .eq 13, 3) := dk_153 0 13 (dk_at dksX14_tag_1 6 rfl rfl)
theorem dX14_tag_33 : decode cX14_tag 33 = .ok (.aload_n 0, 1) := dk_42 (dk_at dksX14_tag_1 9 rfl rfl)
theorem dX14_tag_34 : decode cX14_tag 34 = .ok (.getfield 78, 3) := dk_180 0 78 (dk_at dksX14_tag_1 10 rfl rfl)
theorem dX14_tag_37 : decode cX14_tag 37 = .ok (.iload_n 2, 1) := dk_28 (dk_at dksX14_tag_1 13 rfl rfl)
theorem dX14_tag_38 : decode cX14_tag 38 = .ok (.iconst 0, 1) := dk_3 (dk_at dksX14_tag_1 14 rfl rfl)
theorem dX14_tag_39 : decode cX14_tag 39 = .ok (.iastore, 1) := dk_79 (dk_at dksX14_tag_1 15 rfl rfl)
theorem dX14_tag_40 : decode cX14_tag 40 = .ok (.goto 38, 3) := dk_167 0 38 (dk_at dksX14_tag_1 16 rfl rfl)
theorem dX14_tag_43 : decode cX14_tag 43 = .ok (.aload_n 0, 1) := dk_42 (dk_at dksX14_tag_1 19 rfl rfl)
theorem dX14_tag_44 : decode cX14_tag 44 = .ok (.bipush 43, 2) := dk_16 43 (dk_at dksX14_tag_1 20 rfl rfl)
theorem dX14_tag_46 : decode cX14_tag 46 = .ok (.invokevirtual 476, 3) := dk_182 1 220 (dk_at dksX14_tag_2 0 rfl rfl)
theorem dX14_tag_49 : decode cX14_tag 49 = .ok (.ifCond .eq 13, 3) := dk_153 0 13 (dk_at dksX14_tag_2 3 rfl rfl)
theorem dX14_tag_52 : decode cX14_tag 52 = .ok (.aload_n 0, 1) := dk_42 (dk_at dksX14_tag_2 6 rfl rfl)
theorem dX14_tag_53 : decode cX14_tag 53 = .ok (.getfield 78, 3) := dk_180 0 78 (dk_at dksX14_tag_2 7 rfl rfl)
theorem dX14_tag_56 : decode cX14_tag 56 = .ok (.iload_n 2, 1) := dk_28 (dk_at dksX14_tag_2 10 rfl rfl)
theorem dX14_tag_57 : decode cX14_tag 57 = .ok (.iconst 1, 1) := dk_4 (dk_at dksX14_tag_2 11 rfl rfl)
theorem dX14_tag_58 : decode cX14_tag 58 = .ok (.iastore, 1) := dk_79 (dk_at dksX14_tag_2 12 rfl rfl)
theorem dX14_tag_59 : decode cX14_tag 59 = .ok (.goto 19, 3) := dk_167 0 19 (dk_at dksX14_tag_2 13 rfl rfl)
theorem dX14_tag_62 : decode cX14_tag 62 = .ok (.aload_n 0, 1) := dk_42 (dk_at dksX14_tag_2 16 rfl rfl)
theorem dX14_tag_63 : decode cX14_tag 63 = .ok (.bipush 95, 2) := dk_16 95 (dk_at dksX14_tag_2 17 rfl rfl)
theorem dX14_tag_65 : decode cX14_tag 65 = .ok (.invokevirtual 476, 3) := dk_182 1 220 (dk_at dksX14_tag_2 19 rfl rfl)
theorem dX14_tag_68 : decode cX14_tag 68 = .ok (.ifCond .eq 10, 3) := dk_153 0 10 (dk_at dksX14_tag_3 0 rfl rfl)
theorem dX14_tag_71 : decode cX14_tag 71 = .ok (.aload_n 0, 1) := dk_42 (dk_at dksX14_tag_3 3 rfl rfl)
theorem dX14_tag_72 : decode cX14_tag 72 = .ok (.getfield 78, 3) := dk_180 0 78 (dk_at dksX14_tag_3 4 rfl rfl)
theorem dX14_tag_75 : decode cX14_tag 75 = .ok (.iload_n 2, 1) := dk_28 (dk_at dksX14_tag_3 7 rfl rfl)
theorem dX14_tag_76 : decode cX14_tag 76 = .ok (.iconst 3, 1) := dk_6 (dk_at dksX14_tag_3 8 rfl rfl)
theorem dX14_tag_77 : decode cX14_tag 77 = .ok (.iastore, 1) := dk_79 (dk_at dksX14_tag_3 9 rfl rfl)
theorem dX14_tag_78 : decode cX14_tag 78 = .ok (.aload_n 0, 1) := dk_42 (dk_at dksX14_tag_3 10 rfl rfl)
theorem dX14_tag_79 : decode cX14_tag 79 = .ok (.getfield 353, 3) := dk_180 1 97 (dk_at dksX14_tag_3 11 rfl rfl)
theorem dX14_tag_82 : decode cX14_tag 82 = .ok (.ifCond .ne 35, 3) := dk_154 0 35 (dk_at dksX14_tag_3 14 rfl rfl)
theorem dX14_tag_85 : decode cX14_tag 85 = .ok (.aload_n 0, 1) := dk_42 (dk_at dksX14_tag_3 17 rfl rfl)
theorem dX14_tag_86 : decode cX14_tag 86 = .ok (.iconst 3, 1) := dk_6 (dk_at dksX14_tag_3 18 rfl rfl)
theorem dX14_tag_87 : decode cX14_tag 87 = .ok (.invokevirtual 445, 3) := dk_182 1 189 (dk_at dksX14_tag_3 19 rfl rfl)
theorem dX14_tag_90 : decode cX14_tag 90 = .ok (.ifCond .eq 27, 3) := dk_153 0 27 (dk_at dksX14_tag_4 0 rfl rfl)
theorem dX14_tag_93 : decode cX14_tag 93 = .ok (.aload_n 0, 1) := dk_42 (dk_at dksX14_tag_4 3 rfl rfl)
theorem dX14_tag_94 : decode cX14_tag 94 = .ok (.aload_n 0, 1) := dk_42 (dk_at dksX14_tag_4 4 rfl rfl)
theorem dX14_tag_95 : decode cX14_tag 95 = .ok (.aload_n 0, 1) := dk_42 (dk_at dksX14_tag_4 5 rfl rfl)
theorem dX14_tag_96 : decode cX14_tag 96 = .ok (.getfield 442, 3) := dk_180 1 186 (dk_at dksX14_tag_4 6 rfl rfl)
theorem dX14_tag_99 : decode cX14_tag 99 = .ok (.iconst 0, 1) := dk_3 (dk_at dksX14_tag_4 9 rfl rfl)
theorem dX14_tag_100 : decode cX14_tag 100 = .ok (.invokevirtual 529, 3) := dk_182 2 17 (dk_at dksX14_tag_4 10 rfl rfl)
theorem dX14_tag_103 : decode cX14_tag 103 = .ok (.invokevirtual 532, 3) := dk_182 2 20 (dk_at dksX14_tag_4 13 rfl rfl)
theorem dX14_tag_106 : decode cX14_tag 106 = .ok (.ldc_w 535, 3) := dk_19 2 23 (dk_at dksX14_tag_4 16 rfl rfl)
theorem dX14_tag_109 : decode cX14_tag 109 = .ok (.if_icmp .le 8, 3) := dk_164 0 8 (dk_at dksX14_tag_4 19 rfl rfl)
theorem dX14_tag_112 : decode cX14_tag 112 = .ok (.aload_n 0, 1) := dk_42 (dk_at dksX14_tag_4 22 rfl rfl)
theorem dX14_tag_113 : decode cX14_tag 113 = .ok (.iconst 1, 1) := dk_4 (dk_at dksX14_tag_4 23 rfl rfl)
theorem dX14_tag_114 : decode cX14_tag 114 = .ok (.invokevirtual 448, 3) := dk_182 1 192 (dk_at dksX14_tag_5 0 rfl rfl)
theorem dX14_tag_117 : decode cX14_tag 117 = .ok (.aload_n 0, 1) := dk_42 (dk_at dksX14_tag_5 3 rfl rfl)
theorem dX14_tag_118 : decode cX14_tag 118 = .ok (.iconst 3, 1) := dk_6 (dk_at dksX14_tag_5 4 rfl rfl)
theorem dX14_tag_119 : decode cX14_tag 119 = .ok (.invokevirtual 473, 3) := dk_182 1 217 (dk_at dksX14_tag_5 5 rfl rfl)
theorem dX14_tag_122 : decode cX14_tag 122 = .ok (.istore_n 3, 1) := dk_62 (dk_at dksX14_tag_5 8 rfl rfl)
theorem dX14_tag_123 : decode cX14_tag 123 = .ok (.aload_n 0, 1) := dk_42 (dk_at dksX14_tag_5 9 rfl rfl)
theorem dX14_tag_124 : decode cX14_tag 124 = .ok (.getfield 353, 3) := dk_180 1 97 (dk_at dksX14_tag_5 10 rfl rfl)
theorem dX14_tag_127 : decode cX14_tag 127 = .ok (.ifCond .le 4, 3) := dk_158 0 4 (dk_at dksX14_tag_5 13 rfl rfl)
theorem dX14_tag_130 : decode cX14_tag 130 = .ok (.return_, 1) := dk_177 (dk_at dksX14_tag_5 16 rfl rfl)
theorem dX14_tag_131 : decode cX14_tag 131 = .ok (.aload_n 0, 1) := dk_42 (dk_at dksX14_tag_5 17 rfl rfl)
theorem dX14_tag_132 : decode cX14_tag 132 = .ok (.getfield 81, 3) := dk_180 0 81 (dk_at dksX14_tag_5 18 rfl rfl)
theorem dX14_tag_135 : decode cX14_tag 135 = .ok (.iload_n 2, 1) := dk_28 (dk_at dksX14_tag_5 21 rfl rfl)
theorem dX14_tag_136 : decode cX14_tag 136 = .ok (.aload_n 0, 1) := dk_42 (dk_at dksX14_tag_5 22 rfl rfl)
theorem dX14_tag_137 : decode cX14_tag 137 = .ok (.aload_n 0, 1) := dk_42 (dk_at dksX14_tag_5 23 rfl rfl)
theorem dX14_tag_138 : decode cX14_tag 138 = .ok (.iload_n 3, 1) := dk_29 (dk_at dksX14_tag_6 0 rfl rfl)
theorem dX14_tag_139 : decode cX14_tag 139 = .ok (.iconst 0, 1) := dk_3 (dk_at dksX14_tag_6 1 rfl rfl)
theorem dX14_tag_140 : decode cX14_tag 140 = .ok (.invokevirtual 529, 3) := dk_182 2 17 (dk_at dksX14_tag_6 2 rfl rfl)
theorem dX14_tag_143 : decode cX14_tag 143 = .ok (.invokevirtual 532, 3) := dk_182 2 20 (dk_at dksX14_tag_6 5 rfl rfl)
theorem dX14_tag_146 : decode cX14_tag 146 = .ok (.iastore, 1) := dk_79 (dk_at dksX14_tag_6 8 rfl rfl)
theorem dX14_tag_147 : decode cX14_tag 147 = .ok (.aload_n 0, 1) := dk_42 (dk_at dksX14_tag_6 9 rfl rfl)
theorem dX14_tag_148 : decode cX14_tag 148 = .ok (.bipush 15, 2) := dk_16 15 (dk_at dksX14_tag_6 10 rfl rfl)
theorem dX14_tag_150 : decode cX14_tag 150 = .ok (.invokevirtual 473, 3) := dk_182 1 217 (dk_at dksX14_tag_6 12 rfl rfl)
theorem dX14_tag_153 : decode cX14_tag 153 = .ok (.pop, 1) := dk_87 (dk_at dksX14_tag_6 15 rfl rfl)
theorem dX14_tag_154 : decode cX14_tag 154 = .ok (.aload_n 0, 1) := dk_42 (dk_at dksX14_tag_6 16 rfl rfl)
theorem dX14_tag_155 : decode cX14_tag 155 = .ok (.getfield 84, 3) := dk_180 0 84 (dk_at dksX14_tag_6 17 rfl rfl)
theorem dX14_tag_158 : decode cX14_tag 158 = .ok (.iload_n 2, 1) := dk_28 (dk_at dksX14_tag_6 20 rfl rfl)
theorem dX14_tag_159 : decode cX14_tag 159 = .ok (.aload_n 0, 1) := dk_42 (dk_at dksX14_tag_6 21 rfl rfl)
theorem dX14_tag_160 : decode cX14_tag 160 = .ok (.bipush 74, 2) := dk_16 74 (dk_at dksX14_tag_6 22 rfl rfl)
theorem dX14_tag_162 : decode cX14_tag 162 = .ok (.invokevirtual 476, 3) := dk_182 1 220 (dk_at dksX14_tag_7 0 rfl rfl)
theorem dX14_tag_165 : decode cX14_tag 165 = .ok (.ifCond .eq 7, 3) := dk_153 0 7 (dk_at dksX14_tag_7 3 rfl rfl)
theorem dX14_tag_168 : decode cX14_tag 168 = .ok (.iconst 1, 1) := dk_4 (dk_at dksX14_tag_7 6 rfl rfl)
theorem dX14_tag_169 : decode cX14_tag 169 = .ok (.goto 17, 3) := dk_167 0 17 (dk_at dksX14_tag_7 7 rfl rfl)
theorem dX14_tag_172 : decode cX14_tag 172 = .ok (.aload_n 0, 1) := dk_42 (dk_at dksX14_tag_7 10 rfl rfl)
theorem dX14_tag_173 : decode cX14_tag 173 = .ok (.bipush 63, 2) := dk_16 63 (dk_at dksX14_tag_7 11 rfl rfl)
theorem dX14_tag_175 : decode cX14_tag 175 = .ok (.invokevirtual 476, 3) := dk_182 1 220 (dk_at dksX14_tag_7 13 rfl rfl)
theorem dX14_tag_178 : decode cX14_tag 178 = .ok (.ifCond .eq 7, 3) := dk_153 0 7 (dk_at dksX14_tag_7 16 rfl rfl)
theorem dX14_tag_181 : decode cX14_tag 181 = .ok (.iconst 2, 1) := dk_5 (dk_at dksX14_tag_7 19 rfl rfl)
theorem dX14_tag_182 : decode cX14_tag 182 = .ok (.goto 4, 3) := dk_167 0 4 (dk_at dksX14_tag_7 20 rfl rfl)
theorem dX14_tag_185 : decode cX14_tag 185 = .ok (.iconst 0, 1) := dk_3 (dk_at dksX14_tag_7 23 rfl rfl)
theorem dX14_tag_186 : decode cX14_tag 186 = .ok (.iastore, 1) := dk_79 (dk_at dksX14_tag_8 0 rfl rfl)
theorem dX14_tag_187 : decode cX14_tag 187 = .ok (.aload_n 0, 1) := dk_42 (dk_at dksX14_tag_8 1 rfl rfl)
theorem dX14_tag_188 : decode cX14_tag 188 = .ok (.dup, 1) := dk_89 (dk_at dksX14_tag_8 2 rfl rfl)
theorem dX14_tag_189 : decode cX14_tag 189 = .ok (.getfield 520, 3) := dk_180 2 8 (dk_at dksX14_tag_8 3 rfl rfl)
theorem dX14_tag_192 : decode cX14_tag 192 = .ok (.iconst 1, 1) := dk_4 (dk_at dksX14_tag_8 6 rfl rfl)
theorem dX14_tag_193 : decode cX14_tag 193 = .ok (.iadd, 1) := dk_96 (dk_at dksX14_tag_8 7 rfl rfl)
theorem dX14_tag_194 : decode cX14_tag 194 = .ok (.putfield 520, 3) := dk_181 2 8 (dk_at dksX14_tag_8 8 rfl rfl)
theorem dX14_tag_197 : decode cX14_tag 197 = .ok (.aload_n 0, 1) := dk_42 (dk_at dksX14_tag_8 11 rfl rfl)
theorem dX14_tag_198 : decode cX14_tag 198 = .ok (.getfield 51, 3) := dk_180 0 51 (dk_at dksX14_tag_8 12 rfl rfl)
theorem dX14_tag_201 : decode cX14_tag 201 = .ok (.iload_n 1, 1) := dk_27 (dk_at dksX14_tag_8 15 rfl rfl)
theorem dX14_tag_202 : decode cX14_tag 202 = .ok (.dup2, 1) := dk_92 (dk_at dksX14_tag_8 16 rfl rfl)
theorem dX14_tag_203 : decode cX14_tag 203 = .ok (.iaload, 1) := dk_46 (dk_at dksX14_tag_8 17 rfl rfl)
theorem dX14_tag_204 : decode cX14_tag 204 = .ok (.iconst 1, 1) := dk_4 (dk_at dksX14_tag_8 18 rfl rfl)
theorem dX14_tag_205 : decode cX14_tag 205 = .ok (.iadd, 1) := dk_96 (dk_at dksX14_tag_8 19 rfl rfl)
theorem dX14_tag_206 : decode cX14_tag 206 = .ok (.iastore, 1) := dk_79 (dk_at dksX14_tag_8 20 rfl rfl)
theorem dX14_tag_207 : decode cX14_tag 207 = .ok (.return_, 1) := dk_177 (dk_at dksX14_tag_8 21 rfl rfl)
abbrev cX14_numberOf : ByteArray := prog_15_method_38_code
def yX14_numberOf : MethodName := ⟨RX14, "numberOf", "(IZ)I"⟩
def dkwX14_numberOf_2 : List UInt8 := [3, 182, 1, 212, 79, 42, 180, 0, 202, 27, 46, 172]
abbrev dktX14_numberOf_2 : List UInt8 := dkwX14_numberOf_2 ++ []
def dkwX14_numberOf_1 : List UInt8 := [79, 42, 180, 0, 205, 27, 46, 172, 42, 180, 0, 202, 27, 46, 156, 0, 15, 42, 180, 0, 202, 27, 42, 27]
abbrev dktX14_numberOf_1 : List UInt8 := dkwX14_numberOf_1 ++ dktX14_numberOf_2
def dkwX14_numberOf_0 : List UInt8 := [28, 153, 0, 31, 42, 180, 0, 205, 27, 46, 156, 0, 15, 42, 180, 0, 205, 27, 42, 27, 4, 182, 1, 212]
abbrev dktX14_numberOf_0 : List UInt8 := dkwX14_numberOf_0 ++ dktX14_numberOf_1
theorem dksX14_numberOf_0 : cX14_numberOf.data.toList.drop 0 = dktX14_numberOf_0 := by decide +kernel
theorem dksX14_numberOf_1 : cX14_numberOf.data.toList.drop 24 = dktX14_numberOf_1 := dk_seg dksX14_numberOf_0 24 rfl rfl
theorem dksX14_numberOf_2 : cX14_numberOf.data.toList.drop 48 = dktX14_numberOf_2 := dk_seg dksX14_numberOf_1 24 rfl rfl
theorem dX14_numberOf_0 : decode cX14_numberOf 0 = .ok (.iload_n 2, 1) := dk_28 (dk_at dksX14_numberOf_0 0 rfl rfl)
theorem dX14_numberOf_1 : decode cX14_numberOf 1 = .ok (.ifCond .eq 31, 3) := dk_153 0 31 (dk_at dksX14_numberOf_0 1 rfl rfl)
theorem dX14_numberOf_4 : decode cX14_numberOf 4 = .ok (.aload_n 0, 1) := dk_42 (dk_at dksX14_numberOf_0 4 rfl rfl)
theorem dX14_numberOf_5 : decode cX14_numberOf 5 = .ok (.getfield 205, 3) := dk_180 0 205 (dk_at dksX14_numberOf_0 5 rfl rfl)
theorem dX14_numberOf_8 : decode cX14_numberOf 8 = .ok (.iload_n 1, 1) := dk_27 (dk_at dksX14_numberOf_0 8 rfl rfl)
theorem dX14_numberOf_9 : decode cX14_numberOf 9 = .ok (.iaload, 1) := dk_46 (dk_at dksX14_numberOf_0 9 rfl rfl)
theorem dX14_numberOf_10 : decode cX14_numberOf 10 = .ok (.ifCond .ge 15, 3) := dk_156 0 15 (dk_at dksX14_numberOf_0 10 rfl rfl)
theorem dX14_numberOf_13 : decode cX14_numberOf 13 = .ok (.aload_n 0, 1) := dk_42 (dk_at dksX14_numberOf_0 13 rfl rfl)
theorem dX14_numberOf_14 : decode cX14_numberOf 14 = .ok (.getfield 205, 3) := dk_180 0 205 (dk_at dksX14_numberOf_0 14 rfl rfl)
theorem dX14_numberOf_17 : decode cX14_numberOf 17 = .ok (.iload_n 1, 1) := dk_27 (dk_at dksX14_numberOf_0 17 rfl rfl)
theorem dX14_numberOf_18 : decode cX14_numberOf 18 = .ok (.aload_n 0, 1) := dk_42 (dk_at dksX14_numberOf_0 18 rfl rfl)
theorem dX14_numberOf_19 : decode cX14_numberOf 19 = .ok (.iload_n 1, 1) := dk_27 (dk_at dksX14_numberOf_0 19 rfl rfl)
theorem dX14_numberOf_20 : decode cX14_numberOf 20 = .ok (.iconst 1, 1) := dk_4 (dk_at dksX14_numberOf_0 20 rfl rfl)
theorem dX14_numberOf_21 : decode cX14_numberOf 21 = .ok (.invokevirtual 468, 3) := dk_182 1 212 (dk_at dksX14_numberOf_0 21 rfl rfl)
theorem dX14_numberOf_24 : decode cX14_numberOf 24 = .ok (.iastore, 1) := dk_79 (dk_at dksX14_numberOf_1 0 rfl rfl)
theorem dX14_numberOf_25 : decode cX14_numberOf 25 = .ok (.aload_n 0, 1) := dk_42 (dk_at dksX14_numberOf_1 1 rfl rfl)
theorem dX14_numberOf_26 : decode cX14_numberOf 26 = .ok (.getfield 205, 3) := dk_180 0 205 (dk_at dksX14_numberOf_1 2 rfl rfl)
theorem dX14_numberOf_29 : decode cX14_numberOf 29 = .ok (.iload_n 1, 1) := dk_27 (dk_at dksX14_numberOf_1 5 rfl rfl)
theorem dX14_numberOf_30 : decode cX14_numberOf 30 = .ok (.iaload, 1) := dk_46 (dk_at dksX14_numberOf_1 6 rfl rfl)
theorem dX14_numberOf_31 : decode cX14_numberOf 31 = .ok (.ireturn, 1) := dk_172 (dk_at dksX14_numberOf_1 7 rfl rfl)
theorem dX14_numberOf_32 : decode cX14_numberOf 32 = .ok (.aload_n 0, 1) := dk_42 (dk_at dksX14_numberOf_1 8 rfl rfl)
theorem dX14_numberOf_33 : decode cX14_numberOf 33 = .ok (.getfield 202, 3) := dk_180 0 202 (dk_at dksX14_numberOf_1 9 rfl rfl)
theorem dX14_numberOf_36 : decode cX14_numberOf 36 = .ok (.iload_n 1, 1) := dk_27 (dk_at dksX14_numberOf_1 12 rfl rfl)
theorem dX14_numberOf_37 : decode cX14_numberOf 37 = .ok (.iaload, 1) := dk_46 (dk_at dksX14_numberOf_1 13 rfl rfl)
theorem dX14_numberOf_38 : decode cX14_numberOf 38 = .ok (.ifCond .ge 15, 3) := dk_156 0 15 (dk_at dksX14_numberOf_1 14 rfl rfl)
theorem dX14_numberOf_41 : decode cX14_numberOf 41 = .ok (.aload_n 0, 1) := dk_42 (dk_at dksX14_numberOf_1 17 rfl rfl)
theorem dX14_numberOf_42 : decode cX14_numberOf 42 = .ok (.getfield 202, 3) := dk_180 0 202 (dk_at dksX14_numberOf_1 18 rfl rfl)
theorem dX14_numberOf_45 : decode cX14_numberOf 45 = .ok (.iload_n 1, 1) := dk_27 (dk_at dksX14_numberOf_1 21 rfl rfl)
theorem dX14_numberOf_46 : decode cX14_numberOf 46 = .ok (.aload_n 0, 1) := dk_42 (dk_at dksX14_numberOf_1 22 rfl rfl)
theorem dX14_numberOf_47 : decode cX14_numberOf 47 = .ok (.iload_n 1, 1) := dk_27 (dk_at dksX14_numberOf_1 23 rfl rfl)
theorem dX14_numberOf_48 : decode cX14_numberOf 48 = .ok (.iconst 0, 1) := dk_3 (dk_at dksX14_numberOf_2 0 rfl rfl)
theorem dX14_numberOf_49 : decode cX14_numberOf 49 = .ok (.invokevirtual 468, 3) := dk_182 1 212 (dk_at dksX14_numberOf_2 1 rfl rfl)
theorem dX14_numberOf_52 : decode cX14_numberOf 52 = .ok (.iastore, 1) := dk_79 (dk_at dksX14_numberOf_2 4 rfl rfl)
theorem dX14_numberOf_53 : decode cX14_numberOf 53 = .ok (.aload_n 0, 1) := dk_42 (dk_at dksX14_numberOf_2 5 rfl rfl)
theorem dX14_numberOf_54 : decode cX14_numberOf 54 = .ok (.getfield 202, 3) := dk_180 0 202 (dk_at dksX14_numberOf_2 6 rfl rfl)
theorem dX14_numberOf_57 : decode cX14_numberOf 57 = .ok (.iload_n 1, 1) := dk_27 (dk_at dksX14_numberOf_2 9 rfl rfl)
theorem dX14_numberOf_58 : decode cX14_numberOf 58 = .ok (.iaload, 1) := dk_46 (dk_at dksX14_numberOf_2 10 rfl rfl)
theorem dX14_numberOf_59 : decode cX14_numberOf 59 = .ok (.ireturn, 1) := dk_172 (dk_at dksX14_numberOf_2 11 rfl rfl)
abbrev cX14_makeNumber : ByteArray := prog_15_method_37_code
def yX14_makeNumber : MethodName := ⟨RX14, "makeNumber", "(IZ)I"⟩
def dkwX14_makeNumber_11 : List UInt8 := [181, 1, 196, 132, 6, 255, 167, 255, 222, 42, 21, 5, 182, 1, 209, 172]
abbrev dktX14_makeNumber_11 : List UInt8 := dkwX14_makeNumber_11 ++ []
def dkwX14_makeNumber_10 : List UInt8 := [180, 0, 199, 42, 180, 1, 196, 42, 180, 0, 208, 21, 6, 46, 79, 42, 89, 180, 1, 196, 4, 96]
abbrev dktX14_makeNumber_10 : List UInt8 := dkwX14_makeNumber_10 ++ dktX14_makeNumber_11
def dkwX14_makeNumber_9 : List UInt8 := [21, 4, 182, 1, 206, 42, 180, 1, 196, 54, 5, 21, 4, 4, 100, 54, 6, 21, 6, 155, 0, 35, 42]
abbrev dktX14_makeNumber_9 : List UInt8 := dkwX14_makeNumber_9 ++ dktX14_makeNumber_10
def dkwX14_makeNumber_8 : List UInt8 := [21, 6, 21, 7, 17, 0, 255, 126, 79, 21, 7, 16, 8, 122, 54, 5, 132, 6, 1, 167, 255, 210, 42]
abbrev dktX14_makeNumber_8 : List UInt8 := dkwX14_makeNumber_8 ++ dktX14_makeNumber_9
def dkwX14_makeNumber_7 : List UInt8 := [162, 0, 45, 17, 0, 255, 42, 180, 0, 208, 21, 6, 46, 100, 21, 5, 96, 54, 7, 42, 180, 0, 208]
abbrev dktX14_makeNumber_7 : List UInt8 := dkwX14_makeNumber_7 ++ dktX14_makeNumber_8
def dkwX14_makeNumber_6 : List UInt8 := [180, 0, 208, 21, 4, 3, 79, 132, 4, 1, 28, 153, 0, 58, 4, 54, 5, 3, 54, 6, 21, 6, 21, 4]
abbrev dktX14_makeNumber_6 : List UInt8 := dkwX14_makeNumber_6 ++ dktX14_makeNumber_7
def dkwX14_makeNumber_5 : List UInt8 := [158, 0, 15, 42, 180, 0, 208, 21, 4, 21, 6, 79, 132, 4, 1, 132, 5, 1, 167, 255, 162, 42]
abbrev dktX14_makeNumber_5 : List UInt8 := dkwX14_makeNumber_5 ++ dktX14_makeNumber_6
def dkwX14_makeNumber_4 : List UInt8 := [21, 8, 17, 0, 255, 126, 79, 21, 8, 16, 8, 122, 54, 6, 132, 7, 1, 167, 255, 211, 21, 6]
abbrev dktX14_makeNumber_4 : List UInt8 := dkwX14_makeNumber_4 ++ dktX14_makeNumber_5
def dkwX14_makeNumber_3 : List UInt8 := [162, 0, 44, 16, 10, 42, 180, 0, 208, 21, 7, 46, 104, 21, 6, 96, 54, 8, 42, 180, 0, 208, 21, 7]
abbrev dktX14_makeNumber_3 : List UInt8 := dkwX14_makeNumber_3 ++ dktX14_makeNumber_4
def dkwX14_makeNumber_2 : List UInt8 := [162, 0, 89, 42, 180, 0, 30, 21, 5, 46, 16, 48, 100, 54, 6, 3, 54, 7, 21, 7, 21, 4]
abbrev dktX14_makeNumber_2 : List UInt8 := dkwX14_makeNumber_2 ++ dktX14_makeNumber_3
def dkwX14_makeNumber_1 : List UInt8 := [42, 180, 0, 208, 3, 3, 79, 42, 180, 0, 36, 27, 46, 54, 5, 21, 5, 42, 180, 0, 39, 27, 46]
abbrev dktX14_makeNumber_1 : List UInt8 := dkwX14_makeNumber_1 ++ dktX14_makeNumber_2
def dkwX14_makeNumber_0 : List UInt8 := [42, 180, 0, 39, 27, 46, 42, 180, 0, 36, 27, 46, 100, 62, 42, 29, 5, 96, 182, 1, 202, 4, 54, 4]
abbrev dktX14_makeNumber_0 : List UInt8 := dkwX14_makeNumber_0 ++ dktX14_makeNumber_1
theorem dksX14_makeNumber_0 : cX14_makeNumber.data.toList.drop 0 = dktX14_makeNumber_0 := by decide +kernel
theorem dksX14_makeNumber_1 : cX14_makeNumber.data.toList.drop 24 = dktX14_makeNumber_1 := dk_seg dksX14_makeNumber_0 24 rfl rfl
theorem dksX14_makeNumber_2 : cX14_makeNumber.data.toList.drop 47 = dktX14_makeNumber_2 := dk_seg dksX14_makeNumber_1 23 rfl rfl
theorem dksX14_makeNumber_3 : cX14_makeNumber.data.toList.drop 69 = dktX14_makeNumber_3 := dk_seg dksX14_makeNumber_2 22 rfl rfl
theorem dksX14_makeNumber_4 : cX14_makeNumber.data.toList.drop 93 = dktX14_makeNumber_4 := dk_seg dksX14_makeNumber_3 24 rfl rfl
theorem dksX14_makeNumber_5 : cX14_makeNumber.data.toList.drop 115 = dktX14_makeNumber_5 := dk_seg dksX14_makeNumber_4 22 rfl rfl
theorem dksX14_makeNumber_6 : cX14_makeNumber.data.toList.drop 137 = dktX14_makeNumber_6 := dk_seg dksX14_makeNumber_5 22 rfl rfl
theorem dksX14_makeNumber_7 : cX14_makeNumber.data.toList.drop 161 = dktX14_makeNumber_7 := dk_seg dksX14_makeNumber_6 24 rfl rfl
theorem dksX14_makeNumber_8 : cX14_makeNumber.data.toList.drop 184 = dktX14_makeNumber_8 := dk_seg dksX14_makeNumber_7 23 rfl rfl
theorem dksX14_makeNumber_9 : cX14_makeNumber.data.toList.drop 207 = dktX14_makeNumber_9 := dk_seg dksX14_makeNumber_8 23 rfl rfl
theorem dksX14_makeNumber_10 : cX14_makeNumber.data.toList.drop 230 = dktX14_makeNumber_10 := dk_seg dksX14_makeNumber_9 23 rfl rfl
theorem dksX14_makeNumber_11 : cX14_makeNumber.data.toList.drop 252 = dktX14_makeNumber_11 := dk_seg dksX14_makeNumber_10 22 rfl rfl
theorem dX14_makeNumber_0 : decode cX14_makeNumber 0 = .ok (.aload_n 0, 1) := dk_42 (dk_at dksX14_makeNumber_0 0 rfl rfl)
theorem dX14_makeNumber_1 : decode cX14_makeNumber 1 = .ok (.getfield 39, 3) := dk_180 0 39 (dk_at dksX14_makeNumber_0 1 rfl rfl)
theorem dX14_makeNumber_4 : decode cX14_makeNumber 4 = .ok (.iload_n 1, 1) := dk_27 (dk_at dksX14_makeNumber_0 4 rfl rfl)
theorem dX14_makeNumber_5 : decode cX14_makeNumber 5 = .ok (.iaload, 1) := dk_46 (dk_at dksX14_makeNumber_0 5 rfl rfl)
theorem dX14_makeNumber_6 : decode cX14_makeNumber 6 = .ok (.aload_n 0, 1) := dk_42 (dk_at dksX14_makeNumber_0 6 rfl rfl)
theorem dX14_makeNumber_7 : decode cX14_makeNumber 7 = .ok (.getfield 36, 3) := dk_180 0 36 (dk_at dksX14_makeNumber_0 7 rfl rfl)
theorem dX14_makeNumber_10 : decode cX14_makeNumber 10 = .ok (.iload_n 1, 1) := dk_27 (dk_at dksX14_makeNumber_0 10 rfl rfl)
theorem dX14_makeNumber_11 : decode cX14_makeNumber 11 = .ok (.iaload, 1) := dk_46 (dk_at dksX14_makeNumber_0 11 rfl rfl)
theorem dX14_makeNumber_12 : decode cX14_makeNumber 12 = .ok (.isub, 1) := dk_100 (dk_at dksX14_makeNumber_0 12 rfl rfl)
theorem dX14_makeNumber_13 : decode cX14_makeNumber 13 = .ok (.istore_n 3, 1) := dk_62 (dk_at dksX14_makeNumber_0 13 rfl rfl)
theorem dX14_makeNumber_14 : decode cX14_makeNumber 14 = .ok (.aload_n 0, 1) := dk_42 (dk_at dksX14_makeNumber_0 14 rfl rfl)
theorem dX14_makeNumber_15 : decode cX14_makeNumber 15 = .ok (.iload_n 3, 1) := dk_29 (dk_at dksX14_makeNumber_0 15 rfl rfl)
theorem dX14_makeNumber_16 : decode cX14_makeNumber 16 = .ok (.iconst 2, 1) := dk_5 (dk_at dksX14_makeNumber_0 16 rfl rfl)
theorem dX14_makeNumber_17 : decode cX14_makeNumber 17 = .ok (.iadd, 1) := dk_96 (dk_at dksX14_makeNumber_0 17 rfl rfl)
theorem dX14_makeNumber_18 : decode cX14_makeNumber 18 = .ok (.invokevirtual 458, 3) := dk_182 1 202 (dk_at dksX14_makeNumber_0 18 rfl rfl)
theorem dX14_makeNumber_21 : decode cX14_makeNumber 21 = .ok (.iconst 1, 1) := dk_4 (dk_at dksX14_makeNumber_0 21 rfl rfl)
theorem dX14_makeNumber_22 : decode cX14_makeNumber 22 = .ok (.istore 4, 2) := dk_54 4 (dk_at dksX14_makeNumber_0 22 rfl rfl)
theorem dX14_makeNumber_24 : decode cX14_makeNumber 24 = .ok (.aload_n 0, 1) := dk_42 (dk_at dksX14_makeNumber_1 0 rfl rfl)
theorem dX14_makeNumber_25 : decode cX14_makeNumber 25 = .ok (.getfield 208, 3) := dk_180 0 208 (dk_at dksX14_makeNumber_1 1 rfl rfl)
theorem dX14_makeNumber_28 : decode cX14_makeNumber 28 = .ok (.iconst 0, 1) := dk_3 (dk_at dksX14_makeNumber_1 4 rfl rfl)
theorem dX14_makeNumber_29 : decode cX14_makeNumber 29 = .ok (.iconst 0, 1) := dk_3 (dk_at dksX14_makeNumber_1 5 rfl rfl)
theorem dX14_makeNumber_30 : decode cX14_makeNumber 30 = .ok (.iastore, 1) := dk_79 (dk_at dksX14_makeNumber_1 6 rfl rfl)
theorem dX14_makeNumber_31 : decode cX14_makeNumber 31 = .ok (.aload_n 0, 1) := dk_42 (dk_at dksX14_makeNumber_1 7 rfl rfl)
theorem dX14_makeNumber_32 : decode cX14_makeNumber 32 = .ok (.getfield 36, 3) := dk_180 0 36 (dk_at dksX14_makeNumber_1 8 rfl rfl)
theorem dX14_makeNumber_35 : decode cX14_makeNumber 35 = .ok (.iload_n 1, 1) := dk_27 (dk_at dksX14_makeNumber_1 11 rfl rfl)
theorem dX14_makeNumber_36 : decode cX14_makeNumber 36 = .ok (.iaload, 1) := dk_46 (dk_at dksX14_makeNumber_1 12 rfl rfl)
theorem dX14_makeNumber_37 : decode cX14_makeNumber 37 = .ok (.istore 5, 2) := dk_54 5 (dk_at dksX14_makeNumber_1 13 rfl rfl)
theorem dX14_makeNumber_39 : decode cX14_makeNumber 39 = .ok (.iload 5, 2) := dk_21 5 (dk_at dksX14_makeNumber_1 15 rfl rfl)
theorem dX14_makeNumber_41 : decode cX14_makeNumber 41 = .ok (.aload_n 0, 1) := dk_42 (dk_at dksX14_makeNumber_1 17 rfl rfl)
theorem dX14_makeNumber_42 : decode cX14_makeNumber 42 = .ok (.getfield 39, 3) := dk_180 0 39 (dk_at dksX14_makeNumber_1 18 rfl rfl)
theorem dX14_makeNumber_45 : decode cX14_makeNumber 45 = .ok (.iload_n 1, 1) := dk_27 (dk_at dksX14_makeNumber_1 21 rfl rfl)
theorem dX14_makeNumber_46 : decode cX14_makeNumber 46 = .ok (.iaload, 1) := dk_46 (dk_at dksX14_makeNumber_1 22 rfl rfl)
theorem dX14_makeNumber_47 : decode cX14_makeNumber 47 = .ok (.if_icmp .ge 89, 3) := dk_162 0 89 (dk_at dksX14_makeNumber_2 0 rfl rfl)
theorem dX14_makeNumber_50 : decode cX14_makeNumber 50 = .ok (.aload_n 0, 1) := dk_42 (dk_at dksX14_makeNumber_2 3 rfl rfl)
theorem dX14_makeNumber_51 : decode cX14_makeNumber 51 = .ok (.getfield 30, 3) := dk_180 0 30 (dk_at dksX14_makeNumber_2 4 rfl rfl)
theorem dX14_makeNumber_54 : decode cX14_makeNumber 54 = .ok (.iload 5, 2) := dk_21 5 (dk_at dksX14_makeNumber_2 7 rfl rfl)
theorem dX14_makeNumber_56 : decode cX14_makeNumber 56 = .ok (.iaload, 1) := dk_46 (dk_at dksX14_makeNumber_2 9 rfl rfl)
theorem dX14_makeNumber_57 : decode cX14_makeNumber 57 = .ok (.bipush 48, 2) := dk_16 48 (dk_at dksX14_makeNumber_2 10 rfl rfl)
theorem dX14_makeNumber_59 : decode cX14_makeNumber 59 = .ok (.isub, 1) := dk_100 (dk_at dksX14_makeNumber_2 12 rfl rfl)
theorem dX14_makeNumber_60 : decode cX14_makeNumber 60 = .ok (.istore 6, 2) := dk_54 6 (dk_at dksX14_makeNumber_2 13 rfl rfl)
theorem dX14_makeNumber_62 : decode cX14_makeNumber 62 = .ok (.iconst 0, 1) := dk_3 (dk_at dksX14_makeNumber_2 15 rfl rfl)
theorem dX14_makeNumber_63 : decode cX14_makeNumber 63 = .ok (.istore 7, 2) := dk_54 7 (dk_at dksX14_makeNumber_2 16 rfl rfl)
theorem dX14_makeNumber_65 : decode cX14_makeNumber 65 = .ok (.iload 7, 2) := dk_21 7 (dk_at dksX14_makeNumber_2 18 rfl rfl)
theorem dX14_makeNumber_67 : decode cX14_makeNumber 67 = .ok (.iload 4, 2) := dk_21 4 (dk_at dksX14_makeNumber_2 20 rfl rfl)
theorem dX14_makeNumber_69 : decode cX14_makeNumber 69 = .ok (.if_icmp .ge 44, 3) := dk_162 0 44 (dk_at dksX14_makeNumber_3 0 rfl rfl)
theorem dX14_makeNumber_72 : decode cX14_makeNumber 72 = .ok (.bipush 10, 2) := dk_16 10 (dk_at dksX14_makeNumber_3 3 rfl rfl)
theorem dX14_makeNumber_74 : decode cX14_makeNumber 74 = .ok (.aload_n 0, 1) := dk_42 (dk_at dksX14_makeNumber_3 5 rfl rfl)
theorem dX14_makeNumber_75 : decode cX14_makeNumber 75 = .ok (.getfield 208, 3) := dk_180 0 208 (dk_at dksX14_makeNumber_3 6 rfl rfl)
theorem dX14_makeNumber_78 : decode cX14_makeNumber 78 = .ok (.iload 7, 2) := dk_21 7 (dk_at dksX14_makeNumber_3 9 rfl rfl)
theorem dX14_makeNumber_80 : decode cX14_makeNumber 80 = .ok (.iaload, 1) := dk_46 (dk_at dksX14_makeNumber_3 11 rfl rfl)
theorem dX14_makeNumber_81 : decode cX14_makeNumber 81 = .ok (.imul, 1) := dk_104 (dk_at dksX14_makeNumber_3 12 rfl rfl)
theorem dX14_makeNumber_82 : decode cX14_makeNumber 82 = .ok (.iload 6, 2) := dk_21 6 (dk_at dksX14_makeNumber_3 13 rfl rfl)
theorem dX14_makeNumber_84 : decode cX14_makeNumber 84 = .ok (.iadd, 1) := dk_96 (dk_at dksX14_makeNumber_3 15 rfl rfl)
theorem dX14_makeNumber_85 : decode cX14_makeNumber 85 = .ok (.istore 8, 2) := dk_54 8 (dk_at dksX14_makeNumber_3 16 rfl rfl)
theorem dX14_makeNumber_87 : decode cX14_makeNumber 87 = .ok (.aload_n 0, 1) := dk_42 (dk_at dksX14_makeNumber_3 18 rfl rfl)
theorem dX14_makeNumber_88 : decode cX14_makeNumber 88 = .ok (.getfield 208, 3) := dk_180 0 208 (dk_at dksX14_makeNumber_3 19 rfl rfl)
theorem dX14_makeNumber_91 : decode cX14_makeNumber 91 = .ok (.iload 7, 2) := dk_21 7 (dk_at dksX14_makeNumber_3 22 rfl rfl)
theorem dX14_makeNumber_93 : decode cX14_makeNumber 93 = .ok (.iload 8, 2) := dk_21 8 (dk_at dksX14_makeNumber_4 0 rfl rfl)
theorem dX14_makeNumber_95 : decode cX14_makeNumber 95 = .ok (.sipush 255, 3) := dk_17 0 255 (dk_at dksX14_makeNumber_4 2 rfl rfl)
theorem dX14_makeNumber_98 : decode cX14_makeNumber 98 = .ok (.iand, 1) := dk_126 (dk_at dksX14_makeNumber_4 5 rfl rfl)
theorem dX14_makeNumber_99 : decode cX14_makeNumber 99 = .ok (.iastore, 1) := dk_79 (dk_at dksX14_makeNumber_4 6 rfl rfl)
theorem dX14_makeNumber_100 : decode cX14_makeNumber 100 = .ok (.iload 8, 2) := dk_21 8 (dk_at dksX14_makeNumber_4 7 rfl rfl)
theorem dX14_makeNumber_102 : decode cX14_makeNumber 102 = .ok (.bipush 8, 2) := dk_16 8 (dk_at dksX14_makeNumber_4 9 rfl rfl)
theorem dX14_makeNumber_104 : decode cX14_makeNumber 104 = .ok (.ishr, 1) := dk_122 (dk_at dksX14_makeNumber_4 11 rfl rfl)
theorem dX14_makeNumber_105 : decode cX14_makeNumber 105 = .ok (.istore 6, 2) := dk_54 6 (dk_at dksX14_makeNumber_4 12 rfl rfl)
theorem dX14_makeNumber_107 : decode cX14_makeNumber 107 = .ok (.iinc 7 1, 3) := dk_132 7 1 (dk_at dksX14_makeNumber_4 14 rfl rfl)
theorem dX14_makeNumber_110 : decode cX14_makeNumber 110 = .ok (.goto (-45), 3) := dk_167 255 211 (dk_at dksX14_makeNumber_4 17 rfl rfl)
theorem dX14_makeNumber_113 : decode cX14_makeNumber 113 = .ok (.iload 6, 2) := dk_21 6 (dk_at dksX14_makeNumber_4 20 rfl rfl)
theorem dX14_makeNumber_115 : decode cX14_makeNumber 115 = .ok (.ifCond .le 15, 3) := dk_158 0 15 (dk_at dksX14_makeNumber_5 0 rfl rfl)
theorem dX14_makeNumber_118 : decode cX14_makeNumber 118 = .ok (.aload_n 0, 1) := dk_42 (dk_at dksX14_makeNumber_5 3 rfl rfl)
theorem dX14_makeNumber_119 : decode cX14_makeNumber 119 = .ok (.getfield 208, 3) := dk_180 0 208 (dk_at dksX14_makeNumber_5 4 rfl rfl)
theorem dX14_makeNumber_122 : decode cX14_makeNumber 122 = .ok (.iload 4, 2) := dk_21 4 (dk_at dksX14_makeNumber_5 7 rfl rfl)
theorem dX14_makeNumber_124 : decode cX14_makeNumber 124 = .ok (.iload 6, 2) := dk_21 6 (dk_at dksX14_makeNumber_5 9 rfl rfl)
theorem dX14_makeNumber_126 : decode cX14_makeNumber 126 = .ok (.iastore, 1) := dk_79 (dk_at dksX14_makeNumber_5 11 rfl rfl)
theorem dX14_makeNumber_127 : decode cX14_makeNumber 127 = .ok (.iinc 4 1, 3) := dk_132 4 1 (dk_at dksX14_makeNumber_5 12 rfl rfl)
theorem dX14_makeNumber_130 : decode cX14_makeNumber 130 = .ok (.iinc 5 1, 3) := dk_132 5 1 (dk_at dksX14_makeNumber_5 15 rfl rfl)
theorem dX14_makeNumber_133 : decode cX14_makeNumber 133 = .ok (.goto (-94), 3) := dk_167 255 162 (dk_at dksX14_makeNumber_5 18 rfl rfl)
theorem dX14_makeNumber_136 : decode cX14_makeNumber 136 = .ok (.aload_n 0, 1) := dk_42 (dk_at dksX14_makeNumber_5 21 rfl rfl)
theorem dX14_makeNumber_137 : decode cX14_makeNumber 137 = .ok (.getfield 208, 3) := dk_180 0 208 (dk_at dksX14_makeNumber_6 0 rfl rfl)
theorem dX14_makeNumber_140 : decode cX14_makeNumber 140 = .ok (.iload 4, 2) := dk_21 4 (dk_at dksX14_makeNumber_6 3 rfl rfl)
theorem dX14_makeNumber_142 : decode cX14_makeNumber 142 = .ok (.iconst 0, 1) := dk_3 (dk_at dksX14_makeNumber_6 5 rfl rfl)
theorem dX14_makeNumber_143 : decode cX14_makeNumber 143 = .ok (.iastore, 1) := dk_79 (dk_at dksX14_makeNumber_6 6 rfl rfl)
theorem dX14_makeNumber_144 : decode cX14_makeNumber 144 = .ok (.iinc 4 1, 3) := dk_132 4 1 (dk_at dksX14_makeNumber_6 7 rfl rfl)
theorem dX14_makeNumber_147 : decode cX14_makeNumber 147 = .ok (.iload_n 2, 1) := dk_28 (dk_at dksX14_makeNumber_6 10 rfl rfl)
theorem dX14_makeNumber_148 : decode cX14_makeNumber 148 = .ok (.ifCond .eq 58, 3) := dk_153 0 58 (dk_at dksX14_makeNumber_6 11 rfl rfl)
theorem dX14_makeNumber_151 : decode cX14_makeNumber 151 = .ok (.iconst 1, 1) := dk_4 (dk_at dksX14_makeNumber_6 14 rfl rfl)
theorem dX14_makeNumber_152 : decode cX14_makeNumber 152 = .ok (.istore 5, 2) := dk_54 5 (dk_at dksX14_makeNumber_6 15 rfl rfl)
theorem dX14_makeNumber_154 : decode cX14_makeNumber 154 = .ok (.iconst 0, 1) := dk_3 (dk_at dksX14_makeNumber_6 17 rfl rfl)
theorem dX14_makeNumber_155 : decode cX14_makeNumber 155 = .ok (.istore 6, 2) := dk_54 6 (dk_at dksX14_makeNumber_6 18 rfl rfl)
theorem dX14_makeNumber_157 : decode cX14_makeNumber 157 = .ok (.iload 6, 2) := dk_21 6 (dk_at dksX14_makeNumber_6 20 rfl rfl)
theorem dX14_makeNumber_159 : decode cX14_makeNumber 159 = .ok (.iload 4, 2) := dk_21 4 (dk_at dksX14_makeNumber_6 22 rfl rfl)
theorem dX14_makeNumber_161 : decode cX14_makeNumber 161 = .ok (.if_icmp .ge 45, 3) := dk_162 0 45 (dk_at dksX14_makeNumber_7 0 rfl rfl)
theorem dX14_makeNumber_164 : decode cX14_makeNumber 164 = .ok (.sipush 255, 3) := dk_17 0 255 (dk_at dksX14_makeNumber_7 3 rfl rfl)
theorem dX14_makeNumber_167 : decode cX14_makeNumber 167 = .ok (.aload_n 0, 1) := dk_42 (dk_at dksX14_makeNumber_7 6 rfl rfl)
theorem dX14_makeNumber_168 : decode cX14_makeNumber 168 = .ok (.getfield 208, 3) := dk_180 0 208 (dk_at dksX14_makeNumber_7 7 rfl rfl)
theorem dX14_makeNumber_171 : decode cX14_makeNumber 171 = .ok (.iload 6, 2) := dk_21 6 (dk_at dksX14_makeNumber_7 10 rfl rfl)
theorem dX14_makeNumber_173 : decode cX14_makeNumber 173 = .ok (.iaload, 1) := dk_46 (dk_at dksX14_makeNumber_7 12 rfl rfl)
theorem dX14_makeNumber_174 : decode cX14_makeNumber 174 = .ok (.isub, 1) := dk_100 (dk_at dksX14_makeNumber_7 13 rfl rfl)
theorem dX14_makeNumber_175 : decode cX14_makeNumber 175 = .ok (.iload 5, 2) := dk_21 5 (dk_at dksX14_makeNumber_7 14 rfl rfl)
theorem dX14_makeNumber_177 : decode cX14_makeNumber 177 = .ok (.iadd, 1) := dk_96 (dk_at dksX14_makeNumber_7 16 rfl rfl)
theorem dX14_makeNumber_178 : decode cX14_makeNumber 178 = .ok (.istore 7, 2) := dk_54 7 (dk_at dksX14_makeNumber_7 17 rfl rfl)
theorem dX14_makeNumber_180 : decode cX14_makeNumber 180 = .ok (.aload_n 0, 1) := dk_42 (dk_at dksX14_makeNumber_7 19 rfl rfl)
theorem dX14_makeNumber_181 : decode cX14_makeNumber 181 = .ok (.getfield 208, 3) := dk_180 0 208 (dk_at dksX14_makeNumber_7 20 rfl rfl)
theorem dX14_makeNumber_184 : decode cX14_makeNumber 184 = .ok (.iload 6, 2) := dk_21 6 (dk_at dksX14_makeNumber_8 0 rfl rfl)
theorem dX14_makeNumber_186 : decode cX14_makeNumber 186 = .ok (.iload 7, 2) := dk_21 7 (dk_at dksX14_makeNumber_8 2 rfl rfl)
theorem dX14_makeNumber_188 : decode cX14_makeNumber 188 = .ok (.sipush 255, 3) := dk_17 0 255 (dk_at dksX14_makeNumber_8 4 rfl rfl)
theorem dX14_makeNumber_191 : decode cX14_makeNumber 191 = .ok (.iand, 1) := dk_126 (dk_at dksX14_makeNumber_8 7 rfl rfl)
theorem dX14_makeNumber_192 : decode cX14_makeNumber 192 = .ok (.iastore, 1) := dk_79 (dk_at dksX14_makeNumber_8 8 rfl rfl)
theorem dX14_makeNumber_193 : decode cX14_makeNumber 193 = .ok (.iload 7, 2) := dk_21 7 (dk_at dksX14_makeNumber_8 9 rfl rfl)
theorem dX14_makeNumber_195 : decode cX14_makeNumber 195 = .ok (.bipush 8, 2) := dk_16 8 (dk_at dksX14_makeNumber_8 11 rfl rfl)
theorem dX14_makeNumber_197 : decode cX14_makeNumber 197 = .ok (.ishr, 1) := dk_122 (dk_at dksX14_makeNumber_8 13 rfl rfl)
theorem dX14_makeNumber_198 : decode cX14_makeNumber 198 = .ok (.istore 5, 2) := dk_54 5 (dk_at dksX14_makeNumber_8 14 rfl rfl)
theorem dX14_makeNumber_200 : decode cX14_makeNumber 200 = .ok (.iinc 6 1, 3) := dk_132 6 1 (dk_at dksX14_makeNumber_8 16 rfl rfl)
theorem dX14_makeNumber_203 : decode cX14_makeNumber 203 = .ok (.goto (-46), 3) := dk_167 255 210 (dk_at dksX14_makeNumber_8 19 rfl rfl)
theorem dX14_makeNumber_206 : decode cX14_makeNumber 206 = .ok (.aload_n 0, 1) := dk_42 (dk_at dksX14_makeNumber_8 22 rfl rfl)
theorem dX14_makeNumber_207 : decode cX14_makeNumber 207 = .ok (.iload 4, 2) := dk_21 4 (dk_at dksX14_makeNumber_9 0 rfl rfl)
theorem dX14_makeNumber_209 : decode cX14_makeNumber 209 = .ok (.invokevirtual 462, 3) := dk_182 1 206 (dk_at dksX14_makeNumber_9 2 rfl rfl)
theorem dX14_makeNumber_212 : decode cX14_makeNumber 212 = .ok (.aload_n 0, 1) := dk_42 (dk_at dksX14_makeNumber_9 5 rfl rfl)
theorem dX14_makeNumber_213 : decode cX14_makeNumber 213 = .ok (.getfield 452, 3) := dk_180 1 196 (dk_at dksX14_makeNumber_9 6 rfl rfl)
theorem dX14_makeNumber_216 : decode cX14_makeNumber 216 = .ok (.istore 5, 2) := dk_54 5 (dk_at dksX14_makeNumber_9 9 rfl rfl)
theorem dX14_makeNumber_218 : decode cX14_makeNumber 218 = .ok (.iload 4, 2) := dk_21 4 (dk_at dksX14_makeNumber_9 11 rfl rfl)
theorem dX14_makeNumber_220 : decode cX14_makeNumber 220 = .ok (.iconst 1, 1) := dk_4 (dk_at dksX14_makeNumber_9 13 rfl rfl)
theorem dX14_makeNumber_221 : decode cX14_makeNumber 221 = .ok (.isub, 1) := dk_100 (dk_at dksX14_makeNumber_9 14 rfl rfl)
theorem dX14_makeNumber_222 : decode cX14_makeNumber 222 = .ok (.istore 6, 2) := dk_54 6 (dk_at dksX14_makeNumber_9 15 rfl rfl)
theorem dX14_makeNumber_224 : decode cX14_makeNumber 224 = .ok (.iload 6, 2) := dk_21 6 (dk_at dksX14_makeNumber_9 17 rfl rfl)
theorem dX14_makeNumber_226 : decode cX14_makeNumber 226 = .ok (.ifCond .lt 35, 3) := dk_155 0 35 (dk_at dksX14_makeNumber_9 19 rfl rfl)
theorem dX14_makeNumber_229 : decode cX14_makeNumber 229 = .ok (.aload_n 0, 1) := dk_42 (dk_at dksX14_makeNumber_9 22 rfl rfl)
theorem dX14_makeNumber_230 : decode cX14_makeNumber 230 = .ok (.getfield 199, 3) := dk_180 0 199 (dk_at dksX14_makeNumber_10 0 rfl rfl)
theorem dX14_makeNumber_233 : decode cX14_makeNumber 233 = .ok (.aload_n 0, 1) := dk_42 (dk_at dksX14_makeNumber_10 3 rfl rfl)
theorem dX14_makeNumber_234 : decode cX14_makeNumber 234 = .ok (.getfield 452, 3) := dk_180 1 196 (dk_at dksX14_makeNumber_10 4 rfl rfl)
theorem dX14_makeNumber_237 : decode cX14_makeNumber 237 = .ok (.aload_n 0, 1) := dk_42 (dk_at dksX14_makeNumber_10 7 rfl rfl)
theorem dX14_makeNumber_238 : decode cX14_makeNumber 238 = .ok (.getfield 208, 3) := dk_180 0 208 (dk_at dksX14_makeNumber_10 8 rfl rfl)
theorem dX14_makeNumber_241 : decode cX14_makeNumber 241 = .ok (.iload 6, 2) := dk_21 6 (dk_at dksX14_makeNumber_10 11 rfl rfl)
theorem dX14_makeNumber_243 : decode cX14_makeNumber 243 = .ok (.iaload, 1) := dk_46 (dk_at dksX14_makeNumber_10 13 rfl rfl)
theorem dX14_makeNumber_244 : decode cX14_makeNumber 244 = .ok (.iastore, 1) := dk_79 (dk_at dksX14_makeNumber_10 14 rfl rfl)
theorem dX14_makeNumber_245 : decode cX14_makeNumber 245 = .ok (.aload_n 0, 1) := dk_42 (dk_at dksX14_makeNumber_10 15 rfl rfl)
theorem dX14_makeNumber_246 : decode cX14_makeNumber 246 = .ok (.dup, 1) := dk_89 (dk_at dksX14_makeNumber_10 16 rfl rfl)
theorem dX14_makeNumber_247 : decode cX14_makeNumber 247 = .ok (.getfield 452, 3) := dk_180 1 196 (dk_at dksX14_makeNumber_10 17 rfl rfl)
theorem dX14_makeNumber_250 : decode cX14_makeNumber 250 = .ok (.iconst 1, 1) := dk_4 (dk_at dksX14_makeNumber_10 20 rfl rfl)
theorem dX14_makeNumber_251 : decode cX14_makeNumber 251 = .ok (.iadd, 1) := dk_96 (dk_at dksX14_makeNumber_10 21 rfl rfl)
theorem dX14_makeNumber_252 : decode cX14_makeNumber 252 = .ok (.putfield 452, 3) := dk_181 1 196 (dk_at dksX14_makeNumber_11 0 rfl rfl)
theorem dX14_makeNumber_255 : decode cX14_makeNumber 255 = .ok (.iinc 6 (-1), 3) := dk_132 6 255 (dk_at dksX14_makeNumber_11 3 rfl rfl)
theorem dX14_makeNumber_258 : decode cX14_makeNumber 258 = .ok (.goto (-34), 3) := dk_167 255 222 (dk_at dksX14_makeNumber_11 6 rfl rfl)
theorem dX14_makeNumber_261 : decode cX14_makeNumber 261 = .ok (.aload_n 0, 1) := dk_42 (dk_at dksX14_makeNumber_11 9 rfl rfl)
theorem dX14_makeNumber_262 : decode cX14_makeNumber 262 = .ok (.iload 5, 2) := dk_21 5 (dk_at dksX14_makeNumber_11 10 rfl rfl)
theorem dX14_makeNumber_264 : decode cX14_makeNumber 264 = .ok (.invokevirtual 465, 3) := dk_182 1 209 (dk_at dksX14_makeNumber_11 12 rfl rfl)
theorem dX14_makeNumber_267 : decode cX14_makeNumber 267 = .ok (.ireturn, 1) := dk_172 (dk_at dksX14_makeNumber_11 15 rfl rfl)
abbrev cX14_roomForDigits : ByteArray := prog_15_method_35_code
def yX14_roomForDigits : MethodName := ⟨RX14, "roomForDigits", "(I)V"⟩
def dkwX14_roomForDigits_0 : List UInt8 := [27, 42, 180, 0, 208, 190, 163, 0, 4, 177, 42, 5, 27, 104, 188, 10, 181, 0, 208, 177]
abbrev dktX14_roomForDigits_0 : List UInt8 := dkwX14_roomForDigits_0 ++ []
theorem dksX14_roomForDigits_0 : cX14_roomForDigits.data.toList.drop 0 = dktX14_roomForDigits_0 := by decide +kernel
theorem dX14_roomForDigits_0 : decode cX14_roomForDigits 0 = .ok (.iload_n 1, 1) := dk_27 (dk_at dksX14_roomForDigits_0 0 rfl rfl)
theorem dX14_roomForDigits_1 : decode cX14_roomForDigits 1 = .ok (.aload_n 0, 1) := dk_42 (dk_at dksX14_roomForDigits_0 1 rfl rfl)
theorem dX14_roomForDigits_2 : decode cX14_roomForDigits 2 = .ok (.getfield 208, 3) := dk_180 0 208 (dk_at dksX14_roomForDigits_0 2 rfl rfl)
theorem dX14_roomForDigits_5 : decode cX14_roomForDigits 5 = .ok (.arraylength, 1) := dk_190 (dk_at dksX14_roomForDigits_0 5 rfl rfl)
theorem dX14_roomForDigits_6 : decode cX14_roomForDigits 6 = .ok (.if_icmp .gt 4, 3) := dk_163 0 4 (dk_at dksX14_roomForDigits_0 6 rfl rfl)
theorem dX14_roomForDigits_9 : decode cX14_roomForDigits 9 = .ok (.return_, 1) := dk_177 (dk_at dksX14_roomForDigits_0 9 rfl rfl)
theorem dX14_roomForDigits_10 : decode cX14_roomForDigits 10 = .ok (.aload_n 0, 1) := dk_42 (dk_at dksX14_roomForDigits_0 10 rfl rfl)
theorem dX14_roomForDigits_11 : decode cX14_roomForDigits 11 = .ok (.iconst 2, 1) := dk_5 (dk_at dksX14_roomForDigits_0 11 rfl rfl)
theorem dX14_roomForDigits_12 : decode cX14_roomForDigits 12 = .ok (.iload_n 1, 1) := dk_27 (dk_at dksX14_roomForDigits_0 12 rfl rfl)
theorem dX14_roomForDigits_13 : decode cX14_roomForDigits 13 = .ok (.imul, 1) := dk_104 (dk_at dksX14_roomForDigits_0 13 rfl rfl)
theorem dX14_roomForDigits_14 : decode cX14_roomForDigits 14 = .ok (.newarray .int, 2) := dk_188_10 (dk_at dksX14_roomForDigits_0 14 rfl rfl)
theorem dX14_roomForDigits_16 : decode cX14_roomForDigits 16 = .ok (.putfield 208, 3) := dk_181 0 208 (dk_at dksX14_roomForDigits_0 16 rfl rfl)
theorem dX14_roomForDigits_19 : decode cX14_roomForDigits 19 = .ok (.return_, 1) := dk_177 (dk_at dksX14_roomForDigits_0 19 rfl rfl)
abbrev cX14_roomForBytes : ByteArray := prog_15_method_34_code
def yX14_roomForBytes : MethodName := ⟨RX14, "roomForBytes", "(I)V"⟩
def dkwX14_roomForBytes_2 : List UInt8 := [181, 0, 199, 177]
abbrev dktX14_roomForBytes_2 : List UInt8 := dkwX14_roomForBytes_2 ++ []
def dkwX14_roomForBytes_1 : List UInt8 := [180, 1, 196, 27, 96, 162, 0, 10, 5, 28, 104, 61, 167, 255, 242, 42, 42, 180, 0, 199, 28, 184, 1, 120]
abbrev dktX14_roomForBytes_1 : List UInt8 := dkwX14_roomForBytes_1 ++ dktX14_roomForBytes_2
def dkwX14_roomForBytes_0 : List UInt8 := [42, 180, 1, 196, 27, 96, 42, 180, 0, 199, 190, 163, 0, 4, 177, 42, 180, 0, 199, 190, 61, 28, 42]
abbrev dktX14_roomForBytes_0 : List UInt8 := dkwX14_roomForBytes_0 ++ dktX14_roomForBytes_1
theorem dksX14_roomForBytes_0 : cX14_roomForBytes.data.toList.drop 0 = dktX14_roomForBytes_0 := by decide +kernel
theorem dksX14_roomForBytes_1 : cX14_roomForBytes.data.toList.drop 23 = dktX14_roomForBytes_1 := dk_seg dksX14_roomForBytes_0 23 rfl rfl
theorem dksX14_roomForBytes_2 : cX14_roomForBytes.data.toList.drop 47 = dktX14_roomForBytes_2 := dk_seg dksX14_roomForBytes_1 24 rfl rfl
theorem dX14_roomForBytes_0 : decode cX14_roomForBytes 0 = .ok (.aload_n 0, 1) := dk_42 (dk_at dksX14_roomForBytes_0 0 rfl rfl)
theorem dX14_roomForBytes_1 : decode cX14_roomForBytes 1 = .ok (.getfield 452, 3) := dk_180 1 196 (dk_at dksX14_roomForBytes_0 1 rfl rfl)
theorem dX14_roomForBytes_4 : decode cX14_roomForBytes 4 = .ok (.iload_n 1, 1) := dk_27 (dk_at dksX14_roomForBytes_0 4 rfl rfl)
theorem dX14_roomForBytes_5 : decode cX14_roomForBytes 5 = .ok (.iadd, 1) := dk_96 (dk_at dksX14_roomForBytes_0 5 rfl rfl)
theorem dX14_roomForBytes_6 : decode cX14_roomForBytes 6 = .ok (.aload_n 0, 1) := dk_42 (dk_at dksX14_roomForBytes_0 6 rfl rfl)
theorem dX14_roomForBytes_7 : decode cX14_roomForBytes 7 = .ok (.getfield 199, 3) := dk_180 0 199 (dk_at dksX14_roomForBytes_0 7 rfl rfl)
theorem dX14_roomForBytes_10 : decode cX14_roomForBytes 10 = .ok (.arraylength, 1) := dk_190 (dk_at dksX14_roomForBytes_0 10 rfl rfl)
theorem dX14_roomForBytes_11 : decode cX14_roomForBytes 11 = .ok (.if_icmp .gt 4, 3) := dk_163 0 4 (dk_at dksX14_roomForBytes_0 11 rfl rfl)
theorem dX14_roomForBytes_14 : decode cX14_roomForBytes 14 = .ok (.return_, 1) := dk_177 (dk_at dksX14_roomForBytes_0 14 rfl rfl)
theorem dX14_roomForBytes_15 : decode cX14_roomForBytes 15 = .ok (.aload_n 0, 1) := dk_42 (dk_at dksX14_roomForBytes_0 15 rfl rfl)
theorem dX14_roomForBytes_16 : decode cX14_roomForBytes 16 = .ok (.getfield 199, 3) := dk_180 0 199 (dk_at dksX14_roomForBytes_0 16 rfl rfl)
theorem dX14_roomForBytes_19 : decode cX14_roomForBytes 19 = .ok (.arraylength, 1) := dk_190 (dk_at dksX14_roomForBytes_0 19 rfl rfl)
theorem dX14_roomForBytes_20 : decode cX14_roomForBytes 20 = .ok (.istore_n 2, 1) := dk_61 (dk_at dksX14_roomForBytes_0 20 rfl rfl)
theorem dX14_roomForBytes_21 : decode cX14_roomForBytes 21 = .ok (.iload_n 2, 1) := dk_28 (dk_at dksX14_roomForBytes_0 21 rfl rfl)
theorem dX14_roomForBytes_22 : decode cX14_roomForBytes 22 = .ok (.aload_n 0, 1) := dk_42 (dk_at dksX14_roomForBytes_0 22 rfl rfl)
theorem dX14_roomForBytes_23 : decode cX14_roomForBytes 23 = .ok (.getfield 452, 3) := dk_180 1 196 (dk_at dksX14_roomForBytes_1 0 rfl rfl)
theorem dX14_roomForBytes_26 : decode cX14_roomForBytes 26 = .ok (.iload_n 1, 1) := dk_27 (dk_at dksX14_roomForBytes_1 3 rfl rfl)
theorem dX14_roomForBytes_27 : decode cX14_roomForBytes 27 = .ok (.iadd, 1) := dk_96 (dk_at dksX14_roomForBytes_1 4 rfl rfl)
theorem dX14_roomForBytes_28 : decode cX14_roomForBytes 28 = .ok (.if_icmp .ge 10, 3) := dk_162 0 10 (dk_at dksX14_roomForBytes_1 5 rfl rfl)
theorem dX14_roomForBytes_31 : decode cX14_roomForBytes 31 = .ok (.iconst 2, 1) := dk_5 (dk_at dksX14_roomForBytes_1 8 rfl rfl)
theorem dX14_roomForBytes_32 : decode cX14_roomForBytes 32 = .ok (.iload_n 2, 1) := dk_28 (dk_at dksX14_roomForBytes_1 9 rfl rfl)
theorem dX14_roomForBytes_33 : decode cX14_roomForBytes 33 = .ok (.imul, 1) := dk_104 (dk_at dksX14_roomForBytes_1 10 rfl rfl)
theorem dX14_roomForBytes_34 : decode cX14_roomForBytes 34 = .ok (.istore_n 2, 1) := dk_61 (dk_at dksX14_roomForBytes_1 11 rfl rfl)
theorem dX14_roomForBytes_35 : decode cX14_roomForBytes 35 = .ok (.goto (-14), 3) := dk_167 255 242 (dk_at dksX14_roomForBytes_1 12 rfl rfl)
theorem dX14_roomForBytes_38 : decode cX14_roomForBytes 38 = .ok (.aload_n 0, 1) := dk_42 (dk_at dksX14_roomForBytes_1 15 rfl rfl)
theorem dX14_roomForBytes_39 : decode cX14_roomForBytes 39 = .ok (.aload_n 0, 1) := dk_42 (dk_at dksX14_roomForBytes_1 16 rfl rfl)
theorem dX14_roomForBytes_40 : decode cX14_roomForBytes 40 = .ok (.getfield 199, 3) := dk_180 0 199 (dk_at dksX14_roomForBytes_1 17 rfl rfl)
theorem dX14_roomForBytes_43 : decode cX14_roomForBytes 43 = .ok (.iload_n 2, 1) := dk_28 (dk_at dksX14_roomForBytes_1 20 rfl rfl)
theorem dX14_roomForBytes_44 : decode cX14_roomForBytes 44 = .ok (.invokestatic 376, 3) := dk_184 1 120 (dk_at dksX14_roomForBytes_1 21 rfl rfl)
theorem dX14_roomForBytes_47 : decode cX14_roomForBytes 47 = .ok (.putfield 199, 3) := dk_181 0 199 (dk_at dksX14_roomForBytes_2 0 rfl rfl)
theorem dX14_roomForBytes_50 : decode cX14_roomForBytes 50 = .ok (.return_, 1) := dk_177 (dk_at dksX14_roomForBytes_2 3 rfl rfl)
abbrev cX14_longer : ByteArray := prog_15_method_10_code
def yX14_longer : MethodName := ⟨RX14, "longer", "([II)[I"⟩
def dkwX14_longer_1 : List UInt8 := [44, 176]
abbrev dktX14_longer_1 : List UInt8 := dkwX14_longer_1 ++ []
def dkwX14_longer_0 : List UInt8 := [27, 188, 10, 77, 3, 62, 29, 42, 190, 162, 0, 15, 44, 29, 42, 29, 46, 79, 132, 3, 1, 167, 255, 241]
abbrev dktX14_longer_0 : List UInt8 := dkwX14_longer_0 ++ dktX14_longer_1
theorem dksX14_longer_0 : cX14_longer.data.toList.drop 0 = dktX14_longer_0 := by decide +kernel
theorem dksX14_longer_1 : cX14_longer.data.toList.drop 24 = dktX14_longer_1 := dk_seg dksX14_longer_0 24 rfl rfl
theorem dX14_longer_0 : decode cX14_longer 0 = .ok (.iload_n 1, 1) := dk_27 (dk_at dksX14_longer_0 0 rfl rfl)
theorem dX14_longer_1 : decode cX14_longer 1 = .ok (.newarray .int, 2) := dk_188_10 (dk_at dksX14_longer_0 1 rfl rfl)
theorem dX14_longer_3 : decode cX14_longer 3 = .ok (.astore_n 2, 1) := dk_77 (dk_at dksX14_longer_0 3 rfl rfl)
theorem dX14_longer_4 : decode cX14_longer 4 = .ok (.iconst 0, 1) := dk_3 (dk_at dksX14_longer_0 4 rfl rfl)
theorem dX14_longer_5 : decode cX14_longer 5 = .ok (.istore_n 3, 1) := dk_62 (dk_at dksX14_longer_0 5 rfl rfl)
theorem dX14_longer_6 : decode cX14_longer 6 = .ok (.iload_n 3, 1) := dk_29 (dk_at dksX14_longer_0 6 rfl rfl)
theorem dX14_longer_7 : decode cX14_longer 7 = .ok (.aload_n 0, 1) := dk_42 (dk_at dksX14_longer_0 7 rfl rfl)
theorem dX14_longer_8 : decode cX14_longer 8 = .ok (.arraylength, 1) := dk_190 (dk_at dksX14_longer_0 8 rfl rfl)
theorem dX14_longer_9 : decode cX14_longer 9 = .ok (.if_icmp .ge 15, 3) := dk_162 0 15 (dk_at dksX14_longer_0 9 rfl rfl)
theorem dX14_longer_12 : decode cX14_longer 12 = .ok (.aload_n 2, 1) := dk_44 (dk_at dksX14_longer_0 12 rfl rfl)
theorem dX14_longer_13 : decode cX14_longer 13 = .ok (.iload_n 3, 1) := dk_29 (dk_at dksX14_longer_0 13 rfl rfl)
theorem dX14_longer_14 : decode cX14_longer 14 = .ok (.aload_n 0, 1) := dk_42 (dk_at dksX14_longer_0 14 rfl rfl)
theorem dX14_longer_15 : decode cX14_longer 15 = .ok (.iload_n 3, 1) := dk_29 (dk_at dksX14_longer_0 15 rfl rfl)
theorem dX14_longer_16 : decode cX14_longer 16 = .ok (.iaload, 1) := dk_46 (dk_at dksX14_longer_0 16 rfl rfl)
theorem dX14_longer_17 : decode cX14_longer 17 = .ok (.iastore, 1) := dk_79 (dk_at dksX14_longer_0 17 rfl rfl)
theorem dX14_longer_18 : decode cX14_longer 18 = .ok (.iinc 3 1, 3) := dk_132 3 1 (dk_at dksX14_longer_0 18 rfl rfl)
theorem dX14_longer_21 : decode cX14_longer 21 = .ok (.goto (-15), 3) := dk_167 255 241 (dk_at dksX14_longer_0 21 rfl rfl)
theorem dX14_longer_24 : decode cX14_longer 24 = .ok (.aload_n 2, 1) := dk_44 (dk_at dksX14_longer_1 0 rfl rfl)
theorem dX14_longer_25 : decode cX14_longer 25 = .ok (.areturn, 1) := dk_176 (dk_at dksX14_longer_1 1 rfl rfl)
abbrev cX14_keepNumber : ByteArray := prog_15_method_36_code
def yX14_keepNumber : MethodName := ⟨RX14, "keepNumber", "(I)I"⟩
def dkwX14_keepNumber_7 : List UInt8 := [180, 1, 199, 4, 96, 181, 1, 199, 42, 180, 1, 199, 4, 100, 172]
abbrev dktX14_keepNumber_7 : List UInt8 := dkwX14_keepNumber_7 ++ []
def dkwX14_keepNumber_6 : List UInt8 := [28, 96, 79, 42, 180, 0, 196, 42, 180, 1, 199, 42, 180, 1, 196, 27, 100, 28, 100, 79, 42, 89]
abbrev dktX14_keepNumber_6 : List UInt8 := dkwX14_keepNumber_6 ++ dktX14_keepNumber_7
def dkwX14_keepNumber_5 : List UInt8 := [180, 0, 196, 5, 42, 180, 1, 199, 104, 184, 1, 120, 181, 0, 196, 42, 180, 0, 193, 42, 180, 1, 199, 27]
abbrev dktX14_keepNumber_5 : List UInt8 := dkwX14_keepNumber_5 ++ dktX14_keepNumber_6
def dkwX14_keepNumber_4 : List UInt8 := [160, 0, 37, 42, 42, 180, 0, 193, 5, 42, 180, 1, 199, 104, 184, 1, 120, 181, 0, 193, 42, 42]
abbrev dktX14_keepNumber_4 : List UInt8 := dkwX14_keepNumber_4 ++ dktX14_keepNumber_5
def dkwX14_keepNumber_3 : List UInt8 := [167, 0, 4, 3, 62, 29, 153, 0, 6, 132, 2, 1, 167, 255, 177, 42, 180, 1, 199, 42, 180, 0, 193, 190]
abbrev dktX14_keepNumber_3 : List UInt8 := dkwX14_keepNumber_3 ++ dktX14_keepNumber_4
def dkwX14_keepNumber_2 : List UInt8 := [21, 5, 17, 0, 128, 161, 0, 18, 21, 4, 17, 0, 255, 160, 0, 14, 21, 5, 16, 127, 164, 0, 7, 4]
abbrev dktX14_keepNumber_2 : List UInt8 := dkwX14_keepNumber_2 ++ dktX14_keepNumber_3
def dkwX14_keepNumber_1 : List UInt8 := [27, 28, 96, 46, 54, 4, 42, 180, 0, 199, 27, 28, 96, 4, 96, 46, 54, 5, 21, 4, 154, 0, 11]
abbrev dktX14_keepNumber_1 : List UInt8 := dkwX14_keepNumber_1 ++ dktX14_keepNumber_2
def dkwX14_keepNumber_0 : List UInt8 := [3, 61, 4, 62, 29, 153, 0, 81, 27, 28, 96, 4, 96, 42, 180, 1, 196, 162, 0, 69, 42, 180, 0, 199]
abbrev dktX14_keepNumber_0 : List UInt8 := dkwX14_keepNumber_0 ++ dktX14_keepNumber_1
theorem dksX14_keepNumber_0 : cX14_keepNumber.data.toList.drop 0 = dktX14_keepNumber_0 := by decide +kernel
theorem dksX14_keepNumber_1 : cX14_keepNumber.data.toList.drop 24 = dktX14_keepNumber_1 := dk_seg dksX14_keepNumber_0 24 rfl rfl
theorem dksX14_keepNumber_2 : cX14_keepNumber.data.toList.drop 47 = dktX14_keepNumber_2 := dk_seg dksX14_keepNumber_1 23 rfl rfl
theorem dksX14_keepNumber_3 : cX14_keepNumber.data.toList.drop 71 = dktX14_keepNumber_3 := dk_seg dksX14_keepNumber_2 24 rfl rfl
theorem dksX14_keepNumber_4 : cX14_keepNumber.data.toList.drop 95 = dktX14_keepNumber_4 := dk_seg dksX14_keepNumber_3 24 rfl rfl
theorem dksX14_keepNumber_5 : cX14_keepNumber.data.toList.drop 117 = dktX14_keepNumber_5 := dk_seg dksX14_keepNumber_4 22 rfl rfl
theorem dksX14_keepNumber_6 : cX14_keepNumber.data.toList.drop 141 = dktX14_keepNumber_6 := dk_seg dksX14_keepNumber_5 24 rfl rfl
theorem dksX14_keepNumber_7 : cX14_keepNumber.data.toList.drop 163 = dktX14_keepNumber_7 := dk_seg dksX14_keepNumber_6 22 rfl rfl
theorem dX14_keepNumber_0 : decode cX14_keepNumber 0 = .ok (.iconst 0, 1) := dk_3 (dk_at dksX14_keepNumber_0 0 rfl rfl)
theorem dX14_keepNumber_1 : decode cX14_keepNumber 1 = .ok (.istore_n 2, 1) := dk_61 (dk_at dksX14_keepNumber_0 1 rfl rfl)
theorem dX14_keepNumber_2 : decode cX14_keepNumber 2 = .ok (.iconst 1, 1) := dk_4 (dk_at dksX14_keepNumber_0 2 rfl rfl)
theorem dX14_keepNumber_3 : decode cX14_keepNumber 3 = .ok (.istore_n 3, 1) := dk_62 (dk_at dksX14_keepNumber_0 3 rfl rfl)
theorem dX14_keepNumber_4 : decode cX14_keepNumber 4 = .ok (.iload_n 3, 1) := dk_29 (dk_at dksX14_keepNumber_0 4 rfl rfl)
theorem dX14_keepNumber_5 : decode cX14_keepNumber 5 = .ok (.ifCond .eq 81, 3) := dk_153 0 81 (dk_at dksX14_keepNumber_0 5 rfl rfl)
theorem dX14_keepNumber_8 : decode cX14_keepNumber 8 = .ok (.iload_n 1, 1) := dk_27 (dk_at dksX14_keepNumber_0 8 rfl rfl)
theorem dX14_keepNumber_9 : decode cX14_keepNumber 9 = .ok (.iload_n 2, 1) := dk_28 (dk_at dksX14_keepNumber_0 9 rfl rfl)
theorem dX14_keepNumber_10 : decode cX14_keepNumber 10 = .ok (.iadd, 1) := dk_96 (dk_at dksX14_keepNumber_0 10 rfl rfl)
theorem dX14_keepNumber_11 : decode cX14_keepNumber 11 = .ok (.iconst 1, 1) := dk_4 (dk_at dksX14_keepNumber_0 11 rfl rfl)
theorem dX14_keepNumber_12 : decode cX14_keepNumber 12 = .ok (.iadd, 1) := dk_96 (dk_at dksX14_keepNumber_0 12 rfl rfl)
theorem dX14_keepNumber_13 : decode cX14_keepNumber 13 = .ok (.aload_n 0, 1) := dk_42 (dk_at dksX14_keepNumber_0 13 rfl rfl)
theorem dX14_keepNumber_14 : decode cX14_keepNumber 14 = .ok (.getfield 452, 3) := dk_180 1 196 (dk_at dksX14_keepNumber_0 14 rfl rfl)
theorem dX14_keepNumber_17 : decode cX14_keepNumber 17 = .ok (.if_icmp .ge 69, 3) := dk_162 0 69 (dk_at dksX14_keepNumber_0 17 rfl rfl)
theorem dX14_keepNumber_20 : decode cX14_keepNumber 20 = .ok (.aload_n 0, 1) := dk_42 (dk_at dksX14_keepNumber_0 20 rfl rfl)
theorem dX14_keepNumber_21 : decode cX14_keepNumber 21 = .ok (.getfield 199, 3) := dk_180 0 199 (dk_at dksX14_keepNumber_0 21 rfl rfl)
theorem dX14_keepNumber_24 : decode cX14_keepNumber 24 = .ok (.iload_n 1, 1) := dk_27 (dk_at dksX14_keepNumber_1 0 rfl rfl)
theorem dX14_keepNumber_25 : decode cX14_keepNumber 25 = .ok (.iload_n 2, 1) := dk_28 (dk_at dksX14_keepNumber_1 1 rfl rfl)
theorem dX14_keepNumber_26 : decode cX14_keepNumber 26 = .ok (.iadd, 1) := dk_96 (dk_at dksX14_keepNumber_1 2 rfl rfl)
theorem dX14_keepNumber_27 : decode cX14_keepNumber 27 = .ok (.iaload, 1) := dk_46 (dk_at dksX14_keepNumber_1 3 rfl rfl)
theorem dX14_keepNumber_28 : decode cX14_keepNumber 28 = .ok (.istore 4, 2) := dk_54 4 (dk_at dksX14_keepNumber_1 4 rfl rfl)
theorem dX14_keepNumber_30 : decode cX14_keepNumber 30 = .ok (.aload_n 0, 1) := dk_42 (dk_at dksX14_keepNumber_1 6 rfl rfl)
theorem dX14_keepNumber_31 : decode cX14_keepNumber 31 = .ok (.getfield 199, 3) := dk_180 0 199 (dk_at dksX14_keepNumber_1 7 rfl rfl)
theorem dX14_keepNumber_34 : decode cX14_keepNumber 34 = .ok (.iload_n 1, 1) := dk_27 (dk_at dksX14_keepNumber_1 10 rfl rfl)
theorem dX14_keepNumber_35 : decode cX14_keepNumber 35 = .ok (.iload_n 2, 1) := dk_28 (dk_at dksX14_keepNumber_1 11 rfl rfl)
theorem dX14_keepNumber_36 : decode cX14_keepNumber 36 = .ok (.iadd, 1) := dk_96 (dk_at dksX14_keepNumber_1 12 rfl rfl)
theorem dX14_keepNumber_37 : decode cX14_keepNumber 37 = .ok (.iconst 1, 1) := dk_4 (dk_at dksX14_keepNumber_1 13 rfl rfl)
theorem dX14_keepNumber_38 : decode cX14_keepNumber 38 = .ok (.iadd, 1) := dk_96 (dk_at dksX14_keepNumber_1 14 rfl rfl)
theorem dX14_keepNumber_39 : decode cX14_keepNumber 39 = .ok (.iaload, 1) := dk_46 (dk_at dksX14_keepNumber_1 15 rfl rfl)
theorem dX14_keepNumber_40 : decode cX14_keepNumber 40 = .ok (.istore 5, 2) := dk_54 5 (dk_at dksX14_keepNumber_1 16 rfl rfl)
theorem dX14_keepNumber_42 : decode cX14_keepNumber 42 = .ok (.iload 4, 2) := dk_21 4 (dk_at dksX14_keepNumber_1 18 rfl rfl)
theorem dX14_keepNumber_44 : decode cX14_keepNumber 44 = .ok (.ifCond .ne 11, 3) := dk_154 0 11 (dk_at dksX14_keepNumber_1 20 rfl rfl)
theorem dX14_keepNumber_47 : decode cX14_keepNumber 47 = .ok (.iload 5, 2) := dk_21 5 (dk_at dksX14_keepNumber_2 0 rfl rfl)
theorem dX14_keepNumber_49 : decode cX14_keepNumber 49 = .ok (.sipush 128, 3) := dk_17 0 128 (dk_at dksX14_keepNumber_2 2 rfl rfl)
theorem dX14_keepNumber_52 : decode cX14_keepNumber 52 = .ok (.if_icmp .lt 18, 3) := dk_161 0 18 (dk_at dksX14_keepNumber_2 5 rfl rfl)
theorem dX14_keepNumber_55 : decode cX14_keepNumber 55 = .ok (.iload 4, 2) := dk_21 4 (dk_at dksX14_keepNumber_2 8 rfl rfl)
theorem dX14_keepNumber_57 : decode cX14_keepNumber 57 = .ok (.sipush 255, 3) := dk_17 0 255 (dk_at dksX14_keepNumber_2 10 rfl rfl)
theorem dX14_keepNumber_60 : decode cX14_keepNumber 60 = .ok (.if_icmp .ne 14, 3) := dk_160 0 14 (dk_at dksX14_keepNumber_2 13 rfl rfl)
theorem dX14_keepNumber_63 : decode cX14_keepNumber 63 = .ok (.iload 5, 2) := dk_21 5 (dk_at dksX14_keepNumber_2 16 rfl rfl)
theorem dX14_keepNumber_65 : decode cX14_keepNumber 65 = .ok (.bipush 127, 2) := dk_16 127 (dk_at dksX14_keepNumber_2 18 rfl rfl)
theorem dX14_keepNumber_67 : decode cX14_keepNumber 67 = .ok (.if_icmp .le 7, 3) := dk_164 0 7 (dk_at dksX14_keepNumber_2 20 rfl rfl)
theorem dX14_keepNumber_70 : decode cX14_keepNumber 70 = .ok (.iconst 1, 1) := dk_4 (dk_at dksX14_keepNumber_2 23 rfl rfl)
theorem dX14_keepNumber_71 : decode cX14_keepNumber 71 = .ok (.goto 4, 3) := dk_167 0 4 (dk_at dksX14_keepNumber_3 0 rfl rfl)
theorem dX14_keepNumber_74 : decode cX14_keepNumber 74 = .ok (.iconst 0, 1) := dk_3 (dk_at dksX14_keepNumber_3 3 rfl rfl)
theorem dX14_keepNumber_75 : decode cX14_keepNumber 75 = .ok (.istore_n 3, 1) := dk_62 (dk_at dksX14_keepNumber_3 4 rfl rfl)
theorem dX14_keepNumber_76 : decode cX14_keepNumber 76 = .ok (.iload_n 3, 1) := dk_29 (dk_at dksX14_keepNumber_3 5 rfl rfl)
theorem dX14_keepNumber_77 : decode cX14_keepNumber 77 = .ok (.ifCond .eq 6, 3) := dk_153 0 6 (dk_at dksX14_keepNumber_3 6 rfl rfl)
theorem dX14_keepNumber_80 : decode cX14_keepNumber 80 = .ok (.iinc 2 1, 3) := dk_132 2 1 (dk_at dksX14_keepNumber_3 9 rfl rfl)
theorem dX14_keepNumber_83 : decode cX14_keepNumber 83 = .ok (.goto (-79), 3) := dk_167 255 177 (dk_at dksX14_keepNumber_3 12 rfl rfl)
theorem dX14_keepNumber_86 : decode cX14_keepNumber 86 = .ok (.aload_n 0, 1) := dk_42 (dk_at dksX14_keepNumber_3 15 rfl rfl)
theorem dX14_keepNumber_87 : decode cX14_keepNumber 87 = .ok (.getfield 455, 3) := dk_180 1 199 (dk_at dksX14_keepNumber_3 16 rfl rfl)
theorem dX14_keepNumber_90 : decode cX14_keepNumber 90 = .ok (.aload_n 0, 1) := dk_42 (dk_at dksX14_keepNumber_3 19 rfl rfl)
theorem dX14_keepNumber_91 : decode cX14_keepNumber 91 = .ok (.getfield 193, 3) := dk_180 0 193 (dk_at dksX14_keepNumber_3 20 rfl rfl)
theorem dX14_keepNumber_94 : decode cX14_keepNumber 94 = .ok (.arraylength, 1) := dk_190 (dk_at dksX14_keepNumber_3 23 rfl rfl)
theorem dX14_keepNumber_95 : decode cX14_keepNumber 95 = .ok (.if_icmp .ne 37, 3) := dk_160 0 37 (dk_at dksX14_keepNumber_4 0 rfl rfl)
theorem dX14_keepNumber_98 : decode cX14_keepNumber 98 = .ok (.aload_n 0, 1) := dk_42 (dk_at dksX14_keepNumber_4 3 rfl rfl)
theorem dX14_keepNumber_99 : decode cX14_keepNumber 99 = .ok (.aload_n 0, 1) := dk_42 (dk_at dksX14_keepNumber_4 4 rfl rfl)
theorem dX14_keepNumber_100 : decode cX14_keepNumber 100 = .ok (.getfield 193, 3) := dk_180 0 193 (dk_at dksX14_keepNumber_4 5 rfl rfl)
theorem dX14_keepNumber_103 : decode cX14_keepNumber 103 = .ok (.iconst 2, 1) := dk_5 (dk_at dksX14_keepNumber_4 8 rfl rfl)
theorem dX14_keepNumber_104 : decode cX14_keepNumber 104 = .ok (.aload_n 0, 1) := dk_42 (dk_at dksX14_keepNumber_4 9 rfl rfl)
theorem dX14_keepNumber_105 : decode cX14_keepNumber 105 = .ok (.getfield 455, 3) := dk_180 1 199 (dk_at dksX14_keepNumber_4 10 rfl rfl)
theorem dX14_keepNumber_108 : decode cX14_keepNumber 108 = .ok (.imul, 1) := dk_104 (dk_at dksX14_keepNumber_4 13 rfl rfl)
theorem dX14_keepNumber_109 : decode cX14_keepNumber 109 = .ok (.invokestatic 376, 3) := dk_184 1 120 (dk_at dksX14_keepNumber_4 14 rfl rfl)
theorem dX14_keepNumber_112 : decode cX14_keepNumber 112 = .ok (.putfield 193, 3) := dk_181 0 193 (dk_at dksX14_keepNumber_4 17 rfl rfl)
theorem dX14_keepNumber_115 : decode cX14_keepNumber 115 = .ok (.aload_n 0, 1) := dk_42 (dk_at dksX14_keepNumber_4 20 rfl rfl)
theorem dX14_keepNumber_116 : decode cX14_keepNumber 116 = .ok (.aload_n 0, 1) := dk_42 (dk_at dksX14_keepNumber_4 21 rfl rfl)
theorem dX14_keepNumber_117 : decode cX14_keepNumber 117 = .ok (.getfield 196, 3) := dk_180 0 196 (dk_at dksX14_keepNumber_5 0 rfl rfl)
theorem dX14_keepNumber_120 : decode cX14_keepNumber 120 = .ok (.iconst 2, 1) := dk_5 (dk_at dksX14_keepNumber_5 3 rfl rfl)
theorem dX14_keepNumber_121 : decode cX14_keepNumber 121 = .ok (.aload_n 0, 1) := dk_42 (dk_at dksX14_keepNumber_5 4 rfl rfl)
theorem dX14_keepNumber_122 : decode cX14_keepNumber 122 = .ok (.getfield 455, 3) := dk_180 1 199 (dk_at dksX14_keepNumber_5 5 rfl rfl)
theorem dX14_keepNumber_125 : decode cX14_keepNumber 125 = .ok (.imul, 1) := dk_104 (dk_at dksX14_keepNumber_5 8 rfl rfl)
theorem dX14_keepNumber_126 : decode cX14_keepNumber 126 = .ok (.invokestatic 376, 3) := dk_184 1 120 (dk_at dksX14_keepNumber_5 9 rfl rfl)
theorem dX14_keepNumber_129 : decode cX14_keepNumber 129 = .ok (.putfield 196, 3) := dk_181 0 196 (dk_at dksX14_keepNumber_5 12 rfl rfl)
theorem dX14_keepNumber_132 : decode cX14_keepNumber 132 = .ok (.aload_n 0, 1) := dk_42 (dk_at dksX14_keepNumber_5 15 rfl rfl)
theorem dX14_keepNumber_133 : decode cX14_keepNumber 133 = .ok (.getfield 193, 3) := dk_180 0 193 (dk_at dksX14_keepNumber_5 16 rfl rfl)
theorem dX14_keepNumber_136 : decode cX14_keepNumber 136 = .ok (.aload_n 0, 1) := dk_42 (dk_at dksX14_keepNumber_5 19 rfl rfl)
theorem dX14_keepNumber_137 : decode cX14_keepNumber 137 = .ok (.getfield 455, 3) := dk_180 1 199 (dk_at dksX14_keepNumber_5 20 rfl rfl)
theorem dX14_keepNumber_140 : decode cX14_keepNumber 140 = .ok (.iload_n 1, 1) := dk_27 (dk_at dksX14_keepNumber_5 23 rfl rfl)
theorem dX14_keepNumber_141 : decode cX14_keepNumber 141 = .ok (.iload_n 2, 1) := dk_28 (dk_at dksX14_keepNumber_6 0 rfl rfl)
theorem dX14_keepNumber_142 : decode cX14_keepNumber 142 = .ok (.iadd, 1) := dk_96 (dk_at dksX14_keepNumber_6 1 rfl rfl)
theorem dX14_keepNumber_143 : decode cX14_keepNumber 143 = .ok (.iastore, 1) := dk_79 (dk_at dksX14_keepNumber_6 2 rfl rfl)
theorem dX14_keepNumber_144 : decode cX14_keepNumber 144 = .ok (.aload_n 0, 1) := dk_42 (dk_at dksX14_keepNumber_6 3 rfl rfl)
theorem dX14_keepNumber_145 : decode cX14_keepNumber 145 = .ok (.getfield 196, 3) := dk_180 0 196 (dk_at dksX14_keepNumber_6 4 rfl rfl)
theorem dX14_keepNumber_148 : decode cX14_keepNumber 148 = .ok (.aload_n 0, 1) := dk_42 (dk_at dksX14_keepNumber_6 7 rfl rfl)
theorem dX14_keepNumber_149 : decode cX14_keepNumber 149 = .ok (.getfield 455, 3) := dk_180 1 199 (dk_at dksX14_keepNumber_6 8 rfl rfl)
theorem dX14_keepNumber_152 : decode cX14_keepNumber 152 = .ok (.aload_n 0, 1) := dk_42 (dk_at dksX14_keepNumber_6 11 rfl rfl)
theorem dX14_keepNumber_153 : decode cX14_keepNumber 153 = .ok (.getfield 452, 3) := dk_180 1 196 (dk_at dksX14_keepNumber_6 12 rfl rfl)
theorem dX14_keepNumber_156 : decode cX14_keepNumber 156 = .ok (.iload_n 1, 1) := dk_27 (dk_at dksX14_keepNumber_6 15 rfl rfl)
theorem dX14_keepNumber_157 : decode cX14_keepNumber 157 = .ok (.isub, 1) := dk_100 (dk_at dksX14_keepNumber_6 16 rfl rfl)
theorem dX14_keepNumber_158 : decode cX14_keepNumber 158 = .ok (.iload_n 2, 1) := dk_28 (dk_at dksX14_keepNumber_6 17 rfl rfl)
theorem dX14_keepNumber_159 : decode cX14_keepNumber 159 = .ok (.isub, 1) := dk_100 (dk_at dksX14_keepNumber_6 18 rfl rfl)
theorem dX14_keepNumber_160 : decode cX14_keepNumber 160 = .ok (.iastore, 1) := dk_79 (dk_at dksX14_keepNumber_6 19 rfl rfl)
theorem dX14_keepNumber_161 : decode cX14_keepNumber 161 = .ok (.aload_n 0, 1) := dk_42 (dk_at dksX14_keepNumber_6 20 rfl rfl)
theorem dX14_keepNumber_162 : decode cX14_keepNumber 162 = .ok (.dup, 1) := dk_89 (dk_at dksX14_keepNumber_6 21 rfl rfl)
theorem dX14_keepNumber_163 : decode cX14_keepNumber 163 = .ok (.getfield 455, 3) := dk_180 1 199 (dk_at dksX14_keepNumber_7 0 rfl rfl)
theorem dX14_keepNumber_166 : decode cX14_keepNumber 166 = .ok (.iconst 1, 1) := dk_4 (dk_at dksX14_keepNumber_7 3 rfl rfl)
theorem dX14_keepNumber_167 : decode cX14_keepNumber 167 = .ok (.iadd, 1) := dk_96 (dk_at dksX14_keepNumber_7 4 rfl rfl)
theorem dX14_keepNumber_168 : decode cX14_keepNumber 168 = .ok (.putfield 455, 3) := dk_181 1 199 (dk_at dksX14_keepNumber_7 5 rfl rfl)
theorem dX14_keepNumber_171 : decode cX14_keepNumber 171 = .ok (.aload_n 0, 1) := dk_42 (dk_at dksX14_keepNumber_7 8 rfl rfl)
theorem dX14_keepNumber_172 : decode cX14_keepNumber 172 = .ok (.getfield 455, 3) := dk_180 1 199 (dk_at dksX14_keepNumber_7 9 rfl rfl)
theorem dX14_keepNumber_175 : decode cX14_keepNumber 175 = .ok (.iconst 1, 1) := dk_4 (dk_at dksX14_keepNumber_7 12 rfl rfl)
theorem dX14_keepNumber_176 : decode cX14_keepNumber 176 = .ok (.isub, 1) := dk_100 (dk_at dksX14_keepNumber_7 13 rfl rfl)
theorem dX14_keepNumber_177 : decode cX14_keepNumber 177 = .ok (.ireturn, 1) := dk_172 (dk_at dksX14_keepNumber_7 14 rfl rfl)
abbrev cX14_asInt : ByteArray := prog_15_method_41_code
def yX14_asInt : MethodName := ⟨RX14, "asInt", "(I)I"⟩
def dkwX14_asInt_2 : List UInt8 := [132, 3, 1, 167, 255, 224, 28, 172]
abbrev dktX14_asInt_2 : List UInt8 := dkwX14_asInt_2 ++ []
def dkwX14_asInt_1 : List UInt8 := [46, 162, 0, 28, 28, 16, 8, 120, 42, 180, 0, 199, 42, 180, 0, 193, 27, 46, 29, 96, 46, 128, 61]
abbrev dktX14_asInt_1 : List UInt8 := dkwX14_asInt_1 ++ dktX14_asInt_2
def dkwX14_asInt_0 : List UInt8 := [42, 180, 0, 196, 27, 46, 7, 164, 0, 7, 19, 1, 216, 172, 3, 61, 3, 62, 29, 42, 180, 0, 196, 27]
abbrev dktX14_asInt_0 : List UInt8 := dkwX14_asInt_0 ++ dktX14_asInt_1
theorem dksX14_asInt_0 : cX14_asInt.data.toList.drop 0 = dktX14_asInt_0 := by decide +kernel
theorem dksX14_asInt_1 : cX14_asInt.data.toList.drop 24 = dktX14_asInt_1 := dk_seg dksX14_asInt_0 24 rfl rfl
theorem dksX14_asInt_2 : cX14_asInt.data.toList.drop 47 = dktX14_asInt_2 := dk_seg dksX14_asInt_1 23 rfl rfl
theorem dX14_asInt_0 : decode cX14_asInt 0 = .ok (.aload_n 0, 1) := dk_42 (dk_at dksX14_asInt_0 0 rfl rfl)
theorem dX14_asInt_1 : decode cX14_asInt 1 = .ok (.getfield 196, 3) := dk_180 0 196 (dk_at dksX14_asInt_0 1 rfl rfl)
theorem dX14_asInt_4 : decode cX14_asInt 4 = .ok (.iload_n 1, 1) := dk_27 (dk_at dksX14_asInt_0 4 rfl rfl)
theorem dX14_asInt_5 : decode cX14_asInt 5 = .ok (.iaload, 1) := dk_46 (dk_at dksX14_asInt_0 5 rfl rfl)
theorem dX14_asInt_6 : decode cX14_asInt 6 = .ok (.iconst 4, 1) := dk_7 (dk_at dksX14_asInt_0 6 rfl rfl)
theorem dX14_asInt_7 : decode cX14_asInt 7 = .ok (.if_icmp .le 7, 3) := dk_164 0 7 (dk_at dksX14_asInt_0 7 rfl rfl)
theorem dX14_asInt_10 : decode cX14_asInt 10 = .ok (.ldc_w 472, 3) := dk_19 1 216 (dk_at dksX14_asInt_0 10 rfl rfl)
theorem dX14_asInt_13 : decode cX14_asInt 13 = .ok (.ireturn, 1) := dk_172 (dk_at dksX14_asInt_0 13 rfl rfl)
theorem dX14_asInt_14 : decode cX14_asInt 14 = .ok (.iconst 0, 1) := dk_3 (dk_at dksX14_asInt_0 14 rfl rfl)
theorem dX14_asInt_15 : decode cX14_asInt 15 = .ok (.istore_n 2, 1) := dk_61 (dk_at dksX14_asInt_0 15 rfl rfl)
theorem dX14_asInt_16 : decode cX14_asInt 16 = .ok (.iconst 0, 1) := dk_3 (dk_at dksX14_asInt_0 16 rfl rfl)
theorem dX14_asInt_17 : decode cX14_asInt 17 = .ok (.istore_n 3, 1) := dk_62 (dk_at dksX14_asInt_0 17 rfl rfl)
theorem dX14_asInt_18 : decode cX14_asInt 18 = .ok (.iload_n 3, 1) := dk_29 (dk_at dksX14_asInt_0 18 rfl rfl)
theorem dX14_asInt_19 : decode cX14_asInt 19 = .ok (.aload_n 0, 1) := dk_42 (dk_at dksX14_asInt_0 19 rfl rfl)
theorem dX14_asInt_20 : decode cX14_asInt 20 = .ok (.getfield 196, 3) := dk_180 0 196 (dk_at dksX14_asInt_0 20 rfl rfl)
theorem dX14_asInt_23 : decode cX14_asInt 23 = .ok (.iload_n 1, 1) := dk_27 (dk_at dksX14_asInt_0 23 rfl rfl)
theorem dX14_asInt_24 : decode cX14_asInt 24 = .ok (.iaload, 1) := dk_46 (dk_at dksX14_asInt_1 0 rfl rfl)
theorem dX14_asInt_25 : decode cX14_asInt 25 = .ok (.if_icmp .ge 28, 3) := dk_162 0 28 (dk_at dksX14_asInt_1 1 rfl rfl)
theorem dX14_asInt_28 : decode cX14_asInt 28 = .ok (.iload_n 2, 1) := dk_28 (dk_at dksX14_asInt_1 4 rfl rfl)
theorem dX14_asInt_29 : decode cX14_asInt 29 = .ok (.bipush 8, 2) := dk_16 8 (dk_at dksX14_asInt_1 5 rfl rfl)
theorem dX14_asInt_31 : decode cX14_asInt 31 = .ok (.ishl, 1) := dk_120 (dk_at dksX14_asInt_1 7 rfl rfl)
theorem dX14_asInt_32 : decode cX14_asInt 32 = .ok (.aload_n 0, 1) := dk_42 (dk_at dksX14_asInt_1 8 rfl rfl)
theorem dX14_asInt_33 : decode cX14_asInt 33 = .ok (.getfield 199, 3) := dk_180 0 199 (dk_at dksX14_asInt_1 9 rfl rfl)
theorem dX14_asInt_36 : decode cX14_asInt 36 = .ok (.aload_n 0, 1) := dk_42 (dk_at dksX14_asInt_1 12 rfl rfl)
theorem dX14_asInt_37 : decode cX14_asInt 37 = .ok (.getfield 193, 3) := dk_180 0 193 (dk_at dksX14_asInt_1 13 rfl rfl)
theorem dX14_asInt_40 : decode cX14_asInt 40 = .ok (.iload_n 1, 1) := dk_27 (dk_at dksX14_asInt_1 16 rfl rfl)
theorem dX14_asInt_41 : decode cX14_asInt 41 = .ok (.iaload, 1) := dk_46 (dk_at dksX14_asInt_1 17 rfl rfl)
theorem dX14_asInt_42 : decode cX14_asInt 42 = .ok (.iload_n 3, 1) := dk_29 (dk_at dksX14_asInt_1 18 rfl rfl)
theorem dX14_asInt_43 : decode cX14_asInt 43 = .ok (.iadd, 1) := dk_96 (dk_at dksX14_asInt_1 19 rfl rfl)
theorem dX14_asInt_44 : decode cX14_asInt 44 = .ok (.iaload, 1) := dk_46 (dk_at dksX14_asInt_1 20 rfl rfl)
theorem dX14_asInt_45 : decode cX14_asInt 45 = .ok (.ior, 1) := dk_128 (dk_at dksX14_asInt_1 21 rfl rfl)
theorem dX14_asInt_46 : decode cX14_asInt 46 = .ok (.istore_n 2, 1) := dk_61 (dk_at dksX14_asInt_1 22 rfl rfl)
theorem dX14_asInt_47 : decode cX14_asInt 47 = .ok (.iinc 3 1, 3) := dk_132 3 1 (dk_at dksX14_asInt_2 0 rfl rfl)
theorem dX14_asInt_50 : decode cX14_asInt 50 = .ok (.goto (-32), 3) := dk_167 255 224 (dk_at dksX14_asInt_2 3 rfl rfl)
theorem dX14_asInt_53 : decode cX14_asInt 53 = .ok (.iload_n 2, 1) := dk_28 (dk_at dksX14_asInt_2 6 rfl rfl)
theorem dX14_asInt_54 : decode cX14_asInt 54 = .ok (.ireturn, 1) := dk_172 (dk_at dksX14_asInt_2 7 rfl rfl)
abbrev cX14_base : ByteArray := prog_15_method_48_code
def yX14_base : MethodName := ⟨RX14, "base", "(I)V"⟩
def dkwX14_base_13 : List UInt8 := [181, 1, 186, 167, 0, 8, 42, 4, 182, 1, 192, 177]
abbrev dktX14_base_13 : List UInt8 := dkwX14_base_13 ++ []
def dkwX14_base_12 : List UInt8 := [180, 0, 42, 27, 16, 17, 79, 42, 180, 0, 54, 27, 42, 180, 1, 186, 79, 42, 89, 180, 1, 186, 4, 96]
abbrev dktX14_base_12 : List UInt8 := dkwX14_base_12 ++ dktX14_base_13
def dkwX14_base_11 : List UInt8 := [16, 12, 182, 1, 217, 87, 42, 27, 2, 182, 2, 33, 167, 0, 47, 42, 4, 182, 1, 189, 153, 0, 34, 42]
abbrev dktX14_base_11 : List UInt8 := dkwX14_base_11 ++ dktX14_base_12
def dkwX14_base_10 : List UInt8 := [153, 0, 11, 42, 27, 182, 2, 30, 167, 0, 75, 42, 27, 16, 51, 16, 16, 182, 2, 24, 153, 0, 19, 42]
abbrev dktX14_base_10 : List UInt8 := dkwX14_base_10 ++ dktX14_base_11
def dkwX14_base_9 : List UInt8 := [167, 0, 107, 42, 27, 16, 99, 16, 12, 182, 2, 24, 154, 0, 15, 42, 27, 16, 100, 16, 13, 182, 2, 24]
abbrev dktX14_base_9 : List UInt8 := dkwX14_base_9 ++ dktX14_base_10
def dkwX14_base_8 : List UInt8 := [167, 0, 129, 42, 27, 16, 87, 16, 6, 182, 2, 24, 153, 0, 13, 42, 16, 73, 182, 1, 217, 87]
abbrev dktX14_base_8 : List UInt8 := dkwX14_base_8 ++ dktX14_base_9
def dkwX14_base_7 : List UInt8 := [182, 2, 27, 167, 0, 150, 42, 27, 16, 88, 8, 182, 2, 24, 153, 0, 13, 42, 16, 102, 182, 1, 217, 87]
abbrev dktX14_base_7 : List UInt8 := dkwX14_base_7 ++ dktX14_base_8
def dkwX14_base_6 : List UInt8 := [16, 102, 182, 1, 217, 87, 42, 180, 1, 97, 154, 0, 167, 42, 16, 12, 182, 1, 189, 153, 0, 158, 42, 27]
abbrev dktX14_base_6 : List UInt8 := dkwX14_base_6 ++ dktX14_base_7
def dkwX14_base_5 : List UInt8 := [153, 0, 11, 42, 27, 182, 2, 27, 167, 0, 192, 42, 27, 16, 46, 7, 182, 2, 24, 153, 0, 34, 42]
abbrev dktX14_base_5 : List UInt8 := dkwX14_base_5 ++ dktX14_base_6
def dkwX14_base_4 : List UInt8 := [16, 12, 182, 1, 189, 153, 0, 219, 42, 27, 182, 2, 27, 167, 0, 211, 42, 27, 16, 61, 6, 182, 2, 24]
abbrev dktX14_base_4 : List UInt8 := dkwX14_base_4 ++ dktX14_base_5
def dkwX14_base_3 : List UInt8 := [16, 70, 16, 11, 182, 2, 24, 153, 0, 4, 177, 42, 27, 16, 79, 5, 182, 2, 24, 153, 0, 20, 42]
abbrev dktX14_base_3 : List UInt8 := dkwX14_base_3 ++ dktX14_base_4
def dkwX14_base_2 : List UInt8 := [16, 72, 16, 9, 182, 2, 24, 154, 0, 27, 42, 27, 16, 111, 16, 10, 182, 2, 24, 154, 0, 15, 42, 27]
abbrev dktX14_base_2 : List UInt8 := dkwX14_base_2 ++ dktX14_base_3
def dkwX14_base_1 : List UInt8 := [16, 112, 16, 7, 182, 2, 24, 154, 0, 51, 42, 27, 16, 96, 16, 8, 182, 2, 24, 154, 0, 39, 42, 27]
abbrev dktX14_base_1 : List UInt8 := dkwX14_base_1 ++ dktX14_base_2
def dkwX14_base_0 : List UInt8 := [42, 27, 16, 48, 3, 182, 2, 24, 154, 0, 74, 42, 27, 16, 85, 4, 182, 2, 24, 154, 0, 63, 42, 27]
abbrev dktX14_base_0 : List UInt8 := dkwX14_base_0 ++ dktX14_base_1
theorem dksX14_base_0 : cX14_base.data.toList.drop 0 = dktX14_base_0 := by decide +kernel
theorem dksX14_base_1 : cX14_base.data.toList.drop 24 = dktX14_base_1 := dk_seg dksX14_base_0 24 rfl rfl
theorem dksX14_base_2 : cX14_base.data.toList.drop 48 = dktX14_base_2 := dk_seg dksX14_base_1 24 rfl rfl
theorem dksX14_base_3 : cX14_base.data.toList.drop 72 = dktX14_base_3 := dk_seg dksX14_base_2 24 rfl rfl
theorem dksX14_base_4 : cX14_base.data.toList.drop 95 = dktX14_base_4 := dk_seg dksX14_base_3 23 rfl rfl
theorem dksX14_base_5 : cX14_base.data.toList.drop 119 = dktX14_base_5 := dk_seg dksX14_base_4 24 rfl rfl
theorem dksX14_base_6 : cX14_base.data.toList.drop 142 = dktX14_base_6 := dk_seg dksX14_base_5 23 rfl rfl
theorem dksX14_base_7 : cX14_base.data.toList.drop 166 = dktX14_base_7 := dk_seg dksX14_base_6 24 rfl rfl
theorem dksX14_base_8 : cX14_base.data.toList.drop 190 = dktX14_base_8 := dk_seg dksX14_base_7 24 rfl rfl
theorem dksX14_base_9 : cX14_base.data.toList.drop 212 = dktX14_base_9 := dk_seg dksX14_base_8 22 rfl rfl
theorem dksX14_base_10 : cX14_base.data.toList.drop 236 = dktX14_base_10 := dk_seg dksX14_base_9 24 rfl rfl
theorem dksX14_base_11 : cX14_base.data.toList.drop 260 = dktX14_base_11 := dk_seg dksX14_base_10 24 rfl rfl
theorem dksX14_base_12 : cX14_base.data.toList.drop 284 = dktX14_base_12 := dk_seg dksX14_base_11 24 rfl rfl
theorem dksX14_base_13 : cX14_base.data.toList.drop 308 = dktX14_base_13 := dk_seg dksX14_base_12 24 rfl rfl
theorem dX14_base_0 : decode cX14_base 0 = .ok (.aload_n 0, 1) := dk_42 (dk_at dksX14_base_0 0 rfl rfl)
theorem dX14_base_1 : decode cX14_base 1 = .ok (.iload_n 1, 1) := dk_27 (dk_at dksX14_base_0 1 rfl rfl)
theorem dX14_base_2 : decode cX14_base 2 = .ok (.bipush 48, 2) := dk_16 48 (dk_at dksX14_base_0 2 rfl rfl)
theorem dX14_base_4 : decode cX14_base 4 = .ok (.iconst 0, 1) := dk_3 (dk_at dksX14_base_0 4 rfl rfl)
theorem dX14_base_5 : decode cX14_base 5 = .ok (.invokevirtual 536, 3) := dk_182 2 24 (dk_at dksX14_base_0 5 rfl rfl)
theorem dX14_base_8 : decode cX14_base 8 = .ok (.ifCond .ne 74, 3) := dk_154 0 74 (dk_at dksX14_base_0 8 rfl rfl)
theorem dX14_base_11 : decode cX14_base 11 = .ok (.aload_n 0, 1) := dk_42 (dk_at dksX14_base_0 11 rfl rfl)
theorem dX14_base_12 : decode cX14_base 12 = .ok (.iload_n 1, 1) := dk_27 (dk_at dksX14_base_0 12 rfl rfl)
theorem dX14_base_13 : decode cX14_base 13 = .ok (.bipush 85, 2) := dk_16 85 (dk_at dksX14_base_0 13 rfl rfl)
theorem dX14_base_15 : decode cX14_base 15 = .ok (.iconst 1, 1) := dk_4 (dk_at dksX14_base_0 15 rfl rfl)
theorem dX14_base_16 : decode cX14_base 16 = .ok (.invokevirtual 536, 3) := dk_182 2 24 (dk_at dksX14_base_0 16 rfl rfl)
theorem dX14_base_19 : decode cX14_base 19 = .ok (.ifCond .ne 63, 3) := dk_154 0 63 (dk_at dksX14_base_0 19 rfl rfl)
theorem dX14_base_22 : decode cX14_base 22 = .ok (.aload_n 0, 1) := dk_42 (dk_at dksX14_base_0 22 rfl rfl)
theorem dX14_base_23 : decode cX14_base 23 = .ok (.iload_n 1, 1) := dk_27 (dk_at dksX14_base_0 23 rfl rfl)
theorem dX14_base_24 : decode cX14_base 24 = .ok (.bipush 112, 2) := dk_16 112 (dk_at dksX14_base_1 0 rfl rfl)
theorem dX14_base_26 : decode cX14_base 26 = .ok (.bipush 7, 2) := dk_16 7 (dk_at dksX14_base_1 2 rfl rfl)
theorem dX14_base_28 : decode cX14_base 28 = .ok (.invokevirtual 536, 3) := dk_182 2 24 (dk_at dksX14_base_1 4 rfl rfl)
theorem dX14_base_31 : decode cX14_base 31 = .ok (.ifCond .ne 51, 3) := dk_154 0 51 (dk_at dksX14_base_1 7 rfl rfl)
theorem dX14_base_34 : decode cX14_base 34 = .ok (.aload_n 0, 1) := dk_42 (dk_at dksX14_base_1 10 rfl rfl)
theorem dX14_base_35 : decode cX14_base 35 = .ok (.iload_n 1, 1) := dk_27 (dk_at dksX14_base_1 11 rfl rfl)
theorem dX14_base_36 : decode cX14_base 36 = .ok (.bipush 96, 2) := dk_16 96 (dk_at dksX14_base_1 12 rfl rfl)
theorem dX14_base_38 : decode cX14_base 38 = .ok (.bipush 8, 2) := dk_16 8 (dk_at dksX14_base_1 14 rfl rfl)
theorem dX14_base_40 : decode cX14_base 40 = .ok (.invokevirtual 536, 3) := dk_182 2 24 (dk_at dksX14_base_1 16 rfl rfl)
theorem dX14_base_43 : decode cX14_base 43 = .ok (.ifCond .ne 39, 3) := dk_154 0 39 (dk_at dksX14_base_1 19 rfl rfl)
theorem dX14_base_46 : decode cX14_base 46 = .ok (.aload_n 0, 1) := dk_42 (dk_at dksX14_base_1 22 rfl rfl)
theorem dX14_base_47 : decode cX14_base 47 = .ok (.iload_n 1, 1) := dk_27 (dk_at dksX14_base_1 23 rfl rfl)
theorem dX14_base_48 : decode cX14_base 48 = .ok (.bipush 72, 2) := dk_16 72 (dk_at dksX14_base_2 0 rfl rfl)
theorem dX14_base_50 : decode cX14_base 50 = .ok (.bipush 9, 2) := dk_16 9 (dk_at dksX14_base_2 2 rfl rfl)
theorem dX14_base_52 : decode cX14_base 52 = .ok (.invokevirtual 536, 3) := dk_182 2 24 (dk_at dksX14_base_2 4 rfl rfl)
theorem dX14_base_55 : decode cX14_base 55 = .ok (.ifCond .ne 27, 3) := dk_154 0 27 (dk_at dksX14_base_2 7 rfl rfl)
theorem dX14_base_58 : decode cX14_base 58 = .ok (.aload_n 0, 1) := dk_42 (dk_at dksX14_base_2 10 rfl rfl)
theorem dX14_base_59 : decode cX14_base 59 = .ok (.iload_n 1, 1) := dk_27 (dk_at dksX14_base_2 11 rfl rfl)
theorem dX14_base_60 : decode cX14_base 60 = .ok (.bipush 111, 2) := dk_16 111 (dk_at dksX14_base_2 12 rfl rfl)
theorem dX14_base_62 : decode cX14_base 62 = .ok (.bipush 10, 2) := dk_16 10 (dk_at dksX14_base_2 14 rfl rfl)
theorem dX14_base_64 : decode cX14_base 64 = .ok (.invokevirtual 536, 3) := dk_182 2 24 (dk_at dksX14_base_2 16 rfl rfl)
theorem dX14_base_67 : decode cX14_base 67 = .ok (.ifCond .ne 15, 3) := dk_154 0 15 (dk_at dksX14_base_2 19 rfl rfl)
theorem dX14_base_70 : decode cX14_base 70 = .ok (.aload_n 0, 1) := dk_42 (dk_at dksX14_base_2 22 rfl rfl)
theorem dX14_base_71 : decode cX14_base 71 = .ok (.iload_n 1, 1) := dk_27 (dk_at dksX14_base_2 23 rfl rfl)
theorem dX14_base_72 : decode cX14_base 72 = .ok (.bipush 70, 2) := dk_16 70 (dk_at dksX14_base_3 0 rfl rfl)
theorem dX14_base_74 : decode cX14_base 74 = .ok (.bipush 11, 2) := dk_16 11 (dk_at dksX14_base_3 2 rfl rfl)
theorem dX14_base_76 : decode cX14_base 76 = .ok (.invokevirtual 536, 3) := dk_182 2 24 (dk_at dksX14_base_3 4 rfl rfl)
theorem dX14_base_79 : decode cX14_base 79 = .ok (.ifCond .eq 4, 3) := dk_153 0 4 (dk_at dksX14_base_3 7 rfl rfl)
theorem dX14_base_82 : decode cX14_base 82 = .ok (.return_, 1) := dk_177 (dk_at dksX14_base_3 10 rfl rfl)
theorem dX14_base_83 : decode cX14_base 83 = .ok (.aload_n 0, 1) := dk_42 (dk_at dksX14_base_3 11 rfl rfl)
theorem dX14_base_84 : decode cX14_base 84 = .ok (.iload_n 1, 1) := dk_27 (dk_at dksX14_base_3 12 rfl rfl)
theorem dX14_base_85 : decode cX14_base 85 = .ok (.bipush 79, 2) := dk_16 79 (dk_at dksX14_base_3 13 rfl rfl)
theorem dX14_base_87 : decode cX14_base 87 = .ok (.iconst 2, 1) := dk_5 (dk_at dksX14_base_3 15 rfl rfl)
theorem dX14_base_88 : decode cX14_base 88 = .ok (.invokevirtual 536, 3) := dk_182 2 24 (dk_at dksX14_base_3 16 rfl rfl)
theorem dX14_base_91 : decode cX14_base 91 = .ok (.ifCond .eq 20, 3) := dk_153 0 20 (dk_at dksX14_base_3 19 rfl rfl)
theorem dX14_base_94 : decode cX14_base 94 = .ok (.aload_n 0, 1) := dk_42 (dk_at dksX14_base_3 22 rfl rfl)
theorem dX14_base_95 : decode cX14_base 95 = .ok (.bipush 12, 2) := dk_16 12 (dk_at dksX14_base_4 0 rfl rfl)
theorem dX14_base_97 : decode cX14_base 97 = .ok (.invokevirtual 445, 3) := dk_182 1 189 (dk_at dksX14_base_4 2 rfl rfl)
theorem dX14_base_100 : decode cX14_base 100 = .ok (.ifCond .eq 219, 3) := dk_153 0 219 (dk_at dksX14_base_4 5 rfl rfl)
theorem dX14_base_103 : decode cX14_base 103 = .ok (.aload_n 0, 1) := dk_42 (dk_at dksX14_base_4 8 rfl rfl)
theorem dX14_base_104 : decode cX14_base 104 = .ok (.iload_n 1, 1) := dk_27 (dk_at dksX14_base_4 9 rfl rfl)
theorem dX14_base_105 : decode cX14_base 105 = .ok (.invokevirtual 539, 3) := dk_182 2 27 (dk_at dksX14_base_4 10 rfl rfl)
theorem dX14_base_108 : decode cX14_base 108 = .ok (.goto 211, 3) := dk_167 0 211 (dk_at dksX14_base_4 13 rfl rfl)
theorem dX14_base_111 : decode cX14_base 111 = .ok (.aload_n 0, 1) := dk_42 (dk_at dksX14_base_4 16 rfl rfl)
theorem dX14_base_112 : decode cX14_base 112 = .ok (.iload_n 1, 1) := dk_27 (dk_at dksX14_base_4 17 rfl rfl)
theorem dX14_base_113 : decode cX14_base 113 = .ok (.bipush 61, 2) := dk_16 61 (dk_at dksX14_base_4 18 rfl rfl)
theorem dX14_base_115 : decode cX14_base 115 = .ok (.iconst 3, 1) := dk_6 (dk_at dksX14_base_4 20 rfl rfl)
theorem dX14_base_116 : decode cX14_base 116 = .ok (.invokevirtual 536, 3) := dk_182 2 24 (dk_at dksX14_base_4 21 rfl rfl)
theorem dX14_base_119 : decode cX14_base 119 = .ok (.ifCond .eq 11, 3) := dk_153 0 11 (dk_at dksX14_base_5 0 rfl rfl)
theorem dX14_base_122 : decode cX14_base 122 = .ok (.aload_n 0, 1) := dk_42 (dk_at dksX14_base_5 3 rfl rfl)
theorem dX14_base_123 : decode cX14_base 123 = .ok (.iload_n 1, 1) := dk_27 (dk_at dksX14_base_5 4 rfl rfl)
theorem dX14_base_124 : decode cX14_base 124 = .ok (.invokevirtual 539, 3) := dk_182 2 27 (dk_at dksX14_base_5 5 rfl rfl)
theorem dX14_base_127 : decode cX14_base 127 = .ok (.goto 192, 3) := dk_167 0 192 (dk_at dksX14_base_5 8 rfl rfl)
theorem dX14_base_130 : decode cX14_base 130 = .ok (.aload_n 0, 1) := dk_42 (dk_at dksX14_base_5 11 rfl rfl)
theorem dX14_base_131 : decode cX14_base 131 = .ok (.iload_n 1, 1) := dk_27 (dk_at dksX14_base_5 12 rfl rfl)
theorem dX14_base_132 : decode cX14_base 132 = .ok (.bipush 46, 2) := dk_16 46 (dk_at dksX14_base_5 13 rfl rfl)
theorem dX14_base_134 : decode cX14_base 134 = .ok (.iconst 4, 1) := dk_7 (dk_at dksX14_base_5 15 rfl rfl)
theorem dX14_base_135 : decode cX14_base 135 = .ok (.invokevirtual 536, 3) := dk_182 2 24 (dk_at dksX14_base_5 16 rfl rfl)
theorem dX14_base_138 : decode cX14_base 138 = .ok (.ifCond .eq 34, 3) := dk_153 0 34 (dk_at dksX14_base_5 19 rfl rfl)
theorem dX14_base_141 : decode cX14_base 141 = .ok (.aload_n 0, 1) := dk_42 (dk_at dksX14_base_5 22 rfl rfl)
theorem dX14_base_142 : decode cX14_base 142 = .ok (.bipush 102, 2) := dk_16 102 (dk_at dksX14_base_6 0 rfl rfl)
theorem dX14_base_144 : decode cX14_base 144 = .ok (.invokevirtual 473, 3) := dk_182 1 217 (dk_at dksX14_base_6 2 rfl rfl)
theorem dX14_base_147 : decode cX14_base 147 = .ok (.pop, 1) := dk_87 (dk_at dksX14_base_6 5 rfl rfl)
theorem dX14_base_148 : decode cX14_base 148 = .ok (.aload_n 0, 1) := dk_42 (dk_at dksX14_base_6 6 rfl rfl)
theorem dX14_base_149 : decode cX14_base 149 = .ok (.getfield 353, 3) := dk_180 1 97 (dk_at dksX14_base_6 7 rfl rfl)
theorem dX14_base_152 : decode cX14_base 152 = .ok (.ifCond .ne 167, 3) := dk_154 0 167 (dk_at dksX14_base_6 10 rfl rfl)
theorem dX14_base_155 : decode cX14_base 155 = .ok (.aload_n 0, 1) := dk_42 (dk_at dksX14_base_6 13 rfl rfl)
theorem dX14_base_156 : decode cX14_base 156 = .ok (.bipush 12, 2) := dk_16 12 (dk_at dksX14_base_6 14 rfl rfl)
theorem dX14_base_158 : decode cX14_base 158 = .ok (.invokevirtual 445, 3) := dk_182 1 189 (dk_at dksX14_base_6 16 rfl rfl)
theorem dX14_base_161 : decode cX14_base 161 = .ok (.ifCond .eq 158, 3) := dk_153 0 158 (dk_at dksX14_base_6 19 rfl rfl)
theorem dX14_base_164 : decode cX14_base 164 = .ok (.aload_n 0, 1) := dk_42 (dk_at dksX14_base_6 22 rfl rfl)
theorem dX14_base_165 : decode cX14_base 165 = .ok (.iload_n 1, 1) := dk_27 (dk_at dksX14_base_6 23 rfl rfl)
theorem dX14_base_166 : decode cX14_base 166 = .ok (.invokevirtual 539, 3) := dk_182 2 27 (dk_at dksX14_base_7 0 rfl rfl)
theorem dX14_base_169 : decode cX14_base 169 = .ok (.goto 150, 3) := dk_167 0 150 (dk_at dksX14_base_7 3 rfl rfl)
theorem dX14_base_172 : decode cX14_base 172 = .ok (.aload_n 0, 1) := dk_42 (dk_at dksX14_base_7 6 rfl rfl)
theorem dX14_base_173 : decode cX14_base 173 = .ok (.iload_n 1, 1) := dk_27 (dk_at dksX14_base_7 7 rfl rfl)
theorem dX14_base_174 : decode cX14_base 174 = .ok (.bipush 88, 2) := dk_16 88 (dk_at dksX14_base_7 8 rfl rfl)
theorem dX14_base_176 : decode cX14_base 176 = .ok (.iconst 5, 1) := dk_8 (dk_at dksX14_base_7 10 rfl rfl)
theorem dX14_base_177 : decode cX14_base 177 = .ok (.invokevirtual 536, 3) := dk_182 2 24 (dk_at dksX14_base_7 11 rfl rfl)
theorem dX14_base_180 : decode cX14_base 180 = .ok (.ifCond .eq 13, 3) := dk_153 0 13 (dk_at dksX14_base_7 14 rfl rfl)
theorem dX14_base_183 : decode cX14_base 183 = .ok (.aload_n 0, 1) := dk_42 (dk_at dksX14_base_7 17 rfl rfl)
theorem dX14_base_184 : decode cX14_base 184 = .ok (.bipush 102, 2) := dk_16 102 (dk_at dksX14_base_7 18 rfl rfl)
theorem dX14_base_186 : decode cX14_base 186 = .ok (.invokevirtual 473, 3) := dk_182 1 217 (dk_at dksX14_base_7 20 rfl rfl)
theorem dX14_base_189 : decode cX14_base 189 = .ok (.pop, 1) := dk_87 (dk_at dksX14_base_7 23 rfl rfl)
theorem dX14_base_190 : decode cX14_base 190 = .ok (.goto 129, 3) := dk_167 0 129 (dk_at dksX14_base_8 0 rfl rfl)
theorem dX14_base_193 : decode cX14_base 193 = .ok (.aload_n 0, 1) := dk_42 (dk_at dksX14_base_8 3 rfl rfl)
theorem dX14_base_194 : decode cX14_base 194 = .ok (.iload_n 1, 1) := dk_27 (dk_at dksX14_base_8 4 rfl rfl)
theorem dX14_base_195 : decode cX14_base 195 = .ok (.bipush 87, 2) := dk_16 87 (dk_at dksX14_base_8 5 rfl rfl)
theorem dX14_base_197 : decode cX14_base 197 = .ok (.bipush 6, 2) := dk_16 6 (dk_at dksX14_base_8 7 rfl rfl)
theorem dX14_base_199 : decode cX14_base 199 = .ok (.invokevirtual 536, 3) := dk_182 2 24 (dk_at dksX14_base_8 9 rfl rfl)
theorem dX14_base_202 : decode cX14_base 202 = .ok (.ifCond .eq 13, 3) := dk_153 0 13 (dk_at dksX14_base_8 12 rfl rfl)
theorem dX14_base_205 : decode cX14_base 205 = .ok (.aload_n 0, 1) := dk_42 (dk_at dksX14_base_8 15 rfl rfl)
theorem dX14_base_206 : decode cX14_base 206 = .ok (.bipush 73, 2) := dk_16 73 (dk_at dksX14_base_8 16 rfl rfl)
theorem dX14_base_208 : decode cX14_base 208 = .ok (.invokevirtual 473, 3) := dk_182 1 217 (dk_at dksX14_base_8 18 rfl rfl)
theorem dX14_base_211 : decode cX14_base 211 = .ok (.pop, 1) := dk_87 (dk_at dksX14_base_8 21 rfl rfl)
theorem dX14_base_212 : decode cX14_base 212 = .ok (.goto 107, 3) := dk_167 0 107 (dk_at dksX14_base_9 0 rfl rfl)
theorem dX14_base_215 : decode cX14_base 215 = .ok (.aload_n 0, 1) := dk_42 (dk_at dksX14_base_9 3 rfl rfl)
theorem dX14_base_216 : decode cX14_base 216 = .ok (.iload_n 1, 1) := dk_27 (dk_at dksX14_base_9 4 rfl rfl)
theorem dX14_base_217 : decode cX14_base 217 = .ok (.bipush 99, 2) := dk_16 99 (dk_at dksX14_base_9 5 rfl rfl)
theorem dX14_base_219 : decode cX14_base 219 = .ok (.bipush 12, 2) := dk_16 12 (dk_at dksX14_base_9 7 rfl rfl)
theorem dX14_base_221 : decode cX14_base 221 = .ok (.invokevirtual 536, 3) := dk_182 2 24 (dk_at dksX14_base_9 9 rfl rfl)
theorem dX14_base_224 : decode cX14_base 224 = .ok (.ifCond .ne 15, 3) := dk_154 0 15 (dk_at dksX14_base_9 12 rfl rfl)
theorem dX14_base_227 : decode cX14_base 227 = .ok (.aload_n 0, 1) := dk_42 (dk_at dksX14_base_9 15 rfl rfl)
theorem dX14_base_228 : decode cX14_base 228 = .ok (.iload_n 1, 1) := dk_27 (dk_at dksX14_base_9 16 rfl rfl)
theorem dX14_base_229 : decode cX14_base 229 = .ok (.bipush 100, 2) := dk_16 100 (dk_at dksX14_base_9 17 rfl rfl)
theorem dX14_base_231 : decode cX14_base 231 = .ok (.bipush 13, 2) := dk_16 13 (dk_at dksX14_base_9 19 rfl rfl)
theorem dX14_base_233 : decode cX14_base 233 = .ok (.invokevirtual 536, 3) := dk_182 2 24 (dk_at dksX14_base_9 21 rfl rfl)
theorem dX14_base_236 : decode cX14_base 236 = .ok (.ifCond .eq 11, 3) := dk_153 0 11 (dk_at dksX14_base_10 0 rfl rfl)
theorem dX14_base_239 : decode cX14_base 239 = .ok (.aload_n 0, 1) := dk_42 (dk_at dksX14_base_10 3 rfl rfl)
theorem dX14_base_240 : decode cX14_base 240 = .ok (.iload_n 1, 1) := dk_27 (dk_at dksX14_base_10 4 rfl rfl)
theorem dX14_base_241 : decode cX14_base 241 = .ok (.invokevirtual 542, 3) := dk_182 2 30 (dk_at dksX14_base_10 5 rfl rfl)
theorem dX14_base_244 : decode cX14_base 244 = .ok (.goto 75, 3) := dk_167 0 75 (dk_at dksX14_base_10 8 rfl rfl)
theorem dX14_base_247 : decode cX14_base 247 = .ok (.aload_n 0, 1) := dk_42 (dk_at dksX14_base_10 11 rfl rfl)
theorem dX14_base_248 : decode cX14_base 248 = .ok (.iload_n 1, 1) := dk_27 (dk_at dksX14_base_10 12 rfl rfl)
theorem dX14_base_249 : decode cX14_base 249 = .ok (.bipush 51, 2) := dk_16 51 (dk_at dksX14_base_10 13 rfl rfl)
theorem dX14_base_251 : decode cX14_base 251 = .ok (.bipush 16, 2) := dk_16 16 (dk_at dksX14_base_10 15 rfl rfl)
theorem dX14_base_253 : decode cX14_base 253 = .ok (.invokevirtual 536, 3) := dk_182 2 24 (dk_at dksX14_base_10 17 rfl rfl)
theorem dX14_base_256 : decode cX14_base 256 = .ok (.ifCond .eq 19, 3) := dk_153 0 19 (dk_at dksX14_base_10 20 rfl rfl)
theorem dX14_base_259 : decode cX14_base 259 = .ok (.aload_n 0, 1) := dk_42 (dk_at dksX14_base_10 23 rfl rfl)
theorem dX14_base_260 : decode cX14_base 260 = .ok (.bipush 12, 2) := dk_16 12 (dk_at dksX14_base_11 0 rfl rfl)
theorem dX14_base_262 : decode cX14_base 262 = .ok (.invokevirtual 473, 3) := dk_182 1 217 (dk_at dksX14_base_11 2 rfl rfl)
theorem dX14_base_265 : decode cX14_base 265 = .ok (.pop, 1) := dk_87 (dk_at dksX14_base_11 5 rfl rfl)
theorem dX14_base_266 : decode cX14_base 266 = .ok (.aload_n 0, 1) := dk_42 (dk_at dksX14_base_11 6 rfl rfl)
theorem dX14_base_267 : decode cX14_base 267 = .ok (.iload_n 1, 1) := dk_27 (dk_at dksX14_base_11 7 rfl rfl)
theorem dX14_base_268 : decode cX14_base 268 = .ok (.iconst (-1), 1) := dk_2 (dk_at dksX14_base_11 8 rfl rfl)
theorem dX14_base_269 : decode cX14_base 269 = .ok (.invokevirtual 545, 3) := dk_182 2 33 (dk_at dksX14_base_11 9 rfl rfl)
theorem dX14_base_272 : decode cX14_base 272 = .ok (.goto 47, 3) := dk_167 0 47 (dk_at dksX14_base_11 12 rfl rfl)
theorem dX14_base_275 : decode cX14_base 275 = .ok (.aload_n 0, 1) := dk_42 (dk_at dksX14_base_11 15 rfl rfl)
theorem dX14_base_276 : decode cX14_base 276 = .ok (.iconst 1, 1) := dk_4 (dk_at dksX14_base_11 16 rfl rfl)
theorem dX14_base_277 : decode cX14_base 277 = .ok (.invokevirtual 445, 3) := dk_182 1 189 (dk_at dksX14_base_11 17 rfl rfl)
theorem dX14_base_280 : decode cX14_base 280 = .ok (.ifCond .eq 34, 3) := dk_153 0 34 (dk_at dksX14_base_11 20 rfl rfl)
theorem dX14_base_283 : decode cX14_base 283 = .ok (.aload_n 0, 1) := dk_42 (dk_at dksX14_base_11 23 rfl rfl)
theorem dX14_base_284 : decode cX14_base 284 = .ok (.getfield 42, 3) := dk_180 0 42 (dk_at dksX14_base_12 0 rfl rfl)
theorem dX14_base_287 : decode cX14_base 287 = .ok (.iload_n 1, 1) := dk_27 (dk_at dksX14_base_12 3 rfl rfl)
theorem dX14_base_288 : decode cX14_base 288 = .ok (.bipush 17, 2) := dk_16 17 (dk_at dksX14_base_12 4 rfl rfl)
theorem dX14_base_290 : decode cX14_base 290 = .ok (.iastore, 1) := dk_79 (dk_at dksX14_base_12 6 rfl rfl)
theorem dX14_base_291 : decode cX14_base 291 = .ok (.aload_n 0, 1) := dk_42 (dk_at dksX14_base_12 7 rfl rfl)
theorem dX14_base_292 : decode cX14_base 292 = .ok (.getfield 54, 3) := dk_180 0 54 (dk_at dksX14_base_12 8 rfl rfl)
theorem dX14_base_295 : decode cX14_base 295 = .ok (.iload_n 1, 1) := dk_27 (dk_at dksX14_base_12 11 rfl rfl)
theorem dX14_base_296 : decode cX14_base 296 = .ok (.aload_n 0, 1) := dk_42 (dk_at dksX14_base_12 12 rfl rfl)
theorem dX14_base_297 : decode cX14_base 297 = .ok (.getfield 442, 3) := dk_180 1 186 (dk_at dksX14_base_12 13 rfl rfl)
theorem dX14_base_300 : decode cX14_base 300 = .ok (.iastore, 1) := dk_79 (dk_at dksX14_base_12 16 rfl rfl)
theorem dX14_base_301 : decode cX14_base 301 = .ok (.aload_n 0, 1) := dk_42 (dk_at dksX14_base_12 17 rfl rfl)
theorem dX14_base_302 : decode cX14_base 302 = .ok (.dup, 1) := dk_89 (dk_at dksX14_base_12 18 rfl rfl)
theorem dX14_base_303 : decode cX14_base 303 = .ok (.getfield 442, 3) := dk_180 1 186 (dk_at dksX14_base_12 19 rfl rfl)
theorem dX14_base_306 : decode cX14_base 306 = .ok (.iconst 1, 1) := dk_4 (dk_at dksX14_base_12 22 rfl rfl)
theorem dX14_base_307 : decode cX14_base 307 = .ok (.iadd, 1) := dk_96 (dk_at dksX14_base_12 23 rfl rfl)
theorem dX14_base_308 : decode cX14_base 308 = .ok (.putfield 442, 3) := dk_181 1 186 (dk_at dksX14_base_13 0 rfl rfl)
theorem dX14_base_311 : decode cX14_base 311 = .ok (.goto 8, 3) := dk_167 0 8 (dk_at dksX14_base_13 3 rfl rfl)
theorem dX14_base_314 : decode cX14_base 314 = .ok (.aload_n 0, 1) := dk_42 (dk_at dksX14_base_13 6 rfl rfl)
theorem dX14_base_315 : decode cX14_base 315 = .ok (.iconst 1, 1) := dk_4 (dk_at dksX14_base_13 7 rfl rfl)
theorem dX14_base_316 : decode cX14_base 316 = .ok (.invokevirtual 448, 3) := dk_182 1 192 (dk_at dksX14_base_13 8 rfl rfl)
theorem dX14_base_319 : decode cX14_base 319 = .ok (.return_, 1) := dk_177 (dk_at dksX14_base_13 11 rfl rfl)
abbrev cX14_simple : ByteArray := prog_15_method_47_code
def yX14_simple : MethodName := ⟨RX14, "simple", "(III)Z"⟩
def dkwX14_simple_0 : List UInt8 := [42, 28, 182, 1, 220, 154, 0, 5, 3, 172, 42, 180, 0, 42, 27, 29, 79, 4, 172]
abbrev dktX14_simple_0 : List UInt8 := dkwX14_simple_0 ++ []
theorem dksX14_simple_0 : cX14_simple.data.toList.drop 0 = dktX14_simple_0 := by decide +kernel
theorem dX14_simple_0 : decode cX14_simple 0 = .ok (.aload_n 0, 1) := dk_42 (dk_at dksX14_simple_0 0 rfl rfl)
theorem dX14_simple_1 : decode cX14_simple 1 = .ok (.iload_n 2, 1) := dk_28 (dk_at dksX14_simple_0 1 rfl rfl)
theorem dX14_simple_2 : decode cX14_simple 2 = .ok (.invokevirtual 476, 3) := dk_182 1 220 (dk_at dksX14_simple_0 2 rfl rfl)
theorem dX14_simple_5 : decode cX14_simple 5 = .ok (.ifCond .ne 5, 3) := dk_154 0 5 (dk_at dksX14_simple_0 5 rfl rfl)
theorem dX14_simple_8 : decode cX14_simple 8 = .ok (.iconst 0, 1) := dk_3 (dk_at dksX14_simple_0 8 rfl rfl)
theorem dX14_simple_9 : decode cX14_simple 9 = .ok (.ireturn, 1) := dk_172 (dk_at dksX14_simple_0 9 rfl rfl)
theorem dX14_simple_10 : decode cX14_simple 10 = .ok (.aload_n 0, 1) := dk_42 (dk_at dksX14_simple_0 10 rfl rfl)
theorem dX14_simple_11 : decode cX14_simple 11 = .ok (.getfield 42, 3) := dk_180 0 42 (dk_at dksX14_simple_0 11 rfl rfl)
theorem dX14_simple_14 : decode cX14_simple 14 = .ok (.iload_n 1, 1) := dk_27 (dk_at dksX14_simple_0 14 rfl rfl)
theorem dX14_simple_15 : decode cX14_simple 15 = .ok (.iload_n 3, 1) := dk_29 (dk_at dksX14_simple_0 15 rfl rfl)
theorem dX14_simple_16 : decode cX14_simple 16 = .ok (.iastore, 1) := dk_79 (dk_at dksX14_simple_0 16 rfl rfl)
theorem dX14_simple_17 : decode cX14_simple 17 = .ok (.iconst 1, 1) := dk_4 (dk_at dksX14_simple_0 17 rfl rfl)
theorem dX14_simple_18 : decode cX14_simple 18 = .ok (.ireturn, 1) := dk_172 (dk_at dksX14_simple_0 18 rfl rfl)
abbrev cX14_itemsOf : ByteArray := prog_15_method_53_code
def yX14_itemsOf : MethodName := ⟨RX14, "itemsOf", "(I)V"⟩
def dkwX14_itemsOf_10 : List UInt8 := [182, 1, 217, 87, 177]
abbrev dktX14_itemsOf_10 : List UInt8 := dkwX14_itemsOf_10 ++ []
def dkwX14_itemsOf_9 : List UInt8 := [42, 180, 0, 60, 27, 92, 46, 4, 96, 79, 42, 16, 18, 182, 1, 220, 61, 167, 255, 45, 42, 16, 13]
abbrev dktX14_itemsOf_9 : List UInt8 := dkwX14_itemsOf_9 ++ dktX14_itemsOf_10
def dkwX14_itemsOf_8 : List UInt8 := [42, 16, 17, 182, 1, 217, 87, 42, 180, 1, 97, 154, 0, 23, 42, 89, 180, 2, 50, 4, 96, 181, 2, 50]
abbrev dktX14_itemsOf_8 : List UInt8 := dkwX14_itemsOf_8 ++ dktX14_itemsOf_9
def dkwX14_itemsOf_7 : List UInt8 := [182, 2, 20, 16, 63, 164, 0, 8, 42, 4, 182, 1, 192, 42, 180, 0, 90, 29, 42, 6, 182, 1, 217, 79]
abbrev dktX14_itemsOf_7 : List UInt8 := dkwX14_itemsOf_7 ++ dktX14_itemsOf_8
def dkwX14_itemsOf_6 : List UInt8 := [46, 7, 160, 0, 34, 42, 6, 182, 1, 189, 153, 0, 26, 42, 42, 42, 180, 1, 186, 3, 182, 2, 17]
abbrev dktX14_itemsOf_6 : List UInt8 := dkwX14_itemsOf_6 ++ dktX14_itemsOf_7
def dkwX14_itemsOf_5 : List UInt8 := [182, 1, 220, 153, 0, 7, 4, 167, 0, 4, 3, 84, 42, 180, 1, 97, 154, 0, 44, 42, 180, 0, 42, 27]
abbrev dktX14_itemsOf_5 : List UInt8 := dkwX14_itemsOf_5 ++ dktX14_itemsOf_6
def dkwX14_itemsOf_4 : List UInt8 := [16, 16, 182, 1, 217, 87, 42, 180, 0, 93, 29, 42, 180, 0, 42, 27, 46, 7, 159, 0, 16, 42, 16, 19]
abbrev dktX14_itemsOf_4 : List UInt8 := dkwX14_itemsOf_4 ++ dktX14_itemsOf_5
def dkwX14_itemsOf_3 : List UInt8 := [154, 0, 125, 42, 180, 0, 42, 27, 46, 6, 160, 0, 12, 42, 16, 16, 182, 1, 189, 153, 0, 106, 42]
abbrev dktX14_itemsOf_3 : List UInt8 := dkwX14_itemsOf_3 ++ dktX14_itemsOf_4
def dkwX14_itemsOf_2 : List UInt8 := [180, 0, 90, 29, 2, 79, 42, 180, 0, 93, 29, 3, 84, 42, 180, 0, 97, 29, 2, 79, 42, 180, 1, 97]
abbrev dktX14_itemsOf_2 : List UInt8 := dkwX14_itemsOf_2 ++ dktX14_itemsOf_3
def dkwX14_itemsOf_1 : List UInt8 := [154, 0, 210, 28, 153, 0, 206, 42, 180, 2, 50, 62, 42, 180, 0, 87, 29, 42, 5, 182, 1, 217, 79, 42]
abbrev dktX14_itemsOf_1 : List UInt8 := dkwX14_itemsOf_1 ++ dktX14_itemsOf_2
def dkwX14_itemsOf_0 : List UInt8 := [42, 16, 12, 182, 1, 217, 87, 42, 180, 0, 57, 27, 42, 180, 2, 50, 79, 4, 61, 42, 180, 1, 97]
abbrev dktX14_itemsOf_0 : List UInt8 := dkwX14_itemsOf_0 ++ dktX14_itemsOf_1
theorem dksX14_itemsOf_0 : cX14_itemsOf.data.toList.drop 0 = dktX14_itemsOf_0 := by decide +kernel
theorem dksX14_itemsOf_1 : cX14_itemsOf.data.toList.drop 23 = dktX14_itemsOf_1 := dk_seg dksX14_itemsOf_0 23 rfl rfl
theorem dksX14_itemsOf_2 : cX14_itemsOf.data.toList.drop 47 = dktX14_itemsOf_2 := dk_seg dksX14_itemsOf_1 24 rfl rfl
theorem dksX14_itemsOf_3 : cX14_itemsOf.data.toList.drop 71 = dktX14_itemsOf_3 := dk_seg dksX14_itemsOf_2 24 rfl rfl
theorem dksX14_itemsOf_4 : cX14_itemsOf.data.toList.drop 94 = dktX14_itemsOf_4 := dk_seg dksX14_itemsOf_3 23 rfl rfl
theorem dksX14_itemsOf_5 : cX14_itemsOf.data.toList.drop 118 = dktX14_itemsOf_5 := dk_seg dksX14_itemsOf_4 24 rfl rfl
theorem dksX14_itemsOf_6 : cX14_itemsOf.data.toList.drop 142 = dktX14_itemsOf_6 := dk_seg dksX14_itemsOf_5 24 rfl rfl
theorem dksX14_itemsOf_7 : cX14_itemsOf.data.toList.drop 165 = dktX14_itemsOf_7 := dk_seg dksX14_itemsOf_6 23 rfl rfl
theorem dksX14_itemsOf_8 : cX14_itemsOf.data.toList.drop 189 = dktX14_itemsOf_8 := dk_seg dksX14_itemsOf_7 24 rfl rfl
theorem dksX14_itemsOf_9 : cX14_itemsOf.data.toList.drop 213 = dktX14_itemsOf_9 := dk_seg dksX14_itemsOf_8 24 rfl rfl
theorem dksX14_itemsOf_10 : cX14_itemsOf.data.toList.drop 236 = dktX14_itemsOf_10 := dk_seg dksX14_itemsOf_9 23 rfl rfl
theorem dX14_itemsOf_0 : decode cX14_itemsOf 0 = .ok (.aload_n 0, 1) := dk_42 (dk_at dksX14_itemsOf_0 0 rfl rfl)
theorem dX14_itemsOf_1 : decode cX14_itemsOf 1 = .ok (.bipush 12, 2) := dk_16 12 (dk_at dksX14_itemsOf_0 1 rfl rfl)
theorem dX14_itemsOf_3 : decode cX14_itemsOf 3 = .ok (.invokevirtual 473, 3) := dk_182 1 217 (dk_at dksX14_itemsOf_0 3 rfl rfl)
theorem dX14_itemsOf_6 : decode cX14_itemsOf 6 = .ok (.pop, 1) := dk_87 (dk_at dksX14_itemsOf_0 6 rfl rfl)
theorem dX14_itemsOf_7 : decode cX14_itemsOf 7 = .ok (.aload_n 0, 1) := dk_42 (dk_at dksX14_itemsOf_0 7 rfl rfl)
theorem dX14_itemsOf_8 : decode cX14_itemsOf 8 = .ok (.getfield 57, 3) := dk_180 0 57 (dk_at dksX14_itemsOf_0 8 rfl rfl)
theorem dX14_itemsOf_11 : decode cX14_itemsOf 11 = .ok (.iload_n 1, 1) := dk_27 (dk_at dksX14_itemsOf_0 11 rfl rfl)
theorem dX14_itemsOf_12 : decode cX14_itemsOf 12 = .ok (.aload_n 0, 1) := dk_42 (dk_at dksX14_itemsOf_0 12 rfl rfl)
theorem dX14_itemsOf_13 : decode cX14_itemsOf 13 = .ok (.getfield 562, 3) := dk_180 2 50 (dk_at dksX14_itemsOf_0 13 rfl rfl)
theorem dX14_itemsOf_16 : decode cX14_itemsOf 16 = .ok (.iastore, 1) := dk_79 (dk_at dksX14_itemsOf_0 16 rfl rfl)
theorem dX14_itemsOf_17 : decode cX14_itemsOf 17 = .ok (.iconst 1, 1) := dk_4 (dk_at dksX14_itemsOf_0 17 rfl rfl)
theorem dX14_itemsOf_18 : decode cX14_itemsOf 18 = .ok (.istore_n 2, 1) := dk_61 (dk_at dksX14_itemsOf_0 18 rfl rfl)
theorem dX14_itemsOf_19 : decode cX14_itemsOf 19 = .ok (.aload_n 0, 1) := dk_42 (dk_at dksX14_itemsOf_0 19 rfl rfl)
theorem dX14_itemsOf_20 : decode cX14_itemsOf 20 = .ok (.getfield 353, 3) := dk_180 1 97 (dk_at dksX14_itemsOf_0 20 rfl rfl)
theorem dX14_itemsOf_23 : decode cX14_itemsOf 23 = .ok (.ifCond .ne 210, 3) := dk_154 0 210 (dk_at dksX14_itemsOf_1 0 rfl rfl)
theorem dX14_itemsOf_26 : decode cX14_itemsOf 26 = .ok (.iload_n 2, 1) := dk_28 (dk_at dksX14_itemsOf_1 3 rfl rfl)
theorem dX14_itemsOf_27 : decode cX14_itemsOf 27 = .ok (.ifCond .eq 206, 3) := dk_153 0 206 (dk_at dksX14_itemsOf_1 4 rfl rfl)
theorem dX14_itemsOf_30 : decode cX14_itemsOf 30 = .ok (.aload_n 0, 1) := dk_42 (dk_at dksX14_itemsOf_1 7 rfl rfl)
theorem dX14_itemsOf_31 : decode cX14_itemsOf 31 = .ok (.getfield 562, 3) := dk_180 2 50 (dk_at dksX14_itemsOf_1 8 rfl rfl)
theorem dX14_itemsOf_34 : decode cX14_itemsOf 34 = .ok (.istore_n 3, 1) := dk_62 (dk_at dksX14_itemsOf_1 11 rfl rfl)
theorem dX14_itemsOf_35 : decode cX14_itemsOf 35 = .ok (.aload_n 0, 1) := dk_42 (dk_at dksX14_itemsOf_1 12 rfl rfl)
theorem dX14_itemsOf_36 : decode cX14_itemsOf 36 = .ok (.getfield 87, 3) := dk_180 0 87 (dk_at dksX14_itemsOf_1 13 rfl rfl)
theorem dX14_itemsOf_39 : decode cX14_itemsOf 39 = .ok (.iload_n 3, 1) := dk_29 (dk_at dksX14_itemsOf_1 16 rfl rfl)
theorem dX14_itemsOf_40 : decode cX14_itemsOf 40 = .ok (.aload_n 0, 1) := dk_42 (dk_at dksX14_itemsOf_1 17 rfl rfl)
theorem dX14_itemsOf_41 : decode cX14_itemsOf 41 = .ok (.iconst 2, 1) := dk_5 (dk_at dksX14_itemsOf_1 18 rfl rfl)
theorem dX14_itemsOf_42 : decode cX14_itemsOf 42 = .ok (.invokevirtual 473, 3) := dk_182 1 217 (dk_at dksX14_itemsOf_1 19 rfl rfl)
theorem dX14_itemsOf_45 : decode cX14_itemsOf 45 = .ok (.iastore, 1) := dk_79 (dk_at dksX14_itemsOf_1 22 rfl rfl)
theorem dX14_itemsOf_46 : decode cX14_itemsOf 46 = .ok (.aload_n 0, 1) := dk_42 (dk_at dksX14_itemsOf_1 23 rfl rfl)
theorem dX14_itemsOf_47 : decode cX14_itemsOf 47 = .ok (.getfield 90, 3) := dk_180 0 90 (dk_at dksX14_itemsOf_2 0 rfl rfl)
theorem dX14_itemsOf_50 : decode cX14_itemsOf 50 = .ok (.iload_n 3, 1) := dk_29 (dk_at dksX14_itemsOf_2 3 rfl rfl)
theorem dX14_itemsOf_51 : decode cX14_itemsOf 51 = .ok (.iconst (-1), 1) := dk_2 (dk_at dksX14_itemsOf_2 4 rfl rfl)
theorem dX14_itemsOf_52 : decode cX14_itemsOf 52 = .ok (.iastore, 1) := dk_79 (dk_at dksX14_itemsOf_2 5 rfl rfl)
theorem dX14_itemsOf_53 : decode cX14_itemsOf 53 = .ok (.aload_n 0, 1) := dk_42 (dk_at dksX14_itemsOf_2 6 rfl rfl)
theorem dX14_itemsOf_54 : decode cX14_itemsOf 54 = .ok (.getfield 93, 3) := dk_180 0 93 (dk_at dksX14_itemsOf_2 7 rfl rfl)
theorem dX14_itemsOf_57 : decode cX14_itemsOf 57 = .ok (.iload_n 3, 1) := dk_29 (dk_at dksX14_itemsOf_2 10 rfl rfl)
theorem dX14_itemsOf_58 : decode cX14_itemsOf 58 = .ok (.iconst 0, 1) := dk_3 (dk_at dksX14_itemsOf_2 11 rfl rfl)
theorem dX14_itemsOf_59 : decode cX14_itemsOf 59 = .ok (.bastore, 1) := dk_84 (dk_at dksX14_itemsOf_2 12 rfl rfl)
theorem dX14_itemsOf_60 : decode cX14_itemsOf 60 = .ok (.aload_n 0, 1) := dk_42 (dk_at dksX14_itemsOf_2 13 rfl rfl)
theorem dX14_itemsOf_61 : decode cX14_itemsOf 61 = .ok (.getfield 97, 3) := dk_180 0 97 (dk_at dksX14_itemsOf_2 14 rfl rfl)
theorem dX14_itemsOf_64 : decode cX14_itemsOf 64 = .ok (.iload_n 3, 1) := dk_29 (dk_at dksX14_itemsOf_2 17 rfl rfl)
theorem dX14_itemsOf_65 : decode cX14_itemsOf 65 = .ok (.iconst (-1), 1) := dk_2 (dk_at dksX14_itemsOf_2 18 rfl rfl)
theorem dX14_itemsOf_66 : decode cX14_itemsOf 66 = .ok (.iastore, 1) := dk_79 (dk_at dksX14_itemsOf_2 19 rfl rfl)
theorem dX14_itemsOf_67 : decode cX14_itemsOf 67 = .ok (.aload_n 0, 1) := dk_42 (dk_at dksX14_itemsOf_2 20 rfl rfl)
theorem dX14_itemsOf_68 : decode cX14_itemsOf 68 = .ok (.getfield 353, 3) := dk_180 1 97 (dk_at dksX14_itemsOf_2 21 rfl rfl)
theorem dX14_itemsOf_71 : decode cX14_itemsOf 71 = .ok (.ifCond .ne 125, 3) := dk_154 0 125 (dk_at dksX14_itemsOf_3 0 rfl rfl)
theorem dX14_itemsOf_74 : decode cX14_itemsOf 74 = .ok (.aload_n 0, 1) := dk_42 (dk_at dksX14_itemsOf_3 3 rfl rfl)
theorem dX14_itemsOf_75 : decode cX14_itemsOf 75 = .ok (.getfield 42, 3) := dk_180 0 42 (dk_at dksX14_itemsOf_3 4 rfl rfl)
theorem dX14_itemsOf_78 : decode cX14_itemsOf 78 = .ok (.iload_n 1, 1) := dk_27 (dk_at dksX14_itemsOf_3 7 rfl rfl)
theorem dX14_itemsOf_79 : decode cX14_itemsOf 79 = .ok (.iaload, 1) := dk_46 (dk_at dksX14_itemsOf_3 8 rfl rfl)
theorem dX14_itemsOf_80 : decode cX14_itemsOf 80 = .ok (.iconst 3, 1) := dk_6 (dk_at dksX14_itemsOf_3 9 rfl rfl)
theorem dX14_itemsOf_81 : decode cX14_itemsOf 81 = .ok (.if_icmp .ne 12, 3) := dk_160 0 12 (dk_at dksX14_itemsOf_3 10 rfl rfl)
theorem dX14_itemsOf_84 : decode cX14_itemsOf 84 = .ok (.aload_n 0, 1) := dk_42 (dk_at dksX14_itemsOf_3 13 rfl rfl)
theorem dX14_itemsOf_85 : decode cX14_itemsOf 85 = .ok (.bipush 16, 2) := dk_16 16 (dk_at dksX14_itemsOf_3 14 rfl rfl)
theorem dX14_itemsOf_87 : decode cX14_itemsOf 87 = .ok (.invokevirtual 445, 3) := dk_182 1 189 (dk_at dksX14_itemsOf_3 16 rfl rfl)
theorem dX14_itemsOf_90 : decode cX14_itemsOf 90 = .ok (.ifCond .eq 106, 3) := dk_153 0 106 (dk_at dksX14_itemsOf_3 19 rfl rfl)
theorem dX14_itemsOf_93 : decode cX14_itemsOf 93 = .ok (.aload_n 0, 1) := dk_42 (dk_at dksX14_itemsOf_3 22 rfl rfl)
theorem dX14_itemsOf_94 : decode cX14_itemsOf 94 = .ok (.bipush 16, 2) := dk_16 16 (dk_at dksX14_itemsOf_4 0 rfl rfl)
theorem dX14_itemsOf_96 : decode cX14_itemsOf 96 = .ok (.invokevirtual 473, 3) := dk_182 1 217 (dk_at dksX14_itemsOf_4 2 rfl rfl)
theorem dX14_itemsOf_99 : decode cX14_itemsOf 99 = .ok (.pop, 1) := dk_87 (dk_at dksX14_itemsOf_4 5 rfl rfl)
theorem dX14_itemsOf_100 : decode cX14_itemsOf 100 = .ok (.aload_n 0, 1) := dk_42 (dk_at dksX14_itemsOf_4 6 rfl rfl)
theorem dX14_itemsOf_101 : decode cX14_itemsOf 101 = .ok (.getfield 93, 3) := dk_180 0 93 (dk_at dksX14_itemsOf_4 7 rfl rfl)
theorem dX14_itemsOf_104 : decode cX14_itemsOf 104 = .ok (.iload_n 3, 1) := dk_29 (dk_at dksX14_itemsOf_4 10 rfl rfl)
theorem dX14_itemsOf_105 : decode cX14_itemsOf 105 = .ok (.aload_n 0, 1) := dk_42 (dk_at dksX14_itemsOf_4 11 rfl rfl)
theorem dX14_itemsOf_106 : decode cX14_itemsOf 106 = .ok (.getfield 42, 3) := dk_180 0 42 (dk_at dksX14_itemsOf_4 12 rfl rfl)
theorem dX14_itemsOf_109 : decode cX14_itemsOf 109 = .ok (.iload_n 1, 1) := dk_27 (dk_at dksX14_itemsOf_4 15 rfl rfl)
theorem dX14_itemsOf_110 : decode cX14_itemsOf 110 = .ok (.iaload, 1) := dk_46 (dk_at dksX14_itemsOf_4 16 rfl rfl)
theorem dX14_itemsOf_111 : decode cX14_itemsOf 111 = .ok (.iconst 4, 1) := dk_7 (dk_at dksX14_itemsOf_4 17 rfl rfl)
theorem dX14_itemsOf_112 : decode cX14_itemsOf 112 = .ok (.if_icmp .eq 16, 3) := dk_159 0 16 (dk_at dksX14_itemsOf_4 18 rfl rfl)
theorem dX14_itemsOf_115 : decode cX14_itemsOf 115 = .ok (.aload_n 0, 1) := dk_42 (dk_at dksX14_itemsOf_4 21 rfl rfl)
theorem dX14_itemsOf_116 : decode cX14_itemsOf 116 = .ok (.bipush 19, 2) := dk_16 19 (dk_at dksX14_itemsOf_4 22 rfl rfl)
theorem dX14_itemsOf_118 : decode cX14_itemsOf 118 = .ok (.invokevirtual 476, 3) := dk_182 1 220 (dk_at dksX14_itemsOf_5 0 rfl rfl)
theorem dX14_itemsOf_121 : decode cX14_itemsOf 121 = .ok (.ifCond .eq 7, 3) := dk_153 0 7 (dk_at dksX14_itemsOf_5 3 rfl rfl)
theorem dX14_itemsOf_124 : decode cX14_itemsOf 124 = .ok (.iconst 1, 1) := dk_4 (dk_at dksX14_itemsOf_5 6 rfl rfl)
theorem dX14_itemsOf_125 : decode cX14_itemsOf 125 = .ok (.goto 4, 3) := dk_167 0 4 (dk_at dksX14_itemsOf_5 7 rfl rfl)
theorem dX14_itemsOf_128 : decode cX14_itemsOf 128 = .ok (.iconst 0, 1) := dk_3 (dk_at dksX14_itemsOf_5 10 rfl rfl)
theorem dX14_itemsOf_129 : decode cX14_itemsOf 129 = .ok (.bastore, 1) := dk_84 (dk_at dksX14_itemsOf_5 11 rfl rfl)
theorem dX14_itemsOf_130 : decode cX14_itemsOf 130 = .ok (.aload_n 0, 1) := dk_42 (dk_at dksX14_itemsOf_5 12 rfl rfl)
theorem dX14_itemsOf_131 : decode cX14_itemsOf 131 = .ok (.getfield 353, 3) := dk_180 1 97 (dk_at dksX14_itemsOf_5 13 rfl rfl)
theorem dX14_itemsOf_134 : decode cX14_itemsOf 134 = .ok (.ifCond .ne 44, 3) := dk_154 0 44 (dk_at dksX14_itemsOf_5 16 rfl rfl)
theorem dX14_itemsOf_137 : decode cX14_itemsOf 137 = .ok (.aload_n 0, 1) := dk_42 (dk_at dksX14_itemsOf_5 19 rfl rfl)
theorem dX14_itemsOf_138 : decode cX14_itemsOf 138 = .ok (.getfield 42, 3) := dk_180 0 42 (dk_at dksX14_itemsOf_5 20 rfl rfl)
theorem dX14_itemsOf_141 : decode cX14_itemsOf 141 = .ok (.iload_n 1, 1) := dk_27 (dk_at dksX14_itemsOf_5 23 rfl rfl)
theorem dX14_itemsOf_142 : decode cX14_itemsOf 142 = .ok (.iaload, 1) := dk_46 (dk_at dksX14_itemsOf_6 0 rfl rfl)
theorem dX14_itemsOf_143 : decode cX14_itemsOf 143 = .ok (.iconst 4, 1) := dk_7 (dk_at dksX14_itemsOf_6 1 rfl rfl)
theorem dX14_itemsOf_144 : decode cX14_itemsOf 144 = .ok (.if_icmp .ne 34, 3) := dk_160 0 34 (dk_at dksX14_itemsOf_6 2 rfl rfl)
theorem dX14_itemsOf_147 : decode cX14_itemsOf 147 = .ok (.aload_n 0, 1) := dk_42 (dk_at dksX14_itemsOf_6 5 rfl rfl)
theorem dX14_itemsOf_148 : decode cX14_itemsOf 148 = .ok (.iconst 3, 1) := dk_6 (dk_at dksX14_itemsOf_6 6 rfl rfl)
theorem dX14_itemsOf_149 : decode cX14_itemsOf 149 = .ok (.invokevirtual 445, 3) := dk_182 1 189 (dk_at dksX14_itemsOf_6 7 rfl rfl)
theorem dX14_itemsOf_152 : decode cX14_itemsOf 152 = .ok (.ifCond .eq 26, 3) := dk_153 0 26 (dk_at dksX14_itemsOf_6 10 rfl rfl)
theorem dX14_itemsOf_155 : decode cX14_itemsOf 155 = .ok (.aload_n 0, 1) := dk_42 (dk_at dksX14_itemsOf_6 13 rfl rfl)
theorem dX14_itemsOf_156 : decode cX14_itemsOf 156 = .ok (.aload_n 0, 1) := dk_42 (dk_at dksX14_itemsOf_6 14 rfl rfl)
theorem dX14_itemsOf_157 : decode cX14_itemsOf 157 = .ok (.aload_n 0, 1) := dk_42 (dk_at dksX14_itemsOf_6 15 rfl rfl)
theorem dX14_itemsOf_158 : decode cX14_itemsOf 158 = .ok (.getfield 442, 3) := dk_180 1 186 (dk_at dksX14_itemsOf_6 16 rfl rfl)
theorem dX14_itemsOf_161 : decode cX14_itemsOf 161 = .ok (.iconst 0, 1) := dk_3 (dk_at dksX14_itemsOf_6 19 rfl rfl)
theorem dX14_itemsOf_162 : decode cX14_itemsOf 162 = .ok (.invokevirtual 529, 3) := dk_182 2 17 (dk_at dksX14_itemsOf_6 20 rfl rfl)
theorem dX14_itemsOf_165 : decode cX14_itemsOf 165 = .ok (.invokevirtual 532, 3) := dk_182 2 20 (dk_at dksX14_itemsOf_7 0 rfl rfl)
theorem dX14_itemsOf_168 : decode cX14_itemsOf 168 = .ok (.bipush 63, 2) := dk_16 63 (dk_at dksX14_itemsOf_7 3 rfl rfl)
theorem dX14_itemsOf_170 : decode cX14_itemsOf 170 = .ok (.if_icmp .le 8, 3) := dk_164 0 8 (dk_at dksX14_itemsOf_7 5 rfl rfl)
theorem dX14_itemsOf_173 : decode cX14_itemsOf 173 = .ok (.aload_n 0, 1) := dk_42 (dk_at dksX14_itemsOf_7 8 rfl rfl)
theorem dX14_itemsOf_174 : decode cX14_itemsOf 174 = .ok (.iconst 1, 1) := dk_4 (dk_at dksX14_itemsOf_7 9 rfl rfl)
theorem dX14_itemsOf_175 : decode cX14_itemsOf 175 = .ok (.invokevirtual 448, 3) := dk_182 1 192 (dk_at dksX14_itemsOf_7 10 rfl rfl)
theorem dX14_itemsOf_178 : decode cX14_itemsOf 178 = .ok (.aload_n 0, 1) := dk_42 (dk_at dksX14_itemsOf_7 13 rfl rfl)
theorem dX14_itemsOf_179 : decode cX14_itemsOf 179 = .ok (.getfield 90, 3) := dk_180 0 90 (dk_at dksX14_itemsOf_7 14 rfl rfl)
theorem dX14_itemsOf_182 : decode cX14_itemsOf 182 = .ok (.iload_n 3, 1) := dk_29 (dk_at dksX14_itemsOf_7 17 rfl rfl)
theorem dX14_itemsOf_183 : decode cX14_itemsOf 183 = .ok (.aload_n 0, 1) := dk_42 (dk_at dksX14_itemsOf_7 18 rfl rfl)
theorem dX14_itemsOf_184 : decode cX14_itemsOf 184 = .ok (.iconst 3, 1) := dk_6 (dk_at dksX14_itemsOf_7 19 rfl rfl)
theorem dX14_itemsOf_185 : decode cX14_itemsOf 185 = .ok (.invokevirtual 473, 3) := dk_182 1 217 (dk_at dksX14_itemsOf_7 20 rfl rfl)
theorem dX14_itemsOf_188 : decode cX14_itemsOf 188 = .ok (.iastore, 1) := dk_79 (dk_at dksX14_itemsOf_7 23 rfl rfl)
theorem dX14_itemsOf_189 : decode cX14_itemsOf 189 = .ok (.aload_n 0, 1) := dk_42 (dk_at dksX14_itemsOf_8 0 rfl rfl)
theorem dX14_itemsOf_190 : decode cX14_itemsOf 190 = .ok (.bipush 17, 2) := dk_16 17 (dk_at dksX14_itemsOf_8 1 rfl rfl)
theorem dX14_itemsOf_192 : decode cX14_itemsOf 192 = .ok (.invokevirtual 473, 3) := dk_182 1 217 (dk_at dksX14_itemsOf_8 3 rfl rfl)
theorem dX14_itemsOf_195 : decode cX14_itemsOf 195 = .ok (.pop, 1) := dk_87 (dk_at dksX14_itemsOf_8 6 rfl rfl)
theorem dX14_itemsOf_196 : decode cX14_itemsOf 196 = .ok (.aload_n 0, 1) := dk_42 (dk_at dksX14_itemsOf_8 7 rfl rfl)
theorem dX14_itemsOf_197 : decode cX14_itemsOf 197 = .ok (.getfield 353, 3) := dk_180 1 97 (dk_at dksX14_itemsOf_8 8 rfl rfl)
theorem dX14_itemsOf_200 : decode cX14_itemsOf 200 = .ok (.ifCond .ne 23, 3) := dk_154 0 23 (dk_at dksX14_itemsOf_8 11 rfl rfl)
theorem dX14_itemsOf_203 : decode cX14_itemsOf 203 = .ok (.aload_n 0, 1) := dk_42 (dk_at dksX14_itemsOf_8 14 rfl rfl)
theorem dX14_itemsOf_204 : decode cX14_itemsOf 204 = .ok (.dup, 1) := dk_89 (dk_at dksX14_itemsOf_8 15 rfl rfl)
theorem dX14_itemsOf_205 : decode cX14_itemsOf 205 = .ok (.getfield 562, 3) := dk_180 2 50 (dk_at dksX14_itemsOf_8 16 rfl rfl)
theorem dX14_itemsOf_208 : decode cX14_itemsOf 208 = .ok (.iconst 1, 1) := dk_4 (dk_at dksX14_itemsOf_8 19 rfl rfl)
theorem dX14_itemsOf_209 : decode cX14_itemsOf 209 = .ok (.iadd, 1) := dk_96 (dk_at dksX14_itemsOf_8 20 rfl rfl)
theorem dX14_itemsOf_210 : decode cX14_itemsOf 210 = .ok (.putfield 562, 3) := dk_181 2 50 (dk_at dksX14_itemsOf_8 21 rfl rfl)
theorem dX14_itemsOf_213 : decode cX14_itemsOf 213 = .ok (.aload_n 0, 1) := dk_42 (dk_at dksX14_itemsOf_9 0 rfl rfl)
theorem dX14_itemsOf_214 : decode cX14_itemsOf 214 = .ok (.getfield 60, 3) := dk_180 0 60 (dk_at dksX14_itemsOf_9 1 rfl rfl)
theorem dX14_itemsOf_217 : decode cX14_itemsOf 217 = .ok (.iload_n 1, 1) := dk_27 (dk_at dksX14_itemsOf_9 4 rfl rfl)
theorem dX14_itemsOf_218 : decode cX14_itemsOf 218 = .ok (.dup2, 1) := dk_92 (dk_at dksX14_itemsOf_9 5 rfl rfl)
theorem dX14_itemsOf_219 : decode cX14_itemsOf 219 = .ok (.iaload, 1) := dk_46 (dk_at dksX14_itemsOf_9 6 rfl rfl)
theorem dX14_itemsOf_220 : decode cX14_itemsOf 220 = .ok (.iconst 1, 1) := dk_4 (dk_at dksX14_itemsOf_9 7 rfl rfl)
theorem dX14_itemsOf_221 : decode cX14_itemsOf 221 = .ok (.iadd, 1) := dk_96 (dk_at dksX14_itemsOf_9 8 rfl rfl)
theorem dX14_itemsOf_222 : decode cX14_itemsOf 222 = .ok (.iastore, 1) := dk_79 (dk_at dksX14_itemsOf_9 9 rfl rfl)
theorem dX14_itemsOf_223 : decode cX14_itemsOf 223 = .ok (.aload_n 0, 1) := dk_42 (dk_at dksX14_itemsOf_9 10 rfl rfl)
theorem dX14_itemsOf_224 : decode cX14_itemsOf 224 = .ok (.bipush 18, 2) := dk_16 18 (dk_at dksX14_itemsOf_9 11 rfl rfl)
theorem dX14_itemsOf_226 : decode cX14_itemsOf 226 = .ok (.invokevirtual 476, 3) := dk_182 1 220 (dk_at dksX14_itemsOf_9 13 rfl rfl)
theorem dX14_itemsOf_229 : decode cX14_itemsOf 229 = .ok (.istore_n 2, 1) := dk_61 (dk_at dksX14_itemsOf_9 16 rfl rfl)
theorem dX14_itemsOf_230 : decode cX14_itemsOf 230 = .ok (.goto (-211), 3) := dk_167 255 45 (dk_at dksX14_itemsOf_9 17 rfl rfl)
theorem dX14_itemsOf_233 : decode cX14_itemsOf 233 = .ok (.aload_n 0, 1) := dk_42 (dk_at dksX14_itemsOf_9 20 rfl rfl)
theorem dX14_itemsOf_234 : decode cX14_itemsOf 234 = .ok (.bipush 13, 2) := dk_16 13 (dk_at dksX14_itemsOf_9 21 rfl rfl)
theorem dX14_itemsOf_236 : decode cX14_itemsOf 236 = .ok (.invokevirtual 473, 3) := dk_182 1 217 (dk_at dksX14_itemsOf_10 0 rfl rfl)
theorem dX14_itemsOf_239 : decode cX14_itemsOf 239 = .ok (.pop, 1) := dk_87 (dk_at dksX14_itemsOf_10 3 rfl rfl)
theorem dX14_itemsOf_240 : decode cX14_itemsOf 240 = .ok (.return_, 1) := dk_177 (dk_at dksX14_itemsOf_10 4 rfl rfl)
abbrev cX14_row : ByteArray := prog_15_method_49_code
def yX14_row : MethodName := ⟨RX14, "row", "(I)V"⟩
def dkwX14_row_7 : List UInt8 := [177]
abbrev dktX14_row_7 : List UInt8 := dkwX14_row_7 ++ []
def dkwX14_row_6 : List UInt8 := [180, 0, 190, 42, 180, 1, 243, 2, 79, 42, 89, 180, 1, 243, 4, 96, 181, 1, 243, 42, 4, 181, 1, 246]
abbrev dktX14_row_6 : List UInt8 := dkwX14_row_6 ++ dktX14_row_7
def dkwX14_row_5 : List UInt8 := [16, 12, 160, 0, 8, 16, 14, 167, 0, 5, 16, 15, 79, 42, 180, 0, 187, 42, 180, 1, 243, 27, 79, 42]
abbrev dktX14_row_5 : List UInt8 := dkwX14_row_5 ++ dktX14_row_6
def dkwX14_row_4 : List UInt8 := [182, 1, 217, 87, 42, 180, 1, 97, 158, 0, 4, 177, 42, 180, 0, 42, 27, 42, 180, 0, 42, 27, 46]
abbrev dktX14_row_4 : List UInt8 := dkwX14_row_4 ++ dktX14_row_5
def dkwX14_row_3 : List UInt8 := [180, 1, 186, 61, 42, 89, 180, 1, 186, 4, 96, 181, 1, 186, 42, 27, 28, 4, 182, 2, 36, 42, 16, 89]
abbrev dktX14_row_3 : List UInt8 := dkwX14_row_3 ++ dktX14_row_4
def dkwX14_row_2 : List UInt8 := [182, 2, 36, 167, 0, 41, 42, 180, 1, 97, 154, 0, 34, 42, 16, 16, 182, 1, 189, 153, 0, 25, 42]
abbrev dktX14_row_2 : List UInt8 := dkwX14_row_2 ++ dktX14_row_3
def dkwX14_row_1 : List UInt8 := [177, 42, 180, 1, 97, 154, 0, 25, 42, 16, 101, 182, 1, 189, 153, 0, 16, 42, 27, 42, 180, 1, 186, 3]
abbrev dktX14_row_1 : List UInt8 := dkwX14_row_1 ++ dktX14_row_2
def dkwX14_row_0 : List UInt8 := [42, 16, 12, 182, 1, 220, 153, 0, 19, 42, 16, 13, 182, 1, 220, 154, 0, 9, 42, 27, 2, 182, 2, 33]
abbrev dktX14_row_0 : List UInt8 := dkwX14_row_0 ++ dktX14_row_1
theorem dksX14_row_0 : cX14_row.data.toList.drop 0 = dktX14_row_0 := by decide +kernel
theorem dksX14_row_1 : cX14_row.data.toList.drop 24 = dktX14_row_1 := dk_seg dksX14_row_0 24 rfl rfl
theorem dksX14_row_2 : cX14_row.data.toList.drop 48 = dktX14_row_2 := dk_seg dksX14_row_1 24 rfl rfl
theorem dksX14_row_3 : cX14_row.data.toList.drop 71 = dktX14_row_3 := dk_seg dksX14_row_2 23 rfl rfl
theorem dksX14_row_4 : cX14_row.data.toList.drop 95 = dktX14_row_4 := dk_seg dksX14_row_3 24 rfl rfl
theorem dksX14_row_5 : cX14_row.data.toList.drop 118 = dktX14_row_5 := dk_seg dksX14_row_4 23 rfl rfl
theorem dksX14_row_6 : cX14_row.data.toList.drop 142 = dktX14_row_6 := dk_seg dksX14_row_5 24 rfl rfl
theorem dksX14_row_7 : cX14_row.data.toList.drop 166 = dktX14_row_7 := dk_seg dksX14_row_6 24 rfl rfl
theorem dX14_row_0 : decode cX14_row 0 = .ok (.aload_n 0, 1) := dk_42 (dk_at dksX14_row_0 0 rfl rfl)
theorem dX14_row_1 : decode cX14_row 1 = .ok (.bipush 12, 2) := dk_16 12 (dk_at dksX14_row_0 1 rfl rfl)
theorem dX14_row_3 : decode cX14_row 3 = .ok (.invokevirtual 476, 3) := dk_182 1 220 (dk_at dksX14_row_0 3 rfl rfl)
theorem dX14_row_6 : decode cX14_row 6 = .ok (.ifCond .eq 19, 3) := dk_153 0 19 (dk_at dksX14_row_0 6 rfl rfl)
theorem dX14_row_9 : decode cX14_row 9 = .ok (.aload_n 0, 1) := dk_42 (dk_at dksX14_row_0 9 rfl rfl)
theorem dX14_row_10 : decode cX14_row 10 = .ok (.bipush 13, 2) := dk_16 13 (dk_at dksX14_row_0 10 rfl rfl)
theorem dX14_row_12 : decode cX14_row 12 = .ok (.invokevirtual 476, 3) := dk_182 1 220 (dk_at dksX14_row_0 12 rfl rfl)
theorem dX14_row_15 : decode cX14_row 15 = .ok (.ifCond .ne 9, 3) := dk_154 0 9 (dk_at dksX14_row_0 15 rfl rfl)
theorem dX14_row_18 : decode cX14_row 18 = .ok (.aload_n 0, 1) := dk_42 (dk_at dksX14_row_0 18 rfl rfl)
theorem dX14_row_19 : decode cX14_row 19 = .ok (.iload_n 1, 1) := dk_27 (dk_at dksX14_row_0 19 rfl rfl)
theorem dX14_row_20 : decode cX14_row 20 = .ok (.iconst (-1), 1) := dk_2 (dk_at dksX14_row_0 20 rfl rfl)
theorem dX14_row_21 : decode cX14_row 21 = .ok (.invokevirtual 545, 3) := dk_182 2 33 (dk_at dksX14_row_0 21 rfl rfl)
theorem dX14_row_24 : decode cX14_row 24 = .ok (.return_, 1) := dk_177 (dk_at dksX14_row_1 0 rfl rfl)
theorem dX14_row_25 : decode cX14_row 25 = .ok (.aload_n 0, 1) := dk_42 (dk_at dksX14_row_1 1 rfl rfl)
theorem dX14_row_26 : decode cX14_row 26 = .ok (.getfield 353, 3) := dk_180 1 97 (dk_at dksX14_row_1 2 rfl rfl)
theorem dX14_row_29 : decode cX14_row 29 = .ok (.ifCond .ne 25, 3) := dk_154 0 25 (dk_at dksX14_row_1 5 rfl rfl)
theorem dX14_row_32 : decode cX14_row 32 = .ok (.aload_n 0, 1) := dk_42 (dk_at dksX14_row_1 8 rfl rfl)
theorem dX14_row_33 : decode cX14_row 33 = .ok (.bipush 101, 2) := dk_16 101 (dk_at dksX14_row_1 9 rfl rfl)
theorem dX14_row_35 : decode cX14_row 35 = .ok (.invokevirtual 445, 3) := dk_182 1 189 (dk_at dksX14_row_1 11 rfl rfl)
theorem dX14_row_38 : decode cX14_row 38 = .ok (.ifCond .eq 16, 3) := dk_153 0 16 (dk_at dksX14_row_1 14 rfl rfl)
theorem dX14_row_41 : decode cX14_row 41 = .ok (.aload_n 0, 1) := dk_42 (dk_at dksX14_row_1 17 rfl rfl)
theorem dX14_row_42 : decode cX14_row 42 = .ok (.iload_n 1, 1) := dk_27 (dk_at dksX14_row_1 18 rfl rfl)
theorem dX14_row_43 : decode cX14_row 43 = .ok (.aload_n 0, 1) := dk_42 (dk_at dksX14_row_1 19 rfl rfl)
theorem dX14_row_44 : decode cX14_row 44 = .ok (.getfield 442, 3) := dk_180 1 186 (dk_at dksX14_row_1 20 rfl rfl)
theorem dX14_row_47 : decode cX14_row 47 = .ok (.iconst 0, 1) := dk_3 (dk_at dksX14_row_1 23 rfl rfl)
theorem dX14_row_48 : decode cX14_row 48 = .ok (.invokevirtual 548, 3) := dk_182 2 36 (dk_at dksX14_row_2 0 rfl rfl)
theorem dX14_row_51 : decode cX14_row 51 = .ok (.goto 41, 3) := dk_167 0 41 (dk_at dksX14_row_2 3 rfl rfl)
theorem dX14_row_54 : decode cX14_row 54 = .ok (.aload_n 0, 1) := dk_42 (dk_at dksX14_row_2 6 rfl rfl)
theorem dX14_row_55 : decode cX14_row 55 = .ok (.getfield 353, 3) := dk_180 1 97 (dk_at dksX14_row_2 7 rfl rfl)
theorem dX14_row_58 : decode cX14_row 58 = .ok (.ifCond .ne 34, 3) := dk_154 0 34 (dk_at dksX14_row_2 10 rfl rfl)
theorem dX14_row_61 : decode cX14_row 61 = .ok (.aload_n 0, 1) := dk_42 (dk_at dksX14_row_2 13 rfl rfl)
theorem dX14_row_62 : decode cX14_row 62 = .ok (.bipush 16, 2) := dk_16 16 (dk_at dksX14_row_2 14 rfl rfl)
theorem dX14_row_64 : decode cX14_row 64 = .ok (.invokevirtual 445, 3) := dk_182 1 189 (dk_at dksX14_row_2 16 rfl rfl)
theorem dX14_row_67 : decode cX14_row 67 = .ok (.ifCond .eq 25, 3) := dk_153 0 25 (dk_at dksX14_row_2 19 rfl rfl)
theorem dX14_row_70 : decode cX14_row 70 = .ok (.aload_n 0, 1) := dk_42 (dk_at dksX14_row_2 22 rfl rfl)
theorem dX14_row_71 : decode cX14_row 71 = .ok (.getfield 442, 3) := dk_180 1 186 (dk_at dksX14_row_3 0 rfl rfl)
theorem dX14_row_74 : decode cX14_row 74 = .ok (.istore_n 2, 1) := dk_61 (dk_at dksX14_row_3 3 rfl rfl)
theorem dX14_row_75 : decode cX14_row 75 = .ok (.aload_n 0, 1) := dk_42 (dk_at dksX14_row_3 4 rfl rfl)
theorem dX14_row_76 : decode cX14_row 76 = .ok (.dup, 1) := dk_89 (dk_at dksX14_row_3 5 rfl rfl)
theorem dX14_row_77 : decode cX14_row 77 = .ok (.getfield 442, 3) := dk_180 1 186 (dk_at dksX14_row_3 6 rfl rfl)
theorem dX14_row_80 : decode cX14_row 80 = .ok (.iconst 1, 1) := dk_4 (dk_at dksX14_row_3 9 rfl rfl)
theorem dX14_row_81 : decode cX14_row 81 = .ok (.iadd, 1) := dk_96 (dk_at dksX14_row_3 10 rfl rfl)
theorem dX14_row_82 : decode cX14_row 82 = .ok (.putfield 442, 3) := dk_181 1 186 (dk_at dksX14_row_3 11 rfl rfl)
theorem dX14_row_85 : decode cX14_row 85 = .ok (.aload_n 0, 1) := dk_42 (dk_at dksX14_row_3 14 rfl rfl)
theorem dX14_row_86 : decode cX14_row 86 = .ok (.iload_n 1, 1) := dk_27 (dk_at dksX14_row_3 15 rfl rfl)
theorem dX14_row_87 : decode cX14_row 87 = .ok (.iload_n 2, 1) := dk_28 (dk_at dksX14_row_3 16 rfl rfl)
theorem dX14_row_88 : decode cX14_row 88 = .ok (.iconst 1, 1) := dk_4 (dk_at dksX14_row_3 17 rfl rfl)
theorem dX14_row_89 : decode cX14_row 89 = .ok (.invokevirtual 548, 3) := dk_182 2 36 (dk_at dksX14_row_3 18 rfl rfl)
theorem dX14_row_92 : decode cX14_row 92 = .ok (.aload_n 0, 1) := dk_42 (dk_at dksX14_row_3 21 rfl rfl)
theorem dX14_row_93 : decode cX14_row 93 = .ok (.bipush 89, 2) := dk_16 89 (dk_at dksX14_row_3 22 rfl rfl)
theorem dX14_row_95 : decode cX14_row 95 = .ok (.invokevirtual 473, 3) := dk_182 1 217 (dk_at dksX14_row_4 0 rfl rfl)
theorem dX14_row_98 : decode cX14_row 98 = .ok (.pop, 1) := dk_87 (dk_at dksX14_row_4 3 rfl rfl)
theorem dX14_row_99 : decode cX14_row 99 = .ok (.aload_n 0, 1) := dk_42 (dk_at dksX14_row_4 4 rfl rfl)
theorem dX14_row_100 : decode cX14_row 100 = .ok (.getfield 353, 3) := dk_180 1 97 (dk_at dksX14_row_4 5 rfl rfl)
theorem dX14_row_103 : decode cX14_row 103 = .ok (.ifCond .le 4, 3) := dk_158 0 4 (dk_at dksX14_row_4 8 rfl rfl)
theorem dX14_row_106 : decode cX14_row 106 = .ok (.return_, 1) := dk_177 (dk_at dksX14_row_4 11 rfl rfl)
theorem dX14_row_107 : decode cX14_row 107 = .ok (.aload_n 0, 1) := dk_42 (dk_at dksX14_row_4 12 rfl rfl)
theorem dX14_row_108 : decode cX14_row 108 = .ok (.getfield 42, 3) := dk_180 0 42 (dk_at dksX14_row_4 13 rfl rfl)
theorem dX14_row_111 : decode cX14_row 111 = .ok (.iload_n 1, 1) := dk_27 (dk_at dksX14_row_4 16 rfl rfl)
theorem dX14_row_112 : decode cX14_row 112 = .ok (.aload_n 0, 1) := dk_42 (dk_at dksX14_row_4 17 rfl rfl)
theorem dX14_row_113 : decode cX14_row 113 = .ok (.getfield 42, 3) := dk_180 0 42 (dk_at dksX14_row_4 18 rfl rfl)
theorem dX14_row_116 : decode cX14_row 116 = .ok (.iload_n 1, 1) := dk_27 (dk_at dksX14_row_4 21 rfl rfl)
theorem dX14_row_117 : decode cX14_row 117 = .ok (.iaload, 1) := dk_46 (dk_at dksX14_row_4 22 rfl rfl)
theorem dX14_row_118 : decode cX14_row 118 = .ok (.bipush 12, 2) := dk_16 12 (dk_at dksX14_row_5 0 rfl rfl)
theorem dX14_row_120 : decode cX14_row 120 = .ok (.if_icmp .ne 8, 3) := dk_160 0 8 (dk_at dksX14_row_5 2 rfl rfl)
theorem dX14_row_123 : decode cX14_row 123 = .ok (.bipush 14, 2) := dk_16 14 (dk_at dksX14_row_5 5 rfl rfl)
theorem dX14_row_125 : decode cX14_row 125 = .ok (.goto 5, 3) := dk_167 0 5 (dk_at dksX14_row_5 7 rfl rfl)
theorem dX14_row_128 : decode cX14_row 128 = .ok (.bipush 15, 2) := dk_16 15 (dk_at dksX14_row_5 10 rfl rfl)
theorem dX14_row_130 : decode cX14_row 130 = .ok (.iastore, 1) := dk_79 (dk_at dksX14_row_5 12 rfl rfl)
theorem dX14_row_131 : decode cX14_row 131 = .ok (.aload_n 0, 1) := dk_42 (dk_at dksX14_row_5 13 rfl rfl)
theorem dX14_row_132 : decode cX14_row 132 = .ok (.getfield 187, 3) := dk_180 0 187 (dk_at dksX14_row_5 14 rfl rfl)
theorem dX14_row_135 : decode cX14_row 135 = .ok (.aload_n 0, 1) := dk_42 (dk_at dksX14_row_5 17 rfl rfl)
theorem dX14_row_136 : decode cX14_row 136 = .ok (.getfield 499, 3) := dk_180 1 243 (dk_at dksX14_row_5 18 rfl rfl)
theorem dX14_row_139 : decode cX14_row 139 = .ok (.iload_n 1, 1) := dk_27 (dk_at dksX14_row_5 21 rfl rfl)
theorem dX14_row_140 : decode cX14_row 140 = .ok (.iastore, 1) := dk_79 (dk_at dksX14_row_5 22 rfl rfl)
theorem dX14_row_141 : decode cX14_row 141 = .ok (.aload_n 0, 1) := dk_42 (dk_at dksX14_row_5 23 rfl rfl)
theorem dX14_row_142 : decode cX14_row 142 = .ok (.getfield 190, 3) := dk_180 0 190 (dk_at dksX14_row_6 0 rfl rfl)
theorem dX14_row_145 : decode cX14_row 145 = .ok (.aload_n 0, 1) := dk_42 (dk_at dksX14_row_6 3 rfl rfl)
theorem dX14_row_146 : decode cX14_row 146 = .ok (.getfield 499, 3) := dk_180 1 243 (dk_at dksX14_row_6 4 rfl rfl)
theorem dX14_row_149 : decode cX14_row 149 = .ok (.iconst (-1), 1) := dk_2 (dk_at dksX14_row_6 7 rfl rfl)
theorem dX14_row_150 : decode cX14_row 150 = .ok (.iastore, 1) := dk_79 (dk_at dksX14_row_6 8 rfl rfl)
theorem dX14_row_151 : decode cX14_row 151 = .ok (.aload_n 0, 1) := dk_42 (dk_at dksX14_row_6 9 rfl rfl)
theorem dX14_row_152 : decode cX14_row 152 = .ok (.dup, 1) := dk_89 (dk_at dksX14_row_6 10 rfl rfl)
theorem dX14_row_153 : decode cX14_row 153 = .ok (.getfield 499, 3) := dk_180 1 243 (dk_at dksX14_row_6 11 rfl rfl)
theorem dX14_row_156 : decode cX14_row 156 = .ok (.iconst 1, 1) := dk_4 (dk_at dksX14_row_6 14 rfl rfl)
theorem dX14_row_157 : decode cX14_row 157 = .ok (.iadd, 1) := dk_96 (dk_at dksX14_row_6 15 rfl rfl)
theorem dX14_row_158 : decode cX14_row 158 = .ok (.putfield 499, 3) := dk_181 1 243 (dk_at dksX14_row_6 16 rfl rfl)
theorem dX14_row_161 : decode cX14_row 161 = .ok (.aload_n 0, 1) := dk_42 (dk_at dksX14_row_6 19 rfl rfl)
theorem dX14_row_162 : decode cX14_row 162 = .ok (.iconst 1, 1) := dk_4 (dk_at dksX14_row_6 20 rfl rfl)
theorem dX14_row_163 : decode cX14_row 163 = .ok (.putfield 502, 3) := dk_181 1 246 (dk_at dksX14_row_6 21 rfl rfl)
theorem dX14_row_166 : decode cX14_row 166 = .ok (.return_, 1) := dk_177 (dk_at dksX14_row_7 0 rfl rfl)
abbrev cX14_component : ByteArray := prog_15_method_51_code
def yX14_component : MethodName := ⟨RX14, "component", "(II)V"⟩
def dkwX14_component_5 : List UInt8 := [79, 42, 4, 181, 1, 246, 177]
abbrev dktX14_component_5 : List UInt8 := dkwX14_component_5 ++ []
def dkwX14_component_4 : List UInt8 := [181, 1, 243, 167, 0, 10, 42, 180, 0, 112, 28, 29, 79, 42, 180, 0, 190, 42, 180, 1, 243, 4, 100, 29]
abbrev dktX14_component_4 : List UInt8 := dkwX14_component_4 ++ dktX14_component_5
def dkwX14_component_3 : List UInt8 := [180, 0, 63, 27, 29, 79, 42, 180, 0, 187, 42, 180, 1, 243, 27, 79, 42, 89, 180, 1, 243, 4, 96]
abbrev dktX14_component_3 : List UInt8 := dkwX14_component_3 ++ dktX14_component_4
def dkwX14_component_2 : List UInt8 := [180, 2, 47, 4, 96, 181, 2, 47, 42, 180, 0, 66, 27, 92, 46, 4, 96, 79, 28, 156, 0, 33, 42]
abbrev dktX14_component_2 : List UInt8 := dkwX14_component_2 ++ dktX14_component_3
def dkwX14_component_1 : List UInt8 := [180, 0, 109, 29, 2, 79, 42, 180, 0, 112, 29, 2, 79, 42, 180, 1, 97, 158, 0, 4, 177, 42, 89]
abbrev dktX14_component_1 : List UInt8 := dkwX14_component_1 ++ dktX14_component_2
def dkwX14_component_0 : List UInt8 := [42, 180, 2, 47, 62, 42, 180, 0, 100, 29, 42, 5, 182, 1, 217, 79, 42, 180, 0, 106, 29, 3, 79, 42]
abbrev dktX14_component_0 : List UInt8 := dkwX14_component_0 ++ dktX14_component_1
theorem dksX14_component_0 : cX14_component.data.toList.drop 0 = dktX14_component_0 := by decide +kernel
theorem dksX14_component_1 : cX14_component.data.toList.drop 24 = dktX14_component_1 := dk_seg dksX14_component_0 24 rfl rfl
theorem dksX14_component_2 : cX14_component.data.toList.drop 47 = dktX14_component_2 := dk_seg dksX14_component_1 23 rfl rfl
theorem dksX14_component_3 : cX14_component.data.toList.drop 70 = dktX14_component_3 := dk_seg dksX14_component_2 23 rfl rfl
theorem dksX14_component_4 : cX14_component.data.toList.drop 93 = dktX14_component_4 := dk_seg dksX14_component_3 23 rfl rfl
theorem dksX14_component_5 : cX14_component.data.toList.drop 117 = dktX14_component_5 := dk_seg dksX14_component_4 24 rfl rfl
theorem dX14_component_0 : decode cX14_component 0 = .ok (.aload_n 0, 1) := dk_42 (dk_at dksX14_component_0 0 rfl rfl)
theorem dX14_component_1 : decode cX14_component 1 = .ok (.getfield 559, 3) := dk_180 2 47 (dk_at dksX14_component_0 1 rfl rfl)
theorem dX14_component_4 : decode cX14_component 4 = .ok (.istore_n 3, 1) := dk_62 (dk_at dksX14_component_0 4 rfl rfl)
theorem dX14_component_5 : decode cX14_component 5 = .ok (.aload_n 0, 1) := dk_42 (dk_at dksX14_component_0 5 rfl rfl)
theorem dX14_component_6 : decode cX14_component 6 = .ok (.getfield 100, 3) := dk_180 0 100 (dk_at dksX14_component_0 6 rfl rfl)
theorem dX14_component_9 : decode cX14_component 9 = .ok (.iload_n 3, 1) := dk_29 (dk_at dksX14_component_0 9 rfl rfl)
theorem dX14_component_10 : decode cX14_component 10 = .ok (.aload_n 0, 1) := dk_42 (dk_at dksX14_component_0 10 rfl rfl)
theorem dX14_component_11 : decode cX14_component 11 = .ok (.iconst 2, 1) := dk_5 (dk_at dksX14_component_0 11 rfl rfl)
theorem dX14_component_12 : decode cX14_component 12 = .ok (.invokevirtual 473, 3) := dk_182 1 217 (dk_at dksX14_component_0 12 rfl rfl)
theorem dX14_component_15 : decode cX14_component 15 = .ok (.iastore, 1) := dk_79 (dk_at dksX14_component_0 15 rfl rfl)
theorem dX14_component_16 : decode cX14_component 16 = .ok (.aload_n 0, 1) := dk_42 (dk_at dksX14_component_0 16 rfl rfl)
theorem dX14_component_17 : decode cX14_component 17 = .ok (.getfield 106, 3) := dk_180 0 106 (dk_at dksX14_component_0 17 rfl rfl)
theorem dX14_component_20 : decode cX14_component 20 = .ok (.iload_n 3, 1) := dk_29 (dk_at dksX14_component_0 20 rfl rfl)
theorem dX14_component_21 : decode cX14_component 21 = .ok (.iconst 0, 1) := dk_3 (dk_at dksX14_component_0 21 rfl rfl)
theorem dX14_component_22 : decode cX14_component 22 = .ok (.iastore, 1) := dk_79 (dk_at dksX14_component_0 22 rfl rfl)
theorem dX14_component_23 : decode cX14_component 23 = .ok (.aload_n 0, 1) := dk_42 (dk_at dksX14_component_0 23 rfl rfl)
theorem dX14_component_24 : decode cX14_component 24 = .ok (.getfield 109, 3) := dk_180 0 109 (dk_at dksX14_component_1 0 rfl rfl)
theorem dX14_component_27 : decode cX14_component 27 = .ok (.iload_n 3, 1) := dk_29 (dk_at dksX14_component_1 3 rfl rfl)
theorem dX14_component_28 : decode cX14_component 28 = .ok (.iconst (-1), 1) := dk_2 (dk_at dksX14_component_1 4 rfl rfl)
theorem dX14_component_29 : decode cX14_component 29 = .ok (.iastore, 1) := dk_79 (dk_at dksX14_component_1 5 rfl rfl)
theorem dX14_component_30 : decode cX14_component 30 = .ok (.aload_n 0, 1) := dk_42 (dk_at dksX14_component_1 6 rfl rfl)
theorem dX14_component_31 : decode cX14_component 31 = .ok (.getfield 112, 3) := dk_180 0 112 (dk_at dksX14_component_1 7 rfl rfl)
theorem dX14_component_34 : decode cX14_component 34 = .ok (.iload_n 3, 1) := dk_29 (dk_at dksX14_component_1 10 rfl rfl)
theorem dX14_component_35 : decode cX14_component 35 = .ok (.iconst (-1), 1) := dk_2 (dk_at dksX14_component_1 11 rfl rfl)
theorem dX14_component_36 : decode cX14_component 36 = .ok (.iastore, 1) := dk_79 (dk_at dksX14_component_1 12 rfl rfl)
theorem dX14_component_37 : decode cX14_component 37 = .ok (.aload_n 0, 1) := dk_42 (dk_at dksX14_component_1 13 rfl rfl)
theorem dX14_component_38 : decode cX14_component 38 = .ok (.getfield 353, 3) := dk_180 1 97 (dk_at dksX14_component_1 14 rfl rfl)
theorem dX14_component_41 : decode cX14_component 41 = .ok (.ifCond .le 4, 3) := dk_158 0 4 (dk_at dksX14_component_1 17 rfl rfl)
theorem dX14_component_44 : decode cX14_component 44 = .ok (.return_, 1) := dk_177 (dk_at dksX14_component_1 20 rfl rfl)
theorem dX14_component_45 : decode cX14_component 45 = .ok (.aload_n 0, 1) := dk_42 (dk_at dksX14_component_1 21 rfl rfl)
theorem dX14_component_46 : decode cX14_component 46 = .ok (.dup, 1) := dk_89 (dk_at dksX14_component_1 22 rfl rfl)
theorem dX14_component_47 : decode cX14_component 47 = .ok (.getfield 559, 3) := dk_180 2 47 (dk_at dksX14_component_2 0 rfl rfl)
theorem dX14_component_50 : decode cX14_component 50 = .ok (.iconst 1, 1) := dk_4 (dk_at dksX14_component_2 3 rfl rfl)
theorem dX14_component_51 : decode cX14_component 51 = .ok (.iadd, 1) := dk_96 (dk_at dksX14_component_2 4 rfl rfl)
theorem dX14_component_52 : decode cX14_component 52 = .ok (.putfield 559, 3) := dk_181 2 47 (dk_at dksX14_component_2 5 rfl rfl)
theorem dX14_component_55 : decode cX14_component 55 = .ok (.aload_n 0, 1) := dk_42 (dk_at dksX14_component_2 8 rfl rfl)
theorem dX14_component_56 : decode cX14_component 56 = .ok (.getfield 66, 3) := dk_180 0 66 (dk_at dksX14_component_2 9 rfl rfl)
theorem dX14_component_59 : decode cX14_component 59 = .ok (.iload_n 1, 1) := dk_27 (dk_at dksX14_component_2 12 rfl rfl)
theorem dX14_component_60 : decode cX14_component 60 = .ok (.dup2, 1) := dk_92 (dk_at dksX14_component_2 13 rfl rfl)
theorem dX14_component_61 : decode cX14_component 61 = .ok (.iaload, 1) := dk_46 (dk_at dksX14_component_2 14 rfl rfl)
theorem dX14_component_62 : decode cX14_component 62 = .ok (.iconst 1, 1) := dk_4 (dk_at dksX14_component_2 15 rfl rfl)
theorem dX14_component_63 : decode cX14_component 63 = .ok (.iadd, 1) := dk_96 (dk_at dksX14_component_2 16 rfl rfl)
theorem dX14_component_64 : decode cX14_component 64 = .ok (.iastore, 1) := dk_79 (dk_at dksX14_component_2 17 rfl rfl)
theorem dX14_component_65 : decode cX14_component 65 = .ok (.iload_n 2, 1) := dk_28 (dk_at dksX14_component_2 18 rfl rfl)
theorem dX14_component_66 : decode cX14_component 66 = .ok (.ifCond .ge 33, 3) := dk_156 0 33 (dk_at dksX14_component_2 19 rfl rfl)
theorem dX14_component_69 : decode cX14_component 69 = .ok (.aload_n 0, 1) := dk_42 (dk_at dksX14_component_2 22 rfl rfl)
theorem dX14_component_70 : decode cX14_component 70 = .ok (.getfield 63, 3) := dk_180 0 63 (dk_at dksX14_component_3 0 rfl rfl)
theorem dX14_component_73 : decode cX14_component 73 = .ok (.iload_n 1, 1) := dk_27 (dk_at dksX14_component_3 3 rfl rfl)
theorem dX14_component_74 : decode cX14_component 74 = .ok (.iload_n 3, 1) := dk_29 (dk_at dksX14_component_3 4 rfl rfl)
theorem dX14_component_75 : decode cX14_component 75 = .ok (.iastore, 1) := dk_79 (dk_at dksX14_component_3 5 rfl rfl)
theorem dX14_component_76 : decode cX14_component 76 = .ok (.aload_n 0, 1) := dk_42 (dk_at dksX14_component_3 6 rfl rfl)
theorem dX14_component_77 : decode cX14_component 77 = .ok (.getfield 187, 3) := dk_180 0 187 (dk_at dksX14_component_3 7 rfl rfl)
theorem dX14_component_80 : decode cX14_component 80 = .ok (.aload_n 0, 1) := dk_42 (dk_at dksX14_component_3 10 rfl rfl)
theorem dX14_component_81 : decode cX14_component 81 = .ok (.getfield 499, 3) := dk_180 1 243 (dk_at dksX14_component_3 11 rfl rfl)
theorem dX14_component_84 : decode cX14_component 84 = .ok (.iload_n 1, 1) := dk_27 (dk_at dksX14_component_3 14 rfl rfl)
theorem dX14_component_85 : decode cX14_component 85 = .ok (.iastore, 1) := dk_79 (dk_at dksX14_component_3 15 rfl rfl)
theorem dX14_component_86 : decode cX14_component 86 = .ok (.aload_n 0, 1) := dk_42 (dk_at dksX14_component_3 16 rfl rfl)
theorem dX14_component_87 : decode cX14_component 87 = .ok (.dup, 1) := dk_89 (dk_at dksX14_component_3 17 rfl rfl)
theorem dX14_component_88 : decode cX14_component 88 = .ok (.getfield 499, 3) := dk_180 1 243 (dk_at dksX14_component_3 18 rfl rfl)
theorem dX14_component_91 : decode cX14_component 91 = .ok (.iconst 1, 1) := dk_4 (dk_at dksX14_component_3 21 rfl rfl)
theorem dX14_component_92 : decode cX14_component 92 = .ok (.iadd, 1) := dk_96 (dk_at dksX14_component_3 22 rfl rfl)
theorem dX14_component_93 : decode cX14_component 93 = .ok (.putfield 499, 3) := dk_181 1 243 (dk_at dksX14_component_4 0 rfl rfl)
theorem dX14_component_96 : decode cX14_component 96 = .ok (.goto 10, 3) := dk_167 0 10 (dk_at dksX14_component_4 3 rfl rfl)
theorem dX14_component_99 : decode cX14_component 99 = .ok (.aload_n 0, 1) := dk_42 (dk_at dksX14_component_4 6 rfl rfl)
theorem dX14_component_100 : decode cX14_component 100 = .ok (.getfield 112, 3) := dk_180 0 112 (dk_at dksX14_component_4 7 rfl rfl)
theorem dX14_component_103 : decode cX14_component 103 = .ok (.iload_n 2, 1) := dk_28 (dk_at dksX14_component_4 10 rfl rfl)
theorem dX14_component_104 : decode cX14_component 104 = .ok (.iload_n 3, 1) := dk_29 (dk_at dksX14_component_4 11 rfl rfl)
theorem dX14_component_105 : decode cX14_component 105 = .ok (.iastore, 1) := dk_79 (dk_at dksX14_component_4 12 rfl rfl)
theorem dX14_component_106 : decode cX14_component 106 = .ok (.aload_n 0, 1) := dk_42 (dk_at dksX14_component_4 13 rfl rfl)
theorem dX14_component_107 : decode cX14_component 107 = .ok (.getfield 190, 3) := dk_180 0 190 (dk_at dksX14_component_4 14 rfl rfl)
theorem dX14_component_110 : decode cX14_component 110 = .ok (.aload_n 0, 1) := dk_42 (dk_at dksX14_component_4 17 rfl rfl)
theorem dX14_component_111 : decode cX14_component 111 = .ok (.getfield 499, 3) := dk_180 1 243 (dk_at dksX14_component_4 18 rfl rfl)
theorem dX14_component_114 : decode cX14_component 114 = .ok (.iconst 1, 1) := dk_4 (dk_at dksX14_component_4 21 rfl rfl)
theorem dX14_component_115 : decode cX14_component 115 = .ok (.isub, 1) := dk_100 (dk_at dksX14_component_4 22 rfl rfl)
theorem dX14_component_116 : decode cX14_component 116 = .ok (.iload_n 3, 1) := dk_29 (dk_at dksX14_component_4 23 rfl rfl)
theorem dX14_component_117 : decode cX14_component 117 = .ok (.iastore, 1) := dk_79 (dk_at dksX14_component_5 0 rfl rfl)
theorem dX14_component_118 : decode cX14_component 118 = .ok (.aload_n 0, 1) := dk_42 (dk_at dksX14_component_5 1 rfl rfl)
theorem dX14_component_119 : decode cX14_component 119 = .ok (.iconst 1, 1) := dk_4 (dk_at dksX14_component_5 2 rfl rfl)
theorem dX14_component_120 : decode cX14_component 120 = .ok (.putfield 502, 3) := dk_181 1 246 (dk_at dksX14_component_5 3 rfl rfl)
theorem dX14_component_123 : decode cX14_component 123 = .ok (.return_, 1) := dk_177 (dk_at dksX14_component_5 6 rfl rfl)
abbrev cX14_sizeOf : ByteArray := prog_15_method_50_code
def yX14_sizeOf : MethodName := ⟨RX14, "sizeOf", "(IIZ)V"⟩
def dkwX14_sizeOf_2 : List UInt8 := [182, 1, 217, 87, 29, 153, 0, 10, 42, 16, 17, 182, 1, 217, 87, 177]
abbrev dktX14_sizeOf_2 : List UInt8 := dkwX14_sizeOf_2 ++ []
def dkwX14_sizeOf_1 : List UInt8 := [153, 0, 7, 28, 167, 0, 5, 21, 4, 4, 182, 2, 40, 54, 5, 42, 21, 5, 182, 2, 44, 42, 16, 17]
abbrev dktX14_sizeOf_1 : List UInt8 := dkwX14_sizeOf_1 ++ dktX14_sizeOf_2
def dkwX14_sizeOf_0 : List UInt8 := [42, 16, 101, 182, 1, 217, 87, 42, 180, 1, 186, 54, 4, 42, 16, 16, 182, 1, 217, 87, 42, 27, 29]
abbrev dktX14_sizeOf_0 : List UInt8 := dkwX14_sizeOf_0 ++ dktX14_sizeOf_1
theorem dksX14_sizeOf_0 : cX14_sizeOf.data.toList.drop 0 = dktX14_sizeOf_0 := by decide +kernel
theorem dksX14_sizeOf_1 : cX14_sizeOf.data.toList.drop 23 = dktX14_sizeOf_1 := dk_seg dksX14_sizeOf_0 23 rfl rfl
theorem dksX14_sizeOf_2 : cX14_sizeOf.data.toList.drop 47 = dktX14_sizeOf_2 := dk_seg dksX14_sizeOf_1 24 rfl rfl
theorem dX14_sizeOf_0 : decode cX14_sizeOf 0 = .ok (.aload_n 0, 1) := dk_42 (dk_at dksX14_sizeOf_0 0 rfl rfl)
theorem dX14_sizeOf_1 : decode cX14_sizeOf 1 = .ok (.bipush 101, 2) := dk_16 101 (dk_at dksX14_sizeOf_0 1 rfl rfl)
theorem dX14_sizeOf_3 : decode cX14_sizeOf 3 = .ok (.invokevirtual 473, 3) := dk_182 1 217 (dk_at dksX14_sizeOf_0 3 rfl rfl)
theorem dX14_sizeOf_6 : decode cX14_sizeOf 6 = .ok (.pop, 1) := dk_87 (dk_at dksX14_sizeOf_0 6 rfl rfl)
theorem dX14_sizeOf_7 : decode cX14_sizeOf 7 = .ok (.aload_n 0, 1) := dk_42 (dk_at dksX14_sizeOf_0 7 rfl rfl)
theorem dX14_sizeOf_8 : decode cX14_sizeOf 8 = .ok (.getfield 442, 3) := dk_180 1 186 (dk_at dksX14_sizeOf_0 8 rfl rfl)
theorem dX14_sizeOf_11 : decode cX14_sizeOf 11 = .ok (.istore 4, 2) := dk_54 4 (dk_at dksX14_sizeOf_0 11 rfl rfl)
theorem dX14_sizeOf_13 : decode cX14_sizeOf 13 = .ok (.aload_n 0, 1) := dk_42 (dk_at dksX14_sizeOf_0 13 rfl rfl)
theorem dX14_sizeOf_14 : decode cX14_sizeOf 14 = .ok (.bipush 16, 2) := dk_16 16 (dk_at dksX14_sizeOf_0 14 rfl rfl)
theorem dX14_sizeOf_16 : decode cX14_sizeOf 16 = .ok (.invokevirtual 473, 3) := dk_182 1 217 (dk_at dksX14_sizeOf_0 16 rfl rfl)
theorem dX14_sizeOf_19 : decode cX14_sizeOf 19 = .ok (.pop, 1) := dk_87 (dk_at dksX14_sizeOf_0 19 rfl rfl)
theorem dX14_sizeOf_20 : decode cX14_sizeOf 20 = .ok (.aload_n 0, 1) := dk_42 (dk_at dksX14_sizeOf_0 20 rfl rfl)
theorem dX14_sizeOf_21 : decode cX14_sizeOf 21 = .ok (.iload_n 1, 1) := dk_27 (dk_at dksX14_sizeOf_0 21 rfl rfl)
theorem dX14_sizeOf_22 : decode cX14_sizeOf 22 = .ok (.iload_n 3, 1) := dk_29 (dk_at dksX14_sizeOf_0 22 rfl rfl)
theorem dX14_sizeOf_23 : decode cX14_sizeOf 23 = .ok (.ifCond .eq 7, 3) := dk_153 0 7 (dk_at dksX14_sizeOf_1 0 rfl rfl)
theorem dX14_sizeOf_26 : decode cX14_sizeOf 26 = .ok (.iload_n 2, 1) := dk_28 (dk_at dksX14_sizeOf_1 3 rfl rfl)
theorem dX14_sizeOf_27 : decode cX14_sizeOf 27 = .ok (.goto 5, 3) := dk_167 0 5 (dk_at dksX14_sizeOf_1 4 rfl rfl)
theorem dX14_sizeOf_30 : decode cX14_sizeOf 30 = .ok (.iload 4, 2) := dk_21 4 (dk_at dksX14_sizeOf_1 7 rfl rfl)
theorem dX14_sizeOf_32 : decode cX14_sizeOf 32 = .ok (.iconst 1, 1) := dk_4 (dk_at dksX14_sizeOf_1 9 rfl rfl)
theorem dX14_sizeOf_33 : decode cX14_sizeOf 33 = .ok (.invokevirtual 552, 3) := dk_182 2 40 (dk_at dksX14_sizeOf_1 10 rfl rfl)
theorem dX14_sizeOf_36 : decode cX14_sizeOf 36 = .ok (.istore 5, 2) := dk_54 5 (dk_at dksX14_sizeOf_1 13 rfl rfl)
theorem dX14_sizeOf_38 : decode cX14_sizeOf 38 = .ok (.aload_n 0, 1) := dk_42 (dk_at dksX14_sizeOf_1 15 rfl rfl)
theorem dX14_sizeOf_39 : decode cX14_sizeOf 39 = .ok (.iload 5, 2) := dk_21 5 (dk_at dksX14_sizeOf_1 16 rfl rfl)
theorem dX14_sizeOf_41 : decode cX14_sizeOf 41 = .ok (.invokevirtual 556, 3) := dk_182 2 44 (dk_at dksX14_sizeOf_1 18 rfl rfl)
theorem dX14_sizeOf_44 : decode cX14_sizeOf 44 = .ok (.aload_n 0, 1) := dk_42 (dk_at dksX14_sizeOf_1 21 rfl rfl)
theorem dX14_sizeOf_45 : decode cX14_sizeOf 45 = .ok (.bipush 17, 2) := dk_16 17 (dk_at dksX14_sizeOf_1 22 rfl rfl)
theorem dX14_sizeOf_47 : decode cX14_sizeOf 47 = .ok (.invokevirtual 473, 3) := dk_182 1 217 (dk_at dksX14_sizeOf_2 0 rfl rfl)
theorem dX14_sizeOf_50 : decode cX14_sizeOf 50 = .ok (.pop, 1) := dk_87 (dk_at dksX14_sizeOf_2 3 rfl rfl)
theorem dX14_sizeOf_51 : decode cX14_sizeOf 51 = .ok (.iload_n 3, 1) := dk_29 (dk_at dksX14_sizeOf_2 4 rfl rfl)
theorem dX14_sizeOf_52 : decode cX14_sizeOf 52 = .ok (.ifCond .eq 10, 3) := dk_153 0 10 (dk_at dksX14_sizeOf_2 5 rfl rfl)
theorem dX14_sizeOf_55 : decode cX14_sizeOf 55 = .ok (.aload_n 0, 1) := dk_42 (dk_at dksX14_sizeOf_2 8 rfl rfl)
theorem dX14_sizeOf_56 : decode cX14_sizeOf 56 = .ok (.bipush 17, 2) := dk_16 17 (dk_at dksX14_sizeOf_2 9 rfl rfl)
theorem dX14_sizeOf_58 : decode cX14_sizeOf 58 = .ok (.invokevirtual 473, 3) := dk_182 1 217 (dk_at dksX14_sizeOf_2 11 rfl rfl)
theorem dX14_sizeOf_61 : decode cX14_sizeOf 61 = .ok (.pop, 1) := dk_87 (dk_at dksX14_sizeOf_2 14 rfl rfl)
theorem dX14_sizeOf_62 : decode cX14_sizeOf 62 = .ok (.return_, 1) := dk_177 (dk_at dksX14_sizeOf_2 15 rfl rfl)
abbrev cX14_addLimit : ByteArray := prog_15_method_54_code
def yX14_addLimit : MethodName := ⟨RX14, "addLimit", "(IIZ)I"⟩
def dkwX14_addLimit_5 : List UInt8 := [79, 21, 4, 172]
abbrev dktX14_addLimit_5 : List UInt8 := dkwX14_addLimit_5 ++ []
def dkwX14_addLimit_4 : List UInt8 := [46, 155, 0, 15, 42, 180, 0, 127, 21, 5, 46, 54, 5, 167, 255, 237, 42, 180, 0, 127, 21, 5, 21, 4]
abbrev dktX14_addLimit_4 : List UInt8 := dkwX14_addLimit_4 ++ dktX14_addLimit_5
def dkwX14_addLimit_3 : List UInt8 := [180, 0, 72, 27, 21, 4, 79, 167, 0, 42, 42, 180, 0, 72, 27, 46, 54, 5, 42, 180, 0, 127, 21, 5]
abbrev dktX14_addLimit_3 : List UInt8 := dkwX14_addLimit_3 ++ dktX14_addLimit_4
def dkwX14_addLimit_2 : List UInt8 := [21, 4, 3, 79, 42, 180, 0, 127, 21, 4, 2, 79, 42, 180, 0, 72, 27, 46, 156, 0, 14, 42]
abbrev dktX14_addLimit_2 : List UInt8 := dkwX14_addLimit_2 ++ dktX14_addLimit_3
def dkwX14_addLimit_1 : List UInt8 := [42, 180, 0, 118, 21, 4, 29, 84, 42, 180, 0, 121, 21, 4, 42, 180, 2, 56, 79, 42, 180, 0, 124]
abbrev dktX14_addLimit_1 : List UInt8 := dkwX14_addLimit_1 ++ dktX14_addLimit_2
def dkwX14_addLimit_0 : List UInt8 := [42, 180, 2, 53, 54, 4, 42, 89, 180, 2, 53, 4, 96, 181, 2, 53, 42, 180, 0, 115, 21, 4, 28, 79]
abbrev dktX14_addLimit_0 : List UInt8 := dkwX14_addLimit_0 ++ dktX14_addLimit_1
theorem dksX14_addLimit_0 : cX14_addLimit.data.toList.drop 0 = dktX14_addLimit_0 := by decide +kernel
theorem dksX14_addLimit_1 : cX14_addLimit.data.toList.drop 24 = dktX14_addLimit_1 := dk_seg dksX14_addLimit_0 24 rfl rfl
theorem dksX14_addLimit_2 : cX14_addLimit.data.toList.drop 47 = dktX14_addLimit_2 := dk_seg dksX14_addLimit_1 23 rfl rfl
theorem dksX14_addLimit_3 : cX14_addLimit.data.toList.drop 69 = dktX14_addLimit_3 := dk_seg dksX14_addLimit_2 22 rfl rfl
theorem dksX14_addLimit_4 : cX14_addLimit.data.toList.drop 93 = dktX14_addLimit_4 := dk_seg dksX14_addLimit_3 24 rfl rfl
theorem dksX14_addLimit_5 : cX14_addLimit.data.toList.drop 117 = dktX14_addLimit_5 := dk_seg dksX14_addLimit_4 24 rfl rfl
theorem dX14_addLimit_0 : decode cX14_addLimit 0 = .ok (.aload_n 0, 1) := dk_42 (dk_at dksX14_addLimit_0 0 rfl rfl)
theorem dX14_addLimit_1 : decode cX14_addLimit 1 = .ok (.getfield 565, 3) := dk_180 2 53 (dk_at dksX14_addLimit_0 1 rfl rfl)
theorem dX14_addLimit_4 : decode cX14_addLimit 4 = .ok (.istore 4, 2) := dk_54 4 (dk_at dksX14_addLimit_0 4 rfl rfl)
theorem dX14_addLimit_6 : decode cX14_addLimit 6 = .ok (.aload_n 0, 1) := dk_42 (dk_at dksX14_addLimit_0 6 rfl rfl)
theorem dX14_addLimit_7 : decode cX14_addLimit 7 = .ok (.dup, 1) := dk_89 (dk_at dksX14_addLimit_0 7 rfl rfl)
theorem dX14_addLimit_8 : decode cX14_addLimit 8 = .ok (.getfield 565, 3) := dk_180 2 53 (dk_at dksX14_addLimit_0 8 rfl rfl)
theorem dX14_addLimit_11 : decode cX14_addLimit 11 = .ok (.iconst 1, 1) := dk_4 (dk_at dksX14_addLimit_0 11 rfl rfl)
theorem dX14_addLimit_12 : decode cX14_addLimit 12 = .ok (.iadd, 1) := dk_96 (dk_at dksX14_addLimit_0 12 rfl rfl)
theorem dX14_addLimit_13 : decode cX14_addLimit 13 = .ok (.putfield 565, 3) := dk_181 2 53 (dk_at dksX14_addLimit_0 13 rfl rfl)
theorem dX14_addLimit_16 : decode cX14_addLimit 16 = .ok (.aload_n 0, 1) := dk_42 (dk_at dksX14_addLimit_0 16 rfl rfl)
theorem dX14_addLimit_17 : decode cX14_addLimit 17 = .ok (.getfield 115, 3) := dk_180 0 115 (dk_at dksX14_addLimit_0 17 rfl rfl)
theorem dX14_addLimit_20 : decode cX14_addLimit 20 = .ok (.iload 4, 2) := dk_21 4 (dk_at dksX14_addLimit_0 20 rfl rfl)
theorem dX14_addLimit_22 : decode cX14_addLimit 22 = .ok (.iload_n 2, 1) := dk_28 (dk_at dksX14_addLimit_0 22 rfl rfl)
theorem dX14_addLimit_23 : decode cX14_addLimit 23 = .ok (.iastore, 1) := dk_79 (dk_at dksX14_addLimit_0 23 rfl rfl)
theorem dX14_addLimit_24 : decode cX14_addLimit 24 = .ok (.aload_n 0, 1) := dk_42 (dk_at dksX14_addLimit_1 0 rfl rfl)
theorem dX14_addLimit_25 : decode cX14_addLimit 25 = .ok (.getfield 118, 3) := dk_180 0 118 (dk_at dksX14_addLimit_1 1 rfl rfl)
theorem dX14_addLimit_28 : decode cX14_addLimit 28 = .ok (.iload 4, 2) := dk_21 4 (dk_at dksX14_addLimit_1 4 rfl rfl)
theorem dX14_addLimit_30 : decode cX14_addLimit 30 = .ok (.iload_n 3, 1) := dk_29 (dk_at dksX14_addLimit_1 6 rfl rfl)
theorem dX14_addLimit_31 : decode cX14_addLimit 31 = .ok (.bastore, 1) := dk_84 (dk_at dksX14_addLimit_1 7 rfl rfl)
theorem dX14_addLimit_32 : decode cX14_addLimit 32 = .ok (.aload_n 0, 1) := dk_42 (dk_at dksX14_addLimit_1 8 rfl rfl)
theorem dX14_addLimit_33 : decode cX14_addLimit 33 = .ok (.getfield 121, 3) := dk_180 0 121 (dk_at dksX14_addLimit_1 9 rfl rfl)
theorem dX14_addLimit_36 : decode cX14_addLimit 36 = .ok (.iload 4, 2) := dk_21 4 (dk_at dksX14_addLimit_1 12 rfl rfl)
theorem dX14_addLimit_38 : decode cX14_addLimit 38 = .ok (.aload_n 0, 1) := dk_42 (dk_at dksX14_addLimit_1 14 rfl rfl)
theorem dX14_addLimit_39 : decode cX14_addLimit 39 = .ok (.getfield 568, 3) := dk_180 2 56 (dk_at dksX14_addLimit_1 15 rfl rfl)
theorem dX14_addLimit_42 : decode cX14_addLimit 42 = .ok (.iastore, 1) := dk_79 (dk_at dksX14_addLimit_1 18 rfl rfl)
theorem dX14_addLimit_43 : decode cX14_addLimit 43 = .ok (.aload_n 0, 1) := dk_42 (dk_at dksX14_addLimit_1 19 rfl rfl)
theorem dX14_addLimit_44 : decode cX14_addLimit 44 = .ok (.getfield 124, 3) := dk_180 0 124 (dk_at dksX14_addLimit_1 20 rfl rfl)
theorem dX14_addLimit_47 : decode cX14_addLimit 47 = .ok (.iload 4, 2) := dk_21 4 (dk_at dksX14_addLimit_2 0 rfl rfl)
theorem dX14_addLimit_49 : decode cX14_addLimit 49 = .ok (.iconst 0, 1) := dk_3 (dk_at dksX14_addLimit_2 2 rfl rfl)
theorem dX14_addLimit_50 : decode cX14_addLimit 50 = .ok (.iastore, 1) := dk_79 (dk_at dksX14_addLimit_2 3 rfl rfl)
theorem dX14_addLimit_51 : decode cX14_addLimit 51 = .ok (.aload_n 0, 1) := dk_42 (dk_at dksX14_addLimit_2 4 rfl rfl)
theorem dX14_addLimit_52 : decode cX14_addLimit 52 = .ok (.getfield 127, 3) := dk_180 0 127 (dk_at dksX14_addLimit_2 5 rfl rfl)
theorem dX14_addLimit_55 : decode cX14_addLimit 55 = .ok (.iload 4, 2) := dk_21 4 (dk_at dksX14_addLimit_2 8 rfl rfl)
theorem dX14_addLimit_57 : decode cX14_addLimit 57 = .ok (.iconst (-1), 1) := dk_2 (dk_at dksX14_addLimit_2 10 rfl rfl)
theorem dX14_addLimit_58 : decode cX14_addLimit 58 = .ok (.iastore, 1) := dk_79 (dk_at dksX14_addLimit_2 11 rfl rfl)
theorem dX14_addLimit_59 : decode cX14_addLimit 59 = .ok (.aload_n 0, 1) := dk_42 (dk_at dksX14_addLimit_2 12 rfl rfl)
theorem dX14_addLimit_60 : decode cX14_addLimit 60 = .ok (.getfield 72, 3) := dk_180 0 72 (dk_at dksX14_addLimit_2 13 rfl rfl)
theorem dX14_addLimit_63 : decode cX14_addLimit 63 = .ok (.iload_n 1, 1) := dk_27 (dk_at dksX14_addLimit_2 16 rfl rfl)
theorem dX14_addLimit_64 : decode cX14_addLimit 64 = .ok (.iaload, 1) := dk_46 (dk_at dksX14_addLimit_2 17 rfl rfl)
theorem dX14_addLimit_65 : decode cX14_addLimit 65 = .ok (.ifCond .ge 14, 3) := dk_156 0 14 (dk_at dksX14_addLimit_2 18 rfl rfl)
theorem dX14_addLimit_68 : decode cX14_addLimit 68 = .ok (.aload_n 0, 1) := dk_42 (dk_at dksX14_addLimit_2 21 rfl rfl)
theorem dX14_addLimit_69 : decode cX14_addLimit 69 = .ok (.getfield 72, 3) := dk_180 0 72 (dk_at dksX14_addLimit_3 0 rfl rfl)
theorem dX14_addLimit_72 : decode cX14_addLimit 72 = .ok (.iload_n 1, 1) := dk_27 (dk_at dksX14_addLimit_3 3 rfl rfl)
theorem dX14_addLimit_73 : decode cX14_addLimit 73 = .ok (.iload 4, 2) := dk_21 4 (dk_at dksX14_addLimit_3 4 rfl rfl)
theorem dX14_addLimit_75 : decode cX14_addLimit 75 = .ok (.iastore, 1) := dk_79 (dk_at dksX14_addLimit_3 6 rfl rfl)
theorem dX14_addLimit_76 : decode cX14_addLimit 76 = .ok (.goto 42, 3) := dk_167 0 42 (dk_at dksX14_addLimit_3 7 rfl rfl)
theorem dX14_addLimit_79 : decode cX14_addLimit 79 = .ok (.aload_n 0, 1) := dk_42 (dk_at dksX14_addLimit_3 10 rfl rfl)
theorem dX14_addLimit_80 : decode cX14_addLimit 80 = .ok (.getfield 72, 3) := dk_180 0 72 (dk_at dksX14_addLimit_3 11 rfl rfl)
theorem dX14_addLimit_83 : decode cX14_addLimit 83 = .ok (.iload_n 1, 1) := dk_27 (dk_at dksX14_addLimit_3 14 rfl rfl)
theorem dX14_addLimit_84 : decode cX14_addLimit 84 = .ok (.iaload, 1) := dk_46 (dk_at dksX14_addLimit_3 15 rfl rfl)
theorem dX14_addLimit_85 : decode cX14_addLimit 85 = .ok (.istore 5, 2) := dk_54 5 (dk_at dksX14_addLimit_3 16 rfl rfl)
theorem dX14_addLimit_87 : decode cX14_addLimit 87 = .ok (.aload_n 0, 1) := dk_42 (dk_at dksX14_addLimit_3 18 rfl rfl)
theorem dX14_addLimit_88 : decode cX14_addLimit 88 = .ok (.getfield 127, 3) := dk_180 0 127 (dk_at dksX14_addLimit_3 19 rfl rfl)
theorem dX14_addLimit_91 : decode cX14_addLimit 91 = .ok (.iload 5, 2) := dk_21 5 (dk_at dksX14_addLimit_3 22 rfl rfl)
theorem dX14_addLimit_93 : decode cX14_addLimit 93 = .ok (.iaload, 1) := dk_46 (dk_at dksX14_addLimit_4 0 rfl rfl)
theorem dX14_addLimit_94 : decode cX14_addLimit 94 = .ok (.ifCond .lt 15, 3) := dk_155 0 15 (dk_at dksX14_addLimit_4 1 rfl rfl)
theorem dX14_addLimit_97 : decode cX14_addLimit 97 = .ok (.aload_n 0, 1) := dk_42 (dk_at dksX14_addLimit_4 4 rfl rfl)
theorem dX14_addLimit_98 : decode cX14_addLimit 98 = .ok (.getfield 127, 3) := dk_180 0 127 (dk_at dksX14_addLimit_4 5 rfl rfl)
theorem dX14_addLimit_101 : decode cX14_addLimit 101 = .ok (.iload 5, 2) := dk_21 5 (dk_at dksX14_addLimit_4 8 rfl rfl)
theorem dX14_addLimit_103 : decode cX14_addLimit 103 = .ok (.iaload, 1) := dk_46 (dk_at dksX14_addLimit_4 10 rfl rfl)
theorem dX14_addLimit_104 : decode cX14_addLimit 104 = .ok (.istore 5, 2) := dk_54 5 (dk_at dksX14_addLimit_4 11 rfl rfl)
theorem dX14_addLimit_106 : decode cX14_addLimit 106 = .ok (.goto (-19), 3) := dk_167 255 237 (dk_at dksX14_addLimit_4 13 rfl rfl)
theorem dX14_addLimit_109 : decode cX14_addLimit 109 = .ok (.aload_n 0, 1) := dk_42 (dk_at dksX14_addLimit_4 16 rfl rfl)
theorem dX14_addLimit_110 : decode cX14_addLimit 110 = .ok (.getfield 127, 3) := dk_180 0 127 (dk_at dksX14_addLimit_4 17 rfl rfl)
theorem dX14_addLimit_113 : decode cX14_addLimit 113 = .ok (.iload 5, 2) := dk_21 5 (dk_at dksX14_addLimit_4 20 rfl rfl)
theorem dX14_addLimit_115 : decode cX14_addLimit 115 = .ok (.iload 4, 2) := dk_21 4 (dk_at dksX14_addLimit_4 22 rfl rfl)
theorem dX14_addLimit_117 : decode cX14_addLimit 117 = .ok (.iastore, 1) := dk_79 (dk_at dksX14_addLimit_5 0 rfl rfl)
theorem dX14_addLimit_118 : decode cX14_addLimit 118 = .ok (.iload 4, 2) := dk_21 4 (dk_at dksX14_addLimit_5 1 rfl rfl)
theorem dX14_addLimit_120 : decode cX14_addLimit 120 = .ok (.ireturn, 1) := dk_172 (dk_at dksX14_addLimit_5 3 rfl rfl)
abbrev cX14_rangesOf : ByteArray := prog_15_method_56_code
def yX14_rangesOf : MethodName := ⟨RX14, "rangesOf", "(I)V"⟩
def dkwX14_rangesOf_6 : List UInt8 := [167, 255, 117, 177]
abbrev dktX14_rangesOf_6 : List UInt8 := dkwX14_rangesOf_6 ++ []
def dkwX14_rangesOf_5 : List UInt8 := [4, 96, 181, 2, 56, 42, 180, 0, 124, 27, 92, 46, 4, 96, 79, 42, 16, 21, 182, 1, 220, 61]
abbrev dktX14_rangesOf_5 : List UInt8 := dkwX14_rangesOf_5 ++ dktX14_rangesOf_6
def dkwX14_rangesOf_4 : List UInt8 := [29, 42, 42, 180, 0, 139, 29, 51, 182, 2, 59, 79, 42, 180, 1, 97, 154, 0, 23, 42, 89, 180, 2, 56]
abbrev dktX14_rangesOf_4 : List UInt8 := dkwX14_rangesOf_4 ++ dktX14_rangesOf_5
def dkwX14_rangesOf_3 : List UInt8 := [16, 9, 182, 1, 220, 153, 0, 31, 42, 180, 0, 139, 29, 42, 16, 19, 182, 1, 220, 84, 42, 180, 0, 136]
abbrev dktX14_rangesOf_3 : List UInt8 := dkwX14_rangesOf_3 ++ dktX14_rangesOf_4
def dkwX14_rangesOf_2 : List UInt8 := [180, 0, 139, 29, 42, 180, 0, 133, 29, 51, 84, 42, 180, 0, 136, 29, 42, 180, 0, 130, 29, 46, 79, 42]
abbrev dktX14_rangesOf_2 : List UInt8 := dkwX14_rangesOf_2 ++ dktX14_rangesOf_3
def dkwX14_rangesOf_1 : List UInt8 := [16, 19, 182, 1, 220, 84, 42, 180, 0, 130, 29, 42, 42, 180, 0, 133, 29, 51, 182, 2, 59, 79, 42]
abbrev dktX14_rangesOf_1 : List UInt8 := dkwX14_rangesOf_1 ++ dktX14_rangesOf_2
def dkwX14_rangesOf_0 : List UInt8 := [4, 61, 42, 180, 1, 97, 154, 0, 138, 28, 153, 0, 134, 42, 180, 2, 56, 62, 42, 180, 0, 133, 29, 42]
abbrev dktX14_rangesOf_0 : List UInt8 := dkwX14_rangesOf_0 ++ dktX14_rangesOf_1
theorem dksX14_rangesOf_0 : cX14_rangesOf.data.toList.drop 0 = dktX14_rangesOf_0 := by decide +kernel
theorem dksX14_rangesOf_1 : cX14_rangesOf.data.toList.drop 24 = dktX14_rangesOf_1 := dk_seg dksX14_rangesOf_0 24 rfl rfl
theorem dksX14_rangesOf_2 : cX14_rangesOf.data.toList.drop 47 = dktX14_rangesOf_2 := dk_seg dksX14_rangesOf_1 23 rfl rfl
theorem dksX14_rangesOf_3 : cX14_rangesOf.data.toList.drop 71 = dktX14_rangesOf_3 := dk_seg dksX14_rangesOf_2 24 rfl rfl
theorem dksX14_rangesOf_4 : cX14_rangesOf.data.toList.drop 95 = dktX14_rangesOf_4 := dk_seg dksX14_rangesOf_3 24 rfl rfl
theorem dksX14_rangesOf_5 : cX14_rangesOf.data.toList.drop 119 = dktX14_rangesOf_5 := dk_seg dksX14_rangesOf_4 24 rfl rfl
theorem dksX14_rangesOf_6 : cX14_rangesOf.data.toList.drop 141 = dktX14_rangesOf_6 := dk_seg dksX14_rangesOf_5 22 rfl rfl
theorem dX14_rangesOf_0 : decode cX14_rangesOf 0 = .ok (.iconst 1, 1) := dk_4 (dk_at dksX14_rangesOf_0 0 rfl rfl)
theorem dX14_rangesOf_1 : decode cX14_rangesOf 1 = .ok (.istore_n 2, 1) := dk_61 (dk_at dksX14_rangesOf_0 1 rfl rfl)
theorem dX14_rangesOf_2 : decode cX14_rangesOf 2 = .ok (.aload_n 0, 1) := dk_42 (dk_at dksX14_rangesOf_0 2 rfl rfl)
theorem dX14_rangesOf_3 : decode cX14_rangesOf 3 = .ok (.getfield 353, 3) := dk_180 1 97 (dk_at dksX14_rangesOf_0 3 rfl rfl)
theorem dX14_rangesOf_6 : decode cX14_rangesOf 6 = .ok (.ifCond .ne 138, 3) := dk_154 0 138 (dk_at dksX14_rangesOf_0 6 rfl rfl)
theorem dX14_rangesOf_9 : decode cX14_rangesOf 9 = .ok (.iload_n 2, 1) := dk_28 (dk_at dksX14_rangesOf_0 9 rfl rfl)
theorem dX14_rangesOf_10 : decode cX14_rangesOf 10 = .ok (.ifCond .eq 134, 3) := dk_153 0 134 (dk_at dksX14_rangesOf_0 10 rfl rfl)
theorem dX14_rangesOf_13 : decode cX14_rangesOf 13 = .ok (.aload_n 0, 1) := dk_42 (dk_at dksX14_rangesOf_0 13 rfl rfl)
theorem dX14_rangesOf_14 : decode cX14_rangesOf 14 = .ok (.getfield 568, 3) := dk_180 2 56 (dk_at dksX14_rangesOf_0 14 rfl rfl)
theorem dX14_rangesOf_17 : decode cX14_rangesOf 17 = .ok (.istore_n 3, 1) := dk_62 (dk_at dksX14_rangesOf_0 17 rfl rfl)
theorem dX14_rangesOf_18 : decode cX14_rangesOf 18 = .ok (.aload_n 0, 1) := dk_42 (dk_at dksX14_rangesOf_0 18 rfl rfl)
theorem dX14_rangesOf_19 : decode cX14_rangesOf 19 = .ok (.getfield 133, 3) := dk_180 0 133 (dk_at dksX14_rangesOf_0 19 rfl rfl)
theorem dX14_rangesOf_22 : decode cX14_rangesOf 22 = .ok (.iload_n 3, 1) := dk_29 (dk_at dksX14_rangesOf_0 22 rfl rfl)
theorem dX14_rangesOf_23 : decode cX14_rangesOf 23 = .ok (.aload_n 0, 1) := dk_42 (dk_at dksX14_rangesOf_0 23 rfl rfl)
theorem dX14_rangesOf_24 : decode cX14_rangesOf 24 = .ok (.bipush 19, 2) := dk_16 19 (dk_at dksX14_rangesOf_1 0 rfl rfl)
theorem dX14_rangesOf_26 : decode cX14_rangesOf 26 = .ok (.invokevirtual 476, 3) := dk_182 1 220 (dk_at dksX14_rangesOf_1 2 rfl rfl)
theorem dX14_rangesOf_29 : decode cX14_rangesOf 29 = .ok (.bastore, 1) := dk_84 (dk_at dksX14_rangesOf_1 5 rfl rfl)
theorem dX14_rangesOf_30 : decode cX14_rangesOf 30 = .ok (.aload_n 0, 1) := dk_42 (dk_at dksX14_rangesOf_1 6 rfl rfl)
theorem dX14_rangesOf_31 : decode cX14_rangesOf 31 = .ok (.getfield 130, 3) := dk_180 0 130 (dk_at dksX14_rangesOf_1 7 rfl rfl)
theorem dX14_rangesOf_34 : decode cX14_rangesOf 34 = .ok (.iload_n 3, 1) := dk_29 (dk_at dksX14_rangesOf_1 10 rfl rfl)
theorem dX14_rangesOf_35 : decode cX14_rangesOf 35 = .ok (.aload_n 0, 1) := dk_42 (dk_at dksX14_rangesOf_1 11 rfl rfl)
theorem dX14_rangesOf_36 : decode cX14_rangesOf 36 = .ok (.aload_n 0, 1) := dk_42 (dk_at dksX14_rangesOf_1 12 rfl rfl)
theorem dX14_rangesOf_37 : decode cX14_rangesOf 37 = .ok (.getfield 133, 3) := dk_180 0 133 (dk_at dksX14_rangesOf_1 13 rfl rfl)
theorem dX14_rangesOf_40 : decode cX14_rangesOf 40 = .ok (.iload_n 3, 1) := dk_29 (dk_at dksX14_rangesOf_1 16 rfl rfl)
theorem dX14_rangesOf_41 : decode cX14_rangesOf 41 = .ok (.baload, 1) := dk_51 (dk_at dksX14_rangesOf_1 17 rfl rfl)
theorem dX14_rangesOf_42 : decode cX14_rangesOf 42 = .ok (.invokevirtual 571, 3) := dk_182 2 59 (dk_at dksX14_rangesOf_1 18 rfl rfl)
theorem dX14_rangesOf_45 : decode cX14_rangesOf 45 = .ok (.iastore, 1) := dk_79 (dk_at dksX14_rangesOf_1 21 rfl rfl)
theorem dX14_rangesOf_46 : decode cX14_rangesOf 46 = .ok (.aload_n 0, 1) := dk_42 (dk_at dksX14_rangesOf_1 22 rfl rfl)
theorem dX14_rangesOf_47 : decode cX14_rangesOf 47 = .ok (.getfield 139, 3) := dk_180 0 139 (dk_at dksX14_rangesOf_2 0 rfl rfl)
theorem dX14_rangesOf_50 : decode cX14_rangesOf 50 = .ok (.iload_n 3, 1) := dk_29 (dk_at dksX14_rangesOf_2 3 rfl rfl)
theorem dX14_rangesOf_51 : decode cX14_rangesOf 51 = .ok (.aload_n 0, 1) := dk_42 (dk_at dksX14_rangesOf_2 4 rfl rfl)
theorem dX14_rangesOf_52 : decode cX14_rangesOf 52 = .ok (.getfield 133, 3) := dk_180 0 133 (dk_at dksX14_rangesOf_2 5 rfl rfl)
theorem dX14_rangesOf_55 : decode cX14_rangesOf 55 = .ok (.iload_n 3, 1) := dk_29 (dk_at dksX14_rangesOf_2 8 rfl rfl)
theorem dX14_rangesOf_56 : decode cX14_rangesOf 56 = .ok (.baload, 1) := dk_51 (dk_at dksX14_rangesOf_2 9 rfl rfl)
theorem dX14_rangesOf_57 : decode cX14_rangesOf 57 = .ok (.bastore, 1) := dk_84 (dk_at dksX14_rangesOf_2 10 rfl rfl)
theorem dX14_rangesOf_58 : decode cX14_rangesOf 58 = .ok (.aload_n 0, 1) := dk_42 (dk_at dksX14_rangesOf_2 11 rfl rfl)
theorem dX14_rangesOf_59 : decode cX14_rangesOf 59 = .ok (.getfield 136, 3) := dk_180 0 136 (dk_at dksX14_rangesOf_2 12 rfl rfl)
theorem dX14_rangesOf_62 : decode cX14_rangesOf 62 = .ok (.iload_n 3, 1) := dk_29 (dk_at dksX14_rangesOf_2 15 rfl rfl)
theorem dX14_rangesOf_63 : decode cX14_rangesOf 63 = .ok (.aload_n 0, 1) := dk_42 (dk_at dksX14_rangesOf_2 16 rfl rfl)
theorem dX14_rangesOf_64 : decode cX14_rangesOf 64 = .ok (.getfield 130, 3) := dk_180 0 130 (dk_at dksX14_rangesOf_2 17 rfl rfl)
theorem dX14_rangesOf_67 : decode cX14_rangesOf 67 = .ok (.iload_n 3, 1) := dk_29 (dk_at dksX14_rangesOf_2 20 rfl rfl)
theorem dX14_rangesOf_68 : decode cX14_rangesOf 68 = .ok (.iaload, 1) := dk_46 (dk_at dksX14_rangesOf_2 21 rfl rfl)
theorem dX14_rangesOf_69 : decode cX14_rangesOf 69 = .ok (.iastore, 1) := dk_79 (dk_at dksX14_rangesOf_2 22 rfl rfl)
theorem dX14_rangesOf_70 : decode cX14_rangesOf 70 = .ok (.aload_n 0, 1) := dk_42 (dk_at dksX14_rangesOf_2 23 rfl rfl)
theorem dX14_rangesOf_71 : decode cX14_rangesOf 71 = .ok (.bipush 9, 2) := dk_16 9 (dk_at dksX14_rangesOf_3 0 rfl rfl)
theorem dX14_rangesOf_73 : decode cX14_rangesOf 73 = .ok (.invokevirtual 476, 3) := dk_182 1 220 (dk_at dksX14_rangesOf_3 2 rfl rfl)
theorem dX14_rangesOf_76 : decode cX14_rangesOf 76 = .ok (.ifCond .eq 31, 3) := dk_153 0 31 (dk_at dksX14_rangesOf_3 5 rfl rfl)
theorem dX14_rangesOf_79 : decode cX14_rangesOf 79 = .ok (.aload_n 0, 1) := dk_42 (dk_at dksX14_rangesOf_3 8 rfl rfl)
theorem dX14_rangesOf_80 : decode cX14_rangesOf 80 = .ok (.getfield 139, 3) := dk_180 0 139 (dk_at dksX14_rangesOf_3 9 rfl rfl)
theorem dX14_rangesOf_83 : decode cX14_rangesOf 83 = .ok (.iload_n 3, 1) := dk_29 (dk_at dksX14_rangesOf_3 12 rfl rfl)
theorem dX14_rangesOf_84 : decode cX14_rangesOf 84 = .ok (.aload_n 0, 1) := dk_42 (dk_at dksX14_rangesOf_3 13 rfl rfl)
theorem dX14_rangesOf_85 : decode cX14_rangesOf 85 = .ok (.bipush 19, 2) := dk_16 19 (dk_at dksX14_rangesOf_3 14 rfl rfl)
theorem dX14_rangesOf_87 : decode cX14_rangesOf 87 = .ok (.invokevirtual 476, 3) := dk_182 1 220 (dk_at dksX14_rangesOf_3 16 rfl rfl)
theorem dX14_rangesOf_90 : decode cX14_rangesOf 90 = .ok (.bastore, 1) := dk_84 (dk_at dksX14_rangesOf_3 19 rfl rfl)
theorem dX14_rangesOf_91 : decode cX14_rangesOf 91 = .ok (.aload_n 0, 1) := dk_42 (dk_at dksX14_rangesOf_3 20 rfl rfl)
theorem dX14_rangesOf_92 : decode cX14_rangesOf 92 = .ok (.getfield 136, 3) := dk_180 0 136 (dk_at dksX14_rangesOf_3 21 rfl rfl)
theorem dX14_rangesOf_95 : decode cX14_rangesOf 95 = .ok (.iload_n 3, 1) := dk_29 (dk_at dksX14_rangesOf_4 0 rfl rfl)
theorem dX14_rangesOf_96 : decode cX14_rangesOf 96 = .ok (.aload_n 0, 1) := dk_42 (dk_at dksX14_rangesOf_4 1 rfl rfl)
theorem dX14_rangesOf_97 : decode cX14_rangesOf 97 = .ok (.aload_n 0, 1) := dk_42 (dk_at dksX14_rangesOf_4 2 rfl rfl)
theorem dX14_rangesOf_98 : decode cX14_rangesOf 98 = .ok (.getfield 139, 3) := dk_180 0 139 (dk_at dksX14_rangesOf_4 3 rfl rfl)
theorem dX14_rangesOf_101 : decode cX14_rangesOf 101 = .ok (.iload_n 3, 1) := dk_29 (dk_at dksX14_rangesOf_4 6 rfl rfl)
theorem dX14_rangesOf_102 : decode cX14_rangesOf 102 = .ok (.baload, 1) := dk_51 (dk_at dksX14_rangesOf_4 7 rfl rfl)
theorem dX14_rangesOf_103 : decode cX14_rangesOf 103 = .ok (.invokevirtual 571, 3) := dk_182 2 59 (dk_at dksX14_rangesOf_4 8 rfl rfl)
theorem dX14_rangesOf_106 : decode cX14_rangesOf 106 = .ok (.iastore, 1) := dk_79 (dk_at dksX14_rangesOf_4 11 rfl rfl)
theorem dX14_rangesOf_107 : decode cX14_rangesOf 107 = .ok (.aload_n 0, 1) := dk_42 (dk_at dksX14_rangesOf_4 12 rfl rfl)
theorem dX14_rangesOf_108 : decode cX14_rangesOf 108 = .ok (.getfield 353, 3) := dk_180 1 97 (dk_at dksX14_rangesOf_4 13 rfl rfl)
theorem dX14_rangesOf_111 : decode cX14_rangesOf 111 = .ok (.ifCond .ne 23, 3) := dk_154 0 23 (dk_at dksX14_rangesOf_4 16 rfl rfl)
theorem dX14_rangesOf_114 : decode cX14_rangesOf 114 = .ok (.aload_n 0, 1) := dk_42 (dk_at dksX14_rangesOf_4 19 rfl rfl)
theorem dX14_rangesOf_115 : decode cX14_rangesOf 115 = .ok (.dup, 1) := dk_89 (dk_at dksX14_rangesOf_4 20 rfl rfl)
theorem dX14_rangesOf_116 : decode cX14_rangesOf 116 = .ok (.getfield 568, 3) := dk_180 2 56 (dk_at dksX14_rangesOf_4 21 rfl rfl)
theorem dX14_rangesOf_119 : decode cX14_rangesOf 119 = .ok (.iconst 1, 1) := dk_4 (dk_at dksX14_rangesOf_5 0 rfl rfl)
theorem dX14_rangesOf_120 : decode cX14_rangesOf 120 = .ok (.iadd, 1) := dk_96 (dk_at dksX14_rangesOf_5 1 rfl rfl)
theorem dX14_rangesOf_121 : decode cX14_rangesOf 121 = .ok (.putfield 568, 3) := dk_181 2 56 (dk_at dksX14_rangesOf_5 2 rfl rfl)
theorem dX14_rangesOf_124 : decode cX14_rangesOf 124 = .ok (.aload_n 0, 1) := dk_42 (dk_at dksX14_rangesOf_5 5 rfl rfl)
theorem dX14_rangesOf_125 : decode cX14_rangesOf 125 = .ok (.getfield 124, 3) := dk_180 0 124 (dk_at dksX14_rangesOf_5 6 rfl rfl)
theorem dX14_rangesOf_128 : decode cX14_rangesOf 128 = .ok (.iload_n 1, 1) := dk_27 (dk_at dksX14_rangesOf_5 9 rfl rfl)
theorem dX14_rangesOf_129 : decode cX14_rangesOf 129 = .ok (.dup2, 1) := dk_92 (dk_at dksX14_rangesOf_5 10 rfl rfl)
theorem dX14_rangesOf_130 : decode cX14_rangesOf 130 = .ok (.iaload, 1) := dk_46 (dk_at dksX14_rangesOf_5 11 rfl rfl)
theorem dX14_rangesOf_131 : decode cX14_rangesOf 131 = .ok (.iconst 1, 1) := dk_4 (dk_at dksX14_rangesOf_5 12 rfl rfl)
theorem dX14_rangesOf_132 : decode cX14_rangesOf 132 = .ok (.iadd, 1) := dk_96 (dk_at dksX14_rangesOf_5 13 rfl rfl)
theorem dX14_rangesOf_133 : decode cX14_rangesOf 133 = .ok (.iastore, 1) := dk_79 (dk_at dksX14_rangesOf_5 14 rfl rfl)
theorem dX14_rangesOf_134 : decode cX14_rangesOf 134 = .ok (.aload_n 0, 1) := dk_42 (dk_at dksX14_rangesOf_5 15 rfl rfl)
theorem dX14_rangesOf_135 : decode cX14_rangesOf 135 = .ok (.bipush 21, 2) := dk_16 21 (dk_at dksX14_rangesOf_5 16 rfl rfl)
theorem dX14_rangesOf_137 : decode cX14_rangesOf 137 = .ok (.invokevirtual 476, 3) := dk_182 1 220 (dk_at dksX14_rangesOf_5 18 rfl rfl)
theorem dX14_rangesOf_140 : decode cX14_rangesOf 140 = .ok (.istore_n 2, 1) := dk_61 (dk_at dksX14_rangesOf_5 21 rfl rfl)
theorem dX14_rangesOf_141 : decode cX14_rangesOf 141 = .ok (.goto (-139), 3) := dk_167 255 117 (dk_at dksX14_rangesOf_6 0 rfl rfl)
theorem dX14_rangesOf_144 : decode cX14_rangesOf 144 = .ok (.return_, 1) := dk_177 (dk_at dksX14_rangesOf_6 3 rfl rfl)
abbrev cX14_bound : ByteArray := prog_15_method_57_code
def yX14_bound : MethodName := ⟨RX14, "bound", "(Z)I"⟩
def dkwX14_bound_2 : List UInt8 := [42, 89, 180, 1, 186, 4, 96, 181, 1, 186, 42, 180, 1, 186, 4, 100, 172, 42, 4, 182, 1, 192, 3, 172]
abbrev dktX14_bound_2 : List UInt8 := dkwX14_bound_2 ++ []
def dkwX14_bound_1 : List UInt8 := [182, 1, 189, 154, 0, 21, 42, 16, 83, 182, 1, 189, 154, 0, 12, 42, 16, 82, 182, 1, 189, 153, 0, 20]
abbrev dktX14_bound_1 : List UInt8 := dkwX14_bound_1 ++ dktX14_bound_2
def dkwX14_bound_0 : List UInt8 := [42, 180, 1, 97, 158, 0, 5, 3, 172, 42, 6, 182, 1, 189, 154, 0, 33, 27, 154, 0, 46, 42, 5]
abbrev dktX14_bound_0 : List UInt8 := dkwX14_bound_0 ++ dktX14_bound_1
theorem dksX14_bound_0 : cX14_bound.data.toList.drop 0 = dktX14_bound_0 := by decide +kernel
theorem dksX14_bound_1 : cX14_bound.data.toList.drop 23 = dktX14_bound_1 := dk_seg dksX14_bound_0 23 rfl rfl
theorem dksX14_bound_2 : cX14_bound.data.toList.drop 47 = dktX14_bound_2 := dk_seg dksX14_bound_1 24 rfl rfl
theorem dX14_bound_0 : decode cX14_bound 0 = .ok (.aload_n 0, 1) := dk_42 (dk_at dksX14_bound_0 0 rfl rfl)
theorem dX14_bound_1 : decode cX14_bound 1 = .ok (.getfield 353, 3) := dk_180 1 97 (dk_at dksX14_bound_0 1 rfl rfl)
theorem dX14_bound_4 : decode cX14_bound 4 = .ok (.ifCond .le 5, 3) := dk_158 0 5 (dk_at dksX14_bound_0 4 rfl rfl)
theorem dX14_bound_7 : decode cX14_bound 7 = .ok (.iconst 0, 1) := dk_3 (dk_at dksX14_bound_0 7 rfl rfl)
theorem dX14_bound_8 : decode cX14_bound 8 = .ok (.ireturn, 1) := dk_172 (dk_at dksX14_bound_0 8 rfl rfl)
theorem dX14_bound_9 : decode cX14_bound 9 = .ok (.aload_n 0, 1) := dk_42 (dk_at dksX14_bound_0 9 rfl rfl)
theorem dX14_bound_10 : decode cX14_bound 10 = .ok (.iconst 3, 1) := dk_6 (dk_at dksX14_bound_0 10 rfl rfl)
theorem dX14_bound_11 : decode cX14_bound 11 = .ok (.invokevirtual 445, 3) := dk_182 1 189 (dk_at dksX14_bound_0 11 rfl rfl)
theorem dX14_bound_14 : decode cX14_bound 14 = .ok (.ifCond .ne 33, 3) := dk_154 0 33 (dk_at dksX14_bound_0 14 rfl rfl)
theorem dX14_bound_17 : decode cX14_bound 17 = .ok (.iload_n 1, 1) := dk_27 (dk_at dksX14_bound_0 17 rfl rfl)
theorem dX14_bound_18 : decode cX14_bound 18 = .ok (.ifCond .ne 46, 3) := dk_154 0 46 (dk_at dksX14_bound_0 18 rfl rfl)
theorem dX14_bound_21 : decode cX14_bound 21 = .ok (.aload_n 0, 1) := dk_42 (dk_at dksX14_bound_0 21 rfl rfl)
theorem dX14_bound_22 : decode cX14_bound 22 = .ok (.iconst 2, 1) := dk_5 (dk_at dksX14_bound_0 22 rfl rfl)
theorem dX14_bound_23 : decode cX14_bound 23 = .ok (.invokevirtual 445, 3) := dk_182 1 189 (dk_at dksX14_bound_1 0 rfl rfl)
theorem dX14_bound_26 : decode cX14_bound 26 = .ok (.ifCond .ne 21, 3) := dk_154 0 21 (dk_at dksX14_bound_1 3 rfl rfl)
theorem dX14_bound_29 : decode cX14_bound 29 = .ok (.aload_n 0, 1) := dk_42 (dk_at dksX14_bound_1 6 rfl rfl)
theorem dX14_bound_30 : decode cX14_bound 30 = .ok (.bipush 83, 2) := dk_16 83 (dk_at dksX14_bound_1 7 rfl rfl)
theorem dX14_bound_32 : decode cX14_bound 32 = .ok (.invokevirtual 445, 3) := dk_182 1 189 (dk_at dksX14_bound_1 9 rfl rfl)
theorem dX14_bound_35 : decode cX14_bound 35 = .ok (.ifCond .ne 12, 3) := dk_154 0 12 (dk_at dksX14_bound_1 12 rfl rfl)
theorem dX14_bound_38 : decode cX14_bound 38 = .ok (.aload_n 0, 1) := dk_42 (dk_at dksX14_bound_1 15 rfl rfl)
theorem dX14_bound_39 : decode cX14_bound 39 = .ok (.bipush 82, 2) := dk_16 82 (dk_at dksX14_bound_1 16 rfl rfl)
theorem dX14_bound_41 : decode cX14_bound 41 = .ok (.invokevirtual 445, 3) := dk_182 1 189 (dk_at dksX14_bound_1 18 rfl rfl)
theorem dX14_bound_44 : decode cX14_bound 44 = .ok (.ifCond .eq 20, 3) := dk_153 0 20 (dk_at dksX14_bound_1 21 rfl rfl)
theorem dX14_bound_47 : decode cX14_bound 47 = .ok (.aload_n 0, 1) := dk_42 (dk_at dksX14_bound_2 0 rfl rfl)
theorem dX14_bound_48 : decode cX14_bound 48 = .ok (.dup, 1) := dk_89 (dk_at dksX14_bound_2 1 rfl rfl)
theorem dX14_bound_49 : decode cX14_bound 49 = .ok (.getfield 442, 3) := dk_180 1 186 (dk_at dksX14_bound_2 2 rfl rfl)
theorem dX14_bound_52 : decode cX14_bound 52 = .ok (.iconst 1, 1) := dk_4 (dk_at dksX14_bound_2 5 rfl rfl)
theorem dX14_bound_53 : decode cX14_bound 53 = .ok (.iadd, 1) := dk_96 (dk_at dksX14_bound_2 6 rfl rfl)
theorem dX14_bound_54 : decode cX14_bound 54 = .ok (.putfield 442, 3) := dk_181 1 186 (dk_at dksX14_bound_2 7 rfl rfl)
theorem dX14_bound_57 : decode cX14_bound 57 = .ok (.aload_n 0, 1) := dk_42 (dk_at dksX14_bound_2 10 rfl rfl)
theorem dX14_bound_58 : decode cX14_bound 58 = .ok (.getfield 442, 3) := dk_180 1 186 (dk_at dksX14_bound_2 11 rfl rfl)
theorem dX14_bound_61 : decode cX14_bound 61 = .ok (.iconst 1, 1) := dk_4 (dk_at dksX14_bound_2 14 rfl rfl)
theorem dX14_bound_62 : decode cX14_bound 62 = .ok (.isub, 1) := dk_100 (dk_at dksX14_bound_2 15 rfl rfl)
theorem dX14_bound_63 : decode cX14_bound 63 = .ok (.ireturn, 1) := dk_172 (dk_at dksX14_bound_2 16 rfl rfl)
theorem dX14_bound_64 : decode cX14_bound 64 = .ok (.aload_n 0, 1) := dk_42 (dk_at dksX14_bound_2 17 rfl rfl)
theorem dX14_bound_65 : decode cX14_bound 65 = .ok (.iconst 1, 1) := dk_4 (dk_at dksX14_bound_2 18 rfl rfl)
theorem dX14_bound_66 : decode cX14_bound 66 = .ok (.invokevirtual 448, 3) := dk_182 1 192 (dk_at dksX14_bound_2 19 rfl rfl)
theorem dX14_bound_69 : decode cX14_bound 69 = .ok (.iconst 0, 1) := dk_3 (dk_at dksX14_bound_2 22 rfl rfl)
theorem dX14_bound_70 : decode cX14_bound 70 = .ok (.ireturn, 1) := dk_172 (dk_at dksX14_bound_2 23 rfl rfl)
abbrev cX14_limitsOf : ByteArray := prog_15_method_55_code
def yX14_limitsOf : MethodName := ⟨RX14, "limitsOf", "(I)V"⟩
def dkwX14_limitsOf_3 : List UInt8 := [167, 255, 186, 177]
abbrev dktX14_limitsOf_3 : List UInt8 := dkwX14_limitsOf_3 ++ []
def dkwX14_limitsOf_2 : List UInt8 := [167, 0, 23, 42, 27, 28, 3, 182, 2, 40, 62, 42, 29, 182, 2, 44, 42, 16, 17, 182, 1, 217, 87]
abbrev dktX14_limitsOf_2 : List UInt8 := dkwX14_limitsOf_2 ++ dktX14_limitsOf_3
def dkwX14_limitsOf_1 : List UInt8 := [180, 1, 186, 4, 96, 181, 1, 186, 42, 16, 101, 182, 1, 189, 153, 0, 13, 42, 27, 28, 4, 182, 2, 36]
abbrev dktX14_limitsOf_1 : List UInt8 := dkwX14_limitsOf_1 ++ dktX14_limitsOf_2
def dkwX14_limitsOf_0 : List UInt8 := [42, 180, 1, 97, 154, 0, 69, 42, 16, 16, 182, 1, 189, 153, 0, 60, 42, 180, 1, 186, 61, 42, 89]
abbrev dktX14_limitsOf_0 : List UInt8 := dkwX14_limitsOf_0 ++ dktX14_limitsOf_1
theorem dksX14_limitsOf_0 : cX14_limitsOf.data.toList.drop 0 = dktX14_limitsOf_0 := by decide +kernel
theorem dksX14_limitsOf_1 : cX14_limitsOf.data.toList.drop 23 = dktX14_limitsOf_1 := dk_seg dksX14_limitsOf_0 23 rfl rfl
theorem dksX14_limitsOf_2 : cX14_limitsOf.data.toList.drop 47 = dktX14_limitsOf_2 := dk_seg dksX14_limitsOf_1 24 rfl rfl
theorem dksX14_limitsOf_3 : cX14_limitsOf.data.toList.drop 70 = dktX14_limitsOf_3 := dk_seg dksX14_limitsOf_2 23 rfl rfl
theorem dX14_limitsOf_0 : decode cX14_limitsOf 0 = .ok (.aload_n 0, 1) := dk_42 (dk_at dksX14_limitsOf_0 0 rfl rfl)
theorem dX14_limitsOf_1 : decode cX14_limitsOf 1 = .ok (.getfield 353, 3) := dk_180 1 97 (dk_at dksX14_limitsOf_0 1 rfl rfl)
theorem dX14_limitsOf_4 : decode cX14_limitsOf 4 = .ok (.ifCond .ne 69, 3) := dk_154 0 69 (dk_at dksX14_limitsOf_0 4 rfl rfl)
theorem dX14_limitsOf_7 : decode cX14_limitsOf 7 = .ok (.aload_n 0, 1) := dk_42 (dk_at dksX14_limitsOf_0 7 rfl rfl)
theorem dX14_limitsOf_8 : decode cX14_limitsOf 8 = .ok (.bipush 16, 2) := dk_16 16 (dk_at dksX14_limitsOf_0 8 rfl rfl)
theorem dX14_limitsOf_10 : decode cX14_limitsOf 10 = .ok (.invokevirtual 445, 3) := dk_182 1 189 (dk_at dksX14_limitsOf_0 10 rfl rfl)
theorem dX14_limitsOf_13 : decode cX14_limitsOf 13 = .ok (.ifCond .eq 60, 3) := dk_153 0 60 (dk_at dksX14_limitsOf_0 13 rfl rfl)
theorem dX14_limitsOf_16 : decode cX14_limitsOf 16 = .ok (.aload_n 0, 1) := dk_42 (dk_at dksX14_limitsOf_0 16 rfl rfl)
theorem dX14_limitsOf_17 : decode cX14_limitsOf 17 = .ok (.getfield 442, 3) := dk_180 1 186 (dk_at dksX14_limitsOf_0 17 rfl rfl)
theorem dX14_limitsOf_20 : decode cX14_limitsOf 20 = .ok (.istore_n 2, 1) := dk_61 (dk_at dksX14_limitsOf_0 20 rfl rfl)
theorem dX14_limitsOf_21 : decode cX14_limitsOf 21 = .ok (.aload_n 0, 1) := dk_42 (dk_at dksX14_limitsOf_0 21 rfl rfl)
theorem dX14_limitsOf_22 : decode cX14_limitsOf 22 = .ok (.dup, 1) := dk_89 (dk_at dksX14_limitsOf_0 22 rfl rfl)
theorem dX14_limitsOf_23 : decode cX14_limitsOf 23 = .ok (.getfield 442, 3) := dk_180 1 186 (dk_at dksX14_limitsOf_1 0 rfl rfl)
theorem dX14_limitsOf_26 : decode cX14_limitsOf 26 = .ok (.iconst 1, 1) := dk_4 (dk_at dksX14_limitsOf_1 3 rfl rfl)
theorem dX14_limitsOf_27 : decode cX14_limitsOf 27 = .ok (.iadd, 1) := dk_96 (dk_at dksX14_limitsOf_1 4 rfl rfl)
theorem dX14_limitsOf_28 : decode cX14_limitsOf 28 = .ok (.putfield 442, 3) := dk_181 1 186 (dk_at dksX14_limitsOf_1 5 rfl rfl)
theorem dX14_limitsOf_31 : decode cX14_limitsOf 31 = .ok (.aload_n 0, 1) := dk_42 (dk_at dksX14_limitsOf_1 8 rfl rfl)
theorem dX14_limitsOf_32 : decode cX14_limitsOf 32 = .ok (.bipush 101, 2) := dk_16 101 (dk_at dksX14_limitsOf_1 9 rfl rfl)
theorem dX14_limitsOf_34 : decode cX14_limitsOf 34 = .ok (.invokevirtual 445, 3) := dk_182 1 189 (dk_at dksX14_limitsOf_1 11 rfl rfl)
theorem dX14_limitsOf_37 : decode cX14_limitsOf 37 = .ok (.ifCond .eq 13, 3) := dk_153 0 13 (dk_at dksX14_limitsOf_1 14 rfl rfl)
theorem dX14_limitsOf_40 : decode cX14_limitsOf 40 = .ok (.aload_n 0, 1) := dk_42 (dk_at dksX14_limitsOf_1 17 rfl rfl)
theorem dX14_limitsOf_41 : decode cX14_limitsOf 41 = .ok (.iload_n 1, 1) := dk_27 (dk_at dksX14_limitsOf_1 18 rfl rfl)
theorem dX14_limitsOf_42 : decode cX14_limitsOf 42 = .ok (.iload_n 2, 1) := dk_28 (dk_at dksX14_limitsOf_1 19 rfl rfl)
theorem dX14_limitsOf_43 : decode cX14_limitsOf 43 = .ok (.iconst 1, 1) := dk_4 (dk_at dksX14_limitsOf_1 20 rfl rfl)
theorem dX14_limitsOf_44 : decode cX14_limitsOf 44 = .ok (.invokevirtual 548, 3) := dk_182 2 36 (dk_at dksX14_limitsOf_1 21 rfl rfl)
theorem dX14_limitsOf_47 : decode cX14_limitsOf 47 = .ok (.goto 23, 3) := dk_167 0 23 (dk_at dksX14_limitsOf_2 0 rfl rfl)
theorem dX14_limitsOf_50 : decode cX14_limitsOf 50 = .ok (.aload_n 0, 1) := dk_42 (dk_at dksX14_limitsOf_2 3 rfl rfl)
theorem dX14_limitsOf_51 : decode cX14_limitsOf 51 = .ok (.iload_n 1, 1) := dk_27 (dk_at dksX14_limitsOf_2 4 rfl rfl)
theorem dX14_limitsOf_52 : decode cX14_limitsOf 52 = .ok (.iload_n 2, 1) := dk_28 (dk_at dksX14_limitsOf_2 5 rfl rfl)
theorem dX14_limitsOf_53 : decode cX14_limitsOf 53 = .ok (.iconst 0, 1) := dk_3 (dk_at dksX14_limitsOf_2 6 rfl rfl)
theorem dX14_limitsOf_54 : decode cX14_limitsOf 54 = .ok (.invokevirtual 552, 3) := dk_182 2 40 (dk_at dksX14_limitsOf_2 7 rfl rfl)
theorem dX14_limitsOf_57 : decode cX14_limitsOf 57 = .ok (.istore_n 3, 1) := dk_62 (dk_at dksX14_limitsOf_2 10 rfl rfl)
theorem dX14_limitsOf_58 : decode cX14_limitsOf 58 = .ok (.aload_n 0, 1) := dk_42 (dk_at dksX14_limitsOf_2 11 rfl rfl)
theorem dX14_limitsOf_59 : decode cX14_limitsOf 59 = .ok (.iload_n 3, 1) := dk_29 (dk_at dksX14_limitsOf_2 12 rfl rfl)
theorem dX14_limitsOf_60 : decode cX14_limitsOf 60 = .ok (.invokevirtual 556, 3) := dk_182 2 44 (dk_at dksX14_limitsOf_2 13 rfl rfl)
theorem dX14_limitsOf_63 : decode cX14_limitsOf 63 = .ok (.aload_n 0, 1) := dk_42 (dk_at dksX14_limitsOf_2 16 rfl rfl)
theorem dX14_limitsOf_64 : decode cX14_limitsOf 64 = .ok (.bipush 17, 2) := dk_16 17 (dk_at dksX14_limitsOf_2 17 rfl rfl)
theorem dX14_limitsOf_66 : decode cX14_limitsOf 66 = .ok (.invokevirtual 473, 3) := dk_182 1 217 (dk_at dksX14_limitsOf_2 19 rfl rfl)
theorem dX14_limitsOf_69 : decode cX14_limitsOf 69 = .ok (.pop, 1) := dk_87 (dk_at dksX14_limitsOf_2 22 rfl rfl)
theorem dX14_limitsOf_70 : decode cX14_limitsOf 70 = .ok (.goto (-70), 3) := dk_167 255 186 (dk_at dksX14_limitsOf_3 0 rfl rfl)
theorem dX14_limitsOf_73 : decode cX14_limitsOf 73 = .ok (.return_, 1) := dk_177 (dk_at dksX14_limitsOf_3 3 rfl rfl)
abbrev cX14_resume : ByteArray := prog_15_method_52_code
def yX14_resume : MethodName := ⟨RX14, "resume", "()V"⟩
def dkwX14_resume_7 : List UInt8 := [177]
abbrev dktX14_resume_7 : List UInt8 := dkwX14_resume_7 ++ []
def dkwX14_resume_6 : List UInt8 := [182, 1, 217, 87, 42, 89, 180, 1, 243, 4, 100, 181, 1, 243, 42, 27, 181, 1, 249, 42, 3, 181, 1, 246]
abbrev dktX14_resume_6 : List UInt8 := dkwX14_resume_6 ++ dktX14_resume_7
def dkwX14_resume_5 : List UInt8 := [182, 1, 240, 79, 42, 16, 18, 182, 1, 220, 153, 0, 10, 42, 27, 28, 182, 2, 33, 177, 42, 16, 13]
abbrev dktX14_resume_5 : List UInt8 := dkwX14_resume_5 ++ dktX14_resume_6
def dkwX14_resume_4 : List UInt8 := [182, 1, 220, 153, 0, 24, 42, 180, 0, 106, 28, 5, 79, 42, 180, 0, 109, 28, 42, 42, 180, 1, 249]
abbrev dktX14_resume_4 : List UInt8 := dkwX14_resume_4 ++ dktX14_resume_5
def dkwX14_resume_3 : List UInt8 := [42, 180, 0, 106, 28, 4, 79, 167, 0, 44, 42, 180, 0, 42, 27, 46, 16, 16, 159, 0, 33, 42, 16, 56]
abbrev dktX14_resume_3 : List UInt8 := dkwX14_resume_3 ++ dktX14_resume_4
def dkwX14_resume_2 : List UInt8 := [180, 1, 249, 79, 42, 180, 0, 42, 27, 46, 16, 16, 159, 0, 22, 42, 16, 90, 182, 1, 220, 153, 0, 13]
abbrev dktX14_resume_2 : List UInt8 := dkwX14_resume_2 ++ dktX14_resume_3
def dkwX14_resume_1 : List UInt8 := [28, 156, 0, 16, 42, 180, 0, 69, 27, 42, 180, 1, 249, 79, 167, 0, 107, 42, 180, 0, 103, 28, 42]
abbrev dktX14_resume_1 : List UInt8 := dkwX14_resume_1 ++ dktX14_resume_2
def dkwX14_resume_0 : List UInt8 := [42, 180, 0, 187, 42, 180, 1, 243, 4, 100, 46, 60, 42, 180, 0, 190, 42, 180, 1, 243, 4, 100, 46, 61]
abbrev dktX14_resume_0 : List UInt8 := dkwX14_resume_0 ++ dktX14_resume_1
theorem dksX14_resume_0 : cX14_resume.data.toList.drop 0 = dktX14_resume_0 := by decide +kernel
theorem dksX14_resume_1 : cX14_resume.data.toList.drop 24 = dktX14_resume_1 := dk_seg dksX14_resume_0 24 rfl rfl
theorem dksX14_resume_2 : cX14_resume.data.toList.drop 47 = dktX14_resume_2 := dk_seg dksX14_resume_1 23 rfl rfl
theorem dksX14_resume_3 : cX14_resume.data.toList.drop 71 = dktX14_resume_3 := dk_seg dksX14_resume_2 24 rfl rfl
theorem dksX14_resume_4 : cX14_resume.data.toList.drop 95 = dktX14_resume_4 := dk_seg dksX14_resume_3 24 rfl rfl
theorem dksX14_resume_5 : cX14_resume.data.toList.drop 118 = dktX14_resume_5 := dk_seg dksX14_resume_4 23 rfl rfl
theorem dksX14_resume_6 : cX14_resume.data.toList.drop 141 = dktX14_resume_6 := dk_seg dksX14_resume_5 23 rfl rfl
theorem dksX14_resume_7 : cX14_resume.data.toList.drop 165 = dktX14_resume_7 := dk_seg dksX14_resume_6 24 rfl rfl
theorem dX14_resume_0 : decode cX14_resume 0 = .ok (.aload_n 0, 1) := dk_42 (dk_at dksX14_resume_0 0 rfl rfl)
theorem dX14_resume_1 : decode cX14_resume 1 = .ok (.getfield 187, 3) := dk_180 0 187 (dk_at dksX14_resume_0 1 rfl rfl)
theorem dX14_resume_4 : decode cX14_resume 4 = .ok (.aload_n 0, 1) := dk_42 (dk_at dksX14_resume_0 4 rfl rfl)
theorem dX14_resume_5 : decode cX14_resume 5 = .ok (.getfield 499, 3) := dk_180 1 243 (dk_at dksX14_resume_0 5 rfl rfl)
theorem dX14_resume_8 : decode cX14_resume 8 = .ok (.iconst 1, 1) := dk_4 (dk_at dksX14_resume_0 8 rfl rfl)
theorem dX14_resume_9 : decode cX14_resume 9 = .ok (.isub, 1) := dk_100 (dk_at dksX14_resume_0 9 rfl rfl)
theorem dX14_resume_10 : decode cX14_resume 10 = .ok (.iaload, 1) := dk_46 (dk_at dksX14_resume_0 10 rfl rfl)
theorem dX14_resume_11 : decode cX14_resume 11 = .ok (.istore_n 1, 1) := dk_60 (dk_at dksX14_resume_0 11 rfl rfl)
theorem dX14_resume_12 : decode cX14_resume 12 = .ok (.aload_n 0, 1) := dk_42 (dk_at dksX14_resume_0 12 rfl rfl)
theorem dX14_resume_13 : decode cX14_resume 13 = .ok (.getfield 190, 3) := dk_180 0 190 (dk_at dksX14_resume_0 13 rfl rfl)
theorem dX14_resume_16 : decode cX14_resume 16 = .ok (.aload_n 0, 1) := dk_42 (dk_at dksX14_resume_0 16 rfl rfl)
theorem dX14_resume_17 : decode cX14_resume 17 = .ok (.getfield 499, 3) := dk_180 1 243 (dk_at dksX14_resume_0 17 rfl rfl)
theorem dX14_resume_20 : decode cX14_resume 20 = .ok (.iconst 1, 1) := dk_4 (dk_at dksX14_resume_0 20 rfl rfl)
theorem dX14_resume_21 : decode cX14_resume 21 = .ok (.isub, 1) := dk_100 (dk_at dksX14_resume_0 21 rfl rfl)
theorem dX14_resume_22 : decode cX14_resume 22 = .ok (.iaload, 1) := dk_46 (dk_at dksX14_resume_0 22 rfl rfl)
theorem dX14_resume_23 : decode cX14_resume 23 = .ok (.istore_n 2, 1) := dk_61 (dk_at dksX14_resume_0 23 rfl rfl)
theorem dX14_resume_24 : decode cX14_resume 24 = .ok (.iload_n 2, 1) := dk_28 (dk_at dksX14_resume_1 0 rfl rfl)
theorem dX14_resume_25 : decode cX14_resume 25 = .ok (.ifCond .ge 16, 3) := dk_156 0 16 (dk_at dksX14_resume_1 1 rfl rfl)
theorem dX14_resume_28 : decode cX14_resume 28 = .ok (.aload_n 0, 1) := dk_42 (dk_at dksX14_resume_1 4 rfl rfl)
theorem dX14_resume_29 : decode cX14_resume 29 = .ok (.getfield 69, 3) := dk_180 0 69 (dk_at dksX14_resume_1 5 rfl rfl)
theorem dX14_resume_32 : decode cX14_resume 32 = .ok (.iload_n 1, 1) := dk_27 (dk_at dksX14_resume_1 8 rfl rfl)
theorem dX14_resume_33 : decode cX14_resume 33 = .ok (.aload_n 0, 1) := dk_42 (dk_at dksX14_resume_1 9 rfl rfl)
theorem dX14_resume_34 : decode cX14_resume 34 = .ok (.getfield 505, 3) := dk_180 1 249 (dk_at dksX14_resume_1 10 rfl rfl)
theorem dX14_resume_37 : decode cX14_resume 37 = .ok (.iastore, 1) := dk_79 (dk_at dksX14_resume_1 13 rfl rfl)
theorem dX14_resume_38 : decode cX14_resume 38 = .ok (.goto 107, 3) := dk_167 0 107 (dk_at dksX14_resume_1 14 rfl rfl)
theorem dX14_resume_41 : decode cX14_resume 41 = .ok (.aload_n 0, 1) := dk_42 (dk_at dksX14_resume_1 17 rfl rfl)
theorem dX14_resume_42 : decode cX14_resume 42 = .ok (.getfield 103, 3) := dk_180 0 103 (dk_at dksX14_resume_1 18 rfl rfl)
theorem dX14_resume_45 : decode cX14_resume 45 = .ok (.iload_n 2, 1) := dk_28 (dk_at dksX14_resume_1 21 rfl rfl)
theorem dX14_resume_46 : decode cX14_resume 46 = .ok (.aload_n 0, 1) := dk_42 (dk_at dksX14_resume_1 22 rfl rfl)
theorem dX14_resume_47 : decode cX14_resume 47 = .ok (.getfield 505, 3) := dk_180 1 249 (dk_at dksX14_resume_2 0 rfl rfl)
theorem dX14_resume_50 : decode cX14_resume 50 = .ok (.iastore, 1) := dk_79 (dk_at dksX14_resume_2 3 rfl rfl)
theorem dX14_resume_51 : decode cX14_resume 51 = .ok (.aload_n 0, 1) := dk_42 (dk_at dksX14_resume_2 4 rfl rfl)
theorem dX14_resume_52 : decode cX14_resume 52 = .ok (.getfield 42, 3) := dk_180 0 42 (dk_at dksX14_resume_2 5 rfl rfl)
theorem dX14_resume_55 : decode cX14_resume 55 = .ok (.iload_n 1, 1) := dk_27 (dk_at dksX14_resume_2 8 rfl rfl)
theorem dX14_resume_56 : decode cX14_resume 56 = .ok (.iaload, 1) := dk_46 (dk_at dksX14_resume_2 9 rfl rfl)
theorem dX14_resume_57 : decode cX14_resume 57 = .ok (.bipush 16, 2) := dk_16 16 (dk_at dksX14_resume_2 10 rfl rfl)
theorem dX14_resume_59 : decode cX14_resume 59 = .ok (.if_icmp .eq 22, 3) := dk_159 0 22 (dk_at dksX14_resume_2 12 rfl rfl)
theorem dX14_resume_62 : decode cX14_resume 62 = .ok (.aload_n 0, 1) := dk_42 (dk_at dksX14_resume_2 15 rfl rfl)
theorem dX14_resume_63 : decode cX14_resume 63 = .ok (.bipush 90, 2) := dk_16 90 (dk_at dksX14_resume_2 16 rfl rfl)
theorem dX14_resume_65 : decode cX14_resume 65 = .ok (.invokevirtual 476, 3) := dk_182 1 220 (dk_at dksX14_resume_2 18 rfl rfl)
theorem dX14_resume_68 : decode cX14_resume 68 = .ok (.ifCond .eq 13, 3) := dk_153 0 13 (dk_at dksX14_resume_2 21 rfl rfl)
theorem dX14_resume_71 : decode cX14_resume 71 = .ok (.aload_n 0, 1) := dk_42 (dk_at dksX14_resume_3 0 rfl rfl)
theorem dX14_resume_72 : decode cX14_resume 72 = .ok (.getfield 106, 3) := dk_180 0 106 (dk_at dksX14_resume_3 1 rfl rfl)
theorem dX14_resume_75 : decode cX14_resume 75 = .ok (.iload_n 2, 1) := dk_28 (dk_at dksX14_resume_3 4 rfl rfl)
theorem dX14_resume_76 : decode cX14_resume 76 = .ok (.iconst 1, 1) := dk_4 (dk_at dksX14_resume_3 5 rfl rfl)
theorem dX14_resume_77 : decode cX14_resume 77 = .ok (.iastore, 1) := dk_79 (dk_at dksX14_resume_3 6 rfl rfl)
theorem dX14_resume_78 : decode cX14_resume 78 = .ok (.goto 44, 3) := dk_167 0 44 (dk_at dksX14_resume_3 7 rfl rfl)
theorem dX14_resume_81 : decode cX14_resume 81 = .ok (.aload_n 0, 1) := dk_42 (dk_at dksX14_resume_3 10 rfl rfl)
theorem dX14_resume_82 : decode cX14_resume 82 = .ok (.getfield 42, 3) := dk_180 0 42 (dk_at dksX14_resume_3 11 rfl rfl)
theorem dX14_resume_85 : decode cX14_resume 85 = .ok (.iload_n 1, 1) := dk_27 (dk_at dksX14_resume_3 14 rfl rfl)
theorem dX14_resume_86 : decode cX14_resume 86 = .ok (.iaload, 1) := dk_46 (dk_at dksX14_resume_3 15 rfl rfl)
theorem dX14_resume_87 : decode cX14_resume 87 = .ok (.bipush 16, 2) := dk_16 16 (dk_at dksX14_resume_3 16 rfl rfl)
theorem dX14_resume_89 : decode cX14_resume 89 = .ok (.if_icmp .eq 33, 3) := dk_159 0 33 (dk_at dksX14_resume_3 18 rfl rfl)
theorem dX14_resume_92 : decode cX14_resume 92 = .ok (.aload_n 0, 1) := dk_42 (dk_at dksX14_resume_3 21 rfl rfl)
theorem dX14_resume_93 : decode cX14_resume 93 = .ok (.bipush 56, 2) := dk_16 56 (dk_at dksX14_resume_3 22 rfl rfl)
theorem dX14_resume_95 : decode cX14_resume 95 = .ok (.invokevirtual 476, 3) := dk_182 1 220 (dk_at dksX14_resume_4 0 rfl rfl)
theorem dX14_resume_98 : decode cX14_resume 98 = .ok (.ifCond .eq 24, 3) := dk_153 0 24 (dk_at dksX14_resume_4 3 rfl rfl)
theorem dX14_resume_101 : decode cX14_resume 101 = .ok (.aload_n 0, 1) := dk_42 (dk_at dksX14_resume_4 6 rfl rfl)
theorem dX14_resume_102 : decode cX14_resume 102 = .ok (.getfield 106, 3) := dk_180 0 106 (dk_at dksX14_resume_4 7 rfl rfl)
theorem dX14_resume_105 : decode cX14_resume 105 = .ok (.iload_n 2, 1) := dk_28 (dk_at dksX14_resume_4 10 rfl rfl)
theorem dX14_resume_106 : decode cX14_resume 106 = .ok (.iconst 2, 1) := dk_5 (dk_at dksX14_resume_4 11 rfl rfl)
theorem dX14_resume_107 : decode cX14_resume 107 = .ok (.iastore, 1) := dk_79 (dk_at dksX14_resume_4 12 rfl rfl)
theorem dX14_resume_108 : decode cX14_resume 108 = .ok (.aload_n 0, 1) := dk_42 (dk_at dksX14_resume_4 13 rfl rfl)
theorem dX14_resume_109 : decode cX14_resume 109 = .ok (.getfield 109, 3) := dk_180 0 109 (dk_at dksX14_resume_4 14 rfl rfl)
theorem dX14_resume_112 : decode cX14_resume 112 = .ok (.iload_n 2, 1) := dk_28 (dk_at dksX14_resume_4 17 rfl rfl)
theorem dX14_resume_113 : decode cX14_resume 113 = .ok (.aload_n 0, 1) := dk_42 (dk_at dksX14_resume_4 18 rfl rfl)
theorem dX14_resume_114 : decode cX14_resume 114 = .ok (.aload_n 0, 1) := dk_42 (dk_at dksX14_resume_4 19 rfl rfl)
theorem dX14_resume_115 : decode cX14_resume 115 = .ok (.getfield 505, 3) := dk_180 1 249 (dk_at dksX14_resume_4 20 rfl rfl)
theorem dX14_resume_118 : decode cX14_resume 118 = .ok (.invokevirtual 496, 3) := dk_182 1 240 (dk_at dksX14_resume_5 0 rfl rfl)
theorem dX14_resume_121 : decode cX14_resume 121 = .ok (.iastore, 1) := dk_79 (dk_at dksX14_resume_5 3 rfl rfl)
theorem dX14_resume_122 : decode cX14_resume 122 = .ok (.aload_n 0, 1) := dk_42 (dk_at dksX14_resume_5 4 rfl rfl)
theorem dX14_resume_123 : decode cX14_resume 123 = .ok (.bipush 18, 2) := dk_16 18 (dk_at dksX14_resume_5 5 rfl rfl)
theorem dX14_resume_125 : decode cX14_resume 125 = .ok (.invokevirtual 476, 3) := dk_182 1 220 (dk_at dksX14_resume_5 7 rfl rfl)
theorem dX14_resume_128 : decode cX14_resume 128 = .ok (.ifCond .eq 10, 3) := dk_153 0 10 (dk_at dksX14_resume_5 10 rfl rfl)
theorem dX14_resume_131 : decode cX14_resume 131 = .ok (.aload_n 0, 1) := dk_42 (dk_at dksX14_resume_5 13 rfl rfl)
theorem dX14_resume_132 : decode cX14_resume 132 = .ok (.iload_n 1, 1) := dk_27 (dk_at dksX14_resume_5 14 rfl rfl)
theorem dX14_resume_133 : decode cX14_resume 133 = .ok (.iload_n 2, 1) := dk_28 (dk_at dksX14_resume_5 15 rfl rfl)
theorem dX14_resume_134 : decode cX14_resume 134 = .ok (.invokevirtual 545, 3) := dk_182 2 33 (dk_at dksX14_resume_5 16 rfl rfl)
theorem dX14_resume_137 : decode cX14_resume 137 = .ok (.return_, 1) := dk_177 (dk_at dksX14_resume_5 19 rfl rfl)
theorem dX14_resume_138 : decode cX14_resume 138 = .ok (.aload_n 0, 1) := dk_42 (dk_at dksX14_resume_5 20 rfl rfl)
theorem dX14_resume_139 : decode cX14_resume 139 = .ok (.bipush 13, 2) := dk_16 13 (dk_at dksX14_resume_5 21 rfl rfl)
theorem dX14_resume_141 : decode cX14_resume 141 = .ok (.invokevirtual 473, 3) := dk_182 1 217 (dk_at dksX14_resume_6 0 rfl rfl)
theorem dX14_resume_144 : decode cX14_resume 144 = .ok (.pop, 1) := dk_87 (dk_at dksX14_resume_6 3 rfl rfl)
theorem dX14_resume_145 : decode cX14_resume 145 = .ok (.aload_n 0, 1) := dk_42 (dk_at dksX14_resume_6 4 rfl rfl)
theorem dX14_resume_146 : decode cX14_resume 146 = .ok (.dup, 1) := dk_89 (dk_at dksX14_resume_6 5 rfl rfl)
theorem dX14_resume_147 : decode cX14_resume 147 = .ok (.getfield 499, 3) := dk_180 1 243 (dk_at dksX14_resume_6 6 rfl rfl)
theorem dX14_resume_150 : decode cX14_resume 150 = .ok (.iconst 1, 1) := dk_4 (dk_at dksX14_resume_6 9 rfl rfl)
theorem dX14_resume_151 : decode cX14_resume 151 = .ok (.isub, 1) := dk_100 (dk_at dksX14_resume_6 10 rfl rfl)
theorem dX14_resume_152 : decode cX14_resume 152 = .ok (.putfield 499, 3) := dk_181 1 243 (dk_at dksX14_resume_6 11 rfl rfl)
theorem dX14_resume_155 : decode cX14_resume 155 = .ok (.aload_n 0, 1) := dk_42 (dk_at dksX14_resume_6 14 rfl rfl)
theorem dX14_resume_156 : decode cX14_resume 156 = .ok (.iload_n 1, 1) := dk_27 (dk_at dksX14_resume_6 15 rfl rfl)
theorem dX14_resume_157 : decode cX14_resume 157 = .ok (.putfield 505, 3) := dk_181 1 249 (dk_at dksX14_resume_6 16 rfl rfl)
theorem dX14_resume_160 : decode cX14_resume 160 = .ok (.aload_n 0, 1) := dk_42 (dk_at dksX14_resume_6 19 rfl rfl)
theorem dX14_resume_161 : decode cX14_resume 161 = .ok (.iconst 0, 1) := dk_3 (dk_at dksX14_resume_6 20 rfl rfl)
theorem dX14_resume_162 : decode cX14_resume 162 = .ok (.putfield 502, 3) := dk_181 1 246 (dk_at dksX14_resume_6 21 rfl rfl)
theorem dX14_resume_165 : decode cX14_resume 165 = .ok (.return_, 1) := dk_177 (dk_at dksX14_resume_7 0 rfl rfl)
abbrev cX14_parseValue : ByteArray := prog_15_method_58_code
def yX14_parseValue : MethodName := ⟨RX14, "parseValue", "(I)I"⟩
def dkwX14_parseValue_10 : List UInt8 := [28, 172]
abbrev dktX14_parseValue_10 : List UInt8 := dkwX14_parseValue_10 ++ []
def dkwX14_parseValue_9 : List UInt8 := [16, 13, 182, 1, 217, 87, 167, 0, 8, 42, 4, 182, 1, 192, 42, 89, 180, 2, 63, 4, 96, 181, 2, 63]
abbrev dktX14_parseValue_9 : List UInt8 := dkwX14_parseValue_9 ++ dktX14_parseValue_10
def dkwX14_parseValue_8 : List UInt8 := [180, 0, 157, 28, 51, 154, 0, 27, 42, 16, 12, 182, 1, 220, 153, 0, 18, 42, 28, 182, 2, 69, 42]
abbrev dktX14_parseValue_8 : List UInt8 := dkwX14_parseValue_8 ++ dktX14_parseValue_9
def dkwX14_parseValue_7 : List UInt8 := [42, 16, 6, 182, 1, 189, 153, 0, 16, 42, 89, 180, 1, 186, 4, 96, 181, 1, 186, 167, 0, 41, 42]
abbrev dktX14_parseValue_7 : List UInt8 := dkwX14_parseValue_7 ++ dktX14_parseValue_8
def dkwX14_parseValue_6 : List UInt8 := [42, 5, 182, 1, 189, 154, 0, 28, 42, 7, 182, 1, 189, 154, 0, 20, 42, 8, 182, 1, 189, 154, 0, 12]
abbrev dktX14_parseValue_6 : List UInt8 := dkwX14_parseValue_6 ++ dktX14_parseValue_7
def dkwX14_parseValue_5 : List UInt8 := [182, 1, 189, 154, 0, 54, 42, 16, 67, 182, 1, 189, 154, 0, 45, 42, 16, 85, 182, 1, 189, 154, 0, 36]
abbrev dktX14_parseValue_5 : List UInt8 := dkwX14_parseValue_5 ++ dktX14_parseValue_6
def dkwX14_parseValue_4 : List UInt8 := [89, 180, 1, 186, 4, 96, 181, 1, 186, 167, 0, 123, 42, 180, 0, 157, 28, 51, 154, 0, 76, 42, 16, 106]
abbrev dktX14_parseValue_4 : List UInt8 := dkwX14_parseValue_4 ++ dktX14_parseValue_5
def dkwX14_parseValue_3 : List UInt8 := [180, 1, 186, 46, 79, 42, 180, 0, 154, 28, 42, 180, 1, 186, 79, 42, 6, 182, 1, 189, 153, 0, 16, 42]
abbrev dktX14_parseValue_3 : List UInt8 := dkwX14_parseValue_3 ++ dktX14_parseValue_4
def dkwX14_parseValue_2 : List UInt8 := [42, 180, 2, 66, 79, 42, 180, 0, 163, 28, 3, 79, 42, 180, 0, 148, 28, 42, 180, 0, 33, 42]
abbrev dktX14_parseValue_2 : List UInt8 := dkwX14_parseValue_2 ++ dktX14_parseValue_3
def dkwX14_parseValue_1 : List UInt8 := [42, 180, 0, 166, 28, 27, 79, 42, 180, 0, 157, 28, 42, 16, 19, 182, 1, 220, 84, 42, 180, 0, 160, 28]
abbrev dktX14_parseValue_1 : List UInt8 := dkwX14_parseValue_1 ++ dktX14_parseValue_2
def dkwX14_parseValue_0 : List UInt8 := [42, 180, 2, 63, 61, 42, 180, 1, 97, 158, 0, 5, 3, 172, 42, 180, 0, 151, 28, 42, 180, 1, 186, 79]
abbrev dktX14_parseValue_0 : List UInt8 := dkwX14_parseValue_0 ++ dktX14_parseValue_1
theorem dksX14_parseValue_0 : cX14_parseValue.data.toList.drop 0 = dktX14_parseValue_0 := by decide +kernel
theorem dksX14_parseValue_1 : cX14_parseValue.data.toList.drop 24 = dktX14_parseValue_1 := dk_seg dksX14_parseValue_0 24 rfl rfl
theorem dksX14_parseValue_2 : cX14_parseValue.data.toList.drop 48 = dktX14_parseValue_2 := dk_seg dksX14_parseValue_1 24 rfl rfl
theorem dksX14_parseValue_3 : cX14_parseValue.data.toList.drop 70 = dktX14_parseValue_3 := dk_seg dksX14_parseValue_2 22 rfl rfl
theorem dksX14_parseValue_4 : cX14_parseValue.data.toList.drop 94 = dktX14_parseValue_4 := dk_seg dksX14_parseValue_3 24 rfl rfl
theorem dksX14_parseValue_5 : cX14_parseValue.data.toList.drop 118 = dktX14_parseValue_5 := dk_seg dksX14_parseValue_4 24 rfl rfl
theorem dksX14_parseValue_6 : cX14_parseValue.data.toList.drop 142 = dktX14_parseValue_6 := dk_seg dksX14_parseValue_5 24 rfl rfl
theorem dksX14_parseValue_7 : cX14_parseValue.data.toList.drop 166 = dktX14_parseValue_7 := dk_seg dksX14_parseValue_6 24 rfl rfl
theorem dksX14_parseValue_8 : cX14_parseValue.data.toList.drop 189 = dktX14_parseValue_8 := dk_seg dksX14_parseValue_7 23 rfl rfl
theorem dksX14_parseValue_9 : cX14_parseValue.data.toList.drop 212 = dktX14_parseValue_9 := dk_seg dksX14_parseValue_8 23 rfl rfl
theorem dksX14_parseValue_10 : cX14_parseValue.data.toList.drop 236 = dktX14_parseValue_10 := dk_seg dksX14_parseValue_9 24 rfl rfl
theorem dX14_parseValue_0 : decode cX14_parseValue 0 = .ok (.aload_n 0, 1) := dk_42 (dk_at dksX14_parseValue_0 0 rfl rfl)
theorem dX14_parseValue_1 : decode cX14_parseValue 1 = .ok (.getfield 575, 3) := dk_180 2 63 (dk_at dksX14_parseValue_0 1 rfl rfl)
theorem dX14_parseValue_4 : decode cX14_parseValue 4 = .ok (.istore_n 2, 1) := dk_61 (dk_at dksX14_parseValue_0 4 rfl rfl)
theorem dX14_parseValue_5 : decode cX14_parseValue 5 = .ok (.aload_n 0, 1) := dk_42 (dk_at dksX14_parseValue_0 5 rfl rfl)
theorem dX14_parseValue_6 : decode cX14_parseValue 6 = .ok (.getfield 353, 3) := dk_180 1 97 (dk_at dksX14_parseValue_0 6 rfl rfl)
theorem dX14_parseValue_9 : decode cX14_parseValue 9 = .ok (.ifCond .le 5, 3) := dk_158 0 5 (dk_at dksX14_parseValue_0 9 rfl rfl)
theorem dX14_parseValue_12 : decode cX14_parseValue 12 = .ok (.iconst 0, 1) := dk_3 (dk_at dksX14_parseValue_0 12 rfl rfl)
theorem dX14_parseValue_13 : decode cX14_parseValue 13 = .ok (.ireturn, 1) := dk_172 (dk_at dksX14_parseValue_0 13 rfl rfl)
theorem dX14_parseValue_14 : decode cX14_parseValue 14 = .ok (.aload_n 0, 1) := dk_42 (dk_at dksX14_parseValue_0 14 rfl rfl)
theorem dX14_parseValue_15 : decode cX14_parseValue 15 = .ok (.getfield 151, 3) := dk_180 0 151 (dk_at dksX14_parseValue_0 15 rfl rfl)
theorem dX14_parseValue_18 : decode cX14_parseValue 18 = .ok (.iload_n 2, 1) := dk_28 (dk_at dksX14_parseValue_0 18 rfl rfl)
theorem dX14_parseValue_19 : decode cX14_parseValue 19 = .ok (.aload_n 0, 1) := dk_42 (dk_at dksX14_parseValue_0 19 rfl rfl)
theorem dX14_parseValue_20 : decode cX14_parseValue 20 = .ok (.getfield 442, 3) := dk_180 1 186 (dk_at dksX14_parseValue_0 20 rfl rfl)
theorem dX14_parseValue_23 : decode cX14_parseValue 23 = .ok (.iastore, 1) := dk_79 (dk_at dksX14_parseValue_0 23 rfl rfl)
theorem dX14_parseValue_24 : decode cX14_parseValue 24 = .ok (.aload_n 0, 1) := dk_42 (dk_at dksX14_parseValue_1 0 rfl rfl)
theorem dX14_parseValue_25 : decode cX14_parseValue 25 = .ok (.getfield 166, 3) := dk_180 0 166 (dk_at dksX14_parseValue_1 1 rfl rfl)
theorem dX14_parseValue_28 : decode cX14_parseValue 28 = .ok (.iload_n 2, 1) := dk_28 (dk_at dksX14_parseValue_1 4 rfl rfl)
theorem dX14_parseValue_29 : decode cX14_parseValue 29 = .ok (.iload_n 1, 1) := dk_27 (dk_at dksX14_parseValue_1 5 rfl rfl)
theorem dX14_parseValue_30 : decode cX14_parseValue 30 = .ok (.iastore, 1) := dk_79 (dk_at dksX14_parseValue_1 6 rfl rfl)
theorem dX14_parseValue_31 : decode cX14_parseValue 31 = .ok (.aload_n 0, 1) := dk_42 (dk_at dksX14_parseValue_1 7 rfl rfl)
theorem dX14_parseValue_32 : decode cX14_parseValue 32 = .ok (.getfield 157, 3) := dk_180 0 157 (dk_at dksX14_parseValue_1 8 rfl rfl)
theorem dX14_parseValue_35 : decode cX14_parseValue 35 = .ok (.iload_n 2, 1) := dk_28 (dk_at dksX14_parseValue_1 11 rfl rfl)
theorem dX14_parseValue_36 : decode cX14_parseValue 36 = .ok (.aload_n 0, 1) := dk_42 (dk_at dksX14_parseValue_1 12 rfl rfl)
theorem dX14_parseValue_37 : decode cX14_parseValue 37 = .ok (.bipush 19, 2) := dk_16 19 (dk_at dksX14_parseValue_1 13 rfl rfl)
theorem dX14_parseValue_39 : decode cX14_parseValue 39 = .ok (.invokevirtual 476, 3) := dk_182 1 220 (dk_at dksX14_parseValue_1 15 rfl rfl)
theorem dX14_parseValue_42 : decode cX14_parseValue 42 = .ok (.bastore, 1) := dk_84 (dk_at dksX14_parseValue_1 18 rfl rfl)
theorem dX14_parseValue_43 : decode cX14_parseValue 43 = .ok (.aload_n 0, 1) := dk_42 (dk_at dksX14_parseValue_1 19 rfl rfl)
theorem dX14_parseValue_44 : decode cX14_parseValue 44 = .ok (.getfield 160, 3) := dk_180 0 160 (dk_at dksX14_parseValue_1 20 rfl rfl)
theorem dX14_parseValue_47 : decode cX14_parseValue 47 = .ok (.iload_n 2, 1) := dk_28 (dk_at dksX14_parseValue_1 23 rfl rfl)
theorem dX14_parseValue_48 : decode cX14_parseValue 48 = .ok (.aload_n 0, 1) := dk_42 (dk_at dksX14_parseValue_2 0 rfl rfl)
theorem dX14_parseValue_49 : decode cX14_parseValue 49 = .ok (.getfield 578, 3) := dk_180 2 66 (dk_at dksX14_parseValue_2 1 rfl rfl)
theorem dX14_parseValue_52 : decode cX14_parseValue 52 = .ok (.iastore, 1) := dk_79 (dk_at dksX14_parseValue_2 4 rfl rfl)
theorem dX14_parseValue_53 : decode cX14_parseValue 53 = .ok (.aload_n 0, 1) := dk_42 (dk_at dksX14_parseValue_2 5 rfl rfl)
theorem dX14_parseValue_54 : decode cX14_parseValue 54 = .ok (.getfield 163, 3) := dk_180 0 163 (dk_at dksX14_parseValue_2 6 rfl rfl)
theorem dX14_parseValue_57 : decode cX14_parseValue 57 = .ok (.iload_n 2, 1) := dk_28 (dk_at dksX14_parseValue_2 9 rfl rfl)
theorem dX14_parseValue_58 : decode cX14_parseValue 58 = .ok (.iconst 0, 1) := dk_3 (dk_at dksX14_parseValue_2 10 rfl rfl)
theorem dX14_parseValue_59 : decode cX14_parseValue 59 = .ok (.iastore, 1) := dk_79 (dk_at dksX14_parseValue_2 11 rfl rfl)
theorem dX14_parseValue_60 : decode cX14_parseValue 60 = .ok (.aload_n 0, 1) := dk_42 (dk_at dksX14_parseValue_2 12 rfl rfl)
theorem dX14_parseValue_61 : decode cX14_parseValue 61 = .ok (.getfield 148, 3) := dk_180 0 148 (dk_at dksX14_parseValue_2 13 rfl rfl)
theorem dX14_parseValue_64 : decode cX14_parseValue 64 = .ok (.iload_n 2, 1) := dk_28 (dk_at dksX14_parseValue_2 16 rfl rfl)
theorem dX14_parseValue_65 : decode cX14_parseValue 65 = .ok (.aload_n 0, 1) := dk_42 (dk_at dksX14_parseValue_2 17 rfl rfl)
theorem dX14_parseValue_66 : decode cX14_parseValue 66 = .ok (.getfield 33, 3) := dk_180 0 33 (dk_at dksX14_parseValue_2 18 rfl rfl)
theorem dX14_parseValue_69 : decode cX14_parseValue 69 = .ok (.aload_n 0, 1) := dk_42 (dk_at dksX14_parseValue_2 21 rfl rfl)
theorem dX14_parseValue_70 : decode cX14_parseValue 70 = .ok (.getfield 442, 3) := dk_180 1 186 (dk_at dksX14_parseValue_3 0 rfl rfl)
theorem dX14_parseValue_73 : decode cX14_parseValue 73 = .ok (.iaload, 1) := dk_46 (dk_at dksX14_parseValue_3 3 rfl rfl)
theorem dX14_parseValue_74 : decode cX14_parseValue 74 = .ok (.iastore, 1) := dk_79 (dk_at dksX14_parseValue_3 4 rfl rfl)
theorem dX14_parseValue_75 : decode cX14_parseValue 75 = .ok (.aload_n 0, 1) := dk_42 (dk_at dksX14_parseValue_3 5 rfl rfl)
theorem dX14_parseValue_76 : decode cX14_parseValue 76 = .ok (.getfield 154, 3) := dk_180 0 154 (dk_at dksX14_parseValue_3 6 rfl rfl)
theorem dX14_parseValue_79 : decode cX14_parseValue 79 = .ok (.iload_n 2, 1) := dk_28 (dk_at dksX14_parseValue_3 9 rfl rfl)
theorem dX14_parseValue_80 : decode cX14_parseValue 80 = .ok (.aload_n 0, 1) := dk_42 (dk_at dksX14_parseValue_3 10 rfl rfl)
theorem dX14_parseValue_81 : decode cX14_parseValue 81 = .ok (.getfield 442, 3) := dk_180 1 186 (dk_at dksX14_parseValue_3 11 rfl rfl)
theorem dX14_parseValue_84 : decode cX14_parseValue 84 = .ok (.iastore, 1) := dk_79 (dk_at dksX14_parseValue_3 14 rfl rfl)
theorem dX14_parseValue_85 : decode cX14_parseValue 85 = .ok (.aload_n 0, 1) := dk_42 (dk_at dksX14_parseValue_3 15 rfl rfl)
theorem dX14_parseValue_86 : decode cX14_parseValue 86 = .ok (.iconst 3, 1) := dk_6 (dk_at dksX14_parseValue_3 16 rfl rfl)
theorem dX14_parseValue_87 : decode cX14_parseValue 87 = .ok (.invokevirtual 445, 3) := dk_182 1 189 (dk_at dksX14_parseValue_3 17 rfl rfl)
theorem dX14_parseValue_90 : decode cX14_parseValue 90 = .ok (.ifCond .eq 16, 3) := dk_153 0 16 (dk_at dksX14_parseValue_3 20 rfl rfl)
theorem dX14_parseValue_93 : decode cX14_parseValue 93 = .ok (.aload_n 0, 1) := dk_42 (dk_at dksX14_parseValue_3 23 rfl rfl)
theorem dX14_parseValue_94 : decode cX14_parseValue 94 = .ok (.dup, 1) := dk_89 (dk_at dksX14_parseValue_4 0 rfl rfl)
theorem dX14_parseValue_95 : decode cX14_parseValue 95 = .ok (.getfield 442, 3) := dk_180 1 186 (dk_at dksX14_parseValue_4 1 rfl rfl)
theorem dX14_parseValue_98 : decode cX14_parseValue 98 = .ok (.iconst 1, 1) := dk_4 (dk_at dksX14_parseValue_4 4 rfl rfl)
theorem dX14_parseValue_99 : decode cX14_parseValue 99 = .ok (.iadd, 1) := dk_96 (dk_at dksX14_parseValue_4 5 rfl rfl)
theorem dX14_parseValue_100 : decode cX14_parseValue 100 = .ok (.putfield 442, 3) := dk_181 1 186 (dk_at dksX14_parseValue_4 6 rfl rfl)
theorem dX14_parseValue_103 : decode cX14_parseValue 103 = .ok (.goto 123, 3) := dk_167 0 123 (dk_at dksX14_parseValue_4 9 rfl rfl)
theorem dX14_parseValue_106 : decode cX14_parseValue 106 = .ok (.aload_n 0, 1) := dk_42 (dk_at dksX14_parseValue_4 12 rfl rfl)
theorem dX14_parseValue_107 : decode cX14_parseValue 107 = .ok (.getfield 157, 3) := dk_180 0 157 (dk_at dksX14_parseValue_4 13 rfl rfl)
theorem dX14_parseValue_110 : decode cX14_parseValue 110 = .ok (.iload_n 2, 1) := dk_28 (dk_at dksX14_parseValue_4 16 rfl rfl)
theorem dX14_parseValue_111 : decode cX14_parseValue 111 = .ok (.baload, 1) := dk_51 (dk_at dksX14_parseValue_4 17 rfl rfl)
theorem dX14_parseValue_112 : decode cX14_parseValue 112 = .ok (.ifCond .ne 76, 3) := dk_154 0 76 (dk_at dksX14_parseValue_4 18 rfl rfl)
theorem dX14_parseValue_115 : decode cX14_parseValue 115 = .ok (.aload_n 0, 1) := dk_42 (dk_at dksX14_parseValue_4 21 rfl rfl)
theorem dX14_parseValue_116 : decode cX14_parseValue 116 = .ok (.bipush 106, 2) := dk_16 106 (dk_at dksX14_parseValue_4 22 rfl rfl)
theorem dX14_parseValue_118 : decode cX14_parseValue 118 = .ok (.invokevirtual 445, 3) := dk_182 1 189 (dk_at dksX14_parseValue_5 0 rfl rfl)
theorem dX14_parseValue_121 : decode cX14_parseValue 121 = .ok (.ifCond .ne 54, 3) := dk_154 0 54 (dk_at dksX14_parseValue_5 3 rfl rfl)
theorem dX14_parseValue_124 : decode cX14_parseValue 124 = .ok (.aload_n 0, 1) := dk_42 (dk_at dksX14_parseValue_5 6 rfl rfl)
theorem dX14_parseValue_125 : decode cX14_parseValue 125 = .ok (.bipush 67, 2) := dk_16 67 (dk_at dksX14_parseValue_5 7 rfl rfl)
theorem dX14_parseValue_127 : decode cX14_parseValue 127 = .ok (.invokevirtual 445, 3) := dk_182 1 189 (dk_at dksX14_parseValue_5 9 rfl rfl)
theorem dX14_parseValue_130 : decode cX14_parseValue 130 = .ok (.ifCond .ne 45, 3) := dk_154 0 45 (dk_at dksX14_parseValue_5 12 rfl rfl)
theorem dX14_parseValue_133 : decode cX14_parseValue 133 = .ok (.aload_n 0, 1) := dk_42 (dk_at dksX14_parseValue_5 15 rfl rfl)
theorem dX14_parseValue_134 : decode cX14_parseValue 134 = .ok (.bipush 85, 2) := dk_16 85 (dk_at dksX14_parseValue_5 16 rfl rfl)
theorem dX14_parseValue_136 : decode cX14_parseValue 136 = .ok (.invokevirtual 445, 3) := dk_182 1 189 (dk_at dksX14_parseValue_5 18 rfl rfl)
theorem dX14_parseValue_139 : decode cX14_parseValue 139 = .ok (.ifCond .ne 36, 3) := dk_154 0 36 (dk_at dksX14_parseValue_5 21 rfl rfl)
theorem dX14_parseValue_142 : decode cX14_parseValue 142 = .ok (.aload_n 0, 1) := dk_42 (dk_at dksX14_parseValue_6 0 rfl rfl)
theorem dX14_parseValue_143 : decode cX14_parseValue 143 = .ok (.iconst 2, 1) := dk_5 (dk_at dksX14_parseValue_6 1 rfl rfl)
theorem dX14_parseValue_144 : decode cX14_parseValue 144 = .ok (.invokevirtual 445, 3) := dk_182 1 189 (dk_at dksX14_parseValue_6 2 rfl rfl)
theorem dX14_parseValue_147 : decode cX14_parseValue 147 = .ok (.ifCond .ne 28, 3) := dk_154 0 28 (dk_at dksX14_parseValue_6 5 rfl rfl)
theorem dX14_parseValue_150 : decode cX14_parseValue 150 = .ok (.aload_n 0, 1) := dk_42 (dk_at dksX14_parseValue_6 8 rfl rfl)
theorem dX14_parseValue_151 : decode cX14_parseValue 151 = .ok (.iconst 4, 1) := dk_7 (dk_at dksX14_parseValue_6 9 rfl rfl)
theorem dX14_parseValue_152 : decode cX14_parseValue 152 = .ok (.invokevirtual 445, 3) := dk_182 1 189 (dk_at dksX14_parseValue_6 10 rfl rfl)
theorem dX14_parseValue_155 : decode cX14_parseValue 155 = .ok (.ifCond .ne 20, 3) := dk_154 0 20 (dk_at dksX14_parseValue_6 13 rfl rfl)
theorem dX14_parseValue_158 : decode cX14_parseValue 158 = .ok (.aload_n 0, 1) := dk_42 (dk_at dksX14_parseValue_6 16 rfl rfl)
theorem dX14_parseValue_159 : decode cX14_parseValue 159 = .ok (.iconst 5, 1) := dk_8 (dk_at dksX14_parseValue_6 17 rfl rfl)
theorem dX14_parseValue_160 : decode cX14_parseValue 160 = .ok (.invokevirtual 445, 3) := dk_182 1 189 (dk_at dksX14_parseValue_6 18 rfl rfl)
theorem dX14_parseValue_163 : decode cX14_parseValue 163 = .ok (.ifCond .ne 12, 3) := dk_154 0 12 (dk_at dksX14_parseValue_6 21 rfl rfl)
theorem dX14_parseValue_166 : decode cX14_parseValue 166 = .ok (.aload_n 0, 1) := dk_42 (dk_at dksX14_parseValue_7 0 rfl rfl)
theorem dX14_parseValue_167 : decode cX14_parseValue 167 = .ok (.bipush 6, 2) := dk_16 6 (dk_at dksX14_parseValue_7 1 rfl rfl)
theorem dX14_parseValue_169 : decode cX14_parseValue 169 = .ok (.invokevirtual 445, 3) := dk_182 1 189 (dk_at dksX14_parseValue_7 3 rfl rfl)
theorem dX14_parseValue_172 : decode cX14_parseValue 172 = .ok (.ifCond .eq 16, 3) := dk_153 0 16 (dk_at dksX14_parseValue_7 6 rfl rfl)
theorem dX14_parseValue_175 : decode cX14_parseValue 175 = .ok (.aload_n 0, 1) := dk_42 (dk_at dksX14_parseValue_7 9 rfl rfl)
theorem dX14_parseValue_176 : decode cX14_parseValue 176 = .ok (.dup, 1) := dk_89 (dk_at dksX14_parseValue_7 10 rfl rfl)
theorem dX14_parseValue_177 : decode cX14_parseValue 177 = .ok (.getfield 442, 3) := dk_180 1 186 (dk_at dksX14_parseValue_7 11 rfl rfl)
theorem dX14_parseValue_180 : decode cX14_parseValue 180 = .ok (.iconst 1, 1) := dk_4 (dk_at dksX14_parseValue_7 14 rfl rfl)
theorem dX14_parseValue_181 : decode cX14_parseValue 181 = .ok (.iadd, 1) := dk_96 (dk_at dksX14_parseValue_7 15 rfl rfl)
theorem dX14_parseValue_182 : decode cX14_parseValue 182 = .ok (.putfield 442, 3) := dk_181 1 186 (dk_at dksX14_parseValue_7 16 rfl rfl)
theorem dX14_parseValue_185 : decode cX14_parseValue 185 = .ok (.goto 41, 3) := dk_167 0 41 (dk_at dksX14_parseValue_7 19 rfl rfl)
theorem dX14_parseValue_188 : decode cX14_parseValue 188 = .ok (.aload_n 0, 1) := dk_42 (dk_at dksX14_parseValue_7 22 rfl rfl)
theorem dX14_parseValue_189 : decode cX14_parseValue 189 = .ok (.getfield 157, 3) := dk_180 0 157 (dk_at dksX14_parseValue_8 0 rfl rfl)
theorem dX14_parseValue_192 : decode cX14_parseValue 192 = .ok (.iload_n 2, 1) := dk_28 (dk_at dksX14_parseValue_8 3 rfl rfl)
theorem dX14_parseValue_193 : decode cX14_parseValue 193 = .ok (.baload, 1) := dk_51 (dk_at dksX14_parseValue_8 4 rfl rfl)
theorem dX14_parseValue_194 : decode cX14_parseValue 194 = .ok (.ifCond .ne 27, 3) := dk_154 0 27 (dk_at dksX14_parseValue_8 5 rfl rfl)
theorem dX14_parseValue_197 : decode cX14_parseValue 197 = .ok (.aload_n 0, 1) := dk_42 (dk_at dksX14_parseValue_8 8 rfl rfl)
theorem dX14_parseValue_198 : decode cX14_parseValue 198 = .ok (.bipush 12, 2) := dk_16 12 (dk_at dksX14_parseValue_8 9 rfl rfl)
theorem dX14_parseValue_200 : decode cX14_parseValue 200 = .ok (.invokevirtual 476, 3) := dk_182 1 220 (dk_at dksX14_parseValue_8 11 rfl rfl)
theorem dX14_parseValue_203 : decode cX14_parseValue 203 = .ok (.ifCond .eq 18, 3) := dk_153 0 18 (dk_at dksX14_parseValue_8 14 rfl rfl)
theorem dX14_parseValue_206 : decode cX14_parseValue 206 = .ok (.aload_n 0, 1) := dk_42 (dk_at dksX14_parseValue_8 17 rfl rfl)
theorem dX14_parseValue_207 : decode cX14_parseValue 207 = .ok (.iload_n 2, 1) := dk_28 (dk_at dksX14_parseValue_8 18 rfl rfl)
theorem dX14_parseValue_208 : decode cX14_parseValue 208 = .ok (.invokevirtual 581, 3) := dk_182 2 69 (dk_at dksX14_parseValue_8 19 rfl rfl)
theorem dX14_parseValue_211 : decode cX14_parseValue 211 = .ok (.aload_n 0, 1) := dk_42 (dk_at dksX14_parseValue_8 22 rfl rfl)
theorem dX14_parseValue_212 : decode cX14_parseValue 212 = .ok (.bipush 13, 2) := dk_16 13 (dk_at dksX14_parseValue_9 0 rfl rfl)
theorem dX14_parseValue_214 : decode cX14_parseValue 214 = .ok (.invokevirtual 473, 3) := dk_182 1 217 (dk_at dksX14_parseValue_9 2 rfl rfl)
theorem dX14_parseValue_217 : decode cX14_parseValue 217 = .ok (.pop, 1) := dk_87 (dk_at dksX14_parseValue_9 5 rfl rfl)
theorem dX14_parseValue_218 : decode cX14_parseValue 218 = .ok (.goto 8, 3) := dk_167 0 8 (dk_at dksX14_parseValue_9 6 rfl rfl)
theorem dX14_parseValue_221 : decode cX14_parseValue 221 = .ok (.aload_n 0, 1) := dk_42 (dk_at dksX14_parseValue_9 9 rfl rfl)
theorem dX14_parseValue_222 : decode cX14_parseValue 222 = .ok (.iconst 1, 1) := dk_4 (dk_at dksX14_parseValue_9 10 rfl rfl)
theorem dX14_parseValue_223 : decode cX14_parseValue 223 = .ok (.invokevirtual 448, 3) := dk_182 1 192 (dk_at dksX14_parseValue_9 11 rfl rfl)
theorem dX14_parseValue_226 : decode cX14_parseValue 226 = .ok (.aload_n 0, 1) := dk_42 (dk_at dksX14_parseValue_9 14 rfl rfl)
theorem dX14_parseValue_227 : decode cX14_parseValue 227 = .ok (.dup, 1) := dk_89 (dk_at dksX14_parseValue_9 15 rfl rfl)
theorem dX14_parseValue_228 : decode cX14_parseValue 228 = .ok (.getfield 575, 3) := dk_180 2 63 (dk_at dksX14_parseValue_9 16 rfl rfl)
theorem dX14_parseValue_231 : decode cX14_parseValue 231 = .ok (.iconst 1, 1) := dk_4 (dk_at dksX14_parseValue_9 19 rfl rfl)
theorem dX14_parseValue_232 : decode cX14_parseValue 232 = .ok (.iadd, 1) := dk_96 (dk_at dksX14_parseValue_9 20 rfl rfl)
theorem dX14_parseValue_233 : decode cX14_parseValue 233 = .ok (.putfield 575, 3) := dk_181 2 63 (dk_at dksX14_parseValue_9 21 rfl rfl)
theorem dX14_parseValue_236 : decode cX14_parseValue 236 = .ok (.iload_n 2, 1) := dk_28 (dk_at dksX14_parseValue_10 0 rfl rfl)
theorem dX14_parseValue_237 : decode cX14_parseValue 237 = .ok (.ireturn, 1) := dk_172 (dk_at dksX14_parseValue_10 1 rfl rfl)
abbrev cX14_partsOf : ByteArray := prog_15_method_59_code
def yX14_partsOf : MethodName := ⟨RX14, "partsOf", "(I)V"⟩
def dkwX14_partsOf_6 : List UInt8 := [180, 0, 163, 27, 92, 46, 4, 96, 79, 42, 16, 18, 182, 1, 220, 61, 167, 255, 104, 177]
abbrev dktX14_partsOf_6 : List UInt8 := dkwX14_partsOf_6 ++ []
def dkwX14_partsOf_5 : List UInt8 := [182, 1, 217, 79, 42, 16, 17, 182, 1, 217, 87, 42, 89, 180, 2, 66, 4, 96, 181, 2, 66, 42]
abbrev dktX14_partsOf_5 : List UInt8 := dkwX14_partsOf_5 ++ dktX14_partsOf_6
def dkwX14_partsOf_4 : List UInt8 := [182, 1, 217, 79, 42, 16, 16, 182, 1, 220, 153, 0, 24, 42, 180, 0, 172, 42, 180, 2, 66, 42, 6]
abbrev dktX14_partsOf_4 : List UInt8 := dkwX14_partsOf_4 ++ dktX14_partsOf_5
def dkwX14_partsOf_3 : List UInt8 := [89, 180, 1, 186, 4, 96, 181, 1, 186, 167, 0, 47, 42, 180, 0, 169, 42, 180, 2, 66, 42, 5]
abbrev dktX14_partsOf_3 : List UInt8 := dkwX14_partsOf_3 ++ dktX14_partsOf_4
def dkwX14_partsOf_2 : List UInt8 := [2, 79, 42, 6, 182, 1, 189, 153, 0, 29, 42, 180, 0, 172, 42, 180, 2, 66, 42, 180, 1, 186, 79, 42]
abbrev dktX14_partsOf_2 : List UInt8 := dkwX14_partsOf_2 ++ dktX14_partsOf_3
def dkwX14_partsOf_1 : List UInt8 := [182, 1, 189, 153, 0, 131, 42, 180, 0, 169, 42, 180, 2, 66, 2, 79, 42, 180, 0, 172, 42, 180, 2, 66]
abbrev dktX14_partsOf_1 : List UInt8 := dkwX14_partsOf_1 ++ dktX14_partsOf_2
def dkwX14_partsOf_0 : List UInt8 := [3, 61, 42, 180, 1, 97, 154, 0, 151, 28, 154, 0, 19, 42, 5, 182, 1, 189, 154, 0, 11, 42, 6]
abbrev dktX14_partsOf_0 : List UInt8 := dkwX14_partsOf_0 ++ dktX14_partsOf_1
theorem dksX14_partsOf_0 : cX14_partsOf.data.toList.drop 0 = dktX14_partsOf_0 := by decide +kernel
theorem dksX14_partsOf_1 : cX14_partsOf.data.toList.drop 23 = dktX14_partsOf_1 := dk_seg dksX14_partsOf_0 23 rfl rfl
theorem dksX14_partsOf_2 : cX14_partsOf.data.toList.drop 47 = dktX14_partsOf_2 := dk_seg dksX14_partsOf_1 24 rfl rfl
theorem dksX14_partsOf_3 : cX14_partsOf.data.toList.drop 71 = dktX14_partsOf_3 := dk_seg dksX14_partsOf_2 24 rfl rfl
theorem dksX14_partsOf_4 : cX14_partsOf.data.toList.drop 93 = dktX14_partsOf_4 := dk_seg dksX14_partsOf_3 22 rfl rfl
theorem dksX14_partsOf_5 : cX14_partsOf.data.toList.drop 116 = dktX14_partsOf_5 := dk_seg dksX14_partsOf_4 23 rfl rfl
theorem dksX14_partsOf_6 : cX14_partsOf.data.toList.drop 138 = dktX14_partsOf_6 := dk_seg dksX14_partsOf_5 22 rfl rfl
theorem dX14_partsOf_0 : decode cX14_partsOf 0 = .ok (.iconst 0, 1) := dk_3 (dk_at dksX14_partsOf_0 0 rfl rfl)
theorem dX14_partsOf_1 : decode cX14_partsOf 1 = .ok (.istore_n 2, 1) := dk_61 (dk_at dksX14_partsOf_0 1 rfl rfl)
theorem dX14_partsOf_2 : decode cX14_partsOf 2 = .ok (.aload_n 0, 1) := dk_42 (dk_at dksX14_partsOf_0 2 rfl rfl)
theorem dX14_partsOf_3 : decode cX14_partsOf 3 = .ok (.getfield 353, 3) := dk_180 1 97 (dk_at dksX14_partsOf_0 3 rfl rfl)
theorem dX14_partsOf_6 : decode cX14_partsOf 6 = .ok (.ifCond .ne 151, 3) := dk_154 0 151 (dk_at dksX14_partsOf_0 6 rfl rfl)
theorem dX14_partsOf_9 : decode cX14_partsOf 9 = .ok (.iload_n 2, 1) := dk_28 (dk_at dksX14_partsOf_0 9 rfl rfl)
theorem dX14_partsOf_10 : decode cX14_partsOf 10 = .ok (.ifCond .ne 19, 3) := dk_154 0 19 (dk_at dksX14_partsOf_0 10 rfl rfl)
theorem dX14_partsOf_13 : decode cX14_partsOf 13 = .ok (.aload_n 0, 1) := dk_42 (dk_at dksX14_partsOf_0 13 rfl rfl)
theorem dX14_partsOf_14 : decode cX14_partsOf 14 = .ok (.iconst 2, 1) := dk_5 (dk_at dksX14_partsOf_0 14 rfl rfl)
theorem dX14_partsOf_15 : decode cX14_partsOf 15 = .ok (.invokevirtual 445, 3) := dk_182 1 189 (dk_at dksX14_partsOf_0 15 rfl rfl)
theorem dX14_partsOf_18 : decode cX14_partsOf 18 = .ok (.ifCond .ne 11, 3) := dk_154 0 11 (dk_at dksX14_partsOf_0 18 rfl rfl)
theorem dX14_partsOf_21 : decode cX14_partsOf 21 = .ok (.aload_n 0, 1) := dk_42 (dk_at dksX14_partsOf_0 21 rfl rfl)
theorem dX14_partsOf_22 : decode cX14_partsOf 22 = .ok (.iconst 3, 1) := dk_6 (dk_at dksX14_partsOf_0 22 rfl rfl)
theorem dX14_partsOf_23 : decode cX14_partsOf 23 = .ok (.invokevirtual 445, 3) := dk_182 1 189 (dk_at dksX14_partsOf_1 0 rfl rfl)
theorem dX14_partsOf_26 : decode cX14_partsOf 26 = .ok (.ifCond .eq 131, 3) := dk_153 0 131 (dk_at dksX14_partsOf_1 3 rfl rfl)
theorem dX14_partsOf_29 : decode cX14_partsOf 29 = .ok (.aload_n 0, 1) := dk_42 (dk_at dksX14_partsOf_1 6 rfl rfl)
theorem dX14_partsOf_30 : decode cX14_partsOf 30 = .ok (.getfield 169, 3) := dk_180 0 169 (dk_at dksX14_partsOf_1 7 rfl rfl)
theorem dX14_partsOf_33 : decode cX14_partsOf 33 = .ok (.aload_n 0, 1) := dk_42 (dk_at dksX14_partsOf_1 10 rfl rfl)
theorem dX14_partsOf_34 : decode cX14_partsOf 34 = .ok (.getfield 578, 3) := dk_180 2 66 (dk_at dksX14_partsOf_1 11 rfl rfl)
theorem dX14_partsOf_37 : decode cX14_partsOf 37 = .ok (.iconst (-1), 1) := dk_2 (dk_at dksX14_partsOf_1 14 rfl rfl)
theorem dX14_partsOf_38 : decode cX14_partsOf 38 = .ok (.iastore, 1) := dk_79 (dk_at dksX14_partsOf_1 15 rfl rfl)
theorem dX14_partsOf_39 : decode cX14_partsOf 39 = .ok (.aload_n 0, 1) := dk_42 (dk_at dksX14_partsOf_1 16 rfl rfl)
theorem dX14_partsOf_40 : decode cX14_partsOf 40 = .ok (.getfield 172, 3) := dk_180 0 172 (dk_at dksX14_partsOf_1 17 rfl rfl)
theorem dX14_partsOf_43 : decode cX14_partsOf 43 = .ok (.aload_n 0, 1) := dk_42 (dk_at dksX14_partsOf_1 20 rfl rfl)
theorem dX14_partsOf_44 : decode cX14_partsOf 44 = .ok (.getfield 578, 3) := dk_180 2 66 (dk_at dksX14_partsOf_1 21 rfl rfl)
theorem dX14_partsOf_47 : decode cX14_partsOf 47 = .ok (.iconst (-1), 1) := dk_2 (dk_at dksX14_partsOf_2 0 rfl rfl)
theorem dX14_partsOf_48 : decode cX14_partsOf 48 = .ok (.iastore, 1) := dk_79 (dk_at dksX14_partsOf_2 1 rfl rfl)
theorem dX14_partsOf_49 : decode cX14_partsOf 49 = .ok (.aload_n 0, 1) := dk_42 (dk_at dksX14_partsOf_2 2 rfl rfl)
theorem dX14_partsOf_50 : decode cX14_partsOf 50 = .ok (.iconst 3, 1) := dk_6 (dk_at dksX14_partsOf_2 3 rfl rfl)
theorem dX14_partsOf_51 : decode cX14_partsOf 51 = .ok (.invokevirtual 445, 3) := dk_182 1 189 (dk_at dksX14_partsOf_2 4 rfl rfl)
theorem dX14_partsOf_54 : decode cX14_partsOf 54 = .ok (.ifCond .eq 29, 3) := dk_153 0 29 (dk_at dksX14_partsOf_2 7 rfl rfl)
theorem dX14_partsOf_57 : decode cX14_partsOf 57 = .ok (.aload_n 0, 1) := dk_42 (dk_at dksX14_partsOf_2 10 rfl rfl)
theorem dX14_partsOf_58 : decode cX14_partsOf 58 = .ok (.getfield 172, 3) := dk_180 0 172 (dk_at dksX14_partsOf_2 11 rfl rfl)
theorem dX14_partsOf_61 : decode cX14_partsOf 61 = .ok (.aload_n 0, 1) := dk_42 (dk_at dksX14_partsOf_2 14 rfl rfl)
theorem dX14_partsOf_62 : decode cX14_partsOf 62 = .ok (.getfield 578, 3) := dk_180 2 66 (dk_at dksX14_partsOf_2 15 rfl rfl)
theorem dX14_partsOf_65 : decode cX14_partsOf 65 = .ok (.aload_n 0, 1) := dk_42 (dk_at dksX14_partsOf_2 18 rfl rfl)
theorem dX14_partsOf_66 : decode cX14_partsOf 66 = .ok (.getfield 442, 3) := dk_180 1 186 (dk_at dksX14_partsOf_2 19 rfl rfl)
theorem dX14_partsOf_69 : decode cX14_partsOf 69 = .ok (.iastore, 1) := dk_79 (dk_at dksX14_partsOf_2 22 rfl rfl)
theorem dX14_partsOf_70 : decode cX14_partsOf 70 = .ok (.aload_n 0, 1) := dk_42 (dk_at dksX14_partsOf_2 23 rfl rfl)
theorem dX14_partsOf_71 : decode cX14_partsOf 71 = .ok (.dup, 1) := dk_89 (dk_at dksX14_partsOf_3 0 rfl rfl)
theorem dX14_partsOf_72 : decode cX14_partsOf 72 = .ok (.getfield 442, 3) := dk_180 1 186 (dk_at dksX14_partsOf_3 1 rfl rfl)
theorem dX14_partsOf_75 : decode cX14_partsOf 75 = .ok (.iconst 1, 1) := dk_4 (dk_at dksX14_partsOf_3 4 rfl rfl)
theorem dX14_partsOf_76 : decode cX14_partsOf 76 = .ok (.iadd, 1) := dk_96 (dk_at dksX14_partsOf_3 5 rfl rfl)
theorem dX14_partsOf_77 : decode cX14_partsOf 77 = .ok (.putfield 442, 3) := dk_181 1 186 (dk_at dksX14_partsOf_3 6 rfl rfl)
theorem dX14_partsOf_80 : decode cX14_partsOf 80 = .ok (.goto 47, 3) := dk_167 0 47 (dk_at dksX14_partsOf_3 9 rfl rfl)
theorem dX14_partsOf_83 : decode cX14_partsOf 83 = .ok (.aload_n 0, 1) := dk_42 (dk_at dksX14_partsOf_3 12 rfl rfl)
theorem dX14_partsOf_84 : decode cX14_partsOf 84 = .ok (.getfield 169, 3) := dk_180 0 169 (dk_at dksX14_partsOf_3 13 rfl rfl)
theorem dX14_partsOf_87 : decode cX14_partsOf 87 = .ok (.aload_n 0, 1) := dk_42 (dk_at dksX14_partsOf_3 16 rfl rfl)
theorem dX14_partsOf_88 : decode cX14_partsOf 88 = .ok (.getfield 578, 3) := dk_180 2 66 (dk_at dksX14_partsOf_3 17 rfl rfl)
theorem dX14_partsOf_91 : decode cX14_partsOf 91 = .ok (.aload_n 0, 1) := dk_42 (dk_at dksX14_partsOf_3 20 rfl rfl)
theorem dX14_partsOf_92 : decode cX14_partsOf 92 = .ok (.iconst 2, 1) := dk_5 (dk_at dksX14_partsOf_3 21 rfl rfl)
theorem dX14_partsOf_93 : decode cX14_partsOf 93 = .ok (.invokevirtual 473, 3) := dk_182 1 217 (dk_at dksX14_partsOf_4 0 rfl rfl)
theorem dX14_partsOf_96 : decode cX14_partsOf 96 = .ok (.iastore, 1) := dk_79 (dk_at dksX14_partsOf_4 3 rfl rfl)
theorem dX14_partsOf_97 : decode cX14_partsOf 97 = .ok (.aload_n 0, 1) := dk_42 (dk_at dksX14_partsOf_4 4 rfl rfl)
theorem dX14_partsOf_98 : decode cX14_partsOf 98 = .ok (.bipush 16, 2) := dk_16 16 (dk_at dksX14_partsOf_4 5 rfl rfl)
theorem dX14_partsOf_100 : decode cX14_partsOf 100 = .ok (.invokevirtual 476, 3) := dk_182 1 220 (dk_at dksX14_partsOf_4 7 rfl rfl)
theorem dX14_partsOf_103 : decode cX14_partsOf 103 = .ok (.ifCond .eq 24, 3) := dk_153 0 24 (dk_at dksX14_partsOf_4 10 rfl rfl)
theorem dX14_partsOf_106 : decode cX14_partsOf 106 = .ok (.aload_n 0, 1) := dk_42 (dk_at dksX14_partsOf_4 13 rfl rfl)
theorem dX14_partsOf_107 : decode cX14_partsOf 107 = .ok (.getfield 172, 3) := dk_180 0 172 (dk_at dksX14_partsOf_4 14 rfl rfl)
theorem dX14_partsOf_110 : decode cX14_partsOf 110 = .ok (.aload_n 0, 1) := dk_42 (dk_at dksX14_partsOf_4 17 rfl rfl)
theorem dX14_partsOf_111 : decode cX14_partsOf 111 = .ok (.getfield 578, 3) := dk_180 2 66 (dk_at dksX14_partsOf_4 18 rfl rfl)
theorem dX14_partsOf_114 : decode cX14_partsOf 114 = .ok (.aload_n 0, 1) := dk_42 (dk_at dksX14_partsOf_4 21 rfl rfl)
theorem dX14_partsOf_115 : decode cX14_partsOf 115 = .ok (.iconst 3, 1) := dk_6 (dk_at dksX14_partsOf_4 22 rfl rfl)
theorem dX14_partsOf_116 : decode cX14_partsOf 116 = .ok (.invokevirtual 473, 3) := dk_182 1 217 (dk_at dksX14_partsOf_5 0 rfl rfl)
theorem dX14_partsOf_119 : decode cX14_partsOf 119 = .ok (.iastore, 1) := dk_79 (dk_at dksX14_partsOf_5 3 rfl rfl)
theorem dX14_partsOf_120 : decode cX14_partsOf 120 = .ok (.aload_n 0, 1) := dk_42 (dk_at dksX14_partsOf_5 4 rfl rfl)
theorem dX14_partsOf_121 : decode cX14_partsOf 121 = .ok (.bipush 17, 2) := dk_16 17 (dk_at dksX14_partsOf_5 5 rfl rfl)
theorem dX14_partsOf_123 : decode cX14_partsOf 123 = .ok (.invokevirtual 473, 3) := dk_182 1 217 (dk_at dksX14_partsOf_5 7 rfl rfl)
theorem dX14_partsOf_126 : decode cX14_partsOf 126 = .ok (.pop, 1) := dk_87 (dk_at dksX14_partsOf_5 10 rfl rfl)
theorem dX14_partsOf_127 : decode cX14_partsOf 127 = .ok (.aload_n 0, 1) := dk_42 (dk_at dksX14_partsOf_5 11 rfl rfl)
theorem dX14_partsOf_128 : decode cX14_partsOf 128 = .ok (.dup, 1) := dk_89 (dk_at dksX14_partsOf_5 12 rfl rfl)
theorem dX14_partsOf_129 : decode cX14_partsOf 129 = .ok (.getfield 578, 3) := dk_180 2 66 (dk_at dksX14_partsOf_5 13 rfl rfl)
theorem dX14_partsOf_132 : decode cX14_partsOf 132 = .ok (.iconst 1, 1) := dk_4 (dk_at dksX14_partsOf_5 16 rfl rfl)
theorem dX14_partsOf_133 : decode cX14_partsOf 133 = .ok (.iadd, 1) := dk_96 (dk_at dksX14_partsOf_5 17 rfl rfl)
theorem dX14_partsOf_134 : decode cX14_partsOf 134 = .ok (.putfield 578, 3) := dk_181 2 66 (dk_at dksX14_partsOf_5 18 rfl rfl)
theorem dX14_partsOf_137 : decode cX14_partsOf 137 = .ok (.aload_n 0, 1) := dk_42 (dk_at dksX14_partsOf_5 21 rfl rfl)
theorem dX14_partsOf_138 : decode cX14_partsOf 138 = .ok (.getfield 163, 3) := dk_180 0 163 (dk_at dksX14_partsOf_6 0 rfl rfl)
theorem dX14_partsOf_141 : decode cX14_partsOf 141 = .ok (.iload_n 1, 1) := dk_27 (dk_at dksX14_partsOf_6 3 rfl rfl)
theorem dX14_partsOf_142 : decode cX14_partsOf 142 = .ok (.dup2, 1) := dk_92 (dk_at dksX14_partsOf_6 4 rfl rfl)
theorem dX14_partsOf_143 : decode cX14_partsOf 143 = .ok (.iaload, 1) := dk_46 (dk_at dksX14_partsOf_6 5 rfl rfl)
theorem dX14_partsOf_144 : decode cX14_partsOf 144 = .ok (.iconst 1, 1) := dk_4 (dk_at dksX14_partsOf_6 6 rfl rfl)
theorem dX14_partsOf_145 : decode cX14_partsOf 145 = .ok (.iadd, 1) := dk_96 (dk_at dksX14_partsOf_6 7 rfl rfl)
theorem dX14_partsOf_146 : decode cX14_partsOf 146 = .ok (.iastore, 1) := dk_79 (dk_at dksX14_partsOf_6 8 rfl rfl)
theorem dX14_partsOf_147 : decode cX14_partsOf 147 = .ok (.aload_n 0, 1) := dk_42 (dk_at dksX14_partsOf_6 9 rfl rfl)
theorem dX14_partsOf_148 : decode cX14_partsOf 148 = .ok (.bipush 18, 2) := dk_16 18 (dk_at dksX14_partsOf_6 10 rfl rfl)
theorem dX14_partsOf_150 : decode cX14_partsOf 150 = .ok (.invokevirtual 476, 3) := dk_182 1 220 (dk_at dksX14_partsOf_6 12 rfl rfl)
theorem dX14_partsOf_153 : decode cX14_partsOf 153 = .ok (.istore_n 2, 1) := dk_61 (dk_at dksX14_partsOf_6 15 rfl rfl)
theorem dX14_partsOf_154 : decode cX14_partsOf 154 = .ok (.goto (-152), 3) := dk_167 255 104 (dk_at dksX14_partsOf_6 16 rfl rfl)
theorem dX14_partsOf_157 : decode cX14_partsOf 157 = .ok (.return_, 1) := dk_177 (dk_at dksX14_partsOf_6 19 rfl rfl)
abbrev cX14_checkTwice : ByteArray := prog_15_method_65_code
def yX14_checkTwice : MethodName := ⟨RX14, "checkTwice", "()V"⟩
def dkwX14_checkTwice_15 : List UInt8 := [46, 61, 167, 255, 189, 132, 1, 1, 167, 254, 255, 42, 8, 182, 2, 91, 177]
abbrev dktX14_checkTwice_15 : List UInt8 := dkwX14_checkTwice_15 ++ []
def dkwX14_checkTwice_14 : List UInt8 := [180, 0, 100, 28, 46, 46, 182, 2, 85, 42, 180, 0, 112, 29, 46, 62, 167, 255, 210, 42, 180, 0, 112, 28]
abbrev dktX14_checkTwice_14 : List UInt8 := dkwX14_checkTwice_14 ++ dktX14_checkTwice_15
def dkwX14_checkTwice_13 : List UInt8 := [180, 0, 100, 28, 46, 42, 180, 0, 100, 29, 46, 182, 2, 75, 153, 0, 18, 42, 42, 180, 0, 36, 42]
abbrev dktX14_checkTwice_13 : List UInt8 := dkwX14_checkTwice_13 ++ dktX14_checkTwice_14
def dkwX14_checkTwice_12 : List UInt8 := [180, 0, 63, 27, 46, 61, 28, 155, 0, 69, 42, 180, 0, 63, 27, 46, 62, 29, 28, 159, 0, 47, 42, 42]
abbrev dktX14_checkTwice_12 : List UInt8 := dkwX14_checkTwice_12 ++ dktX14_checkTwice_13
def dkwX14_checkTwice_11 : List UInt8 := [180, 0, 90, 28, 46, 46, 182, 2, 85, 132, 3, 1, 167, 255, 162, 132, 2, 1, 167, 255, 97, 42]
abbrev dktX14_checkTwice_11 : List UInt8 := dkwX14_checkTwice_11 ++ dktX14_checkTwice_12
def dkwX14_checkTwice_10 : List UInt8 := [180, 0, 97, 28, 46, 42, 180, 0, 97, 29, 46, 182, 2, 88, 154, 0, 18, 42, 42, 180, 0, 36, 42]
abbrev dktX14_checkTwice_10 : List UInt8 := dkwX14_checkTwice_10 ++ dktX14_checkTwice_11
def dkwX14_checkTwice_9 : List UInt8 := [182, 2, 85, 42, 180, 0, 97, 28, 46, 155, 0, 46, 42, 180, 0, 97, 29, 46, 155, 0, 37, 42, 42]
abbrev dktX14_checkTwice_9 : List UInt8 := dkwX14_checkTwice_9 ++ dktX14_checkTwice_10
def dkwX14_checkTwice_8 : List UInt8 := [42, 180, 0, 87, 29, 46, 182, 2, 75, 153, 0, 18, 42, 42, 180, 0, 36, 42, 180, 0, 87, 28, 46, 46]
abbrev dktX14_checkTwice_8 : List UInt8 := dkwX14_checkTwice_8 ++ dktX14_checkTwice_9
def dkwX14_checkTwice_7 : List UInt8 := [51, 182, 2, 17, 79, 42, 180, 0, 57, 27, 46, 62, 29, 28, 162, 0, 95, 42, 42, 180, 0, 87, 28, 46]
abbrev dktX14_checkTwice_7 : List UInt8 := dkwX14_checkTwice_7 ++ dktX14_checkTwice_8
def dkwX14_checkTwice_6 : List UInt8 := [180, 0, 90, 28, 46, 156, 0, 7, 2, 167, 0, 19, 42, 42, 180, 0, 90, 28, 46, 42, 180, 0, 93, 28]
abbrev dktX14_checkTwice_6 : List UInt8 := dkwX14_checkTwice_6 ++ dktX14_checkTwice_7
def dkwX14_checkTwice_5 : List UInt8 := [42, 180, 0, 57, 27, 46, 42, 180, 0, 60, 27, 46, 96, 162, 0, 148, 42, 180, 0, 97, 28, 42]
abbrev dktX14_checkTwice_5 : List UInt8 := dkwX14_checkTwice_5 ++ dktX14_checkTwice_6
def dkwX14_checkTwice_4 : List UInt8 := [132, 1, 1, 167, 255, 184, 3, 60, 27, 42, 180, 2, 5, 162, 0, 255, 42, 180, 0, 57, 27, 46, 61, 28]
abbrev dktX14_checkTwice_4 : List UInt8 := dkwX14_checkTwice_4 ++ dktX14_checkTwice_5
def dkwX14_checkTwice_3 : List UInt8 := [182, 2, 72, 61, 42, 180, 0, 214, 27, 42, 180, 0, 211, 28, 46, 79, 42, 180, 0, 211, 28, 27, 79]
abbrev dktX14_checkTwice_3 : List UInt8 := dkwX14_checkTwice_3 ++ dktX14_checkTwice_4
def dkwX14_checkTwice_2 : List UInt8 := [180, 0, 36, 42, 180, 0, 175, 27, 46, 46, 182, 2, 85, 167, 0, 33, 42, 42, 180, 0, 175, 27, 46]
abbrev dktX14_checkTwice_2 : List UInt8 := dkwX14_checkTwice_2 ++ dktX14_checkTwice_3
def dkwX14_checkTwice_1 : List UInt8 := [27, 42, 180, 1, 230, 162, 0, 70, 42, 42, 180, 0, 175, 27, 46, 182, 2, 82, 155, 0, 21, 42, 42]
abbrev dktX14_checkTwice_1 : List UInt8 := dkwX14_checkTwice_1 ++ dktX14_checkTwice_2
def dkwX14_checkTwice_0 : List UInt8 := [3, 60, 27, 17, 16, 0, 162, 0, 16, 42, 180, 0, 211, 27, 2, 79, 132, 1, 1, 167, 255, 239, 3, 60]
abbrev dktX14_checkTwice_0 : List UInt8 := dkwX14_checkTwice_0 ++ dktX14_checkTwice_1
theorem dksX14_checkTwice_0 : cX14_checkTwice.data.toList.drop 0 = dktX14_checkTwice_0 := by decide +kernel
theorem dksX14_checkTwice_1 : cX14_checkTwice.data.toList.drop 24 = dktX14_checkTwice_1 := dk_seg dksX14_checkTwice_0 24 rfl rfl
theorem dksX14_checkTwice_2 : cX14_checkTwice.data.toList.drop 47 = dktX14_checkTwice_2 := dk_seg dksX14_checkTwice_1 23 rfl rfl
theorem dksX14_checkTwice_3 : cX14_checkTwice.data.toList.drop 70 = dktX14_checkTwice_3 := dk_seg dksX14_checkTwice_2 23 rfl rfl
theorem dksX14_checkTwice_4 : cX14_checkTwice.data.toList.drop 93 = dktX14_checkTwice_4 := dk_seg dksX14_checkTwice_3 23 rfl rfl
theorem dksX14_checkTwice_5 : cX14_checkTwice.data.toList.drop 117 = dktX14_checkTwice_5 := dk_seg dksX14_checkTwice_4 24 rfl rfl
theorem dksX14_checkTwice_6 : cX14_checkTwice.data.toList.drop 139 = dktX14_checkTwice_6 := dk_seg dksX14_checkTwice_5 22 rfl rfl
theorem dksX14_checkTwice_7 : cX14_checkTwice.data.toList.drop 163 = dktX14_checkTwice_7 := dk_seg dksX14_checkTwice_6 24 rfl rfl
theorem dksX14_checkTwice_8 : cX14_checkTwice.data.toList.drop 187 = dktX14_checkTwice_8 := dk_seg dksX14_checkTwice_7 24 rfl rfl
theorem dksX14_checkTwice_9 : cX14_checkTwice.data.toList.drop 211 = dktX14_checkTwice_9 := dk_seg dksX14_checkTwice_8 24 rfl rfl
theorem dksX14_checkTwice_10 : cX14_checkTwice.data.toList.drop 234 = dktX14_checkTwice_10 := dk_seg dksX14_checkTwice_9 23 rfl rfl
theorem dksX14_checkTwice_11 : cX14_checkTwice.data.toList.drop 257 = dktX14_checkTwice_11 := dk_seg dksX14_checkTwice_10 23 rfl rfl
theorem dksX14_checkTwice_12 : cX14_checkTwice.data.toList.drop 279 = dktX14_checkTwice_12 := dk_seg dksX14_checkTwice_11 22 rfl rfl
theorem dksX14_checkTwice_13 : cX14_checkTwice.data.toList.drop 303 = dktX14_checkTwice_13 := dk_seg dksX14_checkTwice_12 24 rfl rfl
theorem dksX14_checkTwice_14 : cX14_checkTwice.data.toList.drop 326 = dktX14_checkTwice_14 := dk_seg dksX14_checkTwice_13 23 rfl rfl
theorem dksX14_checkTwice_15 : cX14_checkTwice.data.toList.drop 350 = dktX14_checkTwice_15 := dk_seg dksX14_checkTwice_14 24 rfl rfl
theorem dX14_checkTwice_0 : decode cX14_checkTwice 0 = .ok (.iconst 0, 1) := dk_3 (dk_at dksX14_checkTwice_0 0 rfl rfl)
theorem dX14_checkTwice_1 : decode cX14_checkTwice 1 = .ok (.istore_n 1, 1) := dk_60 (dk_at dksX14_checkTwice_0 1 rfl rfl)
theorem dX14_checkTwice_2 : decode cX14_checkTwice 2 = .ok (.iload_n 1, 1) := dk_27 (dk_at dksX14_checkTwice_0 2 rfl rfl)
theorem dX14_checkTwice_3 : decode cX14_checkTwice 3 = .ok (.sipush 4096, 3) := dk_17 16 0 (dk_at dksX14_checkTwice_0 3 rfl rfl)
theorem dX14_checkTwice_6 : decode cX14_checkTwice 6 = .ok (.if_icmp .ge 16, 3) := dk_162 0 16 (dk_at dksX14_checkTwice_0 6 rfl rfl)
theorem dX14_checkTwice_9 : decode cX14_checkTwice 9 = .ok (.aload_n 0, 1) := dk_42 (dk_at dksX14_checkTwice_0 9 rfl rfl)
theorem dX14_checkTwice_10 : decode cX14_checkTwice 10 = .ok (.getfield 211, 3) := dk_180 0 211 (dk_at dksX14_checkTwice_0 10 rfl rfl)
theorem dX14_checkTwice_13 : decode cX14_checkTwice 13 = .ok (.iload_n 1, 1) := dk_27 (dk_at dksX14_checkTwice_0 13 rfl rfl)
theorem dX14_checkTwice_14 : decode cX14_checkTwice 14 = .ok (.iconst (-1), 1) := dk_2 (dk_at dksX14_checkTwice_0 14 rfl rfl)
theorem dX14_checkTwice_15 : decode cX14_checkTwice 15 = .ok (.iastore, 1) := dk_79 (dk_at dksX14_checkTwice_0 15 rfl rfl)
theorem dX14_checkTwice_16 : decode cX14_checkTwice 16 = .ok (.iinc 1 1, 3) := dk_132 1 1 (dk_at dksX14_checkTwice_0 16 rfl rfl)
theorem dX14_checkTwice_19 : decode cX14_checkTwice 19 = .ok (.goto (-17), 3) := dk_167 255 239 (dk_at dksX14_checkTwice_0 19 rfl rfl)
theorem dX14_checkTwice_22 : decode cX14_checkTwice 22 = .ok (.iconst 0, 1) := dk_3 (dk_at dksX14_checkTwice_0 22 rfl rfl)
theorem dX14_checkTwice_23 : decode cX14_checkTwice 23 = .ok (.istore_n 1, 1) := dk_60 (dk_at dksX14_checkTwice_0 23 rfl rfl)
theorem dX14_checkTwice_24 : decode cX14_checkTwice 24 = .ok (.iload_n 1, 1) := dk_27 (dk_at dksX14_checkTwice_1 0 rfl rfl)
theorem dX14_checkTwice_25 : decode cX14_checkTwice 25 = .ok (.aload_n 0, 1) := dk_42 (dk_at dksX14_checkTwice_1 1 rfl rfl)
theorem dX14_checkTwice_26 : decode cX14_checkTwice 26 = .ok (.getfield 486, 3) := dk_180 1 230 (dk_at dksX14_checkTwice_1 2 rfl rfl)
theorem dX14_checkTwice_29 : decode cX14_checkTwice 29 = .ok (.if_icmp .ge 70, 3) := dk_162 0 70 (dk_at dksX14_checkTwice_1 5 rfl rfl)
theorem dX14_checkTwice_32 : decode cX14_checkTwice 32 = .ok (.aload_n 0, 1) := dk_42 (dk_at dksX14_checkTwice_1 8 rfl rfl)
theorem dX14_checkTwice_33 : decode cX14_checkTwice 33 = .ok (.aload_n 0, 1) := dk_42 (dk_at dksX14_checkTwice_1 9 rfl rfl)
theorem dX14_checkTwice_34 : decode cX14_checkTwice 34 = .ok (.getfield 175, 3) := dk_180 0 175 (dk_at dksX14_checkTwice_1 10 rfl rfl)
theorem dX14_checkTwice_37 : decode cX14_checkTwice 37 = .ok (.iload_n 1, 1) := dk_27 (dk_at dksX14_checkTwice_1 13 rfl rfl)
theorem dX14_checkTwice_38 : decode cX14_checkTwice 38 = .ok (.iaload, 1) := dk_46 (dk_at dksX14_checkTwice_1 14 rfl rfl)
theorem dX14_checkTwice_39 : decode cX14_checkTwice 39 = .ok (.invokevirtual 594, 3) := dk_182 2 82 (dk_at dksX14_checkTwice_1 15 rfl rfl)
theorem dX14_checkTwice_42 : decode cX14_checkTwice 42 = .ok (.ifCond .lt 21, 3) := dk_155 0 21 (dk_at dksX14_checkTwice_1 18 rfl rfl)
theorem dX14_checkTwice_45 : decode cX14_checkTwice 45 = .ok (.aload_n 0, 1) := dk_42 (dk_at dksX14_checkTwice_1 21 rfl rfl)
theorem dX14_checkTwice_46 : decode cX14_checkTwice 46 = .ok (.aload_n 0, 1) := dk_42 (dk_at dksX14_checkTwice_1 22 rfl rfl)
theorem dX14_checkTwice_47 : decode cX14_checkTwice 47 = .ok (.getfield 36, 3) := dk_180 0 36 (dk_at dksX14_checkTwice_2 0 rfl rfl)
theorem dX14_checkTwice_50 : decode cX14_checkTwice 50 = .ok (.aload_n 0, 1) := dk_42 (dk_at dksX14_checkTwice_2 3 rfl rfl)
theorem dX14_checkTwice_51 : decode cX14_checkTwice 51 = .ok (.getfield 175, 3) := dk_180 0 175 (dk_at dksX14_checkTwice_2 4 rfl rfl)
theorem dX14_checkTwice_54 : decode cX14_checkTwice 54 = .ok (.iload_n 1, 1) := dk_27 (dk_at dksX14_checkTwice_2 7 rfl rfl)
theorem dX14_checkTwice_55 : decode cX14_checkTwice 55 = .ok (.iaload, 1) := dk_46 (dk_at dksX14_checkTwice_2 8 rfl rfl)
theorem dX14_checkTwice_56 : decode cX14_checkTwice 56 = .ok (.iaload, 1) := dk_46 (dk_at dksX14_checkTwice_2 9 rfl rfl)
theorem dX14_checkTwice_57 : decode cX14_checkTwice 57 = .ok (.invokevirtual 597, 3) := dk_182 2 85 (dk_at dksX14_checkTwice_2 10 rfl rfl)
theorem dX14_checkTwice_60 : decode cX14_checkTwice 60 = .ok (.goto 33, 3) := dk_167 0 33 (dk_at dksX14_checkTwice_2 13 rfl rfl)
theorem dX14_checkTwice_63 : decode cX14_checkTwice 63 = .ok (.aload_n 0, 1) := dk_42 (dk_at dksX14_checkTwice_2 16 rfl rfl)
theorem dX14_checkTwice_64 : decode cX14_checkTwice 64 = .ok (.aload_n 0, 1) := dk_42 (dk_at dksX14_checkTwice_2 17 rfl rfl)
theorem dX14_checkTwice_65 : decode cX14_checkTwice 65 = .ok (.getfield 175, 3) := dk_180 0 175 (dk_at dksX14_checkTwice_2 18 rfl rfl)
theorem dX14_checkTwice_68 : decode cX14_checkTwice 68 = .ok (.iload_n 1, 1) := dk_27 (dk_at dksX14_checkTwice_2 21 rfl rfl)
theorem dX14_checkTwice_69 : decode cX14_checkTwice 69 = .ok (.iaload, 1) := dk_46 (dk_at dksX14_checkTwice_2 22 rfl rfl)
theorem dX14_checkTwice_70 : decode cX14_checkTwice 70 = .ok (.invokevirtual 584, 3) := dk_182 2 72 (dk_at dksX14_checkTwice_3 0 rfl rfl)
theorem dX14_checkTwice_73 : decode cX14_checkTwice 73 = .ok (.istore_n 2, 1) := dk_61 (dk_at dksX14_checkTwice_3 3 rfl rfl)
theorem dX14_checkTwice_74 : decode cX14_checkTwice 74 = .ok (.aload_n 0, 1) := dk_42 (dk_at dksX14_checkTwice_3 4 rfl rfl)
theorem dX14_checkTwice_75 : decode cX14_checkTwice 75 = .ok (.getfield 214, 3) := dk_180 0 214 (dk_at dksX14_checkTwice_3 5 rfl rfl)
theorem dX14_checkTwice_78 : decode cX14_checkTwice 78 = .ok (.iload_n 1, 1) := dk_27 (dk_at dksX14_checkTwice_3 8 rfl rfl)
theorem dX14_checkTwice_79 : decode cX14_checkTwice 79 = .ok (.aload_n 0, 1) := dk_42 (dk_at dksX14_checkTwice_3 9 rfl rfl)
theorem dX14_checkTwice_80 : decode cX14_checkTwice 80 = .ok (.getfield 211, 3) := dk_180 0 211 (dk_at dksX14_checkTwice_3 10 rfl rfl)
theorem dX14_checkTwice_83 : decode cX14_checkTwice 83 = .ok (.iload_n 2, 1) := dk_28 (dk_at dksX14_checkTwice_3 13 rfl rfl)
theorem dX14_checkTwice_84 : decode cX14_checkTwice 84 = .ok (.iaload, 1) := dk_46 (dk_at dksX14_checkTwice_3 14 rfl rfl)
theorem dX14_checkTwice_85 : decode cX14_checkTwice 85 = .ok (.iastore, 1) := dk_79 (dk_at dksX14_checkTwice_3 15 rfl rfl)
theorem dX14_checkTwice_86 : decode cX14_checkTwice 86 = .ok (.aload_n 0, 1) := dk_42 (dk_at dksX14_checkTwice_3 16 rfl rfl)
theorem dX14_checkTwice_87 : decode cX14_checkTwice 87 = .ok (.getfield 211, 3) := dk_180 0 211 (dk_at dksX14_checkTwice_3 17 rfl rfl)
theorem dX14_checkTwice_90 : decode cX14_checkTwice 90 = .ok (.iload_n 2, 1) := dk_28 (dk_at dksX14_checkTwice_3 20 rfl rfl)
theorem dX14_checkTwice_91 : decode cX14_checkTwice 91 = .ok (.iload_n 1, 1) := dk_27 (dk_at dksX14_checkTwice_3 21 rfl rfl)
theorem dX14_checkTwice_92 : decode cX14_checkTwice 92 = .ok (.iastore, 1) := dk_79 (dk_at dksX14_checkTwice_3 22 rfl rfl)
theorem dX14_checkTwice_93 : decode cX14_checkTwice 93 = .ok (.iinc 1 1, 3) := dk_132 1 1 (dk_at dksX14_checkTwice_4 0 rfl rfl)
theorem dX14_checkTwice_96 : decode cX14_checkTwice 96 = .ok (.goto (-72), 3) := dk_167 255 184 (dk_at dksX14_checkTwice_4 3 rfl rfl)
theorem dX14_checkTwice_99 : decode cX14_checkTwice 99 = .ok (.iconst 0, 1) := dk_3 (dk_at dksX14_checkTwice_4 6 rfl rfl)
theorem dX14_checkTwice_100 : decode cX14_checkTwice 100 = .ok (.istore_n 1, 1) := dk_60 (dk_at dksX14_checkTwice_4 7 rfl rfl)
theorem dX14_checkTwice_101 : decode cX14_checkTwice 101 = .ok (.iload_n 1, 1) := dk_27 (dk_at dksX14_checkTwice_4 8 rfl rfl)
theorem dX14_checkTwice_102 : decode cX14_checkTwice 102 = .ok (.aload_n 0, 1) := dk_42 (dk_at dksX14_checkTwice_4 9 rfl rfl)
theorem dX14_checkTwice_103 : decode cX14_checkTwice 103 = .ok (.getfield 517, 3) := dk_180 2 5 (dk_at dksX14_checkTwice_4 10 rfl rfl)
theorem dX14_checkTwice_106 : decode cX14_checkTwice 106 = .ok (.if_icmp .ge 255, 3) := dk_162 0 255 (dk_at dksX14_checkTwice_4 13 rfl rfl)
theorem dX14_checkTwice_109 : decode cX14_checkTwice 109 = .ok (.aload_n 0, 1) := dk_42 (dk_at dksX14_checkTwice_4 16 rfl rfl)
theorem dX14_checkTwice_110 : decode cX14_checkTwice 110 = .ok (.getfield 57, 3) := dk_180 0 57 (dk_at dksX14_checkTwice_4 17 rfl rfl)
theorem dX14_checkTwice_113 : decode cX14_checkTwice 113 = .ok (.iload_n 1, 1) := dk_27 (dk_at dksX14_checkTwice_4 20 rfl rfl)
theorem dX14_checkTwice_114 : decode cX14_checkTwice 114 = .ok (.iaload, 1) := dk_46 (dk_at dksX14_checkTwice_4 21 rfl rfl)
theorem dX14_checkTwice_115 : decode cX14_checkTwice 115 = .ok (.istore_n 2, 1) := dk_61 (dk_at dksX14_checkTwice_4 22 rfl rfl)
theorem dX14_checkTwice_116 : decode cX14_checkTwice 116 = .ok (.iload_n 2, 1) := dk_28 (dk_at dksX14_checkTwice_4 23 rfl rfl)
theorem dX14_checkTwice_117 : decode cX14_checkTwice 117 = .ok (.aload_n 0, 1) := dk_42 (dk_at dksX14_checkTwice_5 0 rfl rfl)
theorem dX14_checkTwice_118 : decode cX14_checkTwice 118 = .ok (.getfield 57, 3) := dk_180 0 57 (dk_at dksX14_checkTwice_5 1 rfl rfl)
theorem dX14_checkTwice_121 : decode cX14_checkTwice 121 = .ok (.iload_n 1, 1) := dk_27 (dk_at dksX14_checkTwice_5 4 rfl rfl)
theorem dX14_checkTwice_122 : decode cX14_checkTwice 122 = .ok (.iaload, 1) := dk_46 (dk_at dksX14_checkTwice_5 5 rfl rfl)
theorem dX14_checkTwice_123 : decode cX14_checkTwice 123 = .ok (.aload_n 0, 1) := dk_42 (dk_at dksX14_checkTwice_5 6 rfl rfl)
theorem dX14_checkTwice_124 : decode cX14_checkTwice 124 = .ok (.getfield 60, 3) := dk_180 0 60 (dk_at dksX14_checkTwice_5 7 rfl rfl)
theorem dX14_checkTwice_127 : decode cX14_checkTwice 127 = .ok (.iload_n 1, 1) := dk_27 (dk_at dksX14_checkTwice_5 10 rfl rfl)
theorem dX14_checkTwice_128 : decode cX14_checkTwice 128 = .ok (.iaload, 1) := dk_46 (dk_at dksX14_checkTwice_5 11 rfl rfl)
theorem dX14_checkTwice_129 : decode cX14_checkTwice 129 = .ok (.iadd, 1) := dk_96 (dk_at dksX14_checkTwice_5 12 rfl rfl)
theorem dX14_checkTwice_130 : decode cX14_checkTwice 130 = .ok (.if_icmp .ge 148, 3) := dk_162 0 148 (dk_at dksX14_checkTwice_5 13 rfl rfl)
theorem dX14_checkTwice_133 : decode cX14_checkTwice 133 = .ok (.aload_n 0, 1) := dk_42 (dk_at dksX14_checkTwice_5 16 rfl rfl)
theorem dX14_checkTwice_134 : decode cX14_checkTwice 134 = .ok (.getfield 97, 3) := dk_180 0 97 (dk_at dksX14_checkTwice_5 17 rfl rfl)
theorem dX14_checkTwice_137 : decode cX14_checkTwice 137 = .ok (.iload_n 2, 1) := dk_28 (dk_at dksX14_checkTwice_5 20 rfl rfl)
theorem dX14_checkTwice_138 : decode cX14_checkTwice 138 = .ok (.aload_n 0, 1) := dk_42 (dk_at dksX14_checkTwice_5 21 rfl rfl)
theorem dX14_checkTwice_139 : decode cX14_checkTwice 139 = .ok (.getfield 90, 3) := dk_180 0 90 (dk_at dksX14_checkTwice_6 0 rfl rfl)
theorem dX14_checkTwice_142 : decode cX14_checkTwice 142 = .ok (.iload_n 2, 1) := dk_28 (dk_at dksX14_checkTwice_6 3 rfl rfl)
theorem dX14_checkTwice_143 : decode cX14_checkTwice 143 = .ok (.iaload, 1) := dk_46 (dk_at dksX14_checkTwice_6 4 rfl rfl)
theorem dX14_checkTwice_144 : decode cX14_checkTwice 144 = .ok (.ifCond .ge 7, 3) := dk_156 0 7 (dk_at dksX14_checkTwice_6 5 rfl rfl)
theorem dX14_checkTwice_147 : decode cX14_checkTwice 147 = .ok (.iconst (-1), 1) := dk_2 (dk_at dksX14_checkTwice_6 8 rfl rfl)
theorem dX14_checkTwice_148 : decode cX14_checkTwice 148 = .ok (.goto 19, 3) := dk_167 0 19 (dk_at dksX14_checkTwice_6 9 rfl rfl)
theorem dX14_checkTwice_151 : decode cX14_checkTwice 151 = .ok (.aload_n 0, 1) := dk_42 (dk_at dksX14_checkTwice_6 12 rfl rfl)
theorem dX14_checkTwice_152 : decode cX14_checkTwice 152 = .ok (.aload_n 0, 1) := dk_42 (dk_at dksX14_checkTwice_6 13 rfl rfl)
theorem dX14_checkTwice_153 : decode cX14_checkTwice 153 = .ok (.getfield 90, 3) := dk_180 0 90 (dk_at dksX14_checkTwice_6 14 rfl rfl)
theorem dX14_checkTwice_156 : decode cX14_checkTwice 156 = .ok (.iload_n 2, 1) := dk_28 (dk_at dksX14_checkTwice_6 17 rfl rfl)
theorem dX14_checkTwice_157 : decode cX14_checkTwice 157 = .ok (.iaload, 1) := dk_46 (dk_at dksX14_checkTwice_6 18 rfl rfl)
theorem dX14_checkTwice_158 : decode cX14_checkTwice 158 = .ok (.aload_n 0, 1) := dk_42 (dk_at dksX14_checkTwice_6 19 rfl rfl)
theorem dX14_checkTwice_159 : decode cX14_checkTwice 159 = .ok (.getfield 93, 3) := dk_180 0 93 (dk_at dksX14_checkTwice_6 20 rfl rfl)
theorem dX14_checkTwice_162 : decode cX14_checkTwice 162 = .ok (.iload_n 2, 1) := dk_28 (dk_at dksX14_checkTwice_6 23 rfl rfl)
theorem dX14_checkTwice_163 : decode cX14_checkTwice 163 = .ok (.baload, 1) := dk_51 (dk_at dksX14_checkTwice_7 0 rfl rfl)
theorem dX14_checkTwice_164 : decode cX14_checkTwice 164 = .ok (.invokevirtual 529, 3) := dk_182 2 17 (dk_at dksX14_checkTwice_7 1 rfl rfl)
theorem dX14_checkTwice_167 : decode cX14_checkTwice 167 = .ok (.iastore, 1) := dk_79 (dk_at dksX14_checkTwice_7 4 rfl rfl)
theorem dX14_checkTwice_168 : decode cX14_checkTwice 168 = .ok (.aload_n 0, 1) := dk_42 (dk_at dksX14_checkTwice_7 5 rfl rfl)
theorem dX14_checkTwice_169 : decode cX14_checkTwice 169 = .ok (.getfield 57, 3) := dk_180 0 57 (dk_at dksX14_checkTwice_7 6 rfl rfl)
theorem dX14_checkTwice_172 : decode cX14_checkTwice 172 = .ok (.iload_n 1, 1) := dk_27 (dk_at dksX14_checkTwice_7 9 rfl rfl)
theorem dX14_checkTwice_173 : decode cX14_checkTwice 173 = .ok (.iaload, 1) := dk_46 (dk_at dksX14_checkTwice_7 10 rfl rfl)
theorem dX14_checkTwice_174 : decode cX14_checkTwice 174 = .ok (.istore_n 3, 1) := dk_62 (dk_at dksX14_checkTwice_7 11 rfl rfl)
theorem dX14_checkTwice_175 : decode cX14_checkTwice 175 = .ok (.iload_n 3, 1) := dk_29 (dk_at dksX14_checkTwice_7 12 rfl rfl)
theorem dX14_checkTwice_176 : decode cX14_checkTwice 176 = .ok (.iload_n 2, 1) := dk_28 (dk_at dksX14_checkTwice_7 13 rfl rfl)
theorem dX14_checkTwice_177 : decode cX14_checkTwice 177 = .ok (.if_icmp .ge 95, 3) := dk_162 0 95 (dk_at dksX14_checkTwice_7 14 rfl rfl)
theorem dX14_checkTwice_180 : decode cX14_checkTwice 180 = .ok (.aload_n 0, 1) := dk_42 (dk_at dksX14_checkTwice_7 17 rfl rfl)
theorem dX14_checkTwice_181 : decode cX14_checkTwice 181 = .ok (.aload_n 0, 1) := dk_42 (dk_at dksX14_checkTwice_7 18 rfl rfl)
theorem dX14_checkTwice_182 : decode cX14_checkTwice 182 = .ok (.getfield 87, 3) := dk_180 0 87 (dk_at dksX14_checkTwice_7 19 rfl rfl)
theorem dX14_checkTwice_185 : decode cX14_checkTwice 185 = .ok (.iload_n 2, 1) := dk_28 (dk_at dksX14_checkTwice_7 22 rfl rfl)
theorem dX14_checkTwice_186 : decode cX14_checkTwice 186 = .ok (.iaload, 1) := dk_46 (dk_at dksX14_checkTwice_7 23 rfl rfl)
theorem dX14_checkTwice_187 : decode cX14_checkTwice 187 = .ok (.aload_n 0, 1) := dk_42 (dk_at dksX14_checkTwice_8 0 rfl rfl)
theorem dX14_checkTwice_188 : decode cX14_checkTwice 188 = .ok (.getfield 87, 3) := dk_180 0 87 (dk_at dksX14_checkTwice_8 1 rfl rfl)
theorem dX14_checkTwice_191 : decode cX14_checkTwice 191 = .ok (.iload_n 3, 1) := dk_29 (dk_at dksX14_checkTwice_8 4 rfl rfl)
theorem dX14_checkTwice_192 : decode cX14_checkTwice 192 = .ok (.iaload, 1) := dk_46 (dk_at dksX14_checkTwice_8 5 rfl rfl)
theorem dX14_checkTwice_193 : decode cX14_checkTwice 193 = .ok (.invokevirtual 587, 3) := dk_182 2 75 (dk_at dksX14_checkTwice_8 6 rfl rfl)
theorem dX14_checkTwice_196 : decode cX14_checkTwice 196 = .ok (.ifCond .eq 18, 3) := dk_153 0 18 (dk_at dksX14_checkTwice_8 9 rfl rfl)
theorem dX14_checkTwice_199 : decode cX14_checkTwice 199 = .ok (.aload_n 0, 1) := dk_42 (dk_at dksX14_checkTwice_8 12 rfl rfl)
theorem dX14_checkTwice_200 : decode cX14_checkTwice 200 = .ok (.aload_n 0, 1) := dk_42 (dk_at dksX14_checkTwice_8 13 rfl rfl)
theorem dX14_checkTwice_201 : decode cX14_checkTwice 201 = .ok (.getfield 36, 3) := dk_180 0 36 (dk_at dksX14_checkTwice_8 14 rfl rfl)
theorem dX14_checkTwice_204 : decode cX14_checkTwice 204 = .ok (.aload_n 0, 1) := dk_42 (dk_at dksX14_checkTwice_8 17 rfl rfl)
theorem dX14_checkTwice_205 : decode cX14_checkTwice 205 = .ok (.getfield 87, 3) := dk_180 0 87 (dk_at dksX14_checkTwice_8 18 rfl rfl)
theorem dX14_checkTwice_208 : decode cX14_checkTwice 208 = .ok (.iload_n 2, 1) := dk_28 (dk_at dksX14_checkTwice_8 21 rfl rfl)
theorem dX14_checkTwice_209 : decode cX14_checkTwice 209 = .ok (.iaload, 1) := dk_46 (dk_at dksX14_checkTwice_8 22 rfl rfl)
theorem dX14_checkTwice_210 : decode cX14_checkTwice 210 = .ok (.iaload, 1) := dk_46 (dk_at dksX14_checkTwice_8 23 rfl rfl)
theorem dX14_checkTwice_211 : decode cX14_checkTwice 211 = .ok (.invokevirtual 597, 3) := dk_182 2 85 (dk_at dksX14_checkTwice_9 0 rfl rfl)
theorem dX14_checkTwice_214 : decode cX14_checkTwice 214 = .ok (.aload_n 0, 1) := dk_42 (dk_at dksX14_checkTwice_9 3 rfl rfl)
theorem dX14_checkTwice_215 : decode cX14_checkTwice 215 = .ok (.getfield 97, 3) := dk_180 0 97 (dk_at dksX14_checkTwice_9 4 rfl rfl)
theorem dX14_checkTwice_218 : decode cX14_checkTwice 218 = .ok (.iload_n 2, 1) := dk_28 (dk_at dksX14_checkTwice_9 7 rfl rfl)
theorem dX14_checkTwice_219 : decode cX14_checkTwice 219 = .ok (.iaload, 1) := dk_46 (dk_at dksX14_checkTwice_9 8 rfl rfl)
theorem dX14_checkTwice_220 : decode cX14_checkTwice 220 = .ok (.ifCond .lt 46, 3) := dk_155 0 46 (dk_at dksX14_checkTwice_9 9 rfl rfl)
theorem dX14_checkTwice_223 : decode cX14_checkTwice 223 = .ok (.aload_n 0, 1) := dk_42 (dk_at dksX14_checkTwice_9 12 rfl rfl)
theorem dX14_checkTwice_224 : decode cX14_checkTwice 224 = .ok (.getfield 97, 3) := dk_180 0 97 (dk_at dksX14_checkTwice_9 13 rfl rfl)
theorem dX14_checkTwice_227 : decode cX14_checkTwice 227 = .ok (.iload_n 3, 1) := dk_29 (dk_at dksX14_checkTwice_9 16 rfl rfl)
theorem dX14_checkTwice_228 : decode cX14_checkTwice 228 = .ok (.iaload, 1) := dk_46 (dk_at dksX14_checkTwice_9 17 rfl rfl)
theorem dX14_checkTwice_229 : decode cX14_checkTwice 229 = .ok (.ifCond .lt 37, 3) := dk_155 0 37 (dk_at dksX14_checkTwice_9 18 rfl rfl)
theorem dX14_checkTwice_232 : decode cX14_checkTwice 232 = .ok (.aload_n 0, 1) := dk_42 (dk_at dksX14_checkTwice_9 21 rfl rfl)
theorem dX14_checkTwice_233 : decode cX14_checkTwice 233 = .ok (.aload_n 0, 1) := dk_42 (dk_at dksX14_checkTwice_9 22 rfl rfl)
theorem dX14_checkTwice_234 : decode cX14_checkTwice 234 = .ok (.getfield 97, 3) := dk_180 0 97 (dk_at dksX14_checkTwice_10 0 rfl rfl)
theorem dX14_checkTwice_237 : decode cX14_checkTwice 237 = .ok (.iload_n 2, 1) := dk_28 (dk_at dksX14_checkTwice_10 3 rfl rfl)
theorem dX14_checkTwice_238 : decode cX14_checkTwice 238 = .ok (.iaload, 1) := dk_46 (dk_at dksX14_checkTwice_10 4 rfl rfl)
theorem dX14_checkTwice_239 : decode cX14_checkTwice 239 = .ok (.aload_n 0, 1) := dk_42 (dk_at dksX14_checkTwice_10 5 rfl rfl)
theorem dX14_checkTwice_240 : decode cX14_checkTwice 240 = .ok (.getfield 97, 3) := dk_180 0 97 (dk_at dksX14_checkTwice_10 6 rfl rfl)
theorem dX14_checkTwice_243 : decode cX14_checkTwice 243 = .ok (.iload_n 3, 1) := dk_29 (dk_at dksX14_checkTwice_10 9 rfl rfl)
theorem dX14_checkTwice_244 : decode cX14_checkTwice 244 = .ok (.iaload, 1) := dk_46 (dk_at dksX14_checkTwice_10 10 rfl rfl)
theorem dX14_checkTwice_245 : decode cX14_checkTwice 245 = .ok (.invokevirtual 600, 3) := dk_182 2 88 (dk_at dksX14_checkTwice_10 11 rfl rfl)
theorem dX14_checkTwice_248 : decode cX14_checkTwice 248 = .ok (.ifCond .ne 18, 3) := dk_154 0 18 (dk_at dksX14_checkTwice_10 14 rfl rfl)
theorem dX14_checkTwice_251 : decode cX14_checkTwice 251 = .ok (.aload_n 0, 1) := dk_42 (dk_at dksX14_checkTwice_10 17 rfl rfl)
theorem dX14_checkTwice_252 : decode cX14_checkTwice 252 = .ok (.aload_n 0, 1) := dk_42 (dk_at dksX14_checkTwice_10 18 rfl rfl)
theorem dX14_checkTwice_253 : decode cX14_checkTwice 253 = .ok (.getfield 36, 3) := dk_180 0 36 (dk_at dksX14_checkTwice_10 19 rfl rfl)
theorem dX14_checkTwice_256 : decode cX14_checkTwice 256 = .ok (.aload_n 0, 1) := dk_42 (dk_at dksX14_checkTwice_10 22 rfl rfl)
theorem dX14_checkTwice_257 : decode cX14_checkTwice 257 = .ok (.getfield 90, 3) := dk_180 0 90 (dk_at dksX14_checkTwice_11 0 rfl rfl)
theorem dX14_checkTwice_260 : decode cX14_checkTwice 260 = .ok (.iload_n 2, 1) := dk_28 (dk_at dksX14_checkTwice_11 3 rfl rfl)
theorem dX14_checkTwice_261 : decode cX14_checkTwice 261 = .ok (.iaload, 1) := dk_46 (dk_at dksX14_checkTwice_11 4 rfl rfl)
theorem dX14_checkTwice_262 : decode cX14_checkTwice 262 = .ok (.iaload, 1) := dk_46 (dk_at dksX14_checkTwice_11 5 rfl rfl)
theorem dX14_checkTwice_263 : decode cX14_checkTwice 263 = .ok (.invokevirtual 597, 3) := dk_182 2 85 (dk_at dksX14_checkTwice_11 6 rfl rfl)
theorem dX14_checkTwice_266 : decode cX14_checkTwice 266 = .ok (.iinc 3 1, 3) := dk_132 3 1 (dk_at dksX14_checkTwice_11 9 rfl rfl)
theorem dX14_checkTwice_269 : decode cX14_checkTwice 269 = .ok (.goto (-94), 3) := dk_167 255 162 (dk_at dksX14_checkTwice_11 12 rfl rfl)
theorem dX14_checkTwice_272 : decode cX14_checkTwice 272 = .ok (.iinc 2 1, 3) := dk_132 2 1 (dk_at dksX14_checkTwice_11 15 rfl rfl)
theorem dX14_checkTwice_275 : decode cX14_checkTwice 275 = .ok (.goto (-159), 3) := dk_167 255 97 (dk_at dksX14_checkTwice_11 18 rfl rfl)
theorem dX14_checkTwice_278 : decode cX14_checkTwice 278 = .ok (.aload_n 0, 1) := dk_42 (dk_at dksX14_checkTwice_11 21 rfl rfl)
theorem dX14_checkTwice_279 : decode cX14_checkTwice 279 = .ok (.getfield 63, 3) := dk_180 0 63 (dk_at dksX14_checkTwice_12 0 rfl rfl)
theorem dX14_checkTwice_282 : decode cX14_checkTwice 282 = .ok (.iload_n 1, 1) := dk_27 (dk_at dksX14_checkTwice_12 3 rfl rfl)
theorem dX14_checkTwice_283 : decode cX14_checkTwice 283 = .ok (.iaload, 1) := dk_46 (dk_at dksX14_checkTwice_12 4 rfl rfl)
theorem dX14_checkTwice_284 : decode cX14_checkTwice 284 = .ok (.istore_n 2, 1) := dk_61 (dk_at dksX14_checkTwice_12 5 rfl rfl)
theorem dX14_checkTwice_285 : decode cX14_checkTwice 285 = .ok (.iload_n 2, 1) := dk_28 (dk_at dksX14_checkTwice_12 6 rfl rfl)
theorem dX14_checkTwice_286 : decode cX14_checkTwice 286 = .ok (.ifCond .lt 69, 3) := dk_155 0 69 (dk_at dksX14_checkTwice_12 7 rfl rfl)
theorem dX14_checkTwice_289 : decode cX14_checkTwice 289 = .ok (.aload_n 0, 1) := dk_42 (dk_at dksX14_checkTwice_12 10 rfl rfl)
theorem dX14_checkTwice_290 : decode cX14_checkTwice 290 = .ok (.getfield 63, 3) := dk_180 0 63 (dk_at dksX14_checkTwice_12 11 rfl rfl)
theorem dX14_checkTwice_293 : decode cX14_checkTwice 293 = .ok (.iload_n 1, 1) := dk_27 (dk_at dksX14_checkTwice_12 14 rfl rfl)
theorem dX14_checkTwice_294 : decode cX14_checkTwice 294 = .ok (.iaload, 1) := dk_46 (dk_at dksX14_checkTwice_12 15 rfl rfl)
theorem dX14_checkTwice_295 : decode cX14_checkTwice 295 = .ok (.istore_n 3, 1) := dk_62 (dk_at dksX14_checkTwice_12 16 rfl rfl)
theorem dX14_checkTwice_296 : decode cX14_checkTwice 296 = .ok (.iload_n 3, 1) := dk_29 (dk_at dksX14_checkTwice_12 17 rfl rfl)
theorem dX14_checkTwice_297 : decode cX14_checkTwice 297 = .ok (.iload_n 2, 1) := dk_28 (dk_at dksX14_checkTwice_12 18 rfl rfl)
theorem dX14_checkTwice_298 : decode cX14_checkTwice 298 = .ok (.if_icmp .eq 47, 3) := dk_159 0 47 (dk_at dksX14_checkTwice_12 19 rfl rfl)
theorem dX14_checkTwice_301 : decode cX14_checkTwice 301 = .ok (.aload_n 0, 1) := dk_42 (dk_at dksX14_checkTwice_12 22 rfl rfl)
theorem dX14_checkTwice_302 : decode cX14_checkTwice 302 = .ok (.aload_n 0, 1) := dk_42 (dk_at dksX14_checkTwice_12 23 rfl rfl)
theorem dX14_checkTwice_303 : decode cX14_checkTwice 303 = .ok (.getfield 100, 3) := dk_180 0 100 (dk_at dksX14_checkTwice_13 0 rfl rfl)
theorem dX14_checkTwice_306 : decode cX14_checkTwice 306 = .ok (.iload_n 2, 1) := dk_28 (dk_at dksX14_checkTwice_13 3 rfl rfl)
theorem dX14_checkTwice_307 : decode cX14_checkTwice 307 = .ok (.iaload, 1) := dk_46 (dk_at dksX14_checkTwice_13 4 rfl rfl)
theorem dX14_checkTwice_308 : decode cX14_checkTwice 308 = .ok (.aload_n 0, 1) := dk_42 (dk_at dksX14_checkTwice_13 5 rfl rfl)
theorem dX14_checkTwice_309 : decode cX14_checkTwice 309 = .ok (.getfield 100, 3) := dk_180 0 100 (dk_at dksX14_checkTwice_13 6 rfl rfl)
theorem dX14_checkTwice_312 : decode cX14_checkTwice 312 = .ok (.iload_n 3, 1) := dk_29 (dk_at dksX14_checkTwice_13 9 rfl rfl)
theorem dX14_checkTwice_313 : decode cX14_checkTwice 313 = .ok (.iaload, 1) := dk_46 (dk_at dksX14_checkTwice_13 10 rfl rfl)
theorem dX14_checkTwice_314 : decode cX14_checkTwice 314 = .ok (.invokevirtual 587, 3) := dk_182 2 75 (dk_at dksX14_checkTwice_13 11 rfl rfl)
theorem dX14_checkTwice_317 : decode cX14_checkTwice 317 = .ok (.ifCond .eq 18, 3) := dk_153 0 18 (dk_at dksX14_checkTwice_13 14 rfl rfl)
theorem dX14_checkTwice_320 : decode cX14_checkTwice 320 = .ok (.aload_n 0, 1) := dk_42 (dk_at dksX14_checkTwice_13 17 rfl rfl)
theorem dX14_checkTwice_321 : decode cX14_checkTwice 321 = .ok (.aload_n 0, 1) := dk_42 (dk_at dksX14_checkTwice_13 18 rfl rfl)
theorem dX14_checkTwice_322 : decode cX14_checkTwice 322 = .ok (.getfield 36, 3) := dk_180 0 36 (dk_at dksX14_checkTwice_13 19 rfl rfl)
theorem dX14_checkTwice_325 : decode cX14_checkTwice 325 = .ok (.aload_n 0, 1) := dk_42 (dk_at dksX14_checkTwice_13 22 rfl rfl)
theorem dX14_checkTwice_326 : decode cX14_checkTwice 326 = .ok (.getfield 100, 3) := dk_180 0 100 (dk_at dksX14_checkTwice_14 0 rfl rfl)
theorem dX14_checkTwice_329 : decode cX14_checkTwice 329 = .ok (.iload_n 2, 1) := dk_28 (dk_at dksX14_checkTwice_14 3 rfl rfl)
theorem dX14_checkTwice_330 : decode cX14_checkTwice 330 = .ok (.iaload, 1) := dk_46 (dk_at dksX14_checkTwice_14 4 rfl rfl)
theorem dX14_checkTwice_331 : decode cX14_checkTwice 331 = .ok (.iaload, 1) := dk_46 (dk_at dksX14_checkTwice_14 5 rfl rfl)
theorem dX14_checkTwice_332 : decode cX14_checkTwice 332 = .ok (.invokevirtual 597, 3) := dk_182 2 85 (dk_at dksX14_checkTwice_14 6 rfl rfl)
theorem dX14_checkTwice_335 : decode cX14_checkTwice 335 = .ok (.aload_n 0, 1) := dk_42 (dk_at dksX14_checkTwice_14 9 rfl rfl)
theorem dX14_checkTwice_336 : decode cX14_checkTwice 336 = .ok (.getfield 112, 3) := dk_180 0 112 (dk_at dksX14_checkTwice_14 10 rfl rfl)
theorem dX14_checkTwice_339 : decode cX14_checkTwice 339 = .ok (.iload_n 3, 1) := dk_29 (dk_at dksX14_checkTwice_14 13 rfl rfl)
theorem dX14_checkTwice_340 : decode cX14_checkTwice 340 = .ok (.iaload, 1) := dk_46 (dk_at dksX14_checkTwice_14 14 rfl rfl)
theorem dX14_checkTwice_341 : decode cX14_checkTwice 341 = .ok (.istore_n 3, 1) := dk_62 (dk_at dksX14_checkTwice_14 15 rfl rfl)
theorem dX14_checkTwice_342 : decode cX14_checkTwice 342 = .ok (.goto (-46), 3) := dk_167 255 210 (dk_at dksX14_checkTwice_14 16 rfl rfl)
theorem dX14_checkTwice_345 : decode cX14_checkTwice 345 = .ok (.aload_n 0, 1) := dk_42 (dk_at dksX14_checkTwice_14 19 rfl rfl)
theorem dX14_checkTwice_346 : decode cX14_checkTwice 346 = .ok (.getfield 112, 3) := dk_180 0 112 (dk_at dksX14_checkTwice_14 20 rfl rfl)
theorem dX14_checkTwice_349 : decode cX14_checkTwice 349 = .ok (.iload_n 2, 1) := dk_28 (dk_at dksX14_checkTwice_14 23 rfl rfl)
theorem dX14_checkTwice_350 : decode cX14_checkTwice 350 = .ok (.iaload, 1) := dk_46 (dk_at dksX14_checkTwice_15 0 rfl rfl)
theorem dX14_checkTwice_351 : decode cX14_checkTwice 351 = .ok (.istore_n 2, 1) := dk_61 (dk_at dksX14_checkTwice_15 1 rfl rfl)
theorem dX14_checkTwice_352 : decode cX14_checkTwice 352 = .ok (.goto (-67), 3) := dk_167 255 189 (dk_at dksX14_checkTwice_15 2 rfl rfl)
theorem dX14_checkTwice_355 : decode cX14_checkTwice 355 = .ok (.iinc 1 1, 3) := dk_132 1 1 (dk_at dksX14_checkTwice_15 5 rfl rfl)
theorem dX14_checkTwice_358 : decode cX14_checkTwice 358 = .ok (.goto (-257), 3) := dk_167 254 255 (dk_at dksX14_checkTwice_15 8 rfl rfl)
theorem dX14_checkTwice_361 : decode cX14_checkTwice 361 = .ok (.aload_n 0, 1) := dk_42 (dk_at dksX14_checkTwice_15 11 rfl rfl)
theorem dX14_checkTwice_362 : decode cX14_checkTwice 362 = .ok (.iconst 5, 1) := dk_8 (dk_at dksX14_checkTwice_15 12 rfl rfl)
theorem dX14_checkTwice_363 : decode cX14_checkTwice 363 = .ok (.invokevirtual 603, 3) := dk_182 2 91 (dk_at dksX14_checkTwice_15 13 rfl rfl)
theorem dX14_checkTwice_366 : decode cX14_checkTwice 366 = .ok (.return_, 1) := dk_177 (dk_at dksX14_checkTwice_15 16 rfl rfl)
abbrev cX14_assignmentOf : ByteArray := prog_15_method_62_code
def yX14_assignmentOf : MethodName := ⟨RX14, "assignmentOf", "(I)I"⟩
def dkwX14_assignmentOf_1 : List UInt8 := [182, 2, 75, 154, 0, 13, 42, 180, 0, 214, 28, 46, 61, 167, 255, 231, 28, 172]
abbrev dktX14_assignmentOf_1 : List UInt8 := dkwX14_assignmentOf_1 ++ []
def dkwX14_assignmentOf_0 : List UInt8 := [42, 180, 0, 211, 42, 27, 182, 2, 72, 46, 61, 28, 155, 0, 27, 42, 42, 180, 0, 175, 28, 46, 27]
abbrev dktX14_assignmentOf_0 : List UInt8 := dkwX14_assignmentOf_0 ++ dktX14_assignmentOf_1
theorem dksX14_assignmentOf_0 : cX14_assignmentOf.data.toList.drop 0 = dktX14_assignmentOf_0 := by decide +kernel
theorem dksX14_assignmentOf_1 : cX14_assignmentOf.data.toList.drop 23 = dktX14_assignmentOf_1 := dk_seg dksX14_assignmentOf_0 23 rfl rfl
theorem dX14_assignmentOf_0 : decode cX14_assignmentOf 0 = .ok (.aload_n 0, 1) := dk_42 (dk_at dksX14_assignmentOf_0 0 rfl rfl)
theorem dX14_assignmentOf_1 : decode cX14_assignmentOf 1 = .ok (.getfield 211, 3) := dk_180 0 211 (dk_at dksX14_assignmentOf_0 1 rfl rfl)
theorem dX14_assignmentOf_4 : decode cX14_assignmentOf 4 = .ok (.aload_n 0, 1) := dk_42 (dk_at dksX14_assignmentOf_0 4 rfl rfl)
theorem dX14_assignmentOf_5 : decode cX14_assignmentOf 5 = .ok (.iload_n 1, 1) := dk_27 (dk_at dksX14_assignmentOf_0 5 rfl rfl)
theorem dX14_assignmentOf_6 : decode cX14_assignmentOf 6 = .ok (.invokevirtual 584, 3) := dk_182 2 72 (dk_at dksX14_assignmentOf_0 6 rfl rfl)
theorem dX14_assignmentOf_9 : decode cX14_assignmentOf 9 = .ok (.iaload, 1) := dk_46 (dk_at dksX14_assignmentOf_0 9 rfl rfl)
theorem dX14_assignmentOf_10 : decode cX14_assignmentOf 10 = .ok (.istore_n 2, 1) := dk_61 (dk_at dksX14_assignmentOf_0 10 rfl rfl)
theorem dX14_assignmentOf_11 : decode cX14_assignmentOf 11 = .ok (.iload_n 2, 1) := dk_28 (dk_at dksX14_assignmentOf_0 11 rfl rfl)
theorem dX14_assignmentOf_12 : decode cX14_assignmentOf 12 = .ok (.ifCond .lt 27, 3) := dk_155 0 27 (dk_at dksX14_assignmentOf_0 12 rfl rfl)
theorem dX14_assignmentOf_15 : decode cX14_assignmentOf 15 = .ok (.aload_n 0, 1) := dk_42 (dk_at dksX14_assignmentOf_0 15 rfl rfl)
theorem dX14_assignmentOf_16 : decode cX14_assignmentOf 16 = .ok (.aload_n 0, 1) := dk_42 (dk_at dksX14_assignmentOf_0 16 rfl rfl)
theorem dX14_assignmentOf_17 : decode cX14_assignmentOf 17 = .ok (.getfield 175, 3) := dk_180 0 175 (dk_at dksX14_assignmentOf_0 17 rfl rfl)
theorem dX14_assignmentOf_20 : decode cX14_assignmentOf 20 = .ok (.iload_n 2, 1) := dk_28 (dk_at dksX14_assignmentOf_0 20 rfl rfl)
theorem dX14_assignmentOf_21 : decode cX14_assignmentOf 21 = .ok (.iaload, 1) := dk_46 (dk_at dksX14_assignmentOf_0 21 rfl rfl)
theorem dX14_assignmentOf_22 : decode cX14_assignmentOf 22 = .ok (.iload_n 1, 1) := dk_27 (dk_at dksX14_assignmentOf_0 22 rfl rfl)
theorem dX14_assignmentOf_23 : decode cX14_assignmentOf 23 = .ok (.invokevirtual 587, 3) := dk_182 2 75 (dk_at dksX14_assignmentOf_1 0 rfl rfl)
theorem dX14_assignmentOf_26 : decode cX14_assignmentOf 26 = .ok (.ifCond .ne 13, 3) := dk_154 0 13 (dk_at dksX14_assignmentOf_1 3 rfl rfl)
theorem dX14_assignmentOf_29 : decode cX14_assignmentOf 29 = .ok (.aload_n 0, 1) := dk_42 (dk_at dksX14_assignmentOf_1 6 rfl rfl)
theorem dX14_assignmentOf_30 : decode cX14_assignmentOf 30 = .ok (.getfield 214, 3) := dk_180 0 214 (dk_at dksX14_assignmentOf_1 7 rfl rfl)
theorem dX14_assignmentOf_33 : decode cX14_assignmentOf 33 = .ok (.iload_n 2, 1) := dk_28 (dk_at dksX14_assignmentOf_1 10 rfl rfl)
theorem dX14_assignmentOf_34 : decode cX14_assignmentOf 34 = .ok (.iaload, 1) := dk_46 (dk_at dksX14_assignmentOf_1 11 rfl rfl)
theorem dX14_assignmentOf_35 : decode cX14_assignmentOf 35 = .ok (.istore_n 2, 1) := dk_61 (dk_at dksX14_assignmentOf_1 12 rfl rfl)
theorem dX14_assignmentOf_36 : decode cX14_assignmentOf 36 = .ok (.goto (-25), 3) := dk_167 255 231 (dk_at dksX14_assignmentOf_1 13 rfl rfl)
theorem dX14_assignmentOf_39 : decode cX14_assignmentOf 39 = .ok (.iload_n 2, 1) := dk_28 (dk_at dksX14_assignmentOf_1 16 rfl rfl)
theorem dX14_assignmentOf_40 : decode cX14_assignmentOf 40 = .ok (.ireturn, 1) := dk_172 (dk_at dksX14_assignmentOf_1 17 rfl rfl)
abbrev cX14_hash : ByteArray := prog_15_method_61_code
def yX14_hash : MethodName := ⟨RX14, "hash", "(I)I"⟩
def dkwX14_hash_1 : List UInt8 := [180, 0, 30, 29, 46, 96, 61, 132, 3, 1, 167, 255, 231, 28, 17, 15, 255, 126, 172]
abbrev dktX14_hash_1 : List UInt8 := dkwX14_hash_1 ++ []
def dkwX14_hash_0 : List UInt8 := [3, 61, 42, 180, 0, 36, 27, 46, 62, 29, 42, 180, 0, 39, 27, 46, 162, 0, 21, 16, 31, 28, 104, 42]
abbrev dktX14_hash_0 : List UInt8 := dkwX14_hash_0 ++ dktX14_hash_1
theorem dksX14_hash_0 : cX14_hash.data.toList.drop 0 = dktX14_hash_0 := by decide +kernel
theorem dksX14_hash_1 : cX14_hash.data.toList.drop 24 = dktX14_hash_1 := dk_seg dksX14_hash_0 24 rfl rfl
theorem dX14_hash_0 : decode cX14_hash 0 = .ok (.iconst 0, 1) := dk_3 (dk_at dksX14_hash_0 0 rfl rfl)
theorem dX14_hash_1 : decode cX14_hash 1 = .ok (.istore_n 2, 1) := dk_61 (dk_at dksX14_hash_0 1 rfl rfl)
theorem dX14_hash_2 : decode cX14_hash 2 = .ok (.aload_n 0, 1) := dk_42 (dk_at dksX14_hash_0 2 rfl rfl)
theorem dX14_hash_3 : decode cX14_hash 3 = .ok (.getfield 36, 3) := dk_180 0 36 (dk_at dksX14_hash_0 3 rfl rfl)
theorem dX14_hash_6 : decode cX14_hash 6 = .ok (.iload_n 1, 1) := dk_27 (dk_at dksX14_hash_0 6 rfl rfl)
theorem dX14_hash_7 : decode cX14_hash 7 = .ok (.iaload, 1) := dk_46 (dk_at dksX14_hash_0 7 rfl rfl)
theorem dX14_hash_8 : decode cX14_hash 8 = .ok (.istore_n 3, 1) := dk_62 (dk_at dksX14_hash_0 8 rfl rfl)
theorem dX14_hash_9 : decode cX14_hash 9 = .ok (.iload_n 3, 1) := dk_29 (dk_at dksX14_hash_0 9 rfl rfl)
theorem dX14_hash_10 : decode cX14_hash 10 = .ok (.aload_n 0, 1) := dk_42 (dk_at dksX14_hash_0 10 rfl rfl)
theorem dX14_hash_11 : decode cX14_hash 11 = .ok (.getfield 39, 3) := dk_180 0 39 (dk_at dksX14_hash_0 11 rfl rfl)
theorem dX14_hash_14 : decode cX14_hash 14 = .ok (.iload_n 1, 1) := dk_27 (dk_at dksX14_hash_0 14 rfl rfl)
theorem dX14_hash_15 : decode cX14_hash 15 = .ok (.iaload, 1) := dk_46 (dk_at dksX14_hash_0 15 rfl rfl)
theorem dX14_hash_16 : decode cX14_hash 16 = .ok (.if_icmp .ge 21, 3) := dk_162 0 21 (dk_at dksX14_hash_0 16 rfl rfl)
theorem dX14_hash_19 : decode cX14_hash 19 = .ok (.bipush 31, 2) := dk_16 31 (dk_at dksX14_hash_0 19 rfl rfl)
theorem dX14_hash_21 : decode cX14_hash 21 = .ok (.iload_n 2, 1) := dk_28 (dk_at dksX14_hash_0 21 rfl rfl)
theorem dX14_hash_22 : decode cX14_hash 22 = .ok (.imul, 1) := dk_104 (dk_at dksX14_hash_0 22 rfl rfl)
theorem dX14_hash_23 : decode cX14_hash 23 = .ok (.aload_n 0, 1) := dk_42 (dk_at dksX14_hash_0 23 rfl rfl)
theorem dX14_hash_24 : decode cX14_hash 24 = .ok (.getfield 30, 3) := dk_180 0 30 (dk_at dksX14_hash_1 0 rfl rfl)
theorem dX14_hash_27 : decode cX14_hash 27 = .ok (.iload_n 3, 1) := dk_29 (dk_at dksX14_hash_1 3 rfl rfl)
theorem dX14_hash_28 : decode cX14_hash 28 = .ok (.iaload, 1) := dk_46 (dk_at dksX14_hash_1 4 rfl rfl)
theorem dX14_hash_29 : decode cX14_hash 29 = .ok (.iadd, 1) := dk_96 (dk_at dksX14_hash_1 5 rfl rfl)
theorem dX14_hash_30 : decode cX14_hash 30 = .ok (.istore_n 2, 1) := dk_61 (dk_at dksX14_hash_1 6 rfl rfl)
theorem dX14_hash_31 : decode cX14_hash 31 = .ok (.iinc 3 1, 3) := dk_132 3 1 (dk_at dksX14_hash_1 7 rfl rfl)
theorem dX14_hash_34 : decode cX14_hash 34 = .ok (.goto (-25), 3) := dk_167 255 231 (dk_at dksX14_hash_1 10 rfl rfl)
theorem dX14_hash_37 : decode cX14_hash 37 = .ok (.iload_n 2, 1) := dk_28 (dk_at dksX14_hash_1 13 rfl rfl)
theorem dX14_hash_38 : decode cX14_hash 38 = .ok (.sipush 4095, 3) := dk_17 15 255 (dk_at dksX14_hash_1 14 rfl rfl)
theorem dX14_hash_41 : decode cX14_hash 41 = .ok (.iand, 1) := dk_126 (dk_at dksX14_hash_1 17 rfl rfl)
theorem dX14_hash_42 : decode cX14_hash 42 = .ok (.ireturn, 1) := dk_172 (dk_at dksX14_hash_1 18 rfl rfl)
abbrev cX14_sameName : ByteArray := prog_15_method_60_code
def yX14_sameName : MethodName := ⟨RX14, "sameName", "(II)Z"⟩
def dkwX14_sameName_3 : List UInt8 := [159, 0, 5, 3, 172, 132, 4, 1, 167, 255, 214, 4, 172]
abbrev dktX14_sameName_3 : List UInt8 := dkwX14_sameName_3 ++ []
def dkwX14_sameName_2 : List UInt8 := [180, 0, 36, 27, 46, 21, 4, 96, 46, 42, 180, 0, 30, 42, 180, 0, 36, 28, 46, 21, 4, 96, 46]
abbrev dktX14_sameName_2 : List UInt8 := dkwX14_sameName_2 ++ dktX14_sameName_3
def dkwX14_sameName_1 : List UInt8 := [28, 46, 100, 29, 159, 0, 5, 3, 172, 3, 54, 4, 21, 4, 29, 162, 0, 42, 42, 180, 0, 30, 42]
abbrev dktX14_sameName_1 : List UInt8 := dkwX14_sameName_1 ++ dktX14_sameName_2
def dkwX14_sameName_0 : List UInt8 := [42, 180, 0, 39, 27, 46, 42, 180, 0, 36, 27, 46, 100, 62, 42, 180, 0, 39, 28, 46, 42, 180, 0, 36]
abbrev dktX14_sameName_0 : List UInt8 := dkwX14_sameName_0 ++ dktX14_sameName_1
theorem dksX14_sameName_0 : cX14_sameName.data.toList.drop 0 = dktX14_sameName_0 := by decide +kernel
theorem dksX14_sameName_1 : cX14_sameName.data.toList.drop 24 = dktX14_sameName_1 := dk_seg dksX14_sameName_0 24 rfl rfl
theorem dksX14_sameName_2 : cX14_sameName.data.toList.drop 47 = dktX14_sameName_2 := dk_seg dksX14_sameName_1 23 rfl rfl
theorem dksX14_sameName_3 : cX14_sameName.data.toList.drop 70 = dktX14_sameName_3 := dk_seg dksX14_sameName_2 23 rfl rfl
theorem dX14_sameName_0 : decode cX14_sameName 0 = .ok (.aload_n 0, 1) := dk_42 (dk_at dksX14_sameName_0 0 rfl rfl)
theorem dX14_sameName_1 : decode cX14_sameName 1 = .ok (.getfield 39, 3) := dk_180 0 39 (dk_at dksX14_sameName_0 1 rfl rfl)
theorem dX14_sameName_4 : decode cX14_sameName 4 = .ok (.iload_n 1, 1) := dk_27 (dk_at dksX14_sameName_0 4 rfl rfl)
theorem dX14_sameName_5 : decode cX14_sameName 5 = .ok (.iaload, 1) := dk_46 (dk_at dksX14_sameName_0 5 rfl rfl)
theorem dX14_sameName_6 : decode cX14_sameName 6 = .ok (.aload_n 0, 1) := dk_42 (dk_at dksX14_sameName_0 6 rfl rfl)
theorem dX14_sameName_7 : decode cX14_sameName 7 = .ok (.getfield 36, 3) := dk_180 0 36 (dk_at dksX14_sameName_0 7 rfl rfl)
theorem dX14_sameName_10 : decode cX14_sameName 10 = .ok (.iload_n 1, 1) := dk_27 (dk_at dksX14_sameName_0 10 rfl rfl)
theorem dX14_sameName_11 : decode cX14_sameName 11 = .ok (.iaload, 1) := dk_46 (dk_at dksX14_sameName_0 11 rfl rfl)
theorem dX14_sameName_12 : decode cX14_sameName 12 = .ok (.isub, 1) := dk_100 (dk_at dksX14_sameName_0 12 rfl rfl)
theorem dX14_sameName_13 : decode cX14_sameName 13 = .ok (.istore_n 3, 1) := dk_62 (dk_at dksX14_sameName_0 13 rfl rfl)
theorem dX14_sameName_14 : decode cX14_sameName 14 = .ok (.aload_n 0, 1) := dk_42 (dk_at dksX14_sameName_0 14 rfl rfl)
theorem dX14_sameName_15 : decode cX14_sameName 15 = .ok (.getfield 39, 3) := dk_180 0 39 (dk_at dksX14_sameName_0 15 rfl rfl)
theorem dX14_sameName_18 : decode cX14_sameName 18 = .ok (.iload_n 2, 1) := dk_28 (dk_at dksX14_sameName_0 18 rfl rfl)
theorem dX14_sameName_19 : decode cX14_sameName 19 = .ok (.iaload, 1) := dk_46 (dk_at dksX14_sameName_0 19 rfl rfl)
theorem dX14_sameName_20 : decode cX14_sameName 20 = .ok (.aload_n 0, 1) := dk_42 (dk_at dksX14_sameName_0 20 rfl rfl)
theorem dX14_sameName_21 : decode cX14_sameName 21 = .ok (.getfield 36, 3) := dk_180 0 36 (dk_at dksX14_sameName_0 21 rfl rfl)
theorem dX14_sameName_24 : decode cX14_sameName 24 = .ok (.iload_n 2, 1) := dk_28 (dk_at dksX14_sameName_1 0 rfl rfl)
theorem dX14_sameName_25 : decode cX14_sameName 25 = .ok (.iaload, 1) := dk_46 (dk_at dksX14_sameName_1 1 rfl rfl)
theorem dX14_sameName_26 : decode cX14_sameName 26 = .ok (.isub, 1) := dk_100 (dk_at dksX14_sameName_1 2 rfl rfl)
theorem dX14_sameName_27 : decode cX14_sameName 27 = .ok (.iload_n 3, 1) := dk_29 (dk_at dksX14_sameName_1 3 rfl rfl)
theorem dX14_sameName_28 : decode cX14_sameName 28 = .ok (.if_icmp .eq 5, 3) := dk_159 0 5 (dk_at dksX14_sameName_1 4 rfl rfl)
theorem dX14_sameName_31 : decode cX14_sameName 31 = .ok (.iconst 0, 1) := dk_3 (dk_at dksX14_sameName_1 7 rfl rfl)
theorem dX14_sameName_32 : decode cX14_sameName 32 = .ok (.ireturn, 1) := dk_172 (dk_at dksX14_sameName_1 8 rfl rfl)
theorem dX14_sameName_33 : decode cX14_sameName 33 = .ok (.iconst 0, 1) := dk_3 (dk_at dksX14_sameName_1 9 rfl rfl)
theorem dX14_sameName_34 : decode cX14_sameName 34 = .ok (.istore 4, 2) := dk_54 4 (dk_at dksX14_sameName_1 10 rfl rfl)
theorem dX14_sameName_36 : decode cX14_sameName 36 = .ok (.iload 4, 2) := dk_21 4 (dk_at dksX14_sameName_1 12 rfl rfl)
theorem dX14_sameName_38 : decode cX14_sameName 38 = .ok (.iload_n 3, 1) := dk_29 (dk_at dksX14_sameName_1 14 rfl rfl)
theorem dX14_sameName_39 : decode cX14_sameName 39 = .ok (.if_icmp .ge 42, 3) := dk_162 0 42 (dk_at dksX14_sameName_1 15 rfl rfl)
theorem dX14_sameName_42 : decode cX14_sameName 42 = .ok (.aload_n 0, 1) := dk_42 (dk_at dksX14_sameName_1 18 rfl rfl)
theorem dX14_sameName_43 : decode cX14_sameName 43 = .ok (.getfield 30, 3) := dk_180 0 30 (dk_at dksX14_sameName_1 19 rfl rfl)
theorem dX14_sameName_46 : decode cX14_sameName 46 = .ok (.aload_n 0, 1) := dk_42 (dk_at dksX14_sameName_1 22 rfl rfl)
theorem dX14_sameName_47 : decode cX14_sameName 47 = .ok (.getfield 36, 3) := dk_180 0 36 (dk_at dksX14_sameName_2 0 rfl rfl)
theorem dX14_sameName_50 : decode cX14_sameName 50 = .ok (.iload_n 1, 1) := dk_27 (dk_at dksX14_sameName_2 3 rfl rfl)
theorem dX14_sameName_51 : decode cX14_sameName 51 = .ok (.iaload, 1) := dk_46 (dk_at dksX14_sameName_2 4 rfl rfl)
theorem dX14_sameName_52 : decode cX14_sameName 52 = .ok (.iload 4, 2) := dk_21 4 (dk_at dksX14_sameName_2 5 rfl rfl)
theorem dX14_sameName_54 : decode cX14_sameName 54 = .ok (.iadd, 1) := dk_96 (dk_at dksX14_sameName_2 7 rfl rfl)
theorem dX14_sameName_55 : decode cX14_sameName 55 = .ok (.iaload, 1) := dk_46 (dk_at dksX14_sameName_2 8 rfl rfl)
theorem dX14_sameName_56 : decode cX14_sameName 56 = .ok (.aload_n 0, 1) := dk_42 (dk_at dksX14_sameName_2 9 rfl rfl)
theorem dX14_sameName_57 : decode cX14_sameName 57 = .ok (.getfield 30, 3) := dk_180 0 30 (dk_at dksX14_sameName_2 10 rfl rfl)
theorem dX14_sameName_60 : decode cX14_sameName 60 = .ok (.aload_n 0, 1) := dk_42 (dk_at dksX14_sameName_2 13 rfl rfl)
theorem dX14_sameName_61 : decode cX14_sameName 61 = .ok (.getfield 36, 3) := dk_180 0 36 (dk_at dksX14_sameName_2 14 rfl rfl)
theorem dX14_sameName_64 : decode cX14_sameName 64 = .ok (.iload_n 2, 1) := dk_28 (dk_at dksX14_sameName_2 17 rfl rfl)
theorem dX14_sameName_65 : decode cX14_sameName 65 = .ok (.iaload, 1) := dk_46 (dk_at dksX14_sameName_2 18 rfl rfl)
theorem dX14_sameName_66 : decode cX14_sameName 66 = .ok (.iload 4, 2) := dk_21 4 (dk_at dksX14_sameName_2 19 rfl rfl)
theorem dX14_sameName_68 : decode cX14_sameName 68 = .ok (.iadd, 1) := dk_96 (dk_at dksX14_sameName_2 21 rfl rfl)
theorem dX14_sameName_69 : decode cX14_sameName 69 = .ok (.iaload, 1) := dk_46 (dk_at dksX14_sameName_2 22 rfl rfl)
theorem dX14_sameName_70 : decode cX14_sameName 70 = .ok (.if_icmp .eq 5, 3) := dk_159 0 5 (dk_at dksX14_sameName_3 0 rfl rfl)
theorem dX14_sameName_73 : decode cX14_sameName 73 = .ok (.iconst 0, 1) := dk_3 (dk_at dksX14_sameName_3 3 rfl rfl)
theorem dX14_sameName_74 : decode cX14_sameName 74 = .ok (.ireturn, 1) := dk_172 (dk_at dksX14_sameName_3 4 rfl rfl)
theorem dX14_sameName_75 : decode cX14_sameName 75 = .ok (.iinc 4 1, 3) := dk_132 4 1 (dk_at dksX14_sameName_3 5 rfl rfl)
theorem dX14_sameName_78 : decode cX14_sameName 78 = .ok (.goto (-42), 3) := dk_167 255 214 (dk_at dksX14_sameName_3 8 rfl rfl)
theorem dX14_sameName_81 : decode cX14_sameName 81 = .ok (.iconst 1, 1) := dk_4 (dk_at dksX14_sameName_3 11 rfl rfl)
theorem dX14_sameName_82 : decode cX14_sameName 82 = .ok (.ireturn, 1) := dk_172 (dk_at dksX14_sameName_3 12 rfl rfl)
