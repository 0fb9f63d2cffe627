set_option maxRecDepth 100000
abbrev cX14_first : ByteArray := prog_15_method_63_code
def yX14_first : MethodName := ⟨RX14, "first", "(I)V"⟩
def dkwX14_first_1 : List UInt8 := [181, 2, 79, 177]
abbrev dktX14_first_1 : List UInt8 := dkwX14_first_1 ++ []
def dkwX14_first_0 : List UInt8 := [42, 42, 180, 2, 79, 155, 0, 11, 27, 42, 180, 2, 79, 162, 0, 7, 27, 167, 0, 7, 42, 180, 2, 79]
abbrev dktX14_first_0 : List UInt8 := dkwX14_first_0 ++ dktX14_first_1
theorem dksX14_first_0 : cX14_first.data.toList.drop 0 = dktX14_first_0 := by decide +kernel
theorem dksX14_first_1 : cX14_first.data.toList.drop 24 = dktX14_first_1 := dk_seg dksX14_first_0 24 rfl rfl
theorem dX14_first_0 : decode cX14_first 0 = .ok (.aload_n 0, 1) := dk_42 (dk_at dksX14_first_0 0 rfl rfl)
theorem dX14_first_1 : decode cX14_first 1 = .ok (.aload_n 0, 1) := dk_42 (dk_at dksX14_first_0 1 rfl rfl)
theorem dX14_first_2 : decode cX14_first 2 = .ok (.getfield 591, 3) := dk_180 2 79 (dk_at dksX14_first_0 2 rfl rfl)
theorem dX14_first_5 : decode cX14_first 5 = .ok (.ifCond .lt 11, 3) := dk_155 0 11 (dk_at dksX14_first_0 5 rfl rfl)
theorem dX14_first_8 : decode cX14_first 8 = .ok (.iload_n 1, 1) := dk_27 (dk_at dksX14_first_0 8 rfl rfl)
theorem dX14_first_9 : decode cX14_first 9 = .ok (.aload_n 0, 1) := dk_42 (dk_at dksX14_first_0 9 rfl rfl)
theorem dX14_first_10 : decode cX14_first 10 = .ok (.getfield 591, 3) := dk_180 2 79 (dk_at dksX14_first_0 10 rfl rfl)
theorem dX14_first_13 : decode cX14_first 13 = .ok (.if_icmp .ge 7, 3) := dk_162 0 7 (dk_at dksX14_first_0 13 rfl rfl)
theorem dX14_first_16 : decode cX14_first 16 = .ok (.iload_n 1, 1) := dk_27 (dk_at dksX14_first_0 16 rfl rfl)
theorem dX14_first_17 : decode cX14_first 17 = .ok (.goto 7, 3) := dk_167 0 7 (dk_at dksX14_first_0 17 rfl rfl)
theorem dX14_first_20 : decode cX14_first 20 = .ok (.aload_n 0, 1) := dk_42 (dk_at dksX14_first_0 20 rfl rfl)
theorem dX14_first_21 : decode cX14_first 21 = .ok (.getfield 591, 3) := dk_180 2 79 (dk_at dksX14_first_0 21 rfl rfl)
theorem dX14_first_24 : decode cX14_first 24 = .ok (.putfield 591, 3) := dk_181 2 79 (dk_at dksX14_first_1 0 rfl rfl)
theorem dX14_first_27 : decode cX14_first 27 = .ok (.return_, 1) := dk_177 (dk_at dksX14_first_1 3 rfl rfl)
abbrev cX14_compareNumbers : ByteArray := prog_15_method_40_code
def yX14_compareNumbers : MethodName := ⟨RX14, "compareNumbers", "(II)I"⟩
def dkwX14_compareNumbers_8 : List UInt8 := [172, 132, 5, 1, 167, 255, 174, 3, 172]
abbrev dktX14_compareNumbers_8 : List UInt8 := dkwX14_compareNumbers_8 ++ []
def dkwX14_compareNumbers_7 : List UInt8 := [96, 46, 42, 180, 0, 199, 42, 180, 0, 193, 28, 46, 21, 5, 96, 46, 162, 0, 7, 2, 167, 0, 4, 4]
abbrev dktX14_compareNumbers_7 : List UInt8 := dkwX14_compareNumbers_7 ++ dktX14_compareNumbers_8
def dkwX14_compareNumbers_6 : List UInt8 := [180, 0, 193, 28, 46, 21, 5, 96, 46, 159, 0, 40, 42, 180, 0, 199, 42, 180, 0, 193, 27, 46, 21, 5]
abbrev dktX14_compareNumbers_6 : List UInt8 := dkwX14_compareNumbers_6 ++ dktX14_compareNumbers_7
def dkwX14_compareNumbers_5 : List UInt8 := [46, 162, 0, 77, 42, 180, 0, 199, 42, 180, 0, 193, 27, 46, 21, 5, 96, 46, 42, 180, 0, 199, 42]
abbrev dktX14_compareNumbers_5 : List UInt8 := dkwX14_compareNumbers_5 ++ dktX14_compareNumbers_6
def dkwX14_compareNumbers_4 : List UInt8 := [167, 0, 4, 3, 29, 159, 0, 7, 2, 167, 0, 4, 4, 172, 3, 54, 5, 21, 5, 42, 180, 0, 196, 27]
abbrev dktX14_compareNumbers_4 : List UInt8 := dkwX14_compareNumbers_4 ++ dktX14_compareNumbers_5
def dkwX14_compareNumbers_3 : List UInt8 := [180, 0, 196, 28, 46, 159, 0, 33, 42, 180, 0, 196, 27, 46, 42, 180, 0, 196, 28, 46, 162, 0, 7, 4]
abbrev dktX14_compareNumbers_3 : List UInt8 := dkwX14_compareNumbers_3 ++ dktX14_compareNumbers_4
def dkwX14_compareNumbers_2 : List UInt8 := [21, 4, 159, 0, 13, 29, 153, 0, 7, 2, 167, 0, 4, 4, 172, 42, 180, 0, 196, 27, 46, 42]
abbrev dktX14_compareNumbers_2 : List UInt8 := dkwX14_compareNumbers_2 ++ dktX14_compareNumbers_3
def dkwX14_compareNumbers_1 : List UInt8 := [180, 0, 199, 42, 180, 0, 193, 28, 46, 46, 16, 127, 164, 0, 7, 4, 167, 0, 4, 3, 54, 4, 29]
abbrev dktX14_compareNumbers_1 : List UInt8 := dkwX14_compareNumbers_1 ++ dktX14_compareNumbers_2
def dkwX14_compareNumbers_0 : List UInt8 := [42, 180, 0, 199, 42, 180, 0, 193, 27, 46, 46, 16, 127, 164, 0, 7, 4, 167, 0, 4, 3, 62, 42]
abbrev dktX14_compareNumbers_0 : List UInt8 := dkwX14_compareNumbers_0 ++ dktX14_compareNumbers_1
theorem dksX14_compareNumbers_0 : cX14_compareNumbers.data.toList.drop 0 = dktX14_compareNumbers_0 := by decide +kernel
theorem dksX14_compareNumbers_1 : cX14_compareNumbers.data.toList.drop 23 = dktX14_compareNumbers_1 := dk_seg dksX14_compareNumbers_0 23 rfl rfl
theorem dksX14_compareNumbers_2 : cX14_compareNumbers.data.toList.drop 46 = dktX14_compareNumbers_2 := dk_seg dksX14_compareNumbers_1 23 rfl rfl
theorem dksX14_compareNumbers_3 : cX14_compareNumbers.data.toList.drop 68 = dktX14_compareNumbers_3 := dk_seg dksX14_compareNumbers_2 22 rfl rfl
theorem dksX14_compareNumbers_4 : cX14_compareNumbers.data.toList.drop 92 = dktX14_compareNumbers_4 := dk_seg dksX14_compareNumbers_3 24 rfl rfl
theorem dksX14_compareNumbers_5 : cX14_compareNumbers.data.toList.drop 116 = dktX14_compareNumbers_5 := dk_seg dksX14_compareNumbers_4 24 rfl rfl
theorem dksX14_compareNumbers_6 : cX14_compareNumbers.data.toList.drop 139 = dktX14_compareNumbers_6 := dk_seg dksX14_compareNumbers_5 23 rfl rfl
theorem dksX14_compareNumbers_7 : cX14_compareNumbers.data.toList.drop 163 = dktX14_compareNumbers_7 := dk_seg dksX14_compareNumbers_6 24 rfl rfl
theorem dksX14_compareNumbers_8 : cX14_compareNumbers.data.toList.drop 187 = dktX14_compareNumbers_8 := dk_seg dksX14_compareNumbers_7 24 rfl rfl
theorem dX14_compareNumbers_0 : decode cX14_compareNumbers 0 = .ok (.aload_n 0, 1) := dk_42 (dk_at dksX14_compareNumbers_0 0 rfl rfl)
theorem dX14_compareNumbers_1 : decode cX14_compareNumbers 1 = .ok (.getfield 199, 3) := dk_180 0 199 (dk_at dksX14_compareNumbers_0 1 rfl rfl)
theorem dX14_compareNumbers_4 : decode cX14_compareNumbers 4 = .ok (.aload_n 0, 1) := dk_42 (dk_at dksX14_compareNumbers_0 4 rfl rfl)
theorem dX14_compareNumbers_5 : decode cX14_compareNumbers 5 = .ok (.getfield 193, 3) := dk_180 0 193 (dk_at dksX14_compareNumbers_0 5 rfl rfl)
theorem dX14_compareNumbers_8 : decode cX14_compareNumbers 8 = .ok (.iload_n 1, 1) := dk_27 (dk_at dksX14_compareNumbers_0 8 rfl rfl)
theorem dX14_compareNumbers_9 : decode cX14_compareNumbers 9 = .ok (.iaload, 1) := dk_46 (dk_at dksX14_compareNumbers_0 9 rfl rfl)
theorem dX14_compareNumbers_10 : decode cX14_compareNumbers 10 = .ok (.iaload, 1) := dk_46 (dk_at dksX14_compareNumbers_0 10 rfl rfl)
theorem dX14_compareNumbers_11 : decode cX14_compareNumbers 11 = .ok (.bipush 127, 2) := dk_16 127 (dk_at dksX14_compareNumbers_0 11 rfl rfl)
theorem dX14_compareNumbers_13 : decode cX14_compareNumbers 13 = .ok (.if_icmp .le 7, 3) := dk_164 0 7 (dk_at dksX14_compareNumbers_0 13 rfl rfl)
theorem dX14_compareNumbers_16 : decode cX14_compareNumbers 16 = .ok (.iconst 1, 1) := dk_4 (dk_at dksX14_compareNumbers_0 16 rfl rfl)
theorem dX14_compareNumbers_17 : decode cX14_compareNumbers 17 = .ok (.goto 4, 3) := dk_167 0 4 (dk_at dksX14_compareNumbers_0 17 rfl rfl)
theorem dX14_compareNumbers_20 : decode cX14_compareNumbers 20 = .ok (.iconst 0, 1) := dk_3 (dk_at dksX14_compareNumbers_0 20 rfl rfl)
theorem dX14_compareNumbers_21 : decode cX14_compareNumbers 21 = .ok (.istore_n 3, 1) := dk_62 (dk_at dksX14_compareNumbers_0 21 rfl rfl)
theorem dX14_compareNumbers_22 : decode cX14_compareNumbers 22 = .ok (.aload_n 0, 1) := dk_42 (dk_at dksX14_compareNumbers_0 22 rfl rfl)
theorem dX14_compareNumbers_23 : decode cX14_compareNumbers 23 = .ok (.getfield 199, 3) := dk_180 0 199 (dk_at dksX14_compareNumbers_1 0 rfl rfl)
theorem dX14_compareNumbers_26 : decode cX14_compareNumbers 26 = .ok (.aload_n 0, 1) := dk_42 (dk_at dksX14_compareNumbers_1 3 rfl rfl)
theorem dX14_compareNumbers_27 : decode cX14_compareNumbers 27 = .ok (.getfield 193, 3) := dk_180 0 193 (dk_at dksX14_compareNumbers_1 4 rfl rfl)
theorem dX14_compareNumbers_30 : decode cX14_compareNumbers 30 = .ok (.iload_n 2, 1) := dk_28 (dk_at dksX14_compareNumbers_1 7 rfl rfl)
theorem dX14_compareNumbers_31 : decode cX14_compareNumbers 31 = .ok (.iaload, 1) := dk_46 (dk_at dksX14_compareNumbers_1 8 rfl rfl)
theorem dX14_compareNumbers_32 : decode cX14_compareNumbers 32 = .ok (.iaload, 1) := dk_46 (dk_at dksX14_compareNumbers_1 9 rfl rfl)
theorem dX14_compareNumbers_33 : decode cX14_compareNumbers 33 = .ok (.bipush 127, 2) := dk_16 127 (dk_at dksX14_compareNumbers_1 10 rfl rfl)
theorem dX14_compareNumbers_35 : decode cX14_compareNumbers 35 = .ok (.if_icmp .le 7, 3) := dk_164 0 7 (dk_at dksX14_compareNumbers_1 12 rfl rfl)
theorem dX14_compareNumbers_38 : decode cX14_compareNumbers 38 = .ok (.iconst 1, 1) := dk_4 (dk_at dksX14_compareNumbers_1 15 rfl rfl)
theorem dX14_compareNumbers_39 : decode cX14_compareNumbers 39 = .ok (.goto 4, 3) := dk_167 0 4 (dk_at dksX14_compareNumbers_1 16 rfl rfl)
theorem dX14_compareNumbers_42 : decode cX14_compareNumbers 42 = .ok (.iconst 0, 1) := dk_3 (dk_at dksX14_compareNumbers_1 19 rfl rfl)
theorem dX14_compareNumbers_43 : decode cX14_compareNumbers 43 = .ok (.istore 4, 2) := dk_54 4 (dk_at dksX14_compareNumbers_1 20 rfl rfl)
theorem dX14_compareNumbers_45 : decode cX14_compareNumbers 45 = .ok (.iload_n 3, 1) := dk_29 (dk_at dksX14_compareNumbers_1 22 rfl rfl)
theorem dX14_compareNumbers_46 : decode cX14_compareNumbers 46 = .ok (.iload 4, 2) := dk_21 4 (dk_at dksX14_compareNumbers_2 0 rfl rfl)
theorem dX14_compareNumbers_48 : decode cX14_compareNumbers 48 = .ok (.if_icmp .eq 13, 3) := dk_159 0 13 (dk_at dksX14_compareNumbers_2 2 rfl rfl)
theorem dX14_compareNumbers_51 : decode cX14_compareNumbers 51 = .ok (.iload_n 3, 1) := dk_29 (dk_at dksX14_compareNumbers_2 5 rfl rfl)
theorem dX14_compareNumbers_52 : decode cX14_compareNumbers 52 = .ok (.ifCond .eq 7, 3) := dk_153 0 7 (dk_at dksX14_compareNumbers_2 6 rfl rfl)
theorem dX14_compareNumbers_55 : decode cX14_compareNumbers 55 = .ok (.iconst (-1), 1) := dk_2 (dk_at dksX14_compareNumbers_2 9 rfl rfl)
theorem dX14_compareNumbers_56 : decode cX14_compareNumbers 56 = .ok (.goto 4, 3) := dk_167 0 4 (dk_at dksX14_compareNumbers_2 10 rfl rfl)
theorem dX14_compareNumbers_59 : decode cX14_compareNumbers 59 = .ok (.iconst 1, 1) := dk_4 (dk_at dksX14_compareNumbers_2 13 rfl rfl)
theorem dX14_compareNumbers_60 : decode cX14_compareNumbers 60 = .ok (.ireturn, 1) := dk_172 (dk_at dksX14_compareNumbers_2 14 rfl rfl)
theorem dX14_compareNumbers_61 : decode cX14_compareNumbers 61 = .ok (.aload_n 0, 1) := dk_42 (dk_at dksX14_compareNumbers_2 15 rfl rfl)
theorem dX14_compareNumbers_62 : decode cX14_compareNumbers 62 = .ok (.getfield 196, 3) := dk_180 0 196 (dk_at dksX14_compareNumbers_2 16 rfl rfl)
theorem dX14_compareNumbers_65 : decode cX14_compareNumbers 65 = .ok (.iload_n 1, 1) := dk_27 (dk_at dksX14_compareNumbers_2 19 rfl rfl)
theorem dX14_compareNumbers_66 : decode cX14_compareNumbers 66 = .ok (.iaload, 1) := dk_46 (dk_at dksX14_compareNumbers_2 20 rfl rfl)
theorem dX14_compareNumbers_67 : decode cX14_compareNumbers 67 = .ok (.aload_n 0, 1) := dk_42 (dk_at dksX14_compareNumbers_2 21 rfl rfl)
theorem dX14_compareNumbers_68 : decode cX14_compareNumbers 68 = .ok (.getfield 196, 3) := dk_180 0 196 (dk_at dksX14_compareNumbers_3 0 rfl rfl)
theorem dX14_compareNumbers_71 : decode cX14_compareNumbers 71 = .ok (.iload_n 2, 1) := dk_28 (dk_at dksX14_compareNumbers_3 3 rfl rfl)
theorem dX14_compareNumbers_72 : decode cX14_compareNumbers 72 = .ok (.iaload, 1) := dk_46 (dk_at dksX14_compareNumbers_3 4 rfl rfl)
theorem dX14_compareNumbers_73 : decode cX14_compareNumbers 73 = .ok (.if_icmp .eq 33, 3) := dk_159 0 33 (dk_at dksX14_compareNumbers_3 5 rfl rfl)
theorem dX14_compareNumbers_76 : decode cX14_compareNumbers 76 = .ok (.aload_n 0, 1) := dk_42 (dk_at dksX14_compareNumbers_3 8 rfl rfl)
theorem dX14_compareNumbers_77 : decode cX14_compareNumbers 77 = .ok (.getfield 196, 3) := dk_180 0 196 (dk_at dksX14_compareNumbers_3 9 rfl rfl)
theorem dX14_compareNumbers_80 : decode cX14_compareNumbers 80 = .ok (.iload_n 1, 1) := dk_27 (dk_at dksX14_compareNumbers_3 12 rfl rfl)
theorem dX14_compareNumbers_81 : decode cX14_compareNumbers 81 = .ok (.iaload, 1) := dk_46 (dk_at dksX14_compareNumbers_3 13 rfl rfl)
theorem dX14_compareNumbers_82 : decode cX14_compareNumbers 82 = .ok (.aload_n 0, 1) := dk_42 (dk_at dksX14_compareNumbers_3 14 rfl rfl)
theorem dX14_compareNumbers_83 : decode cX14_compareNumbers 83 = .ok (.getfield 196, 3) := dk_180 0 196 (dk_at dksX14_compareNumbers_3 15 rfl rfl)
theorem dX14_compareNumbers_86 : decode cX14_compareNumbers 86 = .ok (.iload_n 2, 1) := dk_28 (dk_at dksX14_compareNumbers_3 18 rfl rfl)
theorem dX14_compareNumbers_87 : decode cX14_compareNumbers 87 = .ok (.iaload, 1) := dk_46 (dk_at dksX14_compareNumbers_3 19 rfl rfl)
theorem dX14_compareNumbers_88 : decode cX14_compareNumbers 88 = .ok (.if_icmp .ge 7, 3) := dk_162 0 7 (dk_at dksX14_compareNumbers_3 20 rfl rfl)
theorem dX14_compareNumbers_91 : decode cX14_compareNumbers 91 = .ok (.iconst 1, 1) := dk_4 (dk_at dksX14_compareNumbers_3 23 rfl rfl)
theorem dX14_compareNumbers_92 : decode cX14_compareNumbers 92 = .ok (.goto 4, 3) := dk_167 0 4 (dk_at dksX14_compareNumbers_4 0 rfl rfl)
theorem dX14_compareNumbers_95 : decode cX14_compareNumbers 95 = .ok (.iconst 0, 1) := dk_3 (dk_at dksX14_compareNumbers_4 3 rfl rfl)
theorem dX14_compareNumbers_96 : decode cX14_compareNumbers 96 = .ok (.iload_n 3, 1) := dk_29 (dk_at dksX14_compareNumbers_4 4 rfl rfl)
theorem dX14_compareNumbers_97 : decode cX14_compareNumbers 97 = .ok (.if_icmp .eq 7, 3) := dk_159 0 7 (dk_at dksX14_compareNumbers_4 5 rfl rfl)
theorem dX14_compareNumbers_100 : decode cX14_compareNumbers 100 = .ok (.iconst (-1), 1) := dk_2 (dk_at dksX14_compareNumbers_4 8 rfl rfl)
theorem dX14_compareNumbers_101 : decode cX14_compareNumbers 101 = .ok (.goto 4, 3) := dk_167 0 4 (dk_at dksX14_compareNumbers_4 9 rfl rfl)
theorem dX14_compareNumbers_104 : decode cX14_compareNumbers 104 = .ok (.iconst 1, 1) := dk_4 (dk_at dksX14_compareNumbers_4 12 rfl rfl)
theorem dX14_compareNumbers_105 : decode cX14_compareNumbers 105 = .ok (.ireturn, 1) := dk_172 (dk_at dksX14_compareNumbers_4 13 rfl rfl)
theorem dX14_compareNumbers_106 : decode cX14_compareNumbers 106 = .ok (.iconst 0, 1) := dk_3 (dk_at dksX14_compareNumbers_4 14 rfl rfl)
theorem dX14_compareNumbers_107 : decode cX14_compareNumbers 107 = .ok (.istore 5, 2) := dk_54 5 (dk_at dksX14_compareNumbers_4 15 rfl rfl)
theorem dX14_compareNumbers_109 : decode cX14_compareNumbers 109 = .ok (.iload 5, 2) := dk_21 5 (dk_at dksX14_compareNumbers_4 17 rfl rfl)
theorem dX14_compareNumbers_111 : decode cX14_compareNumbers 111 = .ok (.aload_n 0, 1) := dk_42 (dk_at dksX14_compareNumbers_4 19 rfl rfl)
theorem dX14_compareNumbers_112 : decode cX14_compareNumbers 112 = .ok (.getfield 196, 3) := dk_180 0 196 (dk_at dksX14_compareNumbers_4 20 rfl rfl)
theorem dX14_compareNumbers_115 : decode cX14_compareNumbers 115 = .ok (.iload_n 1, 1) := dk_27 (dk_at dksX14_compareNumbers_4 23 rfl rfl)
theorem dX14_compareNumbers_116 : decode cX14_compareNumbers 116 = .ok (.iaload, 1) := dk_46 (dk_at dksX14_compareNumbers_5 0 rfl rfl)
theorem dX14_compareNumbers_117 : decode cX14_compareNumbers 117 = .ok (.if_icmp .ge 77, 3) := dk_162 0 77 (dk_at dksX14_compareNumbers_5 1 rfl rfl)
theorem dX14_compareNumbers_120 : decode cX14_compareNumbers 120 = .ok (.aload_n 0, 1) := dk_42 (dk_at dksX14_compareNumbers_5 4 rfl rfl)
theorem dX14_compareNumbers_121 : decode cX14_compareNumbers 121 = .ok (.getfield 199, 3) := dk_180 0 199 (dk_at dksX14_compareNumbers_5 5 rfl rfl)
theorem dX14_compareNumbers_124 : decode cX14_compareNumbers 124 = .ok (.aload_n 0, 1) := dk_42 (dk_at dksX14_compareNumbers_5 8 rfl rfl)
theorem dX14_compareNumbers_125 : decode cX14_compareNumbers 125 = .ok (.getfield 193, 3) := dk_180 0 193 (dk_at dksX14_compareNumbers_5 9 rfl rfl)
theorem dX14_compareNumbers_128 : decode cX14_compareNumbers 128 = .ok (.iload_n 1, 1) := dk_27 (dk_at dksX14_compareNumbers_5 12 rfl rfl)
theorem dX14_compareNumbers_129 : decode cX14_compareNumbers 129 = .ok (.iaload, 1) := dk_46 (dk_at dksX14_compareNumbers_5 13 rfl rfl)
theorem dX14_compareNumbers_130 : decode cX14_compareNumbers 130 = .ok (.iload 5, 2) := dk_21 5 (dk_at dksX14_compareNumbers_5 14 rfl rfl)
theorem dX14_compareNumbers_132 : decode cX14_compareNumbers 132 = .ok (.iadd, 1) := dk_96 (dk_at dksX14_compareNumbers_5 16 rfl rfl)
theorem dX14_compareNumbers_133 : decode cX14_compareNumbers 133 = .ok (.iaload, 1) := dk_46 (dk_at dksX14_compareNumbers_5 17 rfl rfl)
theorem dX14_compareNumbers_134 : decode cX14_compareNumbers 134 = .ok (.aload_n 0, 1) := dk_42 (dk_at dksX14_compareNumbers_5 18 rfl rfl)
theorem dX14_compareNumbers_135 : decode cX14_compareNumbers 135 = .ok (.getfield 199, 3) := dk_180 0 199 (dk_at dksX14_compareNumbers_5 19 rfl rfl)
theorem dX14_compareNumbers_138 : decode cX14_compareNumbers 138 = .ok (.aload_n 0, 1) := dk_42 (dk_at dksX14_compareNumbers_5 22 rfl rfl)
theorem dX14_compareNumbers_139 : decode cX14_compareNumbers 139 = .ok (.getfield 193, 3) := dk_180 0 193 (dk_at dksX14_compareNumbers_6 0 rfl rfl)
theorem dX14_compareNumbers_142 : decode cX14_compareNumbers 142 = .ok (.iload_n 2, 1) := dk_28 (dk_at dksX14_compareNumbers_6 3 rfl rfl)
theorem dX14_compareNumbers_143 : decode cX14_compareNumbers 143 = .ok (.iaload, 1) := dk_46 (dk_at dksX14_compareNumbers_6 4 rfl rfl)
theorem dX14_compareNumbers_144 : decode cX14_compareNumbers 144 = .ok (.iload 5, 2) := dk_21 5 (dk_at dksX14_compareNumbers_6 5 rfl rfl)
theorem dX14_compareNumbers_146 : decode cX14_compareNumbers 146 = .ok (.iadd, 1) := dk_96 (dk_at dksX14_compareNumbers_6 7 rfl rfl)
theorem dX14_compareNumbers_147 : decode cX14_compareNumbers 147 = .ok (.iaload, 1) := dk_46 (dk_at dksX14_compareNumbers_6 8 rfl rfl)
theorem dX14_compareNumbers_148 : decode cX14_compareNumbers 148 = .ok (.if_icmp .eq 40, 3) := dk_159 0 40 (dk_at dksX14_compareNumbers_6 9 rfl rfl)
theorem dX14_compareNumbers_151 : decode cX14_compareNumbers 151 = .ok (.aload_n 0, 1) := dk_42 (dk_at dksX14_compareNumbers_6 12 rfl rfl)
theorem dX14_compareNumbers_152 : decode cX14_compareNumbers 152 = .ok (.getfield 199, 3) := dk_180 0 199 (dk_at dksX14_compareNumbers_6 13 rfl rfl)
theorem dX14_compareNumbers_155 : decode cX14_compareNumbers 155 = .ok (.aload_n 0, 1) := dk_42 (dk_at dksX14_compareNumbers_6 16 rfl rfl)
theorem dX14_compareNumbers_156 : decode cX14_compareNumbers 156 = .ok (.getfield 193, 3) := dk_180 0 193 (dk_at dksX14_compareNumbers_6 17 rfl rfl)
theorem dX14_compareNumbers_159 : decode cX14_compareNumbers 159 = .ok (.iload_n 1, 1) := dk_27 (dk_at dksX14_compareNumbers_6 20 rfl rfl)
theorem dX14_compareNumbers_160 : decode cX14_compareNumbers 160 = .ok (.iaload, 1) := dk_46 (dk_at dksX14_compareNumbers_6 21 rfl rfl)
theorem dX14_compareNumbers_161 : decode cX14_compareNumbers 161 = .ok (.iload 5, 2) := dk_21 5 (dk_at dksX14_compareNumbers_6 22 rfl rfl)
theorem dX14_compareNumbers_163 : decode cX14_compareNumbers 163 = .ok (.iadd, 1) := dk_96 (dk_at dksX14_compareNumbers_7 0 rfl rfl)
theorem dX14_compareNumbers_164 : decode cX14_compareNumbers 164 = .ok (.iaload, 1) := dk_46 (dk_at dksX14_compareNumbers_7 1 rfl rfl)
theorem dX14_compareNumbers_165 : decode cX14_compareNumbers 165 = .ok (.aload_n 0, 1) := dk_42 (dk_at dksX14_compareNumbers_7 2 rfl rfl)
theorem dX14_compareNumbers_166 : decode cX14_compareNumbers 166 = .ok (.getfield 199, 3) := dk_180 0 199 (dk_at dksX14_compareNumbers_7 3 rfl rfl)
theorem dX14_compareNumbers_169 : decode cX14_compareNumbers 169 = .ok (.aload_n 0, 1) := dk_42 (dk_at dksX14_compareNumbers_7 6 rfl rfl)
theorem dX14_compareNumbers_170 : decode cX14_compareNumbers 170 = .ok (.getfield 193, 3) := dk_180 0 193 (dk_at dksX14_compareNumbers_7 7 rfl rfl)
theorem dX14_compareNumbers_173 : decode cX14_compareNumbers 173 = .ok (.iload_n 2, 1) := dk_28 (dk_at dksX14_compareNumbers_7 10 rfl rfl)
theorem dX14_compareNumbers_174 : decode cX14_compareNumbers 174 = .ok (.iaload, 1) := dk_46 (dk_at dksX14_compareNumbers_7 11 rfl rfl)
theorem dX14_compareNumbers_175 : decode cX14_compareNumbers 175 = .ok (.iload 5, 2) := dk_21 5 (dk_at dksX14_compareNumbers_7 12 rfl rfl)
theorem dX14_compareNumbers_177 : decode cX14_compareNumbers 177 = .ok (.iadd, 1) := dk_96 (dk_at dksX14_compareNumbers_7 14 rfl rfl)
theorem dX14_compareNumbers_178 : decode cX14_compareNumbers 178 = .ok (.iaload, 1) := dk_46 (dk_at dksX14_compareNumbers_7 15 rfl rfl)
theorem dX14_compareNumbers_179 : decode cX14_compareNumbers 179 = .ok (.if_icmp .ge 7, 3) := dk_162 0 7 (dk_at dksX14_compareNumbers_7 16 rfl rfl)
theorem dX14_compareNumbers_182 : decode cX14_compareNumbers 182 = .ok (.iconst (-1), 1) := dk_2 (dk_at dksX14_compareNumbers_7 19 rfl rfl)
theorem dX14_compareNumbers_183 : decode cX14_compareNumbers 183 = .ok (.goto 4, 3) := dk_167 0 4 (dk_at dksX14_compareNumbers_7 20 rfl rfl)
theorem dX14_compareNumbers_186 : decode cX14_compareNumbers 186 = .ok (.iconst 1, 1) := dk_4 (dk_at dksX14_compareNumbers_7 23 rfl rfl)
theorem dX14_compareNumbers_187 : decode cX14_compareNumbers 187 = .ok (.ireturn, 1) := dk_172 (dk_at dksX14_compareNumbers_8 0 rfl rfl)
theorem dX14_compareNumbers_188 : decode cX14_compareNumbers 188 = .ok (.iinc 5 1, 3) := dk_132 5 1 (dk_at dksX14_compareNumbers_8 1 rfl rfl)
theorem dX14_compareNumbers_191 : decode cX14_compareNumbers 191 = .ok (.goto (-82), 3) := dk_167 255 174 (dk_at dksX14_compareNumbers_8 4 rfl rfl)
theorem dX14_compareNumbers_194 : decode cX14_compareNumbers 194 = .ok (.iconst 0, 1) := dk_3 (dk_at dksX14_compareNumbers_8 7 rfl rfl)
theorem dX14_compareNumbers_195 : decode cX14_compareNumbers 195 = .ok (.ireturn, 1) := dk_172 (dk_at dksX14_compareNumbers_8 8 rfl rfl)
abbrev cX14_told : ByteArray := prog_15_method_64_code
def yX14_told : MethodName := ⟨RX14, "told", "(I)V"⟩
def dkwX14_told_0 : List UInt8 := [42, 180, 2, 79, 155, 0, 12, 42, 27, 42, 180, 2, 79, 182, 1, 158, 42, 2, 181, 2, 79, 177]
abbrev dktX14_told_0 : List UInt8 := dkwX14_told_0 ++ []
theorem dksX14_told_0 : cX14_told.data.toList.drop 0 = dktX14_told_0 := by decide +kernel
theorem dX14_told_0 : decode cX14_told 0 = .ok (.aload_n 0, 1) := dk_42 (dk_at dksX14_told_0 0 rfl rfl)
theorem dX14_told_1 : decode cX14_told 1 = .ok (.getfield 591, 3) := dk_180 2 79 (dk_at dksX14_told_0 1 rfl rfl)
theorem dX14_told_4 : decode cX14_told 4 = .ok (.ifCond .lt 12, 3) := dk_155 0 12 (dk_at dksX14_told_0 4 rfl rfl)
theorem dX14_told_7 : decode cX14_told 7 = .ok (.aload_n 0, 1) := dk_42 (dk_at dksX14_told_0 7 rfl rfl)
theorem dX14_told_8 : decode cX14_told 8 = .ok (.iload_n 1, 1) := dk_27 (dk_at dksX14_told_0 8 rfl rfl)
theorem dX14_told_9 : decode cX14_told 9 = .ok (.aload_n 0, 1) := dk_42 (dk_at dksX14_told_0 9 rfl rfl)
theorem dX14_told_10 : decode cX14_told 10 = .ok (.getfield 591, 3) := dk_180 2 79 (dk_at dksX14_told_0 10 rfl rfl)
theorem dX14_told_13 : decode cX14_told 13 = .ok (.invokevirtual 414, 3) := dk_182 1 158 (dk_at dksX14_told_0 13 rfl rfl)
theorem dX14_told_16 : decode cX14_told 16 = .ok (.aload_n 0, 1) := dk_42 (dk_at dksX14_told_0 16 rfl rfl)
theorem dX14_told_17 : decode cX14_told 17 = .ok (.iconst (-1), 1) := dk_2 (dk_at dksX14_told_0 17 rfl rfl)
theorem dX14_told_18 : decode cX14_told 18 = .ok (.putfield 591, 3) := dk_181 2 79 (dk_at dksX14_told_0 18 rfl rfl)
theorem dX14_told_21 : decode cX14_told 21 = .ok (.return_, 1) := dk_177 (dk_at dksX14_told_0 21 rfl rfl)
abbrev cX14_countItems : ByteArray := prog_15_method_66_code
def yX14_countItems : MethodName := ⟨RX14, "countItems", "()V"⟩
def dkwX14_countItems_4 : List UInt8 := [132, 1, 1, 167, 255, 163, 177]
abbrev dktX14_countItems_4 : List UInt8 := dkwX14_countItems_4 ++ []
def dkwX14_countItems_3 : List UInt8 := [54, 4, 167, 255, 236, 42, 180, 0, 97, 29, 21, 4, 79, 132, 2, 1, 132, 3, 1, 167, 255, 186]
abbrev dktX14_countItems_3 : List UInt8 := dkwX14_countItems_3 ++ dktX14_countItems_4
def dkwX14_countItems_2 : List UInt8 := [182, 2, 94, 54, 4, 42, 27, 21, 4, 182, 2, 97, 153, 0, 16, 132, 2, 1, 42, 28, 182, 2, 94]
abbrev dktX14_countItems_2 : List UInt8 := dkwX14_countItems_2 ++ dktX14_countItems_3
def dkwX14_countItems_1 : List UInt8 := [27, 46, 42, 180, 0, 60, 27, 46, 96, 162, 0, 59, 42, 180, 0, 90, 29, 46, 156, 0, 44, 42, 28]
abbrev dktX14_countItems_1 : List UInt8 := dkwX14_countItems_1 ++ dktX14_countItems_2
def dkwX14_countItems_0 : List UInt8 := [3, 60, 27, 42, 180, 2, 5, 162, 0, 91, 3, 61, 42, 180, 0, 57, 27, 46, 62, 29, 42, 180, 0, 57]
abbrev dktX14_countItems_0 : List UInt8 := dkwX14_countItems_0 ++ dktX14_countItems_1
theorem dksX14_countItems_0 : cX14_countItems.data.toList.drop 0 = dktX14_countItems_0 := by decide +kernel
theorem dksX14_countItems_1 : cX14_countItems.data.toList.drop 24 = dktX14_countItems_1 := dk_seg dksX14_countItems_0 24 rfl rfl
theorem dksX14_countItems_2 : cX14_countItems.data.toList.drop 47 = dktX14_countItems_2 := dk_seg dksX14_countItems_1 23 rfl rfl
theorem dksX14_countItems_3 : cX14_countItems.data.toList.drop 70 = dktX14_countItems_3 := dk_seg dksX14_countItems_2 23 rfl rfl
theorem dksX14_countItems_4 : cX14_countItems.data.toList.drop 92 = dktX14_countItems_4 := dk_seg dksX14_countItems_3 22 rfl rfl
theorem dX14_countItems_0 : decode cX14_countItems 0 = .ok (.iconst 0, 1) := dk_3 (dk_at dksX14_countItems_0 0 rfl rfl)
theorem dX14_countItems_1 : decode cX14_countItems 1 = .ok (.istore_n 1, 1) := dk_60 (dk_at dksX14_countItems_0 1 rfl rfl)
theorem dX14_countItems_2 : decode cX14_countItems 2 = .ok (.iload_n 1, 1) := dk_27 (dk_at dksX14_countItems_0 2 rfl rfl)
theorem dX14_countItems_3 : decode cX14_countItems 3 = .ok (.aload_n 0, 1) := dk_42 (dk_at dksX14_countItems_0 3 rfl rfl)
theorem dX14_countItems_4 : decode cX14_countItems 4 = .ok (.getfield 517, 3) := dk_180 2 5 (dk_at dksX14_countItems_0 4 rfl rfl)
theorem dX14_countItems_7 : decode cX14_countItems 7 = .ok (.if_icmp .ge 91, 3) := dk_162 0 91 (dk_at dksX14_countItems_0 7 rfl rfl)
theorem dX14_countItems_10 : decode cX14_countItems 10 = .ok (.iconst 0, 1) := dk_3 (dk_at dksX14_countItems_0 10 rfl rfl)
theorem dX14_countItems_11 : decode cX14_countItems 11 = .ok (.istore_n 2, 1) := dk_61 (dk_at dksX14_countItems_0 11 rfl rfl)
theorem dX14_countItems_12 : decode cX14_countItems 12 = .ok (.aload_n 0, 1) := dk_42 (dk_at dksX14_countItems_0 12 rfl rfl)
theorem dX14_countItems_13 : decode cX14_countItems 13 = .ok (.getfield 57, 3) := dk_180 0 57 (dk_at dksX14_countItems_0 13 rfl rfl)
theorem dX14_countItems_16 : decode cX14_countItems 16 = .ok (.iload_n 1, 1) := dk_27 (dk_at dksX14_countItems_0 16 rfl rfl)
theorem dX14_countItems_17 : decode cX14_countItems 17 = .ok (.iaload, 1) := dk_46 (dk_at dksX14_countItems_0 17 rfl rfl)
theorem dX14_countItems_18 : decode cX14_countItems 18 = .ok (.istore_n 3, 1) := dk_62 (dk_at dksX14_countItems_0 18 rfl rfl)
theorem dX14_countItems_19 : decode cX14_countItems 19 = .ok (.iload_n 3, 1) := dk_29 (dk_at dksX14_countItems_0 19 rfl rfl)
theorem dX14_countItems_20 : decode cX14_countItems 20 = .ok (.aload_n 0, 1) := dk_42 (dk_at dksX14_countItems_0 20 rfl rfl)
theorem dX14_countItems_21 : decode cX14_countItems 21 = .ok (.getfield 57, 3) := dk_180 0 57 (dk_at dksX14_countItems_0 21 rfl rfl)
theorem dX14_countItems_24 : decode cX14_countItems 24 = .ok (.iload_n 1, 1) := dk_27 (dk_at dksX14_countItems_1 0 rfl rfl)
theorem dX14_countItems_25 : decode cX14_countItems 25 = .ok (.iaload, 1) := dk_46 (dk_at dksX14_countItems_1 1 rfl rfl)
theorem dX14_countItems_26 : decode cX14_countItems 26 = .ok (.aload_n 0, 1) := dk_42 (dk_at dksX14_countItems_1 2 rfl rfl)
theorem dX14_countItems_27 : decode cX14_countItems 27 = .ok (.getfield 60, 3) := dk_180 0 60 (dk_at dksX14_countItems_1 3 rfl rfl)
theorem dX14_countItems_30 : decode cX14_countItems 30 = .ok (.iload_n 1, 1) := dk_27 (dk_at dksX14_countItems_1 6 rfl rfl)
theorem dX14_countItems_31 : decode cX14_countItems 31 = .ok (.iaload, 1) := dk_46 (dk_at dksX14_countItems_1 7 rfl rfl)
theorem dX14_countItems_32 : decode cX14_countItems 32 = .ok (.iadd, 1) := dk_96 (dk_at dksX14_countItems_1 8 rfl rfl)
theorem dX14_countItems_33 : decode cX14_countItems 33 = .ok (.if_icmp .ge 59, 3) := dk_162 0 59 (dk_at dksX14_countItems_1 9 rfl rfl)
theorem dX14_countItems_36 : decode cX14_countItems 36 = .ok (.aload_n 0, 1) := dk_42 (dk_at dksX14_countItems_1 12 rfl rfl)
theorem dX14_countItems_37 : decode cX14_countItems 37 = .ok (.getfield 90, 3) := dk_180 0 90 (dk_at dksX14_countItems_1 13 rfl rfl)
theorem dX14_countItems_40 : decode cX14_countItems 40 = .ok (.iload_n 3, 1) := dk_29 (dk_at dksX14_countItems_1 16 rfl rfl)
theorem dX14_countItems_41 : decode cX14_countItems 41 = .ok (.iaload, 1) := dk_46 (dk_at dksX14_countItems_1 17 rfl rfl)
theorem dX14_countItems_42 : decode cX14_countItems 42 = .ok (.ifCond .ge 44, 3) := dk_156 0 44 (dk_at dksX14_countItems_1 18 rfl rfl)
theorem dX14_countItems_45 : decode cX14_countItems 45 = .ok (.aload_n 0, 1) := dk_42 (dk_at dksX14_countItems_1 21 rfl rfl)
theorem dX14_countItems_46 : decode cX14_countItems 46 = .ok (.iload_n 2, 1) := dk_28 (dk_at dksX14_countItems_1 22 rfl rfl)
theorem dX14_countItems_47 : decode cX14_countItems 47 = .ok (.invokevirtual 606, 3) := dk_182 2 94 (dk_at dksX14_countItems_2 0 rfl rfl)
theorem dX14_countItems_50 : decode cX14_countItems 50 = .ok (.istore 4, 2) := dk_54 4 (dk_at dksX14_countItems_2 3 rfl rfl)
theorem dX14_countItems_52 : decode cX14_countItems 52 = .ok (.aload_n 0, 1) := dk_42 (dk_at dksX14_countItems_2 5 rfl rfl)
theorem dX14_countItems_53 : decode cX14_countItems 53 = .ok (.iload_n 1, 1) := dk_27 (dk_at dksX14_countItems_2 6 rfl rfl)
theorem dX14_countItems_54 : decode cX14_countItems 54 = .ok (.iload 4, 2) := dk_21 4 (dk_at dksX14_countItems_2 7 rfl rfl)
theorem dX14_countItems_56 : decode cX14_countItems 56 = .ok (.invokevirtual 609, 3) := dk_182 2 97 (dk_at dksX14_countItems_2 9 rfl rfl)
theorem dX14_countItems_59 : decode cX14_countItems 59 = .ok (.ifCond .eq 16, 3) := dk_153 0 16 (dk_at dksX14_countItems_2 12 rfl rfl)
theorem dX14_countItems_62 : decode cX14_countItems 62 = .ok (.iinc 2 1, 3) := dk_132 2 1 (dk_at dksX14_countItems_2 15 rfl rfl)
theorem dX14_countItems_65 : decode cX14_countItems 65 = .ok (.aload_n 0, 1) := dk_42 (dk_at dksX14_countItems_2 18 rfl rfl)
theorem dX14_countItems_66 : decode cX14_countItems 66 = .ok (.iload_n 2, 1) := dk_28 (dk_at dksX14_countItems_2 19 rfl rfl)
theorem dX14_countItems_67 : decode cX14_countItems 67 = .ok (.invokevirtual 606, 3) := dk_182 2 94 (dk_at dksX14_countItems_2 20 rfl rfl)
theorem dX14_countItems_70 : decode cX14_countItems 70 = .ok (.istore 4, 2) := dk_54 4 (dk_at dksX14_countItems_3 0 rfl rfl)
theorem dX14_countItems_72 : decode cX14_countItems 72 = .ok (.goto (-20), 3) := dk_167 255 236 (dk_at dksX14_countItems_3 2 rfl rfl)
theorem dX14_countItems_75 : decode cX14_countItems 75 = .ok (.aload_n 0, 1) := dk_42 (dk_at dksX14_countItems_3 5 rfl rfl)
theorem dX14_countItems_76 : decode cX14_countItems 76 = .ok (.getfield 97, 3) := dk_180 0 97 (dk_at dksX14_countItems_3 6 rfl rfl)
theorem dX14_countItems_79 : decode cX14_countItems 79 = .ok (.iload_n 3, 1) := dk_29 (dk_at dksX14_countItems_3 9 rfl rfl)
theorem dX14_countItems_80 : decode cX14_countItems 80 = .ok (.iload 4, 2) := dk_21 4 (dk_at dksX14_countItems_3 10 rfl rfl)
theorem dX14_countItems_82 : decode cX14_countItems 82 = .ok (.iastore, 1) := dk_79 (dk_at dksX14_countItems_3 12 rfl rfl)
theorem dX14_countItems_83 : decode cX14_countItems 83 = .ok (.iinc 2 1, 3) := dk_132 2 1 (dk_at dksX14_countItems_3 13 rfl rfl)
theorem dX14_countItems_86 : decode cX14_countItems 86 = .ok (.iinc 3 1, 3) := dk_132 3 1 (dk_at dksX14_countItems_3 16 rfl rfl)
theorem dX14_countItems_89 : decode cX14_countItems 89 = .ok (.goto (-70), 3) := dk_167 255 186 (dk_at dksX14_countItems_3 19 rfl rfl)
theorem dX14_countItems_92 : decode cX14_countItems 92 = .ok (.iinc 1 1, 3) := dk_132 1 1 (dk_at dksX14_countItems_4 0 rfl rfl)
theorem dX14_countItems_95 : decode cX14_countItems 95 = .ok (.goto (-93), 3) := dk_167 255 163 (dk_at dksX14_countItems_4 3 rfl rfl)
theorem dX14_countItems_98 : decode cX14_countItems 98 = .ok (.return_, 1) := dk_177 (dk_at dksX14_countItems_4 6 rfl rfl)
abbrev cX14_smallNumber : ByteArray := prog_15_method_39_code
def yX14_smallNumber : MethodName := ⟨RX14, "smallNumber", "(I)I"⟩
def dkwX14_smallNumber_2 : List UInt8 := [167, 255, 220, 42, 28, 182, 1, 209, 172]
abbrev dktX14_smallNumber_2 : List UInt8 := dkwX14_smallNumber_2 ++ []
def dkwX14_smallNumber_1 : List UInt8 := [27, 16, 8, 29, 104, 122, 17, 0, 255, 126, 79, 42, 89, 180, 1, 196, 4, 96, 181, 1, 196, 132, 3, 255]
abbrev dktX14_smallNumber_1 : List UInt8 := dkwX14_smallNumber_1 ++ dktX14_smallNumber_2
def dkwX14_smallNumber_0 : List UInt8 := [42, 7, 182, 1, 206, 42, 180, 1, 196, 61, 6, 62, 29, 155, 0, 38, 42, 180, 0, 199, 42, 180, 1, 196]
abbrev dktX14_smallNumber_0 : List UInt8 := dkwX14_smallNumber_0 ++ dktX14_smallNumber_1
theorem dksX14_smallNumber_0 : cX14_smallNumber.data.toList.drop 0 = dktX14_smallNumber_0 := by decide +kernel
theorem dksX14_smallNumber_1 : cX14_smallNumber.data.toList.drop 24 = dktX14_smallNumber_1 := dk_seg dksX14_smallNumber_0 24 rfl rfl
theorem dksX14_smallNumber_2 : cX14_smallNumber.data.toList.drop 48 = dktX14_smallNumber_2 := dk_seg dksX14_smallNumber_1 24 rfl rfl
theorem dX14_smallNumber_0 : decode cX14_smallNumber 0 = .ok (.aload_n 0, 1) := dk_42 (dk_at dksX14_smallNumber_0 0 rfl rfl)
theorem dX14_smallNumber_1 : decode cX14_smallNumber 1 = .ok (.iconst 4, 1) := dk_7 (dk_at dksX14_smallNumber_0 1 rfl rfl)
theorem dX14_smallNumber_2 : decode cX14_smallNumber 2 = .ok (.invokevirtual 462, 3) := dk_182 1 206 (dk_at dksX14_smallNumber_0 2 rfl rfl)
theorem dX14_smallNumber_5 : decode cX14_smallNumber 5 = .ok (.aload_n 0, 1) := dk_42 (dk_at dksX14_smallNumber_0 5 rfl rfl)
theorem dX14_smallNumber_6 : decode cX14_smallNumber 6 = .ok (.getfield 452, 3) := dk_180 1 196 (dk_at dksX14_smallNumber_0 6 rfl rfl)
theorem dX14_smallNumber_9 : decode cX14_smallNumber 9 = .ok (.istore_n 2, 1) := dk_61 (dk_at dksX14_smallNumber_0 9 rfl rfl)
theorem dX14_smallNumber_10 : decode cX14_smallNumber 10 = .ok (.iconst 3, 1) := dk_6 (dk_at dksX14_smallNumber_0 10 rfl rfl)
theorem dX14_smallNumber_11 : decode cX14_smallNumber 11 = .ok (.istore_n 3, 1) := dk_62 (dk_at dksX14_smallNumber_0 11 rfl rfl)
theorem dX14_smallNumber_12 : decode cX14_smallNumber 12 = .ok (.iload_n 3, 1) := dk_29 (dk_at dksX14_smallNumber_0 12 rfl rfl)
theorem dX14_smallNumber_13 : decode cX14_smallNumber 13 = .ok (.ifCond .lt 38, 3) := dk_155 0 38 (dk_at dksX14_smallNumber_0 13 rfl rfl)
theorem dX14_smallNumber_16 : decode cX14_smallNumber 16 = .ok (.aload_n 0, 1) := dk_42 (dk_at dksX14_smallNumber_0 16 rfl rfl)
theorem dX14_smallNumber_17 : decode cX14_smallNumber 17 = .ok (.getfield 199, 3) := dk_180 0 199 (dk_at dksX14_smallNumber_0 17 rfl rfl)
theorem dX14_smallNumber_20 : decode cX14_smallNumber 20 = .ok (.aload_n 0, 1) := dk_42 (dk_at dksX14_smallNumber_0 20 rfl rfl)
theorem dX14_smallNumber_21 : decode cX14_smallNumber 21 = .ok (.getfield 452, 3) := dk_180 1 196 (dk_at dksX14_smallNumber_0 21 rfl rfl)
theorem dX14_smallNumber_24 : decode cX14_smallNumber 24 = .ok (.iload_n 1, 1) := dk_27 (dk_at dksX14_smallNumber_1 0 rfl rfl)
theorem dX14_smallNumber_25 : decode cX14_smallNumber 25 = .ok (.bipush 8, 2) := dk_16 8 (dk_at dksX14_smallNumber_1 1 rfl rfl)
theorem dX14_smallNumber_27 : decode cX14_smallNumber 27 = .ok (.iload_n 3, 1) := dk_29 (dk_at dksX14_smallNumber_1 3 rfl rfl)
theorem dX14_smallNumber_28 : decode cX14_smallNumber 28 = .ok (.imul, 1) := dk_104 (dk_at dksX14_smallNumber_1 4 rfl rfl)
theorem dX14_smallNumber_29 : decode cX14_smallNumber 29 = .ok (.ishr, 1) := dk_122 (dk_at dksX14_smallNumber_1 5 rfl rfl)
theorem dX14_smallNumber_30 : decode cX14_smallNumber 30 = .ok (.sipush 255, 3) := dk_17 0 255 (dk_at dksX14_smallNumber_1 6 rfl rfl)
theorem dX14_smallNumber_33 : decode cX14_smallNumber 33 = .ok (.iand, 1) := dk_126 (dk_at dksX14_smallNumber_1 9 rfl rfl)
theorem dX14_smallNumber_34 : decode cX14_smallNumber 34 = .ok (.iastore, 1) := dk_79 (dk_at dksX14_smallNumber_1 10 rfl rfl)
theorem dX14_smallNumber_35 : decode cX14_smallNumber 35 = .ok (.aload_n 0, 1) := dk_42 (dk_at dksX14_smallNumber_1 11 rfl rfl)
theorem dX14_smallNumber_36 : decode cX14_smallNumber 36 = .ok (.dup, 1) := dk_89 (dk_at dksX14_smallNumber_1 12 rfl rfl)
theorem dX14_smallNumber_37 : decode cX14_smallNumber 37 = .ok (.getfield 452, 3) := dk_180 1 196 (dk_at dksX14_smallNumber_1 13 rfl rfl)
theorem dX14_smallNumber_40 : decode cX14_smallNumber 40 = .ok (.iconst 1, 1) := dk_4 (dk_at dksX14_smallNumber_1 16 rfl rfl)
theorem dX14_smallNumber_41 : decode cX14_smallNumber 41 = .ok (.iadd, 1) := dk_96 (dk_at dksX14_smallNumber_1 17 rfl rfl)
theorem dX14_smallNumber_42 : decode cX14_smallNumber 42 = .ok (.putfield 452, 3) := dk_181 1 196 (dk_at dksX14_smallNumber_1 18 rfl rfl)
theorem dX14_smallNumber_45 : decode cX14_smallNumber 45 = .ok (.iinc 3 (-1), 3) := dk_132 3 255 (dk_at dksX14_smallNumber_1 21 rfl rfl)
theorem dX14_smallNumber_48 : decode cX14_smallNumber 48 = .ok (.goto (-36), 3) := dk_167 255 220 (dk_at dksX14_smallNumber_2 0 rfl rfl)
theorem dX14_smallNumber_51 : decode cX14_smallNumber 51 = .ok (.aload_n 0, 1) := dk_42 (dk_at dksX14_smallNumber_2 3 rfl rfl)
theorem dX14_smallNumber_52 : decode cX14_smallNumber 52 = .ok (.iload_n 2, 1) := dk_28 (dk_at dksX14_smallNumber_2 4 rfl rfl)
theorem dX14_smallNumber_53 : decode cX14_smallNumber 53 = .ok (.invokevirtual 465, 3) := dk_182 1 209 (dk_at dksX14_smallNumber_2 5 rfl rfl)
theorem dX14_smallNumber_56 : decode cX14_smallNumber 56 = .ok (.ireturn, 1) := dk_172 (dk_at dksX14_smallNumber_2 8 rfl rfl)
abbrev cX14_hasNumber : ByteArray := prog_15_method_67_code
def yX14_hasNumber : MethodName := ⟨RX14, "hasNumber", "(II)Z"⟩
def dkwX14_hasNumber_2 : List UInt8 := [21, 4, 46, 28, 182, 2, 88, 154, 0, 7, 4, 167, 0, 4, 3, 62, 132, 4, 1, 167, 255, 200, 29, 172]
abbrev dktX14_hasNumber_2 : List UInt8 := dkwX14_hasNumber_2 ++ []
def dkwX14_hasNumber_1 : List UInt8 := [96, 162, 0, 44, 29, 154, 0, 28, 42, 180, 0, 97, 21, 4, 46, 155, 0, 22, 42, 42, 180, 0, 97]
abbrev dktX14_hasNumber_1 : List UInt8 := dkwX14_hasNumber_1 ++ dktX14_hasNumber_2
def dkwX14_hasNumber_0 : List UInt8 := [3, 62, 42, 180, 0, 57, 27, 46, 54, 4, 21, 4, 42, 180, 0, 57, 27, 46, 42, 180, 0, 60, 27, 46]
abbrev dktX14_hasNumber_0 : List UInt8 := dkwX14_hasNumber_0 ++ dktX14_hasNumber_1
theorem dksX14_hasNumber_0 : cX14_hasNumber.data.toList.drop 0 = dktX14_hasNumber_0 := by decide +kernel
theorem dksX14_hasNumber_1 : cX14_hasNumber.data.toList.drop 24 = dktX14_hasNumber_1 := dk_seg dksX14_hasNumber_0 24 rfl rfl
theorem dksX14_hasNumber_2 : cX14_hasNumber.data.toList.drop 47 = dktX14_hasNumber_2 := dk_seg dksX14_hasNumber_1 23 rfl rfl
theorem dX14_hasNumber_0 : decode cX14_hasNumber 0 = .ok (.iconst 0, 1) := dk_3 (dk_at dksX14_hasNumber_0 0 rfl rfl)
theorem dX14_hasNumber_1 : decode cX14_hasNumber 1 = .ok (.istore_n 3, 1) := dk_62 (dk_at dksX14_hasNumber_0 1 rfl rfl)
theorem dX14_hasNumber_2 : decode cX14_hasNumber 2 = .ok (.aload_n 0, 1) := dk_42 (dk_at dksX14_hasNumber_0 2 rfl rfl)
theorem dX14_hasNumber_3 : decode cX14_hasNumber 3 = .ok (.getfield 57, 3) := dk_180 0 57 (dk_at dksX14_hasNumber_0 3 rfl rfl)
theorem dX14_hasNumber_6 : decode cX14_hasNumber 6 = .ok (.iload_n 1, 1) := dk_27 (dk_at dksX14_hasNumber_0 6 rfl rfl)
theorem dX14_hasNumber_7 : decode cX14_hasNumber 7 = .ok (.iaload, 1) := dk_46 (dk_at dksX14_hasNumber_0 7 rfl rfl)
theorem dX14_hasNumber_8 : decode cX14_hasNumber 8 = .ok (.istore 4, 2) := dk_54 4 (dk_at dksX14_hasNumber_0 8 rfl rfl)
theorem dX14_hasNumber_10 : decode cX14_hasNumber 10 = .ok (.iload 4, 2) := dk_21 4 (dk_at dksX14_hasNumber_0 10 rfl rfl)
theorem dX14_hasNumber_12 : decode cX14_hasNumber 12 = .ok (.aload_n 0, 1) := dk_42 (dk_at dksX14_hasNumber_0 12 rfl rfl)
theorem dX14_hasNumber_13 : decode cX14_hasNumber 13 = .ok (.getfield 57, 3) := dk_180 0 57 (dk_at dksX14_hasNumber_0 13 rfl rfl)
theorem dX14_hasNumber_16 : decode cX14_hasNumber 16 = .ok (.iload_n 1, 1) := dk_27 (dk_at dksX14_hasNumber_0 16 rfl rfl)
theorem dX14_hasNumber_17 : decode cX14_hasNumber 17 = .ok (.iaload, 1) := dk_46 (dk_at dksX14_hasNumber_0 17 rfl rfl)
theorem dX14_hasNumber_18 : decode cX14_hasNumber 18 = .ok (.aload_n 0, 1) := dk_42 (dk_at dksX14_hasNumber_0 18 rfl rfl)
theorem dX14_hasNumber_19 : decode cX14_hasNumber 19 = .ok (.getfield 60, 3) := dk_180 0 60 (dk_at dksX14_hasNumber_0 19 rfl rfl)
theorem dX14_hasNumber_22 : decode cX14_hasNumber 22 = .ok (.iload_n 1, 1) := dk_27 (dk_at dksX14_hasNumber_0 22 rfl rfl)
theorem dX14_hasNumber_23 : decode cX14_hasNumber 23 = .ok (.iaload, 1) := dk_46 (dk_at dksX14_hasNumber_0 23 rfl rfl)
theorem dX14_hasNumber_24 : decode cX14_hasNumber 24 = .ok (.iadd, 1) := dk_96 (dk_at dksX14_hasNumber_1 0 rfl rfl)
theorem dX14_hasNumber_25 : decode cX14_hasNumber 25 = .ok (.if_icmp .ge 44, 3) := dk_162 0 44 (dk_at dksX14_hasNumber_1 1 rfl rfl)
theorem dX14_hasNumber_28 : decode cX14_hasNumber 28 = .ok (.iload_n 3, 1) := dk_29 (dk_at dksX14_hasNumber_1 4 rfl rfl)
theorem dX14_hasNumber_29 : decode cX14_hasNumber 29 = .ok (.ifCond .ne 28, 3) := dk_154 0 28 (dk_at dksX14_hasNumber_1 5 rfl rfl)
theorem dX14_hasNumber_32 : decode cX14_hasNumber 32 = .ok (.aload_n 0, 1) := dk_42 (dk_at dksX14_hasNumber_1 8 rfl rfl)
theorem dX14_hasNumber_33 : decode cX14_hasNumber 33 = .ok (.getfield 97, 3) := dk_180 0 97 (dk_at dksX14_hasNumber_1 9 rfl rfl)
theorem dX14_hasNumber_36 : decode cX14_hasNumber 36 = .ok (.iload 4, 2) := dk_21 4 (dk_at dksX14_hasNumber_1 12 rfl rfl)
theorem dX14_hasNumber_38 : decode cX14_hasNumber 38 = .ok (.iaload, 1) := dk_46 (dk_at dksX14_hasNumber_1 14 rfl rfl)
theorem dX14_hasNumber_39 : decode cX14_hasNumber 39 = .ok (.ifCond .lt 22, 3) := dk_155 0 22 (dk_at dksX14_hasNumber_1 15 rfl rfl)
theorem dX14_hasNumber_42 : decode cX14_hasNumber 42 = .ok (.aload_n 0, 1) := dk_42 (dk_at dksX14_hasNumber_1 18 rfl rfl)
theorem dX14_hasNumber_43 : decode cX14_hasNumber 43 = .ok (.aload_n 0, 1) := dk_42 (dk_at dksX14_hasNumber_1 19 rfl rfl)
theorem dX14_hasNumber_44 : decode cX14_hasNumber 44 = .ok (.getfield 97, 3) := dk_180 0 97 (dk_at dksX14_hasNumber_1 20 rfl rfl)
theorem dX14_hasNumber_47 : decode cX14_hasNumber 47 = .ok (.iload 4, 2) := dk_21 4 (dk_at dksX14_hasNumber_2 0 rfl rfl)
theorem dX14_hasNumber_49 : decode cX14_hasNumber 49 = .ok (.iaload, 1) := dk_46 (dk_at dksX14_hasNumber_2 2 rfl rfl)
theorem dX14_hasNumber_50 : decode cX14_hasNumber 50 = .ok (.iload_n 2, 1) := dk_28 (dk_at dksX14_hasNumber_2 3 rfl rfl)
theorem dX14_hasNumber_51 : decode cX14_hasNumber 51 = .ok (.invokevirtual 600, 3) := dk_182 2 88 (dk_at dksX14_hasNumber_2 4 rfl rfl)
theorem dX14_hasNumber_54 : decode cX14_hasNumber 54 = .ok (.ifCond .ne 7, 3) := dk_154 0 7 (dk_at dksX14_hasNumber_2 7 rfl rfl)
theorem dX14_hasNumber_57 : decode cX14_hasNumber 57 = .ok (.iconst 1, 1) := dk_4 (dk_at dksX14_hasNumber_2 10 rfl rfl)
theorem dX14_hasNumber_58 : decode cX14_hasNumber 58 = .ok (.goto 4, 3) := dk_167 0 4 (dk_at dksX14_hasNumber_2 11 rfl rfl)
theorem dX14_hasNumber_61 : decode cX14_hasNumber 61 = .ok (.iconst 0, 1) := dk_3 (dk_at dksX14_hasNumber_2 14 rfl rfl)
theorem dX14_hasNumber_62 : decode cX14_hasNumber 62 = .ok (.istore_n 3, 1) := dk_62 (dk_at dksX14_hasNumber_2 15 rfl rfl)
theorem dX14_hasNumber_63 : decode cX14_hasNumber 63 = .ok (.iinc 4 1, 3) := dk_132 4 1 (dk_at dksX14_hasNumber_2 16 rfl rfl)
theorem dX14_hasNumber_66 : decode cX14_hasNumber 66 = .ok (.goto (-56), 3) := dk_167 255 200 (dk_at dksX14_hasNumber_2 19 rfl rfl)
theorem dX14_hasNumber_69 : decode cX14_hasNumber 69 = .ok (.iload_n 3, 1) := dk_29 (dk_at dksX14_hasNumber_2 22 rfl rfl)
theorem dX14_hasNumber_70 : decode cX14_hasNumber 70 = .ok (.ireturn, 1) := dk_172 (dk_at dksX14_hasNumber_2 23 rfl rfl)
abbrev cX14_checkUnknown : ByteArray := prog_15_method_71_code
def yX14_checkUnknown : MethodName := ⟨RX14, "checkUnknown", "()V"⟩
def dkwX14_checkUnknown_10 : List UInt8 := [182, 2, 91, 177]
abbrev dktX14_checkUnknown_10 : List UInt8 := dkwX14_checkUnknown_10 ++ []
def dkwX14_checkUnknown_9 : List UInt8 := [180, 0, 36, 42, 180, 0, 154, 27, 46, 46, 182, 2, 85, 132, 1, 1, 167, 255, 187, 42, 16, 6]
abbrev dktX14_checkUnknown_9 : List UInt8 := dkwX14_checkUnknown_9 ++ dktX14_checkUnknown_10
def dkwX14_checkUnknown_8 : List UInt8 := [27, 46, 4, 182, 2, 109, 156, 0, 31, 42, 42, 180, 0, 154, 27, 46, 182, 2, 82, 156, 0, 18, 42, 42]
abbrev dktX14_checkUnknown_8 : List UInt8 := dkwX14_checkUnknown_8 ++ dktX14_checkUnknown_9
def dkwX14_checkUnknown_7 : List UInt8 := [162, 0, 67, 42, 180, 0, 148, 27, 46, 5, 160, 0, 51, 42, 42, 180, 0, 166, 27, 46, 42, 180, 0, 154]
abbrev dktX14_checkUnknown_7 : List UInt8 := dkwX14_checkUnknown_7 ++ dktX14_checkUnknown_8
def dkwX14_checkUnknown_6 : List UInt8 := [180, 0, 127, 28, 46, 61, 167, 255, 193, 132, 1, 1, 167, 255, 172, 3, 60, 27, 42, 180, 2, 63]
abbrev dktX14_checkUnknown_6 : List UInt8 := dkwX14_checkUnknown_6 ++ dktX14_checkUnknown_7
def dkwX14_checkUnknown_5 : List UInt8 := [46, 182, 2, 106, 42, 27, 42, 180, 0, 136, 29, 46, 182, 2, 106, 132, 3, 1, 167, 255, 214, 42]
abbrev dktX14_checkUnknown_5 : List UInt8 := dkwX14_checkUnknown_5 ++ dktX14_checkUnknown_6
def dkwX14_checkUnknown_4 : List UInt8 := [29, 42, 180, 0, 121, 28, 46, 42, 180, 0, 124, 28, 46, 96, 162, 0, 31, 42, 27, 42, 180, 0, 130, 29]
abbrev dktX14_checkUnknown_4 : List UInt8 := dkwX14_checkUnknown_4 ++ dktX14_checkUnknown_5
def dkwX14_checkUnknown_3 : List UInt8 := [180, 2, 5, 162, 0, 82, 42, 180, 0, 72, 27, 46, 61, 28, 155, 0, 65, 42, 180, 0, 121, 28, 46, 62]
abbrev dktX14_checkUnknown_3 : List UInt8 := dkwX14_checkUnknown_3 ++ dktX14_checkUnknown_4
def dkwX14_checkUnknown_2 : List UInt8 := [156, 0, 13, 42, 42, 180, 0, 36, 28, 46, 182, 2, 85, 132, 1, 1, 167, 255, 197, 3, 60, 27, 42]
abbrev dktX14_checkUnknown_2 : List UInt8 := dkwX14_checkUnknown_2 ++ dktX14_checkUnknown_3
def dkwX14_checkUnknown_1 : List UInt8 := [180, 0, 54, 27, 46, 61, 42, 180, 0, 54, 27, 42, 28, 182, 2, 82, 79, 42, 180, 0, 54, 27, 46]
abbrev dktX14_checkUnknown_1 : List UInt8 := dkwX14_checkUnknown_1 ++ dktX14_checkUnknown_2
def dkwX14_checkUnknown_0 : List UInt8 := [3, 60, 27, 42, 180, 2, 5, 162, 0, 57, 42, 180, 0, 42, 27, 46, 16, 17, 160, 0, 40, 42]
abbrev dktX14_checkUnknown_0 : List UInt8 := dkwX14_checkUnknown_0 ++ dktX14_checkUnknown_1
theorem dksX14_checkUnknown_0 : cX14_checkUnknown.data.toList.drop 0 = dktX14_checkUnknown_0 := by decide +kernel
theorem dksX14_checkUnknown_1 : cX14_checkUnknown.data.toList.drop 22 = dktX14_checkUnknown_1 := dk_seg dksX14_checkUnknown_0 22 rfl rfl
theorem dksX14_checkUnknown_2 : cX14_checkUnknown.data.toList.drop 45 = dktX14_checkUnknown_2 := dk_seg dksX14_checkUnknown_1 23 rfl rfl
theorem dksX14_checkUnknown_3 : cX14_checkUnknown.data.toList.drop 68 = dktX14_checkUnknown_3 := dk_seg dksX14_checkUnknown_2 23 rfl rfl
theorem dksX14_checkUnknown_4 : cX14_checkUnknown.data.toList.drop 92 = dktX14_checkUnknown_4 := dk_seg dksX14_checkUnknown_3 24 rfl rfl
theorem dksX14_checkUnknown_5 : cX14_checkUnknown.data.toList.drop 116 = dktX14_checkUnknown_5 := dk_seg dksX14_checkUnknown_4 24 rfl rfl
theorem dksX14_checkUnknown_6 : cX14_checkUnknown.data.toList.drop 138 = dktX14_checkUnknown_6 := dk_seg dksX14_checkUnknown_5 22 rfl rfl
theorem dksX14_checkUnknown_7 : cX14_checkUnknown.data.toList.drop 160 = dktX14_checkUnknown_7 := dk_seg dksX14_checkUnknown_6 22 rfl rfl
theorem dksX14_checkUnknown_8 : cX14_checkUnknown.data.toList.drop 184 = dktX14_checkUnknown_8 := dk_seg dksX14_checkUnknown_7 24 rfl rfl
theorem dksX14_checkUnknown_9 : cX14_checkUnknown.data.toList.drop 208 = dktX14_checkUnknown_9 := dk_seg dksX14_checkUnknown_8 24 rfl rfl
theorem dksX14_checkUnknown_10 : cX14_checkUnknown.data.toList.drop 230 = dktX14_checkUnknown_10 := dk_seg dksX14_checkUnknown_9 22 rfl rfl
theorem dX14_checkUnknown_0 : decode cX14_checkUnknown 0 = .ok (.iconst 0, 1) := dk_3 (dk_at dksX14_checkUnknown_0 0 rfl rfl)
theorem dX14_checkUnknown_1 : decode cX14_checkUnknown 1 = .ok (.istore_n 1, 1) := dk_60 (dk_at dksX14_checkUnknown_0 1 rfl rfl)
theorem dX14_checkUnknown_2 : decode cX14_checkUnknown 2 = .ok (.iload_n 1, 1) := dk_27 (dk_at dksX14_checkUnknown_0 2 rfl rfl)
theorem dX14_checkUnknown_3 : decode cX14_checkUnknown 3 = .ok (.aload_n 0, 1) := dk_42 (dk_at dksX14_checkUnknown_0 3 rfl rfl)
theorem dX14_checkUnknown_4 : decode cX14_checkUnknown 4 = .ok (.getfield 517, 3) := dk_180 2 5 (dk_at dksX14_checkUnknown_0 4 rfl rfl)
theorem dX14_checkUnknown_7 : decode cX14_checkUnknown 7 = .ok (.if_icmp .ge 57, 3) := dk_162 0 57 (dk_at dksX14_checkUnknown_0 7 rfl rfl)
theorem dX14_checkUnknown_10 : decode cX14_checkUnknown 10 = .ok (.aload_n 0, 1) := dk_42 (dk_at dksX14_checkUnknown_0 10 rfl rfl)
theorem dX14_checkUnknown_11 : decode cX14_checkUnknown 11 = .ok (.getfield 42, 3) := dk_180 0 42 (dk_at dksX14_checkUnknown_0 11 rfl rfl)
theorem dX14_checkUnknown_14 : decode cX14_checkUnknown 14 = .ok (.iload_n 1, 1) := dk_27 (dk_at dksX14_checkUnknown_0 14 rfl rfl)
theorem dX14_checkUnknown_15 : decode cX14_checkUnknown 15 = .ok (.iaload, 1) := dk_46 (dk_at dksX14_checkUnknown_0 15 rfl rfl)
theorem dX14_checkUnknown_16 : decode cX14_checkUnknown 16 = .ok (.bipush 17, 2) := dk_16 17 (dk_at dksX14_checkUnknown_0 16 rfl rfl)
theorem dX14_checkUnknown_18 : decode cX14_checkUnknown 18 = .ok (.if_icmp .ne 40, 3) := dk_160 0 40 (dk_at dksX14_checkUnknown_0 18 rfl rfl)
theorem dX14_checkUnknown_21 : decode cX14_checkUnknown 21 = .ok (.aload_n 0, 1) := dk_42 (dk_at dksX14_checkUnknown_0 21 rfl rfl)
theorem dX14_checkUnknown_22 : decode cX14_checkUnknown 22 = .ok (.getfield 54, 3) := dk_180 0 54 (dk_at dksX14_checkUnknown_1 0 rfl rfl)
theorem dX14_checkUnknown_25 : decode cX14_checkUnknown 25 = .ok (.iload_n 1, 1) := dk_27 (dk_at dksX14_checkUnknown_1 3 rfl rfl)
theorem dX14_checkUnknown_26 : decode cX14_checkUnknown 26 = .ok (.iaload, 1) := dk_46 (dk_at dksX14_checkUnknown_1 4 rfl rfl)
theorem dX14_checkUnknown_27 : decode cX14_checkUnknown 27 = .ok (.istore_n 2, 1) := dk_61 (dk_at dksX14_checkUnknown_1 5 rfl rfl)
theorem dX14_checkUnknown_28 : decode cX14_checkUnknown 28 = .ok (.aload_n 0, 1) := dk_42 (dk_at dksX14_checkUnknown_1 6 rfl rfl)
theorem dX14_checkUnknown_29 : decode cX14_checkUnknown 29 = .ok (.getfield 54, 3) := dk_180 0 54 (dk_at dksX14_checkUnknown_1 7 rfl rfl)
theorem dX14_checkUnknown_32 : decode cX14_checkUnknown 32 = .ok (.iload_n 1, 1) := dk_27 (dk_at dksX14_checkUnknown_1 10 rfl rfl)
theorem dX14_checkUnknown_33 : decode cX14_checkUnknown 33 = .ok (.aload_n 0, 1) := dk_42 (dk_at dksX14_checkUnknown_1 11 rfl rfl)
theorem dX14_checkUnknown_34 : decode cX14_checkUnknown 34 = .ok (.iload_n 2, 1) := dk_28 (dk_at dksX14_checkUnknown_1 12 rfl rfl)
theorem dX14_checkUnknown_35 : decode cX14_checkUnknown 35 = .ok (.invokevirtual 594, 3) := dk_182 2 82 (dk_at dksX14_checkUnknown_1 13 rfl rfl)
theorem dX14_checkUnknown_38 : decode cX14_checkUnknown 38 = .ok (.iastore, 1) := dk_79 (dk_at dksX14_checkUnknown_1 16 rfl rfl)
theorem dX14_checkUnknown_39 : decode cX14_checkUnknown 39 = .ok (.aload_n 0, 1) := dk_42 (dk_at dksX14_checkUnknown_1 17 rfl rfl)
theorem dX14_checkUnknown_40 : decode cX14_checkUnknown 40 = .ok (.getfield 54, 3) := dk_180 0 54 (dk_at dksX14_checkUnknown_1 18 rfl rfl)
theorem dX14_checkUnknown_43 : decode cX14_checkUnknown 43 = .ok (.iload_n 1, 1) := dk_27 (dk_at dksX14_checkUnknown_1 21 rfl rfl)
theorem dX14_checkUnknown_44 : decode cX14_checkUnknown 44 = .ok (.iaload, 1) := dk_46 (dk_at dksX14_checkUnknown_1 22 rfl rfl)
theorem dX14_checkUnknown_45 : decode cX14_checkUnknown 45 = .ok (.ifCond .ge 13, 3) := dk_156 0 13 (dk_at dksX14_checkUnknown_2 0 rfl rfl)
theorem dX14_checkUnknown_48 : decode cX14_checkUnknown 48 = .ok (.aload_n 0, 1) := dk_42 (dk_at dksX14_checkUnknown_2 3 rfl rfl)
theorem dX14_checkUnknown_49 : decode cX14_checkUnknown 49 = .ok (.aload_n 0, 1) := dk_42 (dk_at dksX14_checkUnknown_2 4 rfl rfl)
theorem dX14_checkUnknown_50 : decode cX14_checkUnknown 50 = .ok (.getfield 36, 3) := dk_180 0 36 (dk_at dksX14_checkUnknown_2 5 rfl rfl)
theorem dX14_checkUnknown_53 : decode cX14_checkUnknown 53 = .ok (.iload_n 2, 1) := dk_28 (dk_at dksX14_checkUnknown_2 8 rfl rfl)
theorem dX14_checkUnknown_54 : decode cX14_checkUnknown 54 = .ok (.iaload, 1) := dk_46 (dk_at dksX14_checkUnknown_2 9 rfl rfl)
theorem dX14_checkUnknown_55 : decode cX14_checkUnknown 55 = .ok (.invokevirtual 597, 3) := dk_182 2 85 (dk_at dksX14_checkUnknown_2 10 rfl rfl)
theorem dX14_checkUnknown_58 : decode cX14_checkUnknown 58 = .ok (.iinc 1 1, 3) := dk_132 1 1 (dk_at dksX14_checkUnknown_2 13 rfl rfl)
theorem dX14_checkUnknown_61 : decode cX14_checkUnknown 61 = .ok (.goto (-59), 3) := dk_167 255 197 (dk_at dksX14_checkUnknown_2 16 rfl rfl)
theorem dX14_checkUnknown_64 : decode cX14_checkUnknown 64 = .ok (.iconst 0, 1) := dk_3 (dk_at dksX14_checkUnknown_2 19 rfl rfl)
theorem dX14_checkUnknown_65 : decode cX14_checkUnknown 65 = .ok (.istore_n 1, 1) := dk_60 (dk_at dksX14_checkUnknown_2 20 rfl rfl)
theorem dX14_checkUnknown_66 : decode cX14_checkUnknown 66 = .ok (.iload_n 1, 1) := dk_27 (dk_at dksX14_checkUnknown_2 21 rfl rfl)
theorem dX14_checkUnknown_67 : decode cX14_checkUnknown 67 = .ok (.aload_n 0, 1) := dk_42 (dk_at dksX14_checkUnknown_2 22 rfl rfl)
theorem dX14_checkUnknown_68 : decode cX14_checkUnknown 68 = .ok (.getfield 517, 3) := dk_180 2 5 (dk_at dksX14_checkUnknown_3 0 rfl rfl)
theorem dX14_checkUnknown_71 : decode cX14_checkUnknown 71 = .ok (.if_icmp .ge 82, 3) := dk_162 0 82 (dk_at dksX14_checkUnknown_3 3 rfl rfl)
theorem dX14_checkUnknown_74 : decode cX14_checkUnknown 74 = .ok (.aload_n 0, 1) := dk_42 (dk_at dksX14_checkUnknown_3 6 rfl rfl)
theorem dX14_checkUnknown_75 : decode cX14_checkUnknown 75 = .ok (.getfield 72, 3) := dk_180 0 72 (dk_at dksX14_checkUnknown_3 7 rfl rfl)
theorem dX14_checkUnknown_78 : decode cX14_checkUnknown 78 = .ok (.iload_n 1, 1) := dk_27 (dk_at dksX14_checkUnknown_3 10 rfl rfl)
theorem dX14_checkUnknown_79 : decode cX14_checkUnknown 79 = .ok (.iaload, 1) := dk_46 (dk_at dksX14_checkUnknown_3 11 rfl rfl)
theorem dX14_checkUnknown_80 : decode cX14_checkUnknown 80 = .ok (.istore_n 2, 1) := dk_61 (dk_at dksX14_checkUnknown_3 12 rfl rfl)
theorem dX14_checkUnknown_81 : decode cX14_checkUnknown 81 = .ok (.iload_n 2, 1) := dk_28 (dk_at dksX14_checkUnknown_3 13 rfl rfl)
theorem dX14_checkUnknown_82 : decode cX14_checkUnknown 82 = .ok (.ifCond .lt 65, 3) := dk_155 0 65 (dk_at dksX14_checkUnknown_3 14 rfl rfl)
theorem dX14_checkUnknown_85 : decode cX14_checkUnknown 85 = .ok (.aload_n 0, 1) := dk_42 (dk_at dksX14_checkUnknown_3 17 rfl rfl)
theorem dX14_checkUnknown_86 : decode cX14_checkUnknown 86 = .ok (.getfield 121, 3) := dk_180 0 121 (dk_at dksX14_checkUnknown_3 18 rfl rfl)
theorem dX14_checkUnknown_89 : decode cX14_checkUnknown 89 = .ok (.iload_n 2, 1) := dk_28 (dk_at dksX14_checkUnknown_3 21 rfl rfl)
theorem dX14_checkUnknown_90 : decode cX14_checkUnknown 90 = .ok (.iaload, 1) := dk_46 (dk_at dksX14_checkUnknown_3 22 rfl rfl)
theorem dX14_checkUnknown_91 : decode cX14_checkUnknown 91 = .ok (.istore_n 3, 1) := dk_62 (dk_at dksX14_checkUnknown_3 23 rfl rfl)
theorem dX14_checkUnknown_92 : decode cX14_checkUnknown 92 = .ok (.iload_n 3, 1) := dk_29 (dk_at dksX14_checkUnknown_4 0 rfl rfl)
theorem dX14_checkUnknown_93 : decode cX14_checkUnknown 93 = .ok (.aload_n 0, 1) := dk_42 (dk_at dksX14_checkUnknown_4 1 rfl rfl)
theorem dX14_checkUnknown_94 : decode cX14_checkUnknown 94 = .ok (.getfield 121, 3) := dk_180 0 121 (dk_at dksX14_checkUnknown_4 2 rfl rfl)
theorem dX14_checkUnknown_97 : decode cX14_checkUnknown 97 = .ok (.iload_n 2, 1) := dk_28 (dk_at dksX14_checkUnknown_4 5 rfl rfl)
theorem dX14_checkUnknown_98 : decode cX14_checkUnknown 98 = .ok (.iaload, 1) := dk_46 (dk_at dksX14_checkUnknown_4 6 rfl rfl)
theorem dX14_checkUnknown_99 : decode cX14_checkUnknown 99 = .ok (.aload_n 0, 1) := dk_42 (dk_at dksX14_checkUnknown_4 7 rfl rfl)
theorem dX14_checkUnknown_100 : decode cX14_checkUnknown 100 = .ok (.getfield 124, 3) := dk_180 0 124 (dk_at dksX14_checkUnknown_4 8 rfl rfl)
theorem dX14_checkUnknown_103 : decode cX14_checkUnknown 103 = .ok (.iload_n 2, 1) := dk_28 (dk_at dksX14_checkUnknown_4 11 rfl rfl)
theorem dX14_checkUnknown_104 : decode cX14_checkUnknown 104 = .ok (.iaload, 1) := dk_46 (dk_at dksX14_checkUnknown_4 12 rfl rfl)
theorem dX14_checkUnknown_105 : decode cX14_checkUnknown 105 = .ok (.iadd, 1) := dk_96 (dk_at dksX14_checkUnknown_4 13 rfl rfl)
theorem dX14_checkUnknown_106 : decode cX14_checkUnknown 106 = .ok (.if_icmp .ge 31, 3) := dk_162 0 31 (dk_at dksX14_checkUnknown_4 14 rfl rfl)
theorem dX14_checkUnknown_109 : decode cX14_checkUnknown 109 = .ok (.aload_n 0, 1) := dk_42 (dk_at dksX14_checkUnknown_4 17 rfl rfl)
theorem dX14_checkUnknown_110 : decode cX14_checkUnknown 110 = .ok (.iload_n 1, 1) := dk_27 (dk_at dksX14_checkUnknown_4 18 rfl rfl)
theorem dX14_checkUnknown_111 : decode cX14_checkUnknown 111 = .ok (.aload_n 0, 1) := dk_42 (dk_at dksX14_checkUnknown_4 19 rfl rfl)
theorem dX14_checkUnknown_112 : decode cX14_checkUnknown 112 = .ok (.getfield 130, 3) := dk_180 0 130 (dk_at dksX14_checkUnknown_4 20 rfl rfl)
theorem dX14_checkUnknown_115 : decode cX14_checkUnknown 115 = .ok (.iload_n 3, 1) := dk_29 (dk_at dksX14_checkUnknown_4 23 rfl rfl)
theorem dX14_checkUnknown_116 : decode cX14_checkUnknown 116 = .ok (.iaload, 1) := dk_46 (dk_at dksX14_checkUnknown_5 0 rfl rfl)
theorem dX14_checkUnknown_117 : decode cX14_checkUnknown 117 = .ok (.invokevirtual 618, 3) := dk_182 2 106 (dk_at dksX14_checkUnknown_5 1 rfl rfl)
theorem dX14_checkUnknown_120 : decode cX14_checkUnknown 120 = .ok (.aload_n 0, 1) := dk_42 (dk_at dksX14_checkUnknown_5 4 rfl rfl)
theorem dX14_checkUnknown_121 : decode cX14_checkUnknown 121 = .ok (.iload_n 1, 1) := dk_27 (dk_at dksX14_checkUnknown_5 5 rfl rfl)
theorem dX14_checkUnknown_122 : decode cX14_checkUnknown 122 = .ok (.aload_n 0, 1) := dk_42 (dk_at dksX14_checkUnknown_5 6 rfl rfl)
theorem dX14_checkUnknown_123 : decode cX14_checkUnknown 123 = .ok (.getfield 136, 3) := dk_180 0 136 (dk_at dksX14_checkUnknown_5 7 rfl rfl)
theorem dX14_checkUnknown_126 : decode cX14_checkUnknown 126 = .ok (.iload_n 3, 1) := dk_29 (dk_at dksX14_checkUnknown_5 10 rfl rfl)
theorem dX14_checkUnknown_127 : decode cX14_checkUnknown 127 = .ok (.iaload, 1) := dk_46 (dk_at dksX14_checkUnknown_5 11 rfl rfl)
theorem dX14_checkUnknown_128 : decode cX14_checkUnknown 128 = .ok (.invokevirtual 618, 3) := dk_182 2 106 (dk_at dksX14_checkUnknown_5 12 rfl rfl)
theorem dX14_checkUnknown_131 : decode cX14_checkUnknown 131 = .ok (.iinc 3 1, 3) := dk_132 3 1 (dk_at dksX14_checkUnknown_5 15 rfl rfl)
theorem dX14_checkUnknown_134 : decode cX14_checkUnknown 134 = .ok (.goto (-42), 3) := dk_167 255 214 (dk_at dksX14_checkUnknown_5 18 rfl rfl)
theorem dX14_checkUnknown_137 : decode cX14_checkUnknown 137 = .ok (.aload_n 0, 1) := dk_42 (dk_at dksX14_checkUnknown_5 21 rfl rfl)
theorem dX14_checkUnknown_138 : decode cX14_checkUnknown 138 = .ok (.getfield 127, 3) := dk_180 0 127 (dk_at dksX14_checkUnknown_6 0 rfl rfl)
theorem dX14_checkUnknown_141 : decode cX14_checkUnknown 141 = .ok (.iload_n 2, 1) := dk_28 (dk_at dksX14_checkUnknown_6 3 rfl rfl)
theorem dX14_checkUnknown_142 : decode cX14_checkUnknown 142 = .ok (.iaload, 1) := dk_46 (dk_at dksX14_checkUnknown_6 4 rfl rfl)
theorem dX14_checkUnknown_143 : decode cX14_checkUnknown 143 = .ok (.istore_n 2, 1) := dk_61 (dk_at dksX14_checkUnknown_6 5 rfl rfl)
theorem dX14_checkUnknown_144 : decode cX14_checkUnknown 144 = .ok (.goto (-63), 3) := dk_167 255 193 (dk_at dksX14_checkUnknown_6 6 rfl rfl)
theorem dX14_checkUnknown_147 : decode cX14_checkUnknown 147 = .ok (.iinc 1 1, 3) := dk_132 1 1 (dk_at dksX14_checkUnknown_6 9 rfl rfl)
theorem dX14_checkUnknown_150 : decode cX14_checkUnknown 150 = .ok (.goto (-84), 3) := dk_167 255 172 (dk_at dksX14_checkUnknown_6 12 rfl rfl)
theorem dX14_checkUnknown_153 : decode cX14_checkUnknown 153 = .ok (.iconst 0, 1) := dk_3 (dk_at dksX14_checkUnknown_6 15 rfl rfl)
theorem dX14_checkUnknown_154 : decode cX14_checkUnknown 154 = .ok (.istore_n 1, 1) := dk_60 (dk_at dksX14_checkUnknown_6 16 rfl rfl)
theorem dX14_checkUnknown_155 : decode cX14_checkUnknown 155 = .ok (.iload_n 1, 1) := dk_27 (dk_at dksX14_checkUnknown_6 17 rfl rfl)
theorem dX14_checkUnknown_156 : decode cX14_checkUnknown 156 = .ok (.aload_n 0, 1) := dk_42 (dk_at dksX14_checkUnknown_6 18 rfl rfl)
theorem dX14_checkUnknown_157 : decode cX14_checkUnknown 157 = .ok (.getfield 575, 3) := dk_180 2 63 (dk_at dksX14_checkUnknown_6 19 rfl rfl)
theorem dX14_checkUnknown_160 : decode cX14_checkUnknown 160 = .ok (.if_icmp .ge 67, 3) := dk_162 0 67 (dk_at dksX14_checkUnknown_7 0 rfl rfl)
theorem dX14_checkUnknown_163 : decode cX14_checkUnknown 163 = .ok (.aload_n 0, 1) := dk_42 (dk_at dksX14_checkUnknown_7 3 rfl rfl)
theorem dX14_checkUnknown_164 : decode cX14_checkUnknown 164 = .ok (.getfield 148, 3) := dk_180 0 148 (dk_at dksX14_checkUnknown_7 4 rfl rfl)
theorem dX14_checkUnknown_167 : decode cX14_checkUnknown 167 = .ok (.iload_n 1, 1) := dk_27 (dk_at dksX14_checkUnknown_7 7 rfl rfl)
theorem dX14_checkUnknown_168 : decode cX14_checkUnknown 168 = .ok (.iaload, 1) := dk_46 (dk_at dksX14_checkUnknown_7 8 rfl rfl)
theorem dX14_checkUnknown_169 : decode cX14_checkUnknown 169 = .ok (.iconst 2, 1) := dk_5 (dk_at dksX14_checkUnknown_7 9 rfl rfl)
theorem dX14_checkUnknown_170 : decode cX14_checkUnknown 170 = .ok (.if_icmp .ne 51, 3) := dk_160 0 51 (dk_at dksX14_checkUnknown_7 10 rfl rfl)
theorem dX14_checkUnknown_173 : decode cX14_checkUnknown 173 = .ok (.aload_n 0, 1) := dk_42 (dk_at dksX14_checkUnknown_7 13 rfl rfl)
theorem dX14_checkUnknown_174 : decode cX14_checkUnknown 174 = .ok (.aload_n 0, 1) := dk_42 (dk_at dksX14_checkUnknown_7 14 rfl rfl)
theorem dX14_checkUnknown_175 : decode cX14_checkUnknown 175 = .ok (.getfield 166, 3) := dk_180 0 166 (dk_at dksX14_checkUnknown_7 15 rfl rfl)
theorem dX14_checkUnknown_178 : decode cX14_checkUnknown 178 = .ok (.iload_n 1, 1) := dk_27 (dk_at dksX14_checkUnknown_7 18 rfl rfl)
theorem dX14_checkUnknown_179 : decode cX14_checkUnknown 179 = .ok (.iaload, 1) := dk_46 (dk_at dksX14_checkUnknown_7 19 rfl rfl)
theorem dX14_checkUnknown_180 : decode cX14_checkUnknown 180 = .ok (.aload_n 0, 1) := dk_42 (dk_at dksX14_checkUnknown_7 20 rfl rfl)
theorem dX14_checkUnknown_181 : decode cX14_checkUnknown 181 = .ok (.getfield 154, 3) := dk_180 0 154 (dk_at dksX14_checkUnknown_7 21 rfl rfl)
theorem dX14_checkUnknown_184 : decode cX14_checkUnknown 184 = .ok (.iload_n 1, 1) := dk_27 (dk_at dksX14_checkUnknown_8 0 rfl rfl)
theorem dX14_checkUnknown_185 : decode cX14_checkUnknown 185 = .ok (.iaload, 1) := dk_46 (dk_at dksX14_checkUnknown_8 1 rfl rfl)
theorem dX14_checkUnknown_186 : decode cX14_checkUnknown 186 = .ok (.iconst 1, 1) := dk_4 (dk_at dksX14_checkUnknown_8 2 rfl rfl)
theorem dX14_checkUnknown_187 : decode cX14_checkUnknown 187 = .ok (.invokevirtual 621, 3) := dk_182 2 109 (dk_at dksX14_checkUnknown_8 3 rfl rfl)
theorem dX14_checkUnknown_190 : decode cX14_checkUnknown 190 = .ok (.ifCond .ge 31, 3) := dk_156 0 31 (dk_at dksX14_checkUnknown_8 6 rfl rfl)
theorem dX14_checkUnknown_193 : decode cX14_checkUnknown 193 = .ok (.aload_n 0, 1) := dk_42 (dk_at dksX14_checkUnknown_8 9 rfl rfl)
theorem dX14_checkUnknown_194 : decode cX14_checkUnknown 194 = .ok (.aload_n 0, 1) := dk_42 (dk_at dksX14_checkUnknown_8 10 rfl rfl)
theorem dX14_checkUnknown_195 : decode cX14_checkUnknown 195 = .ok (.getfield 154, 3) := dk_180 0 154 (dk_at dksX14_checkUnknown_8 11 rfl rfl)
theorem dX14_checkUnknown_198 : decode cX14_checkUnknown 198 = .ok (.iload_n 1, 1) := dk_27 (dk_at dksX14_checkUnknown_8 14 rfl rfl)
theorem dX14_checkUnknown_199 : decode cX14_checkUnknown 199 = .ok (.iaload, 1) := dk_46 (dk_at dksX14_checkUnknown_8 15 rfl rfl)
theorem dX14_checkUnknown_200 : decode cX14_checkUnknown 200 = .ok (.invokevirtual 594, 3) := dk_182 2 82 (dk_at dksX14_checkUnknown_8 16 rfl rfl)
theorem dX14_checkUnknown_203 : decode cX14_checkUnknown 203 = .ok (.ifCond .ge 18, 3) := dk_156 0 18 (dk_at dksX14_checkUnknown_8 19 rfl rfl)
theorem dX14_checkUnknown_206 : decode cX14_checkUnknown 206 = .ok (.aload_n 0, 1) := dk_42 (dk_at dksX14_checkUnknown_8 22 rfl rfl)
theorem dX14_checkUnknown_207 : decode cX14_checkUnknown 207 = .ok (.aload_n 0, 1) := dk_42 (dk_at dksX14_checkUnknown_8 23 rfl rfl)
theorem dX14_checkUnknown_208 : decode cX14_checkUnknown 208 = .ok (.getfield 36, 3) := dk_180 0 36 (dk_at dksX14_checkUnknown_9 0 rfl rfl)
theorem dX14_checkUnknown_211 : decode cX14_checkUnknown 211 = .ok (.aload_n 0, 1) := dk_42 (dk_at dksX14_checkUnknown_9 3 rfl rfl)
theorem dX14_checkUnknown_212 : decode cX14_checkUnknown 212 = .ok (.getfield 154, 3) := dk_180 0 154 (dk_at dksX14_checkUnknown_9 4 rfl rfl)
theorem dX14_checkUnknown_215 : decode cX14_checkUnknown 215 = .ok (.iload_n 1, 1) := dk_27 (dk_at dksX14_checkUnknown_9 7 rfl rfl)
theorem dX14_checkUnknown_216 : decode cX14_checkUnknown 216 = .ok (.iaload, 1) := dk_46 (dk_at dksX14_checkUnknown_9 8 rfl rfl)
theorem dX14_checkUnknown_217 : decode cX14_checkUnknown 217 = .ok (.iaload, 1) := dk_46 (dk_at dksX14_checkUnknown_9 9 rfl rfl)
theorem dX14_checkUnknown_218 : decode cX14_checkUnknown 218 = .ok (.invokevirtual 597, 3) := dk_182 2 85 (dk_at dksX14_checkUnknown_9 10 rfl rfl)
theorem dX14_checkUnknown_221 : decode cX14_checkUnknown 221 = .ok (.iinc 1 1, 3) := dk_132 1 1 (dk_at dksX14_checkUnknown_9 13 rfl rfl)
theorem dX14_checkUnknown_224 : decode cX14_checkUnknown 224 = .ok (.goto (-69), 3) := dk_167 255 187 (dk_at dksX14_checkUnknown_9 16 rfl rfl)
theorem dX14_checkUnknown_227 : decode cX14_checkUnknown 227 = .ok (.aload_n 0, 1) := dk_42 (dk_at dksX14_checkUnknown_9 19 rfl rfl)
theorem dX14_checkUnknown_228 : decode cX14_checkUnknown 228 = .ok (.bipush 6, 2) := dk_16 6 (dk_at dksX14_checkUnknown_9 20 rfl rfl)
theorem dX14_checkUnknown_230 : decode cX14_checkUnknown 230 = .ok (.invokevirtual 603, 3) := dk_182 2 91 (dk_at dksX14_checkUnknown_10 0 rfl rfl)
theorem dX14_checkUnknown_233 : decode cX14_checkUnknown 233 = .ok (.return_, 1) := dk_177 (dk_at dksX14_checkUnknown_10 3 rfl rfl)
abbrev cX14_checkBound : ByteArray := prog_15_method_72_code
def yX14_checkBound : MethodName := ⟨RX14, "checkBound", "(II)V"⟩
def dkwX14_checkBound_1 : List UInt8 := [182, 2, 82, 156, 0, 13, 42, 42, 180, 0, 36, 28, 46, 182, 2, 85, 177]
abbrev dktX14_checkBound_1 : List UInt8 := dkwX14_checkBound_1 ++ []
def dkwX14_checkBound_0 : List UInt8 := [42, 180, 0, 33, 28, 46, 5, 160, 0, 31, 42, 27, 28, 3, 182, 2, 109, 156, 0, 21, 42, 28]
abbrev dktX14_checkBound_0 : List UInt8 := dkwX14_checkBound_0 ++ dktX14_checkBound_1
theorem dksX14_checkBound_0 : cX14_checkBound.data.toList.drop 0 = dktX14_checkBound_0 := by decide +kernel
theorem dksX14_checkBound_1 : cX14_checkBound.data.toList.drop 22 = dktX14_checkBound_1 := dk_seg dksX14_checkBound_0 22 rfl rfl
theorem dX14_checkBound_0 : decode cX14_checkBound 0 = .ok (.aload_n 0, 1) := dk_42 (dk_at dksX14_checkBound_0 0 rfl rfl)
theorem dX14_checkBound_1 : decode cX14_checkBound 1 = .ok (.getfield 33, 3) := dk_180 0 33 (dk_at dksX14_checkBound_0 1 rfl rfl)
theorem dX14_checkBound_4 : decode cX14_checkBound 4 = .ok (.iload_n 2, 1) := dk_28 (dk_at dksX14_checkBound_0 4 rfl rfl)
theorem dX14_checkBound_5 : decode cX14_checkBound 5 = .ok (.iaload, 1) := dk_46 (dk_at dksX14_checkBound_0 5 rfl rfl)
theorem dX14_checkBound_6 : decode cX14_checkBound 6 = .ok (.iconst 2, 1) := dk_5 (dk_at dksX14_checkBound_0 6 rfl rfl)
theorem dX14_checkBound_7 : decode cX14_checkBound 7 = .ok (.if_icmp .ne 31, 3) := dk_160 0 31 (dk_at dksX14_checkBound_0 7 rfl rfl)
theorem dX14_checkBound_10 : decode cX14_checkBound 10 = .ok (.aload_n 0, 1) := dk_42 (dk_at dksX14_checkBound_0 10 rfl rfl)
theorem dX14_checkBound_11 : decode cX14_checkBound 11 = .ok (.iload_n 1, 1) := dk_27 (dk_at dksX14_checkBound_0 11 rfl rfl)
theorem dX14_checkBound_12 : decode cX14_checkBound 12 = .ok (.iload_n 2, 1) := dk_28 (dk_at dksX14_checkBound_0 12 rfl rfl)
theorem dX14_checkBound_13 : decode cX14_checkBound 13 = .ok (.iconst 0, 1) := dk_3 (dk_at dksX14_checkBound_0 13 rfl rfl)
theorem dX14_checkBound_14 : decode cX14_checkBound 14 = .ok (.invokevirtual 621, 3) := dk_182 2 109 (dk_at dksX14_checkBound_0 14 rfl rfl)
theorem dX14_checkBound_17 : decode cX14_checkBound 17 = .ok (.ifCond .ge 21, 3) := dk_156 0 21 (dk_at dksX14_checkBound_0 17 rfl rfl)
theorem dX14_checkBound_20 : decode cX14_checkBound 20 = .ok (.aload_n 0, 1) := dk_42 (dk_at dksX14_checkBound_0 20 rfl rfl)
theorem dX14_checkBound_21 : decode cX14_checkBound 21 = .ok (.iload_n 2, 1) := dk_28 (dk_at dksX14_checkBound_0 21 rfl rfl)
theorem dX14_checkBound_22 : decode cX14_checkBound 22 = .ok (.invokevirtual 594, 3) := dk_182 2 82 (dk_at dksX14_checkBound_1 0 rfl rfl)
theorem dX14_checkBound_25 : decode cX14_checkBound 25 = .ok (.ifCond .ge 13, 3) := dk_156 0 13 (dk_at dksX14_checkBound_1 3 rfl rfl)
theorem dX14_checkBound_28 : decode cX14_checkBound 28 = .ok (.aload_n 0, 1) := dk_42 (dk_at dksX14_checkBound_1 6 rfl rfl)
theorem dX14_checkBound_29 : decode cX14_checkBound 29 = .ok (.aload_n 0, 1) := dk_42 (dk_at dksX14_checkBound_1 7 rfl rfl)
theorem dX14_checkBound_30 : decode cX14_checkBound 30 = .ok (.getfield 36, 3) := dk_180 0 36 (dk_at dksX14_checkBound_1 8 rfl rfl)
theorem dX14_checkBound_33 : decode cX14_checkBound 33 = .ok (.iload_n 2, 1) := dk_28 (dk_at dksX14_checkBound_1 11 rfl rfl)
theorem dX14_checkBound_34 : decode cX14_checkBound 34 = .ok (.iaload, 1) := dk_46 (dk_at dksX14_checkBound_1 12 rfl rfl)
theorem dX14_checkBound_35 : decode cX14_checkBound 35 = .ok (.invokevirtual 597, 3) := dk_182 2 85 (dk_at dksX14_checkBound_1 13 rfl rfl)
theorem dX14_checkBound_38 : decode cX14_checkBound 38 = .ok (.return_, 1) := dk_177 (dk_at dksX14_checkBound_1 16 rfl rfl)
abbrev cX14_itemOf : ByteArray := prog_15_method_69_code
def yX14_itemOf : MethodName := ⟨RX14, "itemOf", "(IIZ)I"⟩
def dkwX14_itemOf_1 : List UInt8 := [180, 0, 42, 21, 4, 46, 6, 160, 0, 7, 29, 154, 0, 5, 2, 172, 42, 21, 4, 28, 182, 2, 103, 172]
abbrev dktX14_itemOf_1 : List UInt8 := dkwX14_itemOf_1 ++ []
def dkwX14_itemOf_0 : List UInt8 := [42, 27, 182, 2, 100, 54, 4, 21, 4, 155, 0, 29, 42, 180, 0, 42, 21, 4, 46, 5, 159, 0, 20, 42]
abbrev dktX14_itemOf_0 : List UInt8 := dkwX14_itemOf_0 ++ dktX14_itemOf_1
theorem dksX14_itemOf_0 : cX14_itemOf.data.toList.drop 0 = dktX14_itemOf_0 := by decide +kernel
theorem dksX14_itemOf_1 : cX14_itemOf.data.toList.drop 24 = dktX14_itemOf_1 := dk_seg dksX14_itemOf_0 24 rfl rfl
theorem dX14_itemOf_0 : decode cX14_itemOf 0 = .ok (.aload_n 0, 1) := dk_42 (dk_at dksX14_itemOf_0 0 rfl rfl)
theorem dX14_itemOf_1 : decode cX14_itemOf 1 = .ok (.iload_n 1, 1) := dk_27 (dk_at dksX14_itemOf_0 1 rfl rfl)
theorem dX14_itemOf_2 : decode cX14_itemOf 2 = .ok (.invokevirtual 612, 3) := dk_182 2 100 (dk_at dksX14_itemOf_0 2 rfl rfl)
theorem dX14_itemOf_5 : decode cX14_itemOf 5 = .ok (.istore 4, 2) := dk_54 4 (dk_at dksX14_itemOf_0 5 rfl rfl)
theorem dX14_itemOf_7 : decode cX14_itemOf 7 = .ok (.iload 4, 2) := dk_21 4 (dk_at dksX14_itemOf_0 7 rfl rfl)
theorem dX14_itemOf_9 : decode cX14_itemOf 9 = .ok (.ifCond .lt 29, 3) := dk_155 0 29 (dk_at dksX14_itemOf_0 9 rfl rfl)
theorem dX14_itemOf_12 : decode cX14_itemOf 12 = .ok (.aload_n 0, 1) := dk_42 (dk_at dksX14_itemOf_0 12 rfl rfl)
theorem dX14_itemOf_13 : decode cX14_itemOf 13 = .ok (.getfield 42, 3) := dk_180 0 42 (dk_at dksX14_itemOf_0 13 rfl rfl)
theorem dX14_itemOf_16 : decode cX14_itemOf 16 = .ok (.iload 4, 2) := dk_21 4 (dk_at dksX14_itemOf_0 16 rfl rfl)
theorem dX14_itemOf_18 : decode cX14_itemOf 18 = .ok (.iaload, 1) := dk_46 (dk_at dksX14_itemOf_0 18 rfl rfl)
theorem dX14_itemOf_19 : decode cX14_itemOf 19 = .ok (.iconst 2, 1) := dk_5 (dk_at dksX14_itemOf_0 19 rfl rfl)
theorem dX14_itemOf_20 : decode cX14_itemOf 20 = .ok (.if_icmp .eq 20, 3) := dk_159 0 20 (dk_at dksX14_itemOf_0 20 rfl rfl)
theorem dX14_itemOf_23 : decode cX14_itemOf 23 = .ok (.aload_n 0, 1) := dk_42 (dk_at dksX14_itemOf_0 23 rfl rfl)
theorem dX14_itemOf_24 : decode cX14_itemOf 24 = .ok (.getfield 42, 3) := dk_180 0 42 (dk_at dksX14_itemOf_1 0 rfl rfl)
theorem dX14_itemOf_27 : decode cX14_itemOf 27 = .ok (.iload 4, 2) := dk_21 4 (dk_at dksX14_itemOf_1 3 rfl rfl)
theorem dX14_itemOf_29 : decode cX14_itemOf 29 = .ok (.iaload, 1) := dk_46 (dk_at dksX14_itemOf_1 5 rfl rfl)
theorem dX14_itemOf_30 : decode cX14_itemOf 30 = .ok (.iconst 3, 1) := dk_6 (dk_at dksX14_itemOf_1 6 rfl rfl)
theorem dX14_itemOf_31 : decode cX14_itemOf 31 = .ok (.if_icmp .ne 7, 3) := dk_160 0 7 (dk_at dksX14_itemOf_1 7 rfl rfl)
theorem dX14_itemOf_34 : decode cX14_itemOf 34 = .ok (.iload_n 3, 1) := dk_29 (dk_at dksX14_itemOf_1 10 rfl rfl)
theorem dX14_itemOf_35 : decode cX14_itemOf 35 = .ok (.ifCond .ne 5, 3) := dk_154 0 5 (dk_at dksX14_itemOf_1 11 rfl rfl)
theorem dX14_itemOf_38 : decode cX14_itemOf 38 = .ok (.iconst (-1), 1) := dk_2 (dk_at dksX14_itemOf_1 14 rfl rfl)
theorem dX14_itemOf_39 : decode cX14_itemOf 39 = .ok (.ireturn, 1) := dk_172 (dk_at dksX14_itemOf_1 15 rfl rfl)
theorem dX14_itemOf_40 : decode cX14_itemOf 40 = .ok (.aload_n 0, 1) := dk_42 (dk_at dksX14_itemOf_1 16 rfl rfl)
theorem dX14_itemOf_41 : decode cX14_itemOf 41 = .ok (.iload 4, 2) := dk_21 4 (dk_at dksX14_itemOf_1 17 rfl rfl)
theorem dX14_itemOf_43 : decode cX14_itemOf 43 = .ok (.iload_n 2, 1) := dk_28 (dk_at dksX14_itemOf_1 19 rfl rfl)
theorem dX14_itemOf_44 : decode cX14_itemOf 44 = .ok (.invokevirtual 615, 3) := dk_182 2 103 (dk_at dksX14_itemOf_1 20 rfl rfl)
theorem dX14_itemOf_47 : decode cX14_itemOf 47 = .ok (.ireturn, 1) := dk_172 (dk_at dksX14_itemOf_1 23 rfl rfl)
abbrev cX14_root : ByteArray := prog_15_method_68_code
def yX14_root : MethodName := ⟨RX14, "root", "(I)I"⟩
def dkwX14_root_3 : List UInt8 := [160, 0, 7, 2, 167, 0, 4, 28, 172]
abbrev dktX14_root_3 : List UInt8 := dkwX14_root_3 ++ []
def dkwX14_root_2 : List UInt8 := [21, 4, 46, 61, 132, 3, 1, 167, 255, 205, 28, 155, 0, 18, 42, 180, 0, 42, 28, 46, 16, 17]
abbrev dktX14_root_2 : List UInt8 := dkwX14_root_2 ++ dktX14_root_3
def dkwX14_root_1 : List UInt8 := [163, 0, 34, 42, 180, 0, 54, 28, 46, 54, 4, 21, 4, 156, 0, 7, 2, 167, 0, 10, 42, 180, 0, 178]
abbrev dktX14_root_1 : List UInt8 := dkwX14_root_1 ++ dktX14_root_2
def dkwX14_root_0 : List UInt8 := [27, 61, 3, 62, 28, 155, 0, 53, 42, 180, 0, 42, 28, 46, 16, 17, 160, 0, 42, 29, 42, 180, 1, 230]
abbrev dktX14_root_0 : List UInt8 := dkwX14_root_0 ++ dktX14_root_1
theorem dksX14_root_0 : cX14_root.data.toList.drop 0 = dktX14_root_0 := by decide +kernel
theorem dksX14_root_1 : cX14_root.data.toList.drop 24 = dktX14_root_1 := dk_seg dksX14_root_0 24 rfl rfl
theorem dksX14_root_2 : cX14_root.data.toList.drop 48 = dktX14_root_2 := dk_seg dksX14_root_1 24 rfl rfl
theorem dksX14_root_3 : cX14_root.data.toList.drop 70 = dktX14_root_3 := dk_seg dksX14_root_2 22 rfl rfl
theorem dX14_root_0 : decode cX14_root 0 = .ok (.iload_n 1, 1) := dk_27 (dk_at dksX14_root_0 0 rfl rfl)
theorem dX14_root_1 : decode cX14_root 1 = .ok (.istore_n 2, 1) := dk_61 (dk_at dksX14_root_0 1 rfl rfl)
theorem dX14_root_2 : decode cX14_root 2 = .ok (.iconst 0, 1) := dk_3 (dk_at dksX14_root_0 2 rfl rfl)
theorem dX14_root_3 : decode cX14_root 3 = .ok (.istore_n 3, 1) := dk_62 (dk_at dksX14_root_0 3 rfl rfl)
theorem dX14_root_4 : decode cX14_root 4 = .ok (.iload_n 2, 1) := dk_28 (dk_at dksX14_root_0 4 rfl rfl)
theorem dX14_root_5 : decode cX14_root 5 = .ok (.ifCond .lt 53, 3) := dk_155 0 53 (dk_at dksX14_root_0 5 rfl rfl)
theorem dX14_root_8 : decode cX14_root 8 = .ok (.aload_n 0, 1) := dk_42 (dk_at dksX14_root_0 8 rfl rfl)
theorem dX14_root_9 : decode cX14_root 9 = .ok (.getfield 42, 3) := dk_180 0 42 (dk_at dksX14_root_0 9 rfl rfl)
theorem dX14_root_12 : decode cX14_root 12 = .ok (.iload_n 2, 1) := dk_28 (dk_at dksX14_root_0 12 rfl rfl)
theorem dX14_root_13 : decode cX14_root 13 = .ok (.iaload, 1) := dk_46 (dk_at dksX14_root_0 13 rfl rfl)
theorem dX14_root_14 : decode cX14_root 14 = .ok (.bipush 17, 2) := dk_16 17 (dk_at dksX14_root_0 14 rfl rfl)
theorem dX14_root_16 : decode cX14_root 16 = .ok (.if_icmp .ne 42, 3) := dk_160 0 42 (dk_at dksX14_root_0 16 rfl rfl)
theorem dX14_root_19 : decode cX14_root 19 = .ok (.iload_n 3, 1) := dk_29 (dk_at dksX14_root_0 19 rfl rfl)
theorem dX14_root_20 : decode cX14_root 20 = .ok (.aload_n 0, 1) := dk_42 (dk_at dksX14_root_0 20 rfl rfl)
theorem dX14_root_21 : decode cX14_root 21 = .ok (.getfield 486, 3) := dk_180 1 230 (dk_at dksX14_root_0 21 rfl rfl)
theorem dX14_root_24 : decode cX14_root 24 = .ok (.if_icmp .gt 34, 3) := dk_163 0 34 (dk_at dksX14_root_1 0 rfl rfl)
theorem dX14_root_27 : decode cX14_root 27 = .ok (.aload_n 0, 1) := dk_42 (dk_at dksX14_root_1 3 rfl rfl)
theorem dX14_root_28 : decode cX14_root 28 = .ok (.getfield 54, 3) := dk_180 0 54 (dk_at dksX14_root_1 4 rfl rfl)
theorem dX14_root_31 : decode cX14_root 31 = .ok (.iload_n 2, 1) := dk_28 (dk_at dksX14_root_1 7 rfl rfl)
theorem dX14_root_32 : decode cX14_root 32 = .ok (.iaload, 1) := dk_46 (dk_at dksX14_root_1 8 rfl rfl)
theorem dX14_root_33 : decode cX14_root 33 = .ok (.istore 4, 2) := dk_54 4 (dk_at dksX14_root_1 9 rfl rfl)
theorem dX14_root_35 : decode cX14_root 35 = .ok (.iload 4, 2) := dk_21 4 (dk_at dksX14_root_1 11 rfl rfl)
theorem dX14_root_37 : decode cX14_root 37 = .ok (.ifCond .ge 7, 3) := dk_156 0 7 (dk_at dksX14_root_1 13 rfl rfl)
theorem dX14_root_40 : decode cX14_root 40 = .ok (.iconst (-1), 1) := dk_2 (dk_at dksX14_root_1 16 rfl rfl)
theorem dX14_root_41 : decode cX14_root 41 = .ok (.goto 10, 3) := dk_167 0 10 (dk_at dksX14_root_1 17 rfl rfl)
theorem dX14_root_44 : decode cX14_root 44 = .ok (.aload_n 0, 1) := dk_42 (dk_at dksX14_root_1 20 rfl rfl)
theorem dX14_root_45 : decode cX14_root 45 = .ok (.getfield 178, 3) := dk_180 0 178 (dk_at dksX14_root_1 21 rfl rfl)
theorem dX14_root_48 : decode cX14_root 48 = .ok (.iload 4, 2) := dk_21 4 (dk_at dksX14_root_2 0 rfl rfl)
theorem dX14_root_50 : decode cX14_root 50 = .ok (.iaload, 1) := dk_46 (dk_at dksX14_root_2 2 rfl rfl)
theorem dX14_root_51 : decode cX14_root 51 = .ok (.istore_n 2, 1) := dk_61 (dk_at dksX14_root_2 3 rfl rfl)
theorem dX14_root_52 : decode cX14_root 52 = .ok (.iinc 3 1, 3) := dk_132 3 1 (dk_at dksX14_root_2 4 rfl rfl)
theorem dX14_root_55 : decode cX14_root 55 = .ok (.goto (-51), 3) := dk_167 255 205 (dk_at dksX14_root_2 7 rfl rfl)
theorem dX14_root_58 : decode cX14_root 58 = .ok (.iload_n 2, 1) := dk_28 (dk_at dksX14_root_2 10 rfl rfl)
theorem dX14_root_59 : decode cX14_root 59 = .ok (.ifCond .lt 18, 3) := dk_155 0 18 (dk_at dksX14_root_2 11 rfl rfl)
theorem dX14_root_62 : decode cX14_root 62 = .ok (.aload_n 0, 1) := dk_42 (dk_at dksX14_root_2 14 rfl rfl)
theorem dX14_root_63 : decode cX14_root 63 = .ok (.getfield 42, 3) := dk_180 0 42 (dk_at dksX14_root_2 15 rfl rfl)
theorem dX14_root_66 : decode cX14_root 66 = .ok (.iload_n 2, 1) := dk_28 (dk_at dksX14_root_2 18 rfl rfl)
theorem dX14_root_67 : decode cX14_root 67 = .ok (.iaload, 1) := dk_46 (dk_at dksX14_root_2 19 rfl rfl)
theorem dX14_root_68 : decode cX14_root 68 = .ok (.bipush 17, 2) := dk_16 17 (dk_at dksX14_root_2 20 rfl rfl)
theorem dX14_root_70 : decode cX14_root 70 = .ok (.if_icmp .ne 7, 3) := dk_160 0 7 (dk_at dksX14_root_3 0 rfl rfl)
theorem dX14_root_73 : decode cX14_root 73 = .ok (.iconst (-1), 1) := dk_2 (dk_at dksX14_root_3 3 rfl rfl)
theorem dX14_root_74 : decode cX14_root 74 = .ok (.goto 4, 3) := dk_167 0 4 (dk_at dksX14_root_3 4 rfl rfl)
theorem dX14_root_77 : decode cX14_root 77 = .ok (.iload_n 2, 1) := dk_28 (dk_at dksX14_root_3 7 rfl rfl)
theorem dX14_root_78 : decode cX14_root 78 = .ok (.ireturn, 1) := dk_172 (dk_at dksX14_root_3 8 rfl rfl)
abbrev cX14_itemIn : ByteArray := prog_15_method_70_code
def yX14_itemIn : MethodName := ⟨RX14, "itemIn", "(II)I"⟩
def dkwX14_itemIn_1 : List UInt8 := [42, 42, 180, 0, 87, 29, 46, 28, 182, 2, 75, 153, 0, 5, 29, 172, 132, 3, 1, 167, 255, 220, 2, 172]
abbrev dktX14_itemIn_1 : List UInt8 := dkwX14_itemIn_1 ++ []
def dkwX14_itemIn_0 : List UInt8 := [42, 180, 0, 57, 27, 46, 62, 29, 42, 180, 0, 57, 27, 46, 42, 180, 0, 60, 27, 46, 96, 162, 0, 25]
abbrev dktX14_itemIn_0 : List UInt8 := dkwX14_itemIn_0 ++ dktX14_itemIn_1
theorem dksX14_itemIn_0 : cX14_itemIn.data.toList.drop 0 = dktX14_itemIn_0 := by decide +kernel
theorem dksX14_itemIn_1 : cX14_itemIn.data.toList.drop 24 = dktX14_itemIn_1 := dk_seg dksX14_itemIn_0 24 rfl rfl
theorem dX14_itemIn_0 : decode cX14_itemIn 0 = .ok (.aload_n 0, 1) := dk_42 (dk_at dksX14_itemIn_0 0 rfl rfl)
theorem dX14_itemIn_1 : decode cX14_itemIn 1 = .ok (.getfield 57, 3) := dk_180 0 57 (dk_at dksX14_itemIn_0 1 rfl rfl)
theorem dX14_itemIn_4 : decode cX14_itemIn 4 = .ok (.iload_n 1, 1) := dk_27 (dk_at dksX14_itemIn_0 4 rfl rfl)
theorem dX14_itemIn_5 : decode cX14_itemIn 5 = .ok (.iaload, 1) := dk_46 (dk_at dksX14_itemIn_0 5 rfl rfl)
theorem dX14_itemIn_6 : decode cX14_itemIn 6 = .ok (.istore_n 3, 1) := dk_62 (dk_at dksX14_itemIn_0 6 rfl rfl)
theorem dX14_itemIn_7 : decode cX14_itemIn 7 = .ok (.iload_n 3, 1) := dk_29 (dk_at dksX14_itemIn_0 7 rfl rfl)
theorem dX14_itemIn_8 : decode cX14_itemIn 8 = .ok (.aload_n 0, 1) := dk_42 (dk_at dksX14_itemIn_0 8 rfl rfl)
theorem dX14_itemIn_9 : decode cX14_itemIn 9 = .ok (.getfield 57, 3) := dk_180 0 57 (dk_at dksX14_itemIn_0 9 rfl rfl)
theorem dX14_itemIn_12 : decode cX14_itemIn 12 = .ok (.iload_n 1, 1) := dk_27 (dk_at dksX14_itemIn_0 12 rfl rfl)
theorem dX14_itemIn_13 : decode cX14_itemIn 13 = .ok (.iaload, 1) := dk_46 (dk_at dksX14_itemIn_0 13 rfl rfl)
theorem dX14_itemIn_14 : decode cX14_itemIn 14 = .ok (.aload_n 0, 1) := dk_42 (dk_at dksX14_itemIn_0 14 rfl rfl)
theorem dX14_itemIn_15 : decode cX14_itemIn 15 = .ok (.getfield 60, 3) := dk_180 0 60 (dk_at dksX14_itemIn_0 15 rfl rfl)
theorem dX14_itemIn_18 : decode cX14_itemIn 18 = .ok (.iload_n 1, 1) := dk_27 (dk_at dksX14_itemIn_0 18 rfl rfl)
theorem dX14_itemIn_19 : decode cX14_itemIn 19 = .ok (.iaload, 1) := dk_46 (dk_at dksX14_itemIn_0 19 rfl rfl)
theorem dX14_itemIn_20 : decode cX14_itemIn 20 = .ok (.iadd, 1) := dk_96 (dk_at dksX14_itemIn_0 20 rfl rfl)
theorem dX14_itemIn_21 : decode cX14_itemIn 21 = .ok (.if_icmp .ge 25, 3) := dk_162 0 25 (dk_at dksX14_itemIn_0 21 rfl rfl)
theorem dX14_itemIn_24 : decode cX14_itemIn 24 = .ok (.aload_n 0, 1) := dk_42 (dk_at dksX14_itemIn_1 0 rfl rfl)
theorem dX14_itemIn_25 : decode cX14_itemIn 25 = .ok (.aload_n 0, 1) := dk_42 (dk_at dksX14_itemIn_1 1 rfl rfl)
theorem dX14_itemIn_26 : decode cX14_itemIn 26 = .ok (.getfield 87, 3) := dk_180 0 87 (dk_at dksX14_itemIn_1 2 rfl rfl)
theorem dX14_itemIn_29 : decode cX14_itemIn 29 = .ok (.iload_n 3, 1) := dk_29 (dk_at dksX14_itemIn_1 5 rfl rfl)
theorem dX14_itemIn_30 : decode cX14_itemIn 30 = .ok (.iaload, 1) := dk_46 (dk_at dksX14_itemIn_1 6 rfl rfl)
theorem dX14_itemIn_31 : decode cX14_itemIn 31 = .ok (.iload_n 2, 1) := dk_28 (dk_at dksX14_itemIn_1 7 rfl rfl)
theorem dX14_itemIn_32 : decode cX14_itemIn 32 = .ok (.invokevirtual 587, 3) := dk_182 2 75 (dk_at dksX14_itemIn_1 8 rfl rfl)
theorem dX14_itemIn_35 : decode cX14_itemIn 35 = .ok (.ifCond .eq 5, 3) := dk_153 0 5 (dk_at dksX14_itemIn_1 11 rfl rfl)
theorem dX14_itemIn_38 : decode cX14_itemIn 38 = .ok (.iload_n 3, 1) := dk_29 (dk_at dksX14_itemIn_1 14 rfl rfl)
theorem dX14_itemIn_39 : decode cX14_itemIn 39 = .ok (.ireturn, 1) := dk_172 (dk_at dksX14_itemIn_1 15 rfl rfl)
theorem dX14_itemIn_40 : decode cX14_itemIn 40 = .ok (.iinc 3 1, 3) := dk_132 3 1 (dk_at dksX14_itemIn_1 16 rfl rfl)
theorem dX14_itemIn_43 : decode cX14_itemIn 43 = .ok (.goto (-36), 3) := dk_167 255 220 (dk_at dksX14_itemIn_1 19 rfl rfl)
theorem dX14_itemIn_46 : decode cX14_itemIn 46 = .ok (.iconst (-1), 1) := dk_2 (dk_at dksX14_itemIn_1 22 rfl rfl)
theorem dX14_itemIn_47 : decode cX14_itemIn 47 = .ok (.ireturn, 1) := dk_172 (dk_at dksX14_itemIn_1 23 rfl rfl)
abbrev cX14_checkEndless : ByteArray := prog_15_method_74_code
def yX14_checkEndless : MethodName := ⟨RX14, "checkEndless", "()V"⟩
def dkwX14_checkEndless_5 : List UInt8 := [28, 46, 46, 46, 182, 2, 85, 132, 2, 1, 167, 255, 206, 42, 16, 7, 182, 2, 91, 177]
abbrev dktX14_checkEndless_5 : List UInt8 := dkwX14_checkEndless_5 ++ []
def dkwX14_checkEndless_4 : List UInt8 := [42, 180, 0, 184, 28, 46, 46, 51, 154, 0, 23, 42, 42, 180, 0, 36, 42, 180, 0, 175, 42, 180, 0, 184]
abbrev dktX14_checkEndless_4 : List UInt8 := dkwX14_checkEndless_4 ++ dktX14_checkEndless_5
def dkwX14_checkEndless_3 : List UInt8 := [167, 255, 223, 167, 255, 207, 3, 61, 28, 42, 180, 1, 237, 162, 0, 48, 42, 180, 0, 217, 42, 180, 0, 178]
abbrev dktX14_checkEndless_3 : List UInt8 := dkwX14_checkEndless_3 ++ dktX14_checkEndless_4
def dkwX14_checkEndless_2 : List UInt8 := [154, 0, 20, 42, 28, 182, 2, 112, 153, 0, 12, 42, 180, 0, 217, 28, 4, 84, 4, 60, 132, 2, 255]
abbrev dktX14_checkEndless_2 : List UInt8 := dkwX14_checkEndless_2 ++ dktX14_checkEndless_3
def dkwX14_checkEndless_1 : List UInt8 := [60, 27, 153, 0, 51, 3, 60, 42, 180, 2, 5, 4, 100, 61, 28, 155, 0, 35, 42, 180, 0, 217, 28, 51]
abbrev dktX14_checkEndless_1 : List UInt8 := dkwX14_checkEndless_1 ++ dktX14_checkEndless_2
def dkwX14_checkEndless_0 : List UInt8 := [3, 60, 27, 42, 180, 2, 5, 162, 0, 16, 42, 180, 0, 217, 27, 3, 84, 132, 1, 1, 167, 255, 238, 4]
abbrev dktX14_checkEndless_0 : List UInt8 := dkwX14_checkEndless_0 ++ dktX14_checkEndless_1
theorem dksX14_checkEndless_0 : cX14_checkEndless.data.toList.drop 0 = dktX14_checkEndless_0 := by decide +kernel
theorem dksX14_checkEndless_1 : cX14_checkEndless.data.toList.drop 24 = dktX14_checkEndless_1 := dk_seg dksX14_checkEndless_0 24 rfl rfl
theorem dksX14_checkEndless_2 : cX14_checkEndless.data.toList.drop 48 = dktX14_checkEndless_2 := dk_seg dksX14_checkEndless_1 24 rfl rfl
theorem dksX14_checkEndless_3 : cX14_checkEndless.data.toList.drop 71 = dktX14_checkEndless_3 := dk_seg dksX14_checkEndless_2 23 rfl rfl
theorem dksX14_checkEndless_4 : cX14_checkEndless.data.toList.drop 95 = dktX14_checkEndless_4 := dk_seg dksX14_checkEndless_3 24 rfl rfl
theorem dksX14_checkEndless_5 : cX14_checkEndless.data.toList.drop 119 = dktX14_checkEndless_5 := dk_seg dksX14_checkEndless_4 24 rfl rfl
theorem dX14_checkEndless_0 : decode cX14_checkEndless 0 = .ok (.iconst 0, 1) := dk_3 (dk_at dksX14_checkEndless_0 0 rfl rfl)
theorem dX14_checkEndless_1 : decode cX14_checkEndless 1 = .ok (.istore_n 1, 1) := dk_60 (dk_at dksX14_checkEndless_0 1 rfl rfl)
theorem dX14_checkEndless_2 : decode cX14_checkEndless 2 = .ok (.iload_n 1, 1) := dk_27 (dk_at dksX14_checkEndless_0 2 rfl rfl)
theorem dX14_checkEndless_3 : decode cX14_checkEndless 3 = .ok (.aload_n 0, 1) := dk_42 (dk_at dksX14_checkEndless_0 3 rfl rfl)
theorem dX14_checkEndless_4 : decode cX14_checkEndless 4 = .ok (.getfield 517, 3) := dk_180 2 5 (dk_at dksX14_checkEndless_0 4 rfl rfl)
theorem dX14_checkEndless_7 : decode cX14_checkEndless 7 = .ok (.if_icmp .ge 16, 3) := dk_162 0 16 (dk_at dksX14_checkEndless_0 7 rfl rfl)
theorem dX14_checkEndless_10 : decode cX14_checkEndless 10 = .ok (.aload_n 0, 1) := dk_42 (dk_at dksX14_checkEndless_0 10 rfl rfl)
theorem dX14_checkEndless_11 : decode cX14_checkEndless 11 = .ok (.getfield 217, 3) := dk_180 0 217 (dk_at dksX14_checkEndless_0 11 rfl rfl)
theorem dX14_checkEndless_14 : decode cX14_checkEndless 14 = .ok (.iload_n 1, 1) := dk_27 (dk_at dksX14_checkEndless_0 14 rfl rfl)
theorem dX14_checkEndless_15 : decode cX14_checkEndless 15 = .ok (.iconst 0, 1) := dk_3 (dk_at dksX14_checkEndless_0 15 rfl rfl)
theorem dX14_checkEndless_16 : decode cX14_checkEndless 16 = .ok (.bastore, 1) := dk_84 (dk_at dksX14_checkEndless_0 16 rfl rfl)
theorem dX14_checkEndless_17 : decode cX14_checkEndless 17 = .ok (.iinc 1 1, 3) := dk_132 1 1 (dk_at dksX14_checkEndless_0 17 rfl rfl)
theorem dX14_checkEndless_20 : decode cX14_checkEndless 20 = .ok (.goto (-18), 3) := dk_167 255 238 (dk_at dksX14_checkEndless_0 20 rfl rfl)
theorem dX14_checkEndless_23 : decode cX14_checkEndless 23 = .ok (.iconst 1, 1) := dk_4 (dk_at dksX14_checkEndless_0 23 rfl rfl)
theorem dX14_checkEndless_24 : decode cX14_checkEndless 24 = .ok (.istore_n 1, 1) := dk_60 (dk_at dksX14_checkEndless_1 0 rfl rfl)
theorem dX14_checkEndless_25 : decode cX14_checkEndless 25 = .ok (.iload_n 1, 1) := dk_27 (dk_at dksX14_checkEndless_1 1 rfl rfl)
theorem dX14_checkEndless_26 : decode cX14_checkEndless 26 = .ok (.ifCond .eq 51, 3) := dk_153 0 51 (dk_at dksX14_checkEndless_1 2 rfl rfl)
theorem dX14_checkEndless_29 : decode cX14_checkEndless 29 = .ok (.iconst 0, 1) := dk_3 (dk_at dksX14_checkEndless_1 5 rfl rfl)
theorem dX14_checkEndless_30 : decode cX14_checkEndless 30 = .ok (.istore_n 1, 1) := dk_60 (dk_at dksX14_checkEndless_1 6 rfl rfl)
theorem dX14_checkEndless_31 : decode cX14_checkEndless 31 = .ok (.aload_n 0, 1) := dk_42 (dk_at dksX14_checkEndless_1 7 rfl rfl)
theorem dX14_checkEndless_32 : decode cX14_checkEndless 32 = .ok (.getfield 517, 3) := dk_180 2 5 (dk_at dksX14_checkEndless_1 8 rfl rfl)
theorem dX14_checkEndless_35 : decode cX14_checkEndless 35 = .ok (.iconst 1, 1) := dk_4 (dk_at dksX14_checkEndless_1 11 rfl rfl)
theorem dX14_checkEndless_36 : decode cX14_checkEndless 36 = .ok (.isub, 1) := dk_100 (dk_at dksX14_checkEndless_1 12 rfl rfl)
theorem dX14_checkEndless_37 : decode cX14_checkEndless 37 = .ok (.istore_n 2, 1) := dk_61 (dk_at dksX14_checkEndless_1 13 rfl rfl)
theorem dX14_checkEndless_38 : decode cX14_checkEndless 38 = .ok (.iload_n 2, 1) := dk_28 (dk_at dksX14_checkEndless_1 14 rfl rfl)
theorem dX14_checkEndless_39 : decode cX14_checkEndless 39 = .ok (.ifCond .lt 35, 3) := dk_155 0 35 (dk_at dksX14_checkEndless_1 15 rfl rfl)
theorem dX14_checkEndless_42 : decode cX14_checkEndless 42 = .ok (.aload_n 0, 1) := dk_42 (dk_at dksX14_checkEndless_1 18 rfl rfl)
theorem dX14_checkEndless_43 : decode cX14_checkEndless 43 = .ok (.getfield 217, 3) := dk_180 0 217 (dk_at dksX14_checkEndless_1 19 rfl rfl)
theorem dX14_checkEndless_46 : decode cX14_checkEndless 46 = .ok (.iload_n 2, 1) := dk_28 (dk_at dksX14_checkEndless_1 22 rfl rfl)
theorem dX14_checkEndless_47 : decode cX14_checkEndless 47 = .ok (.baload, 1) := dk_51 (dk_at dksX14_checkEndless_1 23 rfl rfl)
theorem dX14_checkEndless_48 : decode cX14_checkEndless 48 = .ok (.ifCond .ne 20, 3) := dk_154 0 20 (dk_at dksX14_checkEndless_2 0 rfl rfl)
theorem dX14_checkEndless_51 : decode cX14_checkEndless 51 = .ok (.aload_n 0, 1) := dk_42 (dk_at dksX14_checkEndless_2 3 rfl rfl)
theorem dX14_checkEndless_52 : decode cX14_checkEndless 52 = .ok (.iload_n 2, 1) := dk_28 (dk_at dksX14_checkEndless_2 4 rfl rfl)
theorem dX14_checkEndless_53 : decode cX14_checkEndless 53 = .ok (.invokevirtual 624, 3) := dk_182 2 112 (dk_at dksX14_checkEndless_2 5 rfl rfl)
theorem dX14_checkEndless_56 : decode cX14_checkEndless 56 = .ok (.ifCond .eq 12, 3) := dk_153 0 12 (dk_at dksX14_checkEndless_2 8 rfl rfl)
theorem dX14_checkEndless_59 : decode cX14_checkEndless 59 = .ok (.aload_n 0, 1) := dk_42 (dk_at dksX14_checkEndless_2 11 rfl rfl)
theorem dX14_checkEndless_60 : decode cX14_checkEndless 60 = .ok (.getfield 217, 3) := dk_180 0 217 (dk_at dksX14_checkEndless_2 12 rfl rfl)
theorem dX14_checkEndless_63 : decode cX14_checkEndless 63 = .ok (.iload_n 2, 1) := dk_28 (dk_at dksX14_checkEndless_2 15 rfl rfl)
theorem dX14_checkEndless_64 : decode cX14_checkEndless 64 = .ok (.iconst 1, 1) := dk_4 (dk_at dksX14_checkEndless_2 16 rfl rfl)
theorem dX14_checkEndless_65 : decode cX14_checkEndless 65 = .ok (.bastore, 1) := dk_84 (dk_at dksX14_checkEndless_2 17 rfl rfl)
theorem dX14_checkEndless_66 : decode cX14_checkEndless 66 = .ok (.iconst 1, 1) := dk_4 (dk_at dksX14_checkEndless_2 18 rfl rfl)
theorem dX14_checkEndless_67 : decode cX14_checkEndless 67 = .ok (.istore_n 1, 1) := dk_60 (dk_at dksX14_checkEndless_2 19 rfl rfl)
theorem dX14_checkEndless_68 : decode cX14_checkEndless 68 = .ok (.iinc 2 (-1), 3) := dk_132 2 255 (dk_at dksX14_checkEndless_2 20 rfl rfl)
theorem dX14_checkEndless_71 : decode cX14_checkEndless 71 = .ok (.goto (-33), 3) := dk_167 255 223 (dk_at dksX14_checkEndless_3 0 rfl rfl)
theorem dX14_checkEndless_74 : decode cX14_checkEndless 74 = .ok (.goto (-49), 3) := dk_167 255 207 (dk_at dksX14_checkEndless_3 3 rfl rfl)
theorem dX14_checkEndless_77 : decode cX14_checkEndless 77 = .ok (.iconst 0, 1) := dk_3 (dk_at dksX14_checkEndless_3 6 rfl rfl)
theorem dX14_checkEndless_78 : decode cX14_checkEndless 78 = .ok (.istore_n 2, 1) := dk_61 (dk_at dksX14_checkEndless_3 7 rfl rfl)
theorem dX14_checkEndless_79 : decode cX14_checkEndless 79 = .ok (.iload_n 2, 1) := dk_28 (dk_at dksX14_checkEndless_3 8 rfl rfl)
theorem dX14_checkEndless_80 : decode cX14_checkEndless 80 = .ok (.aload_n 0, 1) := dk_42 (dk_at dksX14_checkEndless_3 9 rfl rfl)
theorem dX14_checkEndless_81 : decode cX14_checkEndless 81 = .ok (.getfield 493, 3) := dk_180 1 237 (dk_at dksX14_checkEndless_3 10 rfl rfl)
theorem dX14_checkEndless_84 : decode cX14_checkEndless 84 = .ok (.if_icmp .ge 48, 3) := dk_162 0 48 (dk_at dksX14_checkEndless_3 13 rfl rfl)
theorem dX14_checkEndless_87 : decode cX14_checkEndless 87 = .ok (.aload_n 0, 1) := dk_42 (dk_at dksX14_checkEndless_3 16 rfl rfl)
theorem dX14_checkEndless_88 : decode cX14_checkEndless 88 = .ok (.getfield 217, 3) := dk_180 0 217 (dk_at dksX14_checkEndless_3 17 rfl rfl)
theorem dX14_checkEndless_91 : decode cX14_checkEndless 91 = .ok (.aload_n 0, 1) := dk_42 (dk_at dksX14_checkEndless_3 20 rfl rfl)
theorem dX14_checkEndless_92 : decode cX14_checkEndless 92 = .ok (.getfield 178, 3) := dk_180 0 178 (dk_at dksX14_checkEndless_3 21 rfl rfl)
theorem dX14_checkEndless_95 : decode cX14_checkEndless 95 = .ok (.aload_n 0, 1) := dk_42 (dk_at dksX14_checkEndless_4 0 rfl rfl)
theorem dX14_checkEndless_96 : decode cX14_checkEndless 96 = .ok (.getfield 184, 3) := dk_180 0 184 (dk_at dksX14_checkEndless_4 1 rfl rfl)
theorem dX14_checkEndless_99 : decode cX14_checkEndless 99 = .ok (.iload_n 2, 1) := dk_28 (dk_at dksX14_checkEndless_4 4 rfl rfl)
theorem dX14_checkEndless_100 : decode cX14_checkEndless 100 = .ok (.iaload, 1) := dk_46 (dk_at dksX14_checkEndless_4 5 rfl rfl)
theorem dX14_checkEndless_101 : decode cX14_checkEndless 101 = .ok (.iaload, 1) := dk_46 (dk_at dksX14_checkEndless_4 6 rfl rfl)
theorem dX14_checkEndless_102 : decode cX14_checkEndless 102 = .ok (.baload, 1) := dk_51 (dk_at dksX14_checkEndless_4 7 rfl rfl)
theorem dX14_checkEndless_103 : decode cX14_checkEndless 103 = .ok (.ifCond .ne 23, 3) := dk_154 0 23 (dk_at dksX14_checkEndless_4 8 rfl rfl)
theorem dX14_checkEndless_106 : decode cX14_checkEndless 106 = .ok (.aload_n 0, 1) := dk_42 (dk_at dksX14_checkEndless_4 11 rfl rfl)
theorem dX14_checkEndless_107 : decode cX14_checkEndless 107 = .ok (.aload_n 0, 1) := dk_42 (dk_at dksX14_checkEndless_4 12 rfl rfl)
theorem dX14_checkEndless_108 : decode cX14_checkEndless 108 = .ok (.getfield 36, 3) := dk_180 0 36 (dk_at dksX14_checkEndless_4 13 rfl rfl)
theorem dX14_checkEndless_111 : decode cX14_checkEndless 111 = .ok (.aload_n 0, 1) := dk_42 (dk_at dksX14_checkEndless_4 16 rfl rfl)
theorem dX14_checkEndless_112 : decode cX14_checkEndless 112 = .ok (.getfield 175, 3) := dk_180 0 175 (dk_at dksX14_checkEndless_4 17 rfl rfl)
theorem dX14_checkEndless_115 : decode cX14_checkEndless 115 = .ok (.aload_n 0, 1) := dk_42 (dk_at dksX14_checkEndless_4 20 rfl rfl)
theorem dX14_checkEndless_116 : decode cX14_checkEndless 116 = .ok (.getfield 184, 3) := dk_180 0 184 (dk_at dksX14_checkEndless_4 21 rfl rfl)
theorem dX14_checkEndless_119 : decode cX14_checkEndless 119 = .ok (.iload_n 2, 1) := dk_28 (dk_at dksX14_checkEndless_5 0 rfl rfl)
theorem dX14_checkEndless_120 : decode cX14_checkEndless 120 = .ok (.iaload, 1) := dk_46 (dk_at dksX14_checkEndless_5 1 rfl rfl)
theorem dX14_checkEndless_121 : decode cX14_checkEndless 121 = .ok (.iaload, 1) := dk_46 (dk_at dksX14_checkEndless_5 2 rfl rfl)
theorem dX14_checkEndless_122 : decode cX14_checkEndless 122 = .ok (.iaload, 1) := dk_46 (dk_at dksX14_checkEndless_5 3 rfl rfl)
theorem dX14_checkEndless_123 : decode cX14_checkEndless 123 = .ok (.invokevirtual 597, 3) := dk_182 2 85 (dk_at dksX14_checkEndless_5 4 rfl rfl)
theorem dX14_checkEndless_126 : decode cX14_checkEndless 126 = .ok (.iinc 2 1, 3) := dk_132 2 1 (dk_at dksX14_checkEndless_5 7 rfl rfl)
theorem dX14_checkEndless_129 : decode cX14_checkEndless 129 = .ok (.goto (-50), 3) := dk_167 255 206 (dk_at dksX14_checkEndless_5 10 rfl rfl)
theorem dX14_checkEndless_132 : decode cX14_checkEndless 132 = .ok (.aload_n 0, 1) := dk_42 (dk_at dksX14_checkEndless_5 13 rfl rfl)
theorem dX14_checkEndless_133 : decode cX14_checkEndless 133 = .ok (.bipush 7, 2) := dk_16 7 (dk_at dksX14_checkEndless_5 14 rfl rfl)
theorem dX14_checkEndless_135 : decode cX14_checkEndless 135 = .ok (.invokevirtual 603, 3) := dk_182 2 91 (dk_at dksX14_checkEndless_5 16 rfl rfl)
theorem dX14_checkEndless_138 : decode cX14_checkEndless 138 = .ok (.return_, 1) := dk_177 (dk_at dksX14_checkEndless_5 19 rfl rfl)
abbrev cX14_isFinite : ByteArray := prog_15_method_73_code
def yX14_isFinite : MethodName := ⟨RX14, "isFinite", "(I)Z"⟩
def dkwX14_isFinite_6 : List UInt8 := [167, 255, 180, 28, 16, 16, 160, 0, 8, 21, 4, 167, 0, 4, 29, 172]
abbrev dktX14_isFinite_6 : List UInt8 := dkwX14_isFinite_6 ++ []
def dkwX14_isFinite_5 : List UInt8 := [21, 5, 46, 51, 153, 0, 7, 4, 167, 0, 4, 3, 54, 4, 42, 180, 0, 112, 21, 5, 46, 54, 5]
abbrev dktX14_isFinite_5 : List UInt8 := dkwX14_isFinite_5 ++ dktX14_isFinite_6
def dkwX14_isFinite_4 : List UInt8 := [51, 153, 0, 7, 4, 167, 0, 4, 3, 62, 21, 4, 154, 0, 18, 42, 180, 0, 217, 42, 180, 0, 103]
abbrev dktX14_isFinite_4 : List UInt8 := dkwX14_isFinite_4 ++ dktX14_isFinite_5
def dkwX14_isFinite_3 : List UInt8 := [153, 0, 32, 42, 180, 0, 106, 21, 5, 46, 157, 0, 18, 42, 180, 0, 217, 42, 180, 0, 103, 21, 5, 46]
abbrev dktX14_isFinite_3 : List UInt8 := dkwX14_isFinite_3 ++ dktX14_isFinite_4
def dkwX14_isFinite_2 : List UInt8 := [159, 0, 5, 4, 172, 4, 62, 3, 54, 4, 42, 180, 0, 63, 27, 46, 54, 5, 21, 5, 155, 0, 77, 29]
abbrev dktX14_isFinite_2 : List UInt8 := dkwX14_isFinite_2 ++ dktX14_isFinite_3
def dkwX14_isFinite_1 : List UInt8 := [180, 0, 54, 27, 46, 46, 51, 172, 28, 16, 12, 159, 0, 17, 28, 16, 13, 159, 0, 11, 28, 16, 16]
abbrev dktX14_isFinite_1 : List UInt8 := dkwX14_isFinite_1 ++ dktX14_isFinite_2
def dkwX14_isFinite_0 : List UInt8 := [42, 180, 0, 42, 27, 46, 61, 28, 16, 17, 160, 0, 20, 42, 180, 0, 217, 42, 180, 0, 178, 42]
abbrev dktX14_isFinite_0 : List UInt8 := dkwX14_isFinite_0 ++ dktX14_isFinite_1
theorem dksX14_isFinite_0 : cX14_isFinite.data.toList.drop 0 = dktX14_isFinite_0 := by decide +kernel
theorem dksX14_isFinite_1 : cX14_isFinite.data.toList.drop 22 = dktX14_isFinite_1 := dk_seg dksX14_isFinite_0 22 rfl rfl
theorem dksX14_isFinite_2 : cX14_isFinite.data.toList.drop 45 = dktX14_isFinite_2 := dk_seg dksX14_isFinite_1 23 rfl rfl
theorem dksX14_isFinite_3 : cX14_isFinite.data.toList.drop 69 = dktX14_isFinite_3 := dk_seg dksX14_isFinite_2 24 rfl rfl
theorem dksX14_isFinite_4 : cX14_isFinite.data.toList.drop 93 = dktX14_isFinite_4 := dk_seg dksX14_isFinite_3 24 rfl rfl
theorem dksX14_isFinite_5 : cX14_isFinite.data.toList.drop 116 = dktX14_isFinite_5 := dk_seg dksX14_isFinite_4 23 rfl rfl
theorem dksX14_isFinite_6 : cX14_isFinite.data.toList.drop 139 = dktX14_isFinite_6 := dk_seg dksX14_isFinite_5 23 rfl rfl
theorem dX14_isFinite_0 : decode cX14_isFinite 0 = .ok (.aload_n 0, 1) := dk_42 (dk_at dksX14_isFinite_0 0 rfl rfl)
theorem dX14_isFinite_1 : decode cX14_isFinite 1 = .ok (.getfield 42, 3) := dk_180 0 42 (dk_at dksX14_isFinite_0 1 rfl rfl)
theorem dX14_isFinite_4 : decode cX14_isFinite 4 = .ok (.iload_n 1, 1) := dk_27 (dk_at dksX14_isFinite_0 4 rfl rfl)
theorem dX14_isFinite_5 : decode cX14_isFinite 5 = .ok (.iaload, 1) := dk_46 (dk_at dksX14_isFinite_0 5 rfl rfl)
theorem dX14_isFinite_6 : decode cX14_isFinite 6 = .ok (.istore_n 2, 1) := dk_61 (dk_at dksX14_isFinite_0 6 rfl rfl)
theorem dX14_isFinite_7 : decode cX14_isFinite 7 = .ok (.iload_n 2, 1) := dk_28 (dk_at dksX14_isFinite_0 7 rfl rfl)
theorem dX14_isFinite_8 : decode cX14_isFinite 8 = .ok (.bipush 17, 2) := dk_16 17 (dk_at dksX14_isFinite_0 8 rfl rfl)
theorem dX14_isFinite_10 : decode cX14_isFinite 10 = .ok (.if_icmp .ne 20, 3) := dk_160 0 20 (dk_at dksX14_isFinite_0 10 rfl rfl)
theorem dX14_isFinite_13 : decode cX14_isFinite 13 = .ok (.aload_n 0, 1) := dk_42 (dk_at dksX14_isFinite_0 13 rfl rfl)
theorem dX14_isFinite_14 : decode cX14_isFinite 14 = .ok (.getfield 217, 3) := dk_180 0 217 (dk_at dksX14_isFinite_0 14 rfl rfl)
theorem dX14_isFinite_17 : decode cX14_isFinite 17 = .ok (.aload_n 0, 1) := dk_42 (dk_at dksX14_isFinite_0 17 rfl rfl)
theorem dX14_isFinite_18 : decode cX14_isFinite 18 = .ok (.getfield 178, 3) := dk_180 0 178 (dk_at dksX14_isFinite_0 18 rfl rfl)
theorem dX14_isFinite_21 : decode cX14_isFinite 21 = .ok (.aload_n 0, 1) := dk_42 (dk_at dksX14_isFinite_0 21 rfl rfl)
theorem dX14_isFinite_22 : decode cX14_isFinite 22 = .ok (.getfield 54, 3) := dk_180 0 54 (dk_at dksX14_isFinite_1 0 rfl rfl)
theorem dX14_isFinite_25 : decode cX14_isFinite 25 = .ok (.iload_n 1, 1) := dk_27 (dk_at dksX14_isFinite_1 3 rfl rfl)
theorem dX14_isFinite_26 : decode cX14_isFinite 26 = .ok (.iaload, 1) := dk_46 (dk_at dksX14_isFinite_1 4 rfl rfl)
theorem dX14_isFinite_27 : decode cX14_isFinite 27 = .ok (.iaload, 1) := dk_46 (dk_at dksX14_isFinite_1 5 rfl rfl)
theorem dX14_isFinite_28 : decode cX14_isFinite 28 = .ok (.baload, 1) := dk_51 (dk_at dksX14_isFinite_1 6 rfl rfl)
theorem dX14_isFinite_29 : decode cX14_isFinite 29 = .ok (.ireturn, 1) := dk_172 (dk_at dksX14_isFinite_1 7 rfl rfl)
theorem dX14_isFinite_30 : decode cX14_isFinite 30 = .ok (.iload_n 2, 1) := dk_28 (dk_at dksX14_isFinite_1 8 rfl rfl)
theorem dX14_isFinite_31 : decode cX14_isFinite 31 = .ok (.bipush 12, 2) := dk_16 12 (dk_at dksX14_isFinite_1 9 rfl rfl)
theorem dX14_isFinite_33 : decode cX14_isFinite 33 = .ok (.if_icmp .eq 17, 3) := dk_159 0 17 (dk_at dksX14_isFinite_1 11 rfl rfl)
theorem dX14_isFinite_36 : decode cX14_isFinite 36 = .ok (.iload_n 2, 1) := dk_28 (dk_at dksX14_isFinite_1 14 rfl rfl)
theorem dX14_isFinite_37 : decode cX14_isFinite 37 = .ok (.bipush 13, 2) := dk_16 13 (dk_at dksX14_isFinite_1 15 rfl rfl)
theorem dX14_isFinite_39 : decode cX14_isFinite 39 = .ok (.if_icmp .eq 11, 3) := dk_159 0 11 (dk_at dksX14_isFinite_1 17 rfl rfl)
theorem dX14_isFinite_42 : decode cX14_isFinite 42 = .ok (.iload_n 2, 1) := dk_28 (dk_at dksX14_isFinite_1 20 rfl rfl)
theorem dX14_isFinite_43 : decode cX14_isFinite 43 = .ok (.bipush 16, 2) := dk_16 16 (dk_at dksX14_isFinite_1 21 rfl rfl)
theorem dX14_isFinite_45 : decode cX14_isFinite 45 = .ok (.if_icmp .eq 5, 3) := dk_159 0 5 (dk_at dksX14_isFinite_2 0 rfl rfl)
theorem dX14_isFinite_48 : decode cX14_isFinite 48 = .ok (.iconst 1, 1) := dk_4 (dk_at dksX14_isFinite_2 3 rfl rfl)
theorem dX14_isFinite_49 : decode cX14_isFinite 49 = .ok (.ireturn, 1) := dk_172 (dk_at dksX14_isFinite_2 4 rfl rfl)
theorem dX14_isFinite_50 : decode cX14_isFinite 50 = .ok (.iconst 1, 1) := dk_4 (dk_at dksX14_isFinite_2 5 rfl rfl)
theorem dX14_isFinite_51 : decode cX14_isFinite 51 = .ok (.istore_n 3, 1) := dk_62 (dk_at dksX14_isFinite_2 6 rfl rfl)
theorem dX14_isFinite_52 : decode cX14_isFinite 52 = .ok (.iconst 0, 1) := dk_3 (dk_at dksX14_isFinite_2 7 rfl rfl)
theorem dX14_isFinite_53 : decode cX14_isFinite 53 = .ok (.istore 4, 2) := dk_54 4 (dk_at dksX14_isFinite_2 8 rfl rfl)
theorem dX14_isFinite_55 : decode cX14_isFinite 55 = .ok (.aload_n 0, 1) := dk_42 (dk_at dksX14_isFinite_2 10 rfl rfl)
theorem dX14_isFinite_56 : decode cX14_isFinite 56 = .ok (.getfield 63, 3) := dk_180 0 63 (dk_at dksX14_isFinite_2 11 rfl rfl)
theorem dX14_isFinite_59 : decode cX14_isFinite 59 = .ok (.iload_n 1, 1) := dk_27 (dk_at dksX14_isFinite_2 14 rfl rfl)
theorem dX14_isFinite_60 : decode cX14_isFinite 60 = .ok (.iaload, 1) := dk_46 (dk_at dksX14_isFinite_2 15 rfl rfl)
theorem dX14_isFinite_61 : decode cX14_isFinite 61 = .ok (.istore 5, 2) := dk_54 5 (dk_at dksX14_isFinite_2 16 rfl rfl)
theorem dX14_isFinite_63 : decode cX14_isFinite 63 = .ok (.iload 5, 2) := dk_21 5 (dk_at dksX14_isFinite_2 18 rfl rfl)
theorem dX14_isFinite_65 : decode cX14_isFinite 65 = .ok (.ifCond .lt 77, 3) := dk_155 0 77 (dk_at dksX14_isFinite_2 20 rfl rfl)
theorem dX14_isFinite_68 : decode cX14_isFinite 68 = .ok (.iload_n 3, 1) := dk_29 (dk_at dksX14_isFinite_2 23 rfl rfl)
theorem dX14_isFinite_69 : decode cX14_isFinite 69 = .ok (.ifCond .eq 32, 3) := dk_153 0 32 (dk_at dksX14_isFinite_3 0 rfl rfl)
theorem dX14_isFinite_72 : decode cX14_isFinite 72 = .ok (.aload_n 0, 1) := dk_42 (dk_at dksX14_isFinite_3 3 rfl rfl)
theorem dX14_isFinite_73 : decode cX14_isFinite 73 = .ok (.getfield 106, 3) := dk_180 0 106 (dk_at dksX14_isFinite_3 4 rfl rfl)
theorem dX14_isFinite_76 : decode cX14_isFinite 76 = .ok (.iload 5, 2) := dk_21 5 (dk_at dksX14_isFinite_3 7 rfl rfl)
theorem dX14_isFinite_78 : decode cX14_isFinite 78 = .ok (.iaload, 1) := dk_46 (dk_at dksX14_isFinite_3 9 rfl rfl)
theorem dX14_isFinite_79 : decode cX14_isFinite 79 = .ok (.ifCond .gt 18, 3) := dk_157 0 18 (dk_at dksX14_isFinite_3 10 rfl rfl)
theorem dX14_isFinite_82 : decode cX14_isFinite 82 = .ok (.aload_n 0, 1) := dk_42 (dk_at dksX14_isFinite_3 13 rfl rfl)
theorem dX14_isFinite_83 : decode cX14_isFinite 83 = .ok (.getfield 217, 3) := dk_180 0 217 (dk_at dksX14_isFinite_3 14 rfl rfl)
theorem dX14_isFinite_86 : decode cX14_isFinite 86 = .ok (.aload_n 0, 1) := dk_42 (dk_at dksX14_isFinite_3 17 rfl rfl)
theorem dX14_isFinite_87 : decode cX14_isFinite 87 = .ok (.getfield 103, 3) := dk_180 0 103 (dk_at dksX14_isFinite_3 18 rfl rfl)
theorem dX14_isFinite_90 : decode cX14_isFinite 90 = .ok (.iload 5, 2) := dk_21 5 (dk_at dksX14_isFinite_3 21 rfl rfl)
theorem dX14_isFinite_92 : decode cX14_isFinite 92 = .ok (.iaload, 1) := dk_46 (dk_at dksX14_isFinite_3 23 rfl rfl)
theorem dX14_isFinite_93 : decode cX14_isFinite 93 = .ok (.baload, 1) := dk_51 (dk_at dksX14_isFinite_4 0 rfl rfl)
theorem dX14_isFinite_94 : decode cX14_isFinite 94 = .ok (.ifCond .eq 7, 3) := dk_153 0 7 (dk_at dksX14_isFinite_4 1 rfl rfl)
theorem dX14_isFinite_97 : decode cX14_isFinite 97 = .ok (.iconst 1, 1) := dk_4 (dk_at dksX14_isFinite_4 4 rfl rfl)
theorem dX14_isFinite_98 : decode cX14_isFinite 98 = .ok (.goto 4, 3) := dk_167 0 4 (dk_at dksX14_isFinite_4 5 rfl rfl)
theorem dX14_isFinite_101 : decode cX14_isFinite 101 = .ok (.iconst 0, 1) := dk_3 (dk_at dksX14_isFinite_4 8 rfl rfl)
theorem dX14_isFinite_102 : decode cX14_isFinite 102 = .ok (.istore_n 3, 1) := dk_62 (dk_at dksX14_isFinite_4 9 rfl rfl)
theorem dX14_isFinite_103 : decode cX14_isFinite 103 = .ok (.iload 4, 2) := dk_21 4 (dk_at dksX14_isFinite_4 10 rfl rfl)
theorem dX14_isFinite_105 : decode cX14_isFinite 105 = .ok (.ifCond .ne 18, 3) := dk_154 0 18 (dk_at dksX14_isFinite_4 12 rfl rfl)
theorem dX14_isFinite_108 : decode cX14_isFinite 108 = .ok (.aload_n 0, 1) := dk_42 (dk_at dksX14_isFinite_4 15 rfl rfl)
theorem dX14_isFinite_109 : decode cX14_isFinite 109 = .ok (.getfield 217, 3) := dk_180 0 217 (dk_at dksX14_isFinite_4 16 rfl rfl)
theorem dX14_isFinite_112 : decode cX14_isFinite 112 = .ok (.aload_n 0, 1) := dk_42 (dk_at dksX14_isFinite_4 19 rfl rfl)
theorem dX14_isFinite_113 : decode cX14_isFinite 113 = .ok (.getfield 103, 3) := dk_180 0 103 (dk_at dksX14_isFinite_4 20 rfl rfl)
theorem dX14_isFinite_116 : decode cX14_isFinite 116 = .ok (.iload 5, 2) := dk_21 5 (dk_at dksX14_isFinite_5 0 rfl rfl)
theorem dX14_isFinite_118 : decode cX14_isFinite 118 = .ok (.iaload, 1) := dk_46 (dk_at dksX14_isFinite_5 2 rfl rfl)
theorem dX14_isFinite_119 : decode cX14_isFinite 119 = .ok (.baload, 1) := dk_51 (dk_at dksX14_isFinite_5 3 rfl rfl)
theorem dX14_isFinite_120 : decode cX14_isFinite 120 = .ok (.ifCond .eq 7, 3) := dk_153 0 7 (dk_at dksX14_isFinite_5 4 rfl rfl)
theorem dX14_isFinite_123 : decode cX14_isFinite 123 = .ok (.iconst 1, 1) := dk_4 (dk_at dksX14_isFinite_5 7 rfl rfl)
theorem dX14_isFinite_124 : decode cX14_isFinite 124 = .ok (.goto 4, 3) := dk_167 0 4 (dk_at dksX14_isFinite_5 8 rfl rfl)
theorem dX14_isFinite_127 : decode cX14_isFinite 127 = .ok (.iconst 0, 1) := dk_3 (dk_at dksX14_isFinite_5 11 rfl rfl)
theorem dX14_isFinite_128 : decode cX14_isFinite 128 = .ok (.istore 4, 2) := dk_54 4 (dk_at dksX14_isFinite_5 12 rfl rfl)
theorem dX14_isFinite_130 : decode cX14_isFinite 130 = .ok (.aload_n 0, 1) := dk_42 (dk_at dksX14_isFinite_5 14 rfl rfl)
theorem dX14_isFinite_131 : decode cX14_isFinite 131 = .ok (.getfield 112, 3) := dk_180 0 112 (dk_at dksX14_isFinite_5 15 rfl rfl)
theorem dX14_isFinite_134 : decode cX14_isFinite 134 = .ok (.iload 5, 2) := dk_21 5 (dk_at dksX14_isFinite_5 18 rfl rfl)
theorem dX14_isFinite_136 : decode cX14_isFinite 136 = .ok (.iaload, 1) := dk_46 (dk_at dksX14_isFinite_5 20 rfl rfl)
theorem dX14_isFinite_137 : decode cX14_isFinite 137 = .ok (.istore 5, 2) := dk_54 5 (dk_at dksX14_isFinite_5 21 rfl rfl)
theorem dX14_isFinite_139 : decode cX14_isFinite 139 = .ok (.goto (-76), 3) := dk_167 255 180 (dk_at dksX14_isFinite_6 0 rfl rfl)
theorem dX14_isFinite_142 : decode cX14_isFinite 142 = .ok (.iload_n 2, 1) := dk_28 (dk_at dksX14_isFinite_6 3 rfl rfl)
theorem dX14_isFinite_143 : decode cX14_isFinite 143 = .ok (.bipush 16, 2) := dk_16 16 (dk_at dksX14_isFinite_6 4 rfl rfl)
theorem dX14_isFinite_145 : decode cX14_isFinite 145 = .ok (.if_icmp .ne 8, 3) := dk_160 0 8 (dk_at dksX14_isFinite_6 6 rfl rfl)
theorem dX14_isFinite_148 : decode cX14_isFinite 148 = .ok (.iload 4, 2) := dk_21 4 (dk_at dksX14_isFinite_6 9 rfl rfl)
theorem dX14_isFinite_150 : decode cX14_isFinite 150 = .ok (.goto 4, 3) := dk_167 0 4 (dk_at dksX14_isFinite_6 11 rfl rfl)
theorem dX14_isFinite_153 : decode cX14_isFinite 153 = .ok (.iload_n 3, 1) := dk_29 (dk_at dksX14_isFinite_6 14 rfl rfl)
theorem dX14_isFinite_154 : decode cX14_isFinite 154 = .ok (.ireturn, 1) := dk_172 (dk_at dksX14_isFinite_6 15 rfl rfl)
abbrev cX14_checkTags : ByteArray := prog_15_method_78_code
def yX14_checkTags : MethodName := ⟨RX14, "checkTags", "()V"⟩
def dkwX14_checkTags_6 : List UInt8 := [180, 0, 45, 27, 46, 46, 182, 2, 85, 132, 1, 1, 167, 255, 104, 42, 16, 8, 182, 2, 91, 177]
abbrev dktX14_checkTags_6 : List UInt8 := dkwX14_checkTags_6 ++ []
def dkwX14_checkTags_5 : List UInt8 := [182, 2, 85, 42, 27, 182, 2, 128, 42, 180, 2, 118, 16, 100, 164, 0, 18, 42, 42, 180, 0, 36, 42]
abbrev dktX14_checkTags_5 : List UInt8 := dkwX14_checkTags_5 ++ dktX14_checkTags_6
def dkwX14_checkTags_4 : List UInt8 := [4, 160, 0, 26, 42, 27, 182, 2, 125, 153, 0, 18, 42, 42, 180, 0, 36, 42, 180, 0, 75, 28, 46, 46]
abbrev dktX14_checkTags_4 : List UInt8 := dkwX14_checkTags_4 ++ dktX14_checkTags_5
def dkwX14_checkTags_3 : List UInt8 := [180, 0, 51, 27, 46, 96, 4, 100, 61, 42, 180, 0, 51, 27, 46, 158, 0, 36, 42, 180, 0, 84, 28, 46]
abbrev dktX14_checkTags_3 : List UInt8 := dkwX14_checkTags_3 ++ dktX14_checkTags_4
def dkwX14_checkTags_2 : List UInt8 := [42, 180, 0, 75, 28, 46, 46, 182, 2, 85, 132, 2, 1, 167, 255, 212, 42, 180, 0, 48, 27, 46, 42]
abbrev dktX14_checkTags_2 : List UInt8 := dkwX14_checkTags_2 ++ dktX14_checkTags_3
def dkwX14_checkTags_1 : List UInt8 := [42, 180, 0, 51, 27, 46, 96, 162, 0, 33, 42, 180, 0, 78, 28, 46, 154, 0, 18, 42, 42, 180, 0, 36]
abbrev dktX14_checkTags_1 : List UInt8 := dkwX14_checkTags_1 ++ dktX14_checkTags_2
def dkwX14_checkTags_0 : List UInt8 := [3, 60, 27, 42, 180, 2, 5, 162, 0, 150, 42, 180, 0, 48, 27, 46, 61, 28, 42, 180, 0, 48, 27, 46]
abbrev dktX14_checkTags_0 : List UInt8 := dkwX14_checkTags_0 ++ dktX14_checkTags_1
theorem dksX14_checkTags_0 : cX14_checkTags.data.toList.drop 0 = dktX14_checkTags_0 := by decide +kernel
theorem dksX14_checkTags_1 : cX14_checkTags.data.toList.drop 24 = dktX14_checkTags_1 := dk_seg dksX14_checkTags_0 24 rfl rfl
theorem dksX14_checkTags_2 : cX14_checkTags.data.toList.drop 48 = dktX14_checkTags_2 := dk_seg dksX14_checkTags_1 24 rfl rfl
theorem dksX14_checkTags_3 : cX14_checkTags.data.toList.drop 71 = dktX14_checkTags_3 := dk_seg dksX14_checkTags_2 23 rfl rfl
theorem dksX14_checkTags_4 : cX14_checkTags.data.toList.drop 95 = dktX14_checkTags_4 := dk_seg dksX14_checkTags_3 24 rfl rfl
theorem dksX14_checkTags_5 : cX14_checkTags.data.toList.drop 119 = dktX14_checkTags_5 := dk_seg dksX14_checkTags_4 24 rfl rfl
theorem dksX14_checkTags_6 : cX14_checkTags.data.toList.drop 142 = dktX14_checkTags_6 := dk_seg dksX14_checkTags_5 23 rfl rfl
theorem dX14_checkTags_0 : decode cX14_checkTags 0 = .ok (.iconst 0, 1) := dk_3 (dk_at dksX14_checkTags_0 0 rfl rfl)
theorem dX14_checkTags_1 : decode cX14_checkTags 1 = .ok (.istore_n 1, 1) := dk_60 (dk_at dksX14_checkTags_0 1 rfl rfl)
theorem dX14_checkTags_2 : decode cX14_checkTags 2 = .ok (.iload_n 1, 1) := dk_27 (dk_at dksX14_checkTags_0 2 rfl rfl)
theorem dX14_checkTags_3 : decode cX14_checkTags 3 = .ok (.aload_n 0, 1) := dk_42 (dk_at dksX14_checkTags_0 3 rfl rfl)
theorem dX14_checkTags_4 : decode cX14_checkTags 4 = .ok (.getfield 517, 3) := dk_180 2 5 (dk_at dksX14_checkTags_0 4 rfl rfl)
theorem dX14_checkTags_7 : decode cX14_checkTags 7 = .ok (.if_icmp .ge 150, 3) := dk_162 0 150 (dk_at dksX14_checkTags_0 7 rfl rfl)
theorem dX14_checkTags_10 : decode cX14_checkTags 10 = .ok (.aload_n 0, 1) := dk_42 (dk_at dksX14_checkTags_0 10 rfl rfl)
theorem dX14_checkTags_11 : decode cX14_checkTags 11 = .ok (.getfield 48, 3) := dk_180 0 48 (dk_at dksX14_checkTags_0 11 rfl rfl)
theorem dX14_checkTags_14 : decode cX14_checkTags 14 = .ok (.iload_n 1, 1) := dk_27 (dk_at dksX14_checkTags_0 14 rfl rfl)
theorem dX14_checkTags_15 : decode cX14_checkTags 15 = .ok (.iaload, 1) := dk_46 (dk_at dksX14_checkTags_0 15 rfl rfl)
theorem dX14_checkTags_16 : decode cX14_checkTags 16 = .ok (.istore_n 2, 1) := dk_61 (dk_at dksX14_checkTags_0 16 rfl rfl)
theorem dX14_checkTags_17 : decode cX14_checkTags 17 = .ok (.iload_n 2, 1) := dk_28 (dk_at dksX14_checkTags_0 17 rfl rfl)
theorem dX14_checkTags_18 : decode cX14_checkTags 18 = .ok (.aload_n 0, 1) := dk_42 (dk_at dksX14_checkTags_0 18 rfl rfl)
theorem dX14_checkTags_19 : decode cX14_checkTags 19 = .ok (.getfield 48, 3) := dk_180 0 48 (dk_at dksX14_checkTags_0 19 rfl rfl)
theorem dX14_checkTags_22 : decode cX14_checkTags 22 = .ok (.iload_n 1, 1) := dk_27 (dk_at dksX14_checkTags_0 22 rfl rfl)
theorem dX14_checkTags_23 : decode cX14_checkTags 23 = .ok (.iaload, 1) := dk_46 (dk_at dksX14_checkTags_0 23 rfl rfl)
theorem dX14_checkTags_24 : decode cX14_checkTags 24 = .ok (.aload_n 0, 1) := dk_42 (dk_at dksX14_checkTags_1 0 rfl rfl)
theorem dX14_checkTags_25 : decode cX14_checkTags 25 = .ok (.getfield 51, 3) := dk_180 0 51 (dk_at dksX14_checkTags_1 1 rfl rfl)
theorem dX14_checkTags_28 : decode cX14_checkTags 28 = .ok (.iload_n 1, 1) := dk_27 (dk_at dksX14_checkTags_1 4 rfl rfl)
theorem dX14_checkTags_29 : decode cX14_checkTags 29 = .ok (.iaload, 1) := dk_46 (dk_at dksX14_checkTags_1 5 rfl rfl)
theorem dX14_checkTags_30 : decode cX14_checkTags 30 = .ok (.iadd, 1) := dk_96 (dk_at dksX14_checkTags_1 6 rfl rfl)
theorem dX14_checkTags_31 : decode cX14_checkTags 31 = .ok (.if_icmp .ge 33, 3) := dk_162 0 33 (dk_at dksX14_checkTags_1 7 rfl rfl)
theorem dX14_checkTags_34 : decode cX14_checkTags 34 = .ok (.aload_n 0, 1) := dk_42 (dk_at dksX14_checkTags_1 10 rfl rfl)
theorem dX14_checkTags_35 : decode cX14_checkTags 35 = .ok (.getfield 78, 3) := dk_180 0 78 (dk_at dksX14_checkTags_1 11 rfl rfl)
theorem dX14_checkTags_38 : decode cX14_checkTags 38 = .ok (.iload_n 2, 1) := dk_28 (dk_at dksX14_checkTags_1 14 rfl rfl)
theorem dX14_checkTags_39 : decode cX14_checkTags 39 = .ok (.iaload, 1) := dk_46 (dk_at dksX14_checkTags_1 15 rfl rfl)
theorem dX14_checkTags_40 : decode cX14_checkTags 40 = .ok (.ifCond .ne 18, 3) := dk_154 0 18 (dk_at dksX14_checkTags_1 16 rfl rfl)
theorem dX14_checkTags_43 : decode cX14_checkTags 43 = .ok (.aload_n 0, 1) := dk_42 (dk_at dksX14_checkTags_1 19 rfl rfl)
theorem dX14_checkTags_44 : decode cX14_checkTags 44 = .ok (.aload_n 0, 1) := dk_42 (dk_at dksX14_checkTags_1 20 rfl rfl)
theorem dX14_checkTags_45 : decode cX14_checkTags 45 = .ok (.getfield 36, 3) := dk_180 0 36 (dk_at dksX14_checkTags_1 21 rfl rfl)
theorem dX14_checkTags_48 : decode cX14_checkTags 48 = .ok (.aload_n 0, 1) := dk_42 (dk_at dksX14_checkTags_2 0 rfl rfl)
theorem dX14_checkTags_49 : decode cX14_checkTags 49 = .ok (.getfield 75, 3) := dk_180 0 75 (dk_at dksX14_checkTags_2 1 rfl rfl)
theorem dX14_checkTags_52 : decode cX14_checkTags 52 = .ok (.iload_n 2, 1) := dk_28 (dk_at dksX14_checkTags_2 4 rfl rfl)
theorem dX14_checkTags_53 : decode cX14_checkTags 53 = .ok (.iaload, 1) := dk_46 (dk_at dksX14_checkTags_2 5 rfl rfl)
theorem dX14_checkTags_54 : decode cX14_checkTags 54 = .ok (.iaload, 1) := dk_46 (dk_at dksX14_checkTags_2 6 rfl rfl)
theorem dX14_checkTags_55 : decode cX14_checkTags 55 = .ok (.invokevirtual 597, 3) := dk_182 2 85 (dk_at dksX14_checkTags_2 7 rfl rfl)
theorem dX14_checkTags_58 : decode cX14_checkTags 58 = .ok (.iinc 2 1, 3) := dk_132 2 1 (dk_at dksX14_checkTags_2 10 rfl rfl)
theorem dX14_checkTags_61 : decode cX14_checkTags 61 = .ok (.goto (-44), 3) := dk_167 255 212 (dk_at dksX14_checkTags_2 13 rfl rfl)
theorem dX14_checkTags_64 : decode cX14_checkTags 64 = .ok (.aload_n 0, 1) := dk_42 (dk_at dksX14_checkTags_2 16 rfl rfl)
theorem dX14_checkTags_65 : decode cX14_checkTags 65 = .ok (.getfield 48, 3) := dk_180 0 48 (dk_at dksX14_checkTags_2 17 rfl rfl)
theorem dX14_checkTags_68 : decode cX14_checkTags 68 = .ok (.iload_n 1, 1) := dk_27 (dk_at dksX14_checkTags_2 20 rfl rfl)
theorem dX14_checkTags_69 : decode cX14_checkTags 69 = .ok (.iaload, 1) := dk_46 (dk_at dksX14_checkTags_2 21 rfl rfl)
theorem dX14_checkTags_70 : decode cX14_checkTags 70 = .ok (.aload_n 0, 1) := dk_42 (dk_at dksX14_checkTags_2 22 rfl rfl)
theorem dX14_checkTags_71 : decode cX14_checkTags 71 = .ok (.getfield 51, 3) := dk_180 0 51 (dk_at dksX14_checkTags_3 0 rfl rfl)
theorem dX14_checkTags_74 : decode cX14_checkTags 74 = .ok (.iload_n 1, 1) := dk_27 (dk_at dksX14_checkTags_3 3 rfl rfl)
theorem dX14_checkTags_75 : decode cX14_checkTags 75 = .ok (.iaload, 1) := dk_46 (dk_at dksX14_checkTags_3 4 rfl rfl)
theorem dX14_checkTags_76 : decode cX14_checkTags 76 = .ok (.iadd, 1) := dk_96 (dk_at dksX14_checkTags_3 5 rfl rfl)
theorem dX14_checkTags_77 : decode cX14_checkTags 77 = .ok (.iconst 1, 1) := dk_4 (dk_at dksX14_checkTags_3 6 rfl rfl)
theorem dX14_checkTags_78 : decode cX14_checkTags 78 = .ok (.isub, 1) := dk_100 (dk_at dksX14_checkTags_3 7 rfl rfl)
theorem dX14_checkTags_79 : decode cX14_checkTags 79 = .ok (.istore_n 2, 1) := dk_61 (dk_at dksX14_checkTags_3 8 rfl rfl)
theorem dX14_checkTags_80 : decode cX14_checkTags 80 = .ok (.aload_n 0, 1) := dk_42 (dk_at dksX14_checkTags_3 9 rfl rfl)
theorem dX14_checkTags_81 : decode cX14_checkTags 81 = .ok (.getfield 51, 3) := dk_180 0 51 (dk_at dksX14_checkTags_3 10 rfl rfl)
theorem dX14_checkTags_84 : decode cX14_checkTags 84 = .ok (.iload_n 1, 1) := dk_27 (dk_at dksX14_checkTags_3 13 rfl rfl)
theorem dX14_checkTags_85 : decode cX14_checkTags 85 = .ok (.iaload, 1) := dk_46 (dk_at dksX14_checkTags_3 14 rfl rfl)
theorem dX14_checkTags_86 : decode cX14_checkTags 86 = .ok (.ifCond .le 36, 3) := dk_158 0 36 (dk_at dksX14_checkTags_3 15 rfl rfl)
theorem dX14_checkTags_89 : decode cX14_checkTags 89 = .ok (.aload_n 0, 1) := dk_42 (dk_at dksX14_checkTags_3 18 rfl rfl)
theorem dX14_checkTags_90 : decode cX14_checkTags 90 = .ok (.getfield 84, 3) := dk_180 0 84 (dk_at dksX14_checkTags_3 19 rfl rfl)
theorem dX14_checkTags_93 : decode cX14_checkTags 93 = .ok (.iload_n 2, 1) := dk_28 (dk_at dksX14_checkTags_3 22 rfl rfl)
theorem dX14_checkTags_94 : decode cX14_checkTags 94 = .ok (.iaload, 1) := dk_46 (dk_at dksX14_checkTags_3 23 rfl rfl)
theorem dX14_checkTags_95 : decode cX14_checkTags 95 = .ok (.iconst 1, 1) := dk_4 (dk_at dksX14_checkTags_4 0 rfl rfl)
theorem dX14_checkTags_96 : decode cX14_checkTags 96 = .ok (.if_icmp .ne 26, 3) := dk_160 0 26 (dk_at dksX14_checkTags_4 1 rfl rfl)
theorem dX14_checkTags_99 : decode cX14_checkTags 99 = .ok (.aload_n 0, 1) := dk_42 (dk_at dksX14_checkTags_4 4 rfl rfl)
theorem dX14_checkTags_100 : decode cX14_checkTags 100 = .ok (.iload_n 1, 1) := dk_27 (dk_at dksX14_checkTags_4 5 rfl rfl)
theorem dX14_checkTags_101 : decode cX14_checkTags 101 = .ok (.invokevirtual 637, 3) := dk_182 2 125 (dk_at dksX14_checkTags_4 6 rfl rfl)
theorem dX14_checkTags_104 : decode cX14_checkTags 104 = .ok (.ifCond .eq 18, 3) := dk_153 0 18 (dk_at dksX14_checkTags_4 9 rfl rfl)
theorem dX14_checkTags_107 : decode cX14_checkTags 107 = .ok (.aload_n 0, 1) := dk_42 (dk_at dksX14_checkTags_4 12 rfl rfl)
theorem dX14_checkTags_108 : decode cX14_checkTags 108 = .ok (.aload_n 0, 1) := dk_42 (dk_at dksX14_checkTags_4 13 rfl rfl)
theorem dX14_checkTags_109 : decode cX14_checkTags 109 = .ok (.getfield 36, 3) := dk_180 0 36 (dk_at dksX14_checkTags_4 14 rfl rfl)
theorem dX14_checkTags_112 : decode cX14_checkTags 112 = .ok (.aload_n 0, 1) := dk_42 (dk_at dksX14_checkTags_4 17 rfl rfl)
theorem dX14_checkTags_113 : decode cX14_checkTags 113 = .ok (.getfield 75, 3) := dk_180 0 75 (dk_at dksX14_checkTags_4 18 rfl rfl)
theorem dX14_checkTags_116 : decode cX14_checkTags 116 = .ok (.iload_n 2, 1) := dk_28 (dk_at dksX14_checkTags_4 21 rfl rfl)
theorem dX14_checkTags_117 : decode cX14_checkTags 117 = .ok (.iaload, 1) := dk_46 (dk_at dksX14_checkTags_4 22 rfl rfl)
theorem dX14_checkTags_118 : decode cX14_checkTags 118 = .ok (.iaload, 1) := dk_46 (dk_at dksX14_checkTags_4 23 rfl rfl)
theorem dX14_checkTags_119 : decode cX14_checkTags 119 = .ok (.invokevirtual 597, 3) := dk_182 2 85 (dk_at dksX14_checkTags_5 0 rfl rfl)
theorem dX14_checkTags_122 : decode cX14_checkTags 122 = .ok (.aload_n 0, 1) := dk_42 (dk_at dksX14_checkTags_5 3 rfl rfl)
theorem dX14_checkTags_123 : decode cX14_checkTags 123 = .ok (.iload_n 1, 1) := dk_27 (dk_at dksX14_checkTags_5 4 rfl rfl)
theorem dX14_checkTags_124 : decode cX14_checkTags 124 = .ok (.invokevirtual 640, 3) := dk_182 2 128 (dk_at dksX14_checkTags_5 5 rfl rfl)
theorem dX14_checkTags_127 : decode cX14_checkTags 127 = .ok (.aload_n 0, 1) := dk_42 (dk_at dksX14_checkTags_5 8 rfl rfl)
theorem dX14_checkTags_128 : decode cX14_checkTags 128 = .ok (.getfield 630, 3) := dk_180 2 118 (dk_at dksX14_checkTags_5 9 rfl rfl)
theorem dX14_checkTags_131 : decode cX14_checkTags 131 = .ok (.bipush 100, 2) := dk_16 100 (dk_at dksX14_checkTags_5 12 rfl rfl)
theorem dX14_checkTags_133 : decode cX14_checkTags 133 = .ok (.if_icmp .le 18, 3) := dk_164 0 18 (dk_at dksX14_checkTags_5 14 rfl rfl)
theorem dX14_checkTags_136 : decode cX14_checkTags 136 = .ok (.aload_n 0, 1) := dk_42 (dk_at dksX14_checkTags_5 17 rfl rfl)
theorem dX14_checkTags_137 : decode cX14_checkTags 137 = .ok (.aload_n 0, 1) := dk_42 (dk_at dksX14_checkTags_5 18 rfl rfl)
theorem dX14_checkTags_138 : decode cX14_checkTags 138 = .ok (.getfield 36, 3) := dk_180 0 36 (dk_at dksX14_checkTags_5 19 rfl rfl)
theorem dX14_checkTags_141 : decode cX14_checkTags 141 = .ok (.aload_n 0, 1) := dk_42 (dk_at dksX14_checkTags_5 22 rfl rfl)
theorem dX14_checkTags_142 : decode cX14_checkTags 142 = .ok (.getfield 45, 3) := dk_180 0 45 (dk_at dksX14_checkTags_6 0 rfl rfl)
theorem dX14_checkTags_145 : decode cX14_checkTags 145 = .ok (.iload_n 1, 1) := dk_27 (dk_at dksX14_checkTags_6 3 rfl rfl)
theorem dX14_checkTags_146 : decode cX14_checkTags 146 = .ok (.iaload, 1) := dk_46 (dk_at dksX14_checkTags_6 4 rfl rfl)
theorem dX14_checkTags_147 : decode cX14_checkTags 147 = .ok (.iaload, 1) := dk_46 (dk_at dksX14_checkTags_6 5 rfl rfl)
theorem dX14_checkTags_148 : decode cX14_checkTags 148 = .ok (.invokevirtual 597, 3) := dk_182 2 85 (dk_at dksX14_checkTags_6 6 rfl rfl)
theorem dX14_checkTags_151 : decode cX14_checkTags 151 = .ok (.iinc 1 1, 3) := dk_132 1 1 (dk_at dksX14_checkTags_6 9 rfl rfl)
theorem dX14_checkTags_154 : decode cX14_checkTags 154 = .ok (.goto (-152), 3) := dk_167 255 104 (dk_at dksX14_checkTags_6 12 rfl rfl)
theorem dX14_checkTags_157 : decode cX14_checkTags 157 = .ok (.aload_n 0, 1) := dk_42 (dk_at dksX14_checkTags_6 15 rfl rfl)
theorem dX14_checkTags_158 : decode cX14_checkTags 158 = .ok (.bipush 8, 2) := dk_16 8 (dk_at dksX14_checkTags_6 16 rfl rfl)
theorem dX14_checkTags_160 : decode cX14_checkTags 160 = .ok (.invokevirtual 603, 3) := dk_182 2 91 (dk_at dksX14_checkTags_6 18 rfl rfl)
theorem dX14_checkTags_163 : decode cX14_checkTags 163 = .ok (.return_, 1) := dk_177 (dk_at dksX14_checkTags_6 21 rfl rfl)
abbrev cX14_isBareChoice : ByteArray := prog_15_method_77_code
def yX14_isBareChoice : MethodName := ⟨RX14, "isBareChoice", "(I)Z"⟩
def dkwX14_isBareChoice_2 : List UInt8 := [167, 0, 4, 3, 172]
abbrev dktX14_isBareChoice_2 : List UInt8 := dkwX14_isBareChoice_2 ++ []
def dkwX14_isBareChoice_1 : List UInt8 := [61, 42, 180, 0, 51, 28, 46, 158, 255, 227, 3, 172, 42, 180, 0, 42, 28, 46, 16, 16, 160, 0, 7, 4]
abbrev dktX14_isBareChoice_1 : List UInt8 := dkwX14_isBareChoice_1 ++ dktX14_isBareChoice_2
def dkwX14_isBareChoice_0 : List UInt8 := [27, 61, 42, 180, 0, 42, 28, 46, 16, 17, 160, 0, 26, 42, 180, 0, 178, 42, 180, 0, 54, 28, 46, 46]
abbrev dktX14_isBareChoice_0 : List UInt8 := dkwX14_isBareChoice_0 ++ dktX14_isBareChoice_1
theorem dksX14_isBareChoice_0 : cX14_isBareChoice.data.toList.drop 0 = dktX14_isBareChoice_0 := by decide +kernel
theorem dksX14_isBareChoice_1 : cX14_isBareChoice.data.toList.drop 24 = dktX14_isBareChoice_1 := dk_seg dksX14_isBareChoice_0 24 rfl rfl
theorem dksX14_isBareChoice_2 : cX14_isBareChoice.data.toList.drop 48 = dktX14_isBareChoice_2 := dk_seg dksX14_isBareChoice_1 24 rfl rfl
theorem dX14_isBareChoice_0 : decode cX14_isBareChoice 0 = .ok (.iload_n 1, 1) := dk_27 (dk_at dksX14_isBareChoice_0 0 rfl rfl)
theorem dX14_isBareChoice_1 : decode cX14_isBareChoice 1 = .ok (.istore_n 2, 1) := dk_61 (dk_at dksX14_isBareChoice_0 1 rfl rfl)
theorem dX14_isBareChoice_2 : decode cX14_isBareChoice 2 = .ok (.aload_n 0, 1) := dk_42 (dk_at dksX14_isBareChoice_0 2 rfl rfl)
theorem dX14_isBareChoice_3 : decode cX14_isBareChoice 3 = .ok (.getfield 42, 3) := dk_180 0 42 (dk_at dksX14_isBareChoice_0 3 rfl rfl)
theorem dX14_isBareChoice_6 : decode cX14_isBareChoice 6 = .ok (.iload_n 2, 1) := dk_28 (dk_at dksX14_isBareChoice_0 6 rfl rfl)
theorem dX14_isBareChoice_7 : decode cX14_isBareChoice 7 = .ok (.iaload, 1) := dk_46 (dk_at dksX14_isBareChoice_0 7 rfl rfl)
theorem dX14_isBareChoice_8 : decode cX14_isBareChoice 8 = .ok (.bipush 17, 2) := dk_16 17 (dk_at dksX14_isBareChoice_0 8 rfl rfl)
theorem dX14_isBareChoice_10 : decode cX14_isBareChoice 10 = .ok (.if_icmp .ne 26, 3) := dk_160 0 26 (dk_at dksX14_isBareChoice_0 10 rfl rfl)
theorem dX14_isBareChoice_13 : decode cX14_isBareChoice 13 = .ok (.aload_n 0, 1) := dk_42 (dk_at dksX14_isBareChoice_0 13 rfl rfl)
theorem dX14_isBareChoice_14 : decode cX14_isBareChoice 14 = .ok (.getfield 178, 3) := dk_180 0 178 (dk_at dksX14_isBareChoice_0 14 rfl rfl)
theorem dX14_isBareChoice_17 : decode cX14_isBareChoice 17 = .ok (.aload_n 0, 1) := dk_42 (dk_at dksX14_isBareChoice_0 17 rfl rfl)
theorem dX14_isBareChoice_18 : decode cX14_isBareChoice 18 = .ok (.getfield 54, 3) := dk_180 0 54 (dk_at dksX14_isBareChoice_0 18 rfl rfl)
theorem dX14_isBareChoice_21 : decode cX14_isBareChoice 21 = .ok (.iload_n 2, 1) := dk_28 (dk_at dksX14_isBareChoice_0 21 rfl rfl)
theorem dX14_isBareChoice_22 : decode cX14_isBareChoice 22 = .ok (.iaload, 1) := dk_46 (dk_at dksX14_isBareChoice_0 22 rfl rfl)
theorem dX14_isBareChoice_23 : decode cX14_isBareChoice 23 = .ok (.iaload, 1) := dk_46 (dk_at dksX14_isBareChoice_0 23 rfl rfl)
theorem dX14_isBareChoice_24 : decode cX14_isBareChoice 24 = .ok (.istore_n 2, 1) := dk_61 (dk_at dksX14_isBareChoice_1 0 rfl rfl)
theorem dX14_isBareChoice_25 : decode cX14_isBareChoice 25 = .ok (.aload_n 0, 1) := dk_42 (dk_at dksX14_isBareChoice_1 1 rfl rfl)
theorem dX14_isBareChoice_26 : decode cX14_isBareChoice 26 = .ok (.getfield 51, 3) := dk_180 0 51 (dk_at dksX14_isBareChoice_1 2 rfl rfl)
theorem dX14_isBareChoice_29 : decode cX14_isBareChoice 29 = .ok (.iload_n 2, 1) := dk_28 (dk_at dksX14_isBareChoice_1 5 rfl rfl)
theorem dX14_isBareChoice_30 : decode cX14_isBareChoice 30 = .ok (.iaload, 1) := dk_46 (dk_at dksX14_isBareChoice_1 6 rfl rfl)
theorem dX14_isBareChoice_31 : decode cX14_isBareChoice 31 = .ok (.ifCond .le (-29), 3) := dk_158 255 227 (dk_at dksX14_isBareChoice_1 7 rfl rfl)
theorem dX14_isBareChoice_34 : decode cX14_isBareChoice 34 = .ok (.iconst 0, 1) := dk_3 (dk_at dksX14_isBareChoice_1 10 rfl rfl)
theorem dX14_isBareChoice_35 : decode cX14_isBareChoice 35 = .ok (.ireturn, 1) := dk_172 (dk_at dksX14_isBareChoice_1 11 rfl rfl)
theorem dX14_isBareChoice_36 : decode cX14_isBareChoice 36 = .ok (.aload_n 0, 1) := dk_42 (dk_at dksX14_isBareChoice_1 12 rfl rfl)
theorem dX14_isBareChoice_37 : decode cX14_isBareChoice 37 = .ok (.getfield 42, 3) := dk_180 0 42 (dk_at dksX14_isBareChoice_1 13 rfl rfl)
theorem dX14_isBareChoice_40 : decode cX14_isBareChoice 40 = .ok (.iload_n 2, 1) := dk_28 (dk_at dksX14_isBareChoice_1 16 rfl rfl)
theorem dX14_isBareChoice_41 : decode cX14_isBareChoice 41 = .ok (.iaload, 1) := dk_46 (dk_at dksX14_isBareChoice_1 17 rfl rfl)
theorem dX14_isBareChoice_42 : decode cX14_isBareChoice 42 = .ok (.bipush 16, 2) := dk_16 16 (dk_at dksX14_isBareChoice_1 18 rfl rfl)
theorem dX14_isBareChoice_44 : decode cX14_isBareChoice 44 = .ok (.if_icmp .ne 7, 3) := dk_160 0 7 (dk_at dksX14_isBareChoice_1 20 rfl rfl)
theorem dX14_isBareChoice_47 : decode cX14_isBareChoice 47 = .ok (.iconst 1, 1) := dk_4 (dk_at dksX14_isBareChoice_1 23 rfl rfl)
theorem dX14_isBareChoice_48 : decode cX14_isBareChoice 48 = .ok (.goto 4, 3) := dk_167 0 4 (dk_at dksX14_isBareChoice_2 0 rfl rfl)
theorem dX14_isBareChoice_51 : decode cX14_isBareChoice 51 = .ok (.iconst 0, 1) := dk_3 (dk_at dksX14_isBareChoice_2 3 rfl rfl)
theorem dX14_isBareChoice_52 : decode cX14_isBareChoice 52 = .ok (.ireturn, 1) := dk_172 (dk_at dksX14_isBareChoice_2 4 rfl rfl)
abbrev cX14_findLayers : ByteArray := prog_15_method_76_code
def yX14_findLayers : MethodName := ⟨RX14, "findLayers", "(I)V"⟩
def dkwX14_findLayers_11 : List UInt8 := [80, 42, 89, 180, 2, 118, 4, 96, 181, 2, 118, 132, 5, 255, 167, 255, 127, 132, 3, 255, 167, 255, 90, 177]
abbrev dktX14_findLayers_11 : List UInt8 := dkwX14_findLayers_11 ++ []
def dkwX14_findLayers_10 : List UInt8 := [180, 0, 230, 42, 180, 2, 118, 42, 180, 0, 78, 21, 5, 46, 42, 180, 0, 81, 21, 5, 46, 184, 2, 121]
abbrev dktX14_findLayers_10 : List UInt8 := dkwX14_findLayers_10 ++ dktX14_findLayers_11
def dkwX14_findLayers_9 : List UInt8 := [100, 42, 180, 0, 78, 21, 5, 46, 42, 180, 0, 81, 21, 5, 46, 184, 2, 121, 80, 167, 0, 39, 42]
abbrev dktX14_findLayers_9 : List UInt8 := dkwX14_findLayers_9 ++ dktX14_findLayers_10
def dkwX14_findLayers_8 : List UInt8 := [153, 0, 7, 4, 167, 0, 4, 3, 54, 6, 21, 6, 153, 0, 34, 42, 180, 0, 230, 42, 180, 2, 118, 4]
abbrev dktX14_findLayers_8 : List UInt8 := dkwX14_findLayers_8 ++ dktX14_findLayers_9
def dkwX14_findLayers_7 : List UInt8 := [180, 0, 84, 21, 5, 46, 4, 159, 0, 20, 42, 180, 0, 84, 21, 5, 46, 154, 0, 14, 42, 180, 1, 223]
abbrev dktX14_findLayers_7 : List UInt8 := dkwX14_findLayers_7 ++ dktX14_findLayers_8
def dkwX14_findLayers_6 : List UInt8 := [54, 5, 21, 5, 42, 180, 0, 48, 21, 4, 46, 161, 0, 123, 42, 180, 2, 118, 158, 0, 35, 42]
abbrev dktX14_findLayers_6 : List UInt8 := dkwX14_findLayers_6 ++ dktX14_findLayers_7
def dkwX14_findLayers_5 : List UInt8 := [180, 0, 233, 29, 46, 54, 4, 42, 180, 0, 48, 21, 4, 46, 42, 180, 0, 51, 21, 4, 46, 96, 4, 100]
abbrev dktX14_findLayers_5 : List UInt8 := dkwX14_findLayers_5 ++ dktX14_findLayers_6
def dkwX14_findLayers_4 : List UInt8 := [28, 46, 46, 184, 2, 121, 80, 42, 4, 181, 2, 118, 42, 180, 2, 115, 62, 29, 155, 0, 168, 42]
abbrev dktX14_findLayers_4 : List UInt8 := dkwX14_findLayers_4 ++ dktX14_findLayers_5
def dkwX14_findLayers_3 : List UInt8 := [180, 0, 42, 28, 46, 16, 16, 159, 0, 29, 42, 180, 0, 230, 3, 3, 42, 180, 0, 16, 42, 180, 0, 42]
abbrev dktX14_findLayers_3 : List UInt8 := dkwX14_findLayers_3 ++ dktX14_findLayers_4
def dkwX14_findLayers_2 : List UInt8 := [46, 46, 61, 167, 255, 213, 42, 180, 0, 233, 42, 180, 2, 115, 28, 79, 42, 3, 181, 2, 118, 42]
abbrev dktX14_findLayers_2 : List UInt8 := dkwX14_findLayers_2 ++ dktX14_findLayers_3
def dkwX14_findLayers_1 : List UInt8 := [180, 2, 115, 28, 79, 42, 89, 180, 2, 115, 4, 96, 181, 2, 115, 42, 180, 0, 178, 42, 180, 0, 54, 28]
abbrev dktX14_findLayers_1 : List UInt8 := dkwX14_findLayers_1 ++ dktX14_findLayers_2
def dkwX14_findLayers_0 : List UInt8 := [42, 3, 181, 2, 115, 27, 61, 42, 180, 0, 42, 28, 46, 16, 17, 160, 0, 38, 42, 180, 0, 233, 42]
abbrev dktX14_findLayers_0 : List UInt8 := dkwX14_findLayers_0 ++ dktX14_findLayers_1
theorem dksX14_findLayers_0 : cX14_findLayers.data.toList.drop 0 = dktX14_findLayers_0 := by decide +kernel
theorem dksX14_findLayers_1 : cX14_findLayers.data.toList.drop 23 = dktX14_findLayers_1 := dk_seg dksX14_findLayers_0 23 rfl rfl
theorem dksX14_findLayers_2 : cX14_findLayers.data.toList.drop 47 = dktX14_findLayers_2 := dk_seg dksX14_findLayers_1 24 rfl rfl
theorem dksX14_findLayers_3 : cX14_findLayers.data.toList.drop 69 = dktX14_findLayers_3 := dk_seg dksX14_findLayers_2 22 rfl rfl
theorem dksX14_findLayers_4 : cX14_findLayers.data.toList.drop 93 = dktX14_findLayers_4 := dk_seg dksX14_findLayers_3 24 rfl rfl
theorem dksX14_findLayers_5 : cX14_findLayers.data.toList.drop 115 = dktX14_findLayers_5 := dk_seg dksX14_findLayers_4 22 rfl rfl
theorem dksX14_findLayers_6 : cX14_findLayers.data.toList.drop 139 = dktX14_findLayers_6 := dk_seg dksX14_findLayers_5 24 rfl rfl
theorem dksX14_findLayers_7 : cX14_findLayers.data.toList.drop 161 = dktX14_findLayers_7 := dk_seg dksX14_findLayers_6 22 rfl rfl
theorem dksX14_findLayers_8 : cX14_findLayers.data.toList.drop 185 = dktX14_findLayers_8 := dk_seg dksX14_findLayers_7 24 rfl rfl
theorem dksX14_findLayers_9 : cX14_findLayers.data.toList.drop 209 = dktX14_findLayers_9 := dk_seg dksX14_findLayers_8 24 rfl rfl
theorem dksX14_findLayers_10 : cX14_findLayers.data.toList.drop 232 = dktX14_findLayers_10 := dk_seg dksX14_findLayers_9 23 rfl rfl
theorem dksX14_findLayers_11 : cX14_findLayers.data.toList.drop 256 = dktX14_findLayers_11 := dk_seg dksX14_findLayers_10 24 rfl rfl
theorem dX14_findLayers_0 : decode cX14_findLayers 0 = .ok (.aload_n 0, 1) := dk_42 (dk_at dksX14_findLayers_0 0 rfl rfl)
theorem dX14_findLayers_1 : decode cX14_findLayers 1 = .ok (.iconst 0, 1) := dk_3 (dk_at dksX14_findLayers_0 1 rfl rfl)
theorem dX14_findLayers_2 : decode cX14_findLayers 2 = .ok (.putfield 627, 3) := dk_181 2 115 (dk_at dksX14_findLayers_0 2 rfl rfl)
theorem dX14_findLayers_5 : decode cX14_findLayers 5 = .ok (.iload_n 1, 1) := dk_27 (dk_at dksX14_findLayers_0 5 rfl rfl)
theorem dX14_findLayers_6 : decode cX14_findLayers 6 = .ok (.istore_n 2, 1) := dk_61 (dk_at dksX14_findLayers_0 6 rfl rfl)
theorem dX14_findLayers_7 : decode cX14_findLayers 7 = .ok (.aload_n 0, 1) := dk_42 (dk_at dksX14_findLayers_0 7 rfl rfl)
theorem dX14_findLayers_8 : decode cX14_findLayers 8 = .ok (.getfield 42, 3) := dk_180 0 42 (dk_at dksX14_findLayers_0 8 rfl rfl)
theorem dX14_findLayers_11 : decode cX14_findLayers 11 = .ok (.iload_n 2, 1) := dk_28 (dk_at dksX14_findLayers_0 11 rfl rfl)
theorem dX14_findLayers_12 : decode cX14_findLayers 12 = .ok (.iaload, 1) := dk_46 (dk_at dksX14_findLayers_0 12 rfl rfl)
theorem dX14_findLayers_13 : decode cX14_findLayers 13 = .ok (.bipush 17, 2) := dk_16 17 (dk_at dksX14_findLayers_0 13 rfl rfl)
theorem dX14_findLayers_15 : decode cX14_findLayers 15 = .ok (.if_icmp .ne 38, 3) := dk_160 0 38 (dk_at dksX14_findLayers_0 15 rfl rfl)
theorem dX14_findLayers_18 : decode cX14_findLayers 18 = .ok (.aload_n 0, 1) := dk_42 (dk_at dksX14_findLayers_0 18 rfl rfl)
theorem dX14_findLayers_19 : decode cX14_findLayers 19 = .ok (.getfield 233, 3) := dk_180 0 233 (dk_at dksX14_findLayers_0 19 rfl rfl)
theorem dX14_findLayers_22 : decode cX14_findLayers 22 = .ok (.aload_n 0, 1) := dk_42 (dk_at dksX14_findLayers_0 22 rfl rfl)
theorem dX14_findLayers_23 : decode cX14_findLayers 23 = .ok (.getfield 627, 3) := dk_180 2 115 (dk_at dksX14_findLayers_1 0 rfl rfl)
theorem dX14_findLayers_26 : decode cX14_findLayers 26 = .ok (.iload_n 2, 1) := dk_28 (dk_at dksX14_findLayers_1 3 rfl rfl)
theorem dX14_findLayers_27 : decode cX14_findLayers 27 = .ok (.iastore, 1) := dk_79 (dk_at dksX14_findLayers_1 4 rfl rfl)
theorem dX14_findLayers_28 : decode cX14_findLayers 28 = .ok (.aload_n 0, 1) := dk_42 (dk_at dksX14_findLayers_1 5 rfl rfl)
theorem dX14_findLayers_29 : decode cX14_findLayers 29 = .ok (.dup, 1) := dk_89 (dk_at dksX14_findLayers_1 6 rfl rfl)
theorem dX14_findLayers_30 : decode cX14_findLayers 30 = .ok (.getfield 627, 3) := dk_180 2 115 (dk_at dksX14_findLayers_1 7 rfl rfl)
theorem dX14_findLayers_33 : decode cX14_findLayers 33 = .ok (.iconst 1, 1) := dk_4 (dk_at dksX14_findLayers_1 10 rfl rfl)
theorem dX14_findLayers_34 : decode cX14_findLayers 34 = .ok (.iadd, 1) := dk_96 (dk_at dksX14_findLayers_1 11 rfl rfl)
theorem dX14_findLayers_35 : decode cX14_findLayers 35 = .ok (.putfield 627, 3) := dk_181 2 115 (dk_at dksX14_findLayers_1 12 rfl rfl)
theorem dX14_findLayers_38 : decode cX14_findLayers 38 = .ok (.aload_n 0, 1) := dk_42 (dk_at dksX14_findLayers_1 15 rfl rfl)
theorem dX14_findLayers_39 : decode cX14_findLayers 39 = .ok (.getfield 178, 3) := dk_180 0 178 (dk_at dksX14_findLayers_1 16 rfl rfl)
theorem dX14_findLayers_42 : decode cX14_findLayers 42 = .ok (.aload_n 0, 1) := dk_42 (dk_at dksX14_findLayers_1 19 rfl rfl)
theorem dX14_findLayers_43 : decode cX14_findLayers 43 = .ok (.getfield 54, 3) := dk_180 0 54 (dk_at dksX14_findLayers_1 20 rfl rfl)
theorem dX14_findLayers_46 : decode cX14_findLayers 46 = .ok (.iload_n 2, 1) := dk_28 (dk_at dksX14_findLayers_1 23 rfl rfl)
theorem dX14_findLayers_47 : decode cX14_findLayers 47 = .ok (.iaload, 1) := dk_46 (dk_at dksX14_findLayers_2 0 rfl rfl)
theorem dX14_findLayers_48 : decode cX14_findLayers 48 = .ok (.iaload, 1) := dk_46 (dk_at dksX14_findLayers_2 1 rfl rfl)
theorem dX14_findLayers_49 : decode cX14_findLayers 49 = .ok (.istore_n 2, 1) := dk_61 (dk_at dksX14_findLayers_2 2 rfl rfl)
theorem dX14_findLayers_50 : decode cX14_findLayers 50 = .ok (.goto (-43), 3) := dk_167 255 213 (dk_at dksX14_findLayers_2 3 rfl rfl)
theorem dX14_findLayers_53 : decode cX14_findLayers 53 = .ok (.aload_n 0, 1) := dk_42 (dk_at dksX14_findLayers_2 6 rfl rfl)
theorem dX14_findLayers_54 : decode cX14_findLayers 54 = .ok (.getfield 233, 3) := dk_180 0 233 (dk_at dksX14_findLayers_2 7 rfl rfl)
theorem dX14_findLayers_57 : decode cX14_findLayers 57 = .ok (.aload_n 0, 1) := dk_42 (dk_at dksX14_findLayers_2 10 rfl rfl)
theorem dX14_findLayers_58 : decode cX14_findLayers 58 = .ok (.getfield 627, 3) := dk_180 2 115 (dk_at dksX14_findLayers_2 11 rfl rfl)
theorem dX14_findLayers_61 : decode cX14_findLayers 61 = .ok (.iload_n 2, 1) := dk_28 (dk_at dksX14_findLayers_2 14 rfl rfl)
theorem dX14_findLayers_62 : decode cX14_findLayers 62 = .ok (.iastore, 1) := dk_79 (dk_at dksX14_findLayers_2 15 rfl rfl)
theorem dX14_findLayers_63 : decode cX14_findLayers 63 = .ok (.aload_n 0, 1) := dk_42 (dk_at dksX14_findLayers_2 16 rfl rfl)
theorem dX14_findLayers_64 : decode cX14_findLayers 64 = .ok (.iconst 0, 1) := dk_3 (dk_at dksX14_findLayers_2 17 rfl rfl)
theorem dX14_findLayers_65 : decode cX14_findLayers 65 = .ok (.putfield 630, 3) := dk_181 2 118 (dk_at dksX14_findLayers_2 18 rfl rfl)
theorem dX14_findLayers_68 : decode cX14_findLayers 68 = .ok (.aload_n 0, 1) := dk_42 (dk_at dksX14_findLayers_2 21 rfl rfl)
theorem dX14_findLayers_69 : decode cX14_findLayers 69 = .ok (.getfield 42, 3) := dk_180 0 42 (dk_at dksX14_findLayers_3 0 rfl rfl)
theorem dX14_findLayers_72 : decode cX14_findLayers 72 = .ok (.iload_n 2, 1) := dk_28 (dk_at dksX14_findLayers_3 3 rfl rfl)
theorem dX14_findLayers_73 : decode cX14_findLayers 73 = .ok (.iaload, 1) := dk_46 (dk_at dksX14_findLayers_3 4 rfl rfl)
theorem dX14_findLayers_74 : decode cX14_findLayers 74 = .ok (.bipush 16, 2) := dk_16 16 (dk_at dksX14_findLayers_3 5 rfl rfl)
theorem dX14_findLayers_76 : decode cX14_findLayers 76 = .ok (.if_icmp .eq 29, 3) := dk_159 0 29 (dk_at dksX14_findLayers_3 7 rfl rfl)
theorem dX14_findLayers_79 : decode cX14_findLayers 79 = .ok (.aload_n 0, 1) := dk_42 (dk_at dksX14_findLayers_3 10 rfl rfl)
theorem dX14_findLayers_80 : decode cX14_findLayers 80 = .ok (.getfield 230, 3) := dk_180 0 230 (dk_at dksX14_findLayers_3 11 rfl rfl)
theorem dX14_findLayers_83 : decode cX14_findLayers 83 = .ok (.iconst 0, 1) := dk_3 (dk_at dksX14_findLayers_3 14 rfl rfl)
theorem dX14_findLayers_84 : decode cX14_findLayers 84 = .ok (.iconst 0, 1) := dk_3 (dk_at dksX14_findLayers_3 15 rfl rfl)
theorem dX14_findLayers_85 : decode cX14_findLayers 85 = .ok (.aload_n 0, 1) := dk_42 (dk_at dksX14_findLayers_3 16 rfl rfl)
theorem dX14_findLayers_86 : decode cX14_findLayers 86 = .ok (.getfield 16, 3) := dk_180 0 16 (dk_at dksX14_findLayers_3 17 rfl rfl)
theorem dX14_findLayers_89 : decode cX14_findLayers 89 = .ok (.aload_n 0, 1) := dk_42 (dk_at dksX14_findLayers_3 20 rfl rfl)
theorem dX14_findLayers_90 : decode cX14_findLayers 90 = .ok (.getfield 42, 3) := dk_180 0 42 (dk_at dksX14_findLayers_3 21 rfl rfl)
theorem dX14_findLayers_93 : decode cX14_findLayers 93 = .ok (.iload_n 2, 1) := dk_28 (dk_at dksX14_findLayers_4 0 rfl rfl)
theorem dX14_findLayers_94 : decode cX14_findLayers 94 = .ok (.iaload, 1) := dk_46 (dk_at dksX14_findLayers_4 1 rfl rfl)
theorem dX14_findLayers_95 : decode cX14_findLayers 95 = .ok (.iaload, 1) := dk_46 (dk_at dksX14_findLayers_4 2 rfl rfl)
theorem dX14_findLayers_96 : decode cX14_findLayers 96 = .ok (.invokestatic 633, 3) := dk_184 2 121 (dk_at dksX14_findLayers_4 3 rfl rfl)
theorem dX14_findLayers_99 : decode cX14_findLayers 99 = .ok (.lastore, 1) := dk_80 (dk_at dksX14_findLayers_4 6 rfl rfl)
theorem dX14_findLayers_100 : decode cX14_findLayers 100 = .ok (.aload_n 0, 1) := dk_42 (dk_at dksX14_findLayers_4 7 rfl rfl)
theorem dX14_findLayers_101 : decode cX14_findLayers 101 = .ok (.iconst 1, 1) := dk_4 (dk_at dksX14_findLayers_4 8 rfl rfl)
theorem dX14_findLayers_102 : decode cX14_findLayers 102 = .ok (.putfield 630, 3) := dk_181 2 118 (dk_at dksX14_findLayers_4 9 rfl rfl)
theorem dX14_findLayers_105 : decode cX14_findLayers 105 = .ok (.aload_n 0, 1) := dk_42 (dk_at dksX14_findLayers_4 12 rfl rfl)
theorem dX14_findLayers_106 : decode cX14_findLayers 106 = .ok (.getfield 627, 3) := dk_180 2 115 (dk_at dksX14_findLayers_4 13 rfl rfl)
theorem dX14_findLayers_109 : decode cX14_findLayers 109 = .ok (.istore_n 3, 1) := dk_62 (dk_at dksX14_findLayers_4 16 rfl rfl)
theorem dX14_findLayers_110 : decode cX14_findLayers 110 = .ok (.iload_n 3, 1) := dk_29 (dk_at dksX14_findLayers_4 17 rfl rfl)
theorem dX14_findLayers_111 : decode cX14_findLayers 111 = .ok (.ifCond .lt 168, 3) := dk_155 0 168 (dk_at dksX14_findLayers_4 18 rfl rfl)
theorem dX14_findLayers_114 : decode cX14_findLayers 114 = .ok (.aload_n 0, 1) := dk_42 (dk_at dksX14_findLayers_4 21 rfl rfl)
theorem dX14_findLayers_115 : decode cX14_findLayers 115 = .ok (.getfield 233, 3) := dk_180 0 233 (dk_at dksX14_findLayers_5 0 rfl rfl)
theorem dX14_findLayers_118 : decode cX14_findLayers 118 = .ok (.iload_n 3, 1) := dk_29 (dk_at dksX14_findLayers_5 3 rfl rfl)
theorem dX14_findLayers_119 : decode cX14_findLayers 119 = .ok (.iaload, 1) := dk_46 (dk_at dksX14_findLayers_5 4 rfl rfl)
theorem dX14_findLayers_120 : decode cX14_findLayers 120 = .ok (.istore 4, 2) := dk_54 4 (dk_at dksX14_findLayers_5 5 rfl rfl)
theorem dX14_findLayers_122 : decode cX14_findLayers 122 = .ok (.aload_n 0, 1) := dk_42 (dk_at dksX14_findLayers_5 7 rfl rfl)
theorem dX14_findLayers_123 : decode cX14_findLayers 123 = .ok (.getfield 48, 3) := dk_180 0 48 (dk_at dksX14_findLayers_5 8 rfl rfl)
theorem dX14_findLayers_126 : decode cX14_findLayers 126 = .ok (.iload 4, 2) := dk_21 4 (dk_at dksX14_findLayers_5 11 rfl rfl)
theorem dX14_findLayers_128 : decode cX14_findLayers 128 = .ok (.iaload, 1) := dk_46 (dk_at dksX14_findLayers_5 13 rfl rfl)
theorem dX14_findLayers_129 : decode cX14_findLayers 129 = .ok (.aload_n 0, 1) := dk_42 (dk_at dksX14_findLayers_5 14 rfl rfl)
theorem dX14_findLayers_130 : decode cX14_findLayers 130 = .ok (.getfield 51, 3) := dk_180 0 51 (dk_at dksX14_findLayers_5 15 rfl rfl)
theorem dX14_findLayers_133 : decode cX14_findLayers 133 = .ok (.iload 4, 2) := dk_21 4 (dk_at dksX14_findLayers_5 18 rfl rfl)
theorem dX14_findLayers_135 : decode cX14_findLayers 135 = .ok (.iaload, 1) := dk_46 (dk_at dksX14_findLayers_5 20 rfl rfl)
theorem dX14_findLayers_136 : decode cX14_findLayers 136 = .ok (.iadd, 1) := dk_96 (dk_at dksX14_findLayers_5 21 rfl rfl)
theorem dX14_findLayers_137 : decode cX14_findLayers 137 = .ok (.iconst 1, 1) := dk_4 (dk_at dksX14_findLayers_5 22 rfl rfl)
theorem dX14_findLayers_138 : decode cX14_findLayers 138 = .ok (.isub, 1) := dk_100 (dk_at dksX14_findLayers_5 23 rfl rfl)
theorem dX14_findLayers_139 : decode cX14_findLayers 139 = .ok (.istore 5, 2) := dk_54 5 (dk_at dksX14_findLayers_6 0 rfl rfl)
theorem dX14_findLayers_141 : decode cX14_findLayers 141 = .ok (.iload 5, 2) := dk_21 5 (dk_at dksX14_findLayers_6 2 rfl rfl)
theorem dX14_findLayers_143 : decode cX14_findLayers 143 = .ok (.aload_n 0, 1) := dk_42 (dk_at dksX14_findLayers_6 4 rfl rfl)
theorem dX14_findLayers_144 : decode cX14_findLayers 144 = .ok (.getfield 48, 3) := dk_180 0 48 (dk_at dksX14_findLayers_6 5 rfl rfl)
theorem dX14_findLayers_147 : decode cX14_findLayers 147 = .ok (.iload 4, 2) := dk_21 4 (dk_at dksX14_findLayers_6 8 rfl rfl)
theorem dX14_findLayers_149 : decode cX14_findLayers 149 = .ok (.iaload, 1) := dk_46 (dk_at dksX14_findLayers_6 10 rfl rfl)
theorem dX14_findLayers_150 : decode cX14_findLayers 150 = .ok (.if_icmp .lt 123, 3) := dk_161 0 123 (dk_at dksX14_findLayers_6 11 rfl rfl)
theorem dX14_findLayers_153 : decode cX14_findLayers 153 = .ok (.aload_n 0, 1) := dk_42 (dk_at dksX14_findLayers_6 14 rfl rfl)
theorem dX14_findLayers_154 : decode cX14_findLayers 154 = .ok (.getfield 630, 3) := dk_180 2 118 (dk_at dksX14_findLayers_6 15 rfl rfl)
theorem dX14_findLayers_157 : decode cX14_findLayers 157 = .ok (.ifCond .le 35, 3) := dk_158 0 35 (dk_at dksX14_findLayers_6 18 rfl rfl)
theorem dX14_findLayers_160 : decode cX14_findLayers 160 = .ok (.aload_n 0, 1) := dk_42 (dk_at dksX14_findLayers_6 21 rfl rfl)
theorem dX14_findLayers_161 : decode cX14_findLayers 161 = .ok (.getfield 84, 3) := dk_180 0 84 (dk_at dksX14_findLayers_7 0 rfl rfl)
theorem dX14_findLayers_164 : decode cX14_findLayers 164 = .ok (.iload 5, 2) := dk_21 5 (dk_at dksX14_findLayers_7 3 rfl rfl)
theorem dX14_findLayers_166 : decode cX14_findLayers 166 = .ok (.iaload, 1) := dk_46 (dk_at dksX14_findLayers_7 5 rfl rfl)
theorem dX14_findLayers_167 : decode cX14_findLayers 167 = .ok (.iconst 1, 1) := dk_4 (dk_at dksX14_findLayers_7 6 rfl rfl)
theorem dX14_findLayers_168 : decode cX14_findLayers 168 = .ok (.if_icmp .eq 20, 3) := dk_159 0 20 (dk_at dksX14_findLayers_7 7 rfl rfl)
theorem dX14_findLayers_171 : decode cX14_findLayers 171 = .ok (.aload_n 0, 1) := dk_42 (dk_at dksX14_findLayers_7 10 rfl rfl)
theorem dX14_findLayers_172 : decode cX14_findLayers 172 = .ok (.getfield 84, 3) := dk_180 0 84 (dk_at dksX14_findLayers_7 11 rfl rfl)
theorem dX14_findLayers_175 : decode cX14_findLayers 175 = .ok (.iload 5, 2) := dk_21 5 (dk_at dksX14_findLayers_7 14 rfl rfl)
theorem dX14_findLayers_177 : decode cX14_findLayers 177 = .ok (.iaload, 1) := dk_46 (dk_at dksX14_findLayers_7 16 rfl rfl)
theorem dX14_findLayers_178 : decode cX14_findLayers 178 = .ok (.ifCond .ne 14, 3) := dk_154 0 14 (dk_at dksX14_findLayers_7 17 rfl rfl)
theorem dX14_findLayers_181 : decode cX14_findLayers 181 = .ok (.aload_n 0, 1) := dk_42 (dk_at dksX14_findLayers_7 20 rfl rfl)
theorem dX14_findLayers_182 : decode cX14_findLayers 182 = .ok (.getfield 479, 3) := dk_180 1 223 (dk_at dksX14_findLayers_7 21 rfl rfl)
theorem dX14_findLayers_185 : decode cX14_findLayers 185 = .ok (.ifCond .eq 7, 3) := dk_153 0 7 (dk_at dksX14_findLayers_8 0 rfl rfl)
theorem dX14_findLayers_188 : decode cX14_findLayers 188 = .ok (.iconst 1, 1) := dk_4 (dk_at dksX14_findLayers_8 3 rfl rfl)
theorem dX14_findLayers_189 : decode cX14_findLayers 189 = .ok (.goto 4, 3) := dk_167 0 4 (dk_at dksX14_findLayers_8 4 rfl rfl)
theorem dX14_findLayers_192 : decode cX14_findLayers 192 = .ok (.iconst 0, 1) := dk_3 (dk_at dksX14_findLayers_8 7 rfl rfl)
theorem dX14_findLayers_193 : decode cX14_findLayers 193 = .ok (.istore 6, 2) := dk_54 6 (dk_at dksX14_findLayers_8 8 rfl rfl)
theorem dX14_findLayers_195 : decode cX14_findLayers 195 = .ok (.iload 6, 2) := dk_21 6 (dk_at dksX14_findLayers_8 10 rfl rfl)
theorem dX14_findLayers_197 : decode cX14_findLayers 197 = .ok (.ifCond .eq 34, 3) := dk_153 0 34 (dk_at dksX14_findLayers_8 12 rfl rfl)
theorem dX14_findLayers_200 : decode cX14_findLayers 200 = .ok (.aload_n 0, 1) := dk_42 (dk_at dksX14_findLayers_8 15 rfl rfl)
theorem dX14_findLayers_201 : decode cX14_findLayers 201 = .ok (.getfield 230, 3) := dk_180 0 230 (dk_at dksX14_findLayers_8 16 rfl rfl)
theorem dX14_findLayers_204 : decode cX14_findLayers 204 = .ok (.aload_n 0, 1) := dk_42 (dk_at dksX14_findLayers_8 19 rfl rfl)
theorem dX14_findLayers_205 : decode cX14_findLayers 205 = .ok (.getfield 630, 3) := dk_180 2 118 (dk_at dksX14_findLayers_8 20 rfl rfl)
theorem dX14_findLayers_208 : decode cX14_findLayers 208 = .ok (.iconst 1, 1) := dk_4 (dk_at dksX14_findLayers_8 23 rfl rfl)
theorem dX14_findLayers_209 : decode cX14_findLayers 209 = .ok (.isub, 1) := dk_100 (dk_at dksX14_findLayers_9 0 rfl rfl)
theorem dX14_findLayers_210 : decode cX14_findLayers 210 = .ok (.aload_n 0, 1) := dk_42 (dk_at dksX14_findLayers_9 1 rfl rfl)
theorem dX14_findLayers_211 : decode cX14_findLayers 211 = .ok (.getfield 78, 3) := dk_180 0 78 (dk_at dksX14_findLayers_9 2 rfl rfl)
theorem dX14_findLayers_214 : decode cX14_findLayers 214 = .ok (.iload 5, 2) := dk_21 5 (dk_at dksX14_findLayers_9 5 rfl rfl)
theorem dX14_findLayers_216 : decode cX14_findLayers 216 = .ok (.iaload, 1) := dk_46 (dk_at dksX14_findLayers_9 7 rfl rfl)
theorem dX14_findLayers_217 : decode cX14_findLayers 217 = .ok (.aload_n 0, 1) := dk_42 (dk_at dksX14_findLayers_9 8 rfl rfl)
theorem dX14_findLayers_218 : decode cX14_findLayers 218 = .ok (.getfield 81, 3) := dk_180 0 81 (dk_at dksX14_findLayers_9 9 rfl rfl)
theorem dX14_findLayers_221 : decode cX14_findLayers 221 = .ok (.iload 5, 2) := dk_21 5 (dk_at dksX14_findLayers_9 12 rfl rfl)
theorem dX14_findLayers_223 : decode cX14_findLayers 223 = .ok (.iaload, 1) := dk_46 (dk_at dksX14_findLayers_9 14 rfl rfl)
theorem dX14_findLayers_224 : decode cX14_findLayers 224 = .ok (.invokestatic 633, 3) := dk_184 2 121 (dk_at dksX14_findLayers_9 15 rfl rfl)
theorem dX14_findLayers_227 : decode cX14_findLayers 227 = .ok (.lastore, 1) := dk_80 (dk_at dksX14_findLayers_9 18 rfl rfl)
theorem dX14_findLayers_228 : decode cX14_findLayers 228 = .ok (.goto 39, 3) := dk_167 0 39 (dk_at dksX14_findLayers_9 19 rfl rfl)
theorem dX14_findLayers_231 : decode cX14_findLayers 231 = .ok (.aload_n 0, 1) := dk_42 (dk_at dksX14_findLayers_9 22 rfl rfl)
theorem dX14_findLayers_232 : decode cX14_findLayers 232 = .ok (.getfield 230, 3) := dk_180 0 230 (dk_at dksX14_findLayers_10 0 rfl rfl)
theorem dX14_findLayers_235 : decode cX14_findLayers 235 = .ok (.aload_n 0, 1) := dk_42 (dk_at dksX14_findLayers_10 3 rfl rfl)
theorem dX14_findLayers_236 : decode cX14_findLayers 236 = .ok (.getfield 630, 3) := dk_180 2 118 (dk_at dksX14_findLayers_10 4 rfl rfl)
theorem dX14_findLayers_239 : decode cX14_findLayers 239 = .ok (.aload_n 0, 1) := dk_42 (dk_at dksX14_findLayers_10 7 rfl rfl)
theorem dX14_findLayers_240 : decode cX14_findLayers 240 = .ok (.getfield 78, 3) := dk_180 0 78 (dk_at dksX14_findLayers_10 8 rfl rfl)
theorem dX14_findLayers_243 : decode cX14_findLayers 243 = .ok (.iload 5, 2) := dk_21 5 (dk_at dksX14_findLayers_10 11 rfl rfl)
theorem dX14_findLayers_245 : decode cX14_findLayers 245 = .ok (.iaload, 1) := dk_46 (dk_at dksX14_findLayers_10 13 rfl rfl)
theorem dX14_findLayers_246 : decode cX14_findLayers 246 = .ok (.aload_n 0, 1) := dk_42 (dk_at dksX14_findLayers_10 14 rfl rfl)
theorem dX14_findLayers_247 : decode cX14_findLayers 247 = .ok (.getfield 81, 3) := dk_180 0 81 (dk_at dksX14_findLayers_10 15 rfl rfl)
theorem dX14_findLayers_250 : decode cX14_findLayers 250 = .ok (.iload 5, 2) := dk_21 5 (dk_at dksX14_findLayers_10 18 rfl rfl)
theorem dX14_findLayers_252 : decode cX14_findLayers 252 = .ok (.iaload, 1) := dk_46 (dk_at dksX14_findLayers_10 20 rfl rfl)
theorem dX14_findLayers_253 : decode cX14_findLayers 253 = .ok (.invokestatic 633, 3) := dk_184 2 121 (dk_at dksX14_findLayers_10 21 rfl rfl)
theorem dX14_findLayers_256 : decode cX14_findLayers 256 = .ok (.lastore, 1) := dk_80 (dk_at dksX14_findLayers_11 0 rfl rfl)
theorem dX14_findLayers_257 : decode cX14_findLayers 257 = .ok (.aload_n 0, 1) := dk_42 (dk_at dksX14_findLayers_11 1 rfl rfl)
theorem dX14_findLayers_258 : decode cX14_findLayers 258 = .ok (.dup, 1) := dk_89 (dk_at dksX14_findLayers_11 2 rfl rfl)
theorem dX14_findLayers_259 : decode cX14_findLayers 259 = .ok (.getfield 630, 3) := dk_180 2 118 (dk_at dksX14_findLayers_11 3 rfl rfl)
theorem dX14_findLayers_262 : decode cX14_findLayers 262 = .ok (.iconst 1, 1) := dk_4 (dk_at dksX14_findLayers_11 6 rfl rfl)
theorem dX14_findLayers_263 : decode cX14_findLayers 263 = .ok (.iadd, 1) := dk_96 (dk_at dksX14_findLayers_11 7 rfl rfl)
theorem dX14_findLayers_264 : decode cX14_findLayers 264 = .ok (.putfield 630, 3) := dk_181 2 118 (dk_at dksX14_findLayers_11 8 rfl rfl)
theorem dX14_findLayers_267 : decode cX14_findLayers 267 = .ok (.iinc 5 (-1), 3) := dk_132 5 255 (dk_at dksX14_findLayers_11 11 rfl rfl)
theorem dX14_findLayers_270 : decode cX14_findLayers 270 = .ok (.goto (-129), 3) := dk_167 255 127 (dk_at dksX14_findLayers_11 14 rfl rfl)
theorem dX14_findLayers_273 : decode cX14_findLayers 273 = .ok (.iinc 3 (-1), 3) := dk_132 3 255 (dk_at dksX14_findLayers_11 17 rfl rfl)
theorem dX14_findLayers_276 : decode cX14_findLayers 276 = .ok (.goto (-166), 3) := dk_167 255 90 (dk_at dksX14_findLayers_11 20 rfl rfl)
theorem dX14_findLayers_279 : decode cX14_findLayers 279 = .ok (.return_, 1) := dk_177 (dk_at dksX14_findLayers_11 23 rfl rfl)
abbrev cX14_tagOf : ByteArray := prog_15_method_75_code
def yX14_tagOf : MethodName := ⟨RX14, "tagOf", "(II)J"⟩
def dkwX14_tagOf_0 : List UInt8 := [26, 133, 16, 32, 121, 27, 133, 129, 173]
abbrev dktX14_tagOf_0 : List UInt8 := dkwX14_tagOf_0 ++ []
theorem dksX14_tagOf_0 : cX14_tagOf.data.toList.drop 0 = dktX14_tagOf_0 := by decide +kernel
theorem dX14_tagOf_0 : decode cX14_tagOf 0 = .ok (.iload_n 0, 1) := dk_26 (dk_at dksX14_tagOf_0 0 rfl rfl)
theorem dX14_tagOf_1 : decode cX14_tagOf 1 = .ok (.i2l, 1) := dk_133 (dk_at dksX14_tagOf_0 1 rfl rfl)
theorem dX14_tagOf_2 : decode cX14_tagOf 2 = .ok (.bipush 32, 2) := dk_16 32 (dk_at dksX14_tagOf_0 2 rfl rfl)
theorem dX14_tagOf_4 : decode cX14_tagOf 4 = .ok (.lshl, 1) := dk_121 (dk_at dksX14_tagOf_0 4 rfl rfl)
theorem dX14_tagOf_5 : decode cX14_tagOf 5 = .ok (.iload_n 1, 1) := dk_27 (dk_at dksX14_tagOf_0 5 rfl rfl)
theorem dX14_tagOf_6 : decode cX14_tagOf 6 = .ok (.i2l, 1) := dk_133 (dk_at dksX14_tagOf_0 6 rfl rfl)
theorem dX14_tagOf_7 : decode cX14_tagOf 7 = .ok (.lor, 1) := dk_129 (dk_at dksX14_tagOf_0 7 rfl rfl)
theorem dX14_tagOf_8 : decode cX14_tagOf 8 = .ok (.lreturn, 1) := dk_173 (dk_at dksX14_tagOf_0 8 rfl rfl)
abbrev cX14_checkRows : ByteArray := prog_15_method_81_code
def yX14_checkRows : MethodName := ⟨RX14, "checkRows", "()V"⟩
def dkwX14_checkRows_5 : List UInt8 := [180, 0, 112, 21, 4, 46, 54, 4, 167, 255, 175, 132, 1, 1, 167, 255, 129, 42, 16, 9, 182, 2, 91, 177]
abbrev dktX14_checkRows_5 : List UInt8 := dkwX14_checkRows_5 ++ []
def dkwX14_checkRows_4 : List UInt8 := [182, 2, 85, 28, 153, 0, 18, 42, 180, 0, 106, 21, 4, 46, 154, 0, 8, 42, 3, 181, 2, 135, 42]
abbrev dktX14_checkRows_4 : List UInt8 := dkwX14_checkRows_4 ++ dktX14_checkRows_5
def dkwX14_checkRows_3 : List UInt8 := [42, 21, 5, 182, 2, 141, 62, 29, 153, 0, 19, 42, 42, 180, 0, 36, 42, 180, 0, 100, 21, 4, 46, 46]
abbrev dktX14_checkRows_3 : List UInt8 := dkwX14_checkRows_3 ++ dktX14_checkRows_4
def dkwX14_checkRows_2 : List UInt8 := [155, 0, 82, 29, 154, 0, 78, 42, 180, 2, 135, 54, 5, 42, 42, 180, 0, 103, 21, 4, 46, 182, 2, 138]
abbrev dktX14_checkRows_2 : List UInt8 := dkwX14_checkRows_2 ++ dktX14_checkRows_3
def dkwX14_checkRows_1 : List UInt8 := [167, 0, 4, 3, 61, 42, 3, 181, 2, 135, 3, 62, 42, 180, 0, 63, 27, 46, 54, 4, 21, 4]
abbrev dktX14_checkRows_1 : List UInt8 := dkwX14_checkRows_1 ++ dktX14_checkRows_2
def dkwX14_checkRows_0 : List UInt8 := [3, 60, 27, 42, 180, 2, 5, 162, 0, 125, 42, 180, 0, 42, 27, 46, 16, 12, 160, 0, 7, 4]
abbrev dktX14_checkRows_0 : List UInt8 := dkwX14_checkRows_0 ++ dktX14_checkRows_1
theorem dksX14_checkRows_0 : cX14_checkRows.data.toList.drop 0 = dktX14_checkRows_0 := by decide +kernel
theorem dksX14_checkRows_1 : cX14_checkRows.data.toList.drop 22 = dktX14_checkRows_1 := dk_seg dksX14_checkRows_0 22 rfl rfl
theorem dksX14_checkRows_2 : cX14_checkRows.data.toList.drop 44 = dktX14_checkRows_2 := dk_seg dksX14_checkRows_1 22 rfl rfl
theorem dksX14_checkRows_3 : cX14_checkRows.data.toList.drop 68 = dktX14_checkRows_3 := dk_seg dksX14_checkRows_2 24 rfl rfl
theorem dksX14_checkRows_4 : cX14_checkRows.data.toList.drop 92 = dktX14_checkRows_4 := dk_seg dksX14_checkRows_3 24 rfl rfl
theorem dksX14_checkRows_5 : cX14_checkRows.data.toList.drop 115 = dktX14_checkRows_5 := dk_seg dksX14_checkRows_4 23 rfl rfl
theorem dX14_checkRows_0 : decode cX14_checkRows 0 = .ok (.iconst 0, 1) := dk_3 (dk_at dksX14_checkRows_0 0 rfl rfl)
theorem dX14_checkRows_1 : decode cX14_checkRows 1 = .ok (.istore_n 1, 1) := dk_60 (dk_at dksX14_checkRows_0 1 rfl rfl)
theorem dX14_checkRows_2 : decode cX14_checkRows 2 = .ok (.iload_n 1, 1) := dk_27 (dk_at dksX14_checkRows_0 2 rfl rfl)
theorem dX14_checkRows_3 : decode cX14_checkRows 3 = .ok (.aload_n 0, 1) := dk_42 (dk_at dksX14_checkRows_0 3 rfl rfl)
theorem dX14_checkRows_4 : decode cX14_checkRows 4 = .ok (.getfield 517, 3) := dk_180 2 5 (dk_at dksX14_checkRows_0 4 rfl rfl)
theorem dX14_checkRows_7 : decode cX14_checkRows 7 = .ok (.if_icmp .ge 125, 3) := dk_162 0 125 (dk_at dksX14_checkRows_0 7 rfl rfl)
theorem dX14_checkRows_10 : decode cX14_checkRows 10 = .ok (.aload_n 0, 1) := dk_42 (dk_at dksX14_checkRows_0 10 rfl rfl)
theorem dX14_checkRows_11 : decode cX14_checkRows 11 = .ok (.getfield 42, 3) := dk_180 0 42 (dk_at dksX14_checkRows_0 11 rfl rfl)
theorem dX14_checkRows_14 : decode cX14_checkRows 14 = .ok (.iload_n 1, 1) := dk_27 (dk_at dksX14_checkRows_0 14 rfl rfl)
theorem dX14_checkRows_15 : decode cX14_checkRows 15 = .ok (.iaload, 1) := dk_46 (dk_at dksX14_checkRows_0 15 rfl rfl)
theorem dX14_checkRows_16 : decode cX14_checkRows 16 = .ok (.bipush 12, 2) := dk_16 12 (dk_at dksX14_checkRows_0 16 rfl rfl)
theorem dX14_checkRows_18 : decode cX14_checkRows 18 = .ok (.if_icmp .ne 7, 3) := dk_160 0 7 (dk_at dksX14_checkRows_0 18 rfl rfl)
theorem dX14_checkRows_21 : decode cX14_checkRows 21 = .ok (.iconst 1, 1) := dk_4 (dk_at dksX14_checkRows_0 21 rfl rfl)
theorem dX14_checkRows_22 : decode cX14_checkRows 22 = .ok (.goto 4, 3) := dk_167 0 4 (dk_at dksX14_checkRows_1 0 rfl rfl)
theorem dX14_checkRows_25 : decode cX14_checkRows 25 = .ok (.iconst 0, 1) := dk_3 (dk_at dksX14_checkRows_1 3 rfl rfl)
theorem dX14_checkRows_26 : decode cX14_checkRows 26 = .ok (.istore_n 2, 1) := dk_61 (dk_at dksX14_checkRows_1 4 rfl rfl)
theorem dX14_checkRows_27 : decode cX14_checkRows 27 = .ok (.aload_n 0, 1) := dk_42 (dk_at dksX14_checkRows_1 5 rfl rfl)
theorem dX14_checkRows_28 : decode cX14_checkRows 28 = .ok (.iconst 0, 1) := dk_3 (dk_at dksX14_checkRows_1 6 rfl rfl)
theorem dX14_checkRows_29 : decode cX14_checkRows 29 = .ok (.putfield 647, 3) := dk_181 2 135 (dk_at dksX14_checkRows_1 7 rfl rfl)
theorem dX14_checkRows_32 : decode cX14_checkRows 32 = .ok (.iconst 0, 1) := dk_3 (dk_at dksX14_checkRows_1 10 rfl rfl)
theorem dX14_checkRows_33 : decode cX14_checkRows 33 = .ok (.istore_n 3, 1) := dk_62 (dk_at dksX14_checkRows_1 11 rfl rfl)
theorem dX14_checkRows_34 : decode cX14_checkRows 34 = .ok (.aload_n 0, 1) := dk_42 (dk_at dksX14_checkRows_1 12 rfl rfl)
theorem dX14_checkRows_35 : decode cX14_checkRows 35 = .ok (.getfield 63, 3) := dk_180 0 63 (dk_at dksX14_checkRows_1 13 rfl rfl)
theorem dX14_checkRows_38 : decode cX14_checkRows 38 = .ok (.iload_n 1, 1) := dk_27 (dk_at dksX14_checkRows_1 16 rfl rfl)
theorem dX14_checkRows_39 : decode cX14_checkRows 39 = .ok (.iaload, 1) := dk_46 (dk_at dksX14_checkRows_1 17 rfl rfl)
theorem dX14_checkRows_40 : decode cX14_checkRows 40 = .ok (.istore 4, 2) := dk_54 4 (dk_at dksX14_checkRows_1 18 rfl rfl)
theorem dX14_checkRows_42 : decode cX14_checkRows 42 = .ok (.iload 4, 2) := dk_21 4 (dk_at dksX14_checkRows_1 20 rfl rfl)
theorem dX14_checkRows_44 : decode cX14_checkRows 44 = .ok (.ifCond .lt 82, 3) := dk_155 0 82 (dk_at dksX14_checkRows_2 0 rfl rfl)
theorem dX14_checkRows_47 : decode cX14_checkRows 47 = .ok (.iload_n 3, 1) := dk_29 (dk_at dksX14_checkRows_2 3 rfl rfl)
theorem dX14_checkRows_48 : decode cX14_checkRows 48 = .ok (.ifCond .ne 78, 3) := dk_154 0 78 (dk_at dksX14_checkRows_2 4 rfl rfl)
theorem dX14_checkRows_51 : decode cX14_checkRows 51 = .ok (.aload_n 0, 1) := dk_42 (dk_at dksX14_checkRows_2 7 rfl rfl)
theorem dX14_checkRows_52 : decode cX14_checkRows 52 = .ok (.getfield 647, 3) := dk_180 2 135 (dk_at dksX14_checkRows_2 8 rfl rfl)
theorem dX14_checkRows_55 : decode cX14_checkRows 55 = .ok (.istore 5, 2) := dk_54 5 (dk_at dksX14_checkRows_2 11 rfl rfl)
theorem dX14_checkRows_57 : decode cX14_checkRows 57 = .ok (.aload_n 0, 1) := dk_42 (dk_at dksX14_checkRows_2 13 rfl rfl)
theorem dX14_checkRows_58 : decode cX14_checkRows 58 = .ok (.aload_n 0, 1) := dk_42 (dk_at dksX14_checkRows_2 14 rfl rfl)
theorem dX14_checkRows_59 : decode cX14_checkRows 59 = .ok (.getfield 103, 3) := dk_180 0 103 (dk_at dksX14_checkRows_2 15 rfl rfl)
theorem dX14_checkRows_62 : decode cX14_checkRows 62 = .ok (.iload 4, 2) := dk_21 4 (dk_at dksX14_checkRows_2 18 rfl rfl)
theorem dX14_checkRows_64 : decode cX14_checkRows 64 = .ok (.iaload, 1) := dk_46 (dk_at dksX14_checkRows_2 20 rfl rfl)
theorem dX14_checkRows_65 : decode cX14_checkRows 65 = .ok (.invokevirtual 650, 3) := dk_182 2 138 (dk_at dksX14_checkRows_2 21 rfl rfl)
theorem dX14_checkRows_68 : decode cX14_checkRows 68 = .ok (.aload_n 0, 1) := dk_42 (dk_at dksX14_checkRows_3 0 rfl rfl)
theorem dX14_checkRows_69 : decode cX14_checkRows 69 = .ok (.iload 5, 2) := dk_21 5 (dk_at dksX14_checkRows_3 1 rfl rfl)
theorem dX14_checkRows_71 : decode cX14_checkRows 71 = .ok (.invokevirtual 653, 3) := dk_182 2 141 (dk_at dksX14_checkRows_3 3 rfl rfl)
theorem dX14_checkRows_74 : decode cX14_checkRows 74 = .ok (.istore_n 3, 1) := dk_62 (dk_at dksX14_checkRows_3 6 rfl rfl)
theorem dX14_checkRows_75 : decode cX14_checkRows 75 = .ok (.iload_n 3, 1) := dk_29 (dk_at dksX14_checkRows_3 7 rfl rfl)
theorem dX14_checkRows_76 : decode cX14_checkRows 76 = .ok (.ifCond .eq 19, 3) := dk_153 0 19 (dk_at dksX14_checkRows_3 8 rfl rfl)
theorem dX14_checkRows_79 : decode cX14_checkRows 79 = .ok (.aload_n 0, 1) := dk_42 (dk_at dksX14_checkRows_3 11 rfl rfl)
theorem dX14_checkRows_80 : decode cX14_checkRows 80 = .ok (.aload_n 0, 1) := dk_42 (dk_at dksX14_checkRows_3 12 rfl rfl)
theorem dX14_checkRows_81 : decode cX14_checkRows 81 = .ok (.getfield 36, 3) := dk_180 0 36 (dk_at dksX14_checkRows_3 13 rfl rfl)
theorem dX14_checkRows_84 : decode cX14_checkRows 84 = .ok (.aload_n 0, 1) := dk_42 (dk_at dksX14_checkRows_3 16 rfl rfl)
theorem dX14_checkRows_85 : decode cX14_checkRows 85 = .ok (.getfield 100, 3) := dk_180 0 100 (dk_at dksX14_checkRows_3 17 rfl rfl)
theorem dX14_checkRows_88 : decode cX14_checkRows 88 = .ok (.iload 4, 2) := dk_21 4 (dk_at dksX14_checkRows_3 20 rfl rfl)
theorem dX14_checkRows_90 : decode cX14_checkRows 90 = .ok (.iaload, 1) := dk_46 (dk_at dksX14_checkRows_3 22 rfl rfl)
theorem dX14_checkRows_91 : decode cX14_checkRows 91 = .ok (.iaload, 1) := dk_46 (dk_at dksX14_checkRows_3 23 rfl rfl)
theorem dX14_checkRows_92 : decode cX14_checkRows 92 = .ok (.invokevirtual 597, 3) := dk_182 2 85 (dk_at dksX14_checkRows_4 0 rfl rfl)
theorem dX14_checkRows_95 : decode cX14_checkRows 95 = .ok (.iload_n 2, 1) := dk_28 (dk_at dksX14_checkRows_4 3 rfl rfl)
theorem dX14_checkRows_96 : decode cX14_checkRows 96 = .ok (.ifCond .eq 18, 3) := dk_153 0 18 (dk_at dksX14_checkRows_4 4 rfl rfl)
theorem dX14_checkRows_99 : decode cX14_checkRows 99 = .ok (.aload_n 0, 1) := dk_42 (dk_at dksX14_checkRows_4 7 rfl rfl)
theorem dX14_checkRows_100 : decode cX14_checkRows 100 = .ok (.getfield 106, 3) := dk_180 0 106 (dk_at dksX14_checkRows_4 8 rfl rfl)
theorem dX14_checkRows_103 : decode cX14_checkRows 103 = .ok (.iload 4, 2) := dk_21 4 (dk_at dksX14_checkRows_4 11 rfl rfl)
theorem dX14_checkRows_105 : decode cX14_checkRows 105 = .ok (.iaload, 1) := dk_46 (dk_at dksX14_checkRows_4 13 rfl rfl)
theorem dX14_checkRows_106 : decode cX14_checkRows 106 = .ok (.ifCond .ne 8, 3) := dk_154 0 8 (dk_at dksX14_checkRows_4 14 rfl rfl)
theorem dX14_checkRows_109 : decode cX14_checkRows 109 = .ok (.aload_n 0, 1) := dk_42 (dk_at dksX14_checkRows_4 17 rfl rfl)
theorem dX14_checkRows_110 : decode cX14_checkRows 110 = .ok (.iconst 0, 1) := dk_3 (dk_at dksX14_checkRows_4 18 rfl rfl)
theorem dX14_checkRows_111 : decode cX14_checkRows 111 = .ok (.putfield 647, 3) := dk_181 2 135 (dk_at dksX14_checkRows_4 19 rfl rfl)
theorem dX14_checkRows_114 : decode cX14_checkRows 114 = .ok (.aload_n 0, 1) := dk_42 (dk_at dksX14_checkRows_4 22 rfl rfl)
theorem dX14_checkRows_115 : decode cX14_checkRows 115 = .ok (.getfield 112, 3) := dk_180 0 112 (dk_at dksX14_checkRows_5 0 rfl rfl)
theorem dX14_checkRows_118 : decode cX14_checkRows 118 = .ok (.iload 4, 2) := dk_21 4 (dk_at dksX14_checkRows_5 3 rfl rfl)
theorem dX14_checkRows_120 : decode cX14_checkRows 120 = .ok (.iaload, 1) := dk_46 (dk_at dksX14_checkRows_5 5 rfl rfl)
theorem dX14_checkRows_121 : decode cX14_checkRows 121 = .ok (.istore 4, 2) := dk_54 4 (dk_at dksX14_checkRows_5 6 rfl rfl)
theorem dX14_checkRows_123 : decode cX14_checkRows 123 = .ok (.goto (-81), 3) := dk_167 255 175 (dk_at dksX14_checkRows_5 8 rfl rfl)
theorem dX14_checkRows_126 : decode cX14_checkRows 126 = .ok (.iinc 1 1, 3) := dk_132 1 1 (dk_at dksX14_checkRows_5 11 rfl rfl)
theorem dX14_checkRows_129 : decode cX14_checkRows 129 = .ok (.goto (-127), 3) := dk_167 255 129 (dk_at dksX14_checkRows_5 14 rfl rfl)
theorem dX14_checkRows_132 : decode cX14_checkRows 132 = .ok (.aload_n 0, 1) := dk_42 (dk_at dksX14_checkRows_5 17 rfl rfl)
theorem dX14_checkRows_133 : decode cX14_checkRows 133 = .ok (.bipush 9, 2) := dk_16 9 (dk_at dksX14_checkRows_5 18 rfl rfl)
theorem dX14_checkRows_135 : decode cX14_checkRows 135 = .ok (.invokevirtual 603, 3) := dk_182 2 91 (dk_at dksX14_checkRows_5 20 rfl rfl)
theorem dX14_checkRows_138 : decode cX14_checkRows 138 = .ok (.return_, 1) := dk_177 (dk_at dksX14_checkRows_5 23 rfl rfl)
abbrev cX14_gatherTags : ByteArray := prog_15_method_79_code
def yX14_gatherTags : MethodName := ⟨RX14, "gatherTags", "(I)V"⟩
def dkwX14_gatherTags_12 : List UInt8 := [167, 255, 226, 167, 254, 246, 177]
abbrev dktX14_gatherTags_12 : List UInt8 := dkwX14_gatherTags_12 ++ []
def dkwX14_gatherTags_11 : List UInt8 := [180, 0, 224, 28, 42, 180, 0, 103, 21, 4, 46, 79, 132, 2, 1, 42, 180, 0, 112, 21, 4, 46, 54, 4]
abbrev dktX14_gatherTags_11 : List UInt8 := dkwX14_gatherTags_11 ++ dktX14_gatherTags_12
def dkwX14_gatherTags_10 : List UInt8 := [4, 96, 181, 2, 135, 167, 0, 44, 42, 180, 0, 63, 29, 46, 54, 4, 21, 4, 155, 0, 31, 42]
abbrev dktX14_gatherTags_10 : List UInt8 := dkwX14_gatherTags_10 ++ dktX14_gatherTags_11
def dkwX14_gatherTags_9 : List UInt8 := [167, 0, 18, 3, 42, 180, 0, 16, 42, 180, 0, 42, 29, 46, 46, 184, 2, 121, 80, 42, 89, 180, 2, 135]
abbrev dktX14_gatherTags_9 : List UInt8 := dkwX14_gatherTags_9 ++ dktX14_gatherTags_10
def dkwX14_gatherTags_8 : List UInt8 := [180, 0, 78, 42, 180, 0, 48, 29, 46, 46, 42, 180, 0, 81, 42, 180, 0, 48, 29, 46, 46, 184, 2, 121]
abbrev dktX14_gatherTags_8 : List UInt8 := dkwX14_gatherTags_8 ++ dktX14_gatherTags_9
def dkwX14_gatherTags_7 : List UInt8 := [16, 16, 159, 0, 77, 42, 180, 0, 227, 42, 180, 2, 135, 42, 180, 0, 51, 29, 46, 158, 0, 31, 42]
abbrev dktX14_gatherTags_7 : List UInt8 := dkwX14_gatherTags_7 ++ dktX14_gatherTags_8
def dkwX14_gatherTags_6 : List UInt8 := [167, 255, 232, 42, 25, 4, 181, 0, 227, 42, 180, 0, 51, 29, 46, 157, 0, 14, 42, 180, 0, 42, 29, 46]
abbrev dktX14_gatherTags_6 : List UInt8 := dkwX14_gatherTags_6 ++ dktX14_gatherTags_7
def dkwX14_gatherTags_5 : List UInt8 := [21, 5, 42, 180, 2, 135, 162, 0, 21, 25, 4, 21, 5, 42, 180, 0, 227, 21, 5, 47, 80, 132, 5, 1]
abbrev dktX14_gatherTags_5 : List UInt8 := dkwX14_gatherTags_5 ++ dktX14_gatherTags_6
def dkwX14_gatherTags_4 : List UInt8 := [180, 2, 135, 42, 180, 0, 227, 190, 160, 0, 49, 5, 42, 180, 2, 135, 104, 188, 11, 58, 4, 3, 54, 5]
abbrev dktX14_gatherTags_4 : List UInt8 := dkwX14_gatherTags_4 ++ dktX14_gatherTags_5
def dkwX14_gatherTags_3 : List UInt8 := [180, 0, 220, 29, 47, 42, 180, 2, 131, 148, 153, 0, 206, 42, 180, 0, 220, 29, 42, 180, 2, 131, 80, 42]
abbrev dktX14_gatherTags_3 : List UInt8 := dkwX14_gatherTags_3 ++ dktX14_gatherTags_4
def dkwX14_gatherTags_2 : List UInt8 := [46, 16, 17, 160, 0, 18, 42, 180, 0, 178, 42, 180, 0, 54, 29, 46, 46, 62, 167, 255, 224, 42]
abbrev dktX14_gatherTags_2 : List UInt8 := dkwX14_gatherTags_2 ++ dktX14_gatherTags_3
def dkwX14_gatherTags_1 : List UInt8 := [132, 2, 255, 42, 180, 0, 224, 28, 46, 62, 42, 180, 0, 51, 29, 46, 154, 0, 29, 42, 180, 0, 42, 29]
abbrev dktX14_gatherTags_1 : List UInt8 := dkwX14_gatherTags_1 ++ dktX14_gatherTags_2
def dkwX14_gatherTags_0 : List UInt8 := [42, 89, 180, 2, 131, 10, 97, 181, 2, 131, 4, 61, 42, 180, 0, 224, 3, 27, 79, 28, 158, 1, 12]
abbrev dktX14_gatherTags_0 : List UInt8 := dkwX14_gatherTags_0 ++ dktX14_gatherTags_1
theorem dksX14_gatherTags_0 : cX14_gatherTags.data.toList.drop 0 = dktX14_gatherTags_0 := by decide +kernel
theorem dksX14_gatherTags_1 : cX14_gatherTags.data.toList.drop 23 = dktX14_gatherTags_1 := dk_seg dksX14_gatherTags_0 23 rfl rfl
theorem dksX14_gatherTags_2 : cX14_gatherTags.data.toList.drop 47 = dktX14_gatherTags_2 := dk_seg dksX14_gatherTags_1 24 rfl rfl
theorem dksX14_gatherTags_3 : cX14_gatherTags.data.toList.drop 69 = dktX14_gatherTags_3 := dk_seg dksX14_gatherTags_2 22 rfl rfl
theorem dksX14_gatherTags_4 : cX14_gatherTags.data.toList.drop 93 = dktX14_gatherTags_4 := dk_seg dksX14_gatherTags_3 24 rfl rfl
theorem dksX14_gatherTags_5 : cX14_gatherTags.data.toList.drop 117 = dktX14_gatherTags_5 := dk_seg dksX14_gatherTags_4 24 rfl rfl
theorem dksX14_gatherTags_6 : cX14_gatherTags.data.toList.drop 141 = dktX14_gatherTags_6 := dk_seg dksX14_gatherTags_5 24 rfl rfl
theorem dksX14_gatherTags_7 : cX14_gatherTags.data.toList.drop 165 = dktX14_gatherTags_7 := dk_seg dksX14_gatherTags_6 24 rfl rfl
theorem dksX14_gatherTags_8 : cX14_gatherTags.data.toList.drop 188 = dktX14_gatherTags_8 := dk_seg dksX14_gatherTags_7 23 rfl rfl
theorem dksX14_gatherTags_9 : cX14_gatherTags.data.toList.drop 212 = dktX14_gatherTags_9 := dk_seg dksX14_gatherTags_8 24 rfl rfl
theorem dksX14_gatherTags_10 : cX14_gatherTags.data.toList.drop 236 = dktX14_gatherTags_10 := dk_seg dksX14_gatherTags_9 24 rfl rfl
theorem dksX14_gatherTags_11 : cX14_gatherTags.data.toList.drop 258 = dktX14_gatherTags_11 := dk_seg dksX14_gatherTags_10 22 rfl rfl
theorem dksX14_gatherTags_12 : cX14_gatherTags.data.toList.drop 282 = dktX14_gatherTags_12 := dk_seg dksX14_gatherTags_11 24 rfl rfl
theorem dX14_gatherTags_0 : decode cX14_gatherTags 0 = .ok (.aload_n 0, 1) := dk_42 (dk_at dksX14_gatherTags_0 0 rfl rfl)
theorem dX14_gatherTags_1 : decode cX14_gatherTags 1 = .ok (.dup, 1) := dk_89 (dk_at dksX14_gatherTags_0 1 rfl rfl)
theorem dX14_gatherTags_2 : decode cX14_gatherTags 2 = .ok (.getfield 643, 3) := dk_180 2 131 (dk_at dksX14_gatherTags_0 2 rfl rfl)
theorem dX14_gatherTags_5 : decode cX14_gatherTags 5 = .ok (.lconst 1, 1) := dk_10 (dk_at dksX14_gatherTags_0 5 rfl rfl)
theorem dX14_gatherTags_6 : decode cX14_gatherTags 6 = .ok (.ladd, 1) := dk_97 (dk_at dksX14_gatherTags_0 6 rfl rfl)
theorem dX14_gatherTags_7 : decode cX14_gatherTags 7 = .ok (.putfield 643, 3) := dk_181 2 131 (dk_at dksX14_gatherTags_0 7 rfl rfl)
theorem dX14_gatherTags_10 : decode cX14_gatherTags 10 = .ok (.iconst 1, 1) := dk_4 (dk_at dksX14_gatherTags_0 10 rfl rfl)
theorem dX14_gatherTags_11 : decode cX14_gatherTags 11 = .ok (.istore_n 2, 1) := dk_61 (dk_at dksX14_gatherTags_0 11 rfl rfl)
theorem dX14_gatherTags_12 : decode cX14_gatherTags 12 = .ok (.aload_n 0, 1) := dk_42 (dk_at dksX14_gatherTags_0 12 rfl rfl)
theorem dX14_gatherTags_13 : decode cX14_gatherTags 13 = .ok (.getfield 224, 3) := dk_180 0 224 (dk_at dksX14_gatherTags_0 13 rfl rfl)
theorem dX14_gatherTags_16 : decode cX14_gatherTags 16 = .ok (.iconst 0, 1) := dk_3 (dk_at dksX14_gatherTags_0 16 rfl rfl)
theorem dX14_gatherTags_17 : decode cX14_gatherTags 17 = .ok (.iload_n 1, 1) := dk_27 (dk_at dksX14_gatherTags_0 17 rfl rfl)
theorem dX14_gatherTags_18 : decode cX14_gatherTags 18 = .ok (.iastore, 1) := dk_79 (dk_at dksX14_gatherTags_0 18 rfl rfl)
theorem dX14_gatherTags_19 : decode cX14_gatherTags 19 = .ok (.iload_n 2, 1) := dk_28 (dk_at dksX14_gatherTags_0 19 rfl rfl)
theorem dX14_gatherTags_20 : decode cX14_gatherTags 20 = .ok (.ifCond .le 268, 3) := dk_158 1 12 (dk_at dksX14_gatherTags_0 20 rfl rfl)
theorem dX14_gatherTags_23 : decode cX14_gatherTags 23 = .ok (.iinc 2 (-1), 3) := dk_132 2 255 (dk_at dksX14_gatherTags_1 0 rfl rfl)
theorem dX14_gatherTags_26 : decode cX14_gatherTags 26 = .ok (.aload_n 0, 1) := dk_42 (dk_at dksX14_gatherTags_1 3 rfl rfl)
theorem dX14_gatherTags_27 : decode cX14_gatherTags 27 = .ok (.getfield 224, 3) := dk_180 0 224 (dk_at dksX14_gatherTags_1 4 rfl rfl)
theorem dX14_gatherTags_30 : decode cX14_gatherTags 30 = .ok (.iload_n 2, 1) := dk_28 (dk_at dksX14_gatherTags_1 7 rfl rfl)
theorem dX14_gatherTags_31 : decode cX14_gatherTags 31 = .ok (.iaload, 1) := dk_46 (dk_at dksX14_gatherTags_1 8 rfl rfl)
theorem dX14_gatherTags_32 : decode cX14_gatherTags 32 = .ok (.istore_n 3, 1) := dk_62 (dk_at dksX14_gatherTags_1 9 rfl rfl)
theorem dX14_gatherTags_33 : decode cX14_gatherTags 33 = .ok (.aload_n 0, 1) := dk_42 (dk_at dksX14_gatherTags_1 10 rfl rfl)
theorem dX14_gatherTags_34 : decode cX14_gatherTags 34 = .ok (.getfield 51, 3) := dk_180 0 51 (dk_at dksX14_gatherTags_1 11 rfl rfl)
theorem dX14_gatherTags_37 : decode cX14_gatherTags 37 = .ok (.iload_n 3, 1) := dk_29 (dk_at dksX14_gatherTags_1 14 rfl rfl)
theorem dX14_gatherTags_38 : decode cX14_gatherTags 38 = .ok (.iaload, 1) := dk_46 (dk_at dksX14_gatherTags_1 15 rfl rfl)
theorem dX14_gatherTags_39 : decode cX14_gatherTags 39 = .ok (.ifCond .ne 29, 3) := dk_154 0 29 (dk_at dksX14_gatherTags_1 16 rfl rfl)
theorem dX14_gatherTags_42 : decode cX14_gatherTags 42 = .ok (.aload_n 0, 1) := dk_42 (dk_at dksX14_gatherTags_1 19 rfl rfl)
theorem dX14_gatherTags_43 : decode cX14_gatherTags 43 = .ok (.getfield 42, 3) := dk_180 0 42 (dk_at dksX14_gatherTags_1 20 rfl rfl)
theorem dX14_gatherTags_46 : decode cX14_gatherTags 46 = .ok (.iload_n 3, 1) := dk_29 (dk_at dksX14_gatherTags_1 23 rfl rfl)
theorem dX14_gatherTags_47 : decode cX14_gatherTags 47 = .ok (.iaload, 1) := dk_46 (dk_at dksX14_gatherTags_2 0 rfl rfl)
theorem dX14_gatherTags_48 : decode cX14_gatherTags 48 = .ok (.bipush 17, 2) := dk_16 17 (dk_at dksX14_gatherTags_2 1 rfl rfl)
theorem dX14_gatherTags_50 : decode cX14_gatherTags 50 = .ok (.if_icmp .ne 18, 3) := dk_160 0 18 (dk_at dksX14_gatherTags_2 3 rfl rfl)
theorem dX14_gatherTags_53 : decode cX14_gatherTags 53 = .ok (.aload_n 0, 1) := dk_42 (dk_at dksX14_gatherTags_2 6 rfl rfl)
theorem dX14_gatherTags_54 : decode cX14_gatherTags 54 = .ok (.getfield 178, 3) := dk_180 0 178 (dk_at dksX14_gatherTags_2 7 rfl rfl)
theorem dX14_gatherTags_57 : decode cX14_gatherTags 57 = .ok (.aload_n 0, 1) := dk_42 (dk_at dksX14_gatherTags_2 10 rfl rfl)
theorem dX14_gatherTags_58 : decode cX14_gatherTags 58 = .ok (.getfield 54, 3) := dk_180 0 54 (dk_at dksX14_gatherTags_2 11 rfl rfl)
theorem dX14_gatherTags_61 : decode cX14_gatherTags 61 = .ok (.iload_n 3, 1) := dk_29 (dk_at dksX14_gatherTags_2 14 rfl rfl)
theorem dX14_gatherTags_62 : decode cX14_gatherTags 62 = .ok (.iaload, 1) := dk_46 (dk_at dksX14_gatherTags_2 15 rfl rfl)
theorem dX14_gatherTags_63 : decode cX14_gatherTags 63 = .ok (.iaload, 1) := dk_46 (dk_at dksX14_gatherTags_2 16 rfl rfl)
theorem dX14_gatherTags_64 : decode cX14_gatherTags 64 = .ok (.istore_n 3, 1) := dk_62 (dk_at dksX14_gatherTags_2 17 rfl rfl)
theorem dX14_gatherTags_65 : decode cX14_gatherTags 65 = .ok (.goto (-32), 3) := dk_167 255 224 (dk_at dksX14_gatherTags_2 18 rfl rfl)
theorem dX14_gatherTags_68 : decode cX14_gatherTags 68 = .ok (.aload_n 0, 1) := dk_42 (dk_at dksX14_gatherTags_2 21 rfl rfl)
theorem dX14_gatherTags_69 : decode cX14_gatherTags 69 = .ok (.getfield 220, 3) := dk_180 0 220 (dk_at dksX14_gatherTags_3 0 rfl rfl)
theorem dX14_gatherTags_72 : decode cX14_gatherTags 72 = .ok (.iload_n 3, 1) := dk_29 (dk_at dksX14_gatherTags_3 3 rfl rfl)
theorem dX14_gatherTags_73 : decode cX14_gatherTags 73 = .ok (.laload, 1) := dk_47 (dk_at dksX14_gatherTags_3 4 rfl rfl)
theorem dX14_gatherTags_74 : decode cX14_gatherTags 74 = .ok (.aload_n 0, 1) := dk_42 (dk_at dksX14_gatherTags_3 5 rfl rfl)
theorem dX14_gatherTags_75 : decode cX14_gatherTags 75 = .ok (.getfield 643, 3) := dk_180 2 131 (dk_at dksX14_gatherTags_3 6 rfl rfl)
theorem dX14_gatherTags_78 : decode cX14_gatherTags 78 = .ok (.lcmp, 1) := dk_148 (dk_at dksX14_gatherTags_3 9 rfl rfl)
theorem dX14_gatherTags_79 : decode cX14_gatherTags 79 = .ok (.ifCond .eq 206, 3) := dk_153 0 206 (dk_at dksX14_gatherTags_3 10 rfl rfl)
theorem dX14_gatherTags_82 : decode cX14_gatherTags 82 = .ok (.aload_n 0, 1) := dk_42 (dk_at dksX14_gatherTags_3 13 rfl rfl)
theorem dX14_gatherTags_83 : decode cX14_gatherTags 83 = .ok (.getfield 220, 3) := dk_180 0 220 (dk_at dksX14_gatherTags_3 14 rfl rfl)
theorem dX14_gatherTags_86 : decode cX14_gatherTags 86 = .ok (.iload_n 3, 1) := dk_29 (dk_at dksX14_gatherTags_3 17 rfl rfl)
theorem dX14_gatherTags_87 : decode cX14_gatherTags 87 = .ok (.aload_n 0, 1) := dk_42 (dk_at dksX14_gatherTags_3 18 rfl rfl)
theorem dX14_gatherTags_88 : decode cX14_gatherTags 88 = .ok (.getfield 643, 3) := dk_180 2 131 (dk_at dksX14_gatherTags_3 19 rfl rfl)
theorem dX14_gatherTags_91 : decode cX14_gatherTags 91 = .ok (.lastore, 1) := dk_80 (dk_at dksX14_gatherTags_3 22 rfl rfl)
theorem dX14_gatherTags_92 : decode cX14_gatherTags 92 = .ok (.aload_n 0, 1) := dk_42 (dk_at dksX14_gatherTags_3 23 rfl rfl)
theorem dX14_gatherTags_93 : decode cX14_gatherTags 93 = .ok (.getfield 647, 3) := dk_180 2 135 (dk_at dksX14_gatherTags_4 0 rfl rfl)
theorem dX14_gatherTags_96 : decode cX14_gatherTags 96 = .ok (.aload_n 0, 1) := dk_42 (dk_at dksX14_gatherTags_4 3 rfl rfl)
theorem dX14_gatherTags_97 : decode cX14_gatherTags 97 = .ok (.getfield 227, 3) := dk_180 0 227 (dk_at dksX14_gatherTags_4 4 rfl rfl)
theorem dX14_gatherTags_100 : decode cX14_gatherTags 100 = .ok (.arraylength, 1) := dk_190 (dk_at dksX14_gatherTags_4 7 rfl rfl)
theorem dX14_gatherTags_101 : decode cX14_gatherTags 101 = .ok (.if_icmp .ne 49, 3) := dk_160 0 49 (dk_at dksX14_gatherTags_4 8 rfl rfl)
theorem dX14_gatherTags_104 : decode cX14_gatherTags 104 = .ok (.iconst 2, 1) := dk_5 (dk_at dksX14_gatherTags_4 11 rfl rfl)
theorem dX14_gatherTags_105 : decode cX14_gatherTags 105 = .ok (.aload_n 0, 1) := dk_42 (dk_at dksX14_gatherTags_4 12 rfl rfl)
theorem dX14_gatherTags_106 : decode cX14_gatherTags 106 = .ok (.getfield 647, 3) := dk_180 2 135 (dk_at dksX14_gatherTags_4 13 rfl rfl)
theorem dX14_gatherTags_109 : decode cX14_gatherTags 109 = .ok (.imul, 1) := dk_104 (dk_at dksX14_gatherTags_4 16 rfl rfl)
theorem dX14_gatherTags_110 : decode cX14_gatherTags 110 = .ok (.newarray .long, 2) := dk_188_11 (dk_at dksX14_gatherTags_4 17 rfl rfl)
theorem dX14_gatherTags_112 : decode cX14_gatherTags 112 = .ok (.astore 4, 2) := dk_58 4 (dk_at dksX14_gatherTags_4 19 rfl rfl)
theorem dX14_gatherTags_114 : decode cX14_gatherTags 114 = .ok (.iconst 0, 1) := dk_3 (dk_at dksX14_gatherTags_4 21 rfl rfl)
theorem dX14_gatherTags_115 : decode cX14_gatherTags 115 = .ok (.istore 5, 2) := dk_54 5 (dk_at dksX14_gatherTags_4 22 rfl rfl)
theorem dX14_gatherTags_117 : decode cX14_gatherTags 117 = .ok (.iload 5, 2) := dk_21 5 (dk_at dksX14_gatherTags_5 0 rfl rfl)
theorem dX14_gatherTags_119 : decode cX14_gatherTags 119 = .ok (.aload_n 0, 1) := dk_42 (dk_at dksX14_gatherTags_5 2 rfl rfl)
theorem dX14_gatherTags_120 : decode cX14_gatherTags 120 = .ok (.getfield 647, 3) := dk_180 2 135 (dk_at dksX14_gatherTags_5 3 rfl rfl)
theorem dX14_gatherTags_123 : decode cX14_gatherTags 123 = .ok (.if_icmp .ge 21, 3) := dk_162 0 21 (dk_at dksX14_gatherTags_5 6 rfl rfl)
theorem dX14_gatherTags_126 : decode cX14_gatherTags 126 = .ok (.aload 4, 2) := dk_25 4 (dk_at dksX14_gatherTags_5 9 rfl rfl)
theorem dX14_gatherTags_128 : decode cX14_gatherTags 128 = .ok (.iload 5, 2) := dk_21 5 (dk_at dksX14_gatherTags_5 11 rfl rfl)
theorem dX14_gatherTags_130 : decode cX14_gatherTags 130 = .ok (.aload_n 0, 1) := dk_42 (dk_at dksX14_gatherTags_5 13 rfl rfl)
theorem dX14_gatherTags_131 : decode cX14_gatherTags 131 = .ok (.getfield 227, 3) := dk_180 0 227 (dk_at dksX14_gatherTags_5 14 rfl rfl)
theorem dX14_gatherTags_134 : decode cX14_gatherTags 134 = .ok (.iload 5, 2) := dk_21 5 (dk_at dksX14_gatherTags_5 17 rfl rfl)
theorem dX14_gatherTags_136 : decode cX14_gatherTags 136 = .ok (.laload, 1) := dk_47 (dk_at dksX14_gatherTags_5 19 rfl rfl)
theorem dX14_gatherTags_137 : decode cX14_gatherTags 137 = .ok (.lastore, 1) := dk_80 (dk_at dksX14_gatherTags_5 20 rfl rfl)
theorem dX14_gatherTags_138 : decode cX14_gatherTags 138 = .ok (.iinc 5 1, 3) := dk_132 5 1 (dk_at dksX14_gatherTags_5 21 rfl rfl)
theorem dX14_gatherTags_141 : decode cX14_gatherTags 141 = .ok (.goto (-24), 3) := dk_167 255 232 (dk_at dksX14_gatherTags_6 0 rfl rfl)
theorem dX14_gatherTags_144 : decode cX14_gatherTags 144 = .ok (.aload_n 0, 1) := dk_42 (dk_at dksX14_gatherTags_6 3 rfl rfl)
theorem dX14_gatherTags_145 : decode cX14_gatherTags 145 = .ok (.aload 4, 2) := dk_25 4 (dk_at dksX14_gatherTags_6 4 rfl rfl)
theorem dX14_gatherTags_147 : decode cX14_gatherTags 147 = .ok (.putfield 227, 3) := dk_181 0 227 (dk_at dksX14_gatherTags_6 6 rfl rfl)
theorem dX14_gatherTags_150 : decode cX14_gatherTags 150 = .ok (.aload_n 0, 1) := dk_42 (dk_at dksX14_gatherTags_6 9 rfl rfl)
theorem dX14_gatherTags_151 : decode cX14_gatherTags 151 = .ok (.getfield 51, 3) := dk_180 0 51 (dk_at dksX14_gatherTags_6 10 rfl rfl)
theorem dX14_gatherTags_154 : decode cX14_gatherTags 154 = .ok (.iload_n 3, 1) := dk_29 (dk_at dksX14_gatherTags_6 13 rfl rfl)
theorem dX14_gatherTags_155 : decode cX14_gatherTags 155 = .ok (.iaload, 1) := dk_46 (dk_at dksX14_gatherTags_6 14 rfl rfl)
theorem dX14_gatherTags_156 : decode cX14_gatherTags 156 = .ok (.ifCond .gt 14, 3) := dk_157 0 14 (dk_at dksX14_gatherTags_6 15 rfl rfl)
theorem dX14_gatherTags_159 : decode cX14_gatherTags 159 = .ok (.aload_n 0, 1) := dk_42 (dk_at dksX14_gatherTags_6 18 rfl rfl)
theorem dX14_gatherTags_160 : decode cX14_gatherTags 160 = .ok (.getfield 42, 3) := dk_180 0 42 (dk_at dksX14_gatherTags_6 19 rfl rfl)
theorem dX14_gatherTags_163 : decode cX14_gatherTags 163 = .ok (.iload_n 3, 1) := dk_29 (dk_at dksX14_gatherTags_6 22 rfl rfl)
theorem dX14_gatherTags_164 : decode cX14_gatherTags 164 = .ok (.iaload, 1) := dk_46 (dk_at dksX14_gatherTags_6 23 rfl rfl)
theorem dX14_gatherTags_165 : decode cX14_gatherTags 165 = .ok (.bipush 16, 2) := dk_16 16 (dk_at dksX14_gatherTags_7 0 rfl rfl)
theorem dX14_gatherTags_167 : decode cX14_gatherTags 167 = .ok (.if_icmp .eq 77, 3) := dk_159 0 77 (dk_at dksX14_gatherTags_7 2 rfl rfl)
theorem dX14_gatherTags_170 : decode cX14_gatherTags 170 = .ok (.aload_n 0, 1) := dk_42 (dk_at dksX14_gatherTags_7 5 rfl rfl)
theorem dX14_gatherTags_171 : decode cX14_gatherTags 171 = .ok (.getfield 227, 3) := dk_180 0 227 (dk_at dksX14_gatherTags_7 6 rfl rfl)
theorem dX14_gatherTags_174 : decode cX14_gatherTags 174 = .ok (.aload_n 0, 1) := dk_42 (dk_at dksX14_gatherTags_7 9 rfl rfl)
theorem dX14_gatherTags_175 : decode cX14_gatherTags 175 = .ok (.getfield 647, 3) := dk_180 2 135 (dk_at dksX14_gatherTags_7 10 rfl rfl)
theorem dX14_gatherTags_178 : decode cX14_gatherTags 178 = .ok (.aload_n 0, 1) := dk_42 (dk_at dksX14_gatherTags_7 13 rfl rfl)
theorem dX14_gatherTags_179 : decode cX14_gatherTags 179 = .ok (.getfield 51, 3) := dk_180 0 51 (dk_at dksX14_gatherTags_7 14 rfl rfl)
theorem dX14_gatherTags_182 : decode cX14_gatherTags 182 = .ok (.iload_n 3, 1) := dk_29 (dk_at dksX14_gatherTags_7 17 rfl rfl)
theorem dX14_gatherTags_183 : decode cX14_gatherTags 183 = .ok (.iaload, 1) := dk_46 (dk_at dksX14_gatherTags_7 18 rfl rfl)
theorem dX14_gatherTags_184 : decode cX14_gatherTags 184 = .ok (.ifCond .le 31, 3) := dk_158 0 31 (dk_at dksX14_gatherTags_7 19 rfl rfl)
theorem dX14_gatherTags_187 : decode cX14_gatherTags 187 = .ok (.aload_n 0, 1) := dk_42 (dk_at dksX14_gatherTags_7 22 rfl rfl)
theorem dX14_gatherTags_188 : decode cX14_gatherTags 188 = .ok (.getfield 78, 3) := dk_180 0 78 (dk_at dksX14_gatherTags_8 0 rfl rfl)
theorem dX14_gatherTags_191 : decode cX14_gatherTags 191 = .ok (.aload_n 0, 1) := dk_42 (dk_at dksX14_gatherTags_8 3 rfl rfl)
theorem dX14_gatherTags_192 : decode cX14_gatherTags 192 = .ok (.getfield 48, 3) := dk_180 0 48 (dk_at dksX14_gatherTags_8 4 rfl rfl)
theorem dX14_gatherTags_195 : decode cX14_gatherTags 195 = .ok (.iload_n 3, 1) := dk_29 (dk_at dksX14_gatherTags_8 7 rfl rfl)
theorem dX14_gatherTags_196 : decode cX14_gatherTags 196 = .ok (.iaload, 1) := dk_46 (dk_at dksX14_gatherTags_8 8 rfl rfl)
theorem dX14_gatherTags_197 : decode cX14_gatherTags 197 = .ok (.iaload, 1) := dk_46 (dk_at dksX14_gatherTags_8 9 rfl rfl)
theorem dX14_gatherTags_198 : decode cX14_gatherTags 198 = .ok (.aload_n 0, 1) := dk_42 (dk_at dksX14_gatherTags_8 10 rfl rfl)
theorem dX14_gatherTags_199 : decode cX14_gatherTags 199 = .ok (.getfield 81, 3) := dk_180 0 81 (dk_at dksX14_gatherTags_8 11 rfl rfl)
theorem dX14_gatherTags_202 : decode cX14_gatherTags 202 = .ok (.aload_n 0, 1) := dk_42 (dk_at dksX14_gatherTags_8 14 rfl rfl)
theorem dX14_gatherTags_203 : decode cX14_gatherTags 203 = .ok (.getfield 48, 3) := dk_180 0 48 (dk_at dksX14_gatherTags_8 15 rfl rfl)
theorem dX14_gatherTags_206 : decode cX14_gatherTags 206 = .ok (.iload_n 3, 1) := dk_29 (dk_at dksX14_gatherTags_8 18 rfl rfl)
theorem dX14_gatherTags_207 : decode cX14_gatherTags 207 = .ok (.iaload, 1) := dk_46 (dk_at dksX14_gatherTags_8 19 rfl rfl)
theorem dX14_gatherTags_208 : decode cX14_gatherTags 208 = .ok (.iaload, 1) := dk_46 (dk_at dksX14_gatherTags_8 20 rfl rfl)
theorem dX14_gatherTags_209 : decode cX14_gatherTags 209 = .ok (.invokestatic 633, 3) := dk_184 2 121 (dk_at dksX14_gatherTags_8 21 rfl rfl)
theorem dX14_gatherTags_212 : decode cX14_gatherTags 212 = .ok (.goto 18, 3) := dk_167 0 18 (dk_at dksX14_gatherTags_9 0 rfl rfl)
theorem dX14_gatherTags_215 : decode cX14_gatherTags 215 = .ok (.iconst 0, 1) := dk_3 (dk_at dksX14_gatherTags_9 3 rfl rfl)
theorem dX14_gatherTags_216 : decode cX14_gatherTags 216 = .ok (.aload_n 0, 1) := dk_42 (dk_at dksX14_gatherTags_9 4 rfl rfl)
theorem dX14_gatherTags_217 : decode cX14_gatherTags 217 = .ok (.getfield 16, 3) := dk_180 0 16 (dk_at dksX14_gatherTags_9 5 rfl rfl)
theorem dX14_gatherTags_220 : decode cX14_gatherTags 220 = .ok (.aload_n 0, 1) := dk_42 (dk_at dksX14_gatherTags_9 8 rfl rfl)
theorem dX14_gatherTags_221 : decode cX14_gatherTags 221 = .ok (.getfield 42, 3) := dk_180 0 42 (dk_at dksX14_gatherTags_9 9 rfl rfl)
theorem dX14_gatherTags_224 : decode cX14_gatherTags 224 = .ok (.iload_n 3, 1) := dk_29 (dk_at dksX14_gatherTags_9 12 rfl rfl)
theorem dX14_gatherTags_225 : decode cX14_gatherTags 225 = .ok (.iaload, 1) := dk_46 (dk_at dksX14_gatherTags_9 13 rfl rfl)
theorem dX14_gatherTags_226 : decode cX14_gatherTags 226 = .ok (.iaload, 1) := dk_46 (dk_at dksX14_gatherTags_9 14 rfl rfl)
theorem dX14_gatherTags_227 : decode cX14_gatherTags 227 = .ok (.invokestatic 633, 3) := dk_184 2 121 (dk_at dksX14_gatherTags_9 15 rfl rfl)
theorem dX14_gatherTags_230 : decode cX14_gatherTags 230 = .ok (.lastore, 1) := dk_80 (dk_at dksX14_gatherTags_9 18 rfl rfl)
theorem dX14_gatherTags_231 : decode cX14_gatherTags 231 = .ok (.aload_n 0, 1) := dk_42 (dk_at dksX14_gatherTags_9 19 rfl rfl)
theorem dX14_gatherTags_232 : decode cX14_gatherTags 232 = .ok (.dup, 1) := dk_89 (dk_at dksX14_gatherTags_9 20 rfl rfl)
theorem dX14_gatherTags_233 : decode cX14_gatherTags 233 = .ok (.getfield 647, 3) := dk_180 2 135 (dk_at dksX14_gatherTags_9 21 rfl rfl)
theorem dX14_gatherTags_236 : decode cX14_gatherTags 236 = .ok (.iconst 1, 1) := dk_4 (dk_at dksX14_gatherTags_10 0 rfl rfl)
theorem dX14_gatherTags_237 : decode cX14_gatherTags 237 = .ok (.iadd, 1) := dk_96 (dk_at dksX14_gatherTags_10 1 rfl rfl)
theorem dX14_gatherTags_238 : decode cX14_gatherTags 238 = .ok (.putfield 647, 3) := dk_181 2 135 (dk_at dksX14_gatherTags_10 2 rfl rfl)
theorem dX14_gatherTags_241 : decode cX14_gatherTags 241 = .ok (.goto 44, 3) := dk_167 0 44 (dk_at dksX14_gatherTags_10 5 rfl rfl)
theorem dX14_gatherTags_244 : decode cX14_gatherTags 244 = .ok (.aload_n 0, 1) := dk_42 (dk_at dksX14_gatherTags_10 8 rfl rfl)
theorem dX14_gatherTags_245 : decode cX14_gatherTags 245 = .ok (.getfield 63, 3) := dk_180 0 63 (dk_at dksX14_gatherTags_10 9 rfl rfl)
theorem dX14_gatherTags_248 : decode cX14_gatherTags 248 = .ok (.iload_n 3, 1) := dk_29 (dk_at dksX14_gatherTags_10 12 rfl rfl)
theorem dX14_gatherTags_249 : decode cX14_gatherTags 249 = .ok (.iaload, 1) := dk_46 (dk_at dksX14_gatherTags_10 13 rfl rfl)
theorem dX14_gatherTags_250 : decode cX14_gatherTags 250 = .ok (.istore 4, 2) := dk_54 4 (dk_at dksX14_gatherTags_10 14 rfl rfl)
theorem dX14_gatherTags_252 : decode cX14_gatherTags 252 = .ok (.iload 4, 2) := dk_21 4 (dk_at dksX14_gatherTags_10 16 rfl rfl)
theorem dX14_gatherTags_254 : decode cX14_gatherTags 254 = .ok (.ifCond .lt 31, 3) := dk_155 0 31 (dk_at dksX14_gatherTags_10 18 rfl rfl)
theorem dX14_gatherTags_257 : decode cX14_gatherTags 257 = .ok (.aload_n 0, 1) := dk_42 (dk_at dksX14_gatherTags_10 21 rfl rfl)
theorem dX14_gatherTags_258 : decode cX14_gatherTags 258 = .ok (.getfield 224, 3) := dk_180 0 224 (dk_at dksX14_gatherTags_11 0 rfl rfl)
theorem dX14_gatherTags_261 : decode cX14_gatherTags 261 = .ok (.iload_n 2, 1) := dk_28 (dk_at dksX14_gatherTags_11 3 rfl rfl)
theorem dX14_gatherTags_262 : decode cX14_gatherTags 262 = .ok (.aload_n 0, 1) := dk_42 (dk_at dksX14_gatherTags_11 4 rfl rfl)
theorem dX14_gatherTags_263 : decode cX14_gatherTags 263 = .ok (.getfield 103, 3) := dk_180 0 103 (dk_at dksX14_gatherTags_11 5 rfl rfl)
theorem dX14_gatherTags_266 : decode cX14_gatherTags 266 = .ok (.iload 4, 2) := dk_21 4 (dk_at dksX14_gatherTags_11 8 rfl rfl)
theorem dX14_gatherTags_268 : decode cX14_gatherTags 268 = .ok (.iaload, 1) := dk_46 (dk_at dksX14_gatherTags_11 10 rfl rfl)
theorem dX14_gatherTags_269 : decode cX14_gatherTags 269 = .ok (.iastore, 1) := dk_79 (dk_at dksX14_gatherTags_11 11 rfl rfl)
theorem dX14_gatherTags_270 : decode cX14_gatherTags 270 = .ok (.iinc 2 1, 3) := dk_132 2 1 (dk_at dksX14_gatherTags_11 12 rfl rfl)
theorem dX14_gatherTags_273 : decode cX14_gatherTags 273 = .ok (.aload_n 0, 1) := dk_42 (dk_at dksX14_gatherTags_11 15 rfl rfl)
theorem dX14_gatherTags_274 : decode cX14_gatherTags 274 = .ok (.getfield 112, 3) := dk_180 0 112 (dk_at dksX14_gatherTags_11 16 rfl rfl)
theorem dX14_gatherTags_277 : decode cX14_gatherTags 277 = .ok (.iload 4, 2) := dk_21 4 (dk_at dksX14_gatherTags_11 19 rfl rfl)
theorem dX14_gatherTags_279 : decode cX14_gatherTags 279 = .ok (.iaload, 1) := dk_46 (dk_at dksX14_gatherTags_11 21 rfl rfl)
theorem dX14_gatherTags_280 : decode cX14_gatherTags 280 = .ok (.istore 4, 2) := dk_54 4 (dk_at dksX14_gatherTags_11 22 rfl rfl)
theorem dX14_gatherTags_282 : decode cX14_gatherTags 282 = .ok (.goto (-30), 3) := dk_167 255 226 (dk_at dksX14_gatherTags_12 0 rfl rfl)
theorem dX14_gatherTags_285 : decode cX14_gatherTags 285 = .ok (.goto (-266), 3) := dk_167 254 246 (dk_at dksX14_gatherTags_12 3 rfl rfl)
theorem dX14_gatherTags_288 : decode cX14_gatherTags 288 = .ok (.return_, 1) := dk_177 (dk_at dksX14_gatherTags_12 6 rfl rfl)
abbrev cX14_isAgain : ByteArray := prog_15_method_80_code
def yX14_isAgain : MethodName := ⟨RX14, "isAgain", "(I)Z"⟩
def dkwX14_isAgain_2 : List UInt8 := [172]
abbrev dktX14_isAgain_2 : List UInt8 := dkwX14_isAgain_2 ++ []
def dkwX14_isAgain_1 : List UInt8 := [180, 0, 227, 29, 47, 148, 154, 0, 5, 4, 172, 132, 3, 1, 167, 255, 230, 132, 2, 1, 167, 255, 214, 3]
abbrev dktX14_isAgain_1 : List UInt8 := dkwX14_isAgain_1 ++ dktX14_isAgain_2
def dkwX14_isAgain_0 : List UInt8 := [27, 61, 28, 42, 180, 2, 135, 162, 0, 40, 3, 62, 29, 27, 162, 0, 27, 42, 180, 0, 227, 28, 47, 42]
abbrev dktX14_isAgain_0 : List UInt8 := dkwX14_isAgain_0 ++ dktX14_isAgain_1
theorem dksX14_isAgain_0 : cX14_isAgain.data.toList.drop 0 = dktX14_isAgain_0 := by decide +kernel
theorem dksX14_isAgain_1 : cX14_isAgain.data.toList.drop 24 = dktX14_isAgain_1 := dk_seg dksX14_isAgain_0 24 rfl rfl
theorem dksX14_isAgain_2 : cX14_isAgain.data.toList.drop 48 = dktX14_isAgain_2 := dk_seg dksX14_isAgain_1 24 rfl rfl
theorem dX14_isAgain_0 : decode cX14_isAgain 0 = .ok (.iload_n 1, 1) := dk_27 (dk_at dksX14_isAgain_0 0 rfl rfl)
theorem dX14_isAgain_1 : decode cX14_isAgain 1 = .ok (.istore_n 2, 1) := dk_61 (dk_at dksX14_isAgain_0 1 rfl rfl)
theorem dX14_isAgain_2 : decode cX14_isAgain 2 = .ok (.iload_n 2, 1) := dk_28 (dk_at dksX14_isAgain_0 2 rfl rfl)
theorem dX14_isAgain_3 : decode cX14_isAgain 3 = .ok (.aload_n 0, 1) := dk_42 (dk_at dksX14_isAgain_0 3 rfl rfl)
theorem dX14_isAgain_4 : decode cX14_isAgain 4 = .ok (.getfield 647, 3) := dk_180 2 135 (dk_at dksX14_isAgain_0 4 rfl rfl)
theorem dX14_isAgain_7 : decode cX14_isAgain 7 = .ok (.if_icmp .ge 40, 3) := dk_162 0 40 (dk_at dksX14_isAgain_0 7 rfl rfl)
theorem dX14_isAgain_10 : decode cX14_isAgain 10 = .ok (.iconst 0, 1) := dk_3 (dk_at dksX14_isAgain_0 10 rfl rfl)
theorem dX14_isAgain_11 : decode cX14_isAgain 11 = .ok (.istore_n 3, 1) := dk_62 (dk_at dksX14_isAgain_0 11 rfl rfl)
theorem dX14_isAgain_12 : decode cX14_isAgain 12 = .ok (.iload_n 3, 1) := dk_29 (dk_at dksX14_isAgain_0 12 rfl rfl)
theorem dX14_isAgain_13 : decode cX14_isAgain 13 = .ok (.iload_n 1, 1) := dk_27 (dk_at dksX14_isAgain_0 13 rfl rfl)
theorem dX14_isAgain_14 : decode cX14_isAgain 14 = .ok (.if_icmp .ge 27, 3) := dk_162 0 27 (dk_at dksX14_isAgain_0 14 rfl rfl)
theorem dX14_isAgain_17 : decode cX14_isAgain 17 = .ok (.aload_n 0, 1) := dk_42 (dk_at dksX14_isAgain_0 17 rfl rfl)
theorem dX14_isAgain_18 : decode cX14_isAgain 18 = .ok (.getfield 227, 3) := dk_180 0 227 (dk_at dksX14_isAgain_0 18 rfl rfl)
theorem dX14_isAgain_21 : decode cX14_isAgain 21 = .ok (.iload_n 2, 1) := dk_28 (dk_at dksX14_isAgain_0 21 rfl rfl)
theorem dX14_isAgain_22 : decode cX14_isAgain 22 = .ok (.laload, 1) := dk_47 (dk_at dksX14_isAgain_0 22 rfl rfl)
theorem dX14_isAgain_23 : decode cX14_isAgain 23 = .ok (.aload_n 0, 1) := dk_42 (dk_at dksX14_isAgain_0 23 rfl rfl)
theorem dX14_isAgain_24 : decode cX14_isAgain 24 = .ok (.getfield 227, 3) := dk_180 0 227 (dk_at dksX14_isAgain_1 0 rfl rfl)
theorem dX14_isAgain_27 : decode cX14_isAgain 27 = .ok (.iload_n 3, 1) := dk_29 (dk_at dksX14_isAgain_1 3 rfl rfl)
theorem dX14_isAgain_28 : decode cX14_isAgain 28 = .ok (.laload, 1) := dk_47 (dk_at dksX14_isAgain_1 4 rfl rfl)
theorem dX14_isAgain_29 : decode cX14_isAgain 29 = .ok (.lcmp, 1) := dk_148 (dk_at dksX14_isAgain_1 5 rfl rfl)
theorem dX14_isAgain_30 : decode cX14_isAgain 30 = .ok (.ifCond .ne 5, 3) := dk_154 0 5 (dk_at dksX14_isAgain_1 6 rfl rfl)
theorem dX14_isAgain_33 : decode cX14_isAgain 33 = .ok (.iconst 1, 1) := dk_4 (dk_at dksX14_isAgain_1 9 rfl rfl)
theorem dX14_isAgain_34 : decode cX14_isAgain 34 = .ok (.ireturn, 1) := dk_172 (dk_at dksX14_isAgain_1 10 rfl rfl)
theorem dX14_isAgain_35 : decode cX14_isAgain 35 = .ok (.iinc 3 1, 3) := dk_132 3 1 (dk_at dksX14_isAgain_1 11 rfl rfl)
theorem dX14_isAgain_38 : decode cX14_isAgain 38 = .ok (.goto (-26), 3) := dk_167 255 230 (dk_at dksX14_isAgain_1 14 rfl rfl)
theorem dX14_isAgain_41 : decode cX14_isAgain 41 = .ok (.iinc 2 1, 3) := dk_132 2 1 (dk_at dksX14_isAgain_1 17 rfl rfl)
theorem dX14_isAgain_44 : decode cX14_isAgain 44 = .ok (.goto (-42), 3) := dk_167 255 214 (dk_at dksX14_isAgain_1 20 rfl rfl)
theorem dX14_isAgain_47 : decode cX14_isAgain 47 = .ok (.iconst 0, 1) := dk_3 (dk_at dksX14_isAgain_1 23 rfl rfl)
theorem dX14_isAgain_48 : decode cX14_isAgain 48 = .ok (.ireturn, 1) := dk_172 (dk_at dksX14_isAgain_2 0 rfl rfl)
abbrev cX14_checkCircles : ByteArray := prog_15_method_83_code
def yX14_checkCircles : MethodName := ⟨RX14, "checkCircles", "()V"⟩
def dkwX14_checkCircles_4 : List UInt8 := [46, 46, 182, 2, 85, 132, 1, 1, 167, 255, 157, 42, 16, 10, 182, 2, 91, 177]
abbrev dktX14_checkCircles_4 : List UInt8 := dkwX14_checkCircles_4 ++ []
def dkwX14_checkCircles_3 : List UInt8 := [27, 46, 155, 0, 27, 28, 27, 160, 0, 22, 29, 158, 0, 18, 42, 42, 180, 0, 36, 42, 180, 0, 175, 27]
abbrev dktX14_checkCircles_3 : List UInt8 := dkwX14_checkCircles_3 ++ dktX14_checkCircles_4
def dkwX14_checkCircles_2 : List UInt8 := [167, 0, 13, 42, 42, 180, 0, 181, 28, 46, 182, 2, 144, 61, 132, 3, 1, 167, 255, 208, 42, 180, 0, 181]
abbrev dktX14_checkCircles_2 : List UInt8 := dkwX14_checkCircles_2 ++ dktX14_checkCircles_3
def dkwX14_checkCircles_1 : List UInt8 := [163, 0, 42, 28, 27, 160, 0, 7, 29, 154, 0, 33, 42, 180, 0, 181, 28, 46, 156, 0, 7, 2]
abbrev dktX14_checkCircles_1 : List UInt8 := dkwX14_checkCircles_1 ++ dktX14_checkCircles_2
def dkwX14_checkCircles_0 : List UInt8 := [3, 60, 27, 42, 180, 1, 230, 162, 0, 97, 27, 61, 3, 62, 28, 155, 0, 50, 29, 42, 180, 1, 230]
abbrev dktX14_checkCircles_0 : List UInt8 := dkwX14_checkCircles_0 ++ dktX14_checkCircles_1
theorem dksX14_checkCircles_0 : cX14_checkCircles.data.toList.drop 0 = dktX14_checkCircles_0 := by decide +kernel
theorem dksX14_checkCircles_1 : cX14_checkCircles.data.toList.drop 23 = dktX14_checkCircles_1 := dk_seg dksX14_checkCircles_0 23 rfl rfl
theorem dksX14_checkCircles_2 : cX14_checkCircles.data.toList.drop 45 = dktX14_checkCircles_2 := dk_seg dksX14_checkCircles_1 22 rfl rfl
theorem dksX14_checkCircles_3 : cX14_checkCircles.data.toList.drop 69 = dktX14_checkCircles_3 := dk_seg dksX14_checkCircles_2 24 rfl rfl
theorem dksX14_checkCircles_4 : cX14_checkCircles.data.toList.drop 93 = dktX14_checkCircles_4 := dk_seg dksX14_checkCircles_3 24 rfl rfl
theorem dX14_checkCircles_0 : decode cX14_checkCircles 0 = .ok (.iconst 0, 1) := dk_3 (dk_at dksX14_checkCircles_0 0 rfl rfl)
theorem dX14_checkCircles_1 : decode cX14_checkCircles 1 = .ok (.istore_n 1, 1) := dk_60 (dk_at dksX14_checkCircles_0 1 rfl rfl)
theorem dX14_checkCircles_2 : decode cX14_checkCircles 2 = .ok (.iload_n 1, 1) := dk_27 (dk_at dksX14_checkCircles_0 2 rfl rfl)
theorem dX14_checkCircles_3 : decode cX14_checkCircles 3 = .ok (.aload_n 0, 1) := dk_42 (dk_at dksX14_checkCircles_0 3 rfl rfl)
theorem dX14_checkCircles_4 : decode cX14_checkCircles 4 = .ok (.getfield 486, 3) := dk_180 1 230 (dk_at dksX14_checkCircles_0 4 rfl rfl)
theorem dX14_checkCircles_7 : decode cX14_checkCircles 7 = .ok (.if_icmp .ge 97, 3) := dk_162 0 97 (dk_at dksX14_checkCircles_0 7 rfl rfl)
theorem dX14_checkCircles_10 : decode cX14_checkCircles 10 = .ok (.iload_n 1, 1) := dk_27 (dk_at dksX14_checkCircles_0 10 rfl rfl)
theorem dX14_checkCircles_11 : decode cX14_checkCircles 11 = .ok (.istore_n 2, 1) := dk_61 (dk_at dksX14_checkCircles_0 11 rfl rfl)
theorem dX14_checkCircles_12 : decode cX14_checkCircles 12 = .ok (.iconst 0, 1) := dk_3 (dk_at dksX14_checkCircles_0 12 rfl rfl)
theorem dX14_checkCircles_13 : decode cX14_checkCircles 13 = .ok (.istore_n 3, 1) := dk_62 (dk_at dksX14_checkCircles_0 13 rfl rfl)
theorem dX14_checkCircles_14 : decode cX14_checkCircles 14 = .ok (.iload_n 2, 1) := dk_28 (dk_at dksX14_checkCircles_0 14 rfl rfl)
theorem dX14_checkCircles_15 : decode cX14_checkCircles 15 = .ok (.ifCond .lt 50, 3) := dk_155 0 50 (dk_at dksX14_checkCircles_0 15 rfl rfl)
theorem dX14_checkCircles_18 : decode cX14_checkCircles 18 = .ok (.iload_n 3, 1) := dk_29 (dk_at dksX14_checkCircles_0 18 rfl rfl)
theorem dX14_checkCircles_19 : decode cX14_checkCircles 19 = .ok (.aload_n 0, 1) := dk_42 (dk_at dksX14_checkCircles_0 19 rfl rfl)
theorem dX14_checkCircles_20 : decode cX14_checkCircles 20 = .ok (.getfield 486, 3) := dk_180 1 230 (dk_at dksX14_checkCircles_0 20 rfl rfl)
theorem dX14_checkCircles_23 : decode cX14_checkCircles 23 = .ok (.if_icmp .gt 42, 3) := dk_163 0 42 (dk_at dksX14_checkCircles_1 0 rfl rfl)
theorem dX14_checkCircles_26 : decode cX14_checkCircles 26 = .ok (.iload_n 2, 1) := dk_28 (dk_at dksX14_checkCircles_1 3 rfl rfl)
theorem dX14_checkCircles_27 : decode cX14_checkCircles 27 = .ok (.iload_n 1, 1) := dk_27 (dk_at dksX14_checkCircles_1 4 rfl rfl)
theorem dX14_checkCircles_28 : decode cX14_checkCircles 28 = .ok (.if_icmp .ne 7, 3) := dk_160 0 7 (dk_at dksX14_checkCircles_1 5 rfl rfl)
theorem dX14_checkCircles_31 : decode cX14_checkCircles 31 = .ok (.iload_n 3, 1) := dk_29 (dk_at dksX14_checkCircles_1 8 rfl rfl)
theorem dX14_checkCircles_32 : decode cX14_checkCircles 32 = .ok (.ifCond .ne 33, 3) := dk_154 0 33 (dk_at dksX14_checkCircles_1 9 rfl rfl)
theorem dX14_checkCircles_35 : decode cX14_checkCircles 35 = .ok (.aload_n 0, 1) := dk_42 (dk_at dksX14_checkCircles_1 12 rfl rfl)
theorem dX14_checkCircles_36 : decode cX14_checkCircles 36 = .ok (.getfield 181, 3) := dk_180 0 181 (dk_at dksX14_checkCircles_1 13 rfl rfl)
theorem dX14_checkCircles_39 : decode cX14_checkCircles 39 = .ok (.iload_n 2, 1) := dk_28 (dk_at dksX14_checkCircles_1 16 rfl rfl)
theorem dX14_checkCircles_40 : decode cX14_checkCircles 40 = .ok (.iaload, 1) := dk_46 (dk_at dksX14_checkCircles_1 17 rfl rfl)
theorem dX14_checkCircles_41 : decode cX14_checkCircles 41 = .ok (.ifCond .ge 7, 3) := dk_156 0 7 (dk_at dksX14_checkCircles_1 18 rfl rfl)
theorem dX14_checkCircles_44 : decode cX14_checkCircles 44 = .ok (.iconst (-1), 1) := dk_2 (dk_at dksX14_checkCircles_1 21 rfl rfl)
theorem dX14_checkCircles_45 : decode cX14_checkCircles 45 = .ok (.goto 13, 3) := dk_167 0 13 (dk_at dksX14_checkCircles_2 0 rfl rfl)
theorem dX14_checkCircles_48 : decode cX14_checkCircles 48 = .ok (.aload_n 0, 1) := dk_42 (dk_at dksX14_checkCircles_2 3 rfl rfl)
theorem dX14_checkCircles_49 : decode cX14_checkCircles 49 = .ok (.aload_n 0, 1) := dk_42 (dk_at dksX14_checkCircles_2 4 rfl rfl)
theorem dX14_checkCircles_50 : decode cX14_checkCircles 50 = .ok (.getfield 181, 3) := dk_180 0 181 (dk_at dksX14_checkCircles_2 5 rfl rfl)
theorem dX14_checkCircles_53 : decode cX14_checkCircles 53 = .ok (.iload_n 2, 1) := dk_28 (dk_at dksX14_checkCircles_2 8 rfl rfl)
theorem dX14_checkCircles_54 : decode cX14_checkCircles 54 = .ok (.iaload, 1) := dk_46 (dk_at dksX14_checkCircles_2 9 rfl rfl)
theorem dX14_checkCircles_55 : decode cX14_checkCircles 55 = .ok (.invokevirtual 656, 3) := dk_182 2 144 (dk_at dksX14_checkCircles_2 10 rfl rfl)
theorem dX14_checkCircles_58 : decode cX14_checkCircles 58 = .ok (.istore_n 2, 1) := dk_61 (dk_at dksX14_checkCircles_2 13 rfl rfl)
theorem dX14_checkCircles_59 : decode cX14_checkCircles 59 = .ok (.iinc 3 1, 3) := dk_132 3 1 (dk_at dksX14_checkCircles_2 14 rfl rfl)
theorem dX14_checkCircles_62 : decode cX14_checkCircles 62 = .ok (.goto (-48), 3) := dk_167 255 208 (dk_at dksX14_checkCircles_2 17 rfl rfl)
theorem dX14_checkCircles_65 : decode cX14_checkCircles 65 = .ok (.aload_n 0, 1) := dk_42 (dk_at dksX14_checkCircles_2 20 rfl rfl)
theorem dX14_checkCircles_66 : decode cX14_checkCircles 66 = .ok (.getfield 181, 3) := dk_180 0 181 (dk_at dksX14_checkCircles_2 21 rfl rfl)
theorem dX14_checkCircles_69 : decode cX14_checkCircles 69 = .ok (.iload_n 1, 1) := dk_27 (dk_at dksX14_checkCircles_3 0 rfl rfl)
theorem dX14_checkCircles_70 : decode cX14_checkCircles 70 = .ok (.iaload, 1) := dk_46 (dk_at dksX14_checkCircles_3 1 rfl rfl)
theorem dX14_checkCircles_71 : decode cX14_checkCircles 71 = .ok (.ifCond .lt 27, 3) := dk_155 0 27 (dk_at dksX14_checkCircles_3 2 rfl rfl)
theorem dX14_checkCircles_74 : decode cX14_checkCircles 74 = .ok (.iload_n 2, 1) := dk_28 (dk_at dksX14_checkCircles_3 5 rfl rfl)
theorem dX14_checkCircles_75 : decode cX14_checkCircles 75 = .ok (.iload_n 1, 1) := dk_27 (dk_at dksX14_checkCircles_3 6 rfl rfl)
theorem dX14_checkCircles_76 : decode cX14_checkCircles 76 = .ok (.if_icmp .ne 22, 3) := dk_160 0 22 (dk_at dksX14_checkCircles_3 7 rfl rfl)
theorem dX14_checkCircles_79 : decode cX14_checkCircles 79 = .ok (.iload_n 3, 1) := dk_29 (dk_at dksX14_checkCircles_3 10 rfl rfl)
theorem dX14_checkCircles_80 : decode cX14_checkCircles 80 = .ok (.ifCond .le 18, 3) := dk_158 0 18 (dk_at dksX14_checkCircles_3 11 rfl rfl)
theorem dX14_checkCircles_83 : decode cX14_checkCircles 83 = .ok (.aload_n 0, 1) := dk_42 (dk_at dksX14_checkCircles_3 14 rfl rfl)
theorem dX14_checkCircles_84 : decode cX14_checkCircles 84 = .ok (.aload_n 0, 1) := dk_42 (dk_at dksX14_checkCircles_3 15 rfl rfl)
theorem dX14_checkCircles_85 : decode cX14_checkCircles 85 = .ok (.getfield 36, 3) := dk_180 0 36 (dk_at dksX14_checkCircles_3 16 rfl rfl)
theorem dX14_checkCircles_88 : decode cX14_checkCircles 88 = .ok (.aload_n 0, 1) := dk_42 (dk_at dksX14_checkCircles_3 19 rfl rfl)
theorem dX14_checkCircles_89 : decode cX14_checkCircles 89 = .ok (.getfield 175, 3) := dk_180 0 175 (dk_at dksX14_checkCircles_3 20 rfl rfl)
theorem dX14_checkCircles_92 : decode cX14_checkCircles 92 = .ok (.iload_n 1, 1) := dk_27 (dk_at dksX14_checkCircles_3 23 rfl rfl)
theorem dX14_checkCircles_93 : decode cX14_checkCircles 93 = .ok (.iaload, 1) := dk_46 (dk_at dksX14_checkCircles_4 0 rfl rfl)
theorem dX14_checkCircles_94 : decode cX14_checkCircles 94 = .ok (.iaload, 1) := dk_46 (dk_at dksX14_checkCircles_4 1 rfl rfl)
theorem dX14_checkCircles_95 : decode cX14_checkCircles 95 = .ok (.invokevirtual 597, 3) := dk_182 2 85 (dk_at dksX14_checkCircles_4 2 rfl rfl)
theorem dX14_checkCircles_98 : decode cX14_checkCircles 98 = .ok (.iinc 1 1, 3) := dk_132 1 1 (dk_at dksX14_checkCircles_4 5 rfl rfl)
theorem dX14_checkCircles_101 : decode cX14_checkCircles 101 = .ok (.goto (-99), 3) := dk_167 255 157 (dk_at dksX14_checkCircles_4 8 rfl rfl)
theorem dX14_checkCircles_104 : decode cX14_checkCircles 104 = .ok (.aload_n 0, 1) := dk_42 (dk_at dksX14_checkCircles_4 11 rfl rfl)
theorem dX14_checkCircles_105 : decode cX14_checkCircles 105 = .ok (.bipush 10, 2) := dk_16 10 (dk_at dksX14_checkCircles_4 12 rfl rfl)
theorem dX14_checkCircles_107 : decode cX14_checkCircles 107 = .ok (.invokevirtual 603, 3) := dk_182 2 91 (dk_at dksX14_checkCircles_4 14 rfl rfl)
theorem dX14_checkCircles_110 : decode cX14_checkCircles 110 = .ok (.return_, 1) := dk_177 (dk_at dksX14_checkCircles_4 17 rfl rfl)
abbrev cX14_goesOn : ByteArray := prog_15_method_82_code
def yX14_goesOn : MethodName := ⟨RX14, "goesOn", "(I)I"⟩
def dkwX14_goesOn_1 : List UInt8 := [182, 2, 109, 155, 0, 5, 2, 172, 42, 42, 180, 0, 154, 27, 46, 182, 2, 82, 172]
abbrev dktX14_goesOn_1 : List UInt8 := dkwX14_goesOn_1 ++ []
def dkwX14_goesOn_0 : List UInt8 := [42, 180, 0, 148, 27, 46, 5, 160, 0, 23, 42, 42, 180, 0, 166, 27, 46, 42, 180, 0, 154, 27, 46, 4]
abbrev dktX14_goesOn_0 : List UInt8 := dkwX14_goesOn_0 ++ dktX14_goesOn_1
theorem dksX14_goesOn_0 : cX14_goesOn.data.toList.drop 0 = dktX14_goesOn_0 := by decide +kernel
theorem dksX14_goesOn_1 : cX14_goesOn.data.toList.drop 24 = dktX14_goesOn_1 := dk_seg dksX14_goesOn_0 24 rfl rfl
theorem dX14_goesOn_0 : decode cX14_goesOn 0 = .ok (.aload_n 0, 1) := dk_42 (dk_at dksX14_goesOn_0 0 rfl rfl)
theorem dX14_goesOn_1 : decode cX14_goesOn 1 = .ok (.getfield 148, 3) := dk_180 0 148 (dk_at dksX14_goesOn_0 1 rfl rfl)
theorem dX14_goesOn_4 : decode cX14_goesOn 4 = .ok (.iload_n 1, 1) := dk_27 (dk_at dksX14_goesOn_0 4 rfl rfl)
theorem dX14_goesOn_5 : decode cX14_goesOn 5 = .ok (.iaload, 1) := dk_46 (dk_at dksX14_goesOn_0 5 rfl rfl)
theorem dX14_goesOn_6 : decode cX14_goesOn 6 = .ok (.iconst 2, 1) := dk_5 (dk_at dksX14_goesOn_0 6 rfl rfl)
theorem dX14_goesOn_7 : decode cX14_goesOn 7 = .ok (.if_icmp .ne 23, 3) := dk_160 0 23 (dk_at dksX14_goesOn_0 7 rfl rfl)
theorem dX14_goesOn_10 : decode cX14_goesOn 10 = .ok (.aload_n 0, 1) := dk_42 (dk_at dksX14_goesOn_0 10 rfl rfl)
theorem dX14_goesOn_11 : decode cX14_goesOn 11 = .ok (.aload_n 0, 1) := dk_42 (dk_at dksX14_goesOn_0 11 rfl rfl)
theorem dX14_goesOn_12 : decode cX14_goesOn 12 = .ok (.getfield 166, 3) := dk_180 0 166 (dk_at dksX14_goesOn_0 12 rfl rfl)
theorem dX14_goesOn_15 : decode cX14_goesOn 15 = .ok (.iload_n 1, 1) := dk_27 (dk_at dksX14_goesOn_0 15 rfl rfl)
theorem dX14_goesOn_16 : decode cX14_goesOn 16 = .ok (.iaload, 1) := dk_46 (dk_at dksX14_goesOn_0 16 rfl rfl)
theorem dX14_goesOn_17 : decode cX14_goesOn 17 = .ok (.aload_n 0, 1) := dk_42 (dk_at dksX14_goesOn_0 17 rfl rfl)
theorem dX14_goesOn_18 : decode cX14_goesOn 18 = .ok (.getfield 154, 3) := dk_180 0 154 (dk_at dksX14_goesOn_0 18 rfl rfl)
theorem dX14_goesOn_21 : decode cX14_goesOn 21 = .ok (.iload_n 1, 1) := dk_27 (dk_at dksX14_goesOn_0 21 rfl rfl)
theorem dX14_goesOn_22 : decode cX14_goesOn 22 = .ok (.iaload, 1) := dk_46 (dk_at dksX14_goesOn_0 22 rfl rfl)
theorem dX14_goesOn_23 : decode cX14_goesOn 23 = .ok (.iconst 1, 1) := dk_4 (dk_at dksX14_goesOn_0 23 rfl rfl)
theorem dX14_goesOn_24 : decode cX14_goesOn 24 = .ok (.invokevirtual 621, 3) := dk_182 2 109 (dk_at dksX14_goesOn_1 0 rfl rfl)
theorem dX14_goesOn_27 : decode cX14_goesOn 27 = .ok (.ifCond .lt 5, 3) := dk_155 0 5 (dk_at dksX14_goesOn_1 3 rfl rfl)
theorem dX14_goesOn_30 : decode cX14_goesOn 30 = .ok (.iconst (-1), 1) := dk_2 (dk_at dksX14_goesOn_1 6 rfl rfl)
theorem dX14_goesOn_31 : decode cX14_goesOn 31 = .ok (.ireturn, 1) := dk_172 (dk_at dksX14_goesOn_1 7 rfl rfl)
theorem dX14_goesOn_32 : decode cX14_goesOn 32 = .ok (.aload_n 0, 1) := dk_42 (dk_at dksX14_goesOn_1 8 rfl rfl)
theorem dX14_goesOn_33 : decode cX14_goesOn 33 = .ok (.aload_n 0, 1) := dk_42 (dk_at dksX14_goesOn_1 9 rfl rfl)
theorem dX14_goesOn_34 : decode cX14_goesOn 34 = .ok (.getfield 154, 3) := dk_180 0 154 (dk_at dksX14_goesOn_1 10 rfl rfl)
theorem dX14_goesOn_37 : decode cX14_goesOn 37 = .ok (.iload_n 1, 1) := dk_27 (dk_at dksX14_goesOn_1 13 rfl rfl)
theorem dX14_goesOn_38 : decode cX14_goesOn 38 = .ok (.iaload, 1) := dk_46 (dk_at dksX14_goesOn_1 14 rfl rfl)
theorem dX14_goesOn_39 : decode cX14_goesOn 39 = .ok (.invokevirtual 594, 3) := dk_182 2 82 (dk_at dksX14_goesOn_1 15 rfl rfl)
theorem dX14_goesOn_42 : decode cX14_goesOn 42 = .ok (.ireturn, 1) := dk_172 (dk_at dksX14_goesOn_1 18 rfl rfl)
abbrev cX14_checkBounds : ByteArray := prog_15_method_88_code
def yX14_checkBounds : MethodName := ⟨RX14, "checkBounds", "()V"⟩
def dkwX14_checkBounds_15 : List UInt8 := [29, 46, 62, 167, 254, 195, 132, 1, 1, 167, 254, 150, 42, 16, 11, 182, 2, 91, 177]
abbrev dktX14_checkBounds_15 : List UInt8 := dkwX14_checkBounds_15 ++ []
def dkwX14_checkBounds_14 : List UInt8 := [153, 0, 14, 42, 42, 180, 0, 36, 21, 5, 46, 182, 2, 85, 132, 4, 1, 167, 255, 0, 42, 180, 0, 127]
abbrev dktX14_checkBounds_14 : List UInt8 := dkwX14_checkBounds_14 ++ dktX14_checkBounds_15
def dkwX14_checkBounds_13 : List UInt8 := [2, 159, 0, 35, 42, 42, 180, 0, 142, 21, 4, 46, 42, 180, 0, 145, 21, 4, 46, 182, 2, 157]
abbrev dktX14_checkBounds_13 : List UInt8 := dkwX14_checkBounds_13 ++ dktX14_checkBounds_14
def dkwX14_checkBounds_12 : List UInt8 := [3, 100, 46, 182, 2, 85, 42, 180, 0, 142, 21, 4, 46, 2, 159, 0, 46, 42, 180, 0, 145, 21, 4, 46]
abbrev dktX14_checkBounds_12 : List UInt8 := dkwX14_checkBounds_12 ++ dktX14_checkBounds_13
def dkwX14_checkBounds_11 : List UInt8 := [180, 0, 36, 42, 180, 0, 136, 21, 4, 46, 42, 180, 0, 139, 21, 4, 51, 153, 0, 7, 4, 167, 0, 4]
abbrev dktX14_checkBounds_11 : List UInt8 := dkwX14_checkBounds_11 ++ dktX14_checkBounds_12
def dkwX14_checkBounds_10 : List UInt8 := [42, 180, 0, 36, 21, 5, 46, 182, 2, 85, 42, 180, 0, 145, 21, 4, 46, 2, 160, 0, 35, 42, 42]
abbrev dktX14_checkBounds_10 : List UInt8 := dkwX14_checkBounds_10 ++ dktX14_checkBounds_11
def dkwX14_checkBounds_9 : List UInt8 := [51, 153, 0, 7, 4, 167, 0, 4, 3, 100, 54, 5, 42, 180, 0, 142, 21, 4, 46, 2, 160, 0, 14, 42]
abbrev dktX14_checkBounds_9 : List UInt8 := dkwX14_checkBounds_9 ++ dktX14_checkBounds_10
def dkwX14_checkBounds_8 : List UInt8 := [51, 42, 180, 0, 118, 29, 51, 182, 2, 153, 79, 42, 180, 0, 130, 21, 4, 46, 42, 180, 0, 133, 21, 4]
abbrev dktX14_checkBounds_8 : List UInt8 := dkwX14_checkBounds_8 ++ dktX14_checkBounds_9
def dkwX14_checkBounds_7 : List UInt8 := [180, 0, 142, 21, 4, 46, 167, 0, 28, 42, 27, 42, 180, 0, 136, 21, 4, 46, 42, 180, 0, 139, 21, 4]
abbrev dktX14_checkBounds_7 : List UInt8 := dkwX14_checkBounds_7 ++ dktX14_checkBounds_8
def dkwX14_checkBounds_6 : List UInt8 := [42, 180, 0, 145, 21, 4, 42, 180, 0, 130, 21, 4, 46, 42, 180, 0, 136, 21, 4, 46, 160, 0, 13, 42]
abbrev dktX14_checkBounds_6 : List UInt8 := dkwX14_checkBounds_6 ++ dktX14_checkBounds_7
def dkwX14_checkBounds_5 : List UInt8 := [42, 180, 0, 130, 21, 4, 46, 42, 180, 0, 133, 21, 4, 51, 42, 180, 0, 118, 29, 51, 182, 2, 153, 79]
abbrev dktX14_checkBounds_5 : List UInt8 := dkwX14_checkBounds_5 ++ dktX14_checkBounds_6
def dkwX14_checkBounds_4 : List UInt8 := [42, 180, 0, 121, 29, 46, 42, 180, 0, 124, 29, 46, 96, 162, 0, 244, 42, 180, 0, 142, 21, 4, 42, 27]
abbrev dktX14_checkBounds_4 : List UInt8 := dkwX14_checkBounds_4 ++ dktX14_checkBounds_5
def dkwX14_checkBounds_3 : List UInt8 := [42, 180, 0, 36, 42, 180, 0, 115, 29, 46, 46, 182, 2, 85, 42, 180, 0, 121, 29, 46, 54, 4, 21, 4]
abbrev dktX14_checkBounds_3 : List UInt8 := dkwX14_checkBounds_3 ++ dktX14_checkBounds_4
def dkwX14_checkBounds_2 : List UInt8 := [180, 0, 118, 29, 51, 153, 0, 13, 28, 184, 2, 150, 154, 0, 26, 167, 0, 8, 28, 5, 159, 0, 18, 42]
abbrev dktX14_checkBounds_2 : List UInt8 := dkwX14_checkBounds_2 ++ dktX14_checkBounds_3
def dkwX14_checkBounds_1 : List UInt8 := [180, 0, 42, 42, 27, 182, 2, 100, 46, 61, 42, 180, 0, 72, 27, 46, 62, 29, 155, 1, 63, 42]
abbrev dktX14_checkBounds_1 : List UInt8 := dkwX14_checkBounds_1 ++ dktX14_checkBounds_2
def dkwX14_checkBounds_0 : List UInt8 := [3, 60, 27, 42, 180, 2, 5, 162, 1, 104, 42, 180, 0, 72, 27, 46, 156, 0, 7, 2, 167, 0, 13, 42]
abbrev dktX14_checkBounds_0 : List UInt8 := dkwX14_checkBounds_0 ++ dktX14_checkBounds_1
theorem dksX14_checkBounds_0 : cX14_checkBounds.data.toList.drop 0 = dktX14_checkBounds_0 := by decide +kernel
theorem dksX14_checkBounds_1 : cX14_checkBounds.data.toList.drop 24 = dktX14_checkBounds_1 := dk_seg dksX14_checkBounds_0 24 rfl rfl
theorem dksX14_checkBounds_2 : cX14_checkBounds.data.toList.drop 46 = dktX14_checkBounds_2 := dk_seg dksX14_checkBounds_1 22 rfl rfl
theorem dksX14_checkBounds_3 : cX14_checkBounds.data.toList.drop 70 = dktX14_checkBounds_3 := dk_seg dksX14_checkBounds_2 24 rfl rfl
theorem dksX14_checkBounds_4 : cX14_checkBounds.data.toList.drop 94 = dktX14_checkBounds_4 := dk_seg dksX14_checkBounds_3 24 rfl rfl
theorem dksX14_checkBounds_5 : cX14_checkBounds.data.toList.drop 118 = dktX14_checkBounds_5 := dk_seg dksX14_checkBounds_4 24 rfl rfl
theorem dksX14_checkBounds_6 : cX14_checkBounds.data.toList.drop 142 = dktX14_checkBounds_6 := dk_seg dksX14_checkBounds_5 24 rfl rfl
theorem dksX14_checkBounds_7 : cX14_checkBounds.data.toList.drop 166 = dktX14_checkBounds_7 := dk_seg dksX14_checkBounds_6 24 rfl rfl
theorem dksX14_checkBounds_8 : cX14_checkBounds.data.toList.drop 190 = dktX14_checkBounds_8 := dk_seg dksX14_checkBounds_7 24 rfl rfl
theorem dksX14_checkBounds_9 : cX14_checkBounds.data.toList.drop 214 = dktX14_checkBounds_9 := dk_seg dksX14_checkBounds_8 24 rfl rfl
theorem dksX14_checkBounds_10 : cX14_checkBounds.data.toList.drop 238 = dktX14_checkBounds_10 := dk_seg dksX14_checkBounds_9 24 rfl rfl
theorem dksX14_checkBounds_11 : cX14_checkBounds.data.toList.drop 261 = dktX14_checkBounds_11 := dk_seg dksX14_checkBounds_10 23 rfl rfl
theorem dksX14_checkBounds_12 : cX14_checkBounds.data.toList.drop 285 = dktX14_checkBounds_12 := dk_seg dksX14_checkBounds_11 24 rfl rfl
theorem dksX14_checkBounds_13 : cX14_checkBounds.data.toList.drop 309 = dktX14_checkBounds_13 := dk_seg dksX14_checkBounds_12 24 rfl rfl
theorem dksX14_checkBounds_14 : cX14_checkBounds.data.toList.drop 331 = dktX14_checkBounds_14 := dk_seg dksX14_checkBounds_13 22 rfl rfl
theorem dksX14_checkBounds_15 : cX14_checkBounds.data.toList.drop 355 = dktX14_checkBounds_15 := dk_seg dksX14_checkBounds_14 24 rfl rfl
theorem dX14_checkBounds_0 : decode cX14_checkBounds 0 = .ok (.iconst 0, 1) := dk_3 (dk_at dksX14_checkBounds_0 0 rfl rfl)
theorem dX14_checkBounds_1 : decode cX14_checkBounds 1 = .ok (.istore_n 1, 1) := dk_60 (dk_at dksX14_checkBounds_0 1 rfl rfl)
theorem dX14_checkBounds_2 : decode cX14_checkBounds 2 = .ok (.iload_n 1, 1) := dk_27 (dk_at dksX14_checkBounds_0 2 rfl rfl)
theorem dX14_checkBounds_3 : decode cX14_checkBounds 3 = .ok (.aload_n 0, 1) := dk_42 (dk_at dksX14_checkBounds_0 3 rfl rfl)
theorem dX14_checkBounds_4 : decode cX14_checkBounds 4 = .ok (.getfield 517, 3) := dk_180 2 5 (dk_at dksX14_checkBounds_0 4 rfl rfl)
theorem dX14_checkBounds_7 : decode cX14_checkBounds 7 = .ok (.if_icmp .ge 360, 3) := dk_162 1 104 (dk_at dksX14_checkBounds_0 7 rfl rfl)
theorem dX14_checkBounds_10 : decode cX14_checkBounds 10 = .ok (.aload_n 0, 1) := dk_42 (dk_at dksX14_checkBounds_0 10 rfl rfl)
theorem dX14_checkBounds_11 : decode cX14_checkBounds 11 = .ok (.getfield 72, 3) := dk_180 0 72 (dk_at dksX14_checkBounds_0 11 rfl rfl)
theorem dX14_checkBounds_14 : decode cX14_checkBounds 14 = .ok (.iload_n 1, 1) := dk_27 (dk_at dksX14_checkBounds_0 14 rfl rfl)
theorem dX14_checkBounds_15 : decode cX14_checkBounds 15 = .ok (.iaload, 1) := dk_46 (dk_at dksX14_checkBounds_0 15 rfl rfl)
theorem dX14_checkBounds_16 : decode cX14_checkBounds 16 = .ok (.ifCond .ge 7, 3) := dk_156 0 7 (dk_at dksX14_checkBounds_0 16 rfl rfl)
theorem dX14_checkBounds_19 : decode cX14_checkBounds 19 = .ok (.iconst (-1), 1) := dk_2 (dk_at dksX14_checkBounds_0 19 rfl rfl)
theorem dX14_checkBounds_20 : decode cX14_checkBounds 20 = .ok (.goto 13, 3) := dk_167 0 13 (dk_at dksX14_checkBounds_0 20 rfl rfl)
theorem dX14_checkBounds_23 : decode cX14_checkBounds 23 = .ok (.aload_n 0, 1) := dk_42 (dk_at dksX14_checkBounds_0 23 rfl rfl)
theorem dX14_checkBounds_24 : decode cX14_checkBounds 24 = .ok (.getfield 42, 3) := dk_180 0 42 (dk_at dksX14_checkBounds_1 0 rfl rfl)
theorem dX14_checkBounds_27 : decode cX14_checkBounds 27 = .ok (.aload_n 0, 1) := dk_42 (dk_at dksX14_checkBounds_1 3 rfl rfl)
theorem dX14_checkBounds_28 : decode cX14_checkBounds 28 = .ok (.iload_n 1, 1) := dk_27 (dk_at dksX14_checkBounds_1 4 rfl rfl)
theorem dX14_checkBounds_29 : decode cX14_checkBounds 29 = .ok (.invokevirtual 612, 3) := dk_182 2 100 (dk_at dksX14_checkBounds_1 5 rfl rfl)
theorem dX14_checkBounds_32 : decode cX14_checkBounds 32 = .ok (.iaload, 1) := dk_46 (dk_at dksX14_checkBounds_1 8 rfl rfl)
theorem dX14_checkBounds_33 : decode cX14_checkBounds 33 = .ok (.istore_n 2, 1) := dk_61 (dk_at dksX14_checkBounds_1 9 rfl rfl)
theorem dX14_checkBounds_34 : decode cX14_checkBounds 34 = .ok (.aload_n 0, 1) := dk_42 (dk_at dksX14_checkBounds_1 10 rfl rfl)
theorem dX14_checkBounds_35 : decode cX14_checkBounds 35 = .ok (.getfield 72, 3) := dk_180 0 72 (dk_at dksX14_checkBounds_1 11 rfl rfl)
theorem dX14_checkBounds_38 : decode cX14_checkBounds 38 = .ok (.iload_n 1, 1) := dk_27 (dk_at dksX14_checkBounds_1 14 rfl rfl)
theorem dX14_checkBounds_39 : decode cX14_checkBounds 39 = .ok (.iaload, 1) := dk_46 (dk_at dksX14_checkBounds_1 15 rfl rfl)
theorem dX14_checkBounds_40 : decode cX14_checkBounds 40 = .ok (.istore_n 3, 1) := dk_62 (dk_at dksX14_checkBounds_1 16 rfl rfl)
theorem dX14_checkBounds_41 : decode cX14_checkBounds 41 = .ok (.iload_n 3, 1) := dk_29 (dk_at dksX14_checkBounds_1 17 rfl rfl)
theorem dX14_checkBounds_42 : decode cX14_checkBounds 42 = .ok (.ifCond .lt 319, 3) := dk_155 1 63 (dk_at dksX14_checkBounds_1 18 rfl rfl)
theorem dX14_checkBounds_45 : decode cX14_checkBounds 45 = .ok (.aload_n 0, 1) := dk_42 (dk_at dksX14_checkBounds_1 21 rfl rfl)
theorem dX14_checkBounds_46 : decode cX14_checkBounds 46 = .ok (.getfield 118, 3) := dk_180 0 118 (dk_at dksX14_checkBounds_2 0 rfl rfl)
theorem dX14_checkBounds_49 : decode cX14_checkBounds 49 = .ok (.iload_n 3, 1) := dk_29 (dk_at dksX14_checkBounds_2 3 rfl rfl)
theorem dX14_checkBounds_50 : decode cX14_checkBounds 50 = .ok (.baload, 1) := dk_51 (dk_at dksX14_checkBounds_2 4 rfl rfl)
theorem dX14_checkBounds_51 : decode cX14_checkBounds 51 = .ok (.ifCond .eq 13, 3) := dk_153 0 13 (dk_at dksX14_checkBounds_2 5 rfl rfl)
theorem dX14_checkBounds_54 : decode cX14_checkBounds 54 = .ok (.iload_n 2, 1) := dk_28 (dk_at dksX14_checkBounds_2 8 rfl rfl)
theorem dX14_checkBounds_55 : decode cX14_checkBounds 55 = .ok (.invokestatic 662, 3) := dk_184 2 150 (dk_at dksX14_checkBounds_2 9 rfl rfl)
theorem dX14_checkBounds_58 : decode cX14_checkBounds 58 = .ok (.ifCond .ne 26, 3) := dk_154 0 26 (dk_at dksX14_checkBounds_2 12 rfl rfl)
theorem dX14_checkBounds_61 : decode cX14_checkBounds 61 = .ok (.goto 8, 3) := dk_167 0 8 (dk_at dksX14_checkBounds_2 15 rfl rfl)
theorem dX14_checkBounds_64 : decode cX14_checkBounds 64 = .ok (.iload_n 2, 1) := dk_28 (dk_at dksX14_checkBounds_2 18 rfl rfl)
theorem dX14_checkBounds_65 : decode cX14_checkBounds 65 = .ok (.iconst 2, 1) := dk_5 (dk_at dksX14_checkBounds_2 19 rfl rfl)
theorem dX14_checkBounds_66 : decode cX14_checkBounds 66 = .ok (.if_icmp .eq 18, 3) := dk_159 0 18 (dk_at dksX14_checkBounds_2 20 rfl rfl)
theorem dX14_checkBounds_69 : decode cX14_checkBounds 69 = .ok (.aload_n 0, 1) := dk_42 (dk_at dksX14_checkBounds_2 23 rfl rfl)
theorem dX14_checkBounds_70 : decode cX14_checkBounds 70 = .ok (.aload_n 0, 1) := dk_42 (dk_at dksX14_checkBounds_3 0 rfl rfl)
theorem dX14_checkBounds_71 : decode cX14_checkBounds 71 = .ok (.getfield 36, 3) := dk_180 0 36 (dk_at dksX14_checkBounds_3 1 rfl rfl)
theorem dX14_checkBounds_74 : decode cX14_checkBounds 74 = .ok (.aload_n 0, 1) := dk_42 (dk_at dksX14_checkBounds_3 4 rfl rfl)
theorem dX14_checkBounds_75 : decode cX14_checkBounds 75 = .ok (.getfield 115, 3) := dk_180 0 115 (dk_at dksX14_checkBounds_3 5 rfl rfl)
theorem dX14_checkBounds_78 : decode cX14_checkBounds 78 = .ok (.iload_n 3, 1) := dk_29 (dk_at dksX14_checkBounds_3 8 rfl rfl)
theorem dX14_checkBounds_79 : decode cX14_checkBounds 79 = .ok (.iaload, 1) := dk_46 (dk_at dksX14_checkBounds_3 9 rfl rfl)
theorem dX14_checkBounds_80 : decode cX14_checkBounds 80 = .ok (.iaload, 1) := dk_46 (dk_at dksX14_checkBounds_3 10 rfl rfl)
theorem dX14_checkBounds_81 : decode cX14_checkBounds 81 = .ok (.invokevirtual 597, 3) := dk_182 2 85 (dk_at dksX14_checkBounds_3 11 rfl rfl)
theorem dX14_checkBounds_84 : decode cX14_checkBounds 84 = .ok (.aload_n 0, 1) := dk_42 (dk_at dksX14_checkBounds_3 14 rfl rfl)
theorem dX14_checkBounds_85 : decode cX14_checkBounds 85 = .ok (.getfield 121, 3) := dk_180 0 121 (dk_at dksX14_checkBounds_3 15 rfl rfl)
theorem dX14_checkBounds_88 : decode cX14_checkBounds 88 = .ok (.iload_n 3, 1) := dk_29 (dk_at dksX14_checkBounds_3 18 rfl rfl)
theorem dX14_checkBounds_89 : decode cX14_checkBounds 89 = .ok (.iaload, 1) := dk_46 (dk_at dksX14_checkBounds_3 19 rfl rfl)
theorem dX14_checkBounds_90 : decode cX14_checkBounds 90 = .ok (.istore 4, 2) := dk_54 4 (dk_at dksX14_checkBounds_3 20 rfl rfl)
theorem dX14_checkBounds_92 : decode cX14_checkBounds 92 = .ok (.iload 4, 2) := dk_21 4 (dk_at dksX14_checkBounds_3 22 rfl rfl)
theorem dX14_checkBounds_94 : decode cX14_checkBounds 94 = .ok (.aload_n 0, 1) := dk_42 (dk_at dksX14_checkBounds_4 0 rfl rfl)
theorem dX14_checkBounds_95 : decode cX14_checkBounds 95 = .ok (.getfield 121, 3) := dk_180 0 121 (dk_at dksX14_checkBounds_4 1 rfl rfl)
theorem dX14_checkBounds_98 : decode cX14_checkBounds 98 = .ok (.iload_n 3, 1) := dk_29 (dk_at dksX14_checkBounds_4 4 rfl rfl)
theorem dX14_checkBounds_99 : decode cX14_checkBounds 99 = .ok (.iaload, 1) := dk_46 (dk_at dksX14_checkBounds_4 5 rfl rfl)
theorem dX14_checkBounds_100 : decode cX14_checkBounds 100 = .ok (.aload_n 0, 1) := dk_42 (dk_at dksX14_checkBounds_4 6 rfl rfl)
theorem dX14_checkBounds_101 : decode cX14_checkBounds 101 = .ok (.getfield 124, 3) := dk_180 0 124 (dk_at dksX14_checkBounds_4 7 rfl rfl)
theorem dX14_checkBounds_104 : decode cX14_checkBounds 104 = .ok (.iload_n 3, 1) := dk_29 (dk_at dksX14_checkBounds_4 10 rfl rfl)
theorem dX14_checkBounds_105 : decode cX14_checkBounds 105 = .ok (.iaload, 1) := dk_46 (dk_at dksX14_checkBounds_4 11 rfl rfl)
theorem dX14_checkBounds_106 : decode cX14_checkBounds 106 = .ok (.iadd, 1) := dk_96 (dk_at dksX14_checkBounds_4 12 rfl rfl)
theorem dX14_checkBounds_107 : decode cX14_checkBounds 107 = .ok (.if_icmp .ge 244, 3) := dk_162 0 244 (dk_at dksX14_checkBounds_4 13 rfl rfl)
theorem dX14_checkBounds_110 : decode cX14_checkBounds 110 = .ok (.aload_n 0, 1) := dk_42 (dk_at dksX14_checkBounds_4 16 rfl rfl)
theorem dX14_checkBounds_111 : decode cX14_checkBounds 111 = .ok (.getfield 142, 3) := dk_180 0 142 (dk_at dksX14_checkBounds_4 17 rfl rfl)
theorem dX14_checkBounds_114 : decode cX14_checkBounds 114 = .ok (.iload 4, 2) := dk_21 4 (dk_at dksX14_checkBounds_4 20 rfl rfl)
theorem dX14_checkBounds_116 : decode cX14_checkBounds 116 = .ok (.aload_n 0, 1) := dk_42 (dk_at dksX14_checkBounds_4 22 rfl rfl)
theorem dX14_checkBounds_117 : decode cX14_checkBounds 117 = .ok (.iload_n 1, 1) := dk_27 (dk_at dksX14_checkBounds_4 23 rfl rfl)
theorem dX14_checkBounds_118 : decode cX14_checkBounds 118 = .ok (.aload_n 0, 1) := dk_42 (dk_at dksX14_checkBounds_5 0 rfl rfl)
theorem dX14_checkBounds_119 : decode cX14_checkBounds 119 = .ok (.getfield 130, 3) := dk_180 0 130 (dk_at dksX14_checkBounds_5 1 rfl rfl)
theorem dX14_checkBounds_122 : decode cX14_checkBounds 122 = .ok (.iload 4, 2) := dk_21 4 (dk_at dksX14_checkBounds_5 4 rfl rfl)
theorem dX14_checkBounds_124 : decode cX14_checkBounds 124 = .ok (.iaload, 1) := dk_46 (dk_at dksX14_checkBounds_5 6 rfl rfl)
theorem dX14_checkBounds_125 : decode cX14_checkBounds 125 = .ok (.aload_n 0, 1) := dk_42 (dk_at dksX14_checkBounds_5 7 rfl rfl)
theorem dX14_checkBounds_126 : decode cX14_checkBounds 126 = .ok (.getfield 133, 3) := dk_180 0 133 (dk_at dksX14_checkBounds_5 8 rfl rfl)
theorem dX14_checkBounds_129 : decode cX14_checkBounds 129 = .ok (.iload 4, 2) := dk_21 4 (dk_at dksX14_checkBounds_5 11 rfl rfl)
theorem dX14_checkBounds_131 : decode cX14_checkBounds 131 = .ok (.baload, 1) := dk_51 (dk_at dksX14_checkBounds_5 13 rfl rfl)
theorem dX14_checkBounds_132 : decode cX14_checkBounds 132 = .ok (.aload_n 0, 1) := dk_42 (dk_at dksX14_checkBounds_5 14 rfl rfl)
theorem dX14_checkBounds_133 : decode cX14_checkBounds 133 = .ok (.getfield 118, 3) := dk_180 0 118 (dk_at dksX14_checkBounds_5 15 rfl rfl)
theorem dX14_checkBounds_136 : decode cX14_checkBounds 136 = .ok (.iload_n 3, 1) := dk_29 (dk_at dksX14_checkBounds_5 18 rfl rfl)
theorem dX14_checkBounds_137 : decode cX14_checkBounds 137 = .ok (.baload, 1) := dk_51 (dk_at dksX14_checkBounds_5 19 rfl rfl)
theorem dX14_checkBounds_138 : decode cX14_checkBounds 138 = .ok (.invokevirtual 665, 3) := dk_182 2 153 (dk_at dksX14_checkBounds_5 20 rfl rfl)
theorem dX14_checkBounds_141 : decode cX14_checkBounds 141 = .ok (.iastore, 1) := dk_79 (dk_at dksX14_checkBounds_5 23 rfl rfl)
theorem dX14_checkBounds_142 : decode cX14_checkBounds 142 = .ok (.aload_n 0, 1) := dk_42 (dk_at dksX14_checkBounds_6 0 rfl rfl)
theorem dX14_checkBounds_143 : decode cX14_checkBounds 143 = .ok (.getfield 145, 3) := dk_180 0 145 (dk_at dksX14_checkBounds_6 1 rfl rfl)
theorem dX14_checkBounds_146 : decode cX14_checkBounds 146 = .ok (.iload 4, 2) := dk_21 4 (dk_at dksX14_checkBounds_6 4 rfl rfl)
theorem dX14_checkBounds_148 : decode cX14_checkBounds 148 = .ok (.aload_n 0, 1) := dk_42 (dk_at dksX14_checkBounds_6 6 rfl rfl)
theorem dX14_checkBounds_149 : decode cX14_checkBounds 149 = .ok (.getfield 130, 3) := dk_180 0 130 (dk_at dksX14_checkBounds_6 7 rfl rfl)
theorem dX14_checkBounds_152 : decode cX14_checkBounds 152 = .ok (.iload 4, 2) := dk_21 4 (dk_at dksX14_checkBounds_6 10 rfl rfl)
theorem dX14_checkBounds_154 : decode cX14_checkBounds 154 = .ok (.iaload, 1) := dk_46 (dk_at dksX14_checkBounds_6 12 rfl rfl)
theorem dX14_checkBounds_155 : decode cX14_checkBounds 155 = .ok (.aload_n 0, 1) := dk_42 (dk_at dksX14_checkBounds_6 13 rfl rfl)
theorem dX14_checkBounds_156 : decode cX14_checkBounds 156 = .ok (.getfield 136, 3) := dk_180 0 136 (dk_at dksX14_checkBounds_6 14 rfl rfl)
theorem dX14_checkBounds_159 : decode cX14_checkBounds 159 = .ok (.iload 4, 2) := dk_21 4 (dk_at dksX14_checkBounds_6 17 rfl rfl)
theorem dX14_checkBounds_161 : decode cX14_checkBounds 161 = .ok (.iaload, 1) := dk_46 (dk_at dksX14_checkBounds_6 19 rfl rfl)
theorem dX14_checkBounds_162 : decode cX14_checkBounds 162 = .ok (.if_icmp .ne 13, 3) := dk_160 0 13 (dk_at dksX14_checkBounds_6 20 rfl rfl)
theorem dX14_checkBounds_165 : decode cX14_checkBounds 165 = .ok (.aload_n 0, 1) := dk_42 (dk_at dksX14_checkBounds_6 23 rfl rfl)
theorem dX14_checkBounds_166 : decode cX14_checkBounds 166 = .ok (.getfield 142, 3) := dk_180 0 142 (dk_at dksX14_checkBounds_7 0 rfl rfl)
theorem dX14_checkBounds_169 : decode cX14_checkBounds 169 = .ok (.iload 4, 2) := dk_21 4 (dk_at dksX14_checkBounds_7 3 rfl rfl)
theorem dX14_checkBounds_171 : decode cX14_checkBounds 171 = .ok (.iaload, 1) := dk_46 (dk_at dksX14_checkBounds_7 5 rfl rfl)
theorem dX14_checkBounds_172 : decode cX14_checkBounds 172 = .ok (.goto 28, 3) := dk_167 0 28 (dk_at dksX14_checkBounds_7 6 rfl rfl)
theorem dX14_checkBounds_175 : decode cX14_checkBounds 175 = .ok (.aload_n 0, 1) := dk_42 (dk_at dksX14_checkBounds_7 9 rfl rfl)
theorem dX14_checkBounds_176 : decode cX14_checkBounds 176 = .ok (.iload_n 1, 1) := dk_27 (dk_at dksX14_checkBounds_7 10 rfl rfl)
theorem dX14_checkBounds_177 : decode cX14_checkBounds 177 = .ok (.aload_n 0, 1) := dk_42 (dk_at dksX14_checkBounds_7 11 rfl rfl)
theorem dX14_checkBounds_178 : decode cX14_checkBounds 178 = .ok (.getfield 136, 3) := dk_180 0 136 (dk_at dksX14_checkBounds_7 12 rfl rfl)
theorem dX14_checkBounds_181 : decode cX14_checkBounds 181 = .ok (.iload 4, 2) := dk_21 4 (dk_at dksX14_checkBounds_7 15 rfl rfl)
theorem dX14_checkBounds_183 : decode cX14_checkBounds 183 = .ok (.iaload, 1) := dk_46 (dk_at dksX14_checkBounds_7 17 rfl rfl)
theorem dX14_checkBounds_184 : decode cX14_checkBounds 184 = .ok (.aload_n 0, 1) := dk_42 (dk_at dksX14_checkBounds_7 18 rfl rfl)
theorem dX14_checkBounds_185 : decode cX14_checkBounds 185 = .ok (.getfield 139, 3) := dk_180 0 139 (dk_at dksX14_checkBounds_7 19 rfl rfl)
theorem dX14_checkBounds_188 : decode cX14_checkBounds 188 = .ok (.iload 4, 2) := dk_21 4 (dk_at dksX14_checkBounds_7 22 rfl rfl)
theorem dX14_checkBounds_190 : decode cX14_checkBounds 190 = .ok (.baload, 1) := dk_51 (dk_at dksX14_checkBounds_8 0 rfl rfl)
theorem dX14_checkBounds_191 : decode cX14_checkBounds 191 = .ok (.aload_n 0, 1) := dk_42 (dk_at dksX14_checkBounds_8 1 rfl rfl)
theorem dX14_checkBounds_192 : decode cX14_checkBounds 192 = .ok (.getfield 118, 3) := dk_180 0 118 (dk_at dksX14_checkBounds_8 2 rfl rfl)
theorem dX14_checkBounds_195 : decode cX14_checkBounds 195 = .ok (.iload_n 3, 1) := dk_29 (dk_at dksX14_checkBounds_8 5 rfl rfl)
theorem dX14_checkBounds_196 : decode cX14_checkBounds 196 = .ok (.baload, 1) := dk_51 (dk_at dksX14_checkBounds_8 6 rfl rfl)
theorem dX14_checkBounds_197 : decode cX14_checkBounds 197 = .ok (.invokevirtual 665, 3) := dk_182 2 153 (dk_at dksX14_checkBounds_8 7 rfl rfl)
theorem dX14_checkBounds_200 : decode cX14_checkBounds 200 = .ok (.iastore, 1) := dk_79 (dk_at dksX14_checkBounds_8 10 rfl rfl)
theorem dX14_checkBounds_201 : decode cX14_checkBounds 201 = .ok (.aload_n 0, 1) := dk_42 (dk_at dksX14_checkBounds_8 11 rfl rfl)
theorem dX14_checkBounds_202 : decode cX14_checkBounds 202 = .ok (.getfield 130, 3) := dk_180 0 130 (dk_at dksX14_checkBounds_8 12 rfl rfl)
theorem dX14_checkBounds_205 : decode cX14_checkBounds 205 = .ok (.iload 4, 2) := dk_21 4 (dk_at dksX14_checkBounds_8 15 rfl rfl)
theorem dX14_checkBounds_207 : decode cX14_checkBounds 207 = .ok (.iaload, 1) := dk_46 (dk_at dksX14_checkBounds_8 17 rfl rfl)
theorem dX14_checkBounds_208 : decode cX14_checkBounds 208 = .ok (.aload_n 0, 1) := dk_42 (dk_at dksX14_checkBounds_8 18 rfl rfl)
theorem dX14_checkBounds_209 : decode cX14_checkBounds 209 = .ok (.getfield 133, 3) := dk_180 0 133 (dk_at dksX14_checkBounds_8 19 rfl rfl)
theorem dX14_checkBounds_212 : decode cX14_checkBounds 212 = .ok (.iload 4, 2) := dk_21 4 (dk_at dksX14_checkBounds_8 22 rfl rfl)
theorem dX14_checkBounds_214 : decode cX14_checkBounds 214 = .ok (.baload, 1) := dk_51 (dk_at dksX14_checkBounds_9 0 rfl rfl)
theorem dX14_checkBounds_215 : decode cX14_checkBounds 215 = .ok (.ifCond .eq 7, 3) := dk_153 0 7 (dk_at dksX14_checkBounds_9 1 rfl rfl)
theorem dX14_checkBounds_218 : decode cX14_checkBounds 218 = .ok (.iconst 1, 1) := dk_4 (dk_at dksX14_checkBounds_9 4 rfl rfl)
theorem dX14_checkBounds_219 : decode cX14_checkBounds 219 = .ok (.goto 4, 3) := dk_167 0 4 (dk_at dksX14_checkBounds_9 5 rfl rfl)
theorem dX14_checkBounds_222 : decode cX14_checkBounds 222 = .ok (.iconst 0, 1) := dk_3 (dk_at dksX14_checkBounds_9 8 rfl rfl)
theorem dX14_checkBounds_223 : decode cX14_checkBounds 223 = .ok (.isub, 1) := dk_100 (dk_at dksX14_checkBounds_9 9 rfl rfl)
theorem dX14_checkBounds_224 : decode cX14_checkBounds 224 = .ok (.istore 5, 2) := dk_54 5 (dk_at dksX14_checkBounds_9 10 rfl rfl)
theorem dX14_checkBounds_226 : decode cX14_checkBounds 226 = .ok (.aload_n 0, 1) := dk_42 (dk_at dksX14_checkBounds_9 12 rfl rfl)
theorem dX14_checkBounds_227 : decode cX14_checkBounds 227 = .ok (.getfield 142, 3) := dk_180 0 142 (dk_at dksX14_checkBounds_9 13 rfl rfl)
theorem dX14_checkBounds_230 : decode cX14_checkBounds 230 = .ok (.iload 4, 2) := dk_21 4 (dk_at dksX14_checkBounds_9 16 rfl rfl)
theorem dX14_checkBounds_232 : decode cX14_checkBounds 232 = .ok (.iaload, 1) := dk_46 (dk_at dksX14_checkBounds_9 18 rfl rfl)
theorem dX14_checkBounds_233 : decode cX14_checkBounds 233 = .ok (.iconst (-1), 1) := dk_2 (dk_at dksX14_checkBounds_9 19 rfl rfl)
theorem dX14_checkBounds_234 : decode cX14_checkBounds 234 = .ok (.if_icmp .ne 14, 3) := dk_160 0 14 (dk_at dksX14_checkBounds_9 20 rfl rfl)
theorem dX14_checkBounds_237 : decode cX14_checkBounds 237 = .ok (.aload_n 0, 1) := dk_42 (dk_at dksX14_checkBounds_9 23 rfl rfl)
theorem dX14_checkBounds_238 : decode cX14_checkBounds 238 = .ok (.aload_n 0, 1) := dk_42 (dk_at dksX14_checkBounds_10 0 rfl rfl)
theorem dX14_checkBounds_239 : decode cX14_checkBounds 239 = .ok (.getfield 36, 3) := dk_180 0 36 (dk_at dksX14_checkBounds_10 1 rfl rfl)
theorem dX14_checkBounds_242 : decode cX14_checkBounds 242 = .ok (.iload 5, 2) := dk_21 5 (dk_at dksX14_checkBounds_10 4 rfl rfl)
theorem dX14_checkBounds_244 : decode cX14_checkBounds 244 = .ok (.iaload, 1) := dk_46 (dk_at dksX14_checkBounds_10 6 rfl rfl)
theorem dX14_checkBounds_245 : decode cX14_checkBounds 245 = .ok (.invokevirtual 597, 3) := dk_182 2 85 (dk_at dksX14_checkBounds_10 7 rfl rfl)
theorem dX14_checkBounds_248 : decode cX14_checkBounds 248 = .ok (.aload_n 0, 1) := dk_42 (dk_at dksX14_checkBounds_10 10 rfl rfl)
theorem dX14_checkBounds_249 : decode cX14_checkBounds 249 = .ok (.getfield 145, 3) := dk_180 0 145 (dk_at dksX14_checkBounds_10 11 rfl rfl)
theorem dX14_checkBounds_252 : decode cX14_checkBounds 252 = .ok (.iload 4, 2) := dk_21 4 (dk_at dksX14_checkBounds_10 14 rfl rfl)
theorem dX14_checkBounds_254 : decode cX14_checkBounds 254 = .ok (.iaload, 1) := dk_46 (dk_at dksX14_checkBounds_10 16 rfl rfl)
theorem dX14_checkBounds_255 : decode cX14_checkBounds 255 = .ok (.iconst (-1), 1) := dk_2 (dk_at dksX14_checkBounds_10 17 rfl rfl)
theorem dX14_checkBounds_256 : decode cX14_checkBounds 256 = .ok (.if_icmp .ne 35, 3) := dk_160 0 35 (dk_at dksX14_checkBounds_10 18 rfl rfl)
theorem dX14_checkBounds_259 : decode cX14_checkBounds 259 = .ok (.aload_n 0, 1) := dk_42 (dk_at dksX14_checkBounds_10 21 rfl rfl)
theorem dX14_checkBounds_260 : decode cX14_checkBounds 260 = .ok (.aload_n 0, 1) := dk_42 (dk_at dksX14_checkBounds_10 22 rfl rfl)
theorem dX14_checkBounds_261 : decode cX14_checkBounds 261 = .ok (.getfield 36, 3) := dk_180 0 36 (dk_at dksX14_checkBounds_11 0 rfl rfl)
theorem dX14_checkBounds_264 : decode cX14_checkBounds 264 = .ok (.aload_n 0, 1) := dk_42 (dk_at dksX14_checkBounds_11 3 rfl rfl)
theorem dX14_checkBounds_265 : decode cX14_checkBounds 265 = .ok (.getfield 136, 3) := dk_180 0 136 (dk_at dksX14_checkBounds_11 4 rfl rfl)
theorem dX14_checkBounds_268 : decode cX14_checkBounds 268 = .ok (.iload 4, 2) := dk_21 4 (dk_at dksX14_checkBounds_11 7 rfl rfl)
theorem dX14_checkBounds_270 : decode cX14_checkBounds 270 = .ok (.iaload, 1) := dk_46 (dk_at dksX14_checkBounds_11 9 rfl rfl)
theorem dX14_checkBounds_271 : decode cX14_checkBounds 271 = .ok (.aload_n 0, 1) := dk_42 (dk_at dksX14_checkBounds_11 10 rfl rfl)
theorem dX14_checkBounds_272 : decode cX14_checkBounds 272 = .ok (.getfield 139, 3) := dk_180 0 139 (dk_at dksX14_checkBounds_11 11 rfl rfl)
theorem dX14_checkBounds_275 : decode cX14_checkBounds 275 = .ok (.iload 4, 2) := dk_21 4 (dk_at dksX14_checkBounds_11 14 rfl rfl)
theorem dX14_checkBounds_277 : decode cX14_checkBounds 277 = .ok (.baload, 1) := dk_51 (dk_at dksX14_checkBounds_11 16 rfl rfl)
theorem dX14_checkBounds_278 : decode cX14_checkBounds 278 = .ok (.ifCond .eq 7, 3) := dk_153 0 7 (dk_at dksX14_checkBounds_11 17 rfl rfl)
theorem dX14_checkBounds_281 : decode cX14_checkBounds 281 = .ok (.iconst 1, 1) := dk_4 (dk_at dksX14_checkBounds_11 20 rfl rfl)
theorem dX14_checkBounds_282 : decode cX14_checkBounds 282 = .ok (.goto 4, 3) := dk_167 0 4 (dk_at dksX14_checkBounds_11 21 rfl rfl)
theorem dX14_checkBounds_285 : decode cX14_checkBounds 285 = .ok (.iconst 0, 1) := dk_3 (dk_at dksX14_checkBounds_12 0 rfl rfl)
theorem dX14_checkBounds_286 : decode cX14_checkBounds 286 = .ok (.isub, 1) := dk_100 (dk_at dksX14_checkBounds_12 1 rfl rfl)
theorem dX14_checkBounds_287 : decode cX14_checkBounds 287 = .ok (.iaload, 1) := dk_46 (dk_at dksX14_checkBounds_12 2 rfl rfl)
theorem dX14_checkBounds_288 : decode cX14_checkBounds 288 = .ok (.invokevirtual 597, 3) := dk_182 2 85 (dk_at dksX14_checkBounds_12 3 rfl rfl)
theorem dX14_checkBounds_291 : decode cX14_checkBounds 291 = .ok (.aload_n 0, 1) := dk_42 (dk_at dksX14_checkBounds_12 6 rfl rfl)
theorem dX14_checkBounds_292 : decode cX14_checkBounds 292 = .ok (.getfield 142, 3) := dk_180 0 142 (dk_at dksX14_checkBounds_12 7 rfl rfl)
theorem dX14_checkBounds_295 : decode cX14_checkBounds 295 = .ok (.iload 4, 2) := dk_21 4 (dk_at dksX14_checkBounds_12 10 rfl rfl)
theorem dX14_checkBounds_297 : decode cX14_checkBounds 297 = .ok (.iaload, 1) := dk_46 (dk_at dksX14_checkBounds_12 12 rfl rfl)
theorem dX14_checkBounds_298 : decode cX14_checkBounds 298 = .ok (.iconst (-1), 1) := dk_2 (dk_at dksX14_checkBounds_12 13 rfl rfl)
theorem dX14_checkBounds_299 : decode cX14_checkBounds 299 = .ok (.if_icmp .eq 46, 3) := dk_159 0 46 (dk_at dksX14_checkBounds_12 14 rfl rfl)
theorem dX14_checkBounds_302 : decode cX14_checkBounds 302 = .ok (.aload_n 0, 1) := dk_42 (dk_at dksX14_checkBounds_12 17 rfl rfl)
theorem dX14_checkBounds_303 : decode cX14_checkBounds 303 = .ok (.getfield 145, 3) := dk_180 0 145 (dk_at dksX14_checkBounds_12 18 rfl rfl)
theorem dX14_checkBounds_306 : decode cX14_checkBounds 306 = .ok (.iload 4, 2) := dk_21 4 (dk_at dksX14_checkBounds_12 21 rfl rfl)
theorem dX14_checkBounds_308 : decode cX14_checkBounds 308 = .ok (.iaload, 1) := dk_46 (dk_at dksX14_checkBounds_12 23 rfl rfl)
theorem dX14_checkBounds_309 : decode cX14_checkBounds 309 = .ok (.iconst (-1), 1) := dk_2 (dk_at dksX14_checkBounds_13 0 rfl rfl)
theorem dX14_checkBounds_310 : decode cX14_checkBounds 310 = .ok (.if_icmp .eq 35, 3) := dk_159 0 35 (dk_at dksX14_checkBounds_13 1 rfl rfl)
theorem dX14_checkBounds_313 : decode cX14_checkBounds 313 = .ok (.aload_n 0, 1) := dk_42 (dk_at dksX14_checkBounds_13 4 rfl rfl)
theorem dX14_checkBounds_314 : decode cX14_checkBounds 314 = .ok (.aload_n 0, 1) := dk_42 (dk_at dksX14_checkBounds_13 5 rfl rfl)
theorem dX14_checkBounds_315 : decode cX14_checkBounds 315 = .ok (.getfield 142, 3) := dk_180 0 142 (dk_at dksX14_checkBounds_13 6 rfl rfl)
theorem dX14_checkBounds_318 : decode cX14_checkBounds 318 = .ok (.iload 4, 2) := dk_21 4 (dk_at dksX14_checkBounds_13 9 rfl rfl)
theorem dX14_checkBounds_320 : decode cX14_checkBounds 320 = .ok (.iaload, 1) := dk_46 (dk_at dksX14_checkBounds_13 11 rfl rfl)
theorem dX14_checkBounds_321 : decode cX14_checkBounds 321 = .ok (.aload_n 0, 1) := dk_42 (dk_at dksX14_checkBounds_13 12 rfl rfl)
theorem dX14_checkBounds_322 : decode cX14_checkBounds 322 = .ok (.getfield 145, 3) := dk_180 0 145 (dk_at dksX14_checkBounds_13 13 rfl rfl)
theorem dX14_checkBounds_325 : decode cX14_checkBounds 325 = .ok (.iload 4, 2) := dk_21 4 (dk_at dksX14_checkBounds_13 16 rfl rfl)
theorem dX14_checkBounds_327 : decode cX14_checkBounds 327 = .ok (.iaload, 1) := dk_46 (dk_at dksX14_checkBounds_13 18 rfl rfl)
theorem dX14_checkBounds_328 : decode cX14_checkBounds 328 = .ok (.invokevirtual 669, 3) := dk_182 2 157 (dk_at dksX14_checkBounds_13 19 rfl rfl)
theorem dX14_checkBounds_331 : decode cX14_checkBounds 331 = .ok (.ifCond .eq 14, 3) := dk_153 0 14 (dk_at dksX14_checkBounds_14 0 rfl rfl)
theorem dX14_checkBounds_334 : decode cX14_checkBounds 334 = .ok (.aload_n 0, 1) := dk_42 (dk_at dksX14_checkBounds_14 3 rfl rfl)
theorem dX14_checkBounds_335 : decode cX14_checkBounds 335 = .ok (.aload_n 0, 1) := dk_42 (dk_at dksX14_checkBounds_14 4 rfl rfl)
theorem dX14_checkBounds_336 : decode cX14_checkBounds 336 = .ok (.getfield 36, 3) := dk_180 0 36 (dk_at dksX14_checkBounds_14 5 rfl rfl)
theorem dX14_checkBounds_339 : decode cX14_checkBounds 339 = .ok (.iload 5, 2) := dk_21 5 (dk_at dksX14_checkBounds_14 8 rfl rfl)
theorem dX14_checkBounds_341 : decode cX14_checkBounds 341 = .ok (.iaload, 1) := dk_46 (dk_at dksX14_checkBounds_14 10 rfl rfl)
theorem dX14_checkBounds_342 : decode cX14_checkBounds 342 = .ok (.invokevirtual 597, 3) := dk_182 2 85 (dk_at dksX14_checkBounds_14 11 rfl rfl)
theorem dX14_checkBounds_345 : decode cX14_checkBounds 345 = .ok (.iinc 4 1, 3) := dk_132 4 1 (dk_at dksX14_checkBounds_14 14 rfl rfl)
theorem dX14_checkBounds_348 : decode cX14_checkBounds 348 = .ok (.goto (-256), 3) := dk_167 255 0 (dk_at dksX14_checkBounds_14 17 rfl rfl)
theorem dX14_checkBounds_351 : decode cX14_checkBounds 351 = .ok (.aload_n 0, 1) := dk_42 (dk_at dksX14_checkBounds_14 20 rfl rfl)
theorem dX14_checkBounds_352 : decode cX14_checkBounds 352 = .ok (.getfield 127, 3) := dk_180 0 127 (dk_at dksX14_checkBounds_14 21 rfl rfl)
theorem dX14_checkBounds_355 : decode cX14_checkBounds 355 = .ok (.iload_n 3, 1) := dk_29 (dk_at dksX14_checkBounds_15 0 rfl rfl)
theorem dX14_checkBounds_356 : decode cX14_checkBounds 356 = .ok (.iaload, 1) := dk_46 (dk_at dksX14_checkBounds_15 1 rfl rfl)
theorem dX14_checkBounds_357 : decode cX14_checkBounds 357 = .ok (.istore_n 3, 1) := dk_62 (dk_at dksX14_checkBounds_15 2 rfl rfl)
theorem dX14_checkBounds_358 : decode cX14_checkBounds 358 = .ok (.goto (-317), 3) := dk_167 254 195 (dk_at dksX14_checkBounds_15 3 rfl rfl)
theorem dX14_checkBounds_361 : decode cX14_checkBounds 361 = .ok (.iinc 1 1, 3) := dk_132 1 1 (dk_at dksX14_checkBounds_15 6 rfl rfl)
theorem dX14_checkBounds_364 : decode cX14_checkBounds 364 = .ok (.goto (-362), 3) := dk_167 254 150 (dk_at dksX14_checkBounds_15 9 rfl rfl)
theorem dX14_checkBounds_367 : decode cX14_checkBounds 367 = .ok (.aload_n 0, 1) := dk_42 (dk_at dksX14_checkBounds_15 12 rfl rfl)
theorem dX14_checkBounds_368 : decode cX14_checkBounds 368 = .ok (.bipush 11, 2) := dk_16 11 (dk_at dksX14_checkBounds_15 13 rfl rfl)
theorem dX14_checkBounds_370 : decode cX14_checkBounds 370 = .ok (.invokevirtual 603, 3) := dk_182 2 91 (dk_at dksX14_checkBounds_15 15 rfl rfl)
theorem dX14_checkBounds_373 : decode cX14_checkBounds 373 = .ok (.return_, 1) := dk_177 (dk_at dksX14_checkBounds_15 18 rfl rfl)
abbrev cX14_hasSizes : ByteArray := prog_15_method_87_code
def yX14_hasSizes : MethodName := ⟨RX14, "hasSizes", "(I)Z"⟩
def dkwX14_hasSizes_1 : List UInt8 := [16, 9, 159, 0, 15, 26, 16, 14, 159, 0, 9, 26, 16, 15, 160, 0, 7, 4, 167, 0, 4, 3, 172]
abbrev dktX14_hasSizes_1 : List UInt8 := dkwX14_hasSizes_1 ++ []
def dkwX14_hasSizes_0 : List UInt8 := [26, 7, 159, 0, 38, 26, 8, 159, 0, 33, 26, 16, 7, 159, 0, 27, 26, 16, 8, 159, 0, 21, 26]
abbrev dktX14_hasSizes_0 : List UInt8 := dkwX14_hasSizes_0 ++ dktX14_hasSizes_1
theorem dksX14_hasSizes_0 : cX14_hasSizes.data.toList.drop 0 = dktX14_hasSizes_0 := by decide +kernel
theorem dksX14_hasSizes_1 : cX14_hasSizes.data.toList.drop 23 = dktX14_hasSizes_1 := dk_seg dksX14_hasSizes_0 23 rfl rfl
theorem dX14_hasSizes_0 : decode cX14_hasSizes 0 = .ok (.iload_n 0, 1) := dk_26 (dk_at dksX14_hasSizes_0 0 rfl rfl)
theorem dX14_hasSizes_1 : decode cX14_hasSizes 1 = .ok (.iconst 4, 1) := dk_7 (dk_at dksX14_hasSizes_0 1 rfl rfl)
theorem dX14_hasSizes_2 : decode cX14_hasSizes 2 = .ok (.if_icmp .eq 38, 3) := dk_159 0 38 (dk_at dksX14_hasSizes_0 2 rfl rfl)
theorem dX14_hasSizes_5 : decode cX14_hasSizes 5 = .ok (.iload_n 0, 1) := dk_26 (dk_at dksX14_hasSizes_0 5 rfl rfl)
theorem dX14_hasSizes_6 : decode cX14_hasSizes 6 = .ok (.iconst 5, 1) := dk_8 (dk_at dksX14_hasSizes_0 6 rfl rfl)
theorem dX14_hasSizes_7 : decode cX14_hasSizes 7 = .ok (.if_icmp .eq 33, 3) := dk_159 0 33 (dk_at dksX14_hasSizes_0 7 rfl rfl)
theorem dX14_hasSizes_10 : decode cX14_hasSizes 10 = .ok (.iload_n 0, 1) := dk_26 (dk_at dksX14_hasSizes_0 10 rfl rfl)
theorem dX14_hasSizes_11 : decode cX14_hasSizes 11 = .ok (.bipush 7, 2) := dk_16 7 (dk_at dksX14_hasSizes_0 11 rfl rfl)
theorem dX14_hasSizes_13 : decode cX14_hasSizes 13 = .ok (.if_icmp .eq 27, 3) := dk_159 0 27 (dk_at dksX14_hasSizes_0 13 rfl rfl)
theorem dX14_hasSizes_16 : decode cX14_hasSizes 16 = .ok (.iload_n 0, 1) := dk_26 (dk_at dksX14_hasSizes_0 16 rfl rfl)
theorem dX14_hasSizes_17 : decode cX14_hasSizes 17 = .ok (.bipush 8, 2) := dk_16 8 (dk_at dksX14_hasSizes_0 17 rfl rfl)
theorem dX14_hasSizes_19 : decode cX14_hasSizes 19 = .ok (.if_icmp .eq 21, 3) := dk_159 0 21 (dk_at dksX14_hasSizes_0 19 rfl rfl)
theorem dX14_hasSizes_22 : decode cX14_hasSizes 22 = .ok (.iload_n 0, 1) := dk_26 (dk_at dksX14_hasSizes_0 22 rfl rfl)
theorem dX14_hasSizes_23 : decode cX14_hasSizes 23 = .ok (.bipush 9, 2) := dk_16 9 (dk_at dksX14_hasSizes_1 0 rfl rfl)
theorem dX14_hasSizes_25 : decode cX14_hasSizes 25 = .ok (.if_icmp .eq 15, 3) := dk_159 0 15 (dk_at dksX14_hasSizes_1 2 rfl rfl)
theorem dX14_hasSizes_28 : decode cX14_hasSizes 28 = .ok (.iload_n 0, 1) := dk_26 (dk_at dksX14_hasSizes_1 5 rfl rfl)
theorem dX14_hasSizes_29 : decode cX14_hasSizes 29 = .ok (.bipush 14, 2) := dk_16 14 (dk_at dksX14_hasSizes_1 6 rfl rfl)
theorem dX14_hasSizes_31 : decode cX14_hasSizes 31 = .ok (.if_icmp .eq 9, 3) := dk_159 0 9 (dk_at dksX14_hasSizes_1 8 rfl rfl)
theorem dX14_hasSizes_34 : decode cX14_hasSizes 34 = .ok (.iload_n 0, 1) := dk_26 (dk_at dksX14_hasSizes_1 11 rfl rfl)
theorem dX14_hasSizes_35 : decode cX14_hasSizes 35 = .ok (.bipush 15, 2) := dk_16 15 (dk_at dksX14_hasSizes_1 12 rfl rfl)
theorem dX14_hasSizes_37 : decode cX14_hasSizes 37 = .ok (.if_icmp .ne 7, 3) := dk_160 0 7 (dk_at dksX14_hasSizes_1 14 rfl rfl)
theorem dX14_hasSizes_40 : decode cX14_hasSizes 40 = .ok (.iconst 1, 1) := dk_4 (dk_at dksX14_hasSizes_1 17 rfl rfl)
theorem dX14_hasSizes_41 : decode cX14_hasSizes 41 = .ok (.goto 4, 3) := dk_167 0 4 (dk_at dksX14_hasSizes_1 18 rfl rfl)
theorem dX14_hasSizes_44 : decode cX14_hasSizes 44 = .ok (.iconst 0, 1) := dk_3 (dk_at dksX14_hasSizes_1 21 rfl rfl)
theorem dX14_hasSizes_45 : decode cX14_hasSizes 45 = .ok (.ireturn, 1) := dk_172 (dk_at dksX14_hasSizes_1 22 rfl rfl)
abbrev cX14_boundOf : ByteArray := prog_15_method_85_code
def yX14_boundOf : MethodName := ⟨RX14, "boundOf", "(IIZZ)I"⟩
def dkwX14_boundOf_5 : List UInt8 := [42, 180, 0, 193, 21, 5, 46, 46, 16, 127, 164, 0, 7, 2, 167, 0, 5, 21, 5, 172]
abbrev dktX14_boundOf_5 : List UInt8 := dkwX14_boundOf_5 ++ []
def dkwX14_boundOf_4 : List UInt8 := [167, 0, 8, 42, 28, 182, 2, 147, 54, 5, 21, 5, 155, 0, 29, 21, 4, 153, 0, 24, 42, 180, 0, 199]
abbrev dktX14_boundOf_4 : List UInt8 := dkwX14_boundOf_4 ++ dktX14_boundOf_5
def dkwX14_boundOf_3 : List UInt8 := [167, 0, 10, 42, 27, 28, 3, 182, 2, 109, 54, 6, 21, 6, 155, 0, 13, 42, 180, 0, 97, 21, 6, 46]
abbrev dktX14_boundOf_3 : List UInt8 := dkwX14_boundOf_3 ++ dktX14_boundOf_4
def dkwX14_boundOf_2 : List UInt8 := [28, 46, 6, 160, 0, 14, 42, 28, 29, 182, 2, 17, 54, 5, 167, 0, 43, 21, 4, 153, 0, 7, 2]
abbrev dktX14_boundOf_2 : List UInt8 := dkwX14_boundOf_2 ++ dktX14_boundOf_3
def dkwX14_boundOf_1 : List UInt8 := [16, 254, 172, 42, 180, 0, 33, 28, 46, 16, 82, 160, 0, 6, 16, 253, 172, 2, 54, 5, 42, 180, 0, 33]
abbrev dktX14_boundOf_1 : List UInt8 := dkwX14_boundOf_1 ++ dktX14_boundOf_2
def dkwX14_boundOf_0 : List UInt8 := [42, 180, 0, 33, 28, 46, 16, 83, 160, 0, 19, 21, 4, 153, 0, 11, 42, 3, 182, 2, 94, 167, 0, 5]
abbrev dktX14_boundOf_0 : List UInt8 := dkwX14_boundOf_0 ++ dktX14_boundOf_1
theorem dksX14_boundOf_0 : cX14_boundOf.data.toList.drop 0 = dktX14_boundOf_0 := by decide +kernel
theorem dksX14_boundOf_1 : cX14_boundOf.data.toList.drop 24 = dktX14_boundOf_1 := dk_seg dksX14_boundOf_0 24 rfl rfl
theorem dksX14_boundOf_2 : cX14_boundOf.data.toList.drop 48 = dktX14_boundOf_2 := dk_seg dksX14_boundOf_1 24 rfl rfl
theorem dksX14_boundOf_3 : cX14_boundOf.data.toList.drop 71 = dktX14_boundOf_3 := dk_seg dksX14_boundOf_2 23 rfl rfl
theorem dksX14_boundOf_4 : cX14_boundOf.data.toList.drop 95 = dktX14_boundOf_4 := dk_seg dksX14_boundOf_3 24 rfl rfl
theorem dksX14_boundOf_5 : cX14_boundOf.data.toList.drop 119 = dktX14_boundOf_5 := dk_seg dksX14_boundOf_4 24 rfl rfl
theorem dX14_boundOf_0 : decode cX14_boundOf 0 = .ok (.aload_n 0, 1) := dk_42 (dk_at dksX14_boundOf_0 0 rfl rfl)
theorem dX14_boundOf_1 : decode cX14_boundOf 1 = .ok (.getfield 33, 3) := dk_180 0 33 (dk_at dksX14_boundOf_0 1 rfl rfl)
theorem dX14_boundOf_4 : decode cX14_boundOf 4 = .ok (.iload_n 2, 1) := dk_28 (dk_at dksX14_boundOf_0 4 rfl rfl)
theorem dX14_boundOf_5 : decode cX14_boundOf 5 = .ok (.iaload, 1) := dk_46 (dk_at dksX14_boundOf_0 5 rfl rfl)
theorem dX14_boundOf_6 : decode cX14_boundOf 6 = .ok (.bipush 83, 2) := dk_16 83 (dk_at dksX14_boundOf_0 6 rfl rfl)
theorem dX14_boundOf_8 : decode cX14_boundOf 8 = .ok (.if_icmp .ne 19, 3) := dk_160 0 19 (dk_at dksX14_boundOf_0 8 rfl rfl)
theorem dX14_boundOf_11 : decode cX14_boundOf 11 = .ok (.iload 4, 2) := dk_21 4 (dk_at dksX14_boundOf_0 11 rfl rfl)
theorem dX14_boundOf_13 : decode cX14_boundOf 13 = .ok (.ifCond .eq 11, 3) := dk_153 0 11 (dk_at dksX14_boundOf_0 13 rfl rfl)
theorem dX14_boundOf_16 : decode cX14_boundOf 16 = .ok (.aload_n 0, 1) := dk_42 (dk_at dksX14_boundOf_0 16 rfl rfl)
theorem dX14_boundOf_17 : decode cX14_boundOf 17 = .ok (.iconst 0, 1) := dk_3 (dk_at dksX14_boundOf_0 17 rfl rfl)
theorem dX14_boundOf_18 : decode cX14_boundOf 18 = .ok (.invokevirtual 606, 3) := dk_182 2 94 (dk_at dksX14_boundOf_0 18 rfl rfl)
theorem dX14_boundOf_21 : decode cX14_boundOf 21 = .ok (.goto 5, 3) := dk_167 0 5 (dk_at dksX14_boundOf_0 21 rfl rfl)
theorem dX14_boundOf_24 : decode cX14_boundOf 24 = .ok (.bipush (-2), 2) := dk_16 254 (dk_at dksX14_boundOf_1 0 rfl rfl)
theorem dX14_boundOf_26 : decode cX14_boundOf 26 = .ok (.ireturn, 1) := dk_172 (dk_at dksX14_boundOf_1 2 rfl rfl)
theorem dX14_boundOf_27 : decode cX14_boundOf 27 = .ok (.aload_n 0, 1) := dk_42 (dk_at dksX14_boundOf_1 3 rfl rfl)
theorem dX14_boundOf_28 : decode cX14_boundOf 28 = .ok (.getfield 33, 3) := dk_180 0 33 (dk_at dksX14_boundOf_1 4 rfl rfl)
theorem dX14_boundOf_31 : decode cX14_boundOf 31 = .ok (.iload_n 2, 1) := dk_28 (dk_at dksX14_boundOf_1 7 rfl rfl)
theorem dX14_boundOf_32 : decode cX14_boundOf 32 = .ok (.iaload, 1) := dk_46 (dk_at dksX14_boundOf_1 8 rfl rfl)
theorem dX14_boundOf_33 : decode cX14_boundOf 33 = .ok (.bipush 82, 2) := dk_16 82 (dk_at dksX14_boundOf_1 9 rfl rfl)
theorem dX14_boundOf_35 : decode cX14_boundOf 35 = .ok (.if_icmp .ne 6, 3) := dk_160 0 6 (dk_at dksX14_boundOf_1 11 rfl rfl)
theorem dX14_boundOf_38 : decode cX14_boundOf 38 = .ok (.bipush (-3), 2) := dk_16 253 (dk_at dksX14_boundOf_1 14 rfl rfl)
theorem dX14_boundOf_40 : decode cX14_boundOf 40 = .ok (.ireturn, 1) := dk_172 (dk_at dksX14_boundOf_1 16 rfl rfl)
theorem dX14_boundOf_41 : decode cX14_boundOf 41 = .ok (.iconst (-1), 1) := dk_2 (dk_at dksX14_boundOf_1 17 rfl rfl)
theorem dX14_boundOf_42 : decode cX14_boundOf 42 = .ok (.istore 5, 2) := dk_54 5 (dk_at dksX14_boundOf_1 18 rfl rfl)
theorem dX14_boundOf_44 : decode cX14_boundOf 44 = .ok (.aload_n 0, 1) := dk_42 (dk_at dksX14_boundOf_1 20 rfl rfl)
theorem dX14_boundOf_45 : decode cX14_boundOf 45 = .ok (.getfield 33, 3) := dk_180 0 33 (dk_at dksX14_boundOf_1 21 rfl rfl)
theorem dX14_boundOf_48 : decode cX14_boundOf 48 = .ok (.iload_n 2, 1) := dk_28 (dk_at dksX14_boundOf_2 0 rfl rfl)
theorem dX14_boundOf_49 : decode cX14_boundOf 49 = .ok (.iaload, 1) := dk_46 (dk_at dksX14_boundOf_2 1 rfl rfl)
theorem dX14_boundOf_50 : decode cX14_boundOf 50 = .ok (.iconst 3, 1) := dk_6 (dk_at dksX14_boundOf_2 2 rfl rfl)
theorem dX14_boundOf_51 : decode cX14_boundOf 51 = .ok (.if_icmp .ne 14, 3) := dk_160 0 14 (dk_at dksX14_boundOf_2 3 rfl rfl)
theorem dX14_boundOf_54 : decode cX14_boundOf 54 = .ok (.aload_n 0, 1) := dk_42 (dk_at dksX14_boundOf_2 6 rfl rfl)
theorem dX14_boundOf_55 : decode cX14_boundOf 55 = .ok (.iload_n 2, 1) := dk_28 (dk_at dksX14_boundOf_2 7 rfl rfl)
theorem dX14_boundOf_56 : decode cX14_boundOf 56 = .ok (.iload_n 3, 1) := dk_29 (dk_at dksX14_boundOf_2 8 rfl rfl)
theorem dX14_boundOf_57 : decode cX14_boundOf 57 = .ok (.invokevirtual 529, 3) := dk_182 2 17 (dk_at dksX14_boundOf_2 9 rfl rfl)
theorem dX14_boundOf_60 : decode cX14_boundOf 60 = .ok (.istore 5, 2) := dk_54 5 (dk_at dksX14_boundOf_2 12 rfl rfl)
theorem dX14_boundOf_62 : decode cX14_boundOf 62 = .ok (.goto 43, 3) := dk_167 0 43 (dk_at dksX14_boundOf_2 14 rfl rfl)
theorem dX14_boundOf_65 : decode cX14_boundOf 65 = .ok (.iload 4, 2) := dk_21 4 (dk_at dksX14_boundOf_2 17 rfl rfl)
theorem dX14_boundOf_67 : decode cX14_boundOf 67 = .ok (.ifCond .eq 7, 3) := dk_153 0 7 (dk_at dksX14_boundOf_2 19 rfl rfl)
theorem dX14_boundOf_70 : decode cX14_boundOf 70 = .ok (.iconst (-1), 1) := dk_2 (dk_at dksX14_boundOf_2 22 rfl rfl)
theorem dX14_boundOf_71 : decode cX14_boundOf 71 = .ok (.goto 10, 3) := dk_167 0 10 (dk_at dksX14_boundOf_3 0 rfl rfl)
theorem dX14_boundOf_74 : decode cX14_boundOf 74 = .ok (.aload_n 0, 1) := dk_42 (dk_at dksX14_boundOf_3 3 rfl rfl)
theorem dX14_boundOf_75 : decode cX14_boundOf 75 = .ok (.iload_n 1, 1) := dk_27 (dk_at dksX14_boundOf_3 4 rfl rfl)
theorem dX14_boundOf_76 : decode cX14_boundOf 76 = .ok (.iload_n 2, 1) := dk_28 (dk_at dksX14_boundOf_3 5 rfl rfl)
theorem dX14_boundOf_77 : decode cX14_boundOf 77 = .ok (.iconst 0, 1) := dk_3 (dk_at dksX14_boundOf_3 6 rfl rfl)
theorem dX14_boundOf_78 : decode cX14_boundOf 78 = .ok (.invokevirtual 621, 3) := dk_182 2 109 (dk_at dksX14_boundOf_3 7 rfl rfl)
theorem dX14_boundOf_81 : decode cX14_boundOf 81 = .ok (.istore 6, 2) := dk_54 6 (dk_at dksX14_boundOf_3 10 rfl rfl)
theorem dX14_boundOf_83 : decode cX14_boundOf 83 = .ok (.iload 6, 2) := dk_21 6 (dk_at dksX14_boundOf_3 12 rfl rfl)
theorem dX14_boundOf_85 : decode cX14_boundOf 85 = .ok (.ifCond .lt 13, 3) := dk_155 0 13 (dk_at dksX14_boundOf_3 14 rfl rfl)
theorem dX14_boundOf_88 : decode cX14_boundOf 88 = .ok (.aload_n 0, 1) := dk_42 (dk_at dksX14_boundOf_3 17 rfl rfl)
theorem dX14_boundOf_89 : decode cX14_boundOf 89 = .ok (.getfield 97, 3) := dk_180 0 97 (dk_at dksX14_boundOf_3 18 rfl rfl)
theorem dX14_boundOf_92 : decode cX14_boundOf 92 = .ok (.iload 6, 2) := dk_21 6 (dk_at dksX14_boundOf_3 21 rfl rfl)
theorem dX14_boundOf_94 : decode cX14_boundOf 94 = .ok (.iaload, 1) := dk_46 (dk_at dksX14_boundOf_3 23 rfl rfl)
theorem dX14_boundOf_95 : decode cX14_boundOf 95 = .ok (.goto 8, 3) := dk_167 0 8 (dk_at dksX14_boundOf_4 0 rfl rfl)
theorem dX14_boundOf_98 : decode cX14_boundOf 98 = .ok (.aload_n 0, 1) := dk_42 (dk_at dksX14_boundOf_4 3 rfl rfl)
theorem dX14_boundOf_99 : decode cX14_boundOf 99 = .ok (.iload_n 2, 1) := dk_28 (dk_at dksX14_boundOf_4 4 rfl rfl)
theorem dX14_boundOf_100 : decode cX14_boundOf 100 = .ok (.invokevirtual 659, 3) := dk_182 2 147 (dk_at dksX14_boundOf_4 5 rfl rfl)
theorem dX14_boundOf_103 : decode cX14_boundOf 103 = .ok (.istore 5, 2) := dk_54 5 (dk_at dksX14_boundOf_4 8 rfl rfl)
theorem dX14_boundOf_105 : decode cX14_boundOf 105 = .ok (.iload 5, 2) := dk_21 5 (dk_at dksX14_boundOf_4 10 rfl rfl)
theorem dX14_boundOf_107 : decode cX14_boundOf 107 = .ok (.ifCond .lt 29, 3) := dk_155 0 29 (dk_at dksX14_boundOf_4 12 rfl rfl)
theorem dX14_boundOf_110 : decode cX14_boundOf 110 = .ok (.iload 4, 2) := dk_21 4 (dk_at dksX14_boundOf_4 15 rfl rfl)
theorem dX14_boundOf_112 : decode cX14_boundOf 112 = .ok (.ifCond .eq 24, 3) := dk_153 0 24 (dk_at dksX14_boundOf_4 17 rfl rfl)
theorem dX14_boundOf_115 : decode cX14_boundOf 115 = .ok (.aload_n 0, 1) := dk_42 (dk_at dksX14_boundOf_4 20 rfl rfl)
theorem dX14_boundOf_116 : decode cX14_boundOf 116 = .ok (.getfield 199, 3) := dk_180 0 199 (dk_at dksX14_boundOf_4 21 rfl rfl)
theorem dX14_boundOf_119 : decode cX14_boundOf 119 = .ok (.aload_n 0, 1) := dk_42 (dk_at dksX14_boundOf_5 0 rfl rfl)
theorem dX14_boundOf_120 : decode cX14_boundOf 120 = .ok (.getfield 193, 3) := dk_180 0 193 (dk_at dksX14_boundOf_5 1 rfl rfl)
theorem dX14_boundOf_123 : decode cX14_boundOf 123 = .ok (.iload 5, 2) := dk_21 5 (dk_at dksX14_boundOf_5 4 rfl rfl)
theorem dX14_boundOf_125 : decode cX14_boundOf 125 = .ok (.iaload, 1) := dk_46 (dk_at dksX14_boundOf_5 6 rfl rfl)
theorem dX14_boundOf_126 : decode cX14_boundOf 126 = .ok (.iaload, 1) := dk_46 (dk_at dksX14_boundOf_5 7 rfl rfl)
theorem dX14_boundOf_127 : decode cX14_boundOf 127 = .ok (.bipush 127, 2) := dk_16 127 (dk_at dksX14_boundOf_5 8 rfl rfl)
theorem dX14_boundOf_129 : decode cX14_boundOf 129 = .ok (.if_icmp .le 7, 3) := dk_164 0 7 (dk_at dksX14_boundOf_5 10 rfl rfl)
theorem dX14_boundOf_132 : decode cX14_boundOf 132 = .ok (.iconst (-1), 1) := dk_2 (dk_at dksX14_boundOf_5 13 rfl rfl)
theorem dX14_boundOf_133 : decode cX14_boundOf 133 = .ok (.goto 5, 3) := dk_167 0 5 (dk_at dksX14_boundOf_5 14 rfl rfl)
theorem dX14_boundOf_136 : decode cX14_boundOf 136 = .ok (.iload 5, 2) := dk_21 5 (dk_at dksX14_boundOf_5 17 rfl rfl)
theorem dX14_boundOf_138 : decode cX14_boundOf 138 = .ok (.ireturn, 1) := dk_172 (dk_at dksX14_boundOf_5 19 rfl rfl)
abbrev cX14_constantOf : ByteArray := prog_15_method_84_code
def yX14_constantOf : MethodName := ⟨RX14, "constantOf", "(I)I"⟩
def dkwX14_constantOf_6 : List UInt8 := [172]
abbrev dktX14_constantOf_6 : List UInt8 := dkwX14_constantOf_6 ++ []
def dkwX14_constantOf_5 : List UInt8 := [42, 180, 0, 97, 21, 5, 46, 172, 42, 42, 180, 0, 154, 21, 4, 46, 182, 2, 82, 61, 167, 255, 126, 2]
abbrev dktX14_constantOf_5 : List UInt8 := dkwX14_constantOf_5 ++ dktX14_constantOf_6
def dkwX14_constantOf_4 : List UInt8 := [159, 0, 5, 2, 172, 42, 29, 42, 180, 0, 154, 21, 4, 46, 182, 2, 103, 54, 5, 21, 5, 155, 0, 11]
abbrev dktX14_constantOf_4 : List UInt8 := dkwX14_constantOf_4 ++ dktX14_constantOf_5
def dkwX14_constantOf_3 : List UInt8 := [21, 4, 46, 42, 180, 0, 157, 21, 4, 51, 182, 2, 17, 172, 42, 180, 0, 148, 21, 4, 46, 5]
abbrev dktX14_constantOf_3 : List UInt8 := dkwX14_constantOf_3 ++ dktX14_constantOf_4
def dkwX14_constantOf_2 : List UInt8 := [180, 0, 181, 28, 46, 54, 4, 42, 180, 0, 148, 21, 4, 46, 6, 160, 0, 22, 42, 42, 180, 0, 154]
abbrev dktX14_constantOf_2 : List UInt8 := dkwX14_constantOf_2 ++ dktX14_constantOf_3
def dkwX14_constantOf_1 : List UInt8 := [28, 46, 182, 2, 100, 62, 29, 155, 0, 13, 42, 180, 0, 42, 29, 46, 5, 159, 0, 5, 2, 172, 42]
abbrev dktX14_constantOf_1 : List UInt8 := dkwX14_constantOf_1 ++ dktX14_constantOf_2
def dkwX14_constantOf_0 : List UInt8 := [42, 27, 182, 2, 82, 61, 28, 155, 0, 132, 42, 180, 0, 181, 28, 46, 155, 0, 123, 42, 42, 180, 0, 178]
abbrev dktX14_constantOf_0 : List UInt8 := dkwX14_constantOf_0 ++ dktX14_constantOf_1
theorem dksX14_constantOf_0 : cX14_constantOf.data.toList.drop 0 = dktX14_constantOf_0 := by decide +kernel
theorem dksX14_constantOf_1 : cX14_constantOf.data.toList.drop 24 = dktX14_constantOf_1 := dk_seg dksX14_constantOf_0 24 rfl rfl
theorem dksX14_constantOf_2 : cX14_constantOf.data.toList.drop 47 = dktX14_constantOf_2 := dk_seg dksX14_constantOf_1 23 rfl rfl
theorem dksX14_constantOf_3 : cX14_constantOf.data.toList.drop 70 = dktX14_constantOf_3 := dk_seg dksX14_constantOf_2 23 rfl rfl
theorem dksX14_constantOf_4 : cX14_constantOf.data.toList.drop 92 = dktX14_constantOf_4 := dk_seg dksX14_constantOf_3 22 rfl rfl
theorem dksX14_constantOf_5 : cX14_constantOf.data.toList.drop 116 = dktX14_constantOf_5 := dk_seg dksX14_constantOf_4 24 rfl rfl
theorem dksX14_constantOf_6 : cX14_constantOf.data.toList.drop 140 = dktX14_constantOf_6 := dk_seg dksX14_constantOf_5 24 rfl rfl
theorem dX14_constantOf_0 : decode cX14_constantOf 0 = .ok (.aload_n 0, 1) := dk_42 (dk_at dksX14_constantOf_0 0 rfl rfl)
theorem dX14_constantOf_1 : decode cX14_constantOf 1 = .ok (.iload_n 1, 1) := dk_27 (dk_at dksX14_constantOf_0 1 rfl rfl)
theorem dX14_constantOf_2 : decode cX14_constantOf 2 = .ok (.invokevirtual 594, 3) := dk_182 2 82 (dk_at dksX14_constantOf_0 2 rfl rfl)
theorem dX14_constantOf_5 : decode cX14_constantOf 5 = .ok (.istore_n 2, 1) := dk_61 (dk_at dksX14_constantOf_0 5 rfl rfl)
theorem dX14_constantOf_6 : decode cX14_constantOf 6 = .ok (.iload_n 2, 1) := dk_28 (dk_at dksX14_constantOf_0 6 rfl rfl)
theorem dX14_constantOf_7 : decode cX14_constantOf 7 = .ok (.ifCond .lt 132, 3) := dk_155 0 132 (dk_at dksX14_constantOf_0 7 rfl rfl)
theorem dX14_constantOf_10 : decode cX14_constantOf 10 = .ok (.aload_n 0, 1) := dk_42 (dk_at dksX14_constantOf_0 10 rfl rfl)
theorem dX14_constantOf_11 : decode cX14_constantOf 11 = .ok (.getfield 181, 3) := dk_180 0 181 (dk_at dksX14_constantOf_0 11 rfl rfl)
theorem dX14_constantOf_14 : decode cX14_constantOf 14 = .ok (.iload_n 2, 1) := dk_28 (dk_at dksX14_constantOf_0 14 rfl rfl)
theorem dX14_constantOf_15 : decode cX14_constantOf 15 = .ok (.iaload, 1) := dk_46 (dk_at dksX14_constantOf_0 15 rfl rfl)
theorem dX14_constantOf_16 : decode cX14_constantOf 16 = .ok (.ifCond .lt 123, 3) := dk_155 0 123 (dk_at dksX14_constantOf_0 16 rfl rfl)
theorem dX14_constantOf_19 : decode cX14_constantOf 19 = .ok (.aload_n 0, 1) := dk_42 (dk_at dksX14_constantOf_0 19 rfl rfl)
theorem dX14_constantOf_20 : decode cX14_constantOf 20 = .ok (.aload_n 0, 1) := dk_42 (dk_at dksX14_constantOf_0 20 rfl rfl)
theorem dX14_constantOf_21 : decode cX14_constantOf 21 = .ok (.getfield 178, 3) := dk_180 0 178 (dk_at dksX14_constantOf_0 21 rfl rfl)
theorem dX14_constantOf_24 : decode cX14_constantOf 24 = .ok (.iload_n 2, 1) := dk_28 (dk_at dksX14_constantOf_1 0 rfl rfl)
theorem dX14_constantOf_25 : decode cX14_constantOf 25 = .ok (.iaload, 1) := dk_46 (dk_at dksX14_constantOf_1 1 rfl rfl)
theorem dX14_constantOf_26 : decode cX14_constantOf 26 = .ok (.invokevirtual 612, 3) := dk_182 2 100 (dk_at dksX14_constantOf_1 2 rfl rfl)
theorem dX14_constantOf_29 : decode cX14_constantOf 29 = .ok (.istore_n 3, 1) := dk_62 (dk_at dksX14_constantOf_1 5 rfl rfl)
theorem dX14_constantOf_30 : decode cX14_constantOf 30 = .ok (.iload_n 3, 1) := dk_29 (dk_at dksX14_constantOf_1 6 rfl rfl)
theorem dX14_constantOf_31 : decode cX14_constantOf 31 = .ok (.ifCond .lt 13, 3) := dk_155 0 13 (dk_at dksX14_constantOf_1 7 rfl rfl)
theorem dX14_constantOf_34 : decode cX14_constantOf 34 = .ok (.aload_n 0, 1) := dk_42 (dk_at dksX14_constantOf_1 10 rfl rfl)
theorem dX14_constantOf_35 : decode cX14_constantOf 35 = .ok (.getfield 42, 3) := dk_180 0 42 (dk_at dksX14_constantOf_1 11 rfl rfl)
theorem dX14_constantOf_38 : decode cX14_constantOf 38 = .ok (.iload_n 3, 1) := dk_29 (dk_at dksX14_constantOf_1 14 rfl rfl)
theorem dX14_constantOf_39 : decode cX14_constantOf 39 = .ok (.iaload, 1) := dk_46 (dk_at dksX14_constantOf_1 15 rfl rfl)
theorem dX14_constantOf_40 : decode cX14_constantOf 40 = .ok (.iconst 2, 1) := dk_5 (dk_at dksX14_constantOf_1 16 rfl rfl)
theorem dX14_constantOf_41 : decode cX14_constantOf 41 = .ok (.if_icmp .eq 5, 3) := dk_159 0 5 (dk_at dksX14_constantOf_1 17 rfl rfl)
theorem dX14_constantOf_44 : decode cX14_constantOf 44 = .ok (.iconst (-1), 1) := dk_2 (dk_at dksX14_constantOf_1 20 rfl rfl)
theorem dX14_constantOf_45 : decode cX14_constantOf 45 = .ok (.ireturn, 1) := dk_172 (dk_at dksX14_constantOf_1 21 rfl rfl)
theorem dX14_constantOf_46 : decode cX14_constantOf 46 = .ok (.aload_n 0, 1) := dk_42 (dk_at dksX14_constantOf_1 22 rfl rfl)
theorem dX14_constantOf_47 : decode cX14_constantOf 47 = .ok (.getfield 181, 3) := dk_180 0 181 (dk_at dksX14_constantOf_2 0 rfl rfl)
theorem dX14_constantOf_50 : decode cX14_constantOf 50 = .ok (.iload_n 2, 1) := dk_28 (dk_at dksX14_constantOf_2 3 rfl rfl)
theorem dX14_constantOf_51 : decode cX14_constantOf 51 = .ok (.iaload, 1) := dk_46 (dk_at dksX14_constantOf_2 4 rfl rfl)
theorem dX14_constantOf_52 : decode cX14_constantOf 52 = .ok (.istore 4, 2) := dk_54 4 (dk_at dksX14_constantOf_2 5 rfl rfl)
theorem dX14_constantOf_54 : decode cX14_constantOf 54 = .ok (.aload_n 0, 1) := dk_42 (dk_at dksX14_constantOf_2 7 rfl rfl)
theorem dX14_constantOf_55 : decode cX14_constantOf 55 = .ok (.getfield 148, 3) := dk_180 0 148 (dk_at dksX14_constantOf_2 8 rfl rfl)
theorem dX14_constantOf_58 : decode cX14_constantOf 58 = .ok (.iload 4, 2) := dk_21 4 (dk_at dksX14_constantOf_2 11 rfl rfl)
theorem dX14_constantOf_60 : decode cX14_constantOf 60 = .ok (.iaload, 1) := dk_46 (dk_at dksX14_constantOf_2 13 rfl rfl)
theorem dX14_constantOf_61 : decode cX14_constantOf 61 = .ok (.iconst 3, 1) := dk_6 (dk_at dksX14_constantOf_2 14 rfl rfl)
theorem dX14_constantOf_62 : decode cX14_constantOf 62 = .ok (.if_icmp .ne 22, 3) := dk_160 0 22 (dk_at dksX14_constantOf_2 15 rfl rfl)
theorem dX14_constantOf_65 : decode cX14_constantOf 65 = .ok (.aload_n 0, 1) := dk_42 (dk_at dksX14_constantOf_2 18 rfl rfl)
theorem dX14_constantOf_66 : decode cX14_constantOf 66 = .ok (.aload_n 0, 1) := dk_42 (dk_at dksX14_constantOf_2 19 rfl rfl)
theorem dX14_constantOf_67 : decode cX14_constantOf 67 = .ok (.getfield 154, 3) := dk_180 0 154 (dk_at dksX14_constantOf_2 20 rfl rfl)
theorem dX14_constantOf_70 : decode cX14_constantOf 70 = .ok (.iload 4, 2) := dk_21 4 (dk_at dksX14_constantOf_3 0 rfl rfl)
theorem dX14_constantOf_72 : decode cX14_constantOf 72 = .ok (.iaload, 1) := dk_46 (dk_at dksX14_constantOf_3 2 rfl rfl)
theorem dX14_constantOf_73 : decode cX14_constantOf 73 = .ok (.aload_n 0, 1) := dk_42 (dk_at dksX14_constantOf_3 3 rfl rfl)
theorem dX14_constantOf_74 : decode cX14_constantOf 74 = .ok (.getfield 157, 3) := dk_180 0 157 (dk_at dksX14_constantOf_3 4 rfl rfl)
theorem dX14_constantOf_77 : decode cX14_constantOf 77 = .ok (.iload 4, 2) := dk_21 4 (dk_at dksX14_constantOf_3 7 rfl rfl)
theorem dX14_constantOf_79 : decode cX14_constantOf 79 = .ok (.baload, 1) := dk_51 (dk_at dksX14_constantOf_3 9 rfl rfl)
theorem dX14_constantOf_80 : decode cX14_constantOf 80 = .ok (.invokevirtual 529, 3) := dk_182 2 17 (dk_at dksX14_constantOf_3 10 rfl rfl)
theorem dX14_constantOf_83 : decode cX14_constantOf 83 = .ok (.ireturn, 1) := dk_172 (dk_at dksX14_constantOf_3 13 rfl rfl)
theorem dX14_constantOf_84 : decode cX14_constantOf 84 = .ok (.aload_n 0, 1) := dk_42 (dk_at dksX14_constantOf_3 14 rfl rfl)
theorem dX14_constantOf_85 : decode cX14_constantOf 85 = .ok (.getfield 148, 3) := dk_180 0 148 (dk_at dksX14_constantOf_3 15 rfl rfl)
theorem dX14_constantOf_88 : decode cX14_constantOf 88 = .ok (.iload 4, 2) := dk_21 4 (dk_at dksX14_constantOf_3 18 rfl rfl)
theorem dX14_constantOf_90 : decode cX14_constantOf 90 = .ok (.iaload, 1) := dk_46 (dk_at dksX14_constantOf_3 20 rfl rfl)
theorem dX14_constantOf_91 : decode cX14_constantOf 91 = .ok (.iconst 2, 1) := dk_5 (dk_at dksX14_constantOf_3 21 rfl rfl)
theorem dX14_constantOf_92 : decode cX14_constantOf 92 = .ok (.if_icmp .eq 5, 3) := dk_159 0 5 (dk_at dksX14_constantOf_4 0 rfl rfl)
theorem dX14_constantOf_95 : decode cX14_constantOf 95 = .ok (.iconst (-1), 1) := dk_2 (dk_at dksX14_constantOf_4 3 rfl rfl)
theorem dX14_constantOf_96 : decode cX14_constantOf 96 = .ok (.ireturn, 1) := dk_172 (dk_at dksX14_constantOf_4 4 rfl rfl)
theorem dX14_constantOf_97 : decode cX14_constantOf 97 = .ok (.aload_n 0, 1) := dk_42 (dk_at dksX14_constantOf_4 5 rfl rfl)
theorem dX14_constantOf_98 : decode cX14_constantOf 98 = .ok (.iload_n 3, 1) := dk_29 (dk_at dksX14_constantOf_4 6 rfl rfl)
theorem dX14_constantOf_99 : decode cX14_constantOf 99 = .ok (.aload_n 0, 1) := dk_42 (dk_at dksX14_constantOf_4 7 rfl rfl)
theorem dX14_constantOf_100 : decode cX14_constantOf 100 = .ok (.getfield 154, 3) := dk_180 0 154 (dk_at dksX14_constantOf_4 8 rfl rfl)
theorem dX14_constantOf_103 : decode cX14_constantOf 103 = .ok (.iload 4, 2) := dk_21 4 (dk_at dksX14_constantOf_4 11 rfl rfl)
theorem dX14_constantOf_105 : decode cX14_constantOf 105 = .ok (.iaload, 1) := dk_46 (dk_at dksX14_constantOf_4 13 rfl rfl)
theorem dX14_constantOf_106 : decode cX14_constantOf 106 = .ok (.invokevirtual 615, 3) := dk_182 2 103 (dk_at dksX14_constantOf_4 14 rfl rfl)
theorem dX14_constantOf_109 : decode cX14_constantOf 109 = .ok (.istore 5, 2) := dk_54 5 (dk_at dksX14_constantOf_4 17 rfl rfl)
theorem dX14_constantOf_111 : decode cX14_constantOf 111 = .ok (.iload 5, 2) := dk_21 5 (dk_at dksX14_constantOf_4 19 rfl rfl)
theorem dX14_constantOf_113 : decode cX14_constantOf 113 = .ok (.ifCond .lt 11, 3) := dk_155 0 11 (dk_at dksX14_constantOf_4 21 rfl rfl)
theorem dX14_constantOf_116 : decode cX14_constantOf 116 = .ok (.aload_n 0, 1) := dk_42 (dk_at dksX14_constantOf_5 0 rfl rfl)
theorem dX14_constantOf_117 : decode cX14_constantOf 117 = .ok (.getfield 97, 3) := dk_180 0 97 (dk_at dksX14_constantOf_5 1 rfl rfl)
theorem dX14_constantOf_120 : decode cX14_constantOf 120 = .ok (.iload 5, 2) := dk_21 5 (dk_at dksX14_constantOf_5 4 rfl rfl)
theorem dX14_constantOf_122 : decode cX14_constantOf 122 = .ok (.iaload, 1) := dk_46 (dk_at dksX14_constantOf_5 6 rfl rfl)
theorem dX14_constantOf_123 : decode cX14_constantOf 123 = .ok (.ireturn, 1) := dk_172 (dk_at dksX14_constantOf_5 7 rfl rfl)
theorem dX14_constantOf_124 : decode cX14_constantOf 124 = .ok (.aload_n 0, 1) := dk_42 (dk_at dksX14_constantOf_5 8 rfl rfl)
theorem dX14_constantOf_125 : decode cX14_constantOf 125 = .ok (.aload_n 0, 1) := dk_42 (dk_at dksX14_constantOf_5 9 rfl rfl)
theorem dX14_constantOf_126 : decode cX14_constantOf 126 = .ok (.getfield 154, 3) := dk_180 0 154 (dk_at dksX14_constantOf_5 10 rfl rfl)
theorem dX14_constantOf_129 : decode cX14_constantOf 129 = .ok (.iload 4, 2) := dk_21 4 (dk_at dksX14_constantOf_5 13 rfl rfl)
theorem dX14_constantOf_131 : decode cX14_constantOf 131 = .ok (.iaload, 1) := dk_46 (dk_at dksX14_constantOf_5 15 rfl rfl)
theorem dX14_constantOf_132 : decode cX14_constantOf 132 = .ok (.invokevirtual 594, 3) := dk_182 2 82 (dk_at dksX14_constantOf_5 16 rfl rfl)
theorem dX14_constantOf_135 : decode cX14_constantOf 135 = .ok (.istore_n 2, 1) := dk_61 (dk_at dksX14_constantOf_5 19 rfl rfl)
theorem dX14_constantOf_136 : decode cX14_constantOf 136 = .ok (.goto (-130), 3) := dk_167 255 126 (dk_at dksX14_constantOf_5 20 rfl rfl)
theorem dX14_constantOf_139 : decode cX14_constantOf 139 = .ok (.iconst (-1), 1) := dk_2 (dk_at dksX14_constantOf_5 23 rfl rfl)
theorem dX14_constantOf_140 : decode cX14_constantOf 140 = .ok (.ireturn, 1) := dk_172 (dk_at dksX14_constantOf_6 0 rfl rfl)
abbrev cX14_isAbove : ByteArray := prog_15_method_86_code
def yX14_isAbove : MethodName := ⟨RX14, "isAbove", "(II)Z"⟩
def dkwX14_isAbove_2 : List UInt8 := [3, 172]
abbrev dktX14_isAbove_2 : List UInt8 := dkwX14_isAbove_2 ++ []
def dkwX14_isAbove_1 : List UInt8 := [159, 0, 9, 28, 16, 253, 160, 0, 5, 3, 172, 42, 27, 28, 182, 2, 88, 158, 0, 7, 4, 167, 0, 4]
abbrev dktX14_isAbove_1 : List UInt8 := dkwX14_isAbove_1 ++ dktX14_isAbove_2
def dkwX14_isAbove_0 : List UInt8 := [27, 28, 160, 0, 5, 3, 172, 27, 16, 253, 159, 0, 9, 28, 16, 254, 160, 0, 5, 4, 172, 27, 16, 254]
abbrev dktX14_isAbove_0 : List UInt8 := dkwX14_isAbove_0 ++ dktX14_isAbove_1
theorem dksX14_isAbove_0 : cX14_isAbove.data.toList.drop 0 = dktX14_isAbove_0 := by decide +kernel
theorem dksX14_isAbove_1 : cX14_isAbove.data.toList.drop 24 = dktX14_isAbove_1 := dk_seg dksX14_isAbove_0 24 rfl rfl
theorem dksX14_isAbove_2 : cX14_isAbove.data.toList.drop 48 = dktX14_isAbove_2 := dk_seg dksX14_isAbove_1 24 rfl rfl
theorem dX14_isAbove_0 : decode cX14_isAbove 0 = .ok (.iload_n 1, 1) := dk_27 (dk_at dksX14_isAbove_0 0 rfl rfl)
theorem dX14_isAbove_1 : decode cX14_isAbove 1 = .ok (.iload_n 2, 1) := dk_28 (dk_at dksX14_isAbove_0 1 rfl rfl)
theorem dX14_isAbove_2 : decode cX14_isAbove 2 = .ok (.if_icmp .ne 5, 3) := dk_160 0 5 (dk_at dksX14_isAbove_0 2 rfl rfl)
theorem dX14_isAbove_5 : decode cX14_isAbove 5 = .ok (.iconst 0, 1) := dk_3 (dk_at dksX14_isAbove_0 5 rfl rfl)
theorem dX14_isAbove_6 : decode cX14_isAbove 6 = .ok (.ireturn, 1) := dk_172 (dk_at dksX14_isAbove_0 6 rfl rfl)
theorem dX14_isAbove_7 : decode cX14_isAbove 7 = .ok (.iload_n 1, 1) := dk_27 (dk_at dksX14_isAbove_0 7 rfl rfl)
theorem dX14_isAbove_8 : decode cX14_isAbove 8 = .ok (.bipush (-3), 2) := dk_16 253 (dk_at dksX14_isAbove_0 8 rfl rfl)
theorem dX14_isAbove_10 : decode cX14_isAbove 10 = .ok (.if_icmp .eq 9, 3) := dk_159 0 9 (dk_at dksX14_isAbove_0 10 rfl rfl)
theorem dX14_isAbove_13 : decode cX14_isAbove 13 = .ok (.iload_n 2, 1) := dk_28 (dk_at dksX14_isAbove_0 13 rfl rfl)
theorem dX14_isAbove_14 : decode cX14_isAbove 14 = .ok (.bipush (-2), 2) := dk_16 254 (dk_at dksX14_isAbove_0 14 rfl rfl)
theorem dX14_isAbove_16 : decode cX14_isAbove 16 = .ok (.if_icmp .ne 5, 3) := dk_160 0 5 (dk_at dksX14_isAbove_0 16 rfl rfl)
theorem dX14_isAbove_19 : decode cX14_isAbove 19 = .ok (.iconst 1, 1) := dk_4 (dk_at dksX14_isAbove_0 19 rfl rfl)
theorem dX14_isAbove_20 : decode cX14_isAbove 20 = .ok (.ireturn, 1) := dk_172 (dk_at dksX14_isAbove_0 20 rfl rfl)
theorem dX14_isAbove_21 : decode cX14_isAbove 21 = .ok (.iload_n 1, 1) := dk_27 (dk_at dksX14_isAbove_0 21 rfl rfl)
theorem dX14_isAbove_22 : decode cX14_isAbove 22 = .ok (.bipush (-2), 2) := dk_16 254 (dk_at dksX14_isAbove_0 22 rfl rfl)
theorem dX14_isAbove_24 : decode cX14_isAbove 24 = .ok (.if_icmp .eq 9, 3) := dk_159 0 9 (dk_at dksX14_isAbove_1 0 rfl rfl)
theorem dX14_isAbove_27 : decode cX14_isAbove 27 = .ok (.iload_n 2, 1) := dk_28 (dk_at dksX14_isAbove_1 3 rfl rfl)
theorem dX14_isAbove_28 : decode cX14_isAbove 28 = .ok (.bipush (-3), 2) := dk_16 253 (dk_at dksX14_isAbove_1 4 rfl rfl)
theorem dX14_isAbove_30 : decode cX14_isAbove 30 = .ok (.if_icmp .ne 5, 3) := dk_160 0 5 (dk_at dksX14_isAbove_1 6 rfl rfl)
theorem dX14_isAbove_33 : decode cX14_isAbove 33 = .ok (.iconst 0, 1) := dk_3 (dk_at dksX14_isAbove_1 9 rfl rfl)
theorem dX14_isAbove_34 : decode cX14_isAbove 34 = .ok (.ireturn, 1) := dk_172 (dk_at dksX14_isAbove_1 10 rfl rfl)
theorem dX14_isAbove_35 : decode cX14_isAbove 35 = .ok (.aload_n 0, 1) := dk_42 (dk_at dksX14_isAbove_1 11 rfl rfl)
theorem dX14_isAbove_36 : decode cX14_isAbove 36 = .ok (.iload_n 1, 1) := dk_27 (dk_at dksX14_isAbove_1 12 rfl rfl)
theorem dX14_isAbove_37 : decode cX14_isAbove 37 = .ok (.iload_n 2, 1) := dk_28 (dk_at dksX14_isAbove_1 13 rfl rfl)
theorem dX14_isAbove_38 : decode cX14_isAbove 38 = .ok (.invokevirtual 600, 3) := dk_182 2 88 (dk_at dksX14_isAbove_1 14 rfl rfl)
theorem dX14_isAbove_41 : decode cX14_isAbove 41 = .ok (.ifCond .le 7, 3) := dk_158 0 7 (dk_at dksX14_isAbove_1 17 rfl rfl)
theorem dX14_isAbove_44 : decode cX14_isAbove 44 = .ok (.iconst 1, 1) := dk_4 (dk_at dksX14_isAbove_1 20 rfl rfl)
theorem dX14_isAbove_45 : decode cX14_isAbove 45 = .ok (.goto 4, 3) := dk_167 0 4 (dk_at dksX14_isAbove_1 21 rfl rfl)
theorem dX14_isAbove_48 : decode cX14_isAbove 48 = .ok (.iconst 0, 1) := dk_3 (dk_at dksX14_isAbove_2 0 rfl rfl)
theorem dX14_isAbove_49 : decode cX14_isAbove 49 = .ok (.ireturn, 1) := dk_172 (dk_at dksX14_isAbove_2 1 rfl rfl)
abbrev cX14_checkValues : ByteArray := prog_15_method_125_code
def yX14_checkValues : MethodName := ⟨RX14, "checkValues", "()V"⟩
def dkwX14_checkValues_9 : List UInt8 := [42, 16, 12, 182, 2, 91, 177]
abbrev dktX14_checkValues_9 : List UInt8 := dkwX14_checkValues_9 ++ []
def dkwX14_checkValues_8 : List UInt8 := [160, 0, 18, 42, 42, 180, 0, 36, 42, 180, 0, 151, 27, 46, 46, 182, 2, 85, 132, 1, 1, 167, 255, 220]
abbrev dktX14_checkValues_8 : List UInt8 := dkwX14_checkValues_8 ++ dktX14_checkValues_9
def dkwX14_checkValues_7 : List UInt8 := [132, 1, 1, 167, 255, 119, 3, 60, 27, 42, 180, 2, 63, 162, 0, 34, 42, 180, 1, 1, 27, 46, 5]
abbrev dktX14_checkValues_7 : List UInt8 := dkwX14_checkValues_7 ++ dktX14_checkValues_8
def dkwX14_checkValues_6 : List UInt8 := [42, 42, 180, 0, 224, 28, 46, 21, 4, 29, 182, 3, 42, 42, 180, 0, 224, 28, 46, 62, 167, 255, 198]
abbrev dktX14_checkValues_6 : List UInt8 := dkwX14_checkValues_6 ++ dktX14_checkValues_7
def dkwX14_checkValues_5 : List UInt8 := [160, 0, 21, 42, 42, 180, 0, 224, 28, 46, 29, 182, 3, 46, 153, 0, 7, 4, 167, 0, 4, 3, 54, 4]
abbrev dktX14_checkValues_5 : List UInt8 := dkwX14_checkValues_5 ++ dktX14_checkValues_6
def dkwX14_checkValues_4 : List UInt8 := [42, 29, 182, 3, 39, 2, 182, 3, 42, 28, 158, 0, 60, 132, 2, 255, 42, 180, 1, 1, 29, 46, 4]
abbrev dktX14_checkValues_4 : List UInt8 := dkwX14_checkValues_4 ++ dktX14_checkValues_5
def dkwX14_checkValues_3 : List UInt8 := [180, 0, 181, 42, 29, 182, 2, 144, 46, 62, 167, 255, 218, 42, 180, 1, 1, 29, 46, 154, 0, 14, 42, 29]
abbrev dktX14_checkValues_3 : List UInt8 := dkwX14_checkValues_3 ++ dktX14_checkValues_4
def dkwX14_checkValues_2 : List UInt8 := [154, 0, 35, 42, 29, 182, 2, 144, 155, 0, 27, 42, 180, 0, 224, 28, 29, 79, 132, 2, 1, 42]
abbrev dktX14_checkValues_2 : List UInt8 := dkwX14_checkValues_2 ++ dktX14_checkValues_3
def dkwX14_checkValues_1 : List UInt8 := [3, 181, 3, 36, 3, 60, 27, 42, 180, 2, 63, 162, 0, 135, 3, 61, 27, 62, 42, 180, 1, 1, 29, 46]
abbrev dktX14_checkValues_1 : List UInt8 := dkwX14_checkValues_1 ++ dktX14_checkValues_2
def dkwX14_checkValues_0 : List UInt8 := [3, 60, 27, 42, 180, 2, 63, 162, 0, 16, 42, 180, 1, 1, 27, 3, 79, 132, 1, 1, 167, 255, 238, 42]
abbrev dktX14_checkValues_0 : List UInt8 := dkwX14_checkValues_0 ++ dktX14_checkValues_1
theorem dksX14_checkValues_0 : cX14_checkValues.data.toList.drop 0 = dktX14_checkValues_0 := by decide +kernel
theorem dksX14_checkValues_1 : cX14_checkValues.data.toList.drop 24 = dktX14_checkValues_1 := dk_seg dksX14_checkValues_0 24 rfl rfl
theorem dksX14_checkValues_2 : cX14_checkValues.data.toList.drop 48 = dktX14_checkValues_2 := dk_seg dksX14_checkValues_1 24 rfl rfl
theorem dksX14_checkValues_3 : cX14_checkValues.data.toList.drop 70 = dktX14_checkValues_3 := dk_seg dksX14_checkValues_2 22 rfl rfl
theorem dksX14_checkValues_4 : cX14_checkValues.data.toList.drop 94 = dktX14_checkValues_4 := dk_seg dksX14_checkValues_3 24 rfl rfl
theorem dksX14_checkValues_5 : cX14_checkValues.data.toList.drop 117 = dktX14_checkValues_5 := dk_seg dksX14_checkValues_4 23 rfl rfl
theorem dksX14_checkValues_6 : cX14_checkValues.data.toList.drop 141 = dktX14_checkValues_6 := dk_seg dksX14_checkValues_5 24 rfl rfl
theorem dksX14_checkValues_7 : cX14_checkValues.data.toList.drop 164 = dktX14_checkValues_7 := dk_seg dksX14_checkValues_6 23 rfl rfl
theorem dksX14_checkValues_8 : cX14_checkValues.data.toList.drop 187 = dktX14_checkValues_8 := dk_seg dksX14_checkValues_7 23 rfl rfl
theorem dksX14_checkValues_9 : cX14_checkValues.data.toList.drop 211 = dktX14_checkValues_9 := dk_seg dksX14_checkValues_8 24 rfl rfl
theorem dX14_checkValues_0 : decode cX14_checkValues 0 = .ok (.iconst 0, 1) := dk_3 (dk_at dksX14_checkValues_0 0 rfl rfl)
theorem dX14_checkValues_1 : decode cX14_checkValues 1 = .ok (.istore_n 1, 1) := dk_60 (dk_at dksX14_checkValues_0 1 rfl rfl)
theorem dX14_checkValues_2 : decode cX14_checkValues 2 = .ok (.iload_n 1, 1) := dk_27 (dk_at dksX14_checkValues_0 2 rfl rfl)
theorem dX14_checkValues_3 : decode cX14_checkValues 3 = .ok (.aload_n 0, 1) := dk_42 (dk_at dksX14_checkValues_0 3 rfl rfl)
theorem dX14_checkValues_4 : decode cX14_checkValues 4 = .ok (.getfield 575, 3) := dk_180 2 63 (dk_at dksX14_checkValues_0 4 rfl rfl)
theorem dX14_checkValues_7 : decode cX14_checkValues 7 = .ok (.if_icmp .ge 16, 3) := dk_162 0 16 (dk_at dksX14_checkValues_0 7 rfl rfl)
theorem dX14_checkValues_10 : decode cX14_checkValues 10 = .ok (.aload_n 0, 1) := dk_42 (dk_at dksX14_checkValues_0 10 rfl rfl)
theorem dX14_checkValues_11 : decode cX14_checkValues 11 = .ok (.getfield 257, 3) := dk_180 1 1 (dk_at dksX14_checkValues_0 11 rfl rfl)
theorem dX14_checkValues_14 : decode cX14_checkValues 14 = .ok (.iload_n 1, 1) := dk_27 (dk_at dksX14_checkValues_0 14 rfl rfl)
theorem dX14_checkValues_15 : decode cX14_checkValues 15 = .ok (.iconst 0, 1) := dk_3 (dk_at dksX14_checkValues_0 15 rfl rfl)
theorem dX14_checkValues_16 : decode cX14_checkValues 16 = .ok (.iastore, 1) := dk_79 (dk_at dksX14_checkValues_0 16 rfl rfl)
theorem dX14_checkValues_17 : decode cX14_checkValues 17 = .ok (.iinc 1 1, 3) := dk_132 1 1 (dk_at dksX14_checkValues_0 17 rfl rfl)
theorem dX14_checkValues_20 : decode cX14_checkValues 20 = .ok (.goto (-18), 3) := dk_167 255 238 (dk_at dksX14_checkValues_0 20 rfl rfl)
theorem dX14_checkValues_23 : decode cX14_checkValues 23 = .ok (.aload_n 0, 1) := dk_42 (dk_at dksX14_checkValues_0 23 rfl rfl)
theorem dX14_checkValues_24 : decode cX14_checkValues 24 = .ok (.iconst 0, 1) := dk_3 (dk_at dksX14_checkValues_1 0 rfl rfl)
theorem dX14_checkValues_25 : decode cX14_checkValues 25 = .ok (.putfield 804, 3) := dk_181 3 36 (dk_at dksX14_checkValues_1 1 rfl rfl)
theorem dX14_checkValues_28 : decode cX14_checkValues 28 = .ok (.iconst 0, 1) := dk_3 (dk_at dksX14_checkValues_1 4 rfl rfl)
theorem dX14_checkValues_29 : decode cX14_checkValues 29 = .ok (.istore_n 1, 1) := dk_60 (dk_at dksX14_checkValues_1 5 rfl rfl)
theorem dX14_checkValues_30 : decode cX14_checkValues 30 = .ok (.iload_n 1, 1) := dk_27 (dk_at dksX14_checkValues_1 6 rfl rfl)
theorem dX14_checkValues_31 : decode cX14_checkValues 31 = .ok (.aload_n 0, 1) := dk_42 (dk_at dksX14_checkValues_1 7 rfl rfl)
theorem dX14_checkValues_32 : decode cX14_checkValues 32 = .ok (.getfield 575, 3) := dk_180 2 63 (dk_at dksX14_checkValues_1 8 rfl rfl)
theorem dX14_checkValues_35 : decode cX14_checkValues 35 = .ok (.if_icmp .ge 135, 3) := dk_162 0 135 (dk_at dksX14_checkValues_1 11 rfl rfl)
theorem dX14_checkValues_38 : decode cX14_checkValues 38 = .ok (.iconst 0, 1) := dk_3 (dk_at dksX14_checkValues_1 14 rfl rfl)
theorem dX14_checkValues_39 : decode cX14_checkValues 39 = .ok (.istore_n 2, 1) := dk_61 (dk_at dksX14_checkValues_1 15 rfl rfl)
theorem dX14_checkValues_40 : decode cX14_checkValues 40 = .ok (.iload_n 1, 1) := dk_27 (dk_at dksX14_checkValues_1 16 rfl rfl)
theorem dX14_checkValues_41 : decode cX14_checkValues 41 = .ok (.istore_n 3, 1) := dk_62 (dk_at dksX14_checkValues_1 17 rfl rfl)
theorem dX14_checkValues_42 : decode cX14_checkValues 42 = .ok (.aload_n 0, 1) := dk_42 (dk_at dksX14_checkValues_1 18 rfl rfl)
theorem dX14_checkValues_43 : decode cX14_checkValues 43 = .ok (.getfield 257, 3) := dk_180 1 1 (dk_at dksX14_checkValues_1 19 rfl rfl)
theorem dX14_checkValues_46 : decode cX14_checkValues 46 = .ok (.iload_n 3, 1) := dk_29 (dk_at dksX14_checkValues_1 22 rfl rfl)
theorem dX14_checkValues_47 : decode cX14_checkValues 47 = .ok (.iaload, 1) := dk_46 (dk_at dksX14_checkValues_1 23 rfl rfl)
theorem dX14_checkValues_48 : decode cX14_checkValues 48 = .ok (.ifCond .ne 35, 3) := dk_154 0 35 (dk_at dksX14_checkValues_2 0 rfl rfl)
theorem dX14_checkValues_51 : decode cX14_checkValues 51 = .ok (.aload_n 0, 1) := dk_42 (dk_at dksX14_checkValues_2 3 rfl rfl)
theorem dX14_checkValues_52 : decode cX14_checkValues 52 = .ok (.iload_n 3, 1) := dk_29 (dk_at dksX14_checkValues_2 4 rfl rfl)
theorem dX14_checkValues_53 : decode cX14_checkValues 53 = .ok (.invokevirtual 656, 3) := dk_182 2 144 (dk_at dksX14_checkValues_2 5 rfl rfl)
theorem dX14_checkValues_56 : decode cX14_checkValues 56 = .ok (.ifCond .lt 27, 3) := dk_155 0 27 (dk_at dksX14_checkValues_2 8 rfl rfl)
theorem dX14_checkValues_59 : decode cX14_checkValues 59 = .ok (.aload_n 0, 1) := dk_42 (dk_at dksX14_checkValues_2 11 rfl rfl)
theorem dX14_checkValues_60 : decode cX14_checkValues 60 = .ok (.getfield 224, 3) := dk_180 0 224 (dk_at dksX14_checkValues_2 12 rfl rfl)
theorem dX14_checkValues_63 : decode cX14_checkValues 63 = .ok (.iload_n 2, 1) := dk_28 (dk_at dksX14_checkValues_2 15 rfl rfl)
theorem dX14_checkValues_64 : decode cX14_checkValues 64 = .ok (.iload_n 3, 1) := dk_29 (dk_at dksX14_checkValues_2 16 rfl rfl)
theorem dX14_checkValues_65 : decode cX14_checkValues 65 = .ok (.iastore, 1) := dk_79 (dk_at dksX14_checkValues_2 17 rfl rfl)
theorem dX14_checkValues_66 : decode cX14_checkValues 66 = .ok (.iinc 2 1, 3) := dk_132 2 1 (dk_at dksX14_checkValues_2 18 rfl rfl)
theorem dX14_checkValues_69 : decode cX14_checkValues 69 = .ok (.aload_n 0, 1) := dk_42 (dk_at dksX14_checkValues_2 21 rfl rfl)
theorem dX14_checkValues_70 : decode cX14_checkValues 70 = .ok (.getfield 181, 3) := dk_180 0 181 (dk_at dksX14_checkValues_3 0 rfl rfl)
theorem dX14_checkValues_73 : decode cX14_checkValues 73 = .ok (.aload_n 0, 1) := dk_42 (dk_at dksX14_checkValues_3 3 rfl rfl)
theorem dX14_checkValues_74 : decode cX14_checkValues 74 = .ok (.iload_n 3, 1) := dk_29 (dk_at dksX14_checkValues_3 4 rfl rfl)
theorem dX14_checkValues_75 : decode cX14_checkValues 75 = .ok (.invokevirtual 656, 3) := dk_182 2 144 (dk_at dksX14_checkValues_3 5 rfl rfl)
theorem dX14_checkValues_78 : decode cX14_checkValues 78 = .ok (.iaload, 1) := dk_46 (dk_at dksX14_checkValues_3 8 rfl rfl)
theorem dX14_checkValues_79 : decode cX14_checkValues 79 = .ok (.istore_n 3, 1) := dk_62 (dk_at dksX14_checkValues_3 9 rfl rfl)
theorem dX14_checkValues_80 : decode cX14_checkValues 80 = .ok (.goto (-38), 3) := dk_167 255 218 (dk_at dksX14_checkValues_3 10 rfl rfl)
theorem dX14_checkValues_83 : decode cX14_checkValues 83 = .ok (.aload_n 0, 1) := dk_42 (dk_at dksX14_checkValues_3 13 rfl rfl)
theorem dX14_checkValues_84 : decode cX14_checkValues 84 = .ok (.getfield 257, 3) := dk_180 1 1 (dk_at dksX14_checkValues_3 14 rfl rfl)
theorem dX14_checkValues_87 : decode cX14_checkValues 87 = .ok (.iload_n 3, 1) := dk_29 (dk_at dksX14_checkValues_3 17 rfl rfl)
theorem dX14_checkValues_88 : decode cX14_checkValues 88 = .ok (.iaload, 1) := dk_46 (dk_at dksX14_checkValues_3 18 rfl rfl)
theorem dX14_checkValues_89 : decode cX14_checkValues 89 = .ok (.ifCond .ne 14, 3) := dk_154 0 14 (dk_at dksX14_checkValues_3 19 rfl rfl)
theorem dX14_checkValues_92 : decode cX14_checkValues 92 = .ok (.aload_n 0, 1) := dk_42 (dk_at dksX14_checkValues_3 22 rfl rfl)
theorem dX14_checkValues_93 : decode cX14_checkValues 93 = .ok (.iload_n 3, 1) := dk_29 (dk_at dksX14_checkValues_3 23 rfl rfl)
theorem dX14_checkValues_94 : decode cX14_checkValues 94 = .ok (.aload_n 0, 1) := dk_42 (dk_at dksX14_checkValues_4 0 rfl rfl)
theorem dX14_checkValues_95 : decode cX14_checkValues 95 = .ok (.iload_n 3, 1) := dk_29 (dk_at dksX14_checkValues_4 1 rfl rfl)
theorem dX14_checkValues_96 : decode cX14_checkValues 96 = .ok (.invokevirtual 807, 3) := dk_182 3 39 (dk_at dksX14_checkValues_4 2 rfl rfl)
theorem dX14_checkValues_99 : decode cX14_checkValues 99 = .ok (.iconst (-1), 1) := dk_2 (dk_at dksX14_checkValues_4 5 rfl rfl)
theorem dX14_checkValues_100 : decode cX14_checkValues 100 = .ok (.invokevirtual 810, 3) := dk_182 3 42 (dk_at dksX14_checkValues_4 6 rfl rfl)
theorem dX14_checkValues_103 : decode cX14_checkValues 103 = .ok (.iload_n 2, 1) := dk_28 (dk_at dksX14_checkValues_4 9 rfl rfl)
theorem dX14_checkValues_104 : decode cX14_checkValues 104 = .ok (.ifCond .le 60, 3) := dk_158 0 60 (dk_at dksX14_checkValues_4 10 rfl rfl)
theorem dX14_checkValues_107 : decode cX14_checkValues 107 = .ok (.iinc 2 (-1), 3) := dk_132 2 255 (dk_at dksX14_checkValues_4 13 rfl rfl)
theorem dX14_checkValues_110 : decode cX14_checkValues 110 = .ok (.aload_n 0, 1) := dk_42 (dk_at dksX14_checkValues_4 16 rfl rfl)
theorem dX14_checkValues_111 : decode cX14_checkValues 111 = .ok (.getfield 257, 3) := dk_180 1 1 (dk_at dksX14_checkValues_4 17 rfl rfl)
theorem dX14_checkValues_114 : decode cX14_checkValues 114 = .ok (.iload_n 3, 1) := dk_29 (dk_at dksX14_checkValues_4 20 rfl rfl)
theorem dX14_checkValues_115 : decode cX14_checkValues 115 = .ok (.iaload, 1) := dk_46 (dk_at dksX14_checkValues_4 21 rfl rfl)
theorem dX14_checkValues_116 : decode cX14_checkValues 116 = .ok (.iconst 1, 1) := dk_4 (dk_at dksX14_checkValues_4 22 rfl rfl)
theorem dX14_checkValues_117 : decode cX14_checkValues 117 = .ok (.if_icmp .ne 21, 3) := dk_160 0 21 (dk_at dksX14_checkValues_5 0 rfl rfl)
theorem dX14_checkValues_120 : decode cX14_checkValues 120 = .ok (.aload_n 0, 1) := dk_42 (dk_at dksX14_checkValues_5 3 rfl rfl)
theorem dX14_checkValues_121 : decode cX14_checkValues 121 = .ok (.aload_n 0, 1) := dk_42 (dk_at dksX14_checkValues_5 4 rfl rfl)
theorem dX14_checkValues_122 : decode cX14_checkValues 122 = .ok (.getfield 224, 3) := dk_180 0 224 (dk_at dksX14_checkValues_5 5 rfl rfl)
theorem dX14_checkValues_125 : decode cX14_checkValues 125 = .ok (.iload_n 2, 1) := dk_28 (dk_at dksX14_checkValues_5 8 rfl rfl)
theorem dX14_checkValues_126 : decode cX14_checkValues 126 = .ok (.iaload, 1) := dk_46 (dk_at dksX14_checkValues_5 9 rfl rfl)
theorem dX14_checkValues_127 : decode cX14_checkValues 127 = .ok (.iload_n 3, 1) := dk_29 (dk_at dksX14_checkValues_5 10 rfl rfl)
theorem dX14_checkValues_128 : decode cX14_checkValues 128 = .ok (.invokevirtual 814, 3) := dk_182 3 46 (dk_at dksX14_checkValues_5 11 rfl rfl)
theorem dX14_checkValues_131 : decode cX14_checkValues 131 = .ok (.ifCond .eq 7, 3) := dk_153 0 7 (dk_at dksX14_checkValues_5 14 rfl rfl)
theorem dX14_checkValues_134 : decode cX14_checkValues 134 = .ok (.iconst 1, 1) := dk_4 (dk_at dksX14_checkValues_5 17 rfl rfl)
theorem dX14_checkValues_135 : decode cX14_checkValues 135 = .ok (.goto 4, 3) := dk_167 0 4 (dk_at dksX14_checkValues_5 18 rfl rfl)
theorem dX14_checkValues_138 : decode cX14_checkValues 138 = .ok (.iconst 0, 1) := dk_3 (dk_at dksX14_checkValues_5 21 rfl rfl)
theorem dX14_checkValues_139 : decode cX14_checkValues 139 = .ok (.istore 4, 2) := dk_54 4 (dk_at dksX14_checkValues_5 22 rfl rfl)
theorem dX14_checkValues_141 : decode cX14_checkValues 141 = .ok (.aload_n 0, 1) := dk_42 (dk_at dksX14_checkValues_6 0 rfl rfl)
theorem dX14_checkValues_142 : decode cX14_checkValues 142 = .ok (.aload_n 0, 1) := dk_42 (dk_at dksX14_checkValues_6 1 rfl rfl)
theorem dX14_checkValues_143 : decode cX14_checkValues 143 = .ok (.getfield 224, 3) := dk_180 0 224 (dk_at dksX14_checkValues_6 2 rfl rfl)
theorem dX14_checkValues_146 : decode cX14_checkValues 146 = .ok (.iload_n 2, 1) := dk_28 (dk_at dksX14_checkValues_6 5 rfl rfl)
theorem dX14_checkValues_147 : decode cX14_checkValues 147 = .ok (.iaload, 1) := dk_46 (dk_at dksX14_checkValues_6 6 rfl rfl)
theorem dX14_checkValues_148 : decode cX14_checkValues 148 = .ok (.iload 4, 2) := dk_21 4 (dk_at dksX14_checkValues_6 7 rfl rfl)
theorem dX14_checkValues_150 : decode cX14_checkValues 150 = .ok (.iload_n 3, 1) := dk_29 (dk_at dksX14_checkValues_6 9 rfl rfl)
theorem dX14_checkValues_151 : decode cX14_checkValues 151 = .ok (.invokevirtual 810, 3) := dk_182 3 42 (dk_at dksX14_checkValues_6 10 rfl rfl)
theorem dX14_checkValues_154 : decode cX14_checkValues 154 = .ok (.aload_n 0, 1) := dk_42 (dk_at dksX14_checkValues_6 13 rfl rfl)
theorem dX14_checkValues_155 : decode cX14_checkValues 155 = .ok (.getfield 224, 3) := dk_180 0 224 (dk_at dksX14_checkValues_6 14 rfl rfl)
theorem dX14_checkValues_158 : decode cX14_checkValues 158 = .ok (.iload_n 2, 1) := dk_28 (dk_at dksX14_checkValues_6 17 rfl rfl)
theorem dX14_checkValues_159 : decode cX14_checkValues 159 = .ok (.iaload, 1) := dk_46 (dk_at dksX14_checkValues_6 18 rfl rfl)
theorem dX14_checkValues_160 : decode cX14_checkValues 160 = .ok (.istore_n 3, 1) := dk_62 (dk_at dksX14_checkValues_6 19 rfl rfl)
theorem dX14_checkValues_161 : decode cX14_checkValues 161 = .ok (.goto (-58), 3) := dk_167 255 198 (dk_at dksX14_checkValues_6 20 rfl rfl)
theorem dX14_checkValues_164 : decode cX14_checkValues 164 = .ok (.iinc 1 1, 3) := dk_132 1 1 (dk_at dksX14_checkValues_7 0 rfl rfl)
theorem dX14_checkValues_167 : decode cX14_checkValues 167 = .ok (.goto (-137), 3) := dk_167 255 119 (dk_at dksX14_checkValues_7 3 rfl rfl)
theorem dX14_checkValues_170 : decode cX14_checkValues 170 = .ok (.iconst 0, 1) := dk_3 (dk_at dksX14_checkValues_7 6 rfl rfl)
theorem dX14_checkValues_171 : decode cX14_checkValues 171 = .ok (.istore_n 1, 1) := dk_60 (dk_at dksX14_checkValues_7 7 rfl rfl)
theorem dX14_checkValues_172 : decode cX14_checkValues 172 = .ok (.iload_n 1, 1) := dk_27 (dk_at dksX14_checkValues_7 8 rfl rfl)
theorem dX14_checkValues_173 : decode cX14_checkValues 173 = .ok (.aload_n 0, 1) := dk_42 (dk_at dksX14_checkValues_7 9 rfl rfl)
theorem dX14_checkValues_174 : decode cX14_checkValues 174 = .ok (.getfield 575, 3) := dk_180 2 63 (dk_at dksX14_checkValues_7 10 rfl rfl)
theorem dX14_checkValues_177 : decode cX14_checkValues 177 = .ok (.if_icmp .ge 34, 3) := dk_162 0 34 (dk_at dksX14_checkValues_7 13 rfl rfl)
theorem dX14_checkValues_180 : decode cX14_checkValues 180 = .ok (.aload_n 0, 1) := dk_42 (dk_at dksX14_checkValues_7 16 rfl rfl)
theorem dX14_checkValues_181 : decode cX14_checkValues 181 = .ok (.getfield 257, 3) := dk_180 1 1 (dk_at dksX14_checkValues_7 17 rfl rfl)
theorem dX14_checkValues_184 : decode cX14_checkValues 184 = .ok (.iload_n 1, 1) := dk_27 (dk_at dksX14_checkValues_7 20 rfl rfl)
theorem dX14_checkValues_185 : decode cX14_checkValues 185 = .ok (.iaload, 1) := dk_46 (dk_at dksX14_checkValues_7 21 rfl rfl)
theorem dX14_checkValues_186 : decode cX14_checkValues 186 = .ok (.iconst 2, 1) := dk_5 (dk_at dksX14_checkValues_7 22 rfl rfl)
theorem dX14_checkValues_187 : decode cX14_checkValues 187 = .ok (.if_icmp .ne 18, 3) := dk_160 0 18 (dk_at dksX14_checkValues_8 0 rfl rfl)
theorem dX14_checkValues_190 : decode cX14_checkValues 190 = .ok (.aload_n 0, 1) := dk_42 (dk_at dksX14_checkValues_8 3 rfl rfl)
theorem dX14_checkValues_191 : decode cX14_checkValues 191 = .ok (.aload_n 0, 1) := dk_42 (dk_at dksX14_checkValues_8 4 rfl rfl)
theorem dX14_checkValues_192 : decode cX14_checkValues 192 = .ok (.getfield 36, 3) := dk_180 0 36 (dk_at dksX14_checkValues_8 5 rfl rfl)
theorem dX14_checkValues_195 : decode cX14_checkValues 195 = .ok (.aload_n 0, 1) := dk_42 (dk_at dksX14_checkValues_8 8 rfl rfl)
theorem dX14_checkValues_196 : decode cX14_checkValues 196 = .ok (.getfield 151, 3) := dk_180 0 151 (dk_at dksX14_checkValues_8 9 rfl rfl)
theorem dX14_checkValues_199 : decode cX14_checkValues 199 = .ok (.iload_n 1, 1) := dk_27 (dk_at dksX14_checkValues_8 12 rfl rfl)
theorem dX14_checkValues_200 : decode cX14_checkValues 200 = .ok (.iaload, 1) := dk_46 (dk_at dksX14_checkValues_8 13 rfl rfl)
theorem dX14_checkValues_201 : decode cX14_checkValues 201 = .ok (.iaload, 1) := dk_46 (dk_at dksX14_checkValues_8 14 rfl rfl)
theorem dX14_checkValues_202 : decode cX14_checkValues 202 = .ok (.invokevirtual 597, 3) := dk_182 2 85 (dk_at dksX14_checkValues_8 15 rfl rfl)
theorem dX14_checkValues_205 : decode cX14_checkValues 205 = .ok (.iinc 1 1, 3) := dk_132 1 1 (dk_at dksX14_checkValues_8 18 rfl rfl)
theorem dX14_checkValues_208 : decode cX14_checkValues 208 = .ok (.goto (-36), 3) := dk_167 255 220 (dk_at dksX14_checkValues_8 21 rfl rfl)
theorem dX14_checkValues_211 : decode cX14_checkValues 211 = .ok (.aload_n 0, 1) := dk_42 (dk_at dksX14_checkValues_9 0 rfl rfl)
theorem dX14_checkValues_212 : decode cX14_checkValues 212 = .ok (.bipush 12, 2) := dk_16 12 (dk_at dksX14_checkValues_9 1 rfl rfl)
theorem dX14_checkValues_214 : decode cX14_checkValues 214 = .ok (.invokevirtual 603, 3) := dk_182 2 91 (dk_at dksX14_checkValues_9 3 rfl rfl)
theorem dX14_checkValues_217 : decode cX14_checkValues 217 = .ok (.return_, 1) := dk_177 (dk_at dksX14_checkValues_9 6 rfl rfl)
abbrev cX14_literal : ByteArray := prog_15_method_119_code
def yX14_literal : MethodName := ⟨RX14, "literal", "(I)Z"⟩
def dkwX14_literal_22 : List UInt8 := [42, 29, 182, 3, 15, 167, 0, 9, 42, 28, 3, 182, 2, 182, 172]
abbrev dktX14_literal_22 : List UInt8 := dkwX14_literal_22 ++ []
def dkwX14_literal_21 : List UInt8 := [180, 0, 163, 27, 46, 158, 0, 5, 3, 172, 21, 4, 16, 12, 159, 0, 10, 21, 4, 16, 13, 160, 0, 11]
abbrev dktX14_literal_21 : List UInt8 := dkwX14_literal_21 ++ dktX14_literal_22
def dkwX14_literal_20 : List UInt8 := [153, 0, 7, 4, 167, 0, 4, 3, 172, 21, 4, 16, 16, 159, 0, 19, 21, 5, 16, 12, 160, 0, 12, 42]
abbrev dktX14_literal_20 : List UInt8 := dkwX14_literal_20 ++ dktX14_literal_21
def dkwX14_literal_19 : List UInt8 := [21, 4, 16, 11, 163, 0, 27, 21, 5, 16, 6, 160, 0, 18, 42, 27, 28, 21, 4, 182, 3, 12]
abbrev dktX14_literal_19 : List UInt8 := dkwX14_literal_19 ++ dktX14_literal_20
def dkwX14_literal_18 : List UInt8 := [160, 0, 15, 42, 27, 182, 3, 9, 153, 0, 7, 4, 167, 0, 4, 3, 172, 21, 4, 16, 7, 161, 0, 34]
abbrev dktX14_literal_18 : List UInt8 := dkwX14_literal_18 ++ dktX14_literal_19
def dkwX14_literal_17 : List UInt8 := [167, 255, 202, 42, 28, 42, 180, 2, 170, 182, 2, 182, 172, 21, 4, 16, 6, 160, 0, 24, 21, 5, 16, 12]
abbrev dktX14_literal_17 : List UInt8 := dkwX14_literal_17 ++ dktX14_literal_18
def dkwX14_literal_16 : List UInt8 := [21, 8, 96, 46, 128, 54, 7, 132, 8, 1, 167, 255, 229, 42, 21, 7, 182, 2, 176, 132, 6, 8]
abbrev dktX14_literal_16 : List UInt8 := dkwX14_literal_16 ++ dktX14_literal_17
def dkwX14_literal_15 : List UInt8 := [3, 54, 7, 3, 54, 8, 21, 8, 16, 8, 162, 0, 26, 21, 7, 4, 120, 42, 180, 0, 239, 21, 6]
abbrev dktX14_literal_15 : List UInt8 := dkwX14_literal_15 ++ dktX14_literal_16
def dkwX14_literal_14 : List UInt8 := [112, 158, 0, 11, 42, 3, 182, 2, 188, 167, 255, 241, 3, 54, 6, 21, 6, 42, 180, 2, 173, 162, 0, 51]
abbrev dktX14_literal_14 : List UInt8 := dkwX14_literal_14 ++ dktX14_literal_15
def dkwX14_literal_13 : List UInt8 := [21, 5, 8, 159, 0, 5, 3, 172, 42, 42, 180, 0, 154, 27, 46, 182, 2, 253, 42, 180, 2, 173, 16, 8]
abbrev dktX14_literal_13 : List UInt8 := dkwX14_literal_13 ++ dktX14_literal_14
def dkwX14_literal_12 : List UInt8 := [182, 3, 6, 153, 0, 7, 4, 167, 0, 4, 3, 172, 21, 4, 8, 160, 0, 115, 21, 5, 7, 159, 0, 11]
abbrev dktX14_literal_12 : List UInt8 := dkwX14_literal_12 ++ dktX14_literal_13
def dkwX14_literal_11 : List UInt8 := [160, 0, 12, 42, 27, 29, 182, 3, 0, 154, 0, 5, 3, 172, 42, 28, 182, 3, 3, 153, 0, 15, 42, 29]
abbrev dktX14_literal_11 : List UInt8 := dkwX14_literal_11 ++ dktX14_literal_12
def dkwX14_literal_10 : List UInt8 := [21, 5, 8, 160, 0, 16, 42, 42, 180, 0, 154, 27, 46, 182, 2, 253, 167, 0, 21, 21, 5, 16, 12]
abbrev dktX14_literal_10 : List UInt8 := dkwX14_literal_10 ++ dktX14_literal_11
def dkwX14_literal_9 : List UInt8 := [182, 2, 166, 153, 0, 7, 4, 167, 0, 4, 3, 172, 21, 4, 7, 160, 0, 68, 21, 5, 7, 159, 0, 9]
abbrev dktX14_literal_9 : List UInt8 := dkwX14_literal_9 ++ dktX14_literal_10
def dkwX14_literal_8 : List UInt8 := [156, 0, 5, 3, 172, 42, 21, 7, 182, 2, 250, 21, 4, 6, 159, 0, 14, 42, 28, 21, 7, 3]
abbrev dktX14_literal_8 : List UInt8 := dkwX14_literal_8 ++ dktX14_literal_9
def dkwX14_literal_7 : List UInt8 := [180, 0, 154, 27, 46, 42, 180, 0, 157, 27, 51, 182, 2, 17, 167, 0, 4, 2, 54, 7, 21, 7]
abbrev dktX14_literal_7 : List UInt8 := dkwX14_literal_7 ++ dktX14_literal_8
def dkwX14_literal_6 : List UInt8 := [180, 0, 97, 21, 6, 46, 167, 0, 35, 21, 5, 6, 160, 0, 28, 21, 4, 5, 160, 0, 22, 42, 42]
abbrev dktX14_literal_6 : List UInt8 := dkwX14_literal_6 ++ dktX14_literal_7
def dkwX14_literal_5 : List UInt8 := [29, 42, 180, 0, 154, 27, 46, 182, 2, 103, 167, 0, 4, 2, 54, 6, 21, 6, 155, 0, 13, 42]
abbrev dktX14_literal_5 : List UInt8 := dkwX14_literal_5 ++ dktX14_literal_6
def dkwX14_literal_4 : List UInt8 := [167, 0, 4, 3, 172, 21, 4, 5, 159, 0, 9, 21, 4, 6, 160, 0, 111, 21, 5, 5, 160, 0, 17, 42]
abbrev dktX14_literal_4 : List UInt8 := dkwX14_literal_4 ++ dktX14_literal_5
def dkwX14_literal_3 : List UInt8 := [160, 0, 7, 4, 167, 0, 4, 3, 172, 21, 4, 4, 160, 0, 16, 21, 5, 16, 85, 160, 0, 7, 4]
abbrev dktX14_literal_3 : List UInt8 := dkwX14_literal_3 ++ dktX14_literal_4
def dkwX14_literal_2 : List UInt8 := [160, 0, 9, 17, 0, 255, 167, 0, 4, 3, 182, 2, 176, 21, 5, 16, 106, 159, 0, 10, 21, 5, 16, 67]
abbrev dktX14_literal_2 : List UInt8 := dkwX14_literal_2 ++ dktX14_literal_3
def dkwX14_literal_1 : List UInt8 := [180, 0, 148, 27, 46, 54, 5, 42, 3, 181, 2, 170, 21, 4, 154, 0, 41, 42, 21, 5, 16, 106]
abbrev dktX14_literal_1 : List UInt8 := dkwX14_literal_1 ++ dktX14_literal_2
def dkwX14_literal_0 : List UInt8 := [42, 180, 0, 166, 27, 46, 61, 42, 28, 182, 2, 100, 62, 42, 180, 0, 42, 29, 46, 54, 4, 42]
abbrev dktX14_literal_0 : List UInt8 := dkwX14_literal_0 ++ dktX14_literal_1
theorem dksX14_literal_0 : cX14_literal.data.toList.drop 0 = dktX14_literal_0 := by decide +kernel
theorem dksX14_literal_1 : cX14_literal.data.toList.drop 22 = dktX14_literal_1 := dk_seg dksX14_literal_0 22 rfl rfl
theorem dksX14_literal_2 : cX14_literal.data.toList.drop 44 = dktX14_literal_2 := dk_seg dksX14_literal_1 22 rfl rfl
theorem dksX14_literal_3 : cX14_literal.data.toList.drop 68 = dktX14_literal_3 := dk_seg dksX14_literal_2 24 rfl rfl
theorem dksX14_literal_4 : cX14_literal.data.toList.drop 91 = dktX14_literal_4 := dk_seg dksX14_literal_3 23 rfl rfl
theorem dksX14_literal_5 : cX14_literal.data.toList.drop 115 = dktX14_literal_5 := dk_seg dksX14_literal_4 24 rfl rfl
theorem dksX14_literal_6 : cX14_literal.data.toList.drop 137 = dktX14_literal_6 := dk_seg dksX14_literal_5 22 rfl rfl
theorem dksX14_literal_7 : cX14_literal.data.toList.drop 160 = dktX14_literal_7 := dk_seg dksX14_literal_6 23 rfl rfl
theorem dksX14_literal_8 : cX14_literal.data.toList.drop 182 = dktX14_literal_8 := dk_seg dksX14_literal_7 22 rfl rfl
theorem dksX14_literal_9 : cX14_literal.data.toList.drop 204 = dktX14_literal_9 := dk_seg dksX14_literal_8 22 rfl rfl
theorem dksX14_literal_10 : cX14_literal.data.toList.drop 228 = dktX14_literal_10 := dk_seg dksX14_literal_9 24 rfl rfl
theorem dksX14_literal_11 : cX14_literal.data.toList.drop 251 = dktX14_literal_11 := dk_seg dksX14_literal_10 23 rfl rfl
theorem dksX14_literal_12 : cX14_literal.data.toList.drop 275 = dktX14_literal_12 := dk_seg dksX14_literal_11 24 rfl rfl
theorem dksX14_literal_13 : cX14_literal.data.toList.drop 299 = dktX14_literal_13 := dk_seg dksX14_literal_12 24 rfl rfl
theorem dksX14_literal_14 : cX14_literal.data.toList.drop 323 = dktX14_literal_14 := dk_seg dksX14_literal_13 24 rfl rfl
theorem dksX14_literal_15 : cX14_literal.data.toList.drop 347 = dktX14_literal_15 := dk_seg dksX14_literal_14 24 rfl rfl
theorem dksX14_literal_16 : cX14_literal.data.toList.drop 370 = dktX14_literal_16 := dk_seg dksX14_literal_15 23 rfl rfl
theorem dksX14_literal_17 : cX14_literal.data.toList.drop 392 = dktX14_literal_17 := dk_seg dksX14_literal_16 22 rfl rfl
theorem dksX14_literal_18 : cX14_literal.data.toList.drop 416 = dktX14_literal_18 := dk_seg dksX14_literal_17 24 rfl rfl
theorem dksX14_literal_19 : cX14_literal.data.toList.drop 440 = dktX14_literal_19 := dk_seg dksX14_literal_18 24 rfl rfl
theorem dksX14_literal_20 : cX14_literal.data.toList.drop 462 = dktX14_literal_20 := dk_seg dksX14_literal_19 22 rfl rfl
theorem dksX14_literal_21 : cX14_literal.data.toList.drop 486 = dktX14_literal_21 := dk_seg dksX14_literal_20 24 rfl rfl
theorem dksX14_literal_22 : cX14_literal.data.toList.drop 510 = dktX14_literal_22 := dk_seg dksX14_literal_21 24 rfl rfl
theorem dX14_literal_0 : decode cX14_literal 0 = .ok (.aload_n 0, 1) := dk_42 (dk_at dksX14_literal_0 0 rfl rfl)
theorem dX14_literal_1 : decode cX14_literal 1 = .ok (.getfield 166, 3) := dk_180 0 166 (dk_at dksX14_literal_0 1 rfl rfl)
theorem dX14_literal_4 : decode cX14_literal 4 = .ok (.iload_n 1, 1) := dk_27 (dk_at dksX14_literal_0 4 rfl rfl)
theorem dX14_literal_5 : decode cX14_literal 5 = .ok (.iaload, 1) := dk_46 (dk_at dksX14_literal_0 5 rfl rfl)
theorem dX14_literal_6 : decode cX14_literal 6 = .ok (.istore_n 2, 1) := dk_61 (dk_at dksX14_literal_0 6 rfl rfl)
theorem dX14_literal_7 : decode cX14_literal 7 = .ok (.aload_n 0, 1) := dk_42 (dk_at dksX14_literal_0 7 rfl rfl)
theorem dX14_literal_8 : decode cX14_literal 8 = .ok (.iload_n 2, 1) := dk_28 (dk_at dksX14_literal_0 8 rfl rfl)
theorem dX14_literal_9 : decode cX14_literal 9 = .ok (.invokevirtual 612, 3) := dk_182 2 100 (dk_at dksX14_literal_0 9 rfl rfl)
theorem dX14_literal_12 : decode cX14_literal 12 = .ok (.istore_n 3, 1) := dk_62 (dk_at dksX14_literal_0 12 rfl rfl)
theorem dX14_literal_13 : decode cX14_literal 13 = .ok (.aload_n 0, 1) := dk_42 (dk_at dksX14_literal_0 13 rfl rfl)
theorem dX14_literal_14 : decode cX14_literal 14 = .ok (.getfield 42, 3) := dk_180 0 42 (dk_at dksX14_literal_0 14 rfl rfl)
theorem dX14_literal_17 : decode cX14_literal 17 = .ok (.iload_n 3, 1) := dk_29 (dk_at dksX14_literal_0 17 rfl rfl)
theorem dX14_literal_18 : decode cX14_literal 18 = .ok (.iaload, 1) := dk_46 (dk_at dksX14_literal_0 18 rfl rfl)
theorem dX14_literal_19 : decode cX14_literal 19 = .ok (.istore 4, 2) := dk_54 4 (dk_at dksX14_literal_0 19 rfl rfl)
theorem dX14_literal_21 : decode cX14_literal 21 = .ok (.aload_n 0, 1) := dk_42 (dk_at dksX14_literal_0 21 rfl rfl)
theorem dX14_literal_22 : decode cX14_literal 22 = .ok (.getfield 148, 3) := dk_180 0 148 (dk_at dksX14_literal_1 0 rfl rfl)
theorem dX14_literal_25 : decode cX14_literal 25 = .ok (.iload_n 1, 1) := dk_27 (dk_at dksX14_literal_1 3 rfl rfl)
theorem dX14_literal_26 : decode cX14_literal 26 = .ok (.iaload, 1) := dk_46 (dk_at dksX14_literal_1 4 rfl rfl)
theorem dX14_literal_27 : decode cX14_literal 27 = .ok (.istore 5, 2) := dk_54 5 (dk_at dksX14_literal_1 5 rfl rfl)
theorem dX14_literal_29 : decode cX14_literal 29 = .ok (.aload_n 0, 1) := dk_42 (dk_at dksX14_literal_1 7 rfl rfl)
theorem dX14_literal_30 : decode cX14_literal 30 = .ok (.iconst 0, 1) := dk_3 (dk_at dksX14_literal_1 8 rfl rfl)
theorem dX14_literal_31 : decode cX14_literal 31 = .ok (.putfield 682, 3) := dk_181 2 170 (dk_at dksX14_literal_1 9 rfl rfl)
theorem dX14_literal_34 : decode cX14_literal 34 = .ok (.iload 4, 2) := dk_21 4 (dk_at dksX14_literal_1 12 rfl rfl)
theorem dX14_literal_36 : decode cX14_literal 36 = .ok (.ifCond .ne 41, 3) := dk_154 0 41 (dk_at dksX14_literal_1 14 rfl rfl)
theorem dX14_literal_39 : decode cX14_literal 39 = .ok (.aload_n 0, 1) := dk_42 (dk_at dksX14_literal_1 17 rfl rfl)
theorem dX14_literal_40 : decode cX14_literal 40 = .ok (.iload 5, 2) := dk_21 5 (dk_at dksX14_literal_1 18 rfl rfl)
theorem dX14_literal_42 : decode cX14_literal 42 = .ok (.bipush 106, 2) := dk_16 106 (dk_at dksX14_literal_1 20 rfl rfl)
theorem dX14_literal_44 : decode cX14_literal 44 = .ok (.if_icmp .ne 9, 3) := dk_160 0 9 (dk_at dksX14_literal_2 0 rfl rfl)
theorem dX14_literal_47 : decode cX14_literal 47 = .ok (.sipush 255, 3) := dk_17 0 255 (dk_at dksX14_literal_2 3 rfl rfl)
theorem dX14_literal_50 : decode cX14_literal 50 = .ok (.goto 4, 3) := dk_167 0 4 (dk_at dksX14_literal_2 6 rfl rfl)
theorem dX14_literal_53 : decode cX14_literal 53 = .ok (.iconst 0, 1) := dk_3 (dk_at dksX14_literal_2 9 rfl rfl)
theorem dX14_literal_54 : decode cX14_literal 54 = .ok (.invokevirtual 688, 3) := dk_182 2 176 (dk_at dksX14_literal_2 10 rfl rfl)
theorem dX14_literal_57 : decode cX14_literal 57 = .ok (.iload 5, 2) := dk_21 5 (dk_at dksX14_literal_2 13 rfl rfl)
theorem dX14_literal_59 : decode cX14_literal 59 = .ok (.bipush 106, 2) := dk_16 106 (dk_at dksX14_literal_2 15 rfl rfl)
theorem dX14_literal_61 : decode cX14_literal 61 = .ok (.if_icmp .eq 10, 3) := dk_159 0 10 (dk_at dksX14_literal_2 17 rfl rfl)
theorem dX14_literal_64 : decode cX14_literal 64 = .ok (.iload 5, 2) := dk_21 5 (dk_at dksX14_literal_2 20 rfl rfl)
theorem dX14_literal_66 : decode cX14_literal 66 = .ok (.bipush 67, 2) := dk_16 67 (dk_at dksX14_literal_2 22 rfl rfl)
theorem dX14_literal_68 : decode cX14_literal 68 = .ok (.if_icmp .ne 7, 3) := dk_160 0 7 (dk_at dksX14_literal_3 0 rfl rfl)
theorem dX14_literal_71 : decode cX14_literal 71 = .ok (.iconst 1, 1) := dk_4 (dk_at dksX14_literal_3 3 rfl rfl)
theorem dX14_literal_72 : decode cX14_literal 72 = .ok (.goto 4, 3) := dk_167 0 4 (dk_at dksX14_literal_3 4 rfl rfl)
theorem dX14_literal_75 : decode cX14_literal 75 = .ok (.iconst 0, 1) := dk_3 (dk_at dksX14_literal_3 7 rfl rfl)
theorem dX14_literal_76 : decode cX14_literal 76 = .ok (.ireturn, 1) := dk_172 (dk_at dksX14_literal_3 8 rfl rfl)
theorem dX14_literal_77 : decode cX14_literal 77 = .ok (.iload 4, 2) := dk_21 4 (dk_at dksX14_literal_3 9 rfl rfl)
theorem dX14_literal_79 : decode cX14_literal 79 = .ok (.iconst 1, 1) := dk_4 (dk_at dksX14_literal_3 11 rfl rfl)
theorem dX14_literal_80 : decode cX14_literal 80 = .ok (.if_icmp .ne 16, 3) := dk_160 0 16 (dk_at dksX14_literal_3 12 rfl rfl)
theorem dX14_literal_83 : decode cX14_literal 83 = .ok (.iload 5, 2) := dk_21 5 (dk_at dksX14_literal_3 15 rfl rfl)
theorem dX14_literal_85 : decode cX14_literal 85 = .ok (.bipush 85, 2) := dk_16 85 (dk_at dksX14_literal_3 17 rfl rfl)
theorem dX14_literal_87 : decode cX14_literal 87 = .ok (.if_icmp .ne 7, 3) := dk_160 0 7 (dk_at dksX14_literal_3 19 rfl rfl)
theorem dX14_literal_90 : decode cX14_literal 90 = .ok (.iconst 1, 1) := dk_4 (dk_at dksX14_literal_3 22 rfl rfl)
theorem dX14_literal_91 : decode cX14_literal 91 = .ok (.goto 4, 3) := dk_167 0 4 (dk_at dksX14_literal_4 0 rfl rfl)
theorem dX14_literal_94 : decode cX14_literal 94 = .ok (.iconst 0, 1) := dk_3 (dk_at dksX14_literal_4 3 rfl rfl)
theorem dX14_literal_95 : decode cX14_literal 95 = .ok (.ireturn, 1) := dk_172 (dk_at dksX14_literal_4 4 rfl rfl)
theorem dX14_literal_96 : decode cX14_literal 96 = .ok (.iload 4, 2) := dk_21 4 (dk_at dksX14_literal_4 5 rfl rfl)
theorem dX14_literal_98 : decode cX14_literal 98 = .ok (.iconst 2, 1) := dk_5 (dk_at dksX14_literal_4 7 rfl rfl)
theorem dX14_literal_99 : decode cX14_literal 99 = .ok (.if_icmp .eq 9, 3) := dk_159 0 9 (dk_at dksX14_literal_4 8 rfl rfl)
theorem dX14_literal_102 : decode cX14_literal 102 = .ok (.iload 4, 2) := dk_21 4 (dk_at dksX14_literal_4 11 rfl rfl)
theorem dX14_literal_104 : decode cX14_literal 104 = .ok (.iconst 3, 1) := dk_6 (dk_at dksX14_literal_4 13 rfl rfl)
theorem dX14_literal_105 : decode cX14_literal 105 = .ok (.if_icmp .ne 111, 3) := dk_160 0 111 (dk_at dksX14_literal_4 14 rfl rfl)
theorem dX14_literal_108 : decode cX14_literal 108 = .ok (.iload 5, 2) := dk_21 5 (dk_at dksX14_literal_4 17 rfl rfl)
theorem dX14_literal_110 : decode cX14_literal 110 = .ok (.iconst 2, 1) := dk_5 (dk_at dksX14_literal_4 19 rfl rfl)
theorem dX14_literal_111 : decode cX14_literal 111 = .ok (.if_icmp .ne 17, 3) := dk_160 0 17 (dk_at dksX14_literal_4 20 rfl rfl)
theorem dX14_literal_114 : decode cX14_literal 114 = .ok (.aload_n 0, 1) := dk_42 (dk_at dksX14_literal_4 23 rfl rfl)
theorem dX14_literal_115 : decode cX14_literal 115 = .ok (.iload_n 3, 1) := dk_29 (dk_at dksX14_literal_5 0 rfl rfl)
theorem dX14_literal_116 : decode cX14_literal 116 = .ok (.aload_n 0, 1) := dk_42 (dk_at dksX14_literal_5 1 rfl rfl)
theorem dX14_literal_117 : decode cX14_literal 117 = .ok (.getfield 154, 3) := dk_180 0 154 (dk_at dksX14_literal_5 2 rfl rfl)
theorem dX14_literal_120 : decode cX14_literal 120 = .ok (.iload_n 1, 1) := dk_27 (dk_at dksX14_literal_5 5 rfl rfl)
theorem dX14_literal_121 : decode cX14_literal 121 = .ok (.iaload, 1) := dk_46 (dk_at dksX14_literal_5 6 rfl rfl)
theorem dX14_literal_122 : decode cX14_literal 122 = .ok (.invokevirtual 615, 3) := dk_182 2 103 (dk_at dksX14_literal_5 7 rfl rfl)
theorem dX14_literal_125 : decode cX14_literal 125 = .ok (.goto 4, 3) := dk_167 0 4 (dk_at dksX14_literal_5 10 rfl rfl)
theorem dX14_literal_128 : decode cX14_literal 128 = .ok (.iconst (-1), 1) := dk_2 (dk_at dksX14_literal_5 13 rfl rfl)
theorem dX14_literal_129 : decode cX14_literal 129 = .ok (.istore 6, 2) := dk_54 6 (dk_at dksX14_literal_5 14 rfl rfl)
theorem dX14_literal_131 : decode cX14_literal 131 = .ok (.iload 6, 2) := dk_21 6 (dk_at dksX14_literal_5 16 rfl rfl)
theorem dX14_literal_133 : decode cX14_literal 133 = .ok (.ifCond .lt 13, 3) := dk_155 0 13 (dk_at dksX14_literal_5 18 rfl rfl)
theorem dX14_literal_136 : decode cX14_literal 136 = .ok (.aload_n 0, 1) := dk_42 (dk_at dksX14_literal_5 21 rfl rfl)
theorem dX14_literal_137 : decode cX14_literal 137 = .ok (.getfield 97, 3) := dk_180 0 97 (dk_at dksX14_literal_6 0 rfl rfl)
theorem dX14_literal_140 : decode cX14_literal 140 = .ok (.iload 6, 2) := dk_21 6 (dk_at dksX14_literal_6 3 rfl rfl)
theorem dX14_literal_142 : decode cX14_literal 142 = .ok (.iaload, 1) := dk_46 (dk_at dksX14_literal_6 5 rfl rfl)
theorem dX14_literal_143 : decode cX14_literal 143 = .ok (.goto 35, 3) := dk_167 0 35 (dk_at dksX14_literal_6 6 rfl rfl)
theorem dX14_literal_146 : decode cX14_literal 146 = .ok (.iload 5, 2) := dk_21 5 (dk_at dksX14_literal_6 9 rfl rfl)
theorem dX14_literal_148 : decode cX14_literal 148 = .ok (.iconst 3, 1) := dk_6 (dk_at dksX14_literal_6 11 rfl rfl)
theorem dX14_literal_149 : decode cX14_literal 149 = .ok (.if_icmp .ne 28, 3) := dk_160 0 28 (dk_at dksX14_literal_6 12 rfl rfl)
theorem dX14_literal_152 : decode cX14_literal 152 = .ok (.iload 4, 2) := dk_21 4 (dk_at dksX14_literal_6 15 rfl rfl)
theorem dX14_literal_154 : decode cX14_literal 154 = .ok (.iconst 2, 1) := dk_5 (dk_at dksX14_literal_6 17 rfl rfl)
theorem dX14_literal_155 : decode cX14_literal 155 = .ok (.if_icmp .ne 22, 3) := dk_160 0 22 (dk_at dksX14_literal_6 18 rfl rfl)
theorem dX14_literal_158 : decode cX14_literal 158 = .ok (.aload_n 0, 1) := dk_42 (dk_at dksX14_literal_6 21 rfl rfl)
theorem dX14_literal_159 : decode cX14_literal 159 = .ok (.aload_n 0, 1) := dk_42 (dk_at dksX14_literal_6 22 rfl rfl)
theorem dX14_literal_160 : decode cX14_literal 160 = .ok (.getfield 154, 3) := dk_180 0 154 (dk_at dksX14_literal_7 0 rfl rfl)
theorem dX14_literal_163 : decode cX14_literal 163 = .ok (.iload_n 1, 1) := dk_27 (dk_at dksX14_literal_7 3 rfl rfl)
theorem dX14_literal_164 : decode cX14_literal 164 = .ok (.iaload, 1) := dk_46 (dk_at dksX14_literal_7 4 rfl rfl)
theorem dX14_literal_165 : decode cX14_literal 165 = .ok (.aload_n 0, 1) := dk_42 (dk_at dksX14_literal_7 5 rfl rfl)
theorem dX14_literal_166 : decode cX14_literal 166 = .ok (.getfield 157, 3) := dk_180 0 157 (dk_at dksX14_literal_7 6 rfl rfl)
theorem dX14_literal_169 : decode cX14_literal 169 = .ok (.iload_n 1, 1) := dk_27 (dk_at dksX14_literal_7 9 rfl rfl)
theorem dX14_literal_170 : decode cX14_literal 170 = .ok (.baload, 1) := dk_51 (dk_at dksX14_literal_7 10 rfl rfl)
theorem dX14_literal_171 : decode cX14_literal 171 = .ok (.invokevirtual 529, 3) := dk_182 2 17 (dk_at dksX14_literal_7 11 rfl rfl)
theorem dX14_literal_174 : decode cX14_literal 174 = .ok (.goto 4, 3) := dk_167 0 4 (dk_at dksX14_literal_7 14 rfl rfl)
theorem dX14_literal_177 : decode cX14_literal 177 = .ok (.iconst (-1), 1) := dk_2 (dk_at dksX14_literal_7 17 rfl rfl)
theorem dX14_literal_178 : decode cX14_literal 178 = .ok (.istore 7, 2) := dk_54 7 (dk_at dksX14_literal_7 18 rfl rfl)
theorem dX14_literal_180 : decode cX14_literal 180 = .ok (.iload 7, 2) := dk_21 7 (dk_at dksX14_literal_7 20 rfl rfl)
theorem dX14_literal_182 : decode cX14_literal 182 = .ok (.ifCond .ge 5, 3) := dk_156 0 5 (dk_at dksX14_literal_8 0 rfl rfl)
theorem dX14_literal_185 : decode cX14_literal 185 = .ok (.iconst 0, 1) := dk_3 (dk_at dksX14_literal_8 3 rfl rfl)
theorem dX14_literal_186 : decode cX14_literal 186 = .ok (.ireturn, 1) := dk_172 (dk_at dksX14_literal_8 4 rfl rfl)
theorem dX14_literal_187 : decode cX14_literal 187 = .ok (.aload_n 0, 1) := dk_42 (dk_at dksX14_literal_8 5 rfl rfl)
theorem dX14_literal_188 : decode cX14_literal 188 = .ok (.iload 7, 2) := dk_21 7 (dk_at dksX14_literal_8 6 rfl rfl)
theorem dX14_literal_190 : decode cX14_literal 190 = .ok (.invokevirtual 762, 3) := dk_182 2 250 (dk_at dksX14_literal_8 8 rfl rfl)
theorem dX14_literal_193 : decode cX14_literal 193 = .ok (.iload 4, 2) := dk_21 4 (dk_at dksX14_literal_8 11 rfl rfl)
theorem dX14_literal_195 : decode cX14_literal 195 = .ok (.iconst 3, 1) := dk_6 (dk_at dksX14_literal_8 13 rfl rfl)
theorem dX14_literal_196 : decode cX14_literal 196 = .ok (.if_icmp .eq 14, 3) := dk_159 0 14 (dk_at dksX14_literal_8 14 rfl rfl)
theorem dX14_literal_199 : decode cX14_literal 199 = .ok (.aload_n 0, 1) := dk_42 (dk_at dksX14_literal_8 17 rfl rfl)
theorem dX14_literal_200 : decode cX14_literal 200 = .ok (.iload_n 2, 1) := dk_28 (dk_at dksX14_literal_8 18 rfl rfl)
theorem dX14_literal_201 : decode cX14_literal 201 = .ok (.iload 7, 2) := dk_21 7 (dk_at dksX14_literal_8 19 rfl rfl)
theorem dX14_literal_203 : decode cX14_literal 203 = .ok (.iconst 0, 1) := dk_3 (dk_at dksX14_literal_8 21 rfl rfl)
theorem dX14_literal_204 : decode cX14_literal 204 = .ok (.invokevirtual 678, 3) := dk_182 2 166 (dk_at dksX14_literal_9 0 rfl rfl)
theorem dX14_literal_207 : decode cX14_literal 207 = .ok (.ifCond .eq 7, 3) := dk_153 0 7 (dk_at dksX14_literal_9 3 rfl rfl)
theorem dX14_literal_210 : decode cX14_literal 210 = .ok (.iconst 1, 1) := dk_4 (dk_at dksX14_literal_9 6 rfl rfl)
theorem dX14_literal_211 : decode cX14_literal 211 = .ok (.goto 4, 3) := dk_167 0 4 (dk_at dksX14_literal_9 7 rfl rfl)
theorem dX14_literal_214 : decode cX14_literal 214 = .ok (.iconst 0, 1) := dk_3 (dk_at dksX14_literal_9 10 rfl rfl)
theorem dX14_literal_215 : decode cX14_literal 215 = .ok (.ireturn, 1) := dk_172 (dk_at dksX14_literal_9 11 rfl rfl)
theorem dX14_literal_216 : decode cX14_literal 216 = .ok (.iload 4, 2) := dk_21 4 (dk_at dksX14_literal_9 12 rfl rfl)
theorem dX14_literal_218 : decode cX14_literal 218 = .ok (.iconst 4, 1) := dk_7 (dk_at dksX14_literal_9 14 rfl rfl)
theorem dX14_literal_219 : decode cX14_literal 219 = .ok (.if_icmp .ne 68, 3) := dk_160 0 68 (dk_at dksX14_literal_9 15 rfl rfl)
theorem dX14_literal_222 : decode cX14_literal 222 = .ok (.iload 5, 2) := dk_21 5 (dk_at dksX14_literal_9 18 rfl rfl)
theorem dX14_literal_224 : decode cX14_literal 224 = .ok (.iconst 4, 1) := dk_7 (dk_at dksX14_literal_9 20 rfl rfl)
theorem dX14_literal_225 : decode cX14_literal 225 = .ok (.if_icmp .eq 9, 3) := dk_159 0 9 (dk_at dksX14_literal_9 21 rfl rfl)
theorem dX14_literal_228 : decode cX14_literal 228 = .ok (.iload 5, 2) := dk_21 5 (dk_at dksX14_literal_10 0 rfl rfl)
theorem dX14_literal_230 : decode cX14_literal 230 = .ok (.iconst 5, 1) := dk_8 (dk_at dksX14_literal_10 2 rfl rfl)
theorem dX14_literal_231 : decode cX14_literal 231 = .ok (.if_icmp .ne 16, 3) := dk_160 0 16 (dk_at dksX14_literal_10 3 rfl rfl)
theorem dX14_literal_234 : decode cX14_literal 234 = .ok (.aload_n 0, 1) := dk_42 (dk_at dksX14_literal_10 6 rfl rfl)
theorem dX14_literal_235 : decode cX14_literal 235 = .ok (.aload_n 0, 1) := dk_42 (dk_at dksX14_literal_10 7 rfl rfl)
theorem dX14_literal_236 : decode cX14_literal 236 = .ok (.getfield 154, 3) := dk_180 0 154 (dk_at dksX14_literal_10 8 rfl rfl)
theorem dX14_literal_239 : decode cX14_literal 239 = .ok (.iload_n 1, 1) := dk_27 (dk_at dksX14_literal_10 11 rfl rfl)
theorem dX14_literal_240 : decode cX14_literal 240 = .ok (.iaload, 1) := dk_46 (dk_at dksX14_literal_10 12 rfl rfl)
theorem dX14_literal_241 : decode cX14_literal 241 = .ok (.invokevirtual 765, 3) := dk_182 2 253 (dk_at dksX14_literal_10 13 rfl rfl)
theorem dX14_literal_244 : decode cX14_literal 244 = .ok (.goto 21, 3) := dk_167 0 21 (dk_at dksX14_literal_10 16 rfl rfl)
theorem dX14_literal_247 : decode cX14_literal 247 = .ok (.iload 5, 2) := dk_21 5 (dk_at dksX14_literal_10 19 rfl rfl)
theorem dX14_literal_249 : decode cX14_literal 249 = .ok (.bipush 12, 2) := dk_16 12 (dk_at dksX14_literal_10 21 rfl rfl)
theorem dX14_literal_251 : decode cX14_literal 251 = .ok (.if_icmp .ne 12, 3) := dk_160 0 12 (dk_at dksX14_literal_11 0 rfl rfl)
theorem dX14_literal_254 : decode cX14_literal 254 = .ok (.aload_n 0, 1) := dk_42 (dk_at dksX14_literal_11 3 rfl rfl)
theorem dX14_literal_255 : decode cX14_literal 255 = .ok (.iload_n 1, 1) := dk_27 (dk_at dksX14_literal_11 4 rfl rfl)
theorem dX14_literal_256 : decode cX14_literal 256 = .ok (.iload_n 3, 1) := dk_29 (dk_at dksX14_literal_11 5 rfl rfl)
theorem dX14_literal_257 : decode cX14_literal 257 = .ok (.invokevirtual 768, 3) := dk_182 3 0 (dk_at dksX14_literal_11 6 rfl rfl)
theorem dX14_literal_260 : decode cX14_literal 260 = .ok (.ifCond .ne 5, 3) := dk_154 0 5 (dk_at dksX14_literal_11 9 rfl rfl)
theorem dX14_literal_263 : decode cX14_literal 263 = .ok (.iconst 0, 1) := dk_3 (dk_at dksX14_literal_11 12 rfl rfl)
theorem dX14_literal_264 : decode cX14_literal 264 = .ok (.ireturn, 1) := dk_172 (dk_at dksX14_literal_11 13 rfl rfl)
theorem dX14_literal_265 : decode cX14_literal 265 = .ok (.aload_n 0, 1) := dk_42 (dk_at dksX14_literal_11 14 rfl rfl)
theorem dX14_literal_266 : decode cX14_literal 266 = .ok (.iload_n 2, 1) := dk_28 (dk_at dksX14_literal_11 15 rfl rfl)
theorem dX14_literal_267 : decode cX14_literal 267 = .ok (.invokevirtual 771, 3) := dk_182 3 3 (dk_at dksX14_literal_11 16 rfl rfl)
theorem dX14_literal_270 : decode cX14_literal 270 = .ok (.ifCond .eq 15, 3) := dk_153 0 15 (dk_at dksX14_literal_11 19 rfl rfl)
theorem dX14_literal_273 : decode cX14_literal 273 = .ok (.aload_n 0, 1) := dk_42 (dk_at dksX14_literal_11 22 rfl rfl)
theorem dX14_literal_274 : decode cX14_literal 274 = .ok (.iload_n 3, 1) := dk_29 (dk_at dksX14_literal_11 23 rfl rfl)
theorem dX14_literal_275 : decode cX14_literal 275 = .ok (.invokevirtual 774, 3) := dk_182 3 6 (dk_at dksX14_literal_12 0 rfl rfl)
theorem dX14_literal_278 : decode cX14_literal 278 = .ok (.ifCond .eq 7, 3) := dk_153 0 7 (dk_at dksX14_literal_12 3 rfl rfl)
theorem dX14_literal_281 : decode cX14_literal 281 = .ok (.iconst 1, 1) := dk_4 (dk_at dksX14_literal_12 6 rfl rfl)
theorem dX14_literal_282 : decode cX14_literal 282 = .ok (.goto 4, 3) := dk_167 0 4 (dk_at dksX14_literal_12 7 rfl rfl)
theorem dX14_literal_285 : decode cX14_literal 285 = .ok (.iconst 0, 1) := dk_3 (dk_at dksX14_literal_12 10 rfl rfl)
theorem dX14_literal_286 : decode cX14_literal 286 = .ok (.ireturn, 1) := dk_172 (dk_at dksX14_literal_12 11 rfl rfl)
theorem dX14_literal_287 : decode cX14_literal 287 = .ok (.iload 4, 2) := dk_21 4 (dk_at dksX14_literal_12 12 rfl rfl)
theorem dX14_literal_289 : decode cX14_literal 289 = .ok (.iconst 5, 1) := dk_8 (dk_at dksX14_literal_12 14 rfl rfl)
theorem dX14_literal_290 : decode cX14_literal 290 = .ok (.if_icmp .ne 115, 3) := dk_160 0 115 (dk_at dksX14_literal_12 15 rfl rfl)
theorem dX14_literal_293 : decode cX14_literal 293 = .ok (.iload 5, 2) := dk_21 5 (dk_at dksX14_literal_12 18 rfl rfl)
theorem dX14_literal_295 : decode cX14_literal 295 = .ok (.iconst 4, 1) := dk_7 (dk_at dksX14_literal_12 20 rfl rfl)
theorem dX14_literal_296 : decode cX14_literal 296 = .ok (.if_icmp .eq 11, 3) := dk_159 0 11 (dk_at dksX14_literal_12 21 rfl rfl)
theorem dX14_literal_299 : decode cX14_literal 299 = .ok (.iload 5, 2) := dk_21 5 (dk_at dksX14_literal_13 0 rfl rfl)
theorem dX14_literal_301 : decode cX14_literal 301 = .ok (.iconst 5, 1) := dk_8 (dk_at dksX14_literal_13 2 rfl rfl)
theorem dX14_literal_302 : decode cX14_literal 302 = .ok (.if_icmp .eq 5, 3) := dk_159 0 5 (dk_at dksX14_literal_13 3 rfl rfl)
theorem dX14_literal_305 : decode cX14_literal 305 = .ok (.iconst 0, 1) := dk_3 (dk_at dksX14_literal_13 6 rfl rfl)
theorem dX14_literal_306 : decode cX14_literal 306 = .ok (.ireturn, 1) := dk_172 (dk_at dksX14_literal_13 7 rfl rfl)
theorem dX14_literal_307 : decode cX14_literal 307 = .ok (.aload_n 0, 1) := dk_42 (dk_at dksX14_literal_13 8 rfl rfl)
theorem dX14_literal_308 : decode cX14_literal 308 = .ok (.aload_n 0, 1) := dk_42 (dk_at dksX14_literal_13 9 rfl rfl)
theorem dX14_literal_309 : decode cX14_literal 309 = .ok (.getfield 154, 3) := dk_180 0 154 (dk_at dksX14_literal_13 10 rfl rfl)
theorem dX14_literal_312 : decode cX14_literal 312 = .ok (.iload_n 1, 1) := dk_27 (dk_at dksX14_literal_13 13 rfl rfl)
theorem dX14_literal_313 : decode cX14_literal 313 = .ok (.iaload, 1) := dk_46 (dk_at dksX14_literal_13 14 rfl rfl)
theorem dX14_literal_314 : decode cX14_literal 314 = .ok (.invokevirtual 765, 3) := dk_182 2 253 (dk_at dksX14_literal_13 15 rfl rfl)
theorem dX14_literal_317 : decode cX14_literal 317 = .ok (.aload_n 0, 1) := dk_42 (dk_at dksX14_literal_13 18 rfl rfl)
theorem dX14_literal_318 : decode cX14_literal 318 = .ok (.getfield 685, 3) := dk_180 2 173 (dk_at dksX14_literal_13 19 rfl rfl)
theorem dX14_literal_321 : decode cX14_literal 321 = .ok (.bipush 8, 2) := dk_16 8 (dk_at dksX14_literal_13 22 rfl rfl)
theorem dX14_literal_323 : decode cX14_literal 323 = .ok (.irem, 1) := dk_112 (dk_at dksX14_literal_14 0 rfl rfl)
theorem dX14_literal_324 : decode cX14_literal 324 = .ok (.ifCond .le 11, 3) := dk_158 0 11 (dk_at dksX14_literal_14 1 rfl rfl)
theorem dX14_literal_327 : decode cX14_literal 327 = .ok (.aload_n 0, 1) := dk_42 (dk_at dksX14_literal_14 4 rfl rfl)
theorem dX14_literal_328 : decode cX14_literal 328 = .ok (.iconst 0, 1) := dk_3 (dk_at dksX14_literal_14 5 rfl rfl)
theorem dX14_literal_329 : decode cX14_literal 329 = .ok (.invokevirtual 700, 3) := dk_182 2 188 (dk_at dksX14_literal_14 6 rfl rfl)
theorem dX14_literal_332 : decode cX14_literal 332 = .ok (.goto (-15), 3) := dk_167 255 241 (dk_at dksX14_literal_14 9 rfl rfl)
theorem dX14_literal_335 : decode cX14_literal 335 = .ok (.iconst 0, 1) := dk_3 (dk_at dksX14_literal_14 12 rfl rfl)
theorem dX14_literal_336 : decode cX14_literal 336 = .ok (.istore 6, 2) := dk_54 6 (dk_at dksX14_literal_14 13 rfl rfl)
theorem dX14_literal_338 : decode cX14_literal 338 = .ok (.iload 6, 2) := dk_21 6 (dk_at dksX14_literal_14 15 rfl rfl)
theorem dX14_literal_340 : decode cX14_literal 340 = .ok (.aload_n 0, 1) := dk_42 (dk_at dksX14_literal_14 17 rfl rfl)
theorem dX14_literal_341 : decode cX14_literal 341 = .ok (.getfield 685, 3) := dk_180 2 173 (dk_at dksX14_literal_14 18 rfl rfl)
theorem dX14_literal_344 : decode cX14_literal 344 = .ok (.if_icmp .ge 51, 3) := dk_162 0 51 (dk_at dksX14_literal_14 21 rfl rfl)
theorem dX14_literal_347 : decode cX14_literal 347 = .ok (.iconst 0, 1) := dk_3 (dk_at dksX14_literal_15 0 rfl rfl)
theorem dX14_literal_348 : decode cX14_literal 348 = .ok (.istore 7, 2) := dk_54 7 (dk_at dksX14_literal_15 1 rfl rfl)
theorem dX14_literal_350 : decode cX14_literal 350 = .ok (.iconst 0, 1) := dk_3 (dk_at dksX14_literal_15 3 rfl rfl)
theorem dX14_literal_351 : decode cX14_literal 351 = .ok (.istore 8, 2) := dk_54 8 (dk_at dksX14_literal_15 4 rfl rfl)
theorem dX14_literal_353 : decode cX14_literal 353 = .ok (.iload 8, 2) := dk_21 8 (dk_at dksX14_literal_15 6 rfl rfl)
theorem dX14_literal_355 : decode cX14_literal 355 = .ok (.bipush 8, 2) := dk_16 8 (dk_at dksX14_literal_15 8 rfl rfl)
theorem dX14_literal_357 : decode cX14_literal 357 = .ok (.if_icmp .ge 26, 3) := dk_162 0 26 (dk_at dksX14_literal_15 10 rfl rfl)
theorem dX14_literal_360 : decode cX14_literal 360 = .ok (.iload 7, 2) := dk_21 7 (dk_at dksX14_literal_15 13 rfl rfl)
theorem dX14_literal_362 : decode cX14_literal 362 = .ok (.iconst 1, 1) := dk_4 (dk_at dksX14_literal_15 15 rfl rfl)
theorem dX14_literal_363 : decode cX14_literal 363 = .ok (.ishl, 1) := dk_120 (dk_at dksX14_literal_15 16 rfl rfl)
theorem dX14_literal_364 : decode cX14_literal 364 = .ok (.aload_n 0, 1) := dk_42 (dk_at dksX14_literal_15 17 rfl rfl)
theorem dX14_literal_365 : decode cX14_literal 365 = .ok (.getfield 239, 3) := dk_180 0 239 (dk_at dksX14_literal_15 18 rfl rfl)
theorem dX14_literal_368 : decode cX14_literal 368 = .ok (.iload 6, 2) := dk_21 6 (dk_at dksX14_literal_15 21 rfl rfl)
theorem dX14_literal_370 : decode cX14_literal 370 = .ok (.iload 8, 2) := dk_21 8 (dk_at dksX14_literal_16 0 rfl rfl)
theorem dX14_literal_372 : decode cX14_literal 372 = .ok (.iadd, 1) := dk_96 (dk_at dksX14_literal_16 2 rfl rfl)
theorem dX14_literal_373 : decode cX14_literal 373 = .ok (.iaload, 1) := dk_46 (dk_at dksX14_literal_16 3 rfl rfl)
theorem dX14_literal_374 : decode cX14_literal 374 = .ok (.ior, 1) := dk_128 (dk_at dksX14_literal_16 4 rfl rfl)
theorem dX14_literal_375 : decode cX14_literal 375 = .ok (.istore 7, 2) := dk_54 7 (dk_at dksX14_literal_16 5 rfl rfl)
theorem dX14_literal_377 : decode cX14_literal 377 = .ok (.iinc 8 1, 3) := dk_132 8 1 (dk_at dksX14_literal_16 7 rfl rfl)
theorem dX14_literal_380 : decode cX14_literal 380 = .ok (.goto (-27), 3) := dk_167 255 229 (dk_at dksX14_literal_16 10 rfl rfl)
theorem dX14_literal_383 : decode cX14_literal 383 = .ok (.aload_n 0, 1) := dk_42 (dk_at dksX14_literal_16 13 rfl rfl)
theorem dX14_literal_384 : decode cX14_literal 384 = .ok (.iload 7, 2) := dk_21 7 (dk_at dksX14_literal_16 14 rfl rfl)
theorem dX14_literal_386 : decode cX14_literal 386 = .ok (.invokevirtual 688, 3) := dk_182 2 176 (dk_at dksX14_literal_16 16 rfl rfl)
theorem dX14_literal_389 : decode cX14_literal 389 = .ok (.iinc 6 8, 3) := dk_132 6 8 (dk_at dksX14_literal_16 19 rfl rfl)
theorem dX14_literal_392 : decode cX14_literal 392 = .ok (.goto (-54), 3) := dk_167 255 202 (dk_at dksX14_literal_17 0 rfl rfl)
theorem dX14_literal_395 : decode cX14_literal 395 = .ok (.aload_n 0, 1) := dk_42 (dk_at dksX14_literal_17 3 rfl rfl)
theorem dX14_literal_396 : decode cX14_literal 396 = .ok (.iload_n 2, 1) := dk_28 (dk_at dksX14_literal_17 4 rfl rfl)
theorem dX14_literal_397 : decode cX14_literal 397 = .ok (.aload_n 0, 1) := dk_42 (dk_at dksX14_literal_17 5 rfl rfl)
theorem dX14_literal_398 : decode cX14_literal 398 = .ok (.getfield 682, 3) := dk_180 2 170 (dk_at dksX14_literal_17 6 rfl rfl)
theorem dX14_literal_401 : decode cX14_literal 401 = .ok (.invokevirtual 694, 3) := dk_182 2 182 (dk_at dksX14_literal_17 9 rfl rfl)
theorem dX14_literal_404 : decode cX14_literal 404 = .ok (.ireturn, 1) := dk_172 (dk_at dksX14_literal_17 12 rfl rfl)
theorem dX14_literal_405 : decode cX14_literal 405 = .ok (.iload 4, 2) := dk_21 4 (dk_at dksX14_literal_17 13 rfl rfl)
theorem dX14_literal_407 : decode cX14_literal 407 = .ok (.bipush 6, 2) := dk_16 6 (dk_at dksX14_literal_17 15 rfl rfl)
theorem dX14_literal_409 : decode cX14_literal 409 = .ok (.if_icmp .ne 24, 3) := dk_160 0 24 (dk_at dksX14_literal_17 17 rfl rfl)
theorem dX14_literal_412 : decode cX14_literal 412 = .ok (.iload 5, 2) := dk_21 5 (dk_at dksX14_literal_17 20 rfl rfl)
theorem dX14_literal_414 : decode cX14_literal 414 = .ok (.bipush 12, 2) := dk_16 12 (dk_at dksX14_literal_17 22 rfl rfl)
theorem dX14_literal_416 : decode cX14_literal 416 = .ok (.if_icmp .ne 15, 3) := dk_160 0 15 (dk_at dksX14_literal_18 0 rfl rfl)
theorem dX14_literal_419 : decode cX14_literal 419 = .ok (.aload_n 0, 1) := dk_42 (dk_at dksX14_literal_18 3 rfl rfl)
theorem dX14_literal_420 : decode cX14_literal 420 = .ok (.iload_n 1, 1) := dk_27 (dk_at dksX14_literal_18 4 rfl rfl)
theorem dX14_literal_421 : decode cX14_literal 421 = .ok (.invokevirtual 777, 3) := dk_182 3 9 (dk_at dksX14_literal_18 5 rfl rfl)
theorem dX14_literal_424 : decode cX14_literal 424 = .ok (.ifCond .eq 7, 3) := dk_153 0 7 (dk_at dksX14_literal_18 8 rfl rfl)
theorem dX14_literal_427 : decode cX14_literal 427 = .ok (.iconst 1, 1) := dk_4 (dk_at dksX14_literal_18 11 rfl rfl)
theorem dX14_literal_428 : decode cX14_literal 428 = .ok (.goto 4, 3) := dk_167 0 4 (dk_at dksX14_literal_18 12 rfl rfl)
theorem dX14_literal_431 : decode cX14_literal 431 = .ok (.iconst 0, 1) := dk_3 (dk_at dksX14_literal_18 15 rfl rfl)
theorem dX14_literal_432 : decode cX14_literal 432 = .ok (.ireturn, 1) := dk_172 (dk_at dksX14_literal_18 16 rfl rfl)
theorem dX14_literal_433 : decode cX14_literal 433 = .ok (.iload 4, 2) := dk_21 4 (dk_at dksX14_literal_18 17 rfl rfl)
theorem dX14_literal_435 : decode cX14_literal 435 = .ok (.bipush 7, 2) := dk_16 7 (dk_at dksX14_literal_18 19 rfl rfl)
theorem dX14_literal_437 : decode cX14_literal 437 = .ok (.if_icmp .lt 34, 3) := dk_161 0 34 (dk_at dksX14_literal_18 21 rfl rfl)
theorem dX14_literal_440 : decode cX14_literal 440 = .ok (.iload 4, 2) := dk_21 4 (dk_at dksX14_literal_19 0 rfl rfl)
theorem dX14_literal_442 : decode cX14_literal 442 = .ok (.bipush 11, 2) := dk_16 11 (dk_at dksX14_literal_19 2 rfl rfl)
theorem dX14_literal_444 : decode cX14_literal 444 = .ok (.if_icmp .gt 27, 3) := dk_163 0 27 (dk_at dksX14_literal_19 4 rfl rfl)
theorem dX14_literal_447 : decode cX14_literal 447 = .ok (.iload 5, 2) := dk_21 5 (dk_at dksX14_literal_19 7 rfl rfl)
theorem dX14_literal_449 : decode cX14_literal 449 = .ok (.bipush 6, 2) := dk_16 6 (dk_at dksX14_literal_19 9 rfl rfl)
theorem dX14_literal_451 : decode cX14_literal 451 = .ok (.if_icmp .ne 18, 3) := dk_160 0 18 (dk_at dksX14_literal_19 11 rfl rfl)
theorem dX14_literal_454 : decode cX14_literal 454 = .ok (.aload_n 0, 1) := dk_42 (dk_at dksX14_literal_19 14 rfl rfl)
theorem dX14_literal_455 : decode cX14_literal 455 = .ok (.iload_n 1, 1) := dk_27 (dk_at dksX14_literal_19 15 rfl rfl)
theorem dX14_literal_456 : decode cX14_literal 456 = .ok (.iload_n 2, 1) := dk_28 (dk_at dksX14_literal_19 16 rfl rfl)
theorem dX14_literal_457 : decode cX14_literal 457 = .ok (.iload 4, 2) := dk_21 4 (dk_at dksX14_literal_19 17 rfl rfl)
theorem dX14_literal_459 : decode cX14_literal 459 = .ok (.invokevirtual 780, 3) := dk_182 3 12 (dk_at dksX14_literal_19 19 rfl rfl)
theorem dX14_literal_462 : decode cX14_literal 462 = .ok (.ifCond .eq 7, 3) := dk_153 0 7 (dk_at dksX14_literal_20 0 rfl rfl)
theorem dX14_literal_465 : decode cX14_literal 465 = .ok (.iconst 1, 1) := dk_4 (dk_at dksX14_literal_20 3 rfl rfl)
theorem dX14_literal_466 : decode cX14_literal 466 = .ok (.goto 4, 3) := dk_167 0 4 (dk_at dksX14_literal_20 4 rfl rfl)
theorem dX14_literal_469 : decode cX14_literal 469 = .ok (.iconst 0, 1) := dk_3 (dk_at dksX14_literal_20 7 rfl rfl)
theorem dX14_literal_470 : decode cX14_literal 470 = .ok (.ireturn, 1) := dk_172 (dk_at dksX14_literal_20 8 rfl rfl)
theorem dX14_literal_471 : decode cX14_literal 471 = .ok (.iload 4, 2) := dk_21 4 (dk_at dksX14_literal_20 9 rfl rfl)
theorem dX14_literal_473 : decode cX14_literal 473 = .ok (.bipush 16, 2) := dk_16 16 (dk_at dksX14_literal_20 11 rfl rfl)
theorem dX14_literal_475 : decode cX14_literal 475 = .ok (.if_icmp .eq 19, 3) := dk_159 0 19 (dk_at dksX14_literal_20 13 rfl rfl)
theorem dX14_literal_478 : decode cX14_literal 478 = .ok (.iload 5, 2) := dk_21 5 (dk_at dksX14_literal_20 16 rfl rfl)
theorem dX14_literal_480 : decode cX14_literal 480 = .ok (.bipush 12, 2) := dk_16 12 (dk_at dksX14_literal_20 18 rfl rfl)
theorem dX14_literal_482 : decode cX14_literal 482 = .ok (.if_icmp .ne 12, 3) := dk_160 0 12 (dk_at dksX14_literal_20 20 rfl rfl)
theorem dX14_literal_485 : decode cX14_literal 485 = .ok (.aload_n 0, 1) := dk_42 (dk_at dksX14_literal_20 23 rfl rfl)
theorem dX14_literal_486 : decode cX14_literal 486 = .ok (.getfield 163, 3) := dk_180 0 163 (dk_at dksX14_literal_21 0 rfl rfl)
theorem dX14_literal_489 : decode cX14_literal 489 = .ok (.iload_n 1, 1) := dk_27 (dk_at dksX14_literal_21 3 rfl rfl)
theorem dX14_literal_490 : decode cX14_literal 490 = .ok (.iaload, 1) := dk_46 (dk_at dksX14_literal_21 4 rfl rfl)
theorem dX14_literal_491 : decode cX14_literal 491 = .ok (.ifCond .le 5, 3) := dk_158 0 5 (dk_at dksX14_literal_21 5 rfl rfl)
theorem dX14_literal_494 : decode cX14_literal 494 = .ok (.iconst 0, 1) := dk_3 (dk_at dksX14_literal_21 8 rfl rfl)
theorem dX14_literal_495 : decode cX14_literal 495 = .ok (.ireturn, 1) := dk_172 (dk_at dksX14_literal_21 9 rfl rfl)
theorem dX14_literal_496 : decode cX14_literal 496 = .ok (.iload 4, 2) := dk_21 4 (dk_at dksX14_literal_21 10 rfl rfl)
theorem dX14_literal_498 : decode cX14_literal 498 = .ok (.bipush 12, 2) := dk_16 12 (dk_at dksX14_literal_21 12 rfl rfl)
theorem dX14_literal_500 : decode cX14_literal 500 = .ok (.if_icmp .eq 10, 3) := dk_159 0 10 (dk_at dksX14_literal_21 14 rfl rfl)
theorem dX14_literal_503 : decode cX14_literal 503 = .ok (.iload 4, 2) := dk_21 4 (dk_at dksX14_literal_21 17 rfl rfl)
theorem dX14_literal_505 : decode cX14_literal 505 = .ok (.bipush 13, 2) := dk_16 13 (dk_at dksX14_literal_21 19 rfl rfl)
theorem dX14_literal_507 : decode cX14_literal 507 = .ok (.if_icmp .ne 11, 3) := dk_160 0 11 (dk_at dksX14_literal_21 21 rfl rfl)
theorem dX14_literal_510 : decode cX14_literal 510 = .ok (.aload_n 0, 1) := dk_42 (dk_at dksX14_literal_22 0 rfl rfl)
theorem dX14_literal_511 : decode cX14_literal 511 = .ok (.iload_n 3, 1) := dk_29 (dk_at dksX14_literal_22 1 rfl rfl)
theorem dX14_literal_512 : decode cX14_literal 512 = .ok (.invokevirtual 783, 3) := dk_182 3 15 (dk_at dksX14_literal_22 2 rfl rfl)
theorem dX14_literal_515 : decode cX14_literal 515 = .ok (.goto 9, 3) := dk_167 0 9 (dk_at dksX14_literal_22 5 rfl rfl)
theorem dX14_literal_518 : decode cX14_literal 518 = .ok (.aload_n 0, 1) := dk_42 (dk_at dksX14_literal_22 8 rfl rfl)
theorem dX14_literal_519 : decode cX14_literal 519 = .ok (.iload_n 2, 1) := dk_28 (dk_at dksX14_literal_22 9 rfl rfl)
theorem dX14_literal_520 : decode cX14_literal 520 = .ok (.iconst 0, 1) := dk_3 (dk_at dksX14_literal_22 10 rfl rfl)
theorem dX14_literal_521 : decode cX14_literal 521 = .ok (.invokevirtual 694, 3) := dk_182 2 182 (dk_at dksX14_literal_22 11 rfl rfl)
theorem dX14_literal_524 : decode cX14_literal 524 = .ok (.ireturn, 1) := dk_172 (dk_at dksX14_literal_22 14 rfl rfl)
abbrev cX14_say : ByteArray := prog_15_method_94_code
def yX14_say : MethodName := ⟨RX14, "say", "(I)V"⟩
def dkwX14_say_2 : List UInt8 := [181, 2, 170, 177]
abbrev dktX14_say_2 : List UInt8 := dkwX14_say_2 ++ []
def dkwX14_say_1 : List UInt8 := [184, 1, 120, 181, 0, 236, 42, 180, 0, 236, 42, 180, 2, 170, 27, 79, 42, 89, 180, 2, 170, 4, 96]
abbrev dktX14_say_1 : List UInt8 := dkwX14_say_1 ++ dktX14_say_2
def dkwX14_say_0 : List UInt8 := [42, 180, 2, 170, 42, 180, 0, 236, 190, 160, 0, 20, 42, 42, 180, 0, 236, 5, 42, 180, 2, 170, 104]
abbrev dktX14_say_0 : List UInt8 := dkwX14_say_0 ++ dktX14_say_1
theorem dksX14_say_0 : cX14_say.data.toList.drop 0 = dktX14_say_0 := by decide +kernel
theorem dksX14_say_1 : cX14_say.data.toList.drop 23 = dktX14_say_1 := dk_seg dksX14_say_0 23 rfl rfl
theorem dksX14_say_2 : cX14_say.data.toList.drop 46 = dktX14_say_2 := dk_seg dksX14_say_1 23 rfl rfl
theorem dX14_say_0 : decode cX14_say 0 = .ok (.aload_n 0, 1) := dk_42 (dk_at dksX14_say_0 0 rfl rfl)
theorem dX14_say_1 : decode cX14_say 1 = .ok (.getfield 682, 3) := dk_180 2 170 (dk_at dksX14_say_0 1 rfl rfl)
theorem dX14_say_4 : decode cX14_say 4 = .ok (.aload_n 0, 1) := dk_42 (dk_at dksX14_say_0 4 rfl rfl)
theorem dX14_say_5 : decode cX14_say 5 = .ok (.getfield 236, 3) := dk_180 0 236 (dk_at dksX14_say_0 5 rfl rfl)
theorem dX14_say_8 : decode cX14_say 8 = .ok (.arraylength, 1) := dk_190 (dk_at dksX14_say_0 8 rfl rfl)
theorem dX14_say_9 : decode cX14_say 9 = .ok (.if_icmp .ne 20, 3) := dk_160 0 20 (dk_at dksX14_say_0 9 rfl rfl)
theorem dX14_say_12 : decode cX14_say 12 = .ok (.aload_n 0, 1) := dk_42 (dk_at dksX14_say_0 12 rfl rfl)
theorem dX14_say_13 : decode cX14_say 13 = .ok (.aload_n 0, 1) := dk_42 (dk_at dksX14_say_0 13 rfl rfl)
theorem dX14_say_14 : decode cX14_say 14 = .ok (.getfield 236, 3) := dk_180 0 236 (dk_at dksX14_say_0 14 rfl rfl)
theorem dX14_say_17 : decode cX14_say 17 = .ok (.iconst 2, 1) := dk_5 (dk_at dksX14_say_0 17 rfl rfl)
theorem dX14_say_18 : decode cX14_say 18 = .ok (.aload_n 0, 1) := dk_42 (dk_at dksX14_say_0 18 rfl rfl)
theorem dX14_say_19 : decode cX14_say 19 = .ok (.getfield 682, 3) := dk_180 2 170 (dk_at dksX14_say_0 19 rfl rfl)
theorem dX14_say_22 : decode cX14_say 22 = .ok (.imul, 1) := dk_104 (dk_at dksX14_say_0 22 rfl rfl)
theorem dX14_say_23 : decode cX14_say 23 = .ok (.invokestatic 376, 3) := dk_184 1 120 (dk_at dksX14_say_1 0 rfl rfl)
theorem dX14_say_26 : decode cX14_say 26 = .ok (.putfield 236, 3) := dk_181 0 236 (dk_at dksX14_say_1 3 rfl rfl)
theorem dX14_say_29 : decode cX14_say 29 = .ok (.aload_n 0, 1) := dk_42 (dk_at dksX14_say_1 6 rfl rfl)
theorem dX14_say_30 : decode cX14_say 30 = .ok (.getfield 236, 3) := dk_180 0 236 (dk_at dksX14_say_1 7 rfl rfl)
theorem dX14_say_33 : decode cX14_say 33 = .ok (.aload_n 0, 1) := dk_42 (dk_at dksX14_say_1 10 rfl rfl)
theorem dX14_say_34 : decode cX14_say 34 = .ok (.getfield 682, 3) := dk_180 2 170 (dk_at dksX14_say_1 11 rfl rfl)
theorem dX14_say_37 : decode cX14_say 37 = .ok (.iload_n 1, 1) := dk_27 (dk_at dksX14_say_1 14 rfl rfl)
theorem dX14_say_38 : decode cX14_say 38 = .ok (.iastore, 1) := dk_79 (dk_at dksX14_say_1 15 rfl rfl)
theorem dX14_say_39 : decode cX14_say 39 = .ok (.aload_n 0, 1) := dk_42 (dk_at dksX14_say_1 16 rfl rfl)
theorem dX14_say_40 : decode cX14_say 40 = .ok (.dup, 1) := dk_89 (dk_at dksX14_say_1 17 rfl rfl)
theorem dX14_say_41 : decode cX14_say 41 = .ok (.getfield 682, 3) := dk_180 2 170 (dk_at dksX14_say_1 18 rfl rfl)
theorem dX14_say_44 : decode cX14_say 44 = .ok (.iconst 1, 1) := dk_4 (dk_at dksX14_say_1 21 rfl rfl)
theorem dX14_say_45 : decode cX14_say 45 = .ok (.iadd, 1) := dk_96 (dk_at dksX14_say_1 22 rfl rfl)
theorem dX14_say_46 : decode cX14_say 46 = .ok (.putfield 682, 3) := dk_181 2 170 (dk_at dksX14_say_2 0 rfl rfl)
theorem dX14_say_49 : decode cX14_say 49 = .ok (.return_, 1) := dk_177 (dk_at dksX14_say_2 3 rfl rfl)
abbrev cX14_sayNumber : ByteArray := prog_15_method_96_code
def yX14_sayNumber : MethodName := ⟨RX14, "sayNumber", "(I)V"⟩
def dkwX14_sayNumber_1 : List UInt8 := [96, 46, 182, 2, 176, 132, 2, 1, 167, 255, 226, 177]
abbrev dktX14_sayNumber_1 : List UInt8 := dkwX14_sayNumber_1 ++ []
def dkwX14_sayNumber_0 : List UInt8 := [3, 61, 28, 42, 180, 0, 196, 27, 46, 162, 0, 26, 42, 42, 180, 0, 199, 42, 180, 0, 193, 27, 46, 28]
abbrev dktX14_sayNumber_0 : List UInt8 := dkwX14_sayNumber_0 ++ dktX14_sayNumber_1
theorem dksX14_sayNumber_0 : cX14_sayNumber.data.toList.drop 0 = dktX14_sayNumber_0 := by decide +kernel
theorem dksX14_sayNumber_1 : cX14_sayNumber.data.toList.drop 24 = dktX14_sayNumber_1 := dk_seg dksX14_sayNumber_0 24 rfl rfl
theorem dX14_sayNumber_0 : decode cX14_sayNumber 0 = .ok (.iconst 0, 1) := dk_3 (dk_at dksX14_sayNumber_0 0 rfl rfl)
theorem dX14_sayNumber_1 : decode cX14_sayNumber 1 = .ok (.istore_n 2, 1) := dk_61 (dk_at dksX14_sayNumber_0 1 rfl rfl)
theorem dX14_sayNumber_2 : decode cX14_sayNumber 2 = .ok (.iload_n 2, 1) := dk_28 (dk_at dksX14_sayNumber_0 2 rfl rfl)
theorem dX14_sayNumber_3 : decode cX14_sayNumber 3 = .ok (.aload_n 0, 1) := dk_42 (dk_at dksX14_sayNumber_0 3 rfl rfl)
theorem dX14_sayNumber_4 : decode cX14_sayNumber 4 = .ok (.getfield 196, 3) := dk_180 0 196 (dk_at dksX14_sayNumber_0 4 rfl rfl)
theorem dX14_sayNumber_7 : decode cX14_sayNumber 7 = .ok (.iload_n 1, 1) := dk_27 (dk_at dksX14_sayNumber_0 7 rfl rfl)
theorem dX14_sayNumber_8 : decode cX14_sayNumber 8 = .ok (.iaload, 1) := dk_46 (dk_at dksX14_sayNumber_0 8 rfl rfl)
theorem dX14_sayNumber_9 : decode cX14_sayNumber 9 = .ok (.if_icmp .ge 26, 3) := dk_162 0 26 (dk_at dksX14_sayNumber_0 9 rfl rfl)
theorem dX14_sayNumber_12 : decode cX14_sayNumber 12 = .ok (.aload_n 0, 1) := dk_42 (dk_at dksX14_sayNumber_0 12 rfl rfl)
theorem dX14_sayNumber_13 : decode cX14_sayNumber 13 = .ok (.aload_n 0, 1) := dk_42 (dk_at dksX14_sayNumber_0 13 rfl rfl)
theorem dX14_sayNumber_14 : decode cX14_sayNumber 14 = .ok (.getfield 199, 3) := dk_180 0 199 (dk_at dksX14_sayNumber_0 14 rfl rfl)
theorem dX14_sayNumber_17 : decode cX14_sayNumber 17 = .ok (.aload_n 0, 1) := dk_42 (dk_at dksX14_sayNumber_0 17 rfl rfl)
theorem dX14_sayNumber_18 : decode cX14_sayNumber 18 = .ok (.getfield 193, 3) := dk_180 0 193 (dk_at dksX14_sayNumber_0 18 rfl rfl)
theorem dX14_sayNumber_21 : decode cX14_sayNumber 21 = .ok (.iload_n 1, 1) := dk_27 (dk_at dksX14_sayNumber_0 21 rfl rfl)
theorem dX14_sayNumber_22 : decode cX14_sayNumber 22 = .ok (.iaload, 1) := dk_46 (dk_at dksX14_sayNumber_0 22 rfl rfl)
theorem dX14_sayNumber_23 : decode cX14_sayNumber 23 = .ok (.iload_n 2, 1) := dk_28 (dk_at dksX14_sayNumber_0 23 rfl rfl)
theorem dX14_sayNumber_24 : decode cX14_sayNumber 24 = .ok (.iadd, 1) := dk_96 (dk_at dksX14_sayNumber_1 0 rfl rfl)
theorem dX14_sayNumber_25 : decode cX14_sayNumber 25 = .ok (.iaload, 1) := dk_46 (dk_at dksX14_sayNumber_1 1 rfl rfl)
theorem dX14_sayNumber_26 : decode cX14_sayNumber 26 = .ok (.invokevirtual 688, 3) := dk_182 2 176 (dk_at dksX14_sayNumber_1 2 rfl rfl)
theorem dX14_sayNumber_29 : decode cX14_sayNumber 29 = .ok (.iinc 2 1, 3) := dk_132 2 1 (dk_at dksX14_sayNumber_1 5 rfl rfl)
theorem dX14_sayNumber_32 : decode cX14_sayNumber 32 = .ok (.goto (-30), 3) := dk_167 255 226 (dk_at dksX14_sayNumber_1 8 rfl rfl)
theorem dX14_sayNumber_35 : decode cX14_sayNumber 35 = .ok (.return_, 1) := dk_177 (dk_at dksX14_sayNumber_1 11 rfl rfl)
abbrev cX14_holds : ByteArray := prog_15_method_89_code
def yX14_holds : MethodName := ⟨RX14, "holds", "(IIZ)Z"⟩
def dkwX14_holds_4 : List UInt8 := [54, 4, 167, 255, 165, 21, 5, 172]
abbrev dktX14_holds_4 : List UInt8 := dkwX14_holds_4 ++ []
def dkwX14_holds_3 : List UInt8 := [21, 4, 46, 16, 17, 160, 0, 18, 42, 180, 0, 178, 42, 180, 0, 54, 21, 4, 46, 46, 167, 0, 4, 2]
abbrev dktX14_holds_3 : List UInt8 := dkwX14_holds_3 ++ dktX14_holds_4
def dkwX14_holds_2 : List UInt8 := [21, 6, 28, 182, 2, 160, 54, 5, 42, 180, 0, 127, 21, 6, 46, 54, 6, 167, 255, 217, 42, 180, 0, 42]
abbrev dktX14_holds_2 : List UInt8 := dkwX14_holds_2 ++ dktX14_holds_3
def dkwX14_holds_1 : List UInt8 := [54, 6, 21, 6, 155, 0, 40, 21, 5, 153, 0, 35, 42, 180, 0, 118, 21, 6, 51, 29, 160, 0, 12, 42]
abbrev dktX14_holds_1 : List UInt8 := dkwX14_holds_1 ++ dktX14_holds_2
def dkwX14_holds_0 : List UInt8 := [27, 54, 4, 4, 54, 5, 21, 4, 155, 0, 92, 21, 5, 153, 0, 87, 42, 180, 0, 72, 21, 4, 46]
abbrev dktX14_holds_0 : List UInt8 := dkwX14_holds_0 ++ dktX14_holds_1
theorem dksX14_holds_0 : cX14_holds.data.toList.drop 0 = dktX14_holds_0 := by decide +kernel
theorem dksX14_holds_1 : cX14_holds.data.toList.drop 23 = dktX14_holds_1 := dk_seg dksX14_holds_0 23 rfl rfl
theorem dksX14_holds_2 : cX14_holds.data.toList.drop 47 = dktX14_holds_2 := dk_seg dksX14_holds_1 24 rfl rfl
theorem dksX14_holds_3 : cX14_holds.data.toList.drop 71 = dktX14_holds_3 := dk_seg dksX14_holds_2 24 rfl rfl
theorem dksX14_holds_4 : cX14_holds.data.toList.drop 95 = dktX14_holds_4 := dk_seg dksX14_holds_3 24 rfl rfl
theorem dX14_holds_0 : decode cX14_holds 0 = .ok (.iload_n 1, 1) := dk_27 (dk_at dksX14_holds_0 0 rfl rfl)
theorem dX14_holds_1 : decode cX14_holds 1 = .ok (.istore 4, 2) := dk_54 4 (dk_at dksX14_holds_0 1 rfl rfl)
theorem dX14_holds_3 : decode cX14_holds 3 = .ok (.iconst 1, 1) := dk_4 (dk_at dksX14_holds_0 3 rfl rfl)
theorem dX14_holds_4 : decode cX14_holds 4 = .ok (.istore 5, 2) := dk_54 5 (dk_at dksX14_holds_0 4 rfl rfl)
theorem dX14_holds_6 : decode cX14_holds 6 = .ok (.iload 4, 2) := dk_21 4 (dk_at dksX14_holds_0 6 rfl rfl)
theorem dX14_holds_8 : decode cX14_holds 8 = .ok (.ifCond .lt 92, 3) := dk_155 0 92 (dk_at dksX14_holds_0 8 rfl rfl)
theorem dX14_holds_11 : decode cX14_holds 11 = .ok (.iload 5, 2) := dk_21 5 (dk_at dksX14_holds_0 11 rfl rfl)
theorem dX14_holds_13 : decode cX14_holds 13 = .ok (.ifCond .eq 87, 3) := dk_153 0 87 (dk_at dksX14_holds_0 13 rfl rfl)
theorem dX14_holds_16 : decode cX14_holds 16 = .ok (.aload_n 0, 1) := dk_42 (dk_at dksX14_holds_0 16 rfl rfl)
theorem dX14_holds_17 : decode cX14_holds 17 = .ok (.getfield 72, 3) := dk_180 0 72 (dk_at dksX14_holds_0 17 rfl rfl)
theorem dX14_holds_20 : decode cX14_holds 20 = .ok (.iload 4, 2) := dk_21 4 (dk_at dksX14_holds_0 20 rfl rfl)
theorem dX14_holds_22 : decode cX14_holds 22 = .ok (.iaload, 1) := dk_46 (dk_at dksX14_holds_0 22 rfl rfl)
theorem dX14_holds_23 : decode cX14_holds 23 = .ok (.istore 6, 2) := dk_54 6 (dk_at dksX14_holds_1 0 rfl rfl)
theorem dX14_holds_25 : decode cX14_holds 25 = .ok (.iload 6, 2) := dk_21 6 (dk_at dksX14_holds_1 2 rfl rfl)
theorem dX14_holds_27 : decode cX14_holds 27 = .ok (.ifCond .lt 40, 3) := dk_155 0 40 (dk_at dksX14_holds_1 4 rfl rfl)
theorem dX14_holds_30 : decode cX14_holds 30 = .ok (.iload 5, 2) := dk_21 5 (dk_at dksX14_holds_1 7 rfl rfl)
theorem dX14_holds_32 : decode cX14_holds 32 = .ok (.ifCond .eq 35, 3) := dk_153 0 35 (dk_at dksX14_holds_1 9 rfl rfl)
theorem dX14_holds_35 : decode cX14_holds 35 = .ok (.aload_n 0, 1) := dk_42 (dk_at dksX14_holds_1 12 rfl rfl)
theorem dX14_holds_36 : decode cX14_holds 36 = .ok (.getfield 118, 3) := dk_180 0 118 (dk_at dksX14_holds_1 13 rfl rfl)
theorem dX14_holds_39 : decode cX14_holds 39 = .ok (.iload 6, 2) := dk_21 6 (dk_at dksX14_holds_1 16 rfl rfl)
theorem dX14_holds_41 : decode cX14_holds 41 = .ok (.baload, 1) := dk_51 (dk_at dksX14_holds_1 18 rfl rfl)
theorem dX14_holds_42 : decode cX14_holds 42 = .ok (.iload_n 3, 1) := dk_29 (dk_at dksX14_holds_1 19 rfl rfl)
theorem dX14_holds_43 : decode cX14_holds 43 = .ok (.if_icmp .ne 12, 3) := dk_160 0 12 (dk_at dksX14_holds_1 20 rfl rfl)
theorem dX14_holds_46 : decode cX14_holds 46 = .ok (.aload_n 0, 1) := dk_42 (dk_at dksX14_holds_1 23 rfl rfl)
theorem dX14_holds_47 : decode cX14_holds 47 = .ok (.iload 6, 2) := dk_21 6 (dk_at dksX14_holds_2 0 rfl rfl)
theorem dX14_holds_49 : decode cX14_holds 49 = .ok (.iload_n 2, 1) := dk_28 (dk_at dksX14_holds_2 2 rfl rfl)
theorem dX14_holds_50 : decode cX14_holds 50 = .ok (.invokevirtual 672, 3) := dk_182 2 160 (dk_at dksX14_holds_2 3 rfl rfl)
theorem dX14_holds_53 : decode cX14_holds 53 = .ok (.istore 5, 2) := dk_54 5 (dk_at dksX14_holds_2 6 rfl rfl)
theorem dX14_holds_55 : decode cX14_holds 55 = .ok (.aload_n 0, 1) := dk_42 (dk_at dksX14_holds_2 8 rfl rfl)
theorem dX14_holds_56 : decode cX14_holds 56 = .ok (.getfield 127, 3) := dk_180 0 127 (dk_at dksX14_holds_2 9 rfl rfl)
theorem dX14_holds_59 : decode cX14_holds 59 = .ok (.iload 6, 2) := dk_21 6 (dk_at dksX14_holds_2 12 rfl rfl)
theorem dX14_holds_61 : decode cX14_holds 61 = .ok (.iaload, 1) := dk_46 (dk_at dksX14_holds_2 14 rfl rfl)
theorem dX14_holds_62 : decode cX14_holds 62 = .ok (.istore 6, 2) := dk_54 6 (dk_at dksX14_holds_2 15 rfl rfl)
theorem dX14_holds_64 : decode cX14_holds 64 = .ok (.goto (-39), 3) := dk_167 255 217 (dk_at dksX14_holds_2 17 rfl rfl)
theorem dX14_holds_67 : decode cX14_holds 67 = .ok (.aload_n 0, 1) := dk_42 (dk_at dksX14_holds_2 20 rfl rfl)
theorem dX14_holds_68 : decode cX14_holds 68 = .ok (.getfield 42, 3) := dk_180 0 42 (dk_at dksX14_holds_2 21 rfl rfl)
theorem dX14_holds_71 : decode cX14_holds 71 = .ok (.iload 4, 2) := dk_21 4 (dk_at dksX14_holds_3 0 rfl rfl)
theorem dX14_holds_73 : decode cX14_holds 73 = .ok (.iaload, 1) := dk_46 (dk_at dksX14_holds_3 2 rfl rfl)
theorem dX14_holds_74 : decode cX14_holds 74 = .ok (.bipush 17, 2) := dk_16 17 (dk_at dksX14_holds_3 3 rfl rfl)
theorem dX14_holds_76 : decode cX14_holds 76 = .ok (.if_icmp .ne 18, 3) := dk_160 0 18 (dk_at dksX14_holds_3 5 rfl rfl)
theorem dX14_holds_79 : decode cX14_holds 79 = .ok (.aload_n 0, 1) := dk_42 (dk_at dksX14_holds_3 8 rfl rfl)
theorem dX14_holds_80 : decode cX14_holds 80 = .ok (.getfield 178, 3) := dk_180 0 178 (dk_at dksX14_holds_3 9 rfl rfl)
theorem dX14_holds_83 : decode cX14_holds 83 = .ok (.aload_n 0, 1) := dk_42 (dk_at dksX14_holds_3 12 rfl rfl)
theorem dX14_holds_84 : decode cX14_holds 84 = .ok (.getfield 54, 3) := dk_180 0 54 (dk_at dksX14_holds_3 13 rfl rfl)
theorem dX14_holds_87 : decode cX14_holds 87 = .ok (.iload 4, 2) := dk_21 4 (dk_at dksX14_holds_3 16 rfl rfl)
theorem dX14_holds_89 : decode cX14_holds 89 = .ok (.iaload, 1) := dk_46 (dk_at dksX14_holds_3 18 rfl rfl)
theorem dX14_holds_90 : decode cX14_holds 90 = .ok (.iaload, 1) := dk_46 (dk_at dksX14_holds_3 19 rfl rfl)
theorem dX14_holds_91 : decode cX14_holds 91 = .ok (.goto 4, 3) := dk_167 0 4 (dk_at dksX14_holds_3 20 rfl rfl)
theorem dX14_holds_94 : decode cX14_holds 94 = .ok (.iconst (-1), 1) := dk_2 (dk_at dksX14_holds_3 23 rfl rfl)
theorem dX14_holds_95 : decode cX14_holds 95 = .ok (.istore 4, 2) := dk_54 4 (dk_at dksX14_holds_4 0 rfl rfl)
theorem dX14_holds_97 : decode cX14_holds 97 = .ok (.goto (-91), 3) := dk_167 255 165 (dk_at dksX14_holds_4 2 rfl rfl)
theorem dX14_holds_100 : decode cX14_holds 100 = .ok (.iload 5, 2) := dk_21 5 (dk_at dksX14_holds_4 5 rfl rfl)
theorem dX14_holds_102 : decode cX14_holds 102 = .ok (.ireturn, 1) := dk_172 (dk_at dksX14_holds_4 7 rfl rfl)
abbrev cX14_isIn : ByteArray := prog_15_method_90_code
def yX14_isIn : MethodName := ⟨RX14, "isIn", "(II)Z"⟩
def dkwX14_isIn_6 : List UInt8 := [29, 172]
abbrev dktX14_isIn_6 : List UInt8 := dkwX14_isIn_6 ++ []
def dkwX14_isIn_5 : List UInt8 := [54, 6, 21, 5, 153, 0, 12, 21, 6, 153, 0, 7, 4, 167, 0, 4, 3, 62, 132, 4, 1, 167, 255, 127]
abbrev dktX14_isIn_5 : List UInt8 := dkwX14_isIn_5 ++ dktX14_isIn_6
def dkwX14_isIn_4 : List UInt8 := [46, 155, 0, 22, 42, 28, 42, 180, 0, 145, 21, 4, 46, 182, 2, 88, 157, 0, 7, 4, 167, 0, 4, 3]
abbrev dktX14_isIn_4 : List UInt8 := dkwX14_isIn_4 ++ dktX14_isIn_5
def dkwX14_isIn_3 : List UInt8 := [167, 0, 4, 3, 54, 5, 42, 180, 0, 145, 21, 4, 46, 16, 253, 159, 0, 28, 42, 180, 0, 145, 21, 4]
abbrev dktX14_isIn_3 : List UInt8 := dkwX14_isIn_3 ++ dktX14_isIn_4
def dkwX14_isIn_2 : List UInt8 := [21, 4, 46, 155, 0, 22, 42, 42, 180, 0, 142, 21, 4, 46, 28, 182, 2, 88, 157, 0, 7, 4]
abbrev dktX14_isIn_2 : List UInt8 := dkwX14_isIn_2 ++ dktX14_isIn_3
def dkwX14_isIn_1 : List UInt8 := [96, 162, 0, 117, 29, 154, 0, 113, 42, 180, 0, 142, 21, 4, 46, 16, 254, 159, 0, 28, 42, 180, 0, 142]
abbrev dktX14_isIn_1 : List UInt8 := dkwX14_isIn_1 ++ dktX14_isIn_2
def dkwX14_isIn_0 : List UInt8 := [3, 62, 42, 180, 0, 121, 27, 46, 54, 4, 21, 4, 42, 180, 0, 121, 27, 46, 42, 180, 0, 124, 27, 46]
abbrev dktX14_isIn_0 : List UInt8 := dkwX14_isIn_0 ++ dktX14_isIn_1
theorem dksX14_isIn_0 : cX14_isIn.data.toList.drop 0 = dktX14_isIn_0 := by decide +kernel
theorem dksX14_isIn_1 : cX14_isIn.data.toList.drop 24 = dktX14_isIn_1 := dk_seg dksX14_isIn_0 24 rfl rfl
theorem dksX14_isIn_2 : cX14_isIn.data.toList.drop 48 = dktX14_isIn_2 := dk_seg dksX14_isIn_1 24 rfl rfl
theorem dksX14_isIn_3 : cX14_isIn.data.toList.drop 70 = dktX14_isIn_3 := dk_seg dksX14_isIn_2 22 rfl rfl
theorem dksX14_isIn_4 : cX14_isIn.data.toList.drop 94 = dktX14_isIn_4 := dk_seg dksX14_isIn_3 24 rfl rfl
theorem dksX14_isIn_5 : cX14_isIn.data.toList.drop 118 = dktX14_isIn_5 := dk_seg dksX14_isIn_4 24 rfl rfl
theorem dksX14_isIn_6 : cX14_isIn.data.toList.drop 142 = dktX14_isIn_6 := dk_seg dksX14_isIn_5 24 rfl rfl
theorem dX14_isIn_0 : decode cX14_isIn 0 = .ok (.iconst 0, 1) := dk_3 (dk_at dksX14_isIn_0 0 rfl rfl)
theorem dX14_isIn_1 : decode cX14_isIn 1 = .ok (.istore_n 3, 1) := dk_62 (dk_at dksX14_isIn_0 1 rfl rfl)
theorem dX14_isIn_2 : decode cX14_isIn 2 = .ok (.aload_n 0, 1) := dk_42 (dk_at dksX14_isIn_0 2 rfl rfl)
theorem dX14_isIn_3 : decode cX14_isIn 3 = .ok (.getfield 121, 3) := dk_180 0 121 (dk_at dksX14_isIn_0 3 rfl rfl)
theorem dX14_isIn_6 : decode cX14_isIn 6 = .ok (.iload_n 1, 1) := dk_27 (dk_at dksX14_isIn_0 6 rfl rfl)
theorem dX14_isIn_7 : decode cX14_isIn 7 = .ok (.iaload, 1) := dk_46 (dk_at dksX14_isIn_0 7 rfl rfl)
theorem dX14_isIn_8 : decode cX14_isIn 8 = .ok (.istore 4, 2) := dk_54 4 (dk_at dksX14_isIn_0 8 rfl rfl)
theorem dX14_isIn_10 : decode cX14_isIn 10 = .ok (.iload 4, 2) := dk_21 4 (dk_at dksX14_isIn_0 10 rfl rfl)
theorem dX14_isIn_12 : decode cX14_isIn 12 = .ok (.aload_n 0, 1) := dk_42 (dk_at dksX14_isIn_0 12 rfl rfl)
theorem dX14_isIn_13 : decode cX14_isIn 13 = .ok (.getfield 121, 3) := dk_180 0 121 (dk_at dksX14_isIn_0 13 rfl rfl)
theorem dX14_isIn_16 : decode cX14_isIn 16 = .ok (.iload_n 1, 1) := dk_27 (dk_at dksX14_isIn_0 16 rfl rfl)
theorem dX14_isIn_17 : decode cX14_isIn 17 = .ok (.iaload, 1) := dk_46 (dk_at dksX14_isIn_0 17 rfl rfl)
theorem dX14_isIn_18 : decode cX14_isIn 18 = .ok (.aload_n 0, 1) := dk_42 (dk_at dksX14_isIn_0 18 rfl rfl)
theorem dX14_isIn_19 : decode cX14_isIn 19 = .ok (.getfield 124, 3) := dk_180 0 124 (dk_at dksX14_isIn_0 19 rfl rfl)
theorem dX14_isIn_22 : decode cX14_isIn 22 = .ok (.iload_n 1, 1) := dk_27 (dk_at dksX14_isIn_0 22 rfl rfl)
theorem dX14_isIn_23 : decode cX14_isIn 23 = .ok (.iaload, 1) := dk_46 (dk_at dksX14_isIn_0 23 rfl rfl)
theorem dX14_isIn_24 : decode cX14_isIn 24 = .ok (.iadd, 1) := dk_96 (dk_at dksX14_isIn_1 0 rfl rfl)
theorem dX14_isIn_25 : decode cX14_isIn 25 = .ok (.if_icmp .ge 117, 3) := dk_162 0 117 (dk_at dksX14_isIn_1 1 rfl rfl)
theorem dX14_isIn_28 : decode cX14_isIn 28 = .ok (.iload_n 3, 1) := dk_29 (dk_at dksX14_isIn_1 4 rfl rfl)
theorem dX14_isIn_29 : decode cX14_isIn 29 = .ok (.ifCond .ne 113, 3) := dk_154 0 113 (dk_at dksX14_isIn_1 5 rfl rfl)
theorem dX14_isIn_32 : decode cX14_isIn 32 = .ok (.aload_n 0, 1) := dk_42 (dk_at dksX14_isIn_1 8 rfl rfl)
theorem dX14_isIn_33 : decode cX14_isIn 33 = .ok (.getfield 142, 3) := dk_180 0 142 (dk_at dksX14_isIn_1 9 rfl rfl)
theorem dX14_isIn_36 : decode cX14_isIn 36 = .ok (.iload 4, 2) := dk_21 4 (dk_at dksX14_isIn_1 12 rfl rfl)
theorem dX14_isIn_38 : decode cX14_isIn 38 = .ok (.iaload, 1) := dk_46 (dk_at dksX14_isIn_1 14 rfl rfl)
theorem dX14_isIn_39 : decode cX14_isIn 39 = .ok (.bipush (-2), 2) := dk_16 254 (dk_at dksX14_isIn_1 15 rfl rfl)
theorem dX14_isIn_41 : decode cX14_isIn 41 = .ok (.if_icmp .eq 28, 3) := dk_159 0 28 (dk_at dksX14_isIn_1 17 rfl rfl)
theorem dX14_isIn_44 : decode cX14_isIn 44 = .ok (.aload_n 0, 1) := dk_42 (dk_at dksX14_isIn_1 20 rfl rfl)
theorem dX14_isIn_45 : decode cX14_isIn 45 = .ok (.getfield 142, 3) := dk_180 0 142 (dk_at dksX14_isIn_1 21 rfl rfl)
theorem dX14_isIn_48 : decode cX14_isIn 48 = .ok (.iload 4, 2) := dk_21 4 (dk_at dksX14_isIn_2 0 rfl rfl)
theorem dX14_isIn_50 : decode cX14_isIn 50 = .ok (.iaload, 1) := dk_46 (dk_at dksX14_isIn_2 2 rfl rfl)
theorem dX14_isIn_51 : decode cX14_isIn 51 = .ok (.ifCond .lt 22, 3) := dk_155 0 22 (dk_at dksX14_isIn_2 3 rfl rfl)
theorem dX14_isIn_54 : decode cX14_isIn 54 = .ok (.aload_n 0, 1) := dk_42 (dk_at dksX14_isIn_2 6 rfl rfl)
theorem dX14_isIn_55 : decode cX14_isIn 55 = .ok (.aload_n 0, 1) := dk_42 (dk_at dksX14_isIn_2 7 rfl rfl)
theorem dX14_isIn_56 : decode cX14_isIn 56 = .ok (.getfield 142, 3) := dk_180 0 142 (dk_at dksX14_isIn_2 8 rfl rfl)
theorem dX14_isIn_59 : decode cX14_isIn 59 = .ok (.iload 4, 2) := dk_21 4 (dk_at dksX14_isIn_2 11 rfl rfl)
theorem dX14_isIn_61 : decode cX14_isIn 61 = .ok (.iaload, 1) := dk_46 (dk_at dksX14_isIn_2 13 rfl rfl)
theorem dX14_isIn_62 : decode cX14_isIn 62 = .ok (.iload_n 2, 1) := dk_28 (dk_at dksX14_isIn_2 14 rfl rfl)
theorem dX14_isIn_63 : decode cX14_isIn 63 = .ok (.invokevirtual 600, 3) := dk_182 2 88 (dk_at dksX14_isIn_2 15 rfl rfl)
theorem dX14_isIn_66 : decode cX14_isIn 66 = .ok (.ifCond .gt 7, 3) := dk_157 0 7 (dk_at dksX14_isIn_2 18 rfl rfl)
theorem dX14_isIn_69 : decode cX14_isIn 69 = .ok (.iconst 1, 1) := dk_4 (dk_at dksX14_isIn_2 21 rfl rfl)
theorem dX14_isIn_70 : decode cX14_isIn 70 = .ok (.goto 4, 3) := dk_167 0 4 (dk_at dksX14_isIn_3 0 rfl rfl)
theorem dX14_isIn_73 : decode cX14_isIn 73 = .ok (.iconst 0, 1) := dk_3 (dk_at dksX14_isIn_3 3 rfl rfl)
theorem dX14_isIn_74 : decode cX14_isIn 74 = .ok (.istore 5, 2) := dk_54 5 (dk_at dksX14_isIn_3 4 rfl rfl)
theorem dX14_isIn_76 : decode cX14_isIn 76 = .ok (.aload_n 0, 1) := dk_42 (dk_at dksX14_isIn_3 6 rfl rfl)
theorem dX14_isIn_77 : decode cX14_isIn 77 = .ok (.getfield 145, 3) := dk_180 0 145 (dk_at dksX14_isIn_3 7 rfl rfl)
theorem dX14_isIn_80 : decode cX14_isIn 80 = .ok (.iload 4, 2) := dk_21 4 (dk_at dksX14_isIn_3 10 rfl rfl)
theorem dX14_isIn_82 : decode cX14_isIn 82 = .ok (.iaload, 1) := dk_46 (dk_at dksX14_isIn_3 12 rfl rfl)
theorem dX14_isIn_83 : decode cX14_isIn 83 = .ok (.bipush (-3), 2) := dk_16 253 (dk_at dksX14_isIn_3 13 rfl rfl)
theorem dX14_isIn_85 : decode cX14_isIn 85 = .ok (.if_icmp .eq 28, 3) := dk_159 0 28 (dk_at dksX14_isIn_3 15 rfl rfl)
theorem dX14_isIn_88 : decode cX14_isIn 88 = .ok (.aload_n 0, 1) := dk_42 (dk_at dksX14_isIn_3 18 rfl rfl)
theorem dX14_isIn_89 : decode cX14_isIn 89 = .ok (.getfield 145, 3) := dk_180 0 145 (dk_at dksX14_isIn_3 19 rfl rfl)
theorem dX14_isIn_92 : decode cX14_isIn 92 = .ok (.iload 4, 2) := dk_21 4 (dk_at dksX14_isIn_3 22 rfl rfl)
theorem dX14_isIn_94 : decode cX14_isIn 94 = .ok (.iaload, 1) := dk_46 (dk_at dksX14_isIn_4 0 rfl rfl)
theorem dX14_isIn_95 : decode cX14_isIn 95 = .ok (.ifCond .lt 22, 3) := dk_155 0 22 (dk_at dksX14_isIn_4 1 rfl rfl)
theorem dX14_isIn_98 : decode cX14_isIn 98 = .ok (.aload_n 0, 1) := dk_42 (dk_at dksX14_isIn_4 4 rfl rfl)
theorem dX14_isIn_99 : decode cX14_isIn 99 = .ok (.iload_n 2, 1) := dk_28 (dk_at dksX14_isIn_4 5 rfl rfl)
theorem dX14_isIn_100 : decode cX14_isIn 100 = .ok (.aload_n 0, 1) := dk_42 (dk_at dksX14_isIn_4 6 rfl rfl)
theorem dX14_isIn_101 : decode cX14_isIn 101 = .ok (.getfield 145, 3) := dk_180 0 145 (dk_at dksX14_isIn_4 7 rfl rfl)
theorem dX14_isIn_104 : decode cX14_isIn 104 = .ok (.iload 4, 2) := dk_21 4 (dk_at dksX14_isIn_4 10 rfl rfl)
theorem dX14_isIn_106 : decode cX14_isIn 106 = .ok (.iaload, 1) := dk_46 (dk_at dksX14_isIn_4 12 rfl rfl)
theorem dX14_isIn_107 : decode cX14_isIn 107 = .ok (.invokevirtual 600, 3) := dk_182 2 88 (dk_at dksX14_isIn_4 13 rfl rfl)
theorem dX14_isIn_110 : decode cX14_isIn 110 = .ok (.ifCond .gt 7, 3) := dk_157 0 7 (dk_at dksX14_isIn_4 16 rfl rfl)
theorem dX14_isIn_113 : decode cX14_isIn 113 = .ok (.iconst 1, 1) := dk_4 (dk_at dksX14_isIn_4 19 rfl rfl)
theorem dX14_isIn_114 : decode cX14_isIn 114 = .ok (.goto 4, 3) := dk_167 0 4 (dk_at dksX14_isIn_4 20 rfl rfl)
theorem dX14_isIn_117 : decode cX14_isIn 117 = .ok (.iconst 0, 1) := dk_3 (dk_at dksX14_isIn_4 23 rfl rfl)
theorem dX14_isIn_118 : decode cX14_isIn 118 = .ok (.istore 6, 2) := dk_54 6 (dk_at dksX14_isIn_5 0 rfl rfl)
theorem dX14_isIn_120 : decode cX14_isIn 120 = .ok (.iload 5, 2) := dk_21 5 (dk_at dksX14_isIn_5 2 rfl rfl)
theorem dX14_isIn_122 : decode cX14_isIn 122 = .ok (.ifCond .eq 12, 3) := dk_153 0 12 (dk_at dksX14_isIn_5 4 rfl rfl)
theorem dX14_isIn_125 : decode cX14_isIn 125 = .ok (.iload 6, 2) := dk_21 6 (dk_at dksX14_isIn_5 7 rfl rfl)
theorem dX14_isIn_127 : decode cX14_isIn 127 = .ok (.ifCond .eq 7, 3) := dk_153 0 7 (dk_at dksX14_isIn_5 9 rfl rfl)
theorem dX14_isIn_130 : decode cX14_isIn 130 = .ok (.iconst 1, 1) := dk_4 (dk_at dksX14_isIn_5 12 rfl rfl)
theorem dX14_isIn_131 : decode cX14_isIn 131 = .ok (.goto 4, 3) := dk_167 0 4 (dk_at dksX14_isIn_5 13 rfl rfl)
theorem dX14_isIn_134 : decode cX14_isIn 134 = .ok (.iconst 0, 1) := dk_3 (dk_at dksX14_isIn_5 16 rfl rfl)
theorem dX14_isIn_135 : decode cX14_isIn 135 = .ok (.istore_n 3, 1) := dk_62 (dk_at dksX14_isIn_5 17 rfl rfl)
theorem dX14_isIn_136 : decode cX14_isIn 136 = .ok (.iinc 4 1, 3) := dk_132 4 1 (dk_at dksX14_isIn_5 18 rfl rfl)
theorem dX14_isIn_139 : decode cX14_isIn 139 = .ok (.goto (-129), 3) := dk_167 255 127 (dk_at dksX14_isIn_5 21 rfl rfl)
theorem dX14_isIn_142 : decode cX14_isIn 142 = .ok (.iload_n 3, 1) := dk_29 (dk_at dksX14_isIn_6 0 rfl rfl)
theorem dX14_isIn_143 : decode cX14_isIn 143 = .ok (.ireturn, 1) := dk_172 (dk_at dksX14_isIn_6 1 rfl rfl)
abbrev cX14_bitsOfText : ByteArray := prog_15_method_112_code
def yX14_bitsOfText : MethodName := ⟨RX14, "bitsOfText", "(I)V"⟩
def dkwX14_bitsOfText_4 : List UInt8 := [21, 4, 122, 4, 126, 182, 2, 188, 132, 4, 255, 167, 255, 221, 132, 2, 1, 167, 255, 158, 177]
abbrev dktX14_bitsOfText_4 : List UInt8 := dkwX14_bitsOfText_4 ++ []
def dkwX14_bitsOfText_3 : List UInt8 := [21, 4, 155, 0, 36, 42, 29, 184, 1, 143, 153, 0, 10, 29, 16, 48, 100, 167, 0, 7, 29, 16, 55, 100]
abbrev dktX14_bitsOfText_3 : List UInt8 := dkwX14_bitsOfText_3 ++ dktX14_bitsOfText_4
def dkwX14_bitsOfText_2 : List UInt8 := [160, 0, 14, 42, 29, 16, 48, 100, 182, 2, 188, 167, 0, 51, 29, 184, 1, 149, 154, 0, 44, 6, 54, 4]
abbrev dktX14_bitsOfText_2 : List UInt8 := dkwX14_bitsOfText_2 ++ dktX14_bitsOfText_3
def dkwX14_bitsOfText_1 : List UInt8 := [162, 0, 92, 42, 180, 0, 30, 28, 46, 62, 29, 184, 1, 149, 154, 0, 24, 42, 180, 0, 33, 27, 46, 7]
abbrev dktX14_bitsOfText_1 : List UInt8 := dkwX14_bitsOfText_1 ++ dktX14_bitsOfText_2
def dkwX14_bitsOfText_0 : List UInt8 := [42, 3, 181, 2, 173, 42, 180, 0, 36, 27, 46, 4, 96, 61, 28, 42, 180, 0, 39, 27, 46, 5, 100]
abbrev dktX14_bitsOfText_0 : List UInt8 := dkwX14_bitsOfText_0 ++ dktX14_bitsOfText_1
theorem dksX14_bitsOfText_0 : cX14_bitsOfText.data.toList.drop 0 = dktX14_bitsOfText_0 := by decide +kernel
theorem dksX14_bitsOfText_1 : cX14_bitsOfText.data.toList.drop 23 = dktX14_bitsOfText_1 := dk_seg dksX14_bitsOfText_0 23 rfl rfl
theorem dksX14_bitsOfText_2 : cX14_bitsOfText.data.toList.drop 47 = dktX14_bitsOfText_2 := dk_seg dksX14_bitsOfText_1 24 rfl rfl
theorem dksX14_bitsOfText_3 : cX14_bitsOfText.data.toList.drop 71 = dktX14_bitsOfText_3 := dk_seg dksX14_bitsOfText_2 24 rfl rfl
theorem dksX14_bitsOfText_4 : cX14_bitsOfText.data.toList.drop 95 = dktX14_bitsOfText_4 := dk_seg dksX14_bitsOfText_3 24 rfl rfl
theorem dX14_bitsOfText_0 : decode cX14_bitsOfText 0 = .ok (.aload_n 0, 1) := dk_42 (dk_at dksX14_bitsOfText_0 0 rfl rfl)
theorem dX14_bitsOfText_1 : decode cX14_bitsOfText 1 = .ok (.iconst 0, 1) := dk_3 (dk_at dksX14_bitsOfText_0 1 rfl rfl)
theorem dX14_bitsOfText_2 : decode cX14_bitsOfText 2 = .ok (.putfield 685, 3) := dk_181 2 173 (dk_at dksX14_bitsOfText_0 2 rfl rfl)
theorem dX14_bitsOfText_5 : decode cX14_bitsOfText 5 = .ok (.aload_n 0, 1) := dk_42 (dk_at dksX14_bitsOfText_0 5 rfl rfl)
theorem dX14_bitsOfText_6 : decode cX14_bitsOfText 6 = .ok (.getfield 36, 3) := dk_180 0 36 (dk_at dksX14_bitsOfText_0 6 rfl rfl)
theorem dX14_bitsOfText_9 : decode cX14_bitsOfText 9 = .ok (.iload_n 1, 1) := dk_27 (dk_at dksX14_bitsOfText_0 9 rfl rfl)
theorem dX14_bitsOfText_10 : decode cX14_bitsOfText 10 = .ok (.iaload, 1) := dk_46 (dk_at dksX14_bitsOfText_0 10 rfl rfl)
theorem dX14_bitsOfText_11 : decode cX14_bitsOfText 11 = .ok (.iconst 1, 1) := dk_4 (dk_at dksX14_bitsOfText_0 11 rfl rfl)
theorem dX14_bitsOfText_12 : decode cX14_bitsOfText 12 = .ok (.iadd, 1) := dk_96 (dk_at dksX14_bitsOfText_0 12 rfl rfl)
theorem dX14_bitsOfText_13 : decode cX14_bitsOfText 13 = .ok (.istore_n 2, 1) := dk_61 (dk_at dksX14_bitsOfText_0 13 rfl rfl)
theorem dX14_bitsOfText_14 : decode cX14_bitsOfText 14 = .ok (.iload_n 2, 1) := dk_28 (dk_at dksX14_bitsOfText_0 14 rfl rfl)
theorem dX14_bitsOfText_15 : decode cX14_bitsOfText 15 = .ok (.aload_n 0, 1) := dk_42 (dk_at dksX14_bitsOfText_0 15 rfl rfl)
theorem dX14_bitsOfText_16 : decode cX14_bitsOfText 16 = .ok (.getfield 39, 3) := dk_180 0 39 (dk_at dksX14_bitsOfText_0 16 rfl rfl)
theorem dX14_bitsOfText_19 : decode cX14_bitsOfText 19 = .ok (.iload_n 1, 1) := dk_27 (dk_at dksX14_bitsOfText_0 19 rfl rfl)
theorem dX14_bitsOfText_20 : decode cX14_bitsOfText 20 = .ok (.iaload, 1) := dk_46 (dk_at dksX14_bitsOfText_0 20 rfl rfl)
theorem dX14_bitsOfText_21 : decode cX14_bitsOfText 21 = .ok (.iconst 2, 1) := dk_5 (dk_at dksX14_bitsOfText_0 21 rfl rfl)
theorem dX14_bitsOfText_22 : decode cX14_bitsOfText 22 = .ok (.isub, 1) := dk_100 (dk_at dksX14_bitsOfText_0 22 rfl rfl)
theorem dX14_bitsOfText_23 : decode cX14_bitsOfText 23 = .ok (.if_icmp .ge 92, 3) := dk_162 0 92 (dk_at dksX14_bitsOfText_1 0 rfl rfl)
theorem dX14_bitsOfText_26 : decode cX14_bitsOfText 26 = .ok (.aload_n 0, 1) := dk_42 (dk_at dksX14_bitsOfText_1 3 rfl rfl)
theorem dX14_bitsOfText_27 : decode cX14_bitsOfText 27 = .ok (.getfield 30, 3) := dk_180 0 30 (dk_at dksX14_bitsOfText_1 4 rfl rfl)
theorem dX14_bitsOfText_30 : decode cX14_bitsOfText 30 = .ok (.iload_n 2, 1) := dk_28 (dk_at dksX14_bitsOfText_1 7 rfl rfl)
theorem dX14_bitsOfText_31 : decode cX14_bitsOfText 31 = .ok (.iaload, 1) := dk_46 (dk_at dksX14_bitsOfText_1 8 rfl rfl)
theorem dX14_bitsOfText_32 : decode cX14_bitsOfText 32 = .ok (.istore_n 3, 1) := dk_62 (dk_at dksX14_bitsOfText_1 9 rfl rfl)
theorem dX14_bitsOfText_33 : decode cX14_bitsOfText 33 = .ok (.iload_n 3, 1) := dk_29 (dk_at dksX14_bitsOfText_1 10 rfl rfl)
theorem dX14_bitsOfText_34 : decode cX14_bitsOfText 34 = .ok (.invokestatic 405, 3) := dk_184 1 149 (dk_at dksX14_bitsOfText_1 11 rfl rfl)
theorem dX14_bitsOfText_37 : decode cX14_bitsOfText 37 = .ok (.ifCond .ne 24, 3) := dk_154 0 24 (dk_at dksX14_bitsOfText_1 14 rfl rfl)
theorem dX14_bitsOfText_40 : decode cX14_bitsOfText 40 = .ok (.aload_n 0, 1) := dk_42 (dk_at dksX14_bitsOfText_1 17 rfl rfl)
theorem dX14_bitsOfText_41 : decode cX14_bitsOfText 41 = .ok (.getfield 33, 3) := dk_180 0 33 (dk_at dksX14_bitsOfText_1 18 rfl rfl)
theorem dX14_bitsOfText_44 : decode cX14_bitsOfText 44 = .ok (.iload_n 1, 1) := dk_27 (dk_at dksX14_bitsOfText_1 21 rfl rfl)
theorem dX14_bitsOfText_45 : decode cX14_bitsOfText 45 = .ok (.iaload, 1) := dk_46 (dk_at dksX14_bitsOfText_1 22 rfl rfl)
theorem dX14_bitsOfText_46 : decode cX14_bitsOfText 46 = .ok (.iconst 4, 1) := dk_7 (dk_at dksX14_bitsOfText_1 23 rfl rfl)
theorem dX14_bitsOfText_47 : decode cX14_bitsOfText 47 = .ok (.if_icmp .ne 14, 3) := dk_160 0 14 (dk_at dksX14_bitsOfText_2 0 rfl rfl)
theorem dX14_bitsOfText_50 : decode cX14_bitsOfText 50 = .ok (.aload_n 0, 1) := dk_42 (dk_at dksX14_bitsOfText_2 3 rfl rfl)
theorem dX14_bitsOfText_51 : decode cX14_bitsOfText 51 = .ok (.iload_n 3, 1) := dk_29 (dk_at dksX14_bitsOfText_2 4 rfl rfl)
theorem dX14_bitsOfText_52 : decode cX14_bitsOfText 52 = .ok (.bipush 48, 2) := dk_16 48 (dk_at dksX14_bitsOfText_2 5 rfl rfl)
theorem dX14_bitsOfText_54 : decode cX14_bitsOfText 54 = .ok (.isub, 1) := dk_100 (dk_at dksX14_bitsOfText_2 7 rfl rfl)
theorem dX14_bitsOfText_55 : decode cX14_bitsOfText 55 = .ok (.invokevirtual 700, 3) := dk_182 2 188 (dk_at dksX14_bitsOfText_2 8 rfl rfl)
theorem dX14_bitsOfText_58 : decode cX14_bitsOfText 58 = .ok (.goto 51, 3) := dk_167 0 51 (dk_at dksX14_bitsOfText_2 11 rfl rfl)
theorem dX14_bitsOfText_61 : decode cX14_bitsOfText 61 = .ok (.iload_n 3, 1) := dk_29 (dk_at dksX14_bitsOfText_2 14 rfl rfl)
theorem dX14_bitsOfText_62 : decode cX14_bitsOfText 62 = .ok (.invokestatic 405, 3) := dk_184 1 149 (dk_at dksX14_bitsOfText_2 15 rfl rfl)
theorem dX14_bitsOfText_65 : decode cX14_bitsOfText 65 = .ok (.ifCond .ne 44, 3) := dk_154 0 44 (dk_at dksX14_bitsOfText_2 18 rfl rfl)
theorem dX14_bitsOfText_68 : decode cX14_bitsOfText 68 = .ok (.iconst 3, 1) := dk_6 (dk_at dksX14_bitsOfText_2 21 rfl rfl)
theorem dX14_bitsOfText_69 : decode cX14_bitsOfText 69 = .ok (.istore 4, 2) := dk_54 4 (dk_at dksX14_bitsOfText_2 22 rfl rfl)
theorem dX14_bitsOfText_71 : decode cX14_bitsOfText 71 = .ok (.iload 4, 2) := dk_21 4 (dk_at dksX14_bitsOfText_3 0 rfl rfl)
theorem dX14_bitsOfText_73 : decode cX14_bitsOfText 73 = .ok (.ifCond .lt 36, 3) := dk_155 0 36 (dk_at dksX14_bitsOfText_3 2 rfl rfl)
theorem dX14_bitsOfText_76 : decode cX14_bitsOfText 76 = .ok (.aload_n 0, 1) := dk_42 (dk_at dksX14_bitsOfText_3 5 rfl rfl)
theorem dX14_bitsOfText_77 : decode cX14_bitsOfText 77 = .ok (.iload_n 3, 1) := dk_29 (dk_at dksX14_bitsOfText_3 6 rfl rfl)
theorem dX14_bitsOfText_78 : decode cX14_bitsOfText 78 = .ok (.invokestatic 399, 3) := dk_184 1 143 (dk_at dksX14_bitsOfText_3 7 rfl rfl)
theorem dX14_bitsOfText_81 : decode cX14_bitsOfText 81 = .ok (.ifCond .eq 10, 3) := dk_153 0 10 (dk_at dksX14_bitsOfText_3 10 rfl rfl)
theorem dX14_bitsOfText_84 : decode cX14_bitsOfText 84 = .ok (.iload_n 3, 1) := dk_29 (dk_at dksX14_bitsOfText_3 13 rfl rfl)
theorem dX14_bitsOfText_85 : decode cX14_bitsOfText 85 = .ok (.bipush 48, 2) := dk_16 48 (dk_at dksX14_bitsOfText_3 14 rfl rfl)
theorem dX14_bitsOfText_87 : decode cX14_bitsOfText 87 = .ok (.isub, 1) := dk_100 (dk_at dksX14_bitsOfText_3 16 rfl rfl)
theorem dX14_bitsOfText_88 : decode cX14_bitsOfText 88 = .ok (.goto 7, 3) := dk_167 0 7 (dk_at dksX14_bitsOfText_3 17 rfl rfl)
theorem dX14_bitsOfText_91 : decode cX14_bitsOfText 91 = .ok (.iload_n 3, 1) := dk_29 (dk_at dksX14_bitsOfText_3 20 rfl rfl)
theorem dX14_bitsOfText_92 : decode cX14_bitsOfText 92 = .ok (.bipush 55, 2) := dk_16 55 (dk_at dksX14_bitsOfText_3 21 rfl rfl)
theorem dX14_bitsOfText_94 : decode cX14_bitsOfText 94 = .ok (.isub, 1) := dk_100 (dk_at dksX14_bitsOfText_3 23 rfl rfl)
theorem dX14_bitsOfText_95 : decode cX14_bitsOfText 95 = .ok (.iload 4, 2) := dk_21 4 (dk_at dksX14_bitsOfText_4 0 rfl rfl)
theorem dX14_bitsOfText_97 : decode cX14_bitsOfText 97 = .ok (.ishr, 1) := dk_122 (dk_at dksX14_bitsOfText_4 2 rfl rfl)
theorem dX14_bitsOfText_98 : decode cX14_bitsOfText 98 = .ok (.iconst 1, 1) := dk_4 (dk_at dksX14_bitsOfText_4 3 rfl rfl)
theorem dX14_bitsOfText_99 : decode cX14_bitsOfText 99 = .ok (.iand, 1) := dk_126 (dk_at dksX14_bitsOfText_4 4 rfl rfl)
theorem dX14_bitsOfText_100 : decode cX14_bitsOfText 100 = .ok (.invokevirtual 700, 3) := dk_182 2 188 (dk_at dksX14_bitsOfText_4 5 rfl rfl)
theorem dX14_bitsOfText_103 : decode cX14_bitsOfText 103 = .ok (.iinc 4 (-1), 3) := dk_132 4 255 (dk_at dksX14_bitsOfText_4 8 rfl rfl)
theorem dX14_bitsOfText_106 : decode cX14_bitsOfText 106 = .ok (.goto (-35), 3) := dk_167 255 221 (dk_at dksX14_bitsOfText_4 11 rfl rfl)
theorem dX14_bitsOfText_109 : decode cX14_bitsOfText 109 = .ok (.iinc 2 1, 3) := dk_132 2 1 (dk_at dksX14_bitsOfText_4 14 rfl rfl)
theorem dX14_bitsOfText_112 : decode cX14_bitsOfText 112 = .ok (.goto (-98), 3) := dk_167 255 158 (dk_at dksX14_bitsOfText_4 17 rfl rfl)
theorem dX14_bitsOfText_115 : decode cX14_bitsOfText 115 = .ok (.return_, 1) := dk_177 (dk_at dksX14_bitsOfText_4 20 rfl rfl)
abbrev cX14_sayBit : ByteArray := prog_15_method_95_code
def yX14_sayBit : MethodName := ⟨RX14, "sayBit", "(I)V"⟩
def dkwX14_sayBit_2 : List UInt8 := [181, 2, 173, 177]
abbrev dktX14_sayBit_2 : List UInt8 := dkwX14_sayBit_2 ++ []
def dkwX14_sayBit_1 : List UInt8 := [184, 1, 120, 181, 0, 239, 42, 180, 0, 239, 42, 180, 2, 173, 27, 79, 42, 89, 180, 2, 173, 4, 96]
abbrev dktX14_sayBit_1 : List UInt8 := dkwX14_sayBit_1 ++ dktX14_sayBit_2
def dkwX14_sayBit_0 : List UInt8 := [42, 180, 2, 173, 42, 180, 0, 239, 190, 160, 0, 20, 42, 42, 180, 0, 239, 5, 42, 180, 2, 173, 104]
abbrev dktX14_sayBit_0 : List UInt8 := dkwX14_sayBit_0 ++ dktX14_sayBit_1
theorem dksX14_sayBit_0 : cX14_sayBit.data.toList.drop 0 = dktX14_sayBit_0 := by decide +kernel
theorem dksX14_sayBit_1 : cX14_sayBit.data.toList.drop 23 = dktX14_sayBit_1 := dk_seg dksX14_sayBit_0 23 rfl rfl
theorem dksX14_sayBit_2 : cX14_sayBit.data.toList.drop 46 = dktX14_sayBit_2 := dk_seg dksX14_sayBit_1 23 rfl rfl
theorem dX14_sayBit_0 : decode cX14_sayBit 0 = .ok (.aload_n 0, 1) := dk_42 (dk_at dksX14_sayBit_0 0 rfl rfl)
theorem dX14_sayBit_1 : decode cX14_sayBit 1 = .ok (.getfield 685, 3) := dk_180 2 173 (dk_at dksX14_sayBit_0 1 rfl rfl)
theorem dX14_sayBit_4 : decode cX14_sayBit 4 = .ok (.aload_n 0, 1) := dk_42 (dk_at dksX14_sayBit_0 4 rfl rfl)
theorem dX14_sayBit_5 : decode cX14_sayBit 5 = .ok (.getfield 239, 3) := dk_180 0 239 (dk_at dksX14_sayBit_0 5 rfl rfl)
theorem dX14_sayBit_8 : decode cX14_sayBit 8 = .ok (.arraylength, 1) := dk_190 (dk_at dksX14_sayBit_0 8 rfl rfl)
theorem dX14_sayBit_9 : decode cX14_sayBit 9 = .ok (.if_icmp .ne 20, 3) := dk_160 0 20 (dk_at dksX14_sayBit_0 9 rfl rfl)
theorem dX14_sayBit_12 : decode cX14_sayBit 12 = .ok (.aload_n 0, 1) := dk_42 (dk_at dksX14_sayBit_0 12 rfl rfl)
theorem dX14_sayBit_13 : decode cX14_sayBit 13 = .ok (.aload_n 0, 1) := dk_42 (dk_at dksX14_sayBit_0 13 rfl rfl)
theorem dX14_sayBit_14 : decode cX14_sayBit 14 = .ok (.getfield 239, 3) := dk_180 0 239 (dk_at dksX14_sayBit_0 14 rfl rfl)
theorem dX14_sayBit_17 : decode cX14_sayBit 17 = .ok (.iconst 2, 1) := dk_5 (dk_at dksX14_sayBit_0 17 rfl rfl)
theorem dX14_sayBit_18 : decode cX14_sayBit 18 = .ok (.aload_n 0, 1) := dk_42 (dk_at dksX14_sayBit_0 18 rfl rfl)
theorem dX14_sayBit_19 : decode cX14_sayBit 19 = .ok (.getfield 685, 3) := dk_180 2 173 (dk_at dksX14_sayBit_0 19 rfl rfl)
theorem dX14_sayBit_22 : decode cX14_sayBit 22 = .ok (.imul, 1) := dk_104 (dk_at dksX14_sayBit_0 22 rfl rfl)
theorem dX14_sayBit_23 : decode cX14_sayBit 23 = .ok (.invokestatic 376, 3) := dk_184 1 120 (dk_at dksX14_sayBit_1 0 rfl rfl)
theorem dX14_sayBit_26 : decode cX14_sayBit 26 = .ok (.putfield 239, 3) := dk_181 0 239 (dk_at dksX14_sayBit_1 3 rfl rfl)
theorem dX14_sayBit_29 : decode cX14_sayBit 29 = .ok (.aload_n 0, 1) := dk_42 (dk_at dksX14_sayBit_1 6 rfl rfl)
theorem dX14_sayBit_30 : decode cX14_sayBit 30 = .ok (.getfield 239, 3) := dk_180 0 239 (dk_at dksX14_sayBit_1 7 rfl rfl)
theorem dX14_sayBit_33 : decode cX14_sayBit 33 = .ok (.aload_n 0, 1) := dk_42 (dk_at dksX14_sayBit_1 10 rfl rfl)
theorem dX14_sayBit_34 : decode cX14_sayBit 34 = .ok (.getfield 685, 3) := dk_180 2 173 (dk_at dksX14_sayBit_1 11 rfl rfl)
theorem dX14_sayBit_37 : decode cX14_sayBit 37 = .ok (.iload_n 1, 1) := dk_27 (dk_at dksX14_sayBit_1 14 rfl rfl)
theorem dX14_sayBit_38 : decode cX14_sayBit 38 = .ok (.iastore, 1) := dk_79 (dk_at dksX14_sayBit_1 15 rfl rfl)
theorem dX14_sayBit_39 : decode cX14_sayBit 39 = .ok (.aload_n 0, 1) := dk_42 (dk_at dksX14_sayBit_1 16 rfl rfl)
theorem dX14_sayBit_40 : decode cX14_sayBit 40 = .ok (.dup, 1) := dk_89 (dk_at dksX14_sayBit_1 17 rfl rfl)
theorem dX14_sayBit_41 : decode cX14_sayBit 41 = .ok (.getfield 685, 3) := dk_180 2 173 (dk_at dksX14_sayBit_1 18 rfl rfl)
theorem dX14_sayBit_44 : decode cX14_sayBit 44 = .ok (.iconst 1, 1) := dk_4 (dk_at dksX14_sayBit_1 21 rfl rfl)
theorem dX14_sayBit_45 : decode cX14_sayBit 45 = .ok (.iadd, 1) := dk_96 (dk_at dksX14_sayBit_1 22 rfl rfl)
theorem dX14_sayBit_46 : decode cX14_sayBit 46 = .ok (.putfield 685, 3) := dk_181 2 173 (dk_at dksX14_sayBit_2 0 rfl rfl)
theorem dX14_sayBit_49 : decode cX14_sayBit 49 = .ok (.return_, 1) := dk_177 (dk_at dksX14_sayBit_2 3 rfl rfl)
abbrev cX14_bitsOfItems : ByteArray := prog_15_method_113_code
def yX14_bitsOfItems : MethodName := ⟨RX14, "bitsOfItems", "(II)Z"⟩
def dkwX14_bitsOfItems_4 : List UInt8 := [182, 2, 188, 167, 255, 242, 42, 180, 0, 239, 21, 5, 4, 79, 132, 3, 1, 167, 255, 156, 4, 172]
abbrev dktX14_bitsOfItems_4 : List UInt8 := dkwX14_bitsOfItems_4 ++ []
def dkwX14_bitsOfItems_3 : List UInt8 := [42, 180, 0, 97, 21, 4, 46, 182, 2, 20, 54, 5, 42, 180, 2, 173, 21, 5, 163, 0, 11, 42, 3]
abbrev dktX14_bitsOfItems_3 : List UInt8 := dkwX14_bitsOfItems_3 ++ dktX14_bitsOfItems_4
def dkwX14_bitsOfItems_2 : List UInt8 := [167, 0, 14, 42, 28, 42, 180, 0, 169, 29, 46, 182, 2, 103, 54, 4, 21, 4, 156, 0, 5, 3, 172, 42]
abbrev dktX14_bitsOfItems_2 : List UInt8 := dkwX14_bitsOfItems_2 ++ dktX14_bitsOfItems_3
def dkwX14_bitsOfItems_1 : List UInt8 := [46, 96, 162, 0, 89, 42, 180, 0, 169, 29, 46, 155, 0, 12, 42, 180, 0, 172, 29, 46, 155, 0, 7, 2]
abbrev dktX14_bitsOfItems_1 : List UInt8 := dkwX14_bitsOfItems_1 ++ dktX14_bitsOfItems_2
def dkwX14_bitsOfItems_0 : List UInt8 := [42, 3, 181, 2, 173, 42, 180, 0, 160, 27, 46, 62, 29, 42, 180, 0, 160, 27, 46, 42, 180, 0, 163, 27]
abbrev dktX14_bitsOfItems_0 : List UInt8 := dkwX14_bitsOfItems_0 ++ dktX14_bitsOfItems_1
theorem dksX14_bitsOfItems_0 : cX14_bitsOfItems.data.toList.drop 0 = dktX14_bitsOfItems_0 := by decide +kernel
theorem dksX14_bitsOfItems_1 : cX14_bitsOfItems.data.toList.drop 24 = dktX14_bitsOfItems_1 := dk_seg dksX14_bitsOfItems_0 24 rfl rfl
theorem dksX14_bitsOfItems_2 : cX14_bitsOfItems.data.toList.drop 48 = dktX14_bitsOfItems_2 := dk_seg dksX14_bitsOfItems_1 24 rfl rfl
theorem dksX14_bitsOfItems_3 : cX14_bitsOfItems.data.toList.drop 72 = dktX14_bitsOfItems_3 := dk_seg dksX14_bitsOfItems_2 24 rfl rfl
theorem dksX14_bitsOfItems_4 : cX14_bitsOfItems.data.toList.drop 95 = dktX14_bitsOfItems_4 := dk_seg dksX14_bitsOfItems_3 23 rfl rfl
theorem dX14_bitsOfItems_0 : decode cX14_bitsOfItems 0 = .ok (.aload_n 0, 1) := dk_42 (dk_at dksX14_bitsOfItems_0 0 rfl rfl)
theorem dX14_bitsOfItems_1 : decode cX14_bitsOfItems 1 = .ok (.iconst 0, 1) := dk_3 (dk_at dksX14_bitsOfItems_0 1 rfl rfl)
theorem dX14_bitsOfItems_2 : decode cX14_bitsOfItems 2 = .ok (.putfield 685, 3) := dk_181 2 173 (dk_at dksX14_bitsOfItems_0 2 rfl rfl)
theorem dX14_bitsOfItems_5 : decode cX14_bitsOfItems 5 = .ok (.aload_n 0, 1) := dk_42 (dk_at dksX14_bitsOfItems_0 5 rfl rfl)
theorem dX14_bitsOfItems_6 : decode cX14_bitsOfItems 6 = .ok (.getfield 160, 3) := dk_180 0 160 (dk_at dksX14_bitsOfItems_0 6 rfl rfl)
theorem dX14_bitsOfItems_9 : decode cX14_bitsOfItems 9 = .ok (.iload_n 1, 1) := dk_27 (dk_at dksX14_bitsOfItems_0 9 rfl rfl)
theorem dX14_bitsOfItems_10 : decode cX14_bitsOfItems 10 = .ok (.iaload, 1) := dk_46 (dk_at dksX14_bitsOfItems_0 10 rfl rfl)
theorem dX14_bitsOfItems_11 : decode cX14_bitsOfItems 11 = .ok (.istore_n 3, 1) := dk_62 (dk_at dksX14_bitsOfItems_0 11 rfl rfl)
theorem dX14_bitsOfItems_12 : decode cX14_bitsOfItems 12 = .ok (.iload_n 3, 1) := dk_29 (dk_at dksX14_bitsOfItems_0 12 rfl rfl)
theorem dX14_bitsOfItems_13 : decode cX14_bitsOfItems 13 = .ok (.aload_n 0, 1) := dk_42 (dk_at dksX14_bitsOfItems_0 13 rfl rfl)
theorem dX14_bitsOfItems_14 : decode cX14_bitsOfItems 14 = .ok (.getfield 160, 3) := dk_180 0 160 (dk_at dksX14_bitsOfItems_0 14 rfl rfl)
theorem dX14_bitsOfItems_17 : decode cX14_bitsOfItems 17 = .ok (.iload_n 1, 1) := dk_27 (dk_at dksX14_bitsOfItems_0 17 rfl rfl)
theorem dX14_bitsOfItems_18 : decode cX14_bitsOfItems 18 = .ok (.iaload, 1) := dk_46 (dk_at dksX14_bitsOfItems_0 18 rfl rfl)
theorem dX14_bitsOfItems_19 : decode cX14_bitsOfItems 19 = .ok (.aload_n 0, 1) := dk_42 (dk_at dksX14_bitsOfItems_0 19 rfl rfl)
theorem dX14_bitsOfItems_20 : decode cX14_bitsOfItems 20 = .ok (.getfield 163, 3) := dk_180 0 163 (dk_at dksX14_bitsOfItems_0 20 rfl rfl)
theorem dX14_bitsOfItems_23 : decode cX14_bitsOfItems 23 = .ok (.iload_n 1, 1) := dk_27 (dk_at dksX14_bitsOfItems_0 23 rfl rfl)
theorem dX14_bitsOfItems_24 : decode cX14_bitsOfItems 24 = .ok (.iaload, 1) := dk_46 (dk_at dksX14_bitsOfItems_1 0 rfl rfl)
theorem dX14_bitsOfItems_25 : decode cX14_bitsOfItems 25 = .ok (.iadd, 1) := dk_96 (dk_at dksX14_bitsOfItems_1 1 rfl rfl)
theorem dX14_bitsOfItems_26 : decode cX14_bitsOfItems 26 = .ok (.if_icmp .ge 89, 3) := dk_162 0 89 (dk_at dksX14_bitsOfItems_1 2 rfl rfl)
theorem dX14_bitsOfItems_29 : decode cX14_bitsOfItems 29 = .ok (.aload_n 0, 1) := dk_42 (dk_at dksX14_bitsOfItems_1 5 rfl rfl)
theorem dX14_bitsOfItems_30 : decode cX14_bitsOfItems 30 = .ok (.getfield 169, 3) := dk_180 0 169 (dk_at dksX14_bitsOfItems_1 6 rfl rfl)
theorem dX14_bitsOfItems_33 : decode cX14_bitsOfItems 33 = .ok (.iload_n 3, 1) := dk_29 (dk_at dksX14_bitsOfItems_1 9 rfl rfl)
theorem dX14_bitsOfItems_34 : decode cX14_bitsOfItems 34 = .ok (.iaload, 1) := dk_46 (dk_at dksX14_bitsOfItems_1 10 rfl rfl)
theorem dX14_bitsOfItems_35 : decode cX14_bitsOfItems 35 = .ok (.ifCond .lt 12, 3) := dk_155 0 12 (dk_at dksX14_bitsOfItems_1 11 rfl rfl)
theorem dX14_bitsOfItems_38 : decode cX14_bitsOfItems 38 = .ok (.aload_n 0, 1) := dk_42 (dk_at dksX14_bitsOfItems_1 14 rfl rfl)
theorem dX14_bitsOfItems_39 : decode cX14_bitsOfItems 39 = .ok (.getfield 172, 3) := dk_180 0 172 (dk_at dksX14_bitsOfItems_1 15 rfl rfl)
theorem dX14_bitsOfItems_42 : decode cX14_bitsOfItems 42 = .ok (.iload_n 3, 1) := dk_29 (dk_at dksX14_bitsOfItems_1 18 rfl rfl)
theorem dX14_bitsOfItems_43 : decode cX14_bitsOfItems 43 = .ok (.iaload, 1) := dk_46 (dk_at dksX14_bitsOfItems_1 19 rfl rfl)
theorem dX14_bitsOfItems_44 : decode cX14_bitsOfItems 44 = .ok (.ifCond .lt 7, 3) := dk_155 0 7 (dk_at dksX14_bitsOfItems_1 20 rfl rfl)
theorem dX14_bitsOfItems_47 : decode cX14_bitsOfItems 47 = .ok (.iconst (-1), 1) := dk_2 (dk_at dksX14_bitsOfItems_1 23 rfl rfl)
theorem dX14_bitsOfItems_48 : decode cX14_bitsOfItems 48 = .ok (.goto 14, 3) := dk_167 0 14 (dk_at dksX14_bitsOfItems_2 0 rfl rfl)
theorem dX14_bitsOfItems_51 : decode cX14_bitsOfItems 51 = .ok (.aload_n 0, 1) := dk_42 (dk_at dksX14_bitsOfItems_2 3 rfl rfl)
theorem dX14_bitsOfItems_52 : decode cX14_bitsOfItems 52 = .ok (.iload_n 2, 1) := dk_28 (dk_at dksX14_bitsOfItems_2 4 rfl rfl)
theorem dX14_bitsOfItems_53 : decode cX14_bitsOfItems 53 = .ok (.aload_n 0, 1) := dk_42 (dk_at dksX14_bitsOfItems_2 5 rfl rfl)
theorem dX14_bitsOfItems_54 : decode cX14_bitsOfItems 54 = .ok (.getfield 169, 3) := dk_180 0 169 (dk_at dksX14_bitsOfItems_2 6 rfl rfl)
theorem dX14_bitsOfItems_57 : decode cX14_bitsOfItems 57 = .ok (.iload_n 3, 1) := dk_29 (dk_at dksX14_bitsOfItems_2 9 rfl rfl)
theorem dX14_bitsOfItems_58 : decode cX14_bitsOfItems 58 = .ok (.iaload, 1) := dk_46 (dk_at dksX14_bitsOfItems_2 10 rfl rfl)
theorem dX14_bitsOfItems_59 : decode cX14_bitsOfItems 59 = .ok (.invokevirtual 615, 3) := dk_182 2 103 (dk_at dksX14_bitsOfItems_2 11 rfl rfl)
theorem dX14_bitsOfItems_62 : decode cX14_bitsOfItems 62 = .ok (.istore 4, 2) := dk_54 4 (dk_at dksX14_bitsOfItems_2 14 rfl rfl)
theorem dX14_bitsOfItems_64 : decode cX14_bitsOfItems 64 = .ok (.iload 4, 2) := dk_21 4 (dk_at dksX14_bitsOfItems_2 16 rfl rfl)
theorem dX14_bitsOfItems_66 : decode cX14_bitsOfItems 66 = .ok (.ifCond .ge 5, 3) := dk_156 0 5 (dk_at dksX14_bitsOfItems_2 18 rfl rfl)
theorem dX14_bitsOfItems_69 : decode cX14_bitsOfItems 69 = .ok (.iconst 0, 1) := dk_3 (dk_at dksX14_bitsOfItems_2 21 rfl rfl)
theorem dX14_bitsOfItems_70 : decode cX14_bitsOfItems 70 = .ok (.ireturn, 1) := dk_172 (dk_at dksX14_bitsOfItems_2 22 rfl rfl)
theorem dX14_bitsOfItems_71 : decode cX14_bitsOfItems 71 = .ok (.aload_n 0, 1) := dk_42 (dk_at dksX14_bitsOfItems_2 23 rfl rfl)
theorem dX14_bitsOfItems_72 : decode cX14_bitsOfItems 72 = .ok (.aload_n 0, 1) := dk_42 (dk_at dksX14_bitsOfItems_3 0 rfl rfl)
theorem dX14_bitsOfItems_73 : decode cX14_bitsOfItems 73 = .ok (.getfield 97, 3) := dk_180 0 97 (dk_at dksX14_bitsOfItems_3 1 rfl rfl)
theorem dX14_bitsOfItems_76 : decode cX14_bitsOfItems 76 = .ok (.iload 4, 2) := dk_21 4 (dk_at dksX14_bitsOfItems_3 4 rfl rfl)
theorem dX14_bitsOfItems_78 : decode cX14_bitsOfItems 78 = .ok (.iaload, 1) := dk_46 (dk_at dksX14_bitsOfItems_3 6 rfl rfl)
theorem dX14_bitsOfItems_79 : decode cX14_bitsOfItems 79 = .ok (.invokevirtual 532, 3) := dk_182 2 20 (dk_at dksX14_bitsOfItems_3 7 rfl rfl)
theorem dX14_bitsOfItems_82 : decode cX14_bitsOfItems 82 = .ok (.istore 5, 2) := dk_54 5 (dk_at dksX14_bitsOfItems_3 10 rfl rfl)
theorem dX14_bitsOfItems_84 : decode cX14_bitsOfItems 84 = .ok (.aload_n 0, 1) := dk_42 (dk_at dksX14_bitsOfItems_3 12 rfl rfl)
theorem dX14_bitsOfItems_85 : decode cX14_bitsOfItems 85 = .ok (.getfield 685, 3) := dk_180 2 173 (dk_at dksX14_bitsOfItems_3 13 rfl rfl)
theorem dX14_bitsOfItems_88 : decode cX14_bitsOfItems 88 = .ok (.iload 5, 2) := dk_21 5 (dk_at dksX14_bitsOfItems_3 16 rfl rfl)
theorem dX14_bitsOfItems_90 : decode cX14_bitsOfItems 90 = .ok (.if_icmp .gt 11, 3) := dk_163 0 11 (dk_at dksX14_bitsOfItems_3 18 rfl rfl)
theorem dX14_bitsOfItems_93 : decode cX14_bitsOfItems 93 = .ok (.aload_n 0, 1) := dk_42 (dk_at dksX14_bitsOfItems_3 21 rfl rfl)
theorem dX14_bitsOfItems_94 : decode cX14_bitsOfItems 94 = .ok (.iconst 0, 1) := dk_3 (dk_at dksX14_bitsOfItems_3 22 rfl rfl)
theorem dX14_bitsOfItems_95 : decode cX14_bitsOfItems 95 = .ok (.invokevirtual 700, 3) := dk_182 2 188 (dk_at dksX14_bitsOfItems_4 0 rfl rfl)
theorem dX14_bitsOfItems_98 : decode cX14_bitsOfItems 98 = .ok (.goto (-14), 3) := dk_167 255 242 (dk_at dksX14_bitsOfItems_4 3 rfl rfl)
theorem dX14_bitsOfItems_101 : decode cX14_bitsOfItems 101 = .ok (.aload_n 0, 1) := dk_42 (dk_at dksX14_bitsOfItems_4 6 rfl rfl)
theorem dX14_bitsOfItems_102 : decode cX14_bitsOfItems 102 = .ok (.getfield 239, 3) := dk_180 0 239 (dk_at dksX14_bitsOfItems_4 7 rfl rfl)
theorem dX14_bitsOfItems_105 : decode cX14_bitsOfItems 105 = .ok (.iload 5, 2) := dk_21 5 (dk_at dksX14_bitsOfItems_4 10 rfl rfl)
theorem dX14_bitsOfItems_107 : decode cX14_bitsOfItems 107 = .ok (.iconst 1, 1) := dk_4 (dk_at dksX14_bitsOfItems_4 12 rfl rfl)
theorem dX14_bitsOfItems_108 : decode cX14_bitsOfItems 108 = .ok (.iastore, 1) := dk_79 (dk_at dksX14_bitsOfItems_4 13 rfl rfl)
theorem dX14_bitsOfItems_109 : decode cX14_bitsOfItems 109 = .ok (.iinc 3 1, 3) := dk_132 3 1 (dk_at dksX14_bitsOfItems_4 14 rfl rfl)
theorem dX14_bitsOfItems_112 : decode cX14_bitsOfItems 112 = .ok (.goto (-100), 3) := dk_167 255 156 (dk_at dksX14_bitsOfItems_4 17 rfl rfl)
theorem dX14_bitsOfItems_115 : decode cX14_bitsOfItems 115 = .ok (.iconst 1, 1) := dk_4 (dk_at dksX14_bitsOfItems_4 20 rfl rfl)
theorem dX14_bitsOfItems_116 : decode cX14_bitsOfItems 116 = .ok (.ireturn, 1) := dk_172 (dk_at dksX14_bitsOfItems_4 21 rfl rfl)
abbrev cX14_writeBits : ByteArray := prog_15_method_99_code
def yX14_writeBits : MethodName := ⟨RX14, "writeBits", "(I)Z"⟩
def dkwX14_writeBits_8 : List UInt8 := [21, 5, 182, 2, 176, 132, 4, 8, 167, 255, 186, 29, 172]
abbrev dktX14_writeBits_8 : List UInt8 := dkwX14_writeBits_8 ++ []
def dkwX14_writeBits_7 : List UInt8 := [180, 0, 239, 21, 4, 21, 6, 96, 46, 167, 0, 4, 3, 128, 54, 5, 132, 6, 1, 167, 255, 213, 42]
abbrev dktX14_writeBits_7 : List UInt8 := dkwX14_writeBits_7 ++ dktX14_writeBits_8
def dkwX14_writeBits_6 : List UInt8 := [21, 6, 16, 8, 162, 0, 42, 21, 5, 4, 120, 21, 4, 21, 6, 96, 42, 180, 2, 173, 162, 0, 16, 42]
abbrev dktX14_writeBits_6 : List UInt8 := dkwX14_writeBits_6 ++ dktX14_writeBits_7
def dkwX14_writeBits_5 : List UInt8 := [16, 8, 112, 182, 2, 176, 3, 54, 4, 21, 4, 42, 180, 2, 173, 162, 0, 67, 3, 54, 5, 3, 54, 6]
abbrev dktX14_writeBits_5 : List UInt8 := dkwX14_writeBits_5 ++ dktX14_writeBits_6
def dkwX14_writeBits_4 : List UInt8 := [180, 2, 173, 182, 2, 182, 62, 42, 3, 181, 2, 170, 42, 16, 8, 42, 180, 2, 173, 16, 8, 112, 100]
abbrev dktX14_writeBits_4 : List UInt8 := dkwX14_writeBits_4 ++ dktX14_writeBits_5
def dkwX14_writeBits_3 : List UInt8 := [62, 42, 180, 2, 173, 21, 4, 162, 0, 11, 42, 3, 182, 2, 188, 167, 255, 242, 167, 0, 13, 42, 27, 42]
abbrev dktX14_writeBits_3 : List UInt8 := dkwX14_writeBits_3 ++ dktX14_writeBits_4
def dkwX14_writeBits_2 : List UInt8 := [167, 255, 225, 42, 27, 42, 180, 2, 173, 182, 2, 185, 54, 4, 21, 4, 155, 0, 7, 4, 167, 0, 4, 3]
abbrev dktX14_writeBits_2 : List UInt8 := dkwX14_writeBits_2 ++ dktX14_writeBits_3
def dkwX14_writeBits_1 : List UInt8 := [42, 180, 0, 239, 42, 180, 2, 173, 4, 100, 46, 154, 0, 16, 42, 89, 180, 2, 173, 4, 100, 181, 2, 173]
abbrev dktX14_writeBits_1 : List UInt8 := dkwX14_writeBits_1 ++ dktX14_writeBits_2
def dkwX14_writeBits_0 : List UInt8 := [42, 27, 182, 2, 100, 61, 4, 62, 42, 180, 0, 60, 28, 46, 158, 0, 79, 42, 180, 2, 173, 158, 0, 30]
abbrev dktX14_writeBits_0 : List UInt8 := dkwX14_writeBits_0 ++ dktX14_writeBits_1
theorem dksX14_writeBits_0 : cX14_writeBits.data.toList.drop 0 = dktX14_writeBits_0 := by decide +kernel
theorem dksX14_writeBits_1 : cX14_writeBits.data.toList.drop 24 = dktX14_writeBits_1 := dk_seg dksX14_writeBits_0 24 rfl rfl
theorem dksX14_writeBits_2 : cX14_writeBits.data.toList.drop 48 = dktX14_writeBits_2 := dk_seg dksX14_writeBits_1 24 rfl rfl
theorem dksX14_writeBits_3 : cX14_writeBits.data.toList.drop 72 = dktX14_writeBits_3 := dk_seg dksX14_writeBits_2 24 rfl rfl
theorem dksX14_writeBits_4 : cX14_writeBits.data.toList.drop 96 = dktX14_writeBits_4 := dk_seg dksX14_writeBits_3 24 rfl rfl
theorem dksX14_writeBits_5 : cX14_writeBits.data.toList.drop 119 = dktX14_writeBits_5 := dk_seg dksX14_writeBits_4 23 rfl rfl
theorem dksX14_writeBits_6 : cX14_writeBits.data.toList.drop 143 = dktX14_writeBits_6 := dk_seg dksX14_writeBits_5 24 rfl rfl
theorem dksX14_writeBits_7 : cX14_writeBits.data.toList.drop 167 = dktX14_writeBits_7 := dk_seg dksX14_writeBits_6 24 rfl rfl
theorem dksX14_writeBits_8 : cX14_writeBits.data.toList.drop 190 = dktX14_writeBits_8 := dk_seg dksX14_writeBits_7 23 rfl rfl
theorem dX14_writeBits_0 : decode cX14_writeBits 0 = .ok (.aload_n 0, 1) := dk_42 (dk_at dksX14_writeBits_0 0 rfl rfl)
theorem dX14_writeBits_1 : decode cX14_writeBits 1 = .ok (.iload_n 1, 1) := dk_27 (dk_at dksX14_writeBits_0 1 rfl rfl)
theorem dX14_writeBits_2 : decode cX14_writeBits 2 = .ok (.invokevirtual 612, 3) := dk_182 2 100 (dk_at dksX14_writeBits_0 2 rfl rfl)
theorem dX14_writeBits_5 : decode cX14_writeBits 5 = .ok (.istore_n 2, 1) := dk_61 (dk_at dksX14_writeBits_0 5 rfl rfl)
theorem dX14_writeBits_6 : decode cX14_writeBits 6 = .ok (.iconst 1, 1) := dk_4 (dk_at dksX14_writeBits_0 6 rfl rfl)
theorem dX14_writeBits_7 : decode cX14_writeBits 7 = .ok (.istore_n 3, 1) := dk_62 (dk_at dksX14_writeBits_0 7 rfl rfl)
theorem dX14_writeBits_8 : decode cX14_writeBits 8 = .ok (.aload_n 0, 1) := dk_42 (dk_at dksX14_writeBits_0 8 rfl rfl)
theorem dX14_writeBits_9 : decode cX14_writeBits 9 = .ok (.getfield 60, 3) := dk_180 0 60 (dk_at dksX14_writeBits_0 9 rfl rfl)
theorem dX14_writeBits_12 : decode cX14_writeBits 12 = .ok (.iload_n 2, 1) := dk_28 (dk_at dksX14_writeBits_0 12 rfl rfl)
theorem dX14_writeBits_13 : decode cX14_writeBits 13 = .ok (.iaload, 1) := dk_46 (dk_at dksX14_writeBits_0 13 rfl rfl)
theorem dX14_writeBits_14 : decode cX14_writeBits 14 = .ok (.ifCond .le 79, 3) := dk_158 0 79 (dk_at dksX14_writeBits_0 14 rfl rfl)
theorem dX14_writeBits_17 : decode cX14_writeBits 17 = .ok (.aload_n 0, 1) := dk_42 (dk_at dksX14_writeBits_0 17 rfl rfl)
theorem dX14_writeBits_18 : decode cX14_writeBits 18 = .ok (.getfield 685, 3) := dk_180 2 173 (dk_at dksX14_writeBits_0 18 rfl rfl)
theorem dX14_writeBits_21 : decode cX14_writeBits 21 = .ok (.ifCond .le 30, 3) := dk_158 0 30 (dk_at dksX14_writeBits_0 21 rfl rfl)
theorem dX14_writeBits_24 : decode cX14_writeBits 24 = .ok (.aload_n 0, 1) := dk_42 (dk_at dksX14_writeBits_1 0 rfl rfl)
theorem dX14_writeBits_25 : decode cX14_writeBits 25 = .ok (.getfield 239, 3) := dk_180 0 239 (dk_at dksX14_writeBits_1 1 rfl rfl)
theorem dX14_writeBits_28 : decode cX14_writeBits 28 = .ok (.aload_n 0, 1) := dk_42 (dk_at dksX14_writeBits_1 4 rfl rfl)
theorem dX14_writeBits_29 : decode cX14_writeBits 29 = .ok (.getfield 685, 3) := dk_180 2 173 (dk_at dksX14_writeBits_1 5 rfl rfl)
theorem dX14_writeBits_32 : decode cX14_writeBits 32 = .ok (.iconst 1, 1) := dk_4 (dk_at dksX14_writeBits_1 8 rfl rfl)
theorem dX14_writeBits_33 : decode cX14_writeBits 33 = .ok (.isub, 1) := dk_100 (dk_at dksX14_writeBits_1 9 rfl rfl)
theorem dX14_writeBits_34 : decode cX14_writeBits 34 = .ok (.iaload, 1) := dk_46 (dk_at dksX14_writeBits_1 10 rfl rfl)
theorem dX14_writeBits_35 : decode cX14_writeBits 35 = .ok (.ifCond .ne 16, 3) := dk_154 0 16 (dk_at dksX14_writeBits_1 11 rfl rfl)
theorem dX14_writeBits_38 : decode cX14_writeBits 38 = .ok (.aload_n 0, 1) := dk_42 (dk_at dksX14_writeBits_1 14 rfl rfl)
theorem dX14_writeBits_39 : decode cX14_writeBits 39 = .ok (.dup, 1) := dk_89 (dk_at dksX14_writeBits_1 15 rfl rfl)
theorem dX14_writeBits_40 : decode cX14_writeBits 40 = .ok (.getfield 685, 3) := dk_180 2 173 (dk_at dksX14_writeBits_1 16 rfl rfl)
theorem dX14_writeBits_43 : decode cX14_writeBits 43 = .ok (.iconst 1, 1) := dk_4 (dk_at dksX14_writeBits_1 19 rfl rfl)
theorem dX14_writeBits_44 : decode cX14_writeBits 44 = .ok (.isub, 1) := dk_100 (dk_at dksX14_writeBits_1 20 rfl rfl)
theorem dX14_writeBits_45 : decode cX14_writeBits 45 = .ok (.putfield 685, 3) := dk_181 2 173 (dk_at dksX14_writeBits_1 21 rfl rfl)
theorem dX14_writeBits_48 : decode cX14_writeBits 48 = .ok (.goto (-31), 3) := dk_167 255 225 (dk_at dksX14_writeBits_2 0 rfl rfl)
theorem dX14_writeBits_51 : decode cX14_writeBits 51 = .ok (.aload_n 0, 1) := dk_42 (dk_at dksX14_writeBits_2 3 rfl rfl)
theorem dX14_writeBits_52 : decode cX14_writeBits 52 = .ok (.iload_n 1, 1) := dk_27 (dk_at dksX14_writeBits_2 4 rfl rfl)
theorem dX14_writeBits_53 : decode cX14_writeBits 53 = .ok (.aload_n 0, 1) := dk_42 (dk_at dksX14_writeBits_2 5 rfl rfl)
theorem dX14_writeBits_54 : decode cX14_writeBits 54 = .ok (.getfield 685, 3) := dk_180 2 173 (dk_at dksX14_writeBits_2 6 rfl rfl)
theorem dX14_writeBits_57 : decode cX14_writeBits 57 = .ok (.invokevirtual 697, 3) := dk_182 2 185 (dk_at dksX14_writeBits_2 9 rfl rfl)
theorem dX14_writeBits_60 : decode cX14_writeBits 60 = .ok (.istore 4, 2) := dk_54 4 (dk_at dksX14_writeBits_2 12 rfl rfl)
theorem dX14_writeBits_62 : decode cX14_writeBits 62 = .ok (.iload 4, 2) := dk_21 4 (dk_at dksX14_writeBits_2 14 rfl rfl)
theorem dX14_writeBits_64 : decode cX14_writeBits 64 = .ok (.ifCond .lt 7, 3) := dk_155 0 7 (dk_at dksX14_writeBits_2 16 rfl rfl)
theorem dX14_writeBits_67 : decode cX14_writeBits 67 = .ok (.iconst 1, 1) := dk_4 (dk_at dksX14_writeBits_2 19 rfl rfl)
theorem dX14_writeBits_68 : decode cX14_writeBits 68 = .ok (.goto 4, 3) := dk_167 0 4 (dk_at dksX14_writeBits_2 20 rfl rfl)
theorem dX14_writeBits_71 : decode cX14_writeBits 71 = .ok (.iconst 0, 1) := dk_3 (dk_at dksX14_writeBits_2 23 rfl rfl)
theorem dX14_writeBits_72 : decode cX14_writeBits 72 = .ok (.istore_n 3, 1) := dk_62 (dk_at dksX14_writeBits_3 0 rfl rfl)
theorem dX14_writeBits_73 : decode cX14_writeBits 73 = .ok (.aload_n 0, 1) := dk_42 (dk_at dksX14_writeBits_3 1 rfl rfl)
theorem dX14_writeBits_74 : decode cX14_writeBits 74 = .ok (.getfield 685, 3) := dk_180 2 173 (dk_at dksX14_writeBits_3 2 rfl rfl)
theorem dX14_writeBits_77 : decode cX14_writeBits 77 = .ok (.iload 4, 2) := dk_21 4 (dk_at dksX14_writeBits_3 5 rfl rfl)
theorem dX14_writeBits_79 : decode cX14_writeBits 79 = .ok (.if_icmp .ge 11, 3) := dk_162 0 11 (dk_at dksX14_writeBits_3 7 rfl rfl)
theorem dX14_writeBits_82 : decode cX14_writeBits 82 = .ok (.aload_n 0, 1) := dk_42 (dk_at dksX14_writeBits_3 10 rfl rfl)
theorem dX14_writeBits_83 : decode cX14_writeBits 83 = .ok (.iconst 0, 1) := dk_3 (dk_at dksX14_writeBits_3 11 rfl rfl)
theorem dX14_writeBits_84 : decode cX14_writeBits 84 = .ok (.invokevirtual 700, 3) := dk_182 2 188 (dk_at dksX14_writeBits_3 12 rfl rfl)
theorem dX14_writeBits_87 : decode cX14_writeBits 87 = .ok (.goto (-14), 3) := dk_167 255 242 (dk_at dksX14_writeBits_3 15 rfl rfl)
theorem dX14_writeBits_90 : decode cX14_writeBits 90 = .ok (.goto 13, 3) := dk_167 0 13 (dk_at dksX14_writeBits_3 18 rfl rfl)
theorem dX14_writeBits_93 : decode cX14_writeBits 93 = .ok (.aload_n 0, 1) := dk_42 (dk_at dksX14_writeBits_3 21 rfl rfl)
theorem dX14_writeBits_94 : decode cX14_writeBits 94 = .ok (.iload_n 1, 1) := dk_27 (dk_at dksX14_writeBits_3 22 rfl rfl)
theorem dX14_writeBits_95 : decode cX14_writeBits 95 = .ok (.aload_n 0, 1) := dk_42 (dk_at dksX14_writeBits_3 23 rfl rfl)
theorem dX14_writeBits_96 : decode cX14_writeBits 96 = .ok (.getfield 685, 3) := dk_180 2 173 (dk_at dksX14_writeBits_4 0 rfl rfl)
theorem dX14_writeBits_99 : decode cX14_writeBits 99 = .ok (.invokevirtual 694, 3) := dk_182 2 182 (dk_at dksX14_writeBits_4 3 rfl rfl)
theorem dX14_writeBits_102 : decode cX14_writeBits 102 = .ok (.istore_n 3, 1) := dk_62 (dk_at dksX14_writeBits_4 6 rfl rfl)
theorem dX14_writeBits_103 : decode cX14_writeBits 103 = .ok (.aload_n 0, 1) := dk_42 (dk_at dksX14_writeBits_4 7 rfl rfl)
theorem dX14_writeBits_104 : decode cX14_writeBits 104 = .ok (.iconst 0, 1) := dk_3 (dk_at dksX14_writeBits_4 8 rfl rfl)
theorem dX14_writeBits_105 : decode cX14_writeBits 105 = .ok (.putfield 682, 3) := dk_181 2 170 (dk_at dksX14_writeBits_4 9 rfl rfl)
theorem dX14_writeBits_108 : decode cX14_writeBits 108 = .ok (.aload_n 0, 1) := dk_42 (dk_at dksX14_writeBits_4 12 rfl rfl)
theorem dX14_writeBits_109 : decode cX14_writeBits 109 = .ok (.bipush 8, 2) := dk_16 8 (dk_at dksX14_writeBits_4 13 rfl rfl)
theorem dX14_writeBits_111 : decode cX14_writeBits 111 = .ok (.aload_n 0, 1) := dk_42 (dk_at dksX14_writeBits_4 15 rfl rfl)
theorem dX14_writeBits_112 : decode cX14_writeBits 112 = .ok (.getfield 685, 3) := dk_180 2 173 (dk_at dksX14_writeBits_4 16 rfl rfl)
theorem dX14_writeBits_115 : decode cX14_writeBits 115 = .ok (.bipush 8, 2) := dk_16 8 (dk_at dksX14_writeBits_4 19 rfl rfl)
theorem dX14_writeBits_117 : decode cX14_writeBits 117 = .ok (.irem, 1) := dk_112 (dk_at dksX14_writeBits_4 21 rfl rfl)
theorem dX14_writeBits_118 : decode cX14_writeBits 118 = .ok (.isub, 1) := dk_100 (dk_at dksX14_writeBits_4 22 rfl rfl)
theorem dX14_writeBits_119 : decode cX14_writeBits 119 = .ok (.bipush 8, 2) := dk_16 8 (dk_at dksX14_writeBits_5 0 rfl rfl)
theorem dX14_writeBits_121 : decode cX14_writeBits 121 = .ok (.irem, 1) := dk_112 (dk_at dksX14_writeBits_5 2 rfl rfl)
theorem dX14_writeBits_122 : decode cX14_writeBits 122 = .ok (.invokevirtual 688, 3) := dk_182 2 176 (dk_at dksX14_writeBits_5 3 rfl rfl)
theorem dX14_writeBits_125 : decode cX14_writeBits 125 = .ok (.iconst 0, 1) := dk_3 (dk_at dksX14_writeBits_5 6 rfl rfl)
theorem dX14_writeBits_126 : decode cX14_writeBits 126 = .ok (.istore 4, 2) := dk_54 4 (dk_at dksX14_writeBits_5 7 rfl rfl)
theorem dX14_writeBits_128 : decode cX14_writeBits 128 = .ok (.iload 4, 2) := dk_21 4 (dk_at dksX14_writeBits_5 9 rfl rfl)
theorem dX14_writeBits_130 : decode cX14_writeBits 130 = .ok (.aload_n 0, 1) := dk_42 (dk_at dksX14_writeBits_5 11 rfl rfl)
theorem dX14_writeBits_131 : decode cX14_writeBits 131 = .ok (.getfield 685, 3) := dk_180 2 173 (dk_at dksX14_writeBits_5 12 rfl rfl)
theorem dX14_writeBits_134 : decode cX14_writeBits 134 = .ok (.if_icmp .ge 67, 3) := dk_162 0 67 (dk_at dksX14_writeBits_5 15 rfl rfl)
theorem dX14_writeBits_137 : decode cX14_writeBits 137 = .ok (.iconst 0, 1) := dk_3 (dk_at dksX14_writeBits_5 18 rfl rfl)
theorem dX14_writeBits_138 : decode cX14_writeBits 138 = .ok (.istore 5, 2) := dk_54 5 (dk_at dksX14_writeBits_5 19 rfl rfl)
theorem dX14_writeBits_140 : decode cX14_writeBits 140 = .ok (.iconst 0, 1) := dk_3 (dk_at dksX14_writeBits_5 21 rfl rfl)
theorem dX14_writeBits_141 : decode cX14_writeBits 141 = .ok (.istore 6, 2) := dk_54 6 (dk_at dksX14_writeBits_5 22 rfl rfl)
theorem dX14_writeBits_143 : decode cX14_writeBits 143 = .ok (.iload 6, 2) := dk_21 6 (dk_at dksX14_writeBits_6 0 rfl rfl)
theorem dX14_writeBits_145 : decode cX14_writeBits 145 = .ok (.bipush 8, 2) := dk_16 8 (dk_at dksX14_writeBits_6 2 rfl rfl)
theorem dX14_writeBits_147 : decode cX14_writeBits 147 = .ok (.if_icmp .ge 42, 3) := dk_162 0 42 (dk_at dksX14_writeBits_6 4 rfl rfl)
theorem dX14_writeBits_150 : decode cX14_writeBits 150 = .ok (.iload 5, 2) := dk_21 5 (dk_at dksX14_writeBits_6 7 rfl rfl)
theorem dX14_writeBits_152 : decode cX14_writeBits 152 = .ok (.iconst 1, 1) := dk_4 (dk_at dksX14_writeBits_6 9 rfl rfl)
theorem dX14_writeBits_153 : decode cX14_writeBits 153 = .ok (.ishl, 1) := dk_120 (dk_at dksX14_writeBits_6 10 rfl rfl)
theorem dX14_writeBits_154 : decode cX14_writeBits 154 = .ok (.iload 4, 2) := dk_21 4 (dk_at dksX14_writeBits_6 11 rfl rfl)
theorem dX14_writeBits_156 : decode cX14_writeBits 156 = .ok (.iload 6, 2) := dk_21 6 (dk_at dksX14_writeBits_6 13 rfl rfl)
theorem dX14_writeBits_158 : decode cX14_writeBits 158 = .ok (.iadd, 1) := dk_96 (dk_at dksX14_writeBits_6 15 rfl rfl)
theorem dX14_writeBits_159 : decode cX14_writeBits 159 = .ok (.aload_n 0, 1) := dk_42 (dk_at dksX14_writeBits_6 16 rfl rfl)
theorem dX14_writeBits_160 : decode cX14_writeBits 160 = .ok (.getfield 685, 3) := dk_180 2 173 (dk_at dksX14_writeBits_6 17 rfl rfl)
theorem dX14_writeBits_163 : decode cX14_writeBits 163 = .ok (.if_icmp .ge 16, 3) := dk_162 0 16 (dk_at dksX14_writeBits_6 20 rfl rfl)
theorem dX14_writeBits_166 : decode cX14_writeBits 166 = .ok (.aload_n 0, 1) := dk_42 (dk_at dksX14_writeBits_6 23 rfl rfl)
theorem dX14_writeBits_167 : decode cX14_writeBits 167 = .ok (.getfield 239, 3) := dk_180 0 239 (dk_at dksX14_writeBits_7 0 rfl rfl)
theorem dX14_writeBits_170 : decode cX14_writeBits 170 = .ok (.iload 4, 2) := dk_21 4 (dk_at dksX14_writeBits_7 3 rfl rfl)
theorem dX14_writeBits_172 : decode cX14_writeBits 172 = .ok (.iload 6, 2) := dk_21 6 (dk_at dksX14_writeBits_7 5 rfl rfl)
theorem dX14_writeBits_174 : decode cX14_writeBits 174 = .ok (.iadd, 1) := dk_96 (dk_at dksX14_writeBits_7 7 rfl rfl)
theorem dX14_writeBits_175 : decode cX14_writeBits 175 = .ok (.iaload, 1) := dk_46 (dk_at dksX14_writeBits_7 8 rfl rfl)
theorem dX14_writeBits_176 : decode cX14_writeBits 176 = .ok (.goto 4, 3) := dk_167 0 4 (dk_at dksX14_writeBits_7 9 rfl rfl)
theorem dX14_writeBits_179 : decode cX14_writeBits 179 = .ok (.iconst 0, 1) := dk_3 (dk_at dksX14_writeBits_7 12 rfl rfl)
theorem dX14_writeBits_180 : decode cX14_writeBits 180 = .ok (.ior, 1) := dk_128 (dk_at dksX14_writeBits_7 13 rfl rfl)
theorem dX14_writeBits_181 : decode cX14_writeBits 181 = .ok (.istore 5, 2) := dk_54 5 (dk_at dksX14_writeBits_7 14 rfl rfl)
theorem dX14_writeBits_183 : decode cX14_writeBits 183 = .ok (.iinc 6 1, 3) := dk_132 6 1 (dk_at dksX14_writeBits_7 16 rfl rfl)
theorem dX14_writeBits_186 : decode cX14_writeBits 186 = .ok (.goto (-43), 3) := dk_167 255 213 (dk_at dksX14_writeBits_7 19 rfl rfl)
theorem dX14_writeBits_189 : decode cX14_writeBits 189 = .ok (.aload_n 0, 1) := dk_42 (dk_at dksX14_writeBits_7 22 rfl rfl)
theorem dX14_writeBits_190 : decode cX14_writeBits 190 = .ok (.iload 5, 2) := dk_21 5 (dk_at dksX14_writeBits_8 0 rfl rfl)
theorem dX14_writeBits_192 : decode cX14_writeBits 192 = .ok (.invokevirtual 688, 3) := dk_182 2 176 (dk_at dksX14_writeBits_8 2 rfl rfl)
theorem dX14_writeBits_195 : decode cX14_writeBits 195 = .ok (.iinc 4 8, 3) := dk_132 4 8 (dk_at dksX14_writeBits_8 5 rfl rfl)
theorem dX14_writeBits_198 : decode cX14_writeBits 198 = .ok (.goto (-70), 3) := dk_167 255 186 (dk_at dksX14_writeBits_8 8 rfl rfl)
theorem dX14_writeBits_201 : decode cX14_writeBits 201 = .ok (.iload_n 3, 1) := dk_29 (dk_at dksX14_writeBits_8 11 rfl rfl)
theorem dX14_writeBits_202 : decode cX14_writeBits 202 = .ok (.ireturn, 1) := dk_172 (dk_at dksX14_writeBits_8 12 rfl rfl)
abbrev cX14_leastSize : ByteArray := prog_15_method_98_code
def yX14_leastSize : MethodName := ⟨RX14, "leastSize", "(II)I"⟩
def dkwX14_leastSize_5 : List UInt8 := [42, 180, 1, 7, 28, 46, 4, 100, 172]
abbrev dktX14_leastSize_5 : List UInt8 := dkwX14_leastSize_5 ++ []
def dkwX14_leastSize_4 : List UInt8 := [164, 0, 7, 2, 167, 0, 6, 29, 4, 96, 79, 42, 180, 1, 7, 28, 46, 156, 0, 7, 2, 167, 0, 11]
abbrev dktX14_leastSize_4 : List UInt8 := dkwX14_leastSize_4 ++ dktX14_leastSize_5
def dkwX14_leastSize_3 : List UInt8 := [27, 29, 182, 2, 182, 154, 0, 9, 132, 3, 1, 167, 255, 238, 42, 180, 1, 7, 28, 29, 16, 64]
abbrev dktX14_leastSize_3 : List UInt8 := dkwX14_leastSize_3 ++ dktX14_leastSize_4
def dkwX14_leastSize_2 : List UInt8 := [132, 3, 1, 167, 255, 240, 42, 180, 1, 7, 28, 46, 154, 0, 45, 28, 62, 29, 16, 64, 163, 0, 18, 42]
abbrev dktX14_leastSize_2 : List UInt8 := dkwX14_leastSize_2 ++ dktX14_leastSize_3
def dkwX14_leastSize_1 : List UInt8 := [159, 0, 29, 42, 27, 181, 1, 4, 3, 62, 29, 16, 64, 163, 0, 16, 42, 180, 1, 7, 29, 3, 79]
abbrev dktX14_leastSize_1 : List UInt8 := dkwX14_leastSize_1 ++ dktX14_leastSize_2
def dkwX14_leastSize_0 : List UInt8 := [42, 27, 182, 2, 179, 154, 0, 5, 28, 172, 28, 16, 64, 164, 0, 5, 2, 172, 42, 180, 1, 4, 27]
abbrev dktX14_leastSize_0 : List UInt8 := dkwX14_leastSize_0 ++ dktX14_leastSize_1
theorem dksX14_leastSize_0 : cX14_leastSize.data.toList.drop 0 = dktX14_leastSize_0 := by decide +kernel
theorem dksX14_leastSize_1 : cX14_leastSize.data.toList.drop 23 = dktX14_leastSize_1 := dk_seg dksX14_leastSize_0 23 rfl rfl
theorem dksX14_leastSize_2 : cX14_leastSize.data.toList.drop 46 = dktX14_leastSize_2 := dk_seg dksX14_leastSize_1 23 rfl rfl
theorem dksX14_leastSize_3 : cX14_leastSize.data.toList.drop 70 = dktX14_leastSize_3 := dk_seg dksX14_leastSize_2 24 rfl rfl
theorem dksX14_leastSize_4 : cX14_leastSize.data.toList.drop 92 = dktX14_leastSize_4 := dk_seg dksX14_leastSize_3 22 rfl rfl
theorem dksX14_leastSize_5 : cX14_leastSize.data.toList.drop 116 = dktX14_leastSize_5 := dk_seg dksX14_leastSize_4 24 rfl rfl
theorem dX14_leastSize_0 : decode cX14_leastSize 0 = .ok (.aload_n 0, 1) := dk_42 (dk_at dksX14_leastSize_0 0 rfl rfl)
theorem dX14_leastSize_1 : decode cX14_leastSize 1 = .ok (.iload_n 1, 1) := dk_27 (dk_at dksX14_leastSize_0 1 rfl rfl)
theorem dX14_leastSize_2 : decode cX14_leastSize 2 = .ok (.invokevirtual 691, 3) := dk_182 2 179 (dk_at dksX14_leastSize_0 2 rfl rfl)
theorem dX14_leastSize_5 : decode cX14_leastSize 5 = .ok (.ifCond .ne 5, 3) := dk_154 0 5 (dk_at dksX14_leastSize_0 5 rfl rfl)
theorem dX14_leastSize_8 : decode cX14_leastSize 8 = .ok (.iload_n 2, 1) := dk_28 (dk_at dksX14_leastSize_0 8 rfl rfl)
theorem dX14_leastSize_9 : decode cX14_leastSize 9 = .ok (.ireturn, 1) := dk_172 (dk_at dksX14_leastSize_0 9 rfl rfl)
theorem dX14_leastSize_10 : decode cX14_leastSize 10 = .ok (.iload_n 2, 1) := dk_28 (dk_at dksX14_leastSize_0 10 rfl rfl)
theorem dX14_leastSize_11 : decode cX14_leastSize 11 = .ok (.bipush 64, 2) := dk_16 64 (dk_at dksX14_leastSize_0 11 rfl rfl)
theorem dX14_leastSize_13 : decode cX14_leastSize 13 = .ok (.if_icmp .le 5, 3) := dk_164 0 5 (dk_at dksX14_leastSize_0 13 rfl rfl)
theorem dX14_leastSize_16 : decode cX14_leastSize 16 = .ok (.iconst (-1), 1) := dk_2 (dk_at dksX14_leastSize_0 16 rfl rfl)
theorem dX14_leastSize_17 : decode cX14_leastSize 17 = .ok (.ireturn, 1) := dk_172 (dk_at dksX14_leastSize_0 17 rfl rfl)
theorem dX14_leastSize_18 : decode cX14_leastSize 18 = .ok (.aload_n 0, 1) := dk_42 (dk_at dksX14_leastSize_0 18 rfl rfl)
theorem dX14_leastSize_19 : decode cX14_leastSize 19 = .ok (.getfield 260, 3) := dk_180 1 4 (dk_at dksX14_leastSize_0 19 rfl rfl)
theorem dX14_leastSize_22 : decode cX14_leastSize 22 = .ok (.iload_n 1, 1) := dk_27 (dk_at dksX14_leastSize_0 22 rfl rfl)
theorem dX14_leastSize_23 : decode cX14_leastSize 23 = .ok (.if_icmp .eq 29, 3) := dk_159 0 29 (dk_at dksX14_leastSize_1 0 rfl rfl)
theorem dX14_leastSize_26 : decode cX14_leastSize 26 = .ok (.aload_n 0, 1) := dk_42 (dk_at dksX14_leastSize_1 3 rfl rfl)
theorem dX14_leastSize_27 : decode cX14_leastSize 27 = .ok (.iload_n 1, 1) := dk_27 (dk_at dksX14_leastSize_1 4 rfl rfl)
theorem dX14_leastSize_28 : decode cX14_leastSize 28 = .ok (.putfield 260, 3) := dk_181 1 4 (dk_at dksX14_leastSize_1 5 rfl rfl)
theorem dX14_leastSize_31 : decode cX14_leastSize 31 = .ok (.iconst 0, 1) := dk_3 (dk_at dksX14_leastSize_1 8 rfl rfl)
theorem dX14_leastSize_32 : decode cX14_leastSize 32 = .ok (.istore_n 3, 1) := dk_62 (dk_at dksX14_leastSize_1 9 rfl rfl)
theorem dX14_leastSize_33 : decode cX14_leastSize 33 = .ok (.iload_n 3, 1) := dk_29 (dk_at dksX14_leastSize_1 10 rfl rfl)
theorem dX14_leastSize_34 : decode cX14_leastSize 34 = .ok (.bipush 64, 2) := dk_16 64 (dk_at dksX14_leastSize_1 11 rfl rfl)
theorem dX14_leastSize_36 : decode cX14_leastSize 36 = .ok (.if_icmp .gt 16, 3) := dk_163 0 16 (dk_at dksX14_leastSize_1 13 rfl rfl)
theorem dX14_leastSize_39 : decode cX14_leastSize 39 = .ok (.aload_n 0, 1) := dk_42 (dk_at dksX14_leastSize_1 16 rfl rfl)
theorem dX14_leastSize_40 : decode cX14_leastSize 40 = .ok (.getfield 263, 3) := dk_180 1 7 (dk_at dksX14_leastSize_1 17 rfl rfl)
theorem dX14_leastSize_43 : decode cX14_leastSize 43 = .ok (.iload_n 3, 1) := dk_29 (dk_at dksX14_leastSize_1 20 rfl rfl)
theorem dX14_leastSize_44 : decode cX14_leastSize 44 = .ok (.iconst 0, 1) := dk_3 (dk_at dksX14_leastSize_1 21 rfl rfl)
theorem dX14_leastSize_45 : decode cX14_leastSize 45 = .ok (.iastore, 1) := dk_79 (dk_at dksX14_leastSize_1 22 rfl rfl)
theorem dX14_leastSize_46 : decode cX14_leastSize 46 = .ok (.iinc 3 1, 3) := dk_132 3 1 (dk_at dksX14_leastSize_2 0 rfl rfl)
theorem dX14_leastSize_49 : decode cX14_leastSize 49 = .ok (.goto (-16), 3) := dk_167 255 240 (dk_at dksX14_leastSize_2 3 rfl rfl)
theorem dX14_leastSize_52 : decode cX14_leastSize 52 = .ok (.aload_n 0, 1) := dk_42 (dk_at dksX14_leastSize_2 6 rfl rfl)
theorem dX14_leastSize_53 : decode cX14_leastSize 53 = .ok (.getfield 263, 3) := dk_180 1 7 (dk_at dksX14_leastSize_2 7 rfl rfl)
theorem dX14_leastSize_56 : decode cX14_leastSize 56 = .ok (.iload_n 2, 1) := dk_28 (dk_at dksX14_leastSize_2 10 rfl rfl)
theorem dX14_leastSize_57 : decode cX14_leastSize 57 = .ok (.iaload, 1) := dk_46 (dk_at dksX14_leastSize_2 11 rfl rfl)
theorem dX14_leastSize_58 : decode cX14_leastSize 58 = .ok (.ifCond .ne 45, 3) := dk_154 0 45 (dk_at dksX14_leastSize_2 12 rfl rfl)
theorem dX14_leastSize_61 : decode cX14_leastSize 61 = .ok (.iload_n 2, 1) := dk_28 (dk_at dksX14_leastSize_2 15 rfl rfl)
theorem dX14_leastSize_62 : decode cX14_leastSize 62 = .ok (.istore_n 3, 1) := dk_62 (dk_at dksX14_leastSize_2 16 rfl rfl)
theorem dX14_leastSize_63 : decode cX14_leastSize 63 = .ok (.iload_n 3, 1) := dk_29 (dk_at dksX14_leastSize_2 17 rfl rfl)
theorem dX14_leastSize_64 : decode cX14_leastSize 64 = .ok (.bipush 64, 2) := dk_16 64 (dk_at dksX14_leastSize_2 18 rfl rfl)
theorem dX14_leastSize_66 : decode cX14_leastSize 66 = .ok (.if_icmp .gt 18, 3) := dk_163 0 18 (dk_at dksX14_leastSize_2 20 rfl rfl)
theorem dX14_leastSize_69 : decode cX14_leastSize 69 = .ok (.aload_n 0, 1) := dk_42 (dk_at dksX14_leastSize_2 23 rfl rfl)
theorem dX14_leastSize_70 : decode cX14_leastSize 70 = .ok (.iload_n 1, 1) := dk_27 (dk_at dksX14_leastSize_3 0 rfl rfl)
theorem dX14_leastSize_71 : decode cX14_leastSize 71 = .ok (.iload_n 3, 1) := dk_29 (dk_at dksX14_leastSize_3 1 rfl rfl)
theorem dX14_leastSize_72 : decode cX14_leastSize 72 = .ok (.invokevirtual 694, 3) := dk_182 2 182 (dk_at dksX14_leastSize_3 2 rfl rfl)
theorem dX14_leastSize_75 : decode cX14_leastSize 75 = .ok (.ifCond .ne 9, 3) := dk_154 0 9 (dk_at dksX14_leastSize_3 5 rfl rfl)
theorem dX14_leastSize_78 : decode cX14_leastSize 78 = .ok (.iinc 3 1, 3) := dk_132 3 1 (dk_at dksX14_leastSize_3 8 rfl rfl)
theorem dX14_leastSize_81 : decode cX14_leastSize 81 = .ok (.goto (-18), 3) := dk_167 255 238 (dk_at dksX14_leastSize_3 11 rfl rfl)
theorem dX14_leastSize_84 : decode cX14_leastSize 84 = .ok (.aload_n 0, 1) := dk_42 (dk_at dksX14_leastSize_3 14 rfl rfl)
theorem dX14_leastSize_85 : decode cX14_leastSize 85 = .ok (.getfield 263, 3) := dk_180 1 7 (dk_at dksX14_leastSize_3 15 rfl rfl)
theorem dX14_leastSize_88 : decode cX14_leastSize 88 = .ok (.iload_n 2, 1) := dk_28 (dk_at dksX14_leastSize_3 18 rfl rfl)
theorem dX14_leastSize_89 : decode cX14_leastSize 89 = .ok (.iload_n 3, 1) := dk_29 (dk_at dksX14_leastSize_3 19 rfl rfl)
theorem dX14_leastSize_90 : decode cX14_leastSize 90 = .ok (.bipush 64, 2) := dk_16 64 (dk_at dksX14_leastSize_3 20 rfl rfl)
theorem dX14_leastSize_92 : decode cX14_leastSize 92 = .ok (.if_icmp .le 7, 3) := dk_164 0 7 (dk_at dksX14_leastSize_4 0 rfl rfl)
theorem dX14_leastSize_95 : decode cX14_leastSize 95 = .ok (.iconst (-1), 1) := dk_2 (dk_at dksX14_leastSize_4 3 rfl rfl)
theorem dX14_leastSize_96 : decode cX14_leastSize 96 = .ok (.goto 6, 3) := dk_167 0 6 (dk_at dksX14_leastSize_4 4 rfl rfl)
theorem dX14_leastSize_99 : decode cX14_leastSize 99 = .ok (.iload_n 3, 1) := dk_29 (dk_at dksX14_leastSize_4 7 rfl rfl)
theorem dX14_leastSize_100 : decode cX14_leastSize 100 = .ok (.iconst 1, 1) := dk_4 (dk_at dksX14_leastSize_4 8 rfl rfl)
theorem dX14_leastSize_101 : decode cX14_leastSize 101 = .ok (.iadd, 1) := dk_96 (dk_at dksX14_leastSize_4 9 rfl rfl)
theorem dX14_leastSize_102 : decode cX14_leastSize 102 = .ok (.iastore, 1) := dk_79 (dk_at dksX14_leastSize_4 10 rfl rfl)
theorem dX14_leastSize_103 : decode cX14_leastSize 103 = .ok (.aload_n 0, 1) := dk_42 (dk_at dksX14_leastSize_4 11 rfl rfl)
theorem dX14_leastSize_104 : decode cX14_leastSize 104 = .ok (.getfield 263, 3) := dk_180 1 7 (dk_at dksX14_leastSize_4 12 rfl rfl)
theorem dX14_leastSize_107 : decode cX14_leastSize 107 = .ok (.iload_n 2, 1) := dk_28 (dk_at dksX14_leastSize_4 15 rfl rfl)
theorem dX14_leastSize_108 : decode cX14_leastSize 108 = .ok (.iaload, 1) := dk_46 (dk_at dksX14_leastSize_4 16 rfl rfl)
theorem dX14_leastSize_109 : decode cX14_leastSize 109 = .ok (.ifCond .ge 7, 3) := dk_156 0 7 (dk_at dksX14_leastSize_4 17 rfl rfl)
theorem dX14_leastSize_112 : decode cX14_leastSize 112 = .ok (.iconst (-1), 1) := dk_2 (dk_at dksX14_leastSize_4 20 rfl rfl)
theorem dX14_leastSize_113 : decode cX14_leastSize 113 = .ok (.goto 11, 3) := dk_167 0 11 (dk_at dksX14_leastSize_4 21 rfl rfl)
theorem dX14_leastSize_116 : decode cX14_leastSize 116 = .ok (.aload_n 0, 1) := dk_42 (dk_at dksX14_leastSize_5 0 rfl rfl)
theorem dX14_leastSize_117 : decode cX14_leastSize 117 = .ok (.getfield 263, 3) := dk_180 1 7 (dk_at dksX14_leastSize_5 1 rfl rfl)
theorem dX14_leastSize_120 : decode cX14_leastSize 120 = .ok (.iload_n 2, 1) := dk_28 (dk_at dksX14_leastSize_5 4 rfl rfl)
theorem dX14_leastSize_121 : decode cX14_leastSize 121 = .ok (.iaload, 1) := dk_46 (dk_at dksX14_leastSize_5 5 rfl rfl)
theorem dX14_leastSize_122 : decode cX14_leastSize 122 = .ok (.iconst 1, 1) := dk_4 (dk_at dksX14_leastSize_5 6 rfl rfl)
theorem dX14_leastSize_123 : decode cX14_leastSize 123 = .ok (.isub, 1) := dk_100 (dk_at dksX14_leastSize_5 7 rfl rfl)
theorem dX14_leastSize_124 : decode cX14_leastSize 124 = .ok (.ireturn, 1) := dk_172 (dk_at dksX14_leastSize_5 8 rfl rfl)
abbrev cX14_hasSizeLimits : ByteArray := prog_15_method_93_code
def yX14_hasSizeLimits : MethodName := ⟨RX14, "hasSizeLimits", "(I)Z"⟩
def dkwX14_hasSizeLimits_3 : List UInt8 := [180, 0, 178, 42, 180, 0, 54, 28, 46, 46, 167, 0, 4, 2, 61, 167, 255, 176, 29, 172]
abbrev dktX14_hasSizeLimits_3 : List UInt8 := dkwX14_hasSizeLimits_3 ++ []
def dkwX14_hasSizeLimits_2 : List UInt8 := [180, 0, 127, 21, 4, 46, 54, 4, 167, 255, 222, 42, 180, 0, 42, 28, 46, 16, 17, 160, 0, 17, 42]
abbrev dktX14_hasSizeLimits_2 : List UInt8 := dkwX14_hasSizeLimits_2 ++ dktX14_hasSizeLimits_3
def dkwX14_hasSizeLimits_1 : List UInt8 := [155, 0, 35, 29, 154, 0, 13, 42, 180, 0, 118, 21, 4, 51, 153, 0, 7, 4, 167, 0, 4, 3, 62, 42]
abbrev dktX14_hasSizeLimits_1 : List UInt8 := dkwX14_hasSizeLimits_1 ++ dktX14_hasSizeLimits_2
def dkwX14_hasSizeLimits_0 : List UInt8 := [27, 61, 3, 62, 28, 155, 0, 82, 29, 154, 0, 78, 42, 180, 0, 72, 28, 46, 54, 4, 21, 4]
abbrev dktX14_hasSizeLimits_0 : List UInt8 := dkwX14_hasSizeLimits_0 ++ dktX14_hasSizeLimits_1
theorem dksX14_hasSizeLimits_0 : cX14_hasSizeLimits.data.toList.drop 0 = dktX14_hasSizeLimits_0 := by decide +kernel
theorem dksX14_hasSizeLimits_1 : cX14_hasSizeLimits.data.toList.drop 22 = dktX14_hasSizeLimits_1 := dk_seg dksX14_hasSizeLimits_0 22 rfl rfl
theorem dksX14_hasSizeLimits_2 : cX14_hasSizeLimits.data.toList.drop 46 = dktX14_hasSizeLimits_2 := dk_seg dksX14_hasSizeLimits_1 24 rfl rfl
theorem dksX14_hasSizeLimits_3 : cX14_hasSizeLimits.data.toList.drop 69 = dktX14_hasSizeLimits_3 := dk_seg dksX14_hasSizeLimits_2 23 rfl rfl
theorem dX14_hasSizeLimits_0 : decode cX14_hasSizeLimits 0 = .ok (.iload_n 1, 1) := dk_27 (dk_at dksX14_hasSizeLimits_0 0 rfl rfl)
theorem dX14_hasSizeLimits_1 : decode cX14_hasSizeLimits 1 = .ok (.istore_n 2, 1) := dk_61 (dk_at dksX14_hasSizeLimits_0 1 rfl rfl)
theorem dX14_hasSizeLimits_2 : decode cX14_hasSizeLimits 2 = .ok (.iconst 0, 1) := dk_3 (dk_at dksX14_hasSizeLimits_0 2 rfl rfl)
theorem dX14_hasSizeLimits_3 : decode cX14_hasSizeLimits 3 = .ok (.istore_n 3, 1) := dk_62 (dk_at dksX14_hasSizeLimits_0 3 rfl rfl)
theorem dX14_hasSizeLimits_4 : decode cX14_hasSizeLimits 4 = .ok (.iload_n 2, 1) := dk_28 (dk_at dksX14_hasSizeLimits_0 4 rfl rfl)
theorem dX14_hasSizeLimits_5 : decode cX14_hasSizeLimits 5 = .ok (.ifCond .lt 82, 3) := dk_155 0 82 (dk_at dksX14_hasSizeLimits_0 5 rfl rfl)
theorem dX14_hasSizeLimits_8 : decode cX14_hasSizeLimits 8 = .ok (.iload_n 3, 1) := dk_29 (dk_at dksX14_hasSizeLimits_0 8 rfl rfl)
theorem dX14_hasSizeLimits_9 : decode cX14_hasSizeLimits 9 = .ok (.ifCond .ne 78, 3) := dk_154 0 78 (dk_at dksX14_hasSizeLimits_0 9 rfl rfl)
theorem dX14_hasSizeLimits_12 : decode cX14_hasSizeLimits 12 = .ok (.aload_n 0, 1) := dk_42 (dk_at dksX14_hasSizeLimits_0 12 rfl rfl)
theorem dX14_hasSizeLimits_13 : decode cX14_hasSizeLimits 13 = .ok (.getfield 72, 3) := dk_180 0 72 (dk_at dksX14_hasSizeLimits_0 13 rfl rfl)
theorem dX14_hasSizeLimits_16 : decode cX14_hasSizeLimits 16 = .ok (.iload_n 2, 1) := dk_28 (dk_at dksX14_hasSizeLimits_0 16 rfl rfl)
theorem dX14_hasSizeLimits_17 : decode cX14_hasSizeLimits 17 = .ok (.iaload, 1) := dk_46 (dk_at dksX14_hasSizeLimits_0 17 rfl rfl)
theorem dX14_hasSizeLimits_18 : decode cX14_hasSizeLimits 18 = .ok (.istore 4, 2) := dk_54 4 (dk_at dksX14_hasSizeLimits_0 18 rfl rfl)
theorem dX14_hasSizeLimits_20 : decode cX14_hasSizeLimits 20 = .ok (.iload 4, 2) := dk_21 4 (dk_at dksX14_hasSizeLimits_0 20 rfl rfl)
theorem dX14_hasSizeLimits_22 : decode cX14_hasSizeLimits 22 = .ok (.ifCond .lt 35, 3) := dk_155 0 35 (dk_at dksX14_hasSizeLimits_1 0 rfl rfl)
theorem dX14_hasSizeLimits_25 : decode cX14_hasSizeLimits 25 = .ok (.iload_n 3, 1) := dk_29 (dk_at dksX14_hasSizeLimits_1 3 rfl rfl)
theorem dX14_hasSizeLimits_26 : decode cX14_hasSizeLimits 26 = .ok (.ifCond .ne 13, 3) := dk_154 0 13 (dk_at dksX14_hasSizeLimits_1 4 rfl rfl)
theorem dX14_hasSizeLimits_29 : decode cX14_hasSizeLimits 29 = .ok (.aload_n 0, 1) := dk_42 (dk_at dksX14_hasSizeLimits_1 7 rfl rfl)
theorem dX14_hasSizeLimits_30 : decode cX14_hasSizeLimits 30 = .ok (.getfield 118, 3) := dk_180 0 118 (dk_at dksX14_hasSizeLimits_1 8 rfl rfl)
theorem dX14_hasSizeLimits_33 : decode cX14_hasSizeLimits 33 = .ok (.iload 4, 2) := dk_21 4 (dk_at dksX14_hasSizeLimits_1 11 rfl rfl)
theorem dX14_hasSizeLimits_35 : decode cX14_hasSizeLimits 35 = .ok (.baload, 1) := dk_51 (dk_at dksX14_hasSizeLimits_1 13 rfl rfl)
theorem dX14_hasSizeLimits_36 : decode cX14_hasSizeLimits 36 = .ok (.ifCond .eq 7, 3) := dk_153 0 7 (dk_at dksX14_hasSizeLimits_1 14 rfl rfl)
theorem dX14_hasSizeLimits_39 : decode cX14_hasSizeLimits 39 = .ok (.iconst 1, 1) := dk_4 (dk_at dksX14_hasSizeLimits_1 17 rfl rfl)
theorem dX14_hasSizeLimits_40 : decode cX14_hasSizeLimits 40 = .ok (.goto 4, 3) := dk_167 0 4 (dk_at dksX14_hasSizeLimits_1 18 rfl rfl)
theorem dX14_hasSizeLimits_43 : decode cX14_hasSizeLimits 43 = .ok (.iconst 0, 1) := dk_3 (dk_at dksX14_hasSizeLimits_1 21 rfl rfl)
theorem dX14_hasSizeLimits_44 : decode cX14_hasSizeLimits 44 = .ok (.istore_n 3, 1) := dk_62 (dk_at dksX14_hasSizeLimits_1 22 rfl rfl)
theorem dX14_hasSizeLimits_45 : decode cX14_hasSizeLimits 45 = .ok (.aload_n 0, 1) := dk_42 (dk_at dksX14_hasSizeLimits_1 23 rfl rfl)
theorem dX14_hasSizeLimits_46 : decode cX14_hasSizeLimits 46 = .ok (.getfield 127, 3) := dk_180 0 127 (dk_at dksX14_hasSizeLimits_2 0 rfl rfl)
theorem dX14_hasSizeLimits_49 : decode cX14_hasSizeLimits 49 = .ok (.iload 4, 2) := dk_21 4 (dk_at dksX14_hasSizeLimits_2 3 rfl rfl)
theorem dX14_hasSizeLimits_51 : decode cX14_hasSizeLimits 51 = .ok (.iaload, 1) := dk_46 (dk_at dksX14_hasSizeLimits_2 5 rfl rfl)
theorem dX14_hasSizeLimits_52 : decode cX14_hasSizeLimits 52 = .ok (.istore 4, 2) := dk_54 4 (dk_at dksX14_hasSizeLimits_2 6 rfl rfl)
theorem dX14_hasSizeLimits_54 : decode cX14_hasSizeLimits 54 = .ok (.goto (-34), 3) := dk_167 255 222 (dk_at dksX14_hasSizeLimits_2 8 rfl rfl)
theorem dX14_hasSizeLimits_57 : decode cX14_hasSizeLimits 57 = .ok (.aload_n 0, 1) := dk_42 (dk_at dksX14_hasSizeLimits_2 11 rfl rfl)
theorem dX14_hasSizeLimits_58 : decode cX14_hasSizeLimits 58 = .ok (.getfield 42, 3) := dk_180 0 42 (dk_at dksX14_hasSizeLimits_2 12 rfl rfl)
theorem dX14_hasSizeLimits_61 : decode cX14_hasSizeLimits 61 = .ok (.iload_n 2, 1) := dk_28 (dk_at dksX14_hasSizeLimits_2 15 rfl rfl)
theorem dX14_hasSizeLimits_62 : decode cX14_hasSizeLimits 62 = .ok (.iaload, 1) := dk_46 (dk_at dksX14_hasSizeLimits_2 16 rfl rfl)
theorem dX14_hasSizeLimits_63 : decode cX14_hasSizeLimits 63 = .ok (.bipush 17, 2) := dk_16 17 (dk_at dksX14_hasSizeLimits_2 17 rfl rfl)
theorem dX14_hasSizeLimits_65 : decode cX14_hasSizeLimits 65 = .ok (.if_icmp .ne 17, 3) := dk_160 0 17 (dk_at dksX14_hasSizeLimits_2 19 rfl rfl)
theorem dX14_hasSizeLimits_68 : decode cX14_hasSizeLimits 68 = .ok (.aload_n 0, 1) := dk_42 (dk_at dksX14_hasSizeLimits_2 22 rfl rfl)
theorem dX14_hasSizeLimits_69 : decode cX14_hasSizeLimits 69 = .ok (.getfield 178, 3) := dk_180 0 178 (dk_at dksX14_hasSizeLimits_3 0 rfl rfl)
theorem dX14_hasSizeLimits_72 : decode cX14_hasSizeLimits 72 = .ok (.aload_n 0, 1) := dk_42 (dk_at dksX14_hasSizeLimits_3 3 rfl rfl)
theorem dX14_hasSizeLimits_73 : decode cX14_hasSizeLimits 73 = .ok (.getfield 54, 3) := dk_180 0 54 (dk_at dksX14_hasSizeLimits_3 4 rfl rfl)
theorem dX14_hasSizeLimits_76 : decode cX14_hasSizeLimits 76 = .ok (.iload_n 2, 1) := dk_28 (dk_at dksX14_hasSizeLimits_3 7 rfl rfl)
theorem dX14_hasSizeLimits_77 : decode cX14_hasSizeLimits 77 = .ok (.iaload, 1) := dk_46 (dk_at dksX14_hasSizeLimits_3 8 rfl rfl)
theorem dX14_hasSizeLimits_78 : decode cX14_hasSizeLimits 78 = .ok (.iaload, 1) := dk_46 (dk_at dksX14_hasSizeLimits_3 9 rfl rfl)
theorem dX14_hasSizeLimits_79 : decode cX14_hasSizeLimits 79 = .ok (.goto 4, 3) := dk_167 0 4 (dk_at dksX14_hasSizeLimits_3 10 rfl rfl)
theorem dX14_hasSizeLimits_82 : decode cX14_hasSizeLimits 82 = .ok (.iconst (-1), 1) := dk_2 (dk_at dksX14_hasSizeLimits_3 13 rfl rfl)
theorem dX14_hasSizeLimits_83 : decode cX14_hasSizeLimits 83 = .ok (.istore_n 2, 1) := dk_61 (dk_at dksX14_hasSizeLimits_3 14 rfl rfl)
theorem dX14_hasSizeLimits_84 : decode cX14_hasSizeLimits 84 = .ok (.goto (-80), 3) := dk_167 255 176 (dk_at dksX14_hasSizeLimits_3 15 rfl rfl)
theorem dX14_hasSizeLimits_87 : decode cX14_hasSizeLimits 87 = .ok (.iload_n 3, 1) := dk_29 (dk_at dksX14_hasSizeLimits_3 18 rfl rfl)
theorem dX14_hasSizeLimits_88 : decode cX14_hasSizeLimits 88 = .ok (.ireturn, 1) := dk_172 (dk_at dksX14_hasSizeLimits_3 19 rfl rfl)
abbrev cX14_holdsSize : ByteArray := prog_15_method_91_code
def yX14_holdsSize : MethodName := ⟨RX14, "holdsSize", "(II)Z"⟩
def dkwX14_holdsSize_1 : List UInt8 := [28, 182, 2, 94, 4, 182, 2, 166, 54, 5, 42, 21, 4, 181, 1, 199, 42, 29, 181, 1, 196, 21, 5, 172]
abbrev dktX14_holdsSize_1 : List UInt8 := dkwX14_holdsSize_1 ++ []
def dkwX14_holdsSize_0 : List UInt8 := [42, 27, 182, 2, 163, 154, 0, 5, 4, 172, 42, 180, 1, 196, 62, 42, 180, 1, 199, 54, 4, 42, 27, 42]
abbrev dktX14_holdsSize_0 : List UInt8 := dkwX14_holdsSize_0 ++ dktX14_holdsSize_1
theorem dksX14_holdsSize_0 : cX14_holdsSize.data.toList.drop 0 = dktX14_holdsSize_0 := by decide +kernel
theorem dksX14_holdsSize_1 : cX14_holdsSize.data.toList.drop 24 = dktX14_holdsSize_1 := dk_seg dksX14_holdsSize_0 24 rfl rfl
theorem dX14_holdsSize_0 : decode cX14_holdsSize 0 = .ok (.aload_n 0, 1) := dk_42 (dk_at dksX14_holdsSize_0 0 rfl rfl)
theorem dX14_holdsSize_1 : decode cX14_holdsSize 1 = .ok (.iload_n 1, 1) := dk_27 (dk_at dksX14_holdsSize_0 1 rfl rfl)
theorem dX14_holdsSize_2 : decode cX14_holdsSize 2 = .ok (.invokevirtual 675, 3) := dk_182 2 163 (dk_at dksX14_holdsSize_0 2 rfl rfl)
theorem dX14_holdsSize_5 : decode cX14_holdsSize 5 = .ok (.ifCond .ne 5, 3) := dk_154 0 5 (dk_at dksX14_holdsSize_0 5 rfl rfl)
theorem dX14_holdsSize_8 : decode cX14_holdsSize 8 = .ok (.iconst 1, 1) := dk_4 (dk_at dksX14_holdsSize_0 8 rfl rfl)
theorem dX14_holdsSize_9 : decode cX14_holdsSize 9 = .ok (.ireturn, 1) := dk_172 (dk_at dksX14_holdsSize_0 9 rfl rfl)
theorem dX14_holdsSize_10 : decode cX14_holdsSize 10 = .ok (.aload_n 0, 1) := dk_42 (dk_at dksX14_holdsSize_0 10 rfl rfl)
theorem dX14_holdsSize_11 : decode cX14_holdsSize 11 = .ok (.getfield 452, 3) := dk_180 1 196 (dk_at dksX14_holdsSize_0 11 rfl rfl)
theorem dX14_holdsSize_14 : decode cX14_holdsSize 14 = .ok (.istore_n 3, 1) := dk_62 (dk_at dksX14_holdsSize_0 14 rfl rfl)
theorem dX14_holdsSize_15 : decode cX14_holdsSize 15 = .ok (.aload_n 0, 1) := dk_42 (dk_at dksX14_holdsSize_0 15 rfl rfl)
theorem dX14_holdsSize_16 : decode cX14_holdsSize 16 = .ok (.getfield 455, 3) := dk_180 1 199 (dk_at dksX14_holdsSize_0 16 rfl rfl)
theorem dX14_holdsSize_19 : decode cX14_holdsSize 19 = .ok (.istore 4, 2) := dk_54 4 (dk_at dksX14_holdsSize_0 19 rfl rfl)
theorem dX14_holdsSize_21 : decode cX14_holdsSize 21 = .ok (.aload_n 0, 1) := dk_42 (dk_at dksX14_holdsSize_0 21 rfl rfl)
theorem dX14_holdsSize_22 : decode cX14_holdsSize 22 = .ok (.iload_n 1, 1) := dk_27 (dk_at dksX14_holdsSize_0 22 rfl rfl)
theorem dX14_holdsSize_23 : decode cX14_holdsSize 23 = .ok (.aload_n 0, 1) := dk_42 (dk_at dksX14_holdsSize_0 23 rfl rfl)
theorem dX14_holdsSize_24 : decode cX14_holdsSize 24 = .ok (.iload_n 2, 1) := dk_28 (dk_at dksX14_holdsSize_1 0 rfl rfl)
theorem dX14_holdsSize_25 : decode cX14_holdsSize 25 = .ok (.invokevirtual 606, 3) := dk_182 2 94 (dk_at dksX14_holdsSize_1 1 rfl rfl)
theorem dX14_holdsSize_28 : decode cX14_holdsSize 28 = .ok (.iconst 1, 1) := dk_4 (dk_at dksX14_holdsSize_1 4 rfl rfl)
theorem dX14_holdsSize_29 : decode cX14_holdsSize 29 = .ok (.invokevirtual 678, 3) := dk_182 2 166 (dk_at dksX14_holdsSize_1 5 rfl rfl)
theorem dX14_holdsSize_32 : decode cX14_holdsSize 32 = .ok (.istore 5, 2) := dk_54 5 (dk_at dksX14_holdsSize_1 8 rfl rfl)
theorem dX14_holdsSize_34 : decode cX14_holdsSize 34 = .ok (.aload_n 0, 1) := dk_42 (dk_at dksX14_holdsSize_1 10 rfl rfl)
theorem dX14_holdsSize_35 : decode cX14_holdsSize 35 = .ok (.iload 4, 2) := dk_21 4 (dk_at dksX14_holdsSize_1 11 rfl rfl)
theorem dX14_holdsSize_37 : decode cX14_holdsSize 37 = .ok (.putfield 455, 3) := dk_181 1 199 (dk_at dksX14_holdsSize_1 13 rfl rfl)
theorem dX14_holdsSize_40 : decode cX14_holdsSize 40 = .ok (.aload_n 0, 1) := dk_42 (dk_at dksX14_holdsSize_1 16 rfl rfl)
theorem dX14_holdsSize_41 : decode cX14_holdsSize 41 = .ok (.iload_n 3, 1) := dk_29 (dk_at dksX14_holdsSize_1 17 rfl rfl)
theorem dX14_holdsSize_42 : decode cX14_holdsSize 42 = .ok (.putfield 452, 3) := dk_181 1 196 (dk_at dksX14_holdsSize_1 18 rfl rfl)
theorem dX14_holdsSize_45 : decode cX14_holdsSize 45 = .ok (.iload 5, 2) := dk_21 5 (dk_at dksX14_holdsSize_1 21 rfl rfl)
theorem dX14_holdsSize_47 : decode cX14_holdsSize 47 = .ok (.ireturn, 1) := dk_172 (dk_at dksX14_holdsSize_1 23 rfl rfl)
abbrev cX14_hasLimits : ByteArray := prog_15_method_92_code
def yX14_hasLimits : MethodName := ⟨RX14, "hasLimits", "(I)Z"⟩
def dkwX14_hasLimits_2 : List UInt8 := [28, 46, 46, 167, 0, 4, 2, 61, 167, 255, 206, 29, 172]
abbrev dktX14_hasLimits_2 : List UInt8 := dkwX14_hasLimits_2 ++ []
def dkwX14_hasLimits_1 : List UInt8 := [167, 0, 4, 3, 62, 42, 180, 0, 42, 28, 46, 16, 17, 160, 0, 17, 42, 180, 0, 178, 42, 180, 0, 54]
abbrev dktX14_hasLimits_1 : List UInt8 := dkwX14_hasLimits_1 ++ dktX14_hasLimits_2
def dkwX14_hasLimits_0 : List UInt8 := [27, 61, 3, 62, 28, 155, 0, 52, 29, 154, 0, 48, 42, 180, 0, 72, 28, 46, 155, 0, 7, 4]
abbrev dktX14_hasLimits_0 : List UInt8 := dkwX14_hasLimits_0 ++ dktX14_hasLimits_1
theorem dksX14_hasLimits_0 : cX14_hasLimits.data.toList.drop 0 = dktX14_hasLimits_0 := by decide +kernel
theorem dksX14_hasLimits_1 : cX14_hasLimits.data.toList.drop 22 = dktX14_hasLimits_1 := dk_seg dksX14_hasLimits_0 22 rfl rfl
theorem dksX14_hasLimits_2 : cX14_hasLimits.data.toList.drop 46 = dktX14_hasLimits_2 := dk_seg dksX14_hasLimits_1 24 rfl rfl
theorem dX14_hasLimits_0 : decode cX14_hasLimits 0 = .ok (.iload_n 1, 1) := dk_27 (dk_at dksX14_hasLimits_0 0 rfl rfl)
theorem dX14_hasLimits_1 : decode cX14_hasLimits 1 = .ok (.istore_n 2, 1) := dk_61 (dk_at dksX14_hasLimits_0 1 rfl rfl)
theorem dX14_hasLimits_2 : decode cX14_hasLimits 2 = .ok (.iconst 0, 1) := dk_3 (dk_at dksX14_hasLimits_0 2 rfl rfl)
theorem dX14_hasLimits_3 : decode cX14_hasLimits 3 = .ok (.istore_n 3, 1) := dk_62 (dk_at dksX14_hasLimits_0 3 rfl rfl)
theorem dX14_hasLimits_4 : decode cX14_hasLimits 4 = .ok (.iload_n 2, 1) := dk_28 (dk_at dksX14_hasLimits_0 4 rfl rfl)
theorem dX14_hasLimits_5 : decode cX14_hasLimits 5 = .ok (.ifCond .lt 52, 3) := dk_155 0 52 (dk_at dksX14_hasLimits_0 5 rfl rfl)
theorem dX14_hasLimits_8 : decode cX14_hasLimits 8 = .ok (.iload_n 3, 1) := dk_29 (dk_at dksX14_hasLimits_0 8 rfl rfl)
theorem dX14_hasLimits_9 : decode cX14_hasLimits 9 = .ok (.ifCond .ne 48, 3) := dk_154 0 48 (dk_at dksX14_hasLimits_0 9 rfl rfl)
theorem dX14_hasLimits_12 : decode cX14_hasLimits 12 = .ok (.aload_n 0, 1) := dk_42 (dk_at dksX14_hasLimits_0 12 rfl rfl)
theorem dX14_hasLimits_13 : decode cX14_hasLimits 13 = .ok (.getfield 72, 3) := dk_180 0 72 (dk_at dksX14_hasLimits_0 13 rfl rfl)
theorem dX14_hasLimits_16 : decode cX14_hasLimits 16 = .ok (.iload_n 2, 1) := dk_28 (dk_at dksX14_hasLimits_0 16 rfl rfl)
theorem dX14_hasLimits_17 : decode cX14_hasLimits 17 = .ok (.iaload, 1) := dk_46 (dk_at dksX14_hasLimits_0 17 rfl rfl)
theorem dX14_hasLimits_18 : decode cX14_hasLimits 18 = .ok (.ifCond .lt 7, 3) := dk_155 0 7 (dk_at dksX14_hasLimits_0 18 rfl rfl)
theorem dX14_hasLimits_21 : decode cX14_hasLimits 21 = .ok (.iconst 1, 1) := dk_4 (dk_at dksX14_hasLimits_0 21 rfl rfl)
theorem dX14_hasLimits_22 : decode cX14_hasLimits 22 = .ok (.goto 4, 3) := dk_167 0 4 (dk_at dksX14_hasLimits_1 0 rfl rfl)
theorem dX14_hasLimits_25 : decode cX14_hasLimits 25 = .ok (.iconst 0, 1) := dk_3 (dk_at dksX14_hasLimits_1 3 rfl rfl)
theorem dX14_hasLimits_26 : decode cX14_hasLimits 26 = .ok (.istore_n 3, 1) := dk_62 (dk_at dksX14_hasLimits_1 4 rfl rfl)
theorem dX14_hasLimits_27 : decode cX14_hasLimits 27 = .ok (.aload_n 0, 1) := dk_42 (dk_at dksX14_hasLimits_1 5 rfl rfl)
theorem dX14_hasLimits_28 : decode cX14_hasLimits 28 = .ok (.getfield 42, 3) := dk_180 0 42 (dk_at dksX14_hasLimits_1 6 rfl rfl)
theorem dX14_hasLimits_31 : decode cX14_hasLimits 31 = .ok (.iload_n 2, 1) := dk_28 (dk_at dksX14_hasLimits_1 9 rfl rfl)
theorem dX14_hasLimits_32 : decode cX14_hasLimits 32 = .ok (.iaload, 1) := dk_46 (dk_at dksX14_hasLimits_1 10 rfl rfl)
theorem dX14_hasLimits_33 : decode cX14_hasLimits 33 = .ok (.bipush 17, 2) := dk_16 17 (dk_at dksX14_hasLimits_1 11 rfl rfl)
theorem dX14_hasLimits_35 : decode cX14_hasLimits 35 = .ok (.if_icmp .ne 17, 3) := dk_160 0 17 (dk_at dksX14_hasLimits_1 13 rfl rfl)
theorem dX14_hasLimits_38 : decode cX14_hasLimits 38 = .ok (.aload_n 0, 1) := dk_42 (dk_at dksX14_hasLimits_1 16 rfl rfl)
theorem dX14_hasLimits_39 : decode cX14_hasLimits 39 = .ok (.getfield 178, 3) := dk_180 0 178 (dk_at dksX14_hasLimits_1 17 rfl rfl)
theorem dX14_hasLimits_42 : decode cX14_hasLimits 42 = .ok (.aload_n 0, 1) := dk_42 (dk_at dksX14_hasLimits_1 20 rfl rfl)
theorem dX14_hasLimits_43 : decode cX14_hasLimits 43 = .ok (.getfield 54, 3) := dk_180 0 54 (dk_at dksX14_hasLimits_1 21 rfl rfl)
theorem dX14_hasLimits_46 : decode cX14_hasLimits 46 = .ok (.iload_n 2, 1) := dk_28 (dk_at dksX14_hasLimits_2 0 rfl rfl)
theorem dX14_hasLimits_47 : decode cX14_hasLimits 47 = .ok (.iaload, 1) := dk_46 (dk_at dksX14_hasLimits_2 1 rfl rfl)
theorem dX14_hasLimits_48 : decode cX14_hasLimits 48 = .ok (.iaload, 1) := dk_46 (dk_at dksX14_hasLimits_2 2 rfl rfl)
theorem dX14_hasLimits_49 : decode cX14_hasLimits 49 = .ok (.goto 4, 3) := dk_167 0 4 (dk_at dksX14_hasLimits_2 3 rfl rfl)
theorem dX14_hasLimits_52 : decode cX14_hasLimits 52 = .ok (.iconst (-1), 1) := dk_2 (dk_at dksX14_hasLimits_2 6 rfl rfl)
theorem dX14_hasLimits_53 : decode cX14_hasLimits 53 = .ok (.istore_n 2, 1) := dk_61 (dk_at dksX14_hasLimits_2 7 rfl rfl)
theorem dX14_hasLimits_54 : decode cX14_hasLimits 54 = .ok (.goto (-50), 3) := dk_167 255 206 (dk_at dksX14_hasLimits_2 8 rfl rfl)
theorem dX14_hasLimits_57 : decode cX14_hasLimits 57 = .ok (.iload_n 3, 1) := dk_29 (dk_at dksX14_hasLimits_2 11 rfl rfl)
theorem dX14_hasLimits_58 : decode cX14_hasLimits 58 = .ok (.ireturn, 1) := dk_172 (dk_at dksX14_hasLimits_2 12 rfl rfl)
abbrev cX14_isFew : ByteArray := prog_15_method_121_code
def yX14_isFew : MethodName := ⟨RX14, "isFew", "(I)Z"⟩
def dkwX14_isFew_0 : List UInt8 := [42, 180, 0, 60, 27, 46, 153, 0, 12, 42, 180, 2, 173, 16, 64, 163, 0, 7, 4, 167, 0, 4, 3, 172]
abbrev dktX14_isFew_0 : List UInt8 := dkwX14_isFew_0 ++ []
theorem dksX14_isFew_0 : cX14_isFew.data.toList.drop 0 = dktX14_isFew_0 := by decide +kernel
theorem dX14_isFew_0 : decode cX14_isFew 0 = .ok (.aload_n 0, 1) := dk_42 (dk_at dksX14_isFew_0 0 rfl rfl)
theorem dX14_isFew_1 : decode cX14_isFew 1 = .ok (.getfield 60, 3) := dk_180 0 60 (dk_at dksX14_isFew_0 1 rfl rfl)
theorem dX14_isFew_4 : decode cX14_isFew 4 = .ok (.iload_n 1, 1) := dk_27 (dk_at dksX14_isFew_0 4 rfl rfl)
theorem dX14_isFew_5 : decode cX14_isFew 5 = .ok (.iaload, 1) := dk_46 (dk_at dksX14_isFew_0 5 rfl rfl)
theorem dX14_isFew_6 : decode cX14_isFew 6 = .ok (.ifCond .eq 12, 3) := dk_153 0 12 (dk_at dksX14_isFew_0 6 rfl rfl)
theorem dX14_isFew_9 : decode cX14_isFew 9 = .ok (.aload_n 0, 1) := dk_42 (dk_at dksX14_isFew_0 9 rfl rfl)
theorem dX14_isFew_10 : decode cX14_isFew 10 = .ok (.getfield 685, 3) := dk_180 2 173 (dk_at dksX14_isFew_0 10 rfl rfl)
theorem dX14_isFew_13 : decode cX14_isFew 13 = .ok (.bipush 64, 2) := dk_16 64 (dk_at dksX14_isFew_0 13 rfl rfl)
theorem dX14_isFew_15 : decode cX14_isFew 15 = .ok (.if_icmp .gt 7, 3) := dk_163 0 7 (dk_at dksX14_isFew_0 15 rfl rfl)
theorem dX14_isFew_18 : decode cX14_isFew 18 = .ok (.iconst 1, 1) := dk_4 (dk_at dksX14_isFew_0 18 rfl rfl)
theorem dX14_isFew_19 : decode cX14_isFew 19 = .ok (.goto 4, 3) := dk_167 0 4 (dk_at dksX14_isFew_0 19 rfl rfl)
theorem dX14_isFew_22 : decode cX14_isFew 22 = .ok (.iconst 0, 1) := dk_3 (dk_at dksX14_isFew_0 22 rfl rfl)
theorem dX14_isFew_23 : decode cX14_isFew 23 = .ok (.ireturn, 1) := dk_172 (dk_at dksX14_isFew_0 23 rfl rfl)
abbrev cX14_objectOf : ByteArray := prog_15_method_117_code
def yX14_objectOf : MethodName := ⟨RX14, "objectOf", "(I)Z"⟩
def dkwX14_objectOf_8 : List UInt8 := [182, 2, 247, 132, 5, 1, 167, 255, 228, 4, 172]
abbrev dktX14_objectOf_8 : List UInt8 := dkwX14_objectOf_8 ++ []
def dkwX14_objectOf_7 : List UInt8 := [21, 5, 28, 162, 0, 28, 42, 42, 42, 180, 0, 172, 29, 21, 5, 96, 46, 3, 182, 2, 17, 3]
abbrev dktX14_objectOf_7 : List UInt8 := dkwX14_objectOf_7 ++ dktX14_objectOf_8
def dkwX14_objectOf_6 : List UInt8 := [42, 180, 0, 172, 29, 4, 96, 46, 3, 182, 2, 17, 16, 40, 21, 4, 104, 182, 2, 247, 5, 54, 5]
abbrev dktX14_objectOf_6 : List UInt8 := dkwX14_objectOf_6 ++ dktX14_objectOf_7
def dkwX14_objectOf_5 : List UInt8 := [4, 96, 46, 3, 182, 2, 17, 182, 2, 20, 16, 39, 164, 0, 5, 3, 172, 42, 3, 181, 2, 170, 42, 42]
abbrev dktX14_objectOf_5 : List UInt8 := dkwX14_objectOf_5 ++ dktX14_objectOf_6
def dkwX14_objectOf_4 : List UInt8 := [156, 0, 5, 3, 172, 132, 5, 1, 167, 255, 233, 21, 4, 5, 162, 0, 27, 42, 42, 42, 180, 0, 172, 29]
abbrev dktX14_objectOf_4 : List UInt8 := dkwX14_objectOf_4 ++ dktX14_objectOf_5
def dkwX14_objectOf_3 : List UInt8 := [154, 0, 5, 3, 172, 4, 54, 5, 21, 5, 28, 162, 0, 23, 42, 180, 0, 172, 29, 21, 5, 96, 46]
abbrev dktX14_objectOf_3 : List UInt8 := dkwX14_objectOf_3 ++ dktX14_objectOf_4
def dkwX14_objectOf_2 : List UInt8 := [167, 0, 13, 42, 42, 180, 0, 169, 29, 46, 182, 2, 244, 54, 4, 21, 4, 3, 5, 184, 1, 132]
abbrev dktX14_objectOf_2 : List UInt8 := dkwX14_objectOf_2 ++ dktX14_objectOf_3
def dkwX14_objectOf_1 : List UInt8 := [180, 0, 172, 29, 46, 155, 0, 21, 42, 42, 42, 180, 0, 172, 29, 46, 3, 182, 2, 17, 182, 2, 20]
abbrev dktX14_objectOf_1 : List UInt8 := dkwX14_objectOf_1 ++ dktX14_objectOf_2
def dkwX14_objectOf_0 : List UInt8 := [42, 180, 0, 163, 27, 46, 61, 28, 5, 162, 0, 5, 3, 172, 42, 180, 0, 160, 27, 46, 62, 42]
abbrev dktX14_objectOf_0 : List UInt8 := dkwX14_objectOf_0 ++ dktX14_objectOf_1
theorem dksX14_objectOf_0 : cX14_objectOf.data.toList.drop 0 = dktX14_objectOf_0 := by decide +kernel
theorem dksX14_objectOf_1 : cX14_objectOf.data.toList.drop 22 = dktX14_objectOf_1 := dk_seg dksX14_objectOf_0 22 rfl rfl
theorem dksX14_objectOf_2 : cX14_objectOf.data.toList.drop 45 = dktX14_objectOf_2 := dk_seg dksX14_objectOf_1 23 rfl rfl
theorem dksX14_objectOf_3 : cX14_objectOf.data.toList.drop 67 = dktX14_objectOf_3 := dk_seg dksX14_objectOf_2 22 rfl rfl
theorem dksX14_objectOf_4 : cX14_objectOf.data.toList.drop 90 = dktX14_objectOf_4 := dk_seg dksX14_objectOf_3 23 rfl rfl
theorem dksX14_objectOf_5 : cX14_objectOf.data.toList.drop 114 = dktX14_objectOf_5 := dk_seg dksX14_objectOf_4 24 rfl rfl
theorem dksX14_objectOf_6 : cX14_objectOf.data.toList.drop 138 = dktX14_objectOf_6 := dk_seg dksX14_objectOf_5 24 rfl rfl
theorem dksX14_objectOf_7 : cX14_objectOf.data.toList.drop 161 = dktX14_objectOf_7 := dk_seg dksX14_objectOf_6 23 rfl rfl
theorem dksX14_objectOf_8 : cX14_objectOf.data.toList.drop 183 = dktX14_objectOf_8 := dk_seg dksX14_objectOf_7 22 rfl rfl
theorem dX14_objectOf_0 : decode cX14_objectOf 0 = .ok (.aload_n 0, 1) := dk_42 (dk_at dksX14_objectOf_0 0 rfl rfl)
theorem dX14_objectOf_1 : decode cX14_objectOf 1 = .ok (.getfield 163, 3) := dk_180 0 163 (dk_at dksX14_objectOf_0 1 rfl rfl)
theorem dX14_objectOf_4 : decode cX14_objectOf 4 = .ok (.iload_n 1, 1) := dk_27 (dk_at dksX14_objectOf_0 4 rfl rfl)
theorem dX14_objectOf_5 : decode cX14_objectOf 5 = .ok (.iaload, 1) := dk_46 (dk_at dksX14_objectOf_0 5 rfl rfl)
theorem dX14_objectOf_6 : decode cX14_objectOf 6 = .ok (.istore_n 2, 1) := dk_61 (dk_at dksX14_objectOf_0 6 rfl rfl)
theorem dX14_objectOf_7 : decode cX14_objectOf 7 = .ok (.iload_n 2, 1) := dk_28 (dk_at dksX14_objectOf_0 7 rfl rfl)
theorem dX14_objectOf_8 : decode cX14_objectOf 8 = .ok (.iconst 2, 1) := dk_5 (dk_at dksX14_objectOf_0 8 rfl rfl)
theorem dX14_objectOf_9 : decode cX14_objectOf 9 = .ok (.if_icmp .ge 5, 3) := dk_162 0 5 (dk_at dksX14_objectOf_0 9 rfl rfl)
theorem dX14_objectOf_12 : decode cX14_objectOf 12 = .ok (.iconst 0, 1) := dk_3 (dk_at dksX14_objectOf_0 12 rfl rfl)
theorem dX14_objectOf_13 : decode cX14_objectOf 13 = .ok (.ireturn, 1) := dk_172 (dk_at dksX14_objectOf_0 13 rfl rfl)
theorem dX14_objectOf_14 : decode cX14_objectOf 14 = .ok (.aload_n 0, 1) := dk_42 (dk_at dksX14_objectOf_0 14 rfl rfl)
theorem dX14_objectOf_15 : decode cX14_objectOf 15 = .ok (.getfield 160, 3) := dk_180 0 160 (dk_at dksX14_objectOf_0 15 rfl rfl)
theorem dX14_objectOf_18 : decode cX14_objectOf 18 = .ok (.iload_n 1, 1) := dk_27 (dk_at dksX14_objectOf_0 18 rfl rfl)
theorem dX14_objectOf_19 : decode cX14_objectOf 19 = .ok (.iaload, 1) := dk_46 (dk_at dksX14_objectOf_0 19 rfl rfl)
theorem dX14_objectOf_20 : decode cX14_objectOf 20 = .ok (.istore_n 3, 1) := dk_62 (dk_at dksX14_objectOf_0 20 rfl rfl)
theorem dX14_objectOf_21 : decode cX14_objectOf 21 = .ok (.aload_n 0, 1) := dk_42 (dk_at dksX14_objectOf_0 21 rfl rfl)
theorem dX14_objectOf_22 : decode cX14_objectOf 22 = .ok (.getfield 172, 3) := dk_180 0 172 (dk_at dksX14_objectOf_1 0 rfl rfl)
theorem dX14_objectOf_25 : decode cX14_objectOf 25 = .ok (.iload_n 3, 1) := dk_29 (dk_at dksX14_objectOf_1 3 rfl rfl)
theorem dX14_objectOf_26 : decode cX14_objectOf 26 = .ok (.iaload, 1) := dk_46 (dk_at dksX14_objectOf_1 4 rfl rfl)
theorem dX14_objectOf_27 : decode cX14_objectOf 27 = .ok (.ifCond .lt 21, 3) := dk_155 0 21 (dk_at dksX14_objectOf_1 5 rfl rfl)
theorem dX14_objectOf_30 : decode cX14_objectOf 30 = .ok (.aload_n 0, 1) := dk_42 (dk_at dksX14_objectOf_1 8 rfl rfl)
theorem dX14_objectOf_31 : decode cX14_objectOf 31 = .ok (.aload_n 0, 1) := dk_42 (dk_at dksX14_objectOf_1 9 rfl rfl)
theorem dX14_objectOf_32 : decode cX14_objectOf 32 = .ok (.aload_n 0, 1) := dk_42 (dk_at dksX14_objectOf_1 10 rfl rfl)
theorem dX14_objectOf_33 : decode cX14_objectOf 33 = .ok (.getfield 172, 3) := dk_180 0 172 (dk_at dksX14_objectOf_1 11 rfl rfl)
theorem dX14_objectOf_36 : decode cX14_objectOf 36 = .ok (.iload_n 3, 1) := dk_29 (dk_at dksX14_objectOf_1 14 rfl rfl)
theorem dX14_objectOf_37 : decode cX14_objectOf 37 = .ok (.iaload, 1) := dk_46 (dk_at dksX14_objectOf_1 15 rfl rfl)
theorem dX14_objectOf_38 : decode cX14_objectOf 38 = .ok (.iconst 0, 1) := dk_3 (dk_at dksX14_objectOf_1 16 rfl rfl)
theorem dX14_objectOf_39 : decode cX14_objectOf 39 = .ok (.invokevirtual 529, 3) := dk_182 2 17 (dk_at dksX14_objectOf_1 17 rfl rfl)
theorem dX14_objectOf_42 : decode cX14_objectOf 42 = .ok (.invokevirtual 532, 3) := dk_182 2 20 (dk_at dksX14_objectOf_1 20 rfl rfl)
theorem dX14_objectOf_45 : decode cX14_objectOf 45 = .ok (.goto 13, 3) := dk_167 0 13 (dk_at dksX14_objectOf_2 0 rfl rfl)
theorem dX14_objectOf_48 : decode cX14_objectOf 48 = .ok (.aload_n 0, 1) := dk_42 (dk_at dksX14_objectOf_2 3 rfl rfl)
theorem dX14_objectOf_49 : decode cX14_objectOf 49 = .ok (.aload_n 0, 1) := dk_42 (dk_at dksX14_objectOf_2 4 rfl rfl)
theorem dX14_objectOf_50 : decode cX14_objectOf 50 = .ok (.getfield 169, 3) := dk_180 0 169 (dk_at dksX14_objectOf_2 5 rfl rfl)
theorem dX14_objectOf_53 : decode cX14_objectOf 53 = .ok (.iload_n 3, 1) := dk_29 (dk_at dksX14_objectOf_2 8 rfl rfl)
theorem dX14_objectOf_54 : decode cX14_objectOf 54 = .ok (.iaload, 1) := dk_46 (dk_at dksX14_objectOf_2 9 rfl rfl)
theorem dX14_objectOf_55 : decode cX14_objectOf 55 = .ok (.invokevirtual 756, 3) := dk_182 2 244 (dk_at dksX14_objectOf_2 10 rfl rfl)
theorem dX14_objectOf_58 : decode cX14_objectOf 58 = .ok (.istore 4, 2) := dk_54 4 (dk_at dksX14_objectOf_2 13 rfl rfl)
theorem dX14_objectOf_60 : decode cX14_objectOf 60 = .ok (.iload 4, 2) := dk_21 4 (dk_at dksX14_objectOf_2 15 rfl rfl)
theorem dX14_objectOf_62 : decode cX14_objectOf 62 = .ok (.iconst 0, 1) := dk_3 (dk_at dksX14_objectOf_2 17 rfl rfl)
theorem dX14_objectOf_63 : decode cX14_objectOf 63 = .ok (.iconst 2, 1) := dk_5 (dk_at dksX14_objectOf_2 18 rfl rfl)
theorem dX14_objectOf_64 : decode cX14_objectOf 64 = .ok (.invokestatic 388, 3) := dk_184 1 132 (dk_at dksX14_objectOf_2 19 rfl rfl)
theorem dX14_objectOf_67 : decode cX14_objectOf 67 = .ok (.ifCond .ne 5, 3) := dk_154 0 5 (dk_at dksX14_objectOf_3 0 rfl rfl)
theorem dX14_objectOf_70 : decode cX14_objectOf 70 = .ok (.iconst 0, 1) := dk_3 (dk_at dksX14_objectOf_3 3 rfl rfl)
theorem dX14_objectOf_71 : decode cX14_objectOf 71 = .ok (.ireturn, 1) := dk_172 (dk_at dksX14_objectOf_3 4 rfl rfl)
theorem dX14_objectOf_72 : decode cX14_objectOf 72 = .ok (.iconst 1, 1) := dk_4 (dk_at dksX14_objectOf_3 5 rfl rfl)
theorem dX14_objectOf_73 : decode cX14_objectOf 73 = .ok (.istore 5, 2) := dk_54 5 (dk_at dksX14_objectOf_3 6 rfl rfl)
theorem dX14_objectOf_75 : decode cX14_objectOf 75 = .ok (.iload 5, 2) := dk_21 5 (dk_at dksX14_objectOf_3 8 rfl rfl)
theorem dX14_objectOf_77 : decode cX14_objectOf 77 = .ok (.iload_n 2, 1) := dk_28 (dk_at dksX14_objectOf_3 10 rfl rfl)
theorem dX14_objectOf_78 : decode cX14_objectOf 78 = .ok (.if_icmp .ge 23, 3) := dk_162 0 23 (dk_at dksX14_objectOf_3 11 rfl rfl)
theorem dX14_objectOf_81 : decode cX14_objectOf 81 = .ok (.aload_n 0, 1) := dk_42 (dk_at dksX14_objectOf_3 14 rfl rfl)
theorem dX14_objectOf_82 : decode cX14_objectOf 82 = .ok (.getfield 172, 3) := dk_180 0 172 (dk_at dksX14_objectOf_3 15 rfl rfl)
theorem dX14_objectOf_85 : decode cX14_objectOf 85 = .ok (.iload_n 3, 1) := dk_29 (dk_at dksX14_objectOf_3 18 rfl rfl)
theorem dX14_objectOf_86 : decode cX14_objectOf 86 = .ok (.iload 5, 2) := dk_21 5 (dk_at dksX14_objectOf_3 19 rfl rfl)
theorem dX14_objectOf_88 : decode cX14_objectOf 88 = .ok (.iadd, 1) := dk_96 (dk_at dksX14_objectOf_3 21 rfl rfl)
theorem dX14_objectOf_89 : decode cX14_objectOf 89 = .ok (.iaload, 1) := dk_46 (dk_at dksX14_objectOf_3 22 rfl rfl)
theorem dX14_objectOf_90 : decode cX14_objectOf 90 = .ok (.ifCond .ge 5, 3) := dk_156 0 5 (dk_at dksX14_objectOf_4 0 rfl rfl)
theorem dX14_objectOf_93 : decode cX14_objectOf 93 = .ok (.iconst 0, 1) := dk_3 (dk_at dksX14_objectOf_4 3 rfl rfl)
theorem dX14_objectOf_94 : decode cX14_objectOf 94 = .ok (.ireturn, 1) := dk_172 (dk_at dksX14_objectOf_4 4 rfl rfl)
theorem dX14_objectOf_95 : decode cX14_objectOf 95 = .ok (.iinc 5 1, 3) := dk_132 5 1 (dk_at dksX14_objectOf_4 5 rfl rfl)
theorem dX14_objectOf_98 : decode cX14_objectOf 98 = .ok (.goto (-23), 3) := dk_167 255 233 (dk_at dksX14_objectOf_4 8 rfl rfl)
theorem dX14_objectOf_101 : decode cX14_objectOf 101 = .ok (.iload 4, 2) := dk_21 4 (dk_at dksX14_objectOf_4 11 rfl rfl)
theorem dX14_objectOf_103 : decode cX14_objectOf 103 = .ok (.iconst 2, 1) := dk_5 (dk_at dksX14_objectOf_4 13 rfl rfl)
theorem dX14_objectOf_104 : decode cX14_objectOf 104 = .ok (.if_icmp .ge 27, 3) := dk_162 0 27 (dk_at dksX14_objectOf_4 14 rfl rfl)
theorem dX14_objectOf_107 : decode cX14_objectOf 107 = .ok (.aload_n 0, 1) := dk_42 (dk_at dksX14_objectOf_4 17 rfl rfl)
theorem dX14_objectOf_108 : decode cX14_objectOf 108 = .ok (.aload_n 0, 1) := dk_42 (dk_at dksX14_objectOf_4 18 rfl rfl)
theorem dX14_objectOf_109 : decode cX14_objectOf 109 = .ok (.aload_n 0, 1) := dk_42 (dk_at dksX14_objectOf_4 19 rfl rfl)
theorem dX14_objectOf_110 : decode cX14_objectOf 110 = .ok (.getfield 172, 3) := dk_180 0 172 (dk_at dksX14_objectOf_4 20 rfl rfl)
theorem dX14_objectOf_113 : decode cX14_objectOf 113 = .ok (.iload_n 3, 1) := dk_29 (dk_at dksX14_objectOf_4 23 rfl rfl)
theorem dX14_objectOf_114 : decode cX14_objectOf 114 = .ok (.iconst 1, 1) := dk_4 (dk_at dksX14_objectOf_5 0 rfl rfl)
theorem dX14_objectOf_115 : decode cX14_objectOf 115 = .ok (.iadd, 1) := dk_96 (dk_at dksX14_objectOf_5 1 rfl rfl)
theorem dX14_objectOf_116 : decode cX14_objectOf 116 = .ok (.iaload, 1) := dk_46 (dk_at dksX14_objectOf_5 2 rfl rfl)
theorem dX14_objectOf_117 : decode cX14_objectOf 117 = .ok (.iconst 0, 1) := dk_3 (dk_at dksX14_objectOf_5 3 rfl rfl)
theorem dX14_objectOf_118 : decode cX14_objectOf 118 = .ok (.invokevirtual 529, 3) := dk_182 2 17 (dk_at dksX14_objectOf_5 4 rfl rfl)
theorem dX14_objectOf_121 : decode cX14_objectOf 121 = .ok (.invokevirtual 532, 3) := dk_182 2 20 (dk_at dksX14_objectOf_5 7 rfl rfl)
theorem dX14_objectOf_124 : decode cX14_objectOf 124 = .ok (.bipush 39, 2) := dk_16 39 (dk_at dksX14_objectOf_5 10 rfl rfl)
theorem dX14_objectOf_126 : decode cX14_objectOf 126 = .ok (.if_icmp .le 5, 3) := dk_164 0 5 (dk_at dksX14_objectOf_5 12 rfl rfl)
theorem dX14_objectOf_129 : decode cX14_objectOf 129 = .ok (.iconst 0, 1) := dk_3 (dk_at dksX14_objectOf_5 15 rfl rfl)
theorem dX14_objectOf_130 : decode cX14_objectOf 130 = .ok (.ireturn, 1) := dk_172 (dk_at dksX14_objectOf_5 16 rfl rfl)
theorem dX14_objectOf_131 : decode cX14_objectOf 131 = .ok (.aload_n 0, 1) := dk_42 (dk_at dksX14_objectOf_5 17 rfl rfl)
theorem dX14_objectOf_132 : decode cX14_objectOf 132 = .ok (.iconst 0, 1) := dk_3 (dk_at dksX14_objectOf_5 18 rfl rfl)
theorem dX14_objectOf_133 : decode cX14_objectOf 133 = .ok (.putfield 682, 3) := dk_181 2 170 (dk_at dksX14_objectOf_5 19 rfl rfl)
theorem dX14_objectOf_136 : decode cX14_objectOf 136 = .ok (.aload_n 0, 1) := dk_42 (dk_at dksX14_objectOf_5 22 rfl rfl)
theorem dX14_objectOf_137 : decode cX14_objectOf 137 = .ok (.aload_n 0, 1) := dk_42 (dk_at dksX14_objectOf_5 23 rfl rfl)
theorem dX14_objectOf_138 : decode cX14_objectOf 138 = .ok (.aload_n 0, 1) := dk_42 (dk_at dksX14_objectOf_6 0 rfl rfl)
theorem dX14_objectOf_139 : decode cX14_objectOf 139 = .ok (.getfield 172, 3) := dk_180 0 172 (dk_at dksX14_objectOf_6 1 rfl rfl)
theorem dX14_objectOf_142 : decode cX14_objectOf 142 = .ok (.iload_n 3, 1) := dk_29 (dk_at dksX14_objectOf_6 4 rfl rfl)
theorem dX14_objectOf_143 : decode cX14_objectOf 143 = .ok (.iconst 1, 1) := dk_4 (dk_at dksX14_objectOf_6 5 rfl rfl)
theorem dX14_objectOf_144 : decode cX14_objectOf 144 = .ok (.iadd, 1) := dk_96 (dk_at dksX14_objectOf_6 6 rfl rfl)
theorem dX14_objectOf_145 : decode cX14_objectOf 145 = .ok (.iaload, 1) := dk_46 (dk_at dksX14_objectOf_6 7 rfl rfl)
theorem dX14_objectOf_146 : decode cX14_objectOf 146 = .ok (.iconst 0, 1) := dk_3 (dk_at dksX14_objectOf_6 8 rfl rfl)
theorem dX14_objectOf_147 : decode cX14_objectOf 147 = .ok (.invokevirtual 529, 3) := dk_182 2 17 (dk_at dksX14_objectOf_6 9 rfl rfl)
theorem dX14_objectOf_150 : decode cX14_objectOf 150 = .ok (.bipush 40, 2) := dk_16 40 (dk_at dksX14_objectOf_6 12 rfl rfl)
theorem dX14_objectOf_152 : decode cX14_objectOf 152 = .ok (.iload 4, 2) := dk_21 4 (dk_at dksX14_objectOf_6 14 rfl rfl)
theorem dX14_objectOf_154 : decode cX14_objectOf 154 = .ok (.imul, 1) := dk_104 (dk_at dksX14_objectOf_6 16 rfl rfl)
theorem dX14_objectOf_155 : decode cX14_objectOf 155 = .ok (.invokevirtual 759, 3) := dk_182 2 247 (dk_at dksX14_objectOf_6 17 rfl rfl)
theorem dX14_objectOf_158 : decode cX14_objectOf 158 = .ok (.iconst 2, 1) := dk_5 (dk_at dksX14_objectOf_6 20 rfl rfl)
theorem dX14_objectOf_159 : decode cX14_objectOf 159 = .ok (.istore 5, 2) := dk_54 5 (dk_at dksX14_objectOf_6 21 rfl rfl)
theorem dX14_objectOf_161 : decode cX14_objectOf 161 = .ok (.iload 5, 2) := dk_21 5 (dk_at dksX14_objectOf_7 0 rfl rfl)
theorem dX14_objectOf_163 : decode cX14_objectOf 163 = .ok (.iload_n 2, 1) := dk_28 (dk_at dksX14_objectOf_7 2 rfl rfl)
theorem dX14_objectOf_164 : decode cX14_objectOf 164 = .ok (.if_icmp .ge 28, 3) := dk_162 0 28 (dk_at dksX14_objectOf_7 3 rfl rfl)
theorem dX14_objectOf_167 : decode cX14_objectOf 167 = .ok (.aload_n 0, 1) := dk_42 (dk_at dksX14_objectOf_7 6 rfl rfl)
theorem dX14_objectOf_168 : decode cX14_objectOf 168 = .ok (.aload_n 0, 1) := dk_42 (dk_at dksX14_objectOf_7 7 rfl rfl)
theorem dX14_objectOf_169 : decode cX14_objectOf 169 = .ok (.aload_n 0, 1) := dk_42 (dk_at dksX14_objectOf_7 8 rfl rfl)
theorem dX14_objectOf_170 : decode cX14_objectOf 170 = .ok (.getfield 172, 3) := dk_180 0 172 (dk_at dksX14_objectOf_7 9 rfl rfl)
theorem dX14_objectOf_173 : decode cX14_objectOf 173 = .ok (.iload_n 3, 1) := dk_29 (dk_at dksX14_objectOf_7 12 rfl rfl)
theorem dX14_objectOf_174 : decode cX14_objectOf 174 = .ok (.iload 5, 2) := dk_21 5 (dk_at dksX14_objectOf_7 13 rfl rfl)
theorem dX14_objectOf_176 : decode cX14_objectOf 176 = .ok (.iadd, 1) := dk_96 (dk_at dksX14_objectOf_7 15 rfl rfl)
theorem dX14_objectOf_177 : decode cX14_objectOf 177 = .ok (.iaload, 1) := dk_46 (dk_at dksX14_objectOf_7 16 rfl rfl)
theorem dX14_objectOf_178 : decode cX14_objectOf 178 = .ok (.iconst 0, 1) := dk_3 (dk_at dksX14_objectOf_7 17 rfl rfl)
theorem dX14_objectOf_179 : decode cX14_objectOf 179 = .ok (.invokevirtual 529, 3) := dk_182 2 17 (dk_at dksX14_objectOf_7 18 rfl rfl)
theorem dX14_objectOf_182 : decode cX14_objectOf 182 = .ok (.iconst 0, 1) := dk_3 (dk_at dksX14_objectOf_7 21 rfl rfl)
theorem dX14_objectOf_183 : decode cX14_objectOf 183 = .ok (.invokevirtual 759, 3) := dk_182 2 247 (dk_at dksX14_objectOf_8 0 rfl rfl)
theorem dX14_objectOf_186 : decode cX14_objectOf 186 = .ok (.iinc 5 1, 3) := dk_132 5 1 (dk_at dksX14_objectOf_8 3 rfl rfl)
theorem dX14_objectOf_189 : decode cX14_objectOf 189 = .ok (.goto (-28), 3) := dk_167 255 228 (dk_at dksX14_objectOf_8 6 rfl rfl)
theorem dX14_objectOf_192 : decode cX14_objectOf 192 = .ok (.iconst 1, 1) := dk_4 (dk_at dksX14_objectOf_8 9 rfl rfl)
theorem dX14_objectOf_193 : decode cX14_objectOf 193 = .ok (.ireturn, 1) := dk_172 (dk_at dksX14_objectOf_8 10 rfl rfl)
abbrev cX14_arcOf : ByteArray := prog_15_method_115_code
def yX14_arcOf : MethodName := ⟨RX14, "arcOf", "(I)I"⟩
def dkwX14_arcOf_6 : List UInt8 := [2, 172]
abbrev dktX14_arcOf_6 : List UInt8 := dkwX14_arcOf_6 ++ []
def dkwX14_arcOf_5 : List UInt8 := [42, 180, 0, 242, 28, 46, 153, 0, 9, 132, 2, 1, 167, 255, 244, 132, 2, 1, 132, 3, 1, 167, 255, 127]
abbrev dktX14_arcOf_5 : List UInt8 := dkwX14_arcOf_5 ++ dktX14_arcOf_6
def dkwX14_arcOf_4 : List UInt8 := [180, 0, 36, 27, 46, 21, 4, 96, 42, 180, 0, 39, 27, 46, 160, 0, 10, 42, 180, 0, 245, 29, 46, 172]
abbrev dktX14_arcOf_4 : List UInt8 := dkwX14_arcOf_4 ++ dktX14_arcOf_5
def dkwX14_arcOf_3 : List UInt8 := [160, 0, 9, 132, 4, 1, 167, 255, 197, 42, 180, 0, 242, 28, 21, 4, 96, 46, 154, 0, 28, 42]
abbrev dktX14_arcOf_3 : List UInt8 := dkwX14_arcOf_3 ++ dktX14_arcOf_4
def dkwX14_arcOf_2 : List UInt8 := [180, 0, 242, 28, 21, 4, 96, 46, 42, 180, 0, 30, 42, 180, 0, 36, 27, 46, 21, 4, 96, 46]
abbrev dktX14_arcOf_2 : List UInt8 := dkwX14_arcOf_2 ++ dktX14_arcOf_3
def dkwX14_arcOf_1 : List UInt8 := [153, 0, 53, 42, 180, 0, 36, 27, 46, 21, 4, 96, 42, 180, 0, 39, 27, 46, 162, 0, 35, 42]
abbrev dktX14_arcOf_1 : List UInt8 := dkwX14_arcOf_1 ++ dktX14_arcOf_2
def dkwX14_arcOf_0 : List UInt8 := [3, 61, 3, 62, 28, 16, 48, 162, 0, 129, 3, 54, 4, 42, 180, 0, 242, 28, 21, 4, 96, 46]
abbrev dktX14_arcOf_0 : List UInt8 := dkwX14_arcOf_0 ++ dktX14_arcOf_1
theorem dksX14_arcOf_0 : cX14_arcOf.data.toList.drop 0 = dktX14_arcOf_0 := by decide +kernel
theorem dksX14_arcOf_1 : cX14_arcOf.data.toList.drop 22 = dktX14_arcOf_1 := dk_seg dksX14_arcOf_0 22 rfl rfl
theorem dksX14_arcOf_2 : cX14_arcOf.data.toList.drop 44 = dktX14_arcOf_2 := dk_seg dksX14_arcOf_1 22 rfl rfl
theorem dksX14_arcOf_3 : cX14_arcOf.data.toList.drop 66 = dktX14_arcOf_3 := dk_seg dksX14_arcOf_2 22 rfl rfl
theorem dksX14_arcOf_4 : cX14_arcOf.data.toList.drop 88 = dktX14_arcOf_4 := dk_seg dksX14_arcOf_3 22 rfl rfl
theorem dksX14_arcOf_5 : cX14_arcOf.data.toList.drop 112 = dktX14_arcOf_5 := dk_seg dksX14_arcOf_4 24 rfl rfl
theorem dksX14_arcOf_6 : cX14_arcOf.data.toList.drop 136 = dktX14_arcOf_6 := dk_seg dksX14_arcOf_5 24 rfl rfl
theorem dX14_arcOf_0 : decode cX14_arcOf 0 = .ok (.iconst 0, 1) := dk_3 (dk_at dksX14_arcOf_0 0 rfl rfl)
theorem dX14_arcOf_1 : decode cX14_arcOf 1 = .ok (.istore_n 2, 1) := dk_61 (dk_at dksX14_arcOf_0 1 rfl rfl)
theorem dX14_arcOf_2 : decode cX14_arcOf 2 = .ok (.iconst 0, 1) := dk_3 (dk_at dksX14_arcOf_0 2 rfl rfl)
theorem dX14_arcOf_3 : decode cX14_arcOf 3 = .ok (.istore_n 3, 1) := dk_62 (dk_at dksX14_arcOf_0 3 rfl rfl)
theorem dX14_arcOf_4 : decode cX14_arcOf 4 = .ok (.iload_n 2, 1) := dk_28 (dk_at dksX14_arcOf_0 4 rfl rfl)
theorem dX14_arcOf_5 : decode cX14_arcOf 5 = .ok (.bipush 48, 2) := dk_16 48 (dk_at dksX14_arcOf_0 5 rfl rfl)
theorem dX14_arcOf_7 : decode cX14_arcOf 7 = .ok (.if_icmp .ge 129, 3) := dk_162 0 129 (dk_at dksX14_arcOf_0 7 rfl rfl)
theorem dX14_arcOf_10 : decode cX14_arcOf 10 = .ok (.iconst 0, 1) := dk_3 (dk_at dksX14_arcOf_0 10 rfl rfl)
theorem dX14_arcOf_11 : decode cX14_arcOf 11 = .ok (.istore 4, 2) := dk_54 4 (dk_at dksX14_arcOf_0 11 rfl rfl)
theorem dX14_arcOf_13 : decode cX14_arcOf 13 = .ok (.aload_n 0, 1) := dk_42 (dk_at dksX14_arcOf_0 13 rfl rfl)
theorem dX14_arcOf_14 : decode cX14_arcOf 14 = .ok (.getfield 242, 3) := dk_180 0 242 (dk_at dksX14_arcOf_0 14 rfl rfl)
theorem dX14_arcOf_17 : decode cX14_arcOf 17 = .ok (.iload_n 2, 1) := dk_28 (dk_at dksX14_arcOf_0 17 rfl rfl)
theorem dX14_arcOf_18 : decode cX14_arcOf 18 = .ok (.iload 4, 2) := dk_21 4 (dk_at dksX14_arcOf_0 18 rfl rfl)
theorem dX14_arcOf_20 : decode cX14_arcOf 20 = .ok (.iadd, 1) := dk_96 (dk_at dksX14_arcOf_0 20 rfl rfl)
theorem dX14_arcOf_21 : decode cX14_arcOf 21 = .ok (.iaload, 1) := dk_46 (dk_at dksX14_arcOf_0 21 rfl rfl)
theorem dX14_arcOf_22 : decode cX14_arcOf 22 = .ok (.ifCond .eq 53, 3) := dk_153 0 53 (dk_at dksX14_arcOf_1 0 rfl rfl)
theorem dX14_arcOf_25 : decode cX14_arcOf 25 = .ok (.aload_n 0, 1) := dk_42 (dk_at dksX14_arcOf_1 3 rfl rfl)
theorem dX14_arcOf_26 : decode cX14_arcOf 26 = .ok (.getfield 36, 3) := dk_180 0 36 (dk_at dksX14_arcOf_1 4 rfl rfl)
theorem dX14_arcOf_29 : decode cX14_arcOf 29 = .ok (.iload_n 1, 1) := dk_27 (dk_at dksX14_arcOf_1 7 rfl rfl)
theorem dX14_arcOf_30 : decode cX14_arcOf 30 = .ok (.iaload, 1) := dk_46 (dk_at dksX14_arcOf_1 8 rfl rfl)
theorem dX14_arcOf_31 : decode cX14_arcOf 31 = .ok (.iload 4, 2) := dk_21 4 (dk_at dksX14_arcOf_1 9 rfl rfl)
theorem dX14_arcOf_33 : decode cX14_arcOf 33 = .ok (.iadd, 1) := dk_96 (dk_at dksX14_arcOf_1 11 rfl rfl)
theorem dX14_arcOf_34 : decode cX14_arcOf 34 = .ok (.aload_n 0, 1) := dk_42 (dk_at dksX14_arcOf_1 12 rfl rfl)
theorem dX14_arcOf_35 : decode cX14_arcOf 35 = .ok (.getfield 39, 3) := dk_180 0 39 (dk_at dksX14_arcOf_1 13 rfl rfl)
theorem dX14_arcOf_38 : decode cX14_arcOf 38 = .ok (.iload_n 1, 1) := dk_27 (dk_at dksX14_arcOf_1 16 rfl rfl)
theorem dX14_arcOf_39 : decode cX14_arcOf 39 = .ok (.iaload, 1) := dk_46 (dk_at dksX14_arcOf_1 17 rfl rfl)
theorem dX14_arcOf_40 : decode cX14_arcOf 40 = .ok (.if_icmp .ge 35, 3) := dk_162 0 35 (dk_at dksX14_arcOf_1 18 rfl rfl)
theorem dX14_arcOf_43 : decode cX14_arcOf 43 = .ok (.aload_n 0, 1) := dk_42 (dk_at dksX14_arcOf_1 21 rfl rfl)
theorem dX14_arcOf_44 : decode cX14_arcOf 44 = .ok (.getfield 242, 3) := dk_180 0 242 (dk_at dksX14_arcOf_2 0 rfl rfl)
theorem dX14_arcOf_47 : decode cX14_arcOf 47 = .ok (.iload_n 2, 1) := dk_28 (dk_at dksX14_arcOf_2 3 rfl rfl)
theorem dX14_arcOf_48 : decode cX14_arcOf 48 = .ok (.iload 4, 2) := dk_21 4 (dk_at dksX14_arcOf_2 4 rfl rfl)
theorem dX14_arcOf_50 : decode cX14_arcOf 50 = .ok (.iadd, 1) := dk_96 (dk_at dksX14_arcOf_2 6 rfl rfl)
theorem dX14_arcOf_51 : decode cX14_arcOf 51 = .ok (.iaload, 1) := dk_46 (dk_at dksX14_arcOf_2 7 rfl rfl)
theorem dX14_arcOf_52 : decode cX14_arcOf 52 = .ok (.aload_n 0, 1) := dk_42 (dk_at dksX14_arcOf_2 8 rfl rfl)
theorem dX14_arcOf_53 : decode cX14_arcOf 53 = .ok (.getfield 30, 3) := dk_180 0 30 (dk_at dksX14_arcOf_2 9 rfl rfl)
theorem dX14_arcOf_56 : decode cX14_arcOf 56 = .ok (.aload_n 0, 1) := dk_42 (dk_at dksX14_arcOf_2 12 rfl rfl)
theorem dX14_arcOf_57 : decode cX14_arcOf 57 = .ok (.getfield 36, 3) := dk_180 0 36 (dk_at dksX14_arcOf_2 13 rfl rfl)
theorem dX14_arcOf_60 : decode cX14_arcOf 60 = .ok (.iload_n 1, 1) := dk_27 (dk_at dksX14_arcOf_2 16 rfl rfl)
theorem dX14_arcOf_61 : decode cX14_arcOf 61 = .ok (.iaload, 1) := dk_46 (dk_at dksX14_arcOf_2 17 rfl rfl)
theorem dX14_arcOf_62 : decode cX14_arcOf 62 = .ok (.iload 4, 2) := dk_21 4 (dk_at dksX14_arcOf_2 18 rfl rfl)
theorem dX14_arcOf_64 : decode cX14_arcOf 64 = .ok (.iadd, 1) := dk_96 (dk_at dksX14_arcOf_2 20 rfl rfl)
theorem dX14_arcOf_65 : decode cX14_arcOf 65 = .ok (.iaload, 1) := dk_46 (dk_at dksX14_arcOf_2 21 rfl rfl)
theorem dX14_arcOf_66 : decode cX14_arcOf 66 = .ok (.if_icmp .ne 9, 3) := dk_160 0 9 (dk_at dksX14_arcOf_3 0 rfl rfl)
theorem dX14_arcOf_69 : decode cX14_arcOf 69 = .ok (.iinc 4 1, 3) := dk_132 4 1 (dk_at dksX14_arcOf_3 3 rfl rfl)
theorem dX14_arcOf_72 : decode cX14_arcOf 72 = .ok (.goto (-59), 3) := dk_167 255 197 (dk_at dksX14_arcOf_3 6 rfl rfl)
theorem dX14_arcOf_75 : decode cX14_arcOf 75 = .ok (.aload_n 0, 1) := dk_42 (dk_at dksX14_arcOf_3 9 rfl rfl)
theorem dX14_arcOf_76 : decode cX14_arcOf 76 = .ok (.getfield 242, 3) := dk_180 0 242 (dk_at dksX14_arcOf_3 10 rfl rfl)
theorem dX14_arcOf_79 : decode cX14_arcOf 79 = .ok (.iload_n 2, 1) := dk_28 (dk_at dksX14_arcOf_3 13 rfl rfl)
theorem dX14_arcOf_80 : decode cX14_arcOf 80 = .ok (.iload 4, 2) := dk_21 4 (dk_at dksX14_arcOf_3 14 rfl rfl)
theorem dX14_arcOf_82 : decode cX14_arcOf 82 = .ok (.iadd, 1) := dk_96 (dk_at dksX14_arcOf_3 16 rfl rfl)
theorem dX14_arcOf_83 : decode cX14_arcOf 83 = .ok (.iaload, 1) := dk_46 (dk_at dksX14_arcOf_3 17 rfl rfl)
theorem dX14_arcOf_84 : decode cX14_arcOf 84 = .ok (.ifCond .ne 28, 3) := dk_154 0 28 (dk_at dksX14_arcOf_3 18 rfl rfl)
theorem dX14_arcOf_87 : decode cX14_arcOf 87 = .ok (.aload_n 0, 1) := dk_42 (dk_at dksX14_arcOf_3 21 rfl rfl)
theorem dX14_arcOf_88 : decode cX14_arcOf 88 = .ok (.getfield 36, 3) := dk_180 0 36 (dk_at dksX14_arcOf_4 0 rfl rfl)
theorem dX14_arcOf_91 : decode cX14_arcOf 91 = .ok (.iload_n 1, 1) := dk_27 (dk_at dksX14_arcOf_4 3 rfl rfl)
theorem dX14_arcOf_92 : decode cX14_arcOf 92 = .ok (.iaload, 1) := dk_46 (dk_at dksX14_arcOf_4 4 rfl rfl)
theorem dX14_arcOf_93 : decode cX14_arcOf 93 = .ok (.iload 4, 2) := dk_21 4 (dk_at dksX14_arcOf_4 5 rfl rfl)
theorem dX14_arcOf_95 : decode cX14_arcOf 95 = .ok (.iadd, 1) := dk_96 (dk_at dksX14_arcOf_4 7 rfl rfl)
theorem dX14_arcOf_96 : decode cX14_arcOf 96 = .ok (.aload_n 0, 1) := dk_42 (dk_at dksX14_arcOf_4 8 rfl rfl)
theorem dX14_arcOf_97 : decode cX14_arcOf 97 = .ok (.getfield 39, 3) := dk_180 0 39 (dk_at dksX14_arcOf_4 9 rfl rfl)
theorem dX14_arcOf_100 : decode cX14_arcOf 100 = .ok (.iload_n 1, 1) := dk_27 (dk_at dksX14_arcOf_4 12 rfl rfl)
theorem dX14_arcOf_101 : decode cX14_arcOf 101 = .ok (.iaload, 1) := dk_46 (dk_at dksX14_arcOf_4 13 rfl rfl)
theorem dX14_arcOf_102 : decode cX14_arcOf 102 = .ok (.if_icmp .ne 10, 3) := dk_160 0 10 (dk_at dksX14_arcOf_4 14 rfl rfl)
theorem dX14_arcOf_105 : decode cX14_arcOf 105 = .ok (.aload_n 0, 1) := dk_42 (dk_at dksX14_arcOf_4 17 rfl rfl)
theorem dX14_arcOf_106 : decode cX14_arcOf 106 = .ok (.getfield 245, 3) := dk_180 0 245 (dk_at dksX14_arcOf_4 18 rfl rfl)
theorem dX14_arcOf_109 : decode cX14_arcOf 109 = .ok (.iload_n 3, 1) := dk_29 (dk_at dksX14_arcOf_4 21 rfl rfl)
theorem dX14_arcOf_110 : decode cX14_arcOf 110 = .ok (.iaload, 1) := dk_46 (dk_at dksX14_arcOf_4 22 rfl rfl)
theorem dX14_arcOf_111 : decode cX14_arcOf 111 = .ok (.ireturn, 1) := dk_172 (dk_at dksX14_arcOf_4 23 rfl rfl)
theorem dX14_arcOf_112 : decode cX14_arcOf 112 = .ok (.aload_n 0, 1) := dk_42 (dk_at dksX14_arcOf_5 0 rfl rfl)
theorem dX14_arcOf_113 : decode cX14_arcOf 113 = .ok (.getfield 242, 3) := dk_180 0 242 (dk_at dksX14_arcOf_5 1 rfl rfl)
theorem dX14_arcOf_116 : decode cX14_arcOf 116 = .ok (.iload_n 2, 1) := dk_28 (dk_at dksX14_arcOf_5 4 rfl rfl)
theorem dX14_arcOf_117 : decode cX14_arcOf 117 = .ok (.iaload, 1) := dk_46 (dk_at dksX14_arcOf_5 5 rfl rfl)
theorem dX14_arcOf_118 : decode cX14_arcOf 118 = .ok (.ifCond .eq 9, 3) := dk_153 0 9 (dk_at dksX14_arcOf_5 6 rfl rfl)
theorem dX14_arcOf_121 : decode cX14_arcOf 121 = .ok (.iinc 2 1, 3) := dk_132 2 1 (dk_at dksX14_arcOf_5 9 rfl rfl)
theorem dX14_arcOf_124 : decode cX14_arcOf 124 = .ok (.goto (-12), 3) := dk_167 255 244 (dk_at dksX14_arcOf_5 12 rfl rfl)
theorem dX14_arcOf_127 : decode cX14_arcOf 127 = .ok (.iinc 2 1, 3) := dk_132 2 1 (dk_at dksX14_arcOf_5 15 rfl rfl)
theorem dX14_arcOf_130 : decode cX14_arcOf 130 = .ok (.iinc 3 1, 3) := dk_132 3 1 (dk_at dksX14_arcOf_5 18 rfl rfl)
theorem dX14_arcOf_133 : decode cX14_arcOf 133 = .ok (.goto (-129), 3) := dk_167 255 127 (dk_at dksX14_arcOf_5 21 rfl rfl)
theorem dX14_arcOf_136 : decode cX14_arcOf 136 = .ok (.iconst (-1), 1) := dk_2 (dk_at dksX14_arcOf_6 0 rfl rfl)
theorem dX14_arcOf_137 : decode cX14_arcOf 137 = .ok (.ireturn, 1) := dk_172 (dk_at dksX14_arcOf_6 1 rfl rfl)
abbrev cX14_saySevens : ByteArray := prog_15_method_116_code
def yX14_saySevens : MethodName := ⟨RX14, "saySevens", "(II)V"⟩
def dkwX14_saySevens_9 : List UInt8 := [21, 7, 17, 0, 128, 128, 167, 0, 5, 21, 7, 182, 2, 176, 132, 6, 255, 167, 255, 173, 177]
abbrev dktX14_saySevens_9 : List UInt8 := dkwX14_saySevens_9 ++ []
def dkwX14_saySevens_8 : List UInt8 := [21, 8, 96, 16, 8, 112, 122, 4, 126, 128, 54, 7, 132, 8, 255, 167, 255, 211, 42, 21, 6, 158, 0, 12]
abbrev dktX14_saySevens_8 : List UInt8 := dkwX14_saySevens_8 ++ dktX14_saySevens_9
def dkwX14_saySevens_7 : List UInt8 := [4, 120, 42, 180, 0, 208, 16, 7, 21, 6, 104, 21, 8, 96, 16, 8, 108, 46, 16, 7, 21, 6, 104]
abbrev dktX14_saySevens_7 : List UInt8 := dkwX14_saySevens_7 ++ dktX14_saySevens_8
def dkwX14_saySevens_6 : List UInt8 := [16, 7, 108, 54, 6, 21, 6, 155, 0, 84, 3, 54, 7, 16, 6, 54, 8, 21, 8, 155, 0, 46, 21, 7]
abbrev dktX14_saySevens_6 : List UInt8 := dkwX14_saySevens_6 ++ dktX14_saySevens_7
def dkwX14_saySevens_5 : List UInt8 := [16, 8, 108, 46, 21, 5, 16, 8, 112, 122, 4, 126, 154, 0, 9, 132, 5, 255, 167, 255, 227, 21, 5]
abbrev dktX14_saySevens_5 : List UInt8 := dkwX14_saySevens_5 ++ dktX14_saySevens_6
def dkwX14_saySevens_4 : List UInt8 := [3, 79, 16, 8, 29, 4, 96, 104, 4, 100, 54, 5, 21, 5, 158, 0, 30, 42, 180, 0, 208, 21, 5]
abbrev dktX14_saySevens_4 : List UInt8 := dkwX14_saySevens_4 ++ dktX14_saySevens_5
def dkwX14_saySevens_3 : List UInt8 := [122, 54, 4, 132, 5, 1, 167, 255, 204, 42, 180, 0, 208, 29, 21, 4, 79, 42, 180, 0, 208, 29, 4, 96]
abbrev dktX14_saySevens_3 : List UInt8 := dkwX14_saySevens_3 ++ dktX14_saySevens_4
def dkwX14_saySevens_2 : List UInt8 := [100, 46, 21, 4, 96, 54, 6, 42, 180, 0, 208, 21, 5, 21, 6, 17, 0, 255, 126, 79, 21, 6, 16, 8]
abbrev dktX14_saySevens_2 : List UInt8 := dkwX14_saySevens_2 ++ dktX14_saySevens_3
def dkwX14_saySevens_1 : List UInt8 := [54, 5, 21, 5, 29, 162, 0, 52, 42, 180, 0, 199, 42, 180, 0, 193, 27, 46, 29, 96, 4, 100, 21, 5]
abbrev dktX14_saySevens_1 : List UInt8 := dkwX14_saySevens_1 ++ dktX14_saySevens_2
def dkwX14_saySevens_0 : List UInt8 := [42, 42, 180, 0, 196, 27, 46, 7, 96, 182, 1, 202, 42, 180, 0, 196, 27, 46, 62, 28, 54, 4, 3]
abbrev dktX14_saySevens_0 : List UInt8 := dkwX14_saySevens_0 ++ dktX14_saySevens_1
theorem dksX14_saySevens_0 : cX14_saySevens.data.toList.drop 0 = dktX14_saySevens_0 := by decide +kernel
theorem dksX14_saySevens_1 : cX14_saySevens.data.toList.drop 23 = dktX14_saySevens_1 := dk_seg dksX14_saySevens_0 23 rfl rfl
theorem dksX14_saySevens_2 : cX14_saySevens.data.toList.drop 47 = dktX14_saySevens_2 := dk_seg dksX14_saySevens_1 24 rfl rfl
theorem dksX14_saySevens_3 : cX14_saySevens.data.toList.drop 71 = dktX14_saySevens_3 := dk_seg dksX14_saySevens_2 24 rfl rfl
theorem dksX14_saySevens_4 : cX14_saySevens.data.toList.drop 95 = dktX14_saySevens_4 := dk_seg dksX14_saySevens_3 24 rfl rfl
theorem dksX14_saySevens_5 : cX14_saySevens.data.toList.drop 118 = dktX14_saySevens_5 := dk_seg dksX14_saySevens_4 23 rfl rfl
theorem dksX14_saySevens_6 : cX14_saySevens.data.toList.drop 141 = dktX14_saySevens_6 := dk_seg dksX14_saySevens_5 23 rfl rfl
theorem dksX14_saySevens_7 : cX14_saySevens.data.toList.drop 165 = dktX14_saySevens_7 := dk_seg dksX14_saySevens_6 24 rfl rfl
theorem dksX14_saySevens_8 : cX14_saySevens.data.toList.drop 188 = dktX14_saySevens_8 := dk_seg dksX14_saySevens_7 23 rfl rfl
theorem dksX14_saySevens_9 : cX14_saySevens.data.toList.drop 212 = dktX14_saySevens_9 := dk_seg dksX14_saySevens_8 24 rfl rfl
theorem dX14_saySevens_0 : decode cX14_saySevens 0 = .ok (.aload_n 0, 1) := dk_42 (dk_at dksX14_saySevens_0 0 rfl rfl)
theorem dX14_saySevens_1 : decode cX14_saySevens 1 = .ok (.aload_n 0, 1) := dk_42 (dk_at dksX14_saySevens_0 1 rfl rfl)
theorem dX14_saySevens_2 : decode cX14_saySevens 2 = .ok (.getfield 196, 3) := dk_180 0 196 (dk_at dksX14_saySevens_0 2 rfl rfl)
theorem dX14_saySevens_5 : decode cX14_saySevens 5 = .ok (.iload_n 1, 1) := dk_27 (dk_at dksX14_saySevens_0 5 rfl rfl)
theorem dX14_saySevens_6 : decode cX14_saySevens 6 = .ok (.iaload, 1) := dk_46 (dk_at dksX14_saySevens_0 6 rfl rfl)
theorem dX14_saySevens_7 : decode cX14_saySevens 7 = .ok (.iconst 4, 1) := dk_7 (dk_at dksX14_saySevens_0 7 rfl rfl)
theorem dX14_saySevens_8 : decode cX14_saySevens 8 = .ok (.iadd, 1) := dk_96 (dk_at dksX14_saySevens_0 8 rfl rfl)
theorem dX14_saySevens_9 : decode cX14_saySevens 9 = .ok (.invokevirtual 458, 3) := dk_182 1 202 (dk_at dksX14_saySevens_0 9 rfl rfl)
theorem dX14_saySevens_12 : decode cX14_saySevens 12 = .ok (.aload_n 0, 1) := dk_42 (dk_at dksX14_saySevens_0 12 rfl rfl)
theorem dX14_saySevens_13 : decode cX14_saySevens 13 = .ok (.getfield 196, 3) := dk_180 0 196 (dk_at dksX14_saySevens_0 13 rfl rfl)
theorem dX14_saySevens_16 : decode cX14_saySevens 16 = .ok (.iload_n 1, 1) := dk_27 (dk_at dksX14_saySevens_0 16 rfl rfl)
theorem dX14_saySevens_17 : decode cX14_saySevens 17 = .ok (.iaload, 1) := dk_46 (dk_at dksX14_saySevens_0 17 rfl rfl)
theorem dX14_saySevens_18 : decode cX14_saySevens 18 = .ok (.istore_n 3, 1) := dk_62 (dk_at dksX14_saySevens_0 18 rfl rfl)
theorem dX14_saySevens_19 : decode cX14_saySevens 19 = .ok (.iload_n 2, 1) := dk_28 (dk_at dksX14_saySevens_0 19 rfl rfl)
theorem dX14_saySevens_20 : decode cX14_saySevens 20 = .ok (.istore 4, 2) := dk_54 4 (dk_at dksX14_saySevens_0 20 rfl rfl)
theorem dX14_saySevens_22 : decode cX14_saySevens 22 = .ok (.iconst 0, 1) := dk_3 (dk_at dksX14_saySevens_0 22 rfl rfl)
theorem dX14_saySevens_23 : decode cX14_saySevens 23 = .ok (.istore 5, 2) := dk_54 5 (dk_at dksX14_saySevens_1 0 rfl rfl)
theorem dX14_saySevens_25 : decode cX14_saySevens 25 = .ok (.iload 5, 2) := dk_21 5 (dk_at dksX14_saySevens_1 2 rfl rfl)
theorem dX14_saySevens_27 : decode cX14_saySevens 27 = .ok (.iload_n 3, 1) := dk_29 (dk_at dksX14_saySevens_1 4 rfl rfl)
theorem dX14_saySevens_28 : decode cX14_saySevens 28 = .ok (.if_icmp .ge 52, 3) := dk_162 0 52 (dk_at dksX14_saySevens_1 5 rfl rfl)
theorem dX14_saySevens_31 : decode cX14_saySevens 31 = .ok (.aload_n 0, 1) := dk_42 (dk_at dksX14_saySevens_1 8 rfl rfl)
theorem dX14_saySevens_32 : decode cX14_saySevens 32 = .ok (.getfield 199, 3) := dk_180 0 199 (dk_at dksX14_saySevens_1 9 rfl rfl)
theorem dX14_saySevens_35 : decode cX14_saySevens 35 = .ok (.aload_n 0, 1) := dk_42 (dk_at dksX14_saySevens_1 12 rfl rfl)
theorem dX14_saySevens_36 : decode cX14_saySevens 36 = .ok (.getfield 193, 3) := dk_180 0 193 (dk_at dksX14_saySevens_1 13 rfl rfl)
theorem dX14_saySevens_39 : decode cX14_saySevens 39 = .ok (.iload_n 1, 1) := dk_27 (dk_at dksX14_saySevens_1 16 rfl rfl)
theorem dX14_saySevens_40 : decode cX14_saySevens 40 = .ok (.iaload, 1) := dk_46 (dk_at dksX14_saySevens_1 17 rfl rfl)
theorem dX14_saySevens_41 : decode cX14_saySevens 41 = .ok (.iload_n 3, 1) := dk_29 (dk_at dksX14_saySevens_1 18 rfl rfl)
theorem dX14_saySevens_42 : decode cX14_saySevens 42 = .ok (.iadd, 1) := dk_96 (dk_at dksX14_saySevens_1 19 rfl rfl)
theorem dX14_saySevens_43 : decode cX14_saySevens 43 = .ok (.iconst 1, 1) := dk_4 (dk_at dksX14_saySevens_1 20 rfl rfl)
theorem dX14_saySevens_44 : decode cX14_saySevens 44 = .ok (.isub, 1) := dk_100 (dk_at dksX14_saySevens_1 21 rfl rfl)
theorem dX14_saySevens_45 : decode cX14_saySevens 45 = .ok (.iload 5, 2) := dk_21 5 (dk_at dksX14_saySevens_1 22 rfl rfl)
theorem dX14_saySevens_47 : decode cX14_saySevens 47 = .ok (.isub, 1) := dk_100 (dk_at dksX14_saySevens_2 0 rfl rfl)
theorem dX14_saySevens_48 : decode cX14_saySevens 48 = .ok (.iaload, 1) := dk_46 (dk_at dksX14_saySevens_2 1 rfl rfl)
theorem dX14_saySevens_49 : decode cX14_saySevens 49 = .ok (.iload 4, 2) := dk_21 4 (dk_at dksX14_saySevens_2 2 rfl rfl)
theorem dX14_saySevens_51 : decode cX14_saySevens 51 = .ok (.iadd, 1) := dk_96 (dk_at dksX14_saySevens_2 4 rfl rfl)
theorem dX14_saySevens_52 : decode cX14_saySevens 52 = .ok (.istore 6, 2) := dk_54 6 (dk_at dksX14_saySevens_2 5 rfl rfl)
theorem dX14_saySevens_54 : decode cX14_saySevens 54 = .ok (.aload_n 0, 1) := dk_42 (dk_at dksX14_saySevens_2 7 rfl rfl)
theorem dX14_saySevens_55 : decode cX14_saySevens 55 = .ok (.getfield 208, 3) := dk_180 0 208 (dk_at dksX14_saySevens_2 8 rfl rfl)
theorem dX14_saySevens_58 : decode cX14_saySevens 58 = .ok (.iload 5, 2) := dk_21 5 (dk_at dksX14_saySevens_2 11 rfl rfl)
theorem dX14_saySevens_60 : decode cX14_saySevens 60 = .ok (.iload 6, 2) := dk_21 6 (dk_at dksX14_saySevens_2 13 rfl rfl)
theorem dX14_saySevens_62 : decode cX14_saySevens 62 = .ok (.sipush 255, 3) := dk_17 0 255 (dk_at dksX14_saySevens_2 15 rfl rfl)
theorem dX14_saySevens_65 : decode cX14_saySevens 65 = .ok (.iand, 1) := dk_126 (dk_at dksX14_saySevens_2 18 rfl rfl)
theorem dX14_saySevens_66 : decode cX14_saySevens 66 = .ok (.iastore, 1) := dk_79 (dk_at dksX14_saySevens_2 19 rfl rfl)
theorem dX14_saySevens_67 : decode cX14_saySevens 67 = .ok (.iload 6, 2) := dk_21 6 (dk_at dksX14_saySevens_2 20 rfl rfl)
theorem dX14_saySevens_69 : decode cX14_saySevens 69 = .ok (.bipush 8, 2) := dk_16 8 (dk_at dksX14_saySevens_2 22 rfl rfl)
theorem dX14_saySevens_71 : decode cX14_saySevens 71 = .ok (.ishr, 1) := dk_122 (dk_at dksX14_saySevens_3 0 rfl rfl)
theorem dX14_saySevens_72 : decode cX14_saySevens 72 = .ok (.istore 4, 2) := dk_54 4 (dk_at dksX14_saySevens_3 1 rfl rfl)
theorem dX14_saySevens_74 : decode cX14_saySevens 74 = .ok (.iinc 5 1, 3) := dk_132 5 1 (dk_at dksX14_saySevens_3 3 rfl rfl)
theorem dX14_saySevens_77 : decode cX14_saySevens 77 = .ok (.goto (-52), 3) := dk_167 255 204 (dk_at dksX14_saySevens_3 6 rfl rfl)
theorem dX14_saySevens_80 : decode cX14_saySevens 80 = .ok (.aload_n 0, 1) := dk_42 (dk_at dksX14_saySevens_3 9 rfl rfl)
theorem dX14_saySevens_81 : decode cX14_saySevens 81 = .ok (.getfield 208, 3) := dk_180 0 208 (dk_at dksX14_saySevens_3 10 rfl rfl)
theorem dX14_saySevens_84 : decode cX14_saySevens 84 = .ok (.iload_n 3, 1) := dk_29 (dk_at dksX14_saySevens_3 13 rfl rfl)
theorem dX14_saySevens_85 : decode cX14_saySevens 85 = .ok (.iload 4, 2) := dk_21 4 (dk_at dksX14_saySevens_3 14 rfl rfl)
theorem dX14_saySevens_87 : decode cX14_saySevens 87 = .ok (.iastore, 1) := dk_79 (dk_at dksX14_saySevens_3 16 rfl rfl)
theorem dX14_saySevens_88 : decode cX14_saySevens 88 = .ok (.aload_n 0, 1) := dk_42 (dk_at dksX14_saySevens_3 17 rfl rfl)
theorem dX14_saySevens_89 : decode cX14_saySevens 89 = .ok (.getfield 208, 3) := dk_180 0 208 (dk_at dksX14_saySevens_3 18 rfl rfl)
theorem dX14_saySevens_92 : decode cX14_saySevens 92 = .ok (.iload_n 3, 1) := dk_29 (dk_at dksX14_saySevens_3 21 rfl rfl)
theorem dX14_saySevens_93 : decode cX14_saySevens 93 = .ok (.iconst 1, 1) := dk_4 (dk_at dksX14_saySevens_3 22 rfl rfl)
theorem dX14_saySevens_94 : decode cX14_saySevens 94 = .ok (.iadd, 1) := dk_96 (dk_at dksX14_saySevens_3 23 rfl rfl)
theorem dX14_saySevens_95 : decode cX14_saySevens 95 = .ok (.iconst 0, 1) := dk_3 (dk_at dksX14_saySevens_4 0 rfl rfl)
theorem dX14_saySevens_96 : decode cX14_saySevens 96 = .ok (.iastore, 1) := dk_79 (dk_at dksX14_saySevens_4 1 rfl rfl)
theorem dX14_saySevens_97 : decode cX14_saySevens 97 = .ok (.bipush 8, 2) := dk_16 8 (dk_at dksX14_saySevens_4 2 rfl rfl)
theorem dX14_saySevens_99 : decode cX14_saySevens 99 = .ok (.iload_n 3, 1) := dk_29 (dk_at dksX14_saySevens_4 4 rfl rfl)
theorem dX14_saySevens_100 : decode cX14_saySevens 100 = .ok (.iconst 1, 1) := dk_4 (dk_at dksX14_saySevens_4 5 rfl rfl)
theorem dX14_saySevens_101 : decode cX14_saySevens 101 = .ok (.iadd, 1) := dk_96 (dk_at dksX14_saySevens_4 6 rfl rfl)
theorem dX14_saySevens_102 : decode cX14_saySevens 102 = .ok (.imul, 1) := dk_104 (dk_at dksX14_saySevens_4 7 rfl rfl)
theorem dX14_saySevens_103 : decode cX14_saySevens 103 = .ok (.iconst 1, 1) := dk_4 (dk_at dksX14_saySevens_4 8 rfl rfl)
theorem dX14_saySevens_104 : decode cX14_saySevens 104 = .ok (.isub, 1) := dk_100 (dk_at dksX14_saySevens_4 9 rfl rfl)
theorem dX14_saySevens_105 : decode cX14_saySevens 105 = .ok (.istore 5, 2) := dk_54 5 (dk_at dksX14_saySevens_4 10 rfl rfl)
theorem dX14_saySevens_107 : decode cX14_saySevens 107 = .ok (.iload 5, 2) := dk_21 5 (dk_at dksX14_saySevens_4 12 rfl rfl)
theorem dX14_saySevens_109 : decode cX14_saySevens 109 = .ok (.ifCond .le 30, 3) := dk_158 0 30 (dk_at dksX14_saySevens_4 14 rfl rfl)
theorem dX14_saySevens_112 : decode cX14_saySevens 112 = .ok (.aload_n 0, 1) := dk_42 (dk_at dksX14_saySevens_4 17 rfl rfl)
theorem dX14_saySevens_113 : decode cX14_saySevens 113 = .ok (.getfield 208, 3) := dk_180 0 208 (dk_at dksX14_saySevens_4 18 rfl rfl)
theorem dX14_saySevens_116 : decode cX14_saySevens 116 = .ok (.iload 5, 2) := dk_21 5 (dk_at dksX14_saySevens_4 21 rfl rfl)
theorem dX14_saySevens_118 : decode cX14_saySevens 118 = .ok (.bipush 8, 2) := dk_16 8 (dk_at dksX14_saySevens_5 0 rfl rfl)
theorem dX14_saySevens_120 : decode cX14_saySevens 120 = .ok (.idiv, 1) := dk_108 (dk_at dksX14_saySevens_5 2 rfl rfl)
theorem dX14_saySevens_121 : decode cX14_saySevens 121 = .ok (.iaload, 1) := dk_46 (dk_at dksX14_saySevens_5 3 rfl rfl)
theorem dX14_saySevens_122 : decode cX14_saySevens 122 = .ok (.iload 5, 2) := dk_21 5 (dk_at dksX14_saySevens_5 4 rfl rfl)
theorem dX14_saySevens_124 : decode cX14_saySevens 124 = .ok (.bipush 8, 2) := dk_16 8 (dk_at dksX14_saySevens_5 6 rfl rfl)
theorem dX14_saySevens_126 : decode cX14_saySevens 126 = .ok (.irem, 1) := dk_112 (dk_at dksX14_saySevens_5 8 rfl rfl)
theorem dX14_saySevens_127 : decode cX14_saySevens 127 = .ok (.ishr, 1) := dk_122 (dk_at dksX14_saySevens_5 9 rfl rfl)
theorem dX14_saySevens_128 : decode cX14_saySevens 128 = .ok (.iconst 1, 1) := dk_4 (dk_at dksX14_saySevens_5 10 rfl rfl)
theorem dX14_saySevens_129 : decode cX14_saySevens 129 = .ok (.iand, 1) := dk_126 (dk_at dksX14_saySevens_5 11 rfl rfl)
theorem dX14_saySevens_130 : decode cX14_saySevens 130 = .ok (.ifCond .ne 9, 3) := dk_154 0 9 (dk_at dksX14_saySevens_5 12 rfl rfl)
theorem dX14_saySevens_133 : decode cX14_saySevens 133 = .ok (.iinc 5 (-1), 3) := dk_132 5 255 (dk_at dksX14_saySevens_5 15 rfl rfl)
theorem dX14_saySevens_136 : decode cX14_saySevens 136 = .ok (.goto (-29), 3) := dk_167 255 227 (dk_at dksX14_saySevens_5 18 rfl rfl)
theorem dX14_saySevens_139 : decode cX14_saySevens 139 = .ok (.iload 5, 2) := dk_21 5 (dk_at dksX14_saySevens_5 21 rfl rfl)
theorem dX14_saySevens_141 : decode cX14_saySevens 141 = .ok (.bipush 7, 2) := dk_16 7 (dk_at dksX14_saySevens_6 0 rfl rfl)
theorem dX14_saySevens_143 : decode cX14_saySevens 143 = .ok (.idiv, 1) := dk_108 (dk_at dksX14_saySevens_6 2 rfl rfl)
theorem dX14_saySevens_144 : decode cX14_saySevens 144 = .ok (.istore 6, 2) := dk_54 6 (dk_at dksX14_saySevens_6 3 rfl rfl)
theorem dX14_saySevens_146 : decode cX14_saySevens 146 = .ok (.iload 6, 2) := dk_21 6 (dk_at dksX14_saySevens_6 5 rfl rfl)
theorem dX14_saySevens_148 : decode cX14_saySevens 148 = .ok (.ifCond .lt 84, 3) := dk_155 0 84 (dk_at dksX14_saySevens_6 7 rfl rfl)
theorem dX14_saySevens_151 : decode cX14_saySevens 151 = .ok (.iconst 0, 1) := dk_3 (dk_at dksX14_saySevens_6 10 rfl rfl)
theorem dX14_saySevens_152 : decode cX14_saySevens 152 = .ok (.istore 7, 2) := dk_54 7 (dk_at dksX14_saySevens_6 11 rfl rfl)
theorem dX14_saySevens_154 : decode cX14_saySevens 154 = .ok (.bipush 6, 2) := dk_16 6 (dk_at dksX14_saySevens_6 13 rfl rfl)
theorem dX14_saySevens_156 : decode cX14_saySevens 156 = .ok (.istore 8, 2) := dk_54 8 (dk_at dksX14_saySevens_6 15 rfl rfl)
theorem dX14_saySevens_158 : decode cX14_saySevens 158 = .ok (.iload 8, 2) := dk_21 8 (dk_at dksX14_saySevens_6 17 rfl rfl)
theorem dX14_saySevens_160 : decode cX14_saySevens 160 = .ok (.ifCond .lt 46, 3) := dk_155 0 46 (dk_at dksX14_saySevens_6 19 rfl rfl)
theorem dX14_saySevens_163 : decode cX14_saySevens 163 = .ok (.iload 7, 2) := dk_21 7 (dk_at dksX14_saySevens_6 22 rfl rfl)
theorem dX14_saySevens_165 : decode cX14_saySevens 165 = .ok (.iconst 1, 1) := dk_4 (dk_at dksX14_saySevens_7 0 rfl rfl)
theorem dX14_saySevens_166 : decode cX14_saySevens 166 = .ok (.ishl, 1) := dk_120 (dk_at dksX14_saySevens_7 1 rfl rfl)
theorem dX14_saySevens_167 : decode cX14_saySevens 167 = .ok (.aload_n 0, 1) := dk_42 (dk_at dksX14_saySevens_7 2 rfl rfl)
theorem dX14_saySevens_168 : decode cX14_saySevens 168 = .ok (.getfield 208, 3) := dk_180 0 208 (dk_at dksX14_saySevens_7 3 rfl rfl)
theorem dX14_saySevens_171 : decode cX14_saySevens 171 = .ok (.bipush 7, 2) := dk_16 7 (dk_at dksX14_saySevens_7 6 rfl rfl)
theorem dX14_saySevens_173 : decode cX14_saySevens 173 = .ok (.iload 6, 2) := dk_21 6 (dk_at dksX14_saySevens_7 8 rfl rfl)
theorem dX14_saySevens_175 : decode cX14_saySevens 175 = .ok (.imul, 1) := dk_104 (dk_at dksX14_saySevens_7 10 rfl rfl)
theorem dX14_saySevens_176 : decode cX14_saySevens 176 = .ok (.iload 8, 2) := dk_21 8 (dk_at dksX14_saySevens_7 11 rfl rfl)
theorem dX14_saySevens_178 : decode cX14_saySevens 178 = .ok (.iadd, 1) := dk_96 (dk_at dksX14_saySevens_7 13 rfl rfl)
theorem dX14_saySevens_179 : decode cX14_saySevens 179 = .ok (.bipush 8, 2) := dk_16 8 (dk_at dksX14_saySevens_7 14 rfl rfl)
theorem dX14_saySevens_181 : decode cX14_saySevens 181 = .ok (.idiv, 1) := dk_108 (dk_at dksX14_saySevens_7 16 rfl rfl)
theorem dX14_saySevens_182 : decode cX14_saySevens 182 = .ok (.iaload, 1) := dk_46 (dk_at dksX14_saySevens_7 17 rfl rfl)
theorem dX14_saySevens_183 : decode cX14_saySevens 183 = .ok (.bipush 7, 2) := dk_16 7 (dk_at dksX14_saySevens_7 18 rfl rfl)
theorem dX14_saySevens_185 : decode cX14_saySevens 185 = .ok (.iload 6, 2) := dk_21 6 (dk_at dksX14_saySevens_7 20 rfl rfl)
theorem dX14_saySevens_187 : decode cX14_saySevens 187 = .ok (.imul, 1) := dk_104 (dk_at dksX14_saySevens_7 22 rfl rfl)
theorem dX14_saySevens_188 : decode cX14_saySevens 188 = .ok (.iload 8, 2) := dk_21 8 (dk_at dksX14_saySevens_8 0 rfl rfl)
theorem dX14_saySevens_190 : decode cX14_saySevens 190 = .ok (.iadd, 1) := dk_96 (dk_at dksX14_saySevens_8 2 rfl rfl)
theorem dX14_saySevens_191 : decode cX14_saySevens 191 = .ok (.bipush 8, 2) := dk_16 8 (dk_at dksX14_saySevens_8 3 rfl rfl)
theorem dX14_saySevens_193 : decode cX14_saySevens 193 = .ok (.irem, 1) := dk_112 (dk_at dksX14_saySevens_8 5 rfl rfl)
theorem dX14_saySevens_194 : decode cX14_saySevens 194 = .ok (.ishr, 1) := dk_122 (dk_at dksX14_saySevens_8 6 rfl rfl)
theorem dX14_saySevens_195 : decode cX14_saySevens 195 = .ok (.iconst 1, 1) := dk_4 (dk_at dksX14_saySevens_8 7 rfl rfl)
theorem dX14_saySevens_196 : decode cX14_saySevens 196 = .ok (.iand, 1) := dk_126 (dk_at dksX14_saySevens_8 8 rfl rfl)
theorem dX14_saySevens_197 : decode cX14_saySevens 197 = .ok (.ior, 1) := dk_128 (dk_at dksX14_saySevens_8 9 rfl rfl)
theorem dX14_saySevens_198 : decode cX14_saySevens 198 = .ok (.istore 7, 2) := dk_54 7 (dk_at dksX14_saySevens_8 10 rfl rfl)
theorem dX14_saySevens_200 : decode cX14_saySevens 200 = .ok (.iinc 8 (-1), 3) := dk_132 8 255 (dk_at dksX14_saySevens_8 12 rfl rfl)
theorem dX14_saySevens_203 : decode cX14_saySevens 203 = .ok (.goto (-45), 3) := dk_167 255 211 (dk_at dksX14_saySevens_8 15 rfl rfl)
theorem dX14_saySevens_206 : decode cX14_saySevens 206 = .ok (.aload_n 0, 1) := dk_42 (dk_at dksX14_saySevens_8 18 rfl rfl)
theorem dX14_saySevens_207 : decode cX14_saySevens 207 = .ok (.iload 6, 2) := dk_21 6 (dk_at dksX14_saySevens_8 19 rfl rfl)
theorem dX14_saySevens_209 : decode cX14_saySevens 209 = .ok (.ifCond .le 12, 3) := dk_158 0 12 (dk_at dksX14_saySevens_8 21 rfl rfl)
theorem dX14_saySevens_212 : decode cX14_saySevens 212 = .ok (.iload 7, 2) := dk_21 7 (dk_at dksX14_saySevens_9 0 rfl rfl)
theorem dX14_saySevens_214 : decode cX14_saySevens 214 = .ok (.sipush 128, 3) := dk_17 0 128 (dk_at dksX14_saySevens_9 2 rfl rfl)
theorem dX14_saySevens_217 : decode cX14_saySevens 217 = .ok (.ior, 1) := dk_128 (dk_at dksX14_saySevens_9 5 rfl rfl)
theorem dX14_saySevens_218 : decode cX14_saySevens 218 = .ok (.goto 5, 3) := dk_167 0 5 (dk_at dksX14_saySevens_9 6 rfl rfl)
theorem dX14_saySevens_221 : decode cX14_saySevens 221 = .ok (.iload 7, 2) := dk_21 7 (dk_at dksX14_saySevens_9 9 rfl rfl)
theorem dX14_saySevens_223 : decode cX14_saySevens 223 = .ok (.invokevirtual 688, 3) := dk_182 2 176 (dk_at dksX14_saySevens_9 11 rfl rfl)
theorem dX14_saySevens_226 : decode cX14_saySevens 226 = .ok (.iinc 6 (-1), 3) := dk_132 6 255 (dk_at dksX14_saySevens_9 14 rfl rfl)
theorem dX14_saySevens_229 : decode cX14_saySevens 229 = .ok (.goto (-83), 3) := dk_167 255 173 (dk_at dksX14_saySevens_9 17 rfl rfl)
theorem dX14_saySevens_232 : decode cX14_saySevens 232 = .ok (.return_, 1) := dk_177 (dk_at dksX14_saySevens_9 20 rfl rfl)
abbrev cX14_characters : ByteArray := prog_15_method_120_code
def yX14_characters : MethodName := ⟨RX14, "characters", "(III)Z"⟩
def dkwX14_characters_5 : List UInt8 := [167, 0, 4, 3, 172]
abbrev dktX14_characters_5 : List UInt8 := dkwX14_characters_5 ++ []
def dkwX14_characters_4 : List UInt8 := [132, 5, 1, 167, 255, 213, 21, 4, 153, 0, 19, 42, 28, 42, 180, 2, 170, 182, 2, 182, 153, 0, 7, 4]
abbrev dktX14_characters_4 : List UInt8 := dkwX14_characters_4 ++ dktX14_characters_5
def dkwX14_characters_3 : List UInt8 := [160, 0, 16, 42, 180, 0, 236, 21, 5, 46, 184, 3, 27, 153, 0, 7, 4, 167, 0, 4, 3, 54, 4]
abbrev dktX14_characters_3 : List UInt8 := dkwX14_characters_3 ++ dktX14_characters_4
def dkwX14_characters_2 : List UInt8 := [4, 54, 4, 3, 54, 5, 21, 5, 42, 180, 2, 170, 162, 0, 40, 21, 4, 153, 0, 26, 29, 16, 8]
abbrev dktX14_characters_2 : List UInt8 := dkwX14_characters_2 ++ dktX14_characters_3
def dkwX14_characters_1 : List UInt8 := [167, 0, 4, 3, 172, 29, 16, 11, 160, 0, 16, 42, 182, 3, 24, 154, 0, 7, 4, 167, 0, 4, 3, 172]
abbrev dktX14_characters_1 : List UInt8 := dkwX14_characters_1 ++ dktX14_characters_2
def dkwX14_characters_0 : List UInt8 := [42, 42, 180, 0, 154, 27, 46, 182, 3, 18, 29, 16, 10, 160, 0, 16, 42, 182, 3, 21, 154, 0, 7, 4]
abbrev dktX14_characters_0 : List UInt8 := dkwX14_characters_0 ++ dktX14_characters_1
theorem dksX14_characters_0 : cX14_characters.data.toList.drop 0 = dktX14_characters_0 := by decide +kernel
theorem dksX14_characters_1 : cX14_characters.data.toList.drop 24 = dktX14_characters_1 := dk_seg dksX14_characters_0 24 rfl rfl
theorem dksX14_characters_2 : cX14_characters.data.toList.drop 48 = dktX14_characters_2 := dk_seg dksX14_characters_1 24 rfl rfl
theorem dksX14_characters_3 : cX14_characters.data.toList.drop 71 = dktX14_characters_3 := dk_seg dksX14_characters_2 23 rfl rfl
theorem dksX14_characters_4 : cX14_characters.data.toList.drop 94 = dktX14_characters_4 := dk_seg dksX14_characters_3 23 rfl rfl
theorem dksX14_characters_5 : cX14_characters.data.toList.drop 118 = dktX14_characters_5 := dk_seg dksX14_characters_4 24 rfl rfl
theorem dX14_characters_0 : decode cX14_characters 0 = .ok (.aload_n 0, 1) := dk_42 (dk_at dksX14_characters_0 0 rfl rfl)
theorem dX14_characters_1 : decode cX14_characters 1 = .ok (.aload_n 0, 1) := dk_42 (dk_at dksX14_characters_0 1 rfl rfl)
theorem dX14_characters_2 : decode cX14_characters 2 = .ok (.getfield 154, 3) := dk_180 0 154 (dk_at dksX14_characters_0 2 rfl rfl)
theorem dX14_characters_5 : decode cX14_characters 5 = .ok (.iload_n 1, 1) := dk_27 (dk_at dksX14_characters_0 5 rfl rfl)
theorem dX14_characters_6 : decode cX14_characters 6 = .ok (.iaload, 1) := dk_46 (dk_at dksX14_characters_0 6 rfl rfl)
theorem dX14_characters_7 : decode cX14_characters 7 = .ok (.invokevirtual 786, 3) := dk_182 3 18 (dk_at dksX14_characters_0 7 rfl rfl)
theorem dX14_characters_10 : decode cX14_characters 10 = .ok (.iload_n 3, 1) := dk_29 (dk_at dksX14_characters_0 10 rfl rfl)
theorem dX14_characters_11 : decode cX14_characters 11 = .ok (.bipush 10, 2) := dk_16 10 (dk_at dksX14_characters_0 11 rfl rfl)
theorem dX14_characters_13 : decode cX14_characters 13 = .ok (.if_icmp .ne 16, 3) := dk_160 0 16 (dk_at dksX14_characters_0 13 rfl rfl)
theorem dX14_characters_16 : decode cX14_characters 16 = .ok (.aload_n 0, 1) := dk_42 (dk_at dksX14_characters_0 16 rfl rfl)
theorem dX14_characters_17 : decode cX14_characters 17 = .ok (.invokevirtual 789, 3) := dk_182 3 21 (dk_at dksX14_characters_0 17 rfl rfl)
theorem dX14_characters_20 : decode cX14_characters 20 = .ok (.ifCond .ne 7, 3) := dk_154 0 7 (dk_at dksX14_characters_0 20 rfl rfl)
theorem dX14_characters_23 : decode cX14_characters 23 = .ok (.iconst 1, 1) := dk_4 (dk_at dksX14_characters_0 23 rfl rfl)
theorem dX14_characters_24 : decode cX14_characters 24 = .ok (.goto 4, 3) := dk_167 0 4 (dk_at dksX14_characters_1 0 rfl rfl)
theorem dX14_characters_27 : decode cX14_characters 27 = .ok (.iconst 0, 1) := dk_3 (dk_at dksX14_characters_1 3 rfl rfl)
theorem dX14_characters_28 : decode cX14_characters 28 = .ok (.ireturn, 1) := dk_172 (dk_at dksX14_characters_1 4 rfl rfl)
theorem dX14_characters_29 : decode cX14_characters 29 = .ok (.iload_n 3, 1) := dk_29 (dk_at dksX14_characters_1 5 rfl rfl)
theorem dX14_characters_30 : decode cX14_characters 30 = .ok (.bipush 11, 2) := dk_16 11 (dk_at dksX14_characters_1 6 rfl rfl)
theorem dX14_characters_32 : decode cX14_characters 32 = .ok (.if_icmp .ne 16, 3) := dk_160 0 16 (dk_at dksX14_characters_1 8 rfl rfl)
theorem dX14_characters_35 : decode cX14_characters 35 = .ok (.aload_n 0, 1) := dk_42 (dk_at dksX14_characters_1 11 rfl rfl)
theorem dX14_characters_36 : decode cX14_characters 36 = .ok (.invokevirtual 792, 3) := dk_182 3 24 (dk_at dksX14_characters_1 12 rfl rfl)
theorem dX14_characters_39 : decode cX14_characters 39 = .ok (.ifCond .ne 7, 3) := dk_154 0 7 (dk_at dksX14_characters_1 15 rfl rfl)
theorem dX14_characters_42 : decode cX14_characters 42 = .ok (.iconst 1, 1) := dk_4 (dk_at dksX14_characters_1 18 rfl rfl)
theorem dX14_characters_43 : decode cX14_characters 43 = .ok (.goto 4, 3) := dk_167 0 4 (dk_at dksX14_characters_1 19 rfl rfl)
theorem dX14_characters_46 : decode cX14_characters 46 = .ok (.iconst 0, 1) := dk_3 (dk_at dksX14_characters_1 22 rfl rfl)
theorem dX14_characters_47 : decode cX14_characters 47 = .ok (.ireturn, 1) := dk_172 (dk_at dksX14_characters_1 23 rfl rfl)
theorem dX14_characters_48 : decode cX14_characters 48 = .ok (.iconst 1, 1) := dk_4 (dk_at dksX14_characters_2 0 rfl rfl)
theorem dX14_characters_49 : decode cX14_characters 49 = .ok (.istore 4, 2) := dk_54 4 (dk_at dksX14_characters_2 1 rfl rfl)
theorem dX14_characters_51 : decode cX14_characters 51 = .ok (.iconst 0, 1) := dk_3 (dk_at dksX14_characters_2 3 rfl rfl)
theorem dX14_characters_52 : decode cX14_characters 52 = .ok (.istore 5, 2) := dk_54 5 (dk_at dksX14_characters_2 4 rfl rfl)
theorem dX14_characters_54 : decode cX14_characters 54 = .ok (.iload 5, 2) := dk_21 5 (dk_at dksX14_characters_2 6 rfl rfl)
theorem dX14_characters_56 : decode cX14_characters 56 = .ok (.aload_n 0, 1) := dk_42 (dk_at dksX14_characters_2 8 rfl rfl)
theorem dX14_characters_57 : decode cX14_characters 57 = .ok (.getfield 682, 3) := dk_180 2 170 (dk_at dksX14_characters_2 9 rfl rfl)
theorem dX14_characters_60 : decode cX14_characters 60 = .ok (.if_icmp .ge 40, 3) := dk_162 0 40 (dk_at dksX14_characters_2 12 rfl rfl)
theorem dX14_characters_63 : decode cX14_characters 63 = .ok (.iload 4, 2) := dk_21 4 (dk_at dksX14_characters_2 15 rfl rfl)
theorem dX14_characters_65 : decode cX14_characters 65 = .ok (.ifCond .eq 26, 3) := dk_153 0 26 (dk_at dksX14_characters_2 17 rfl rfl)
theorem dX14_characters_68 : decode cX14_characters 68 = .ok (.iload_n 3, 1) := dk_29 (dk_at dksX14_characters_2 20 rfl rfl)
theorem dX14_characters_69 : decode cX14_characters 69 = .ok (.bipush 8, 2) := dk_16 8 (dk_at dksX14_characters_2 21 rfl rfl)
theorem dX14_characters_71 : decode cX14_characters 71 = .ok (.if_icmp .ne 16, 3) := dk_160 0 16 (dk_at dksX14_characters_3 0 rfl rfl)
theorem dX14_characters_74 : decode cX14_characters 74 = .ok (.aload_n 0, 1) := dk_42 (dk_at dksX14_characters_3 3 rfl rfl)
theorem dX14_characters_75 : decode cX14_characters 75 = .ok (.getfield 236, 3) := dk_180 0 236 (dk_at dksX14_characters_3 4 rfl rfl)
theorem dX14_characters_78 : decode cX14_characters 78 = .ok (.iload 5, 2) := dk_21 5 (dk_at dksX14_characters_3 7 rfl rfl)
theorem dX14_characters_80 : decode cX14_characters 80 = .ok (.iaload, 1) := dk_46 (dk_at dksX14_characters_3 9 rfl rfl)
theorem dX14_characters_81 : decode cX14_characters 81 = .ok (.invokestatic 795, 3) := dk_184 3 27 (dk_at dksX14_characters_3 10 rfl rfl)
theorem dX14_characters_84 : decode cX14_characters 84 = .ok (.ifCond .eq 7, 3) := dk_153 0 7 (dk_at dksX14_characters_3 13 rfl rfl)
theorem dX14_characters_87 : decode cX14_characters 87 = .ok (.iconst 1, 1) := dk_4 (dk_at dksX14_characters_3 16 rfl rfl)
theorem dX14_characters_88 : decode cX14_characters 88 = .ok (.goto 4, 3) := dk_167 0 4 (dk_at dksX14_characters_3 17 rfl rfl)
theorem dX14_characters_91 : decode cX14_characters 91 = .ok (.iconst 0, 1) := dk_3 (dk_at dksX14_characters_3 20 rfl rfl)
theorem dX14_characters_92 : decode cX14_characters 92 = .ok (.istore 4, 2) := dk_54 4 (dk_at dksX14_characters_3 21 rfl rfl)
theorem dX14_characters_94 : decode cX14_characters 94 = .ok (.iinc 5 1, 3) := dk_132 5 1 (dk_at dksX14_characters_4 0 rfl rfl)
theorem dX14_characters_97 : decode cX14_characters 97 = .ok (.goto (-43), 3) := dk_167 255 213 (dk_at dksX14_characters_4 3 rfl rfl)
theorem dX14_characters_100 : decode cX14_characters 100 = .ok (.iload 4, 2) := dk_21 4 (dk_at dksX14_characters_4 6 rfl rfl)
theorem dX14_characters_102 : decode cX14_characters 102 = .ok (.ifCond .eq 19, 3) := dk_153 0 19 (dk_at dksX14_characters_4 8 rfl rfl)
theorem dX14_characters_105 : decode cX14_characters 105 = .ok (.aload_n 0, 1) := dk_42 (dk_at dksX14_characters_4 11 rfl rfl)
theorem dX14_characters_106 : decode cX14_characters 106 = .ok (.iload_n 2, 1) := dk_28 (dk_at dksX14_characters_4 12 rfl rfl)
theorem dX14_characters_107 : decode cX14_characters 107 = .ok (.aload_n 0, 1) := dk_42 (dk_at dksX14_characters_4 13 rfl rfl)
theorem dX14_characters_108 : decode cX14_characters 108 = .ok (.getfield 682, 3) := dk_180 2 170 (dk_at dksX14_characters_4 14 rfl rfl)
theorem dX14_characters_111 : decode cX14_characters 111 = .ok (.invokevirtual 694, 3) := dk_182 2 182 (dk_at dksX14_characters_4 17 rfl rfl)
theorem dX14_characters_114 : decode cX14_characters 114 = .ok (.ifCond .eq 7, 3) := dk_153 0 7 (dk_at dksX14_characters_4 20 rfl rfl)
theorem dX14_characters_117 : decode cX14_characters 117 = .ok (.iconst 1, 1) := dk_4 (dk_at dksX14_characters_4 23 rfl rfl)
theorem dX14_characters_118 : decode cX14_characters 118 = .ok (.goto 4, 3) := dk_167 0 4 (dk_at dksX14_characters_5 0 rfl rfl)
theorem dX14_characters_121 : decode cX14_characters 121 = .ok (.iconst 0, 1) := dk_3 (dk_at dksX14_characters_5 3 rfl rfl)
theorem dX14_characters_122 : decode cX14_characters 122 = .ok (.ireturn, 1) := dk_172 (dk_at dksX14_characters_5 4 rfl rfl)
abbrev cX14_textOf : ByteArray := prog_15_method_114_code
def yX14_textOf : MethodName := ⟨RX14, "textOf", "(I)V"⟩
def dkwX14_textOf_2 : List UInt8 := [160, 0, 7, 5, 167, 0, 4, 4, 96, 61, 167, 255, 215, 177]
abbrev dktX14_textOf_2 : List UInt8 := dkwX14_textOf_2 ++ []
def dkwX14_textOf_1 : List UInt8 := [162, 0, 35, 42, 42, 180, 0, 30, 28, 46, 182, 2, 176, 28, 42, 180, 0, 30, 28, 46, 16, 34]
abbrev dktX14_textOf_1 : List UInt8 := dkwX14_textOf_1 ++ dktX14_textOf_2
def dkwX14_textOf_0 : List UInt8 := [42, 3, 181, 2, 170, 42, 180, 0, 36, 27, 46, 4, 96, 61, 28, 42, 180, 0, 39, 27, 46, 4, 100]
abbrev dktX14_textOf_0 : List UInt8 := dkwX14_textOf_0 ++ dktX14_textOf_1
theorem dksX14_textOf_0 : cX14_textOf.data.toList.drop 0 = dktX14_textOf_0 := by decide +kernel
theorem dksX14_textOf_1 : cX14_textOf.data.toList.drop 23 = dktX14_textOf_1 := dk_seg dksX14_textOf_0 23 rfl rfl
theorem dksX14_textOf_2 : cX14_textOf.data.toList.drop 45 = dktX14_textOf_2 := dk_seg dksX14_textOf_1 22 rfl rfl
theorem dX14_textOf_0 : decode cX14_textOf 0 = .ok (.aload_n 0, 1) := dk_42 (dk_at dksX14_textOf_0 0 rfl rfl)
theorem dX14_textOf_1 : decode cX14_textOf 1 = .ok (.iconst 0, 1) := dk_3 (dk_at dksX14_textOf_0 1 rfl rfl)
theorem dX14_textOf_2 : decode cX14_textOf 2 = .ok (.putfield 682, 3) := dk_181 2 170 (dk_at dksX14_textOf_0 2 rfl rfl)
theorem dX14_textOf_5 : decode cX14_textOf 5 = .ok (.aload_n 0, 1) := dk_42 (dk_at dksX14_textOf_0 5 rfl rfl)
theorem dX14_textOf_6 : decode cX14_textOf 6 = .ok (.getfield 36, 3) := dk_180 0 36 (dk_at dksX14_textOf_0 6 rfl rfl)
theorem dX14_textOf_9 : decode cX14_textOf 9 = .ok (.iload_n 1, 1) := dk_27 (dk_at dksX14_textOf_0 9 rfl rfl)
theorem dX14_textOf_10 : decode cX14_textOf 10 = .ok (.iaload, 1) := dk_46 (dk_at dksX14_textOf_0 10 rfl rfl)
theorem dX14_textOf_11 : decode cX14_textOf 11 = .ok (.iconst 1, 1) := dk_4 (dk_at dksX14_textOf_0 11 rfl rfl)
theorem dX14_textOf_12 : decode cX14_textOf 12 = .ok (.iadd, 1) := dk_96 (dk_at dksX14_textOf_0 12 rfl rfl)
theorem dX14_textOf_13 : decode cX14_textOf 13 = .ok (.istore_n 2, 1) := dk_61 (dk_at dksX14_textOf_0 13 rfl rfl)
theorem dX14_textOf_14 : decode cX14_textOf 14 = .ok (.iload_n 2, 1) := dk_28 (dk_at dksX14_textOf_0 14 rfl rfl)
theorem dX14_textOf_15 : decode cX14_textOf 15 = .ok (.aload_n 0, 1) := dk_42 (dk_at dksX14_textOf_0 15 rfl rfl)
theorem dX14_textOf_16 : decode cX14_textOf 16 = .ok (.getfield 39, 3) := dk_180 0 39 (dk_at dksX14_textOf_0 16 rfl rfl)
theorem dX14_textOf_19 : decode cX14_textOf 19 = .ok (.iload_n 1, 1) := dk_27 (dk_at dksX14_textOf_0 19 rfl rfl)
theorem dX14_textOf_20 : decode cX14_textOf 20 = .ok (.iaload, 1) := dk_46 (dk_at dksX14_textOf_0 20 rfl rfl)
theorem dX14_textOf_21 : decode cX14_textOf 21 = .ok (.iconst 1, 1) := dk_4 (dk_at dksX14_textOf_0 21 rfl rfl)
theorem dX14_textOf_22 : decode cX14_textOf 22 = .ok (.isub, 1) := dk_100 (dk_at dksX14_textOf_0 22 rfl rfl)
theorem dX14_textOf_23 : decode cX14_textOf 23 = .ok (.if_icmp .ge 35, 3) := dk_162 0 35 (dk_at dksX14_textOf_1 0 rfl rfl)
theorem dX14_textOf_26 : decode cX14_textOf 26 = .ok (.aload_n 0, 1) := dk_42 (dk_at dksX14_textOf_1 3 rfl rfl)
theorem dX14_textOf_27 : decode cX14_textOf 27 = .ok (.aload_n 0, 1) := dk_42 (dk_at dksX14_textOf_1 4 rfl rfl)
theorem dX14_textOf_28 : decode cX14_textOf 28 = .ok (.getfield 30, 3) := dk_180 0 30 (dk_at dksX14_textOf_1 5 rfl rfl)
theorem dX14_textOf_31 : decode cX14_textOf 31 = .ok (.iload_n 2, 1) := dk_28 (dk_at dksX14_textOf_1 8 rfl rfl)
theorem dX14_textOf_32 : decode cX14_textOf 32 = .ok (.iaload, 1) := dk_46 (dk_at dksX14_textOf_1 9 rfl rfl)
theorem dX14_textOf_33 : decode cX14_textOf 33 = .ok (.invokevirtual 688, 3) := dk_182 2 176 (dk_at dksX14_textOf_1 10 rfl rfl)
theorem dX14_textOf_36 : decode cX14_textOf 36 = .ok (.iload_n 2, 1) := dk_28 (dk_at dksX14_textOf_1 13 rfl rfl)
theorem dX14_textOf_37 : decode cX14_textOf 37 = .ok (.aload_n 0, 1) := dk_42 (dk_at dksX14_textOf_1 14 rfl rfl)
theorem dX14_textOf_38 : decode cX14_textOf 38 = .ok (.getfield 30, 3) := dk_180 0 30 (dk_at dksX14_textOf_1 15 rfl rfl)
theorem dX14_textOf_41 : decode cX14_textOf 41 = .ok (.iload_n 2, 1) := dk_28 (dk_at dksX14_textOf_1 18 rfl rfl)
theorem dX14_textOf_42 : decode cX14_textOf 42 = .ok (.iaload, 1) := dk_46 (dk_at dksX14_textOf_1 19 rfl rfl)
theorem dX14_textOf_43 : decode cX14_textOf 43 = .ok (.bipush 34, 2) := dk_16 34 (dk_at dksX14_textOf_1 20 rfl rfl)
theorem dX14_textOf_45 : decode cX14_textOf 45 = .ok (.if_icmp .ne 7, 3) := dk_160 0 7 (dk_at dksX14_textOf_2 0 rfl rfl)
theorem dX14_textOf_48 : decode cX14_textOf 48 = .ok (.iconst 2, 1) := dk_5 (dk_at dksX14_textOf_2 3 rfl rfl)
theorem dX14_textOf_49 : decode cX14_textOf 49 = .ok (.goto 4, 3) := dk_167 0 4 (dk_at dksX14_textOf_2 4 rfl rfl)
theorem dX14_textOf_52 : decode cX14_textOf 52 = .ok (.iconst 1, 1) := dk_4 (dk_at dksX14_textOf_2 7 rfl rfl)
theorem dX14_textOf_53 : decode cX14_textOf 53 = .ok (.iadd, 1) := dk_96 (dk_at dksX14_textOf_2 8 rfl rfl)
theorem dX14_textOf_54 : decode cX14_textOf 54 = .ok (.istore_n 2, 1) := dk_61 (dk_at dksX14_textOf_2 9 rfl rfl)
theorem dX14_textOf_55 : decode cX14_textOf 55 = .ok (.goto (-41), 3) := dk_167 255 215 (dk_at dksX14_textOf_2 10 rfl rfl)
theorem dX14_textOf_58 : decode cX14_textOf 58 = .ok (.return_, 1) := dk_177 (dk_at dksX14_textOf_2 13 rfl rfl)
abbrev cX14_utcTime : ByteArray := prog_15_method_108_code
def yX14_utcTime : MethodName := ⟨RX14, "utcTime", "()I"⟩
def dkwX14_utcTime_9 : List UInt8 := [182, 2, 176, 3, 172]
abbrev dktX14_utcTime_9 : List UInt8 := dkwX14_utcTime_9 ++ []
def dkwX14_utcTime_8 : List UInt8 := [42, 3, 181, 2, 170, 42, 42, 180, 2, 200, 16, 100, 112, 5, 182, 2, 232, 42, 182, 2, 235, 42, 16, 90]
abbrev dktX14_utcTime_8 : List UInt8 := dkwX14_utcTime_8 ++ dktX14_utcTime_9
def dkwX14_utcTime_7 : List UInt8 := [28, 116, 182, 2, 229, 42, 180, 2, 200, 17, 7, 158, 17, 8, 1, 184, 1, 132, 154, 0, 6, 16, 20, 172]
abbrev dktX14_utcTime_7 : List UInt8 := dkwX14_utcTime_7 ++ dktX14_utcTime_8
def dkwX14_utcTime_6 : List UInt8 := [42, 3, 182, 2, 223, 61, 28, 19, 2, 215, 159, 0, 10, 42, 182, 2, 226, 154, 0, 6, 16, 18, 172, 42]
abbrev dktX14_utcTime_6 : List UInt8 := dkwX14_utcTime_6 ++ dktX14_utcTime_7
def dkwX14_utcTime_5 : List UInt8 := [167, 0, 8, 17, 7, 108, 27, 96, 181, 2, 200, 42, 180, 2, 212, 156, 0, 9, 19, 2, 215, 167, 0, 8]
abbrev dktX14_utcTime_5 : List UInt8 := dkwX14_utcTime_5 ++ dktX14_utcTime_6
def dkwX14_utcTime_4 : List UInt8 := [182, 2, 216, 167, 0, 4, 3, 181, 2, 212, 42, 27, 16, 50, 162, 0, 11, 17, 7, 208, 27, 96]
abbrev dktX14_utcTime_4 : List UInt8 := dkwX14_utcTime_4 ++ dktX14_utcTime_5
def dkwX14_utcTime_3 : List UInt8 := [155, 0, 10, 42, 180, 2, 209, 156, 0, 6, 16, 18, 172, 42, 42, 182, 2, 219, 153, 0, 11, 42, 5]
abbrev dktX14_utcTime_3 : List UInt8 := dkwX14_utcTime_3 ++ dktX14_utcTime_4
def dkwX14_utcTime_2 : List UInt8 := [27, 155, 0, 31, 42, 180, 2, 194, 155, 0, 24, 42, 180, 2, 197, 155, 0, 17, 42, 180, 2, 206]
abbrev dktX14_utcTime_2 : List UInt8 := dkwX14_utcTime_2 ++ dktX14_utcTime_3
def dkwX14_utcTime_1 : List UInt8 := [182, 2, 216, 181, 2, 197, 42, 42, 5, 182, 2, 216, 181, 2, 206, 42, 42, 5, 182, 2, 216, 181, 2, 209]
abbrev dktX14_utcTime_1 : List UInt8 := dkwX14_utcTime_1 ++ dktX14_utcTime_2
def dkwX14_utcTime_0 : List UInt8 := [42, 3, 181, 2, 191, 42, 5, 182, 2, 216, 60, 42, 42, 5, 182, 2, 216, 181, 2, 194, 42, 42, 5]
abbrev dktX14_utcTime_0 : List UInt8 := dkwX14_utcTime_0 ++ dktX14_utcTime_1
theorem dksX14_utcTime_0 : cX14_utcTime.data.toList.drop 0 = dktX14_utcTime_0 := by decide +kernel
theorem dksX14_utcTime_1 : cX14_utcTime.data.toList.drop 23 = dktX14_utcTime_1 := dk_seg dksX14_utcTime_0 23 rfl rfl
theorem dksX14_utcTime_2 : cX14_utcTime.data.toList.drop 47 = dktX14_utcTime_2 := dk_seg dksX14_utcTime_1 24 rfl rfl
theorem dksX14_utcTime_3 : cX14_utcTime.data.toList.drop 69 = dktX14_utcTime_3 := dk_seg dksX14_utcTime_2 22 rfl rfl
theorem dksX14_utcTime_4 : cX14_utcTime.data.toList.drop 92 = dktX14_utcTime_4 := dk_seg dksX14_utcTime_3 23 rfl rfl
theorem dksX14_utcTime_5 : cX14_utcTime.data.toList.drop 114 = dktX14_utcTime_5 := dk_seg dksX14_utcTime_4 22 rfl rfl
theorem dksX14_utcTime_6 : cX14_utcTime.data.toList.drop 138 = dktX14_utcTime_6 := dk_seg dksX14_utcTime_5 24 rfl rfl
theorem dksX14_utcTime_7 : cX14_utcTime.data.toList.drop 162 = dktX14_utcTime_7 := dk_seg dksX14_utcTime_6 24 rfl rfl
theorem dksX14_utcTime_8 : cX14_utcTime.data.toList.drop 186 = dktX14_utcTime_8 := dk_seg dksX14_utcTime_7 24 rfl rfl
theorem dksX14_utcTime_9 : cX14_utcTime.data.toList.drop 210 = dktX14_utcTime_9 := dk_seg dksX14_utcTime_8 24 rfl rfl
theorem dX14_utcTime_0 : decode cX14_utcTime 0 = .ok (.aload_n 0, 1) := dk_42 (dk_at dksX14_utcTime_0 0 rfl rfl)
theorem dX14_utcTime_1 : decode cX14_utcTime 1 = .ok (.iconst 0, 1) := dk_3 (dk_at dksX14_utcTime_0 1 rfl rfl)
theorem dX14_utcTime_2 : decode cX14_utcTime 2 = .ok (.putfield 703, 3) := dk_181 2 191 (dk_at dksX14_utcTime_0 2 rfl rfl)
theorem dX14_utcTime_5 : decode cX14_utcTime 5 = .ok (.aload_n 0, 1) := dk_42 (dk_at dksX14_utcTime_0 5 rfl rfl)
theorem dX14_utcTime_6 : decode cX14_utcTime 6 = .ok (.iconst 2, 1) := dk_5 (dk_at dksX14_utcTime_0 6 rfl rfl)
theorem dX14_utcTime_7 : decode cX14_utcTime 7 = .ok (.invokevirtual 728, 3) := dk_182 2 216 (dk_at dksX14_utcTime_0 7 rfl rfl)
theorem dX14_utcTime_10 : decode cX14_utcTime 10 = .ok (.istore_n 1, 1) := dk_60 (dk_at dksX14_utcTime_0 10 rfl rfl)
theorem dX14_utcTime_11 : decode cX14_utcTime 11 = .ok (.aload_n 0, 1) := dk_42 (dk_at dksX14_utcTime_0 11 rfl rfl)
theorem dX14_utcTime_12 : decode cX14_utcTime 12 = .ok (.aload_n 0, 1) := dk_42 (dk_at dksX14_utcTime_0 12 rfl rfl)
theorem dX14_utcTime_13 : decode cX14_utcTime 13 = .ok (.iconst 2, 1) := dk_5 (dk_at dksX14_utcTime_0 13 rfl rfl)
theorem dX14_utcTime_14 : decode cX14_utcTime 14 = .ok (.invokevirtual 728, 3) := dk_182 2 216 (dk_at dksX14_utcTime_0 14 rfl rfl)
theorem dX14_utcTime_17 : decode cX14_utcTime 17 = .ok (.putfield 706, 3) := dk_181 2 194 (dk_at dksX14_utcTime_0 17 rfl rfl)
theorem dX14_utcTime_20 : decode cX14_utcTime 20 = .ok (.aload_n 0, 1) := dk_42 (dk_at dksX14_utcTime_0 20 rfl rfl)
theorem dX14_utcTime_21 : decode cX14_utcTime 21 = .ok (.aload_n 0, 1) := dk_42 (dk_at dksX14_utcTime_0 21 rfl rfl)
theorem dX14_utcTime_22 : decode cX14_utcTime 22 = .ok (.iconst 2, 1) := dk_5 (dk_at dksX14_utcTime_0 22 rfl rfl)
theorem dX14_utcTime_23 : decode cX14_utcTime 23 = .ok (.invokevirtual 728, 3) := dk_182 2 216 (dk_at dksX14_utcTime_1 0 rfl rfl)
theorem dX14_utcTime_26 : decode cX14_utcTime 26 = .ok (.putfield 709, 3) := dk_181 2 197 (dk_at dksX14_utcTime_1 3 rfl rfl)
theorem dX14_utcTime_29 : decode cX14_utcTime 29 = .ok (.aload_n 0, 1) := dk_42 (dk_at dksX14_utcTime_1 6 rfl rfl)
theorem dX14_utcTime_30 : decode cX14_utcTime 30 = .ok (.aload_n 0, 1) := dk_42 (dk_at dksX14_utcTime_1 7 rfl rfl)
theorem dX14_utcTime_31 : decode cX14_utcTime 31 = .ok (.iconst 2, 1) := dk_5 (dk_at dksX14_utcTime_1 8 rfl rfl)
theorem dX14_utcTime_32 : decode cX14_utcTime 32 = .ok (.invokevirtual 728, 3) := dk_182 2 216 (dk_at dksX14_utcTime_1 9 rfl rfl)
theorem dX14_utcTime_35 : decode cX14_utcTime 35 = .ok (.putfield 718, 3) := dk_181 2 206 (dk_at dksX14_utcTime_1 12 rfl rfl)
theorem dX14_utcTime_38 : decode cX14_utcTime 38 = .ok (.aload_n 0, 1) := dk_42 (dk_at dksX14_utcTime_1 15 rfl rfl)
theorem dX14_utcTime_39 : decode cX14_utcTime 39 = .ok (.aload_n 0, 1) := dk_42 (dk_at dksX14_utcTime_1 16 rfl rfl)
theorem dX14_utcTime_40 : decode cX14_utcTime 40 = .ok (.iconst 2, 1) := dk_5 (dk_at dksX14_utcTime_1 17 rfl rfl)
theorem dX14_utcTime_41 : decode cX14_utcTime 41 = .ok (.invokevirtual 728, 3) := dk_182 2 216 (dk_at dksX14_utcTime_1 18 rfl rfl)
theorem dX14_utcTime_44 : decode cX14_utcTime 44 = .ok (.putfield 721, 3) := dk_181 2 209 (dk_at dksX14_utcTime_1 21 rfl rfl)
theorem dX14_utcTime_47 : decode cX14_utcTime 47 = .ok (.iload_n 1, 1) := dk_27 (dk_at dksX14_utcTime_2 0 rfl rfl)
theorem dX14_utcTime_48 : decode cX14_utcTime 48 = .ok (.ifCond .lt 31, 3) := dk_155 0 31 (dk_at dksX14_utcTime_2 1 rfl rfl)
theorem dX14_utcTime_51 : decode cX14_utcTime 51 = .ok (.aload_n 0, 1) := dk_42 (dk_at dksX14_utcTime_2 4 rfl rfl)
theorem dX14_utcTime_52 : decode cX14_utcTime 52 = .ok (.getfield 706, 3) := dk_180 2 194 (dk_at dksX14_utcTime_2 5 rfl rfl)
theorem dX14_utcTime_55 : decode cX14_utcTime 55 = .ok (.ifCond .lt 24, 3) := dk_155 0 24 (dk_at dksX14_utcTime_2 8 rfl rfl)
theorem dX14_utcTime_58 : decode cX14_utcTime 58 = .ok (.aload_n 0, 1) := dk_42 (dk_at dksX14_utcTime_2 11 rfl rfl)
theorem dX14_utcTime_59 : decode cX14_utcTime 59 = .ok (.getfield 709, 3) := dk_180 2 197 (dk_at dksX14_utcTime_2 12 rfl rfl)
theorem dX14_utcTime_62 : decode cX14_utcTime 62 = .ok (.ifCond .lt 17, 3) := dk_155 0 17 (dk_at dksX14_utcTime_2 15 rfl rfl)
theorem dX14_utcTime_65 : decode cX14_utcTime 65 = .ok (.aload_n 0, 1) := dk_42 (dk_at dksX14_utcTime_2 18 rfl rfl)
theorem dX14_utcTime_66 : decode cX14_utcTime 66 = .ok (.getfield 718, 3) := dk_180 2 206 (dk_at dksX14_utcTime_2 19 rfl rfl)
theorem dX14_utcTime_69 : decode cX14_utcTime 69 = .ok (.ifCond .lt 10, 3) := dk_155 0 10 (dk_at dksX14_utcTime_3 0 rfl rfl)
theorem dX14_utcTime_72 : decode cX14_utcTime 72 = .ok (.aload_n 0, 1) := dk_42 (dk_at dksX14_utcTime_3 3 rfl rfl)
theorem dX14_utcTime_73 : decode cX14_utcTime 73 = .ok (.getfield 721, 3) := dk_180 2 209 (dk_at dksX14_utcTime_3 4 rfl rfl)
theorem dX14_utcTime_76 : decode cX14_utcTime 76 = .ok (.ifCond .ge 6, 3) := dk_156 0 6 (dk_at dksX14_utcTime_3 7 rfl rfl)
theorem dX14_utcTime_79 : decode cX14_utcTime 79 = .ok (.bipush 18, 2) := dk_16 18 (dk_at dksX14_utcTime_3 10 rfl rfl)
theorem dX14_utcTime_81 : decode cX14_utcTime 81 = .ok (.ireturn, 1) := dk_172 (dk_at dksX14_utcTime_3 12 rfl rfl)
theorem dX14_utcTime_82 : decode cX14_utcTime 82 = .ok (.aload_n 0, 1) := dk_42 (dk_at dksX14_utcTime_3 13 rfl rfl)
theorem dX14_utcTime_83 : decode cX14_utcTime 83 = .ok (.aload_n 0, 1) := dk_42 (dk_at dksX14_utcTime_3 14 rfl rfl)
theorem dX14_utcTime_84 : decode cX14_utcTime 84 = .ok (.invokevirtual 731, 3) := dk_182 2 219 (dk_at dksX14_utcTime_3 15 rfl rfl)
theorem dX14_utcTime_87 : decode cX14_utcTime 87 = .ok (.ifCond .eq 11, 3) := dk_153 0 11 (dk_at dksX14_utcTime_3 18 rfl rfl)
theorem dX14_utcTime_90 : decode cX14_utcTime 90 = .ok (.aload_n 0, 1) := dk_42 (dk_at dksX14_utcTime_3 21 rfl rfl)
theorem dX14_utcTime_91 : decode cX14_utcTime 91 = .ok (.iconst 2, 1) := dk_5 (dk_at dksX14_utcTime_3 22 rfl rfl)
theorem dX14_utcTime_92 : decode cX14_utcTime 92 = .ok (.invokevirtual 728, 3) := dk_182 2 216 (dk_at dksX14_utcTime_4 0 rfl rfl)
theorem dX14_utcTime_95 : decode cX14_utcTime 95 = .ok (.goto 4, 3) := dk_167 0 4 (dk_at dksX14_utcTime_4 3 rfl rfl)
theorem dX14_utcTime_98 : decode cX14_utcTime 98 = .ok (.iconst 0, 1) := dk_3 (dk_at dksX14_utcTime_4 6 rfl rfl)
theorem dX14_utcTime_99 : decode cX14_utcTime 99 = .ok (.putfield 724, 3) := dk_181 2 212 (dk_at dksX14_utcTime_4 7 rfl rfl)
theorem dX14_utcTime_102 : decode cX14_utcTime 102 = .ok (.aload_n 0, 1) := dk_42 (dk_at dksX14_utcTime_4 10 rfl rfl)
theorem dX14_utcTime_103 : decode cX14_utcTime 103 = .ok (.iload_n 1, 1) := dk_27 (dk_at dksX14_utcTime_4 11 rfl rfl)
theorem dX14_utcTime_104 : decode cX14_utcTime 104 = .ok (.bipush 50, 2) := dk_16 50 (dk_at dksX14_utcTime_4 12 rfl rfl)
theorem dX14_utcTime_106 : decode cX14_utcTime 106 = .ok (.if_icmp .ge 11, 3) := dk_162 0 11 (dk_at dksX14_utcTime_4 14 rfl rfl)
theorem dX14_utcTime_109 : decode cX14_utcTime 109 = .ok (.sipush 2000, 3) := dk_17 7 208 (dk_at dksX14_utcTime_4 17 rfl rfl)
theorem dX14_utcTime_112 : decode cX14_utcTime 112 = .ok (.iload_n 1, 1) := dk_27 (dk_at dksX14_utcTime_4 20 rfl rfl)
theorem dX14_utcTime_113 : decode cX14_utcTime 113 = .ok (.iadd, 1) := dk_96 (dk_at dksX14_utcTime_4 21 rfl rfl)
theorem dX14_utcTime_114 : decode cX14_utcTime 114 = .ok (.goto 8, 3) := dk_167 0 8 (dk_at dksX14_utcTime_5 0 rfl rfl)
theorem dX14_utcTime_117 : decode cX14_utcTime 117 = .ok (.sipush 1900, 3) := dk_17 7 108 (dk_at dksX14_utcTime_5 3 rfl rfl)
theorem dX14_utcTime_120 : decode cX14_utcTime 120 = .ok (.iload_n 1, 1) := dk_27 (dk_at dksX14_utcTime_5 6 rfl rfl)
theorem dX14_utcTime_121 : decode cX14_utcTime 121 = .ok (.iadd, 1) := dk_96 (dk_at dksX14_utcTime_5 7 rfl rfl)
theorem dX14_utcTime_122 : decode cX14_utcTime 122 = .ok (.putfield 712, 3) := dk_181 2 200 (dk_at dksX14_utcTime_5 8 rfl rfl)
theorem dX14_utcTime_125 : decode cX14_utcTime 125 = .ok (.aload_n 0, 1) := dk_42 (dk_at dksX14_utcTime_5 11 rfl rfl)
theorem dX14_utcTime_126 : decode cX14_utcTime 126 = .ok (.getfield 724, 3) := dk_180 2 212 (dk_at dksX14_utcTime_5 12 rfl rfl)
theorem dX14_utcTime_129 : decode cX14_utcTime 129 = .ok (.ifCond .ge 9, 3) := dk_156 0 9 (dk_at dksX14_utcTime_5 15 rfl rfl)
theorem dX14_utcTime_132 : decode cX14_utcTime 132 = .ok (.ldc_w 727, 3) := dk_19 2 215 (dk_at dksX14_utcTime_5 18 rfl rfl)
theorem dX14_utcTime_135 : decode cX14_utcTime 135 = .ok (.goto 8, 3) := dk_167 0 8 (dk_at dksX14_utcTime_5 21 rfl rfl)
theorem dX14_utcTime_138 : decode cX14_utcTime 138 = .ok (.aload_n 0, 1) := dk_42 (dk_at dksX14_utcTime_6 0 rfl rfl)
theorem dX14_utcTime_139 : decode cX14_utcTime 139 = .ok (.iconst 0, 1) := dk_3 (dk_at dksX14_utcTime_6 1 rfl rfl)
theorem dX14_utcTime_140 : decode cX14_utcTime 140 = .ok (.invokevirtual 735, 3) := dk_182 2 223 (dk_at dksX14_utcTime_6 2 rfl rfl)
theorem dX14_utcTime_143 : decode cX14_utcTime 143 = .ok (.istore_n 2, 1) := dk_61 (dk_at dksX14_utcTime_6 5 rfl rfl)
theorem dX14_utcTime_144 : decode cX14_utcTime 144 = .ok (.iload_n 2, 1) := dk_28 (dk_at dksX14_utcTime_6 6 rfl rfl)
theorem dX14_utcTime_145 : decode cX14_utcTime 145 = .ok (.ldc_w 727, 3) := dk_19 2 215 (dk_at dksX14_utcTime_6 7 rfl rfl)
theorem dX14_utcTime_148 : decode cX14_utcTime 148 = .ok (.if_icmp .eq 10, 3) := dk_159 0 10 (dk_at dksX14_utcTime_6 10 rfl rfl)
theorem dX14_utcTime_151 : decode cX14_utcTime 151 = .ok (.aload_n 0, 1) := dk_42 (dk_at dksX14_utcTime_6 13 rfl rfl)
theorem dX14_utcTime_152 : decode cX14_utcTime 152 = .ok (.invokevirtual 738, 3) := dk_182 2 226 (dk_at dksX14_utcTime_6 14 rfl rfl)
theorem dX14_utcTime_155 : decode cX14_utcTime 155 = .ok (.ifCond .ne 6, 3) := dk_154 0 6 (dk_at dksX14_utcTime_6 17 rfl rfl)
theorem dX14_utcTime_158 : decode cX14_utcTime 158 = .ok (.bipush 18, 2) := dk_16 18 (dk_at dksX14_utcTime_6 20 rfl rfl)
theorem dX14_utcTime_160 : decode cX14_utcTime 160 = .ok (.ireturn, 1) := dk_172 (dk_at dksX14_utcTime_6 22 rfl rfl)
theorem dX14_utcTime_161 : decode cX14_utcTime 161 = .ok (.aload_n 0, 1) := dk_42 (dk_at dksX14_utcTime_6 23 rfl rfl)
theorem dX14_utcTime_162 : decode cX14_utcTime 162 = .ok (.iload_n 2, 1) := dk_28 (dk_at dksX14_utcTime_7 0 rfl rfl)
theorem dX14_utcTime_163 : decode cX14_utcTime 163 = .ok (.ineg, 1) := dk_116 (dk_at dksX14_utcTime_7 1 rfl rfl)
theorem dX14_utcTime_164 : decode cX14_utcTime 164 = .ok (.invokevirtual 741, 3) := dk_182 2 229 (dk_at dksX14_utcTime_7 2 rfl rfl)
theorem dX14_utcTime_167 : decode cX14_utcTime 167 = .ok (.aload_n 0, 1) := dk_42 (dk_at dksX14_utcTime_7 5 rfl rfl)
theorem dX14_utcTime_168 : decode cX14_utcTime 168 = .ok (.getfield 712, 3) := dk_180 2 200 (dk_at dksX14_utcTime_7 6 rfl rfl)
theorem dX14_utcTime_171 : decode cX14_utcTime 171 = .ok (.sipush 1950, 3) := dk_17 7 158 (dk_at dksX14_utcTime_7 9 rfl rfl)
theorem dX14_utcTime_174 : decode cX14_utcTime 174 = .ok (.sipush 2049, 3) := dk_17 8 1 (dk_at dksX14_utcTime_7 12 rfl rfl)
theorem dX14_utcTime_177 : decode cX14_utcTime 177 = .ok (.invokestatic 388, 3) := dk_184 1 132 (dk_at dksX14_utcTime_7 15 rfl rfl)
theorem dX14_utcTime_180 : decode cX14_utcTime 180 = .ok (.ifCond .ne 6, 3) := dk_154 0 6 (dk_at dksX14_utcTime_7 18 rfl rfl)
theorem dX14_utcTime_183 : decode cX14_utcTime 183 = .ok (.bipush 20, 2) := dk_16 20 (dk_at dksX14_utcTime_7 21 rfl rfl)
theorem dX14_utcTime_185 : decode cX14_utcTime 185 = .ok (.ireturn, 1) := dk_172 (dk_at dksX14_utcTime_7 23 rfl rfl)
theorem dX14_utcTime_186 : decode cX14_utcTime 186 = .ok (.aload_n 0, 1) := dk_42 (dk_at dksX14_utcTime_8 0 rfl rfl)
theorem dX14_utcTime_187 : decode cX14_utcTime 187 = .ok (.iconst 0, 1) := dk_3 (dk_at dksX14_utcTime_8 1 rfl rfl)
theorem dX14_utcTime_188 : decode cX14_utcTime 188 = .ok (.putfield 682, 3) := dk_181 2 170 (dk_at dksX14_utcTime_8 2 rfl rfl)
theorem dX14_utcTime_191 : decode cX14_utcTime 191 = .ok (.aload_n 0, 1) := dk_42 (dk_at dksX14_utcTime_8 5 rfl rfl)
theorem dX14_utcTime_192 : decode cX14_utcTime 192 = .ok (.aload_n 0, 1) := dk_42 (dk_at dksX14_utcTime_8 6 rfl rfl)
theorem dX14_utcTime_193 : decode cX14_utcTime 193 = .ok (.getfield 712, 3) := dk_180 2 200 (dk_at dksX14_utcTime_8 7 rfl rfl)
theorem dX14_utcTime_196 : decode cX14_utcTime 196 = .ok (.bipush 100, 2) := dk_16 100 (dk_at dksX14_utcTime_8 10 rfl rfl)
theorem dX14_utcTime_198 : decode cX14_utcTime 198 = .ok (.irem, 1) := dk_112 (dk_at dksX14_utcTime_8 12 rfl rfl)
theorem dX14_utcTime_199 : decode cX14_utcTime 199 = .ok (.iconst 2, 1) := dk_5 (dk_at dksX14_utcTime_8 13 rfl rfl)
theorem dX14_utcTime_200 : decode cX14_utcTime 200 = .ok (.invokevirtual 744, 3) := dk_182 2 232 (dk_at dksX14_utcTime_8 14 rfl rfl)
theorem dX14_utcTime_203 : decode cX14_utcTime 203 = .ok (.aload_n 0, 1) := dk_42 (dk_at dksX14_utcTime_8 17 rfl rfl)
theorem dX14_utcTime_204 : decode cX14_utcTime 204 = .ok (.invokevirtual 747, 3) := dk_182 2 235 (dk_at dksX14_utcTime_8 18 rfl rfl)
theorem dX14_utcTime_207 : decode cX14_utcTime 207 = .ok (.aload_n 0, 1) := dk_42 (dk_at dksX14_utcTime_8 21 rfl rfl)
theorem dX14_utcTime_208 : decode cX14_utcTime 208 = .ok (.bipush 90, 2) := dk_16 90 (dk_at dksX14_utcTime_8 22 rfl rfl)
theorem dX14_utcTime_210 : decode cX14_utcTime 210 = .ok (.invokevirtual 688, 3) := dk_182 2 176 (dk_at dksX14_utcTime_9 0 rfl rfl)
theorem dX14_utcTime_213 : decode cX14_utcTime 213 = .ok (.iconst 0, 1) := dk_3 (dk_at dksX14_utcTime_9 3 rfl rfl)
theorem dX14_utcTime_214 : decode cX14_utcTime 214 = .ok (.ireturn, 1) := dk_172 (dk_at dksX14_utcTime_9 4 rfl rfl)
abbrev cX14_digitsAt : ByteArray := prog_15_method_101_code
def yX14_digitsAt : MethodName := ⟨RX14, "digitsAt", "(I)I"⟩
def dkwX14_digitsAt_3 : List UInt8 := [167, 255, 192, 28, 172]
abbrev dktX14_digitsAt_3 : List UInt8 := dkwX14_digitsAt_3 ++ []
def dkwX14_digitsAt_2 : List UInt8 := [180, 2, 191, 46, 96, 16, 48, 100, 61, 42, 89, 180, 2, 191, 4, 96, 181, 2, 191, 132, 3, 1]
abbrev dktX14_digitsAt_2 : List UInt8 := dkwX14_digitsAt_2 ++ dktX14_digitsAt_3
def dkwX14_digitsAt_1 : List UInt8 := [42, 180, 2, 191, 46, 184, 1, 143, 154, 0, 5, 2, 172, 16, 10, 28, 104, 42, 180, 0, 236, 42]
abbrev dktX14_digitsAt_1 : List UInt8 := dkwX14_digitsAt_1 ++ dktX14_digitsAt_2
def dkwX14_digitsAt_0 : List UInt8 := [3, 61, 3, 62, 29, 27, 162, 0, 65, 42, 180, 2, 191, 42, 180, 2, 170, 162, 0, 18, 42, 180, 0, 236]
abbrev dktX14_digitsAt_0 : List UInt8 := dkwX14_digitsAt_0 ++ dktX14_digitsAt_1
theorem dksX14_digitsAt_0 : cX14_digitsAt.data.toList.drop 0 = dktX14_digitsAt_0 := by decide +kernel
theorem dksX14_digitsAt_1 : cX14_digitsAt.data.toList.drop 24 = dktX14_digitsAt_1 := dk_seg dksX14_digitsAt_0 24 rfl rfl
theorem dksX14_digitsAt_2 : cX14_digitsAt.data.toList.drop 46 = dktX14_digitsAt_2 := dk_seg dksX14_digitsAt_1 22 rfl rfl
theorem dksX14_digitsAt_3 : cX14_digitsAt.data.toList.drop 68 = dktX14_digitsAt_3 := dk_seg dksX14_digitsAt_2 22 rfl rfl
theorem dX14_digitsAt_0 : decode cX14_digitsAt 0 = .ok (.iconst 0, 1) := dk_3 (dk_at dksX14_digitsAt_0 0 rfl rfl)
theorem dX14_digitsAt_1 : decode cX14_digitsAt 1 = .ok (.istore_n 2, 1) := dk_61 (dk_at dksX14_digitsAt_0 1 rfl rfl)
theorem dX14_digitsAt_2 : decode cX14_digitsAt 2 = .ok (.iconst 0, 1) := dk_3 (dk_at dksX14_digitsAt_0 2 rfl rfl)
theorem dX14_digitsAt_3 : decode cX14_digitsAt 3 = .ok (.istore_n 3, 1) := dk_62 (dk_at dksX14_digitsAt_0 3 rfl rfl)
theorem dX14_digitsAt_4 : decode cX14_digitsAt 4 = .ok (.iload_n 3, 1) := dk_29 (dk_at dksX14_digitsAt_0 4 rfl rfl)
theorem dX14_digitsAt_5 : decode cX14_digitsAt 5 = .ok (.iload_n 1, 1) := dk_27 (dk_at dksX14_digitsAt_0 5 rfl rfl)
theorem dX14_digitsAt_6 : decode cX14_digitsAt 6 = .ok (.if_icmp .ge 65, 3) := dk_162 0 65 (dk_at dksX14_digitsAt_0 6 rfl rfl)
theorem dX14_digitsAt_9 : decode cX14_digitsAt 9 = .ok (.aload_n 0, 1) := dk_42 (dk_at dksX14_digitsAt_0 9 rfl rfl)
theorem dX14_digitsAt_10 : decode cX14_digitsAt 10 = .ok (.getfield 703, 3) := dk_180 2 191 (dk_at dksX14_digitsAt_0 10 rfl rfl)
theorem dX14_digitsAt_13 : decode cX14_digitsAt 13 = .ok (.aload_n 0, 1) := dk_42 (dk_at dksX14_digitsAt_0 13 rfl rfl)
theorem dX14_digitsAt_14 : decode cX14_digitsAt 14 = .ok (.getfield 682, 3) := dk_180 2 170 (dk_at dksX14_digitsAt_0 14 rfl rfl)
theorem dX14_digitsAt_17 : decode cX14_digitsAt 17 = .ok (.if_icmp .ge 18, 3) := dk_162 0 18 (dk_at dksX14_digitsAt_0 17 rfl rfl)
theorem dX14_digitsAt_20 : decode cX14_digitsAt 20 = .ok (.aload_n 0, 1) := dk_42 (dk_at dksX14_digitsAt_0 20 rfl rfl)
theorem dX14_digitsAt_21 : decode cX14_digitsAt 21 = .ok (.getfield 236, 3) := dk_180 0 236 (dk_at dksX14_digitsAt_0 21 rfl rfl)
theorem dX14_digitsAt_24 : decode cX14_digitsAt 24 = .ok (.aload_n 0, 1) := dk_42 (dk_at dksX14_digitsAt_1 0 rfl rfl)
theorem dX14_digitsAt_25 : decode cX14_digitsAt 25 = .ok (.getfield 703, 3) := dk_180 2 191 (dk_at dksX14_digitsAt_1 1 rfl rfl)
theorem dX14_digitsAt_28 : decode cX14_digitsAt 28 = .ok (.iaload, 1) := dk_46 (dk_at dksX14_digitsAt_1 4 rfl rfl)
theorem dX14_digitsAt_29 : decode cX14_digitsAt 29 = .ok (.invokestatic 399, 3) := dk_184 1 143 (dk_at dksX14_digitsAt_1 5 rfl rfl)
theorem dX14_digitsAt_32 : decode cX14_digitsAt 32 = .ok (.ifCond .ne 5, 3) := dk_154 0 5 (dk_at dksX14_digitsAt_1 8 rfl rfl)
theorem dX14_digitsAt_35 : decode cX14_digitsAt 35 = .ok (.iconst (-1), 1) := dk_2 (dk_at dksX14_digitsAt_1 11 rfl rfl)
theorem dX14_digitsAt_36 : decode cX14_digitsAt 36 = .ok (.ireturn, 1) := dk_172 (dk_at dksX14_digitsAt_1 12 rfl rfl)
theorem dX14_digitsAt_37 : decode cX14_digitsAt 37 = .ok (.bipush 10, 2) := dk_16 10 (dk_at dksX14_digitsAt_1 13 rfl rfl)
theorem dX14_digitsAt_39 : decode cX14_digitsAt 39 = .ok (.iload_n 2, 1) := dk_28 (dk_at dksX14_digitsAt_1 15 rfl rfl)
theorem dX14_digitsAt_40 : decode cX14_digitsAt 40 = .ok (.imul, 1) := dk_104 (dk_at dksX14_digitsAt_1 16 rfl rfl)
theorem dX14_digitsAt_41 : decode cX14_digitsAt 41 = .ok (.aload_n 0, 1) := dk_42 (dk_at dksX14_digitsAt_1 17 rfl rfl)
theorem dX14_digitsAt_42 : decode cX14_digitsAt 42 = .ok (.getfield 236, 3) := dk_180 0 236 (dk_at dksX14_digitsAt_1 18 rfl rfl)
theorem dX14_digitsAt_45 : decode cX14_digitsAt 45 = .ok (.aload_n 0, 1) := dk_42 (dk_at dksX14_digitsAt_1 21 rfl rfl)
theorem dX14_digitsAt_46 : decode cX14_digitsAt 46 = .ok (.getfield 703, 3) := dk_180 2 191 (dk_at dksX14_digitsAt_2 0 rfl rfl)
theorem dX14_digitsAt_49 : decode cX14_digitsAt 49 = .ok (.iaload, 1) := dk_46 (dk_at dksX14_digitsAt_2 3 rfl rfl)
theorem dX14_digitsAt_50 : decode cX14_digitsAt 50 = .ok (.iadd, 1) := dk_96 (dk_at dksX14_digitsAt_2 4 rfl rfl)
theorem dX14_digitsAt_51 : decode cX14_digitsAt 51 = .ok (.bipush 48, 2) := dk_16 48 (dk_at dksX14_digitsAt_2 5 rfl rfl)
theorem dX14_digitsAt_53 : decode cX14_digitsAt 53 = .ok (.isub, 1) := dk_100 (dk_at dksX14_digitsAt_2 7 rfl rfl)
theorem dX14_digitsAt_54 : decode cX14_digitsAt 54 = .ok (.istore_n 2, 1) := dk_61 (dk_at dksX14_digitsAt_2 8 rfl rfl)
theorem dX14_digitsAt_55 : decode cX14_digitsAt 55 = .ok (.aload_n 0, 1) := dk_42 (dk_at dksX14_digitsAt_2 9 rfl rfl)
theorem dX14_digitsAt_56 : decode cX14_digitsAt 56 = .ok (.dup, 1) := dk_89 (dk_at dksX14_digitsAt_2 10 rfl rfl)
theorem dX14_digitsAt_57 : decode cX14_digitsAt 57 = .ok (.getfield 703, 3) := dk_180 2 191 (dk_at dksX14_digitsAt_2 11 rfl rfl)
theorem dX14_digitsAt_60 : decode cX14_digitsAt 60 = .ok (.iconst 1, 1) := dk_4 (dk_at dksX14_digitsAt_2 14 rfl rfl)
theorem dX14_digitsAt_61 : decode cX14_digitsAt 61 = .ok (.iadd, 1) := dk_96 (dk_at dksX14_digitsAt_2 15 rfl rfl)
theorem dX14_digitsAt_62 : decode cX14_digitsAt 62 = .ok (.putfield 703, 3) := dk_181 2 191 (dk_at dksX14_digitsAt_2 16 rfl rfl)
theorem dX14_digitsAt_65 : decode cX14_digitsAt 65 = .ok (.iinc 3 1, 3) := dk_132 3 1 (dk_at dksX14_digitsAt_2 19 rfl rfl)
theorem dX14_digitsAt_68 : decode cX14_digitsAt 68 = .ok (.goto (-64), 3) := dk_167 255 192 (dk_at dksX14_digitsAt_3 0 rfl rfl)
theorem dX14_digitsAt_71 : decode cX14_digitsAt 71 = .ok (.iload_n 2, 1) := dk_28 (dk_at dksX14_digitsAt_3 3 rfl rfl)
theorem dX14_digitsAt_72 : decode cX14_digitsAt 72 = .ok (.ireturn, 1) := dk_172 (dk_at dksX14_digitsAt_3 4 rfl rfl)
abbrev cX14_isNextDigit : ByteArray := prog_15_method_102_code
def yX14_isNextDigit : MethodName := ⟨RX14, "isNextDigit", "()Z"⟩
def dkwX14_isNextDigit_1 : List UInt8 := [153, 0, 7, 4, 167, 0, 4, 3, 172]
abbrev dktX14_isNextDigit_1 : List UInt8 := dkwX14_isNextDigit_1 ++ []
def dkwX14_isNextDigit_0 : List UInt8 := [42, 180, 2, 191, 42, 180, 2, 170, 162, 0, 22, 42, 180, 0, 236, 42, 180, 2, 191, 46, 184, 1, 143]
abbrev dktX14_isNextDigit_0 : List UInt8 := dkwX14_isNextDigit_0 ++ dktX14_isNextDigit_1
theorem dksX14_isNextDigit_0 : cX14_isNextDigit.data.toList.drop 0 = dktX14_isNextDigit_0 := by decide +kernel
theorem dksX14_isNextDigit_1 : cX14_isNextDigit.data.toList.drop 23 = dktX14_isNextDigit_1 := dk_seg dksX14_isNextDigit_0 23 rfl rfl
theorem dX14_isNextDigit_0 : decode cX14_isNextDigit 0 = .ok (.aload_n 0, 1) := dk_42 (dk_at dksX14_isNextDigit_0 0 rfl rfl)
theorem dX14_isNextDigit_1 : decode cX14_isNextDigit 1 = .ok (.getfield 703, 3) := dk_180 2 191 (dk_at dksX14_isNextDigit_0 1 rfl rfl)
theorem dX14_isNextDigit_4 : decode cX14_isNextDigit 4 = .ok (.aload_n 0, 1) := dk_42 (dk_at dksX14_isNextDigit_0 4 rfl rfl)
theorem dX14_isNextDigit_5 : decode cX14_isNextDigit 5 = .ok (.getfield 682, 3) := dk_180 2 170 (dk_at dksX14_isNextDigit_0 5 rfl rfl)
theorem dX14_isNextDigit_8 : decode cX14_isNextDigit 8 = .ok (.if_icmp .ge 22, 3) := dk_162 0 22 (dk_at dksX14_isNextDigit_0 8 rfl rfl)
theorem dX14_isNextDigit_11 : decode cX14_isNextDigit 11 = .ok (.aload_n 0, 1) := dk_42 (dk_at dksX14_isNextDigit_0 11 rfl rfl)
theorem dX14_isNextDigit_12 : decode cX14_isNextDigit 12 = .ok (.getfield 236, 3) := dk_180 0 236 (dk_at dksX14_isNextDigit_0 12 rfl rfl)
theorem dX14_isNextDigit_15 : decode cX14_isNextDigit 15 = .ok (.aload_n 0, 1) := dk_42 (dk_at dksX14_isNextDigit_0 15 rfl rfl)
theorem dX14_isNextDigit_16 : decode cX14_isNextDigit 16 = .ok (.getfield 703, 3) := dk_180 2 191 (dk_at dksX14_isNextDigit_0 16 rfl rfl)
theorem dX14_isNextDigit_19 : decode cX14_isNextDigit 19 = .ok (.iaload, 1) := dk_46 (dk_at dksX14_isNextDigit_0 19 rfl rfl)
theorem dX14_isNextDigit_20 : decode cX14_isNextDigit 20 = .ok (.invokestatic 399, 3) := dk_184 1 143 (dk_at dksX14_isNextDigit_0 20 rfl rfl)
theorem dX14_isNextDigit_23 : decode cX14_isNextDigit 23 = .ok (.ifCond .eq 7, 3) := dk_153 0 7 (dk_at dksX14_isNextDigit_1 0 rfl rfl)
theorem dX14_isNextDigit_26 : decode cX14_isNextDigit 26 = .ok (.iconst 1, 1) := dk_4 (dk_at dksX14_isNextDigit_1 3 rfl rfl)
theorem dX14_isNextDigit_27 : decode cX14_isNextDigit 27 = .ok (.goto 4, 3) := dk_167 0 4 (dk_at dksX14_isNextDigit_1 4 rfl rfl)
theorem dX14_isNextDigit_30 : decode cX14_isNextDigit 30 = .ok (.iconst 0, 1) := dk_3 (dk_at dksX14_isNextDigit_1 7 rfl rfl)
theorem dX14_isNextDigit_31 : decode cX14_isNextDigit 31 = .ok (.ireturn, 1) := dk_172 (dk_at dksX14_isNextDigit_1 8 rfl rfl)
abbrev cX14_zone : ByteArray := prog_15_method_106_code
def yX14_zone : MethodName := ⟨RX14, "zone", "(Z)I"⟩
def dkwX14_zone_7 : List UInt8 := [16, 196, 29, 104, 21, 4, 100, 172]
abbrev dktX14_zone_7 : List UInt8 := dkwX14_zone_7 ++ []
def dkwX14_zone_6 : List UInt8 := [154, 0, 7, 19, 2, 215, 172, 28, 16, 43, 160, 0, 13, 16, 60, 29, 104, 21, 4, 96, 167, 0, 10]
abbrev dktX14_zone_6 : List UInt8 := dkwX14_zone_6 ++ dktX14_zone_7
def dkwX14_zone_5 : List UInt8 := [180, 2, 170, 160, 0, 24, 29, 3, 16, 23, 184, 1, 132, 153, 0, 14, 21, 4, 3, 16, 59, 184, 1, 132]
abbrev dktX14_zone_5 : List UInt8 := dkwX14_zone_5 ++ dktX14_zone_6
def dkwX14_zone_4 : List UInt8 := [180, 2, 170, 160, 0, 7, 3, 167, 0, 8, 42, 5, 182, 2, 216, 54, 4, 42, 180, 2, 191, 42]
abbrev dktX14_zone_4 : List UInt8 := dkwX14_zone_4 ++ dktX14_zone_5
def dkwX14_zone_3 : List UInt8 := [159, 0, 7, 19, 2, 215, 172, 42, 5, 182, 2, 216, 62, 27, 153, 0, 18, 42, 180, 2, 191, 42]
abbrev dktX14_zone_3 : List UInt8 := dkwX14_zone_3 ++ dktX14_zone_4
def dkwX14_zone_2 : List UInt8 := [180, 2, 170, 160, 0, 7, 3, 167, 0, 6, 19, 2, 215, 172, 28, 16, 43, 159, 0, 13, 28, 16, 45]
abbrev dktX14_zone_2 : List UInt8 := dkwX14_zone_2 ++ dktX14_zone_3
def dkwX14_zone_1 : List UInt8 := [61, 42, 89, 180, 2, 191, 4, 96, 181, 2, 191, 28, 16, 90, 160, 0, 22, 42, 180, 2, 191, 42]
abbrev dktX14_zone_1 : List UInt8 := dkwX14_zone_1 ++ dktX14_zone_2
def dkwX14_zone_0 : List UInt8 := [42, 180, 2, 191, 42, 180, 2, 170, 161, 0, 7, 19, 2, 215, 172, 42, 180, 0, 236, 42, 180, 2, 191, 46]
abbrev dktX14_zone_0 : List UInt8 := dkwX14_zone_0 ++ dktX14_zone_1
theorem dksX14_zone_0 : cX14_zone.data.toList.drop 0 = dktX14_zone_0 := by decide +kernel
theorem dksX14_zone_1 : cX14_zone.data.toList.drop 24 = dktX14_zone_1 := dk_seg dksX14_zone_0 24 rfl rfl
theorem dksX14_zone_2 : cX14_zone.data.toList.drop 46 = dktX14_zone_2 := dk_seg dksX14_zone_1 22 rfl rfl
theorem dksX14_zone_3 : cX14_zone.data.toList.drop 69 = dktX14_zone_3 := dk_seg dksX14_zone_2 23 rfl rfl
theorem dksX14_zone_4 : cX14_zone.data.toList.drop 91 = dktX14_zone_4 := dk_seg dksX14_zone_3 22 rfl rfl
theorem dksX14_zone_5 : cX14_zone.data.toList.drop 113 = dktX14_zone_5 := dk_seg dksX14_zone_4 22 rfl rfl
theorem dksX14_zone_6 : cX14_zone.data.toList.drop 137 = dktX14_zone_6 := dk_seg dksX14_zone_5 24 rfl rfl
theorem dksX14_zone_7 : cX14_zone.data.toList.drop 160 = dktX14_zone_7 := dk_seg dksX14_zone_6 23 rfl rfl
theorem dX14_zone_0 : decode cX14_zone 0 = .ok (.aload_n 0, 1) := dk_42 (dk_at dksX14_zone_0 0 rfl rfl)
theorem dX14_zone_1 : decode cX14_zone 1 = .ok (.getfield 703, 3) := dk_180 2 191 (dk_at dksX14_zone_0 1 rfl rfl)
theorem dX14_zone_4 : decode cX14_zone 4 = .ok (.aload_n 0, 1) := dk_42 (dk_at dksX14_zone_0 4 rfl rfl)
theorem dX14_zone_5 : decode cX14_zone 5 = .ok (.getfield 682, 3) := dk_180 2 170 (dk_at dksX14_zone_0 5 rfl rfl)
theorem dX14_zone_8 : decode cX14_zone 8 = .ok (.if_icmp .lt 7, 3) := dk_161 0 7 (dk_at dksX14_zone_0 8 rfl rfl)
theorem dX14_zone_11 : decode cX14_zone 11 = .ok (.ldc_w 727, 3) := dk_19 2 215 (dk_at dksX14_zone_0 11 rfl rfl)
theorem dX14_zone_14 : decode cX14_zone 14 = .ok (.ireturn, 1) := dk_172 (dk_at dksX14_zone_0 14 rfl rfl)
theorem dX14_zone_15 : decode cX14_zone 15 = .ok (.aload_n 0, 1) := dk_42 (dk_at dksX14_zone_0 15 rfl rfl)
theorem dX14_zone_16 : decode cX14_zone 16 = .ok (.getfield 236, 3) := dk_180 0 236 (dk_at dksX14_zone_0 16 rfl rfl)
theorem dX14_zone_19 : decode cX14_zone 19 = .ok (.aload_n 0, 1) := dk_42 (dk_at dksX14_zone_0 19 rfl rfl)
theorem dX14_zone_20 : decode cX14_zone 20 = .ok (.getfield 703, 3) := dk_180 2 191 (dk_at dksX14_zone_0 20 rfl rfl)
theorem dX14_zone_23 : decode cX14_zone 23 = .ok (.iaload, 1) := dk_46 (dk_at dksX14_zone_0 23 rfl rfl)
theorem dX14_zone_24 : decode cX14_zone 24 = .ok (.istore_n 2, 1) := dk_61 (dk_at dksX14_zone_1 0 rfl rfl)
theorem dX14_zone_25 : decode cX14_zone 25 = .ok (.aload_n 0, 1) := dk_42 (dk_at dksX14_zone_1 1 rfl rfl)
theorem dX14_zone_26 : decode cX14_zone 26 = .ok (.dup, 1) := dk_89 (dk_at dksX14_zone_1 2 rfl rfl)
theorem dX14_zone_27 : decode cX14_zone 27 = .ok (.getfield 703, 3) := dk_180 2 191 (dk_at dksX14_zone_1 3 rfl rfl)
theorem dX14_zone_30 : decode cX14_zone 30 = .ok (.iconst 1, 1) := dk_4 (dk_at dksX14_zone_1 6 rfl rfl)
theorem dX14_zone_31 : decode cX14_zone 31 = .ok (.iadd, 1) := dk_96 (dk_at dksX14_zone_1 7 rfl rfl)
theorem dX14_zone_32 : decode cX14_zone 32 = .ok (.putfield 703, 3) := dk_181 2 191 (dk_at dksX14_zone_1 8 rfl rfl)
theorem dX14_zone_35 : decode cX14_zone 35 = .ok (.iload_n 2, 1) := dk_28 (dk_at dksX14_zone_1 11 rfl rfl)
theorem dX14_zone_36 : decode cX14_zone 36 = .ok (.bipush 90, 2) := dk_16 90 (dk_at dksX14_zone_1 12 rfl rfl)
theorem dX14_zone_38 : decode cX14_zone 38 = .ok (.if_icmp .ne 22, 3) := dk_160 0 22 (dk_at dksX14_zone_1 14 rfl rfl)
theorem dX14_zone_41 : decode cX14_zone 41 = .ok (.aload_n 0, 1) := dk_42 (dk_at dksX14_zone_1 17 rfl rfl)
theorem dX14_zone_42 : decode cX14_zone 42 = .ok (.getfield 703, 3) := dk_180 2 191 (dk_at dksX14_zone_1 18 rfl rfl)
theorem dX14_zone_45 : decode cX14_zone 45 = .ok (.aload_n 0, 1) := dk_42 (dk_at dksX14_zone_1 21 rfl rfl)
theorem dX14_zone_46 : decode cX14_zone 46 = .ok (.getfield 682, 3) := dk_180 2 170 (dk_at dksX14_zone_2 0 rfl rfl)
theorem dX14_zone_49 : decode cX14_zone 49 = .ok (.if_icmp .ne 7, 3) := dk_160 0 7 (dk_at dksX14_zone_2 3 rfl rfl)
theorem dX14_zone_52 : decode cX14_zone 52 = .ok (.iconst 0, 1) := dk_3 (dk_at dksX14_zone_2 6 rfl rfl)
theorem dX14_zone_53 : decode cX14_zone 53 = .ok (.goto 6, 3) := dk_167 0 6 (dk_at dksX14_zone_2 7 rfl rfl)
theorem dX14_zone_56 : decode cX14_zone 56 = .ok (.ldc_w 727, 3) := dk_19 2 215 (dk_at dksX14_zone_2 10 rfl rfl)
theorem dX14_zone_59 : decode cX14_zone 59 = .ok (.ireturn, 1) := dk_172 (dk_at dksX14_zone_2 13 rfl rfl)
theorem dX14_zone_60 : decode cX14_zone 60 = .ok (.iload_n 2, 1) := dk_28 (dk_at dksX14_zone_2 14 rfl rfl)
theorem dX14_zone_61 : decode cX14_zone 61 = .ok (.bipush 43, 2) := dk_16 43 (dk_at dksX14_zone_2 15 rfl rfl)
theorem dX14_zone_63 : decode cX14_zone 63 = .ok (.if_icmp .eq 13, 3) := dk_159 0 13 (dk_at dksX14_zone_2 17 rfl rfl)
theorem dX14_zone_66 : decode cX14_zone 66 = .ok (.iload_n 2, 1) := dk_28 (dk_at dksX14_zone_2 20 rfl rfl)
theorem dX14_zone_67 : decode cX14_zone 67 = .ok (.bipush 45, 2) := dk_16 45 (dk_at dksX14_zone_2 21 rfl rfl)
theorem dX14_zone_69 : decode cX14_zone 69 = .ok (.if_icmp .eq 7, 3) := dk_159 0 7 (dk_at dksX14_zone_3 0 rfl rfl)
theorem dX14_zone_72 : decode cX14_zone 72 = .ok (.ldc_w 727, 3) := dk_19 2 215 (dk_at dksX14_zone_3 3 rfl rfl)
theorem dX14_zone_75 : decode cX14_zone 75 = .ok (.ireturn, 1) := dk_172 (dk_at dksX14_zone_3 6 rfl rfl)
theorem dX14_zone_76 : decode cX14_zone 76 = .ok (.aload_n 0, 1) := dk_42 (dk_at dksX14_zone_3 7 rfl rfl)
theorem dX14_zone_77 : decode cX14_zone 77 = .ok (.iconst 2, 1) := dk_5 (dk_at dksX14_zone_3 8 rfl rfl)
theorem dX14_zone_78 : decode cX14_zone 78 = .ok (.invokevirtual 728, 3) := dk_182 2 216 (dk_at dksX14_zone_3 9 rfl rfl)
theorem dX14_zone_81 : decode cX14_zone 81 = .ok (.istore_n 3, 1) := dk_62 (dk_at dksX14_zone_3 12 rfl rfl)
theorem dX14_zone_82 : decode cX14_zone 82 = .ok (.iload_n 1, 1) := dk_27 (dk_at dksX14_zone_3 13 rfl rfl)
theorem dX14_zone_83 : decode cX14_zone 83 = .ok (.ifCond .eq 18, 3) := dk_153 0 18 (dk_at dksX14_zone_3 14 rfl rfl)
theorem dX14_zone_86 : decode cX14_zone 86 = .ok (.aload_n 0, 1) := dk_42 (dk_at dksX14_zone_3 17 rfl rfl)
theorem dX14_zone_87 : decode cX14_zone 87 = .ok (.getfield 703, 3) := dk_180 2 191 (dk_at dksX14_zone_3 18 rfl rfl)
theorem dX14_zone_90 : decode cX14_zone 90 = .ok (.aload_n 0, 1) := dk_42 (dk_at dksX14_zone_3 21 rfl rfl)
theorem dX14_zone_91 : decode cX14_zone 91 = .ok (.getfield 682, 3) := dk_180 2 170 (dk_at dksX14_zone_4 0 rfl rfl)
theorem dX14_zone_94 : decode cX14_zone 94 = .ok (.if_icmp .ne 7, 3) := dk_160 0 7 (dk_at dksX14_zone_4 3 rfl rfl)
theorem dX14_zone_97 : decode cX14_zone 97 = .ok (.iconst 0, 1) := dk_3 (dk_at dksX14_zone_4 6 rfl rfl)
theorem dX14_zone_98 : decode cX14_zone 98 = .ok (.goto 8, 3) := dk_167 0 8 (dk_at dksX14_zone_4 7 rfl rfl)
theorem dX14_zone_101 : decode cX14_zone 101 = .ok (.aload_n 0, 1) := dk_42 (dk_at dksX14_zone_4 10 rfl rfl)
theorem dX14_zone_102 : decode cX14_zone 102 = .ok (.iconst 2, 1) := dk_5 (dk_at dksX14_zone_4 11 rfl rfl)
theorem dX14_zone_103 : decode cX14_zone 103 = .ok (.invokevirtual 728, 3) := dk_182 2 216 (dk_at dksX14_zone_4 12 rfl rfl)
theorem dX14_zone_106 : decode cX14_zone 106 = .ok (.istore 4, 2) := dk_54 4 (dk_at dksX14_zone_4 15 rfl rfl)
theorem dX14_zone_108 : decode cX14_zone 108 = .ok (.aload_n 0, 1) := dk_42 (dk_at dksX14_zone_4 17 rfl rfl)
theorem dX14_zone_109 : decode cX14_zone 109 = .ok (.getfield 703, 3) := dk_180 2 191 (dk_at dksX14_zone_4 18 rfl rfl)
theorem dX14_zone_112 : decode cX14_zone 112 = .ok (.aload_n 0, 1) := dk_42 (dk_at dksX14_zone_4 21 rfl rfl)
theorem dX14_zone_113 : decode cX14_zone 113 = .ok (.getfield 682, 3) := dk_180 2 170 (dk_at dksX14_zone_5 0 rfl rfl)
theorem dX14_zone_116 : decode cX14_zone 116 = .ok (.if_icmp .ne 24, 3) := dk_160 0 24 (dk_at dksX14_zone_5 3 rfl rfl)
theorem dX14_zone_119 : decode cX14_zone 119 = .ok (.iload_n 3, 1) := dk_29 (dk_at dksX14_zone_5 6 rfl rfl)
theorem dX14_zone_120 : decode cX14_zone 120 = .ok (.iconst 0, 1) := dk_3 (dk_at dksX14_zone_5 7 rfl rfl)
theorem dX14_zone_121 : decode cX14_zone 121 = .ok (.bipush 23, 2) := dk_16 23 (dk_at dksX14_zone_5 8 rfl rfl)
theorem dX14_zone_123 : decode cX14_zone 123 = .ok (.invokestatic 388, 3) := dk_184 1 132 (dk_at dksX14_zone_5 10 rfl rfl)
theorem dX14_zone_126 : decode cX14_zone 126 = .ok (.ifCond .eq 14, 3) := dk_153 0 14 (dk_at dksX14_zone_5 13 rfl rfl)
theorem dX14_zone_129 : decode cX14_zone 129 = .ok (.iload 4, 2) := dk_21 4 (dk_at dksX14_zone_5 16 rfl rfl)
theorem dX14_zone_131 : decode cX14_zone 131 = .ok (.iconst 0, 1) := dk_3 (dk_at dksX14_zone_5 18 rfl rfl)
theorem dX14_zone_132 : decode cX14_zone 132 = .ok (.bipush 59, 2) := dk_16 59 (dk_at dksX14_zone_5 19 rfl rfl)
theorem dX14_zone_134 : decode cX14_zone 134 = .ok (.invokestatic 388, 3) := dk_184 1 132 (dk_at dksX14_zone_5 21 rfl rfl)
theorem dX14_zone_137 : decode cX14_zone 137 = .ok (.ifCond .ne 7, 3) := dk_154 0 7 (dk_at dksX14_zone_6 0 rfl rfl)
theorem dX14_zone_140 : decode cX14_zone 140 = .ok (.ldc_w 727, 3) := dk_19 2 215 (dk_at dksX14_zone_6 3 rfl rfl)
theorem dX14_zone_143 : decode cX14_zone 143 = .ok (.ireturn, 1) := dk_172 (dk_at dksX14_zone_6 6 rfl rfl)
theorem dX14_zone_144 : decode cX14_zone 144 = .ok (.iload_n 2, 1) := dk_28 (dk_at dksX14_zone_6 7 rfl rfl)
theorem dX14_zone_145 : decode cX14_zone 145 = .ok (.bipush 43, 2) := dk_16 43 (dk_at dksX14_zone_6 8 rfl rfl)
theorem dX14_zone_147 : decode cX14_zone 147 = .ok (.if_icmp .ne 13, 3) := dk_160 0 13 (dk_at dksX14_zone_6 10 rfl rfl)
theorem dX14_zone_150 : decode cX14_zone 150 = .ok (.bipush 60, 2) := dk_16 60 (dk_at dksX14_zone_6 13 rfl rfl)
theorem dX14_zone_152 : decode cX14_zone 152 = .ok (.iload_n 3, 1) := dk_29 (dk_at dksX14_zone_6 15 rfl rfl)
theorem dX14_zone_153 : decode cX14_zone 153 = .ok (.imul, 1) := dk_104 (dk_at dksX14_zone_6 16 rfl rfl)
theorem dX14_zone_154 : decode cX14_zone 154 = .ok (.iload 4, 2) := dk_21 4 (dk_at dksX14_zone_6 17 rfl rfl)
theorem dX14_zone_156 : decode cX14_zone 156 = .ok (.iadd, 1) := dk_96 (dk_at dksX14_zone_6 19 rfl rfl)
theorem dX14_zone_157 : decode cX14_zone 157 = .ok (.goto 10, 3) := dk_167 0 10 (dk_at dksX14_zone_6 20 rfl rfl)
theorem dX14_zone_160 : decode cX14_zone 160 = .ok (.bipush (-60), 2) := dk_16 196 (dk_at dksX14_zone_7 0 rfl rfl)
theorem dX14_zone_162 : decode cX14_zone 162 = .ok (.iload_n 3, 1) := dk_29 (dk_at dksX14_zone_7 2 rfl rfl)
theorem dX14_zone_163 : decode cX14_zone 163 = .ok (.imul, 1) := dk_104 (dk_at dksX14_zone_7 3 rfl rfl)
theorem dX14_zone_164 : decode cX14_zone 164 = .ok (.iload 4, 2) := dk_21 4 (dk_at dksX14_zone_7 4 rfl rfl)
theorem dX14_zone_166 : decode cX14_zone 166 = .ok (.isub, 1) := dk_100 (dk_at dksX14_zone_7 6 rfl rfl)
theorem dX14_zone_167 : decode cX14_zone 167 = .ok (.ireturn, 1) := dk_172 (dk_at dksX14_zone_7 7 rfl rfl)
abbrev cX14_isDay : ByteArray := prog_15_method_104_code
def yX14_isDay : MethodName := ⟨RX14, "isDay", "()Z"⟩
def dkwX14_isDay_3 : List UInt8 := [184, 1, 132, 153, 0, 7, 4, 167, 0, 4, 3, 172]
abbrev dktX14_isDay_3 : List UInt8 := dkwX14_isDay_3 ++ []
def dkwX14_isDay_2 : List UInt8 := [153, 0, 33, 42, 180, 2, 209, 3, 16, 59, 184, 1, 132, 153, 0, 20, 42, 180, 2, 212, 3, 16, 59]
abbrev dktX14_isDay_2 : List UInt8 := dkwX14_isDay_2 ++ dktX14_isDay_3
def dkwX14_isDay_1 : List UInt8 := [180, 2, 194, 184, 2, 203, 184, 1, 132, 153, 0, 46, 42, 180, 2, 206, 3, 16, 23, 184, 1, 132]
abbrev dktX14_isDay_1 : List UInt8 := dkwX14_isDay_1 ++ dktX14_isDay_2
def dkwX14_isDay_0 : List UInt8 := [42, 180, 2, 194, 4, 16, 12, 184, 1, 132, 153, 0, 68, 42, 180, 2, 197, 4, 42, 180, 2, 200, 42]
abbrev dktX14_isDay_0 : List UInt8 := dkwX14_isDay_0 ++ dktX14_isDay_1
theorem dksX14_isDay_0 : cX14_isDay.data.toList.drop 0 = dktX14_isDay_0 := by decide +kernel
theorem dksX14_isDay_1 : cX14_isDay.data.toList.drop 23 = dktX14_isDay_1 := dk_seg dksX14_isDay_0 23 rfl rfl
theorem dksX14_isDay_2 : cX14_isDay.data.toList.drop 45 = dktX14_isDay_2 := dk_seg dksX14_isDay_1 22 rfl rfl
theorem dksX14_isDay_3 : cX14_isDay.data.toList.drop 68 = dktX14_isDay_3 := dk_seg dksX14_isDay_2 23 rfl rfl
theorem dX14_isDay_0 : decode cX14_isDay 0 = .ok (.aload_n 0, 1) := dk_42 (dk_at dksX14_isDay_0 0 rfl rfl)
theorem dX14_isDay_1 : decode cX14_isDay 1 = .ok (.getfield 706, 3) := dk_180 2 194 (dk_at dksX14_isDay_0 1 rfl rfl)
theorem dX14_isDay_4 : decode cX14_isDay 4 = .ok (.iconst 1, 1) := dk_4 (dk_at dksX14_isDay_0 4 rfl rfl)
theorem dX14_isDay_5 : decode cX14_isDay 5 = .ok (.bipush 12, 2) := dk_16 12 (dk_at dksX14_isDay_0 5 rfl rfl)
theorem dX14_isDay_7 : decode cX14_isDay 7 = .ok (.invokestatic 388, 3) := dk_184 1 132 (dk_at dksX14_isDay_0 7 rfl rfl)
theorem dX14_isDay_10 : decode cX14_isDay 10 = .ok (.ifCond .eq 68, 3) := dk_153 0 68 (dk_at dksX14_isDay_0 10 rfl rfl)
theorem dX14_isDay_13 : decode cX14_isDay 13 = .ok (.aload_n 0, 1) := dk_42 (dk_at dksX14_isDay_0 13 rfl rfl)
theorem dX14_isDay_14 : decode cX14_isDay 14 = .ok (.getfield 709, 3) := dk_180 2 197 (dk_at dksX14_isDay_0 14 rfl rfl)
theorem dX14_isDay_17 : decode cX14_isDay 17 = .ok (.iconst 1, 1) := dk_4 (dk_at dksX14_isDay_0 17 rfl rfl)
theorem dX14_isDay_18 : decode cX14_isDay 18 = .ok (.aload_n 0, 1) := dk_42 (dk_at dksX14_isDay_0 18 rfl rfl)
theorem dX14_isDay_19 : decode cX14_isDay 19 = .ok (.getfield 712, 3) := dk_180 2 200 (dk_at dksX14_isDay_0 19 rfl rfl)
theorem dX14_isDay_22 : decode cX14_isDay 22 = .ok (.aload_n 0, 1) := dk_42 (dk_at dksX14_isDay_0 22 rfl rfl)
theorem dX14_isDay_23 : decode cX14_isDay 23 = .ok (.getfield 706, 3) := dk_180 2 194 (dk_at dksX14_isDay_1 0 rfl rfl)
theorem dX14_isDay_26 : decode cX14_isDay 26 = .ok (.invokestatic 715, 3) := dk_184 2 203 (dk_at dksX14_isDay_1 3 rfl rfl)
theorem dX14_isDay_29 : decode cX14_isDay 29 = .ok (.invokestatic 388, 3) := dk_184 1 132 (dk_at dksX14_isDay_1 6 rfl rfl)
theorem dX14_isDay_32 : decode cX14_isDay 32 = .ok (.ifCond .eq 46, 3) := dk_153 0 46 (dk_at dksX14_isDay_1 9 rfl rfl)
theorem dX14_isDay_35 : decode cX14_isDay 35 = .ok (.aload_n 0, 1) := dk_42 (dk_at dksX14_isDay_1 12 rfl rfl)
theorem dX14_isDay_36 : decode cX14_isDay 36 = .ok (.getfield 718, 3) := dk_180 2 206 (dk_at dksX14_isDay_1 13 rfl rfl)
theorem dX14_isDay_39 : decode cX14_isDay 39 = .ok (.iconst 0, 1) := dk_3 (dk_at dksX14_isDay_1 16 rfl rfl)
theorem dX14_isDay_40 : decode cX14_isDay 40 = .ok (.bipush 23, 2) := dk_16 23 (dk_at dksX14_isDay_1 17 rfl rfl)
theorem dX14_isDay_42 : decode cX14_isDay 42 = .ok (.invokestatic 388, 3) := dk_184 1 132 (dk_at dksX14_isDay_1 19 rfl rfl)
theorem dX14_isDay_45 : decode cX14_isDay 45 = .ok (.ifCond .eq 33, 3) := dk_153 0 33 (dk_at dksX14_isDay_2 0 rfl rfl)
theorem dX14_isDay_48 : decode cX14_isDay 48 = .ok (.aload_n 0, 1) := dk_42 (dk_at dksX14_isDay_2 3 rfl rfl)
theorem dX14_isDay_49 : decode cX14_isDay 49 = .ok (.getfield 721, 3) := dk_180 2 209 (dk_at dksX14_isDay_2 4 rfl rfl)
theorem dX14_isDay_52 : decode cX14_isDay 52 = .ok (.iconst 0, 1) := dk_3 (dk_at dksX14_isDay_2 7 rfl rfl)
theorem dX14_isDay_53 : decode cX14_isDay 53 = .ok (.bipush 59, 2) := dk_16 59 (dk_at dksX14_isDay_2 8 rfl rfl)
theorem dX14_isDay_55 : decode cX14_isDay 55 = .ok (.invokestatic 388, 3) := dk_184 1 132 (dk_at dksX14_isDay_2 10 rfl rfl)
theorem dX14_isDay_58 : decode cX14_isDay 58 = .ok (.ifCond .eq 20, 3) := dk_153 0 20 (dk_at dksX14_isDay_2 13 rfl rfl)
theorem dX14_isDay_61 : decode cX14_isDay 61 = .ok (.aload_n 0, 1) := dk_42 (dk_at dksX14_isDay_2 16 rfl rfl)
theorem dX14_isDay_62 : decode cX14_isDay 62 = .ok (.getfield 724, 3) := dk_180 2 212 (dk_at dksX14_isDay_2 17 rfl rfl)
theorem dX14_isDay_65 : decode cX14_isDay 65 = .ok (.iconst 0, 1) := dk_3 (dk_at dksX14_isDay_2 20 rfl rfl)
theorem dX14_isDay_66 : decode cX14_isDay 66 = .ok (.bipush 59, 2) := dk_16 59 (dk_at dksX14_isDay_2 21 rfl rfl)
theorem dX14_isDay_68 : decode cX14_isDay 68 = .ok (.invokestatic 388, 3) := dk_184 1 132 (dk_at dksX14_isDay_3 0 rfl rfl)
theorem dX14_isDay_71 : decode cX14_isDay 71 = .ok (.ifCond .eq 7, 3) := dk_153 0 7 (dk_at dksX14_isDay_3 3 rfl rfl)
theorem dX14_isDay_74 : decode cX14_isDay 74 = .ok (.iconst 1, 1) := dk_4 (dk_at dksX14_isDay_3 6 rfl rfl)
theorem dX14_isDay_75 : decode cX14_isDay 75 = .ok (.goto 4, 3) := dk_167 0 4 (dk_at dksX14_isDay_3 7 rfl rfl)
theorem dX14_isDay_78 : decode cX14_isDay 78 = .ok (.iconst 0, 1) := dk_3 (dk_at dksX14_isDay_3 10 rfl rfl)
theorem dX14_isDay_79 : decode cX14_isDay 79 = .ok (.ireturn, 1) := dk_172 (dk_at dksX14_isDay_3 11 rfl rfl)
abbrev cX14_daysOf : ByteArray := prog_15_method_103_code
def yX14_daysOf : MethodName := ⟨RX14, "daysOf", "(II)I"⟩
def dkwX14_daysOf_3 : List UInt8 := [16, 30, 167, 0, 5, 16, 31, 172]
abbrev dktX14_daysOf_3 : List UInt8 := dkwX14_daysOf_3 ++ []
def dkwX14_daysOf_2 : List UInt8 := [27, 7, 159, 0, 21, 27, 16, 6, 159, 0, 15, 27, 16, 9, 159, 0, 9, 27, 16, 11, 160, 0, 8]
abbrev dktX14_daysOf_2 : List UInt8 := dkwX14_daysOf_2 ++ dktX14_daysOf_3
def dkwX14_daysOf_1 : List UInt8 := [167, 0, 4, 3, 61, 27, 5, 160, 0, 17, 28, 153, 0, 8, 16, 29, 167, 0, 38, 16, 28, 167, 0, 33]
abbrev dktX14_daysOf_1 : List UInt8 := dkwX14_daysOf_1 ++ dktX14_daysOf_2
def dkwX14_daysOf_0 : List UInt8 := [26, 7, 112, 154, 0, 22, 26, 16, 100, 112, 154, 0, 11, 26, 17, 1, 144, 112, 154, 0, 7, 4]
abbrev dktX14_daysOf_0 : List UInt8 := dkwX14_daysOf_0 ++ dktX14_daysOf_1
theorem dksX14_daysOf_0 : cX14_daysOf.data.toList.drop 0 = dktX14_daysOf_0 := by decide +kernel
theorem dksX14_daysOf_1 : cX14_daysOf.data.toList.drop 22 = dktX14_daysOf_1 := dk_seg dksX14_daysOf_0 22 rfl rfl
theorem dksX14_daysOf_2 : cX14_daysOf.data.toList.drop 46 = dktX14_daysOf_2 := dk_seg dksX14_daysOf_1 24 rfl rfl
theorem dksX14_daysOf_3 : cX14_daysOf.data.toList.drop 69 = dktX14_daysOf_3 := dk_seg dksX14_daysOf_2 23 rfl rfl
theorem dX14_daysOf_0 : decode cX14_daysOf 0 = .ok (.iload_n 0, 1) := dk_26 (dk_at dksX14_daysOf_0 0 rfl rfl)
theorem dX14_daysOf_1 : decode cX14_daysOf 1 = .ok (.iconst 4, 1) := dk_7 (dk_at dksX14_daysOf_0 1 rfl rfl)
theorem dX14_daysOf_2 : decode cX14_daysOf 2 = .ok (.irem, 1) := dk_112 (dk_at dksX14_daysOf_0 2 rfl rfl)
theorem dX14_daysOf_3 : decode cX14_daysOf 3 = .ok (.ifCond .ne 22, 3) := dk_154 0 22 (dk_at dksX14_daysOf_0 3 rfl rfl)
theorem dX14_daysOf_6 : decode cX14_daysOf 6 = .ok (.iload_n 0, 1) := dk_26 (dk_at dksX14_daysOf_0 6 rfl rfl)
theorem dX14_daysOf_7 : decode cX14_daysOf 7 = .ok (.bipush 100, 2) := dk_16 100 (dk_at dksX14_daysOf_0 7 rfl rfl)
theorem dX14_daysOf_9 : decode cX14_daysOf 9 = .ok (.irem, 1) := dk_112 (dk_at dksX14_daysOf_0 9 rfl rfl)
theorem dX14_daysOf_10 : decode cX14_daysOf 10 = .ok (.ifCond .ne 11, 3) := dk_154 0 11 (dk_at dksX14_daysOf_0 10 rfl rfl)
theorem dX14_daysOf_13 : decode cX14_daysOf 13 = .ok (.iload_n 0, 1) := dk_26 (dk_at dksX14_daysOf_0 13 rfl rfl)
theorem dX14_daysOf_14 : decode cX14_daysOf 14 = .ok (.sipush 400, 3) := dk_17 1 144 (dk_at dksX14_daysOf_0 14 rfl rfl)
theorem dX14_daysOf_17 : decode cX14_daysOf 17 = .ok (.irem, 1) := dk_112 (dk_at dksX14_daysOf_0 17 rfl rfl)
theorem dX14_daysOf_18 : decode cX14_daysOf 18 = .ok (.ifCond .ne 7, 3) := dk_154 0 7 (dk_at dksX14_daysOf_0 18 rfl rfl)
theorem dX14_daysOf_21 : decode cX14_daysOf 21 = .ok (.iconst 1, 1) := dk_4 (dk_at dksX14_daysOf_0 21 rfl rfl)
theorem dX14_daysOf_22 : decode cX14_daysOf 22 = .ok (.goto 4, 3) := dk_167 0 4 (dk_at dksX14_daysOf_1 0 rfl rfl)
theorem dX14_daysOf_25 : decode cX14_daysOf 25 = .ok (.iconst 0, 1) := dk_3 (dk_at dksX14_daysOf_1 3 rfl rfl)
theorem dX14_daysOf_26 : decode cX14_daysOf 26 = .ok (.istore_n 2, 1) := dk_61 (dk_at dksX14_daysOf_1 4 rfl rfl)
theorem dX14_daysOf_27 : decode cX14_daysOf 27 = .ok (.iload_n 1, 1) := dk_27 (dk_at dksX14_daysOf_1 5 rfl rfl)
theorem dX14_daysOf_28 : decode cX14_daysOf 28 = .ok (.iconst 2, 1) := dk_5 (dk_at dksX14_daysOf_1 6 rfl rfl)
theorem dX14_daysOf_29 : decode cX14_daysOf 29 = .ok (.if_icmp .ne 17, 3) := dk_160 0 17 (dk_at dksX14_daysOf_1 7 rfl rfl)
theorem dX14_daysOf_32 : decode cX14_daysOf 32 = .ok (.iload_n 2, 1) := dk_28 (dk_at dksX14_daysOf_1 10 rfl rfl)
theorem dX14_daysOf_33 : decode cX14_daysOf 33 = .ok (.ifCond .eq 8, 3) := dk_153 0 8 (dk_at dksX14_daysOf_1 11 rfl rfl)
theorem dX14_daysOf_36 : decode cX14_daysOf 36 = .ok (.bipush 29, 2) := dk_16 29 (dk_at dksX14_daysOf_1 14 rfl rfl)
theorem dX14_daysOf_38 : decode cX14_daysOf 38 = .ok (.goto 38, 3) := dk_167 0 38 (dk_at dksX14_daysOf_1 16 rfl rfl)
theorem dX14_daysOf_41 : decode cX14_daysOf 41 = .ok (.bipush 28, 2) := dk_16 28 (dk_at dksX14_daysOf_1 19 rfl rfl)
theorem dX14_daysOf_43 : decode cX14_daysOf 43 = .ok (.goto 33, 3) := dk_167 0 33 (dk_at dksX14_daysOf_1 21 rfl rfl)
theorem dX14_daysOf_46 : decode cX14_daysOf 46 = .ok (.iload_n 1, 1) := dk_27 (dk_at dksX14_daysOf_2 0 rfl rfl)
theorem dX14_daysOf_47 : decode cX14_daysOf 47 = .ok (.iconst 4, 1) := dk_7 (dk_at dksX14_daysOf_2 1 rfl rfl)
theorem dX14_daysOf_48 : decode cX14_daysOf 48 = .ok (.if_icmp .eq 21, 3) := dk_159 0 21 (dk_at dksX14_daysOf_2 2 rfl rfl)
theorem dX14_daysOf_51 : decode cX14_daysOf 51 = .ok (.iload_n 1, 1) := dk_27 (dk_at dksX14_daysOf_2 5 rfl rfl)
theorem dX14_daysOf_52 : decode cX14_daysOf 52 = .ok (.bipush 6, 2) := dk_16 6 (dk_at dksX14_daysOf_2 6 rfl rfl)
theorem dX14_daysOf_54 : decode cX14_daysOf 54 = .ok (.if_icmp .eq 15, 3) := dk_159 0 15 (dk_at dksX14_daysOf_2 8 rfl rfl)
theorem dX14_daysOf_57 : decode cX14_daysOf 57 = .ok (.iload_n 1, 1) := dk_27 (dk_at dksX14_daysOf_2 11 rfl rfl)
theorem dX14_daysOf_58 : decode cX14_daysOf 58 = .ok (.bipush 9, 2) := dk_16 9 (dk_at dksX14_daysOf_2 12 rfl rfl)
theorem dX14_daysOf_60 : decode cX14_daysOf 60 = .ok (.if_icmp .eq 9, 3) := dk_159 0 9 (dk_at dksX14_daysOf_2 14 rfl rfl)
theorem dX14_daysOf_63 : decode cX14_daysOf 63 = .ok (.iload_n 1, 1) := dk_27 (dk_at dksX14_daysOf_2 17 rfl rfl)
theorem dX14_daysOf_64 : decode cX14_daysOf 64 = .ok (.bipush 11, 2) := dk_16 11 (dk_at dksX14_daysOf_2 18 rfl rfl)
theorem dX14_daysOf_66 : decode cX14_daysOf 66 = .ok (.if_icmp .ne 8, 3) := dk_160 0 8 (dk_at dksX14_daysOf_2 20 rfl rfl)
theorem dX14_daysOf_69 : decode cX14_daysOf 69 = .ok (.bipush 30, 2) := dk_16 30 (dk_at dksX14_daysOf_3 0 rfl rfl)
theorem dX14_daysOf_71 : decode cX14_daysOf 71 = .ok (.goto 5, 3) := dk_167 0 5 (dk_at dksX14_daysOf_3 2 rfl rfl)
theorem dX14_daysOf_74 : decode cX14_daysOf 74 = .ok (.bipush 31, 2) := dk_16 31 (dk_at dksX14_daysOf_3 5 rfl rfl)
theorem dX14_daysOf_76 : decode cX14_daysOf 76 = .ok (.ireturn, 1) := dk_172 (dk_at dksX14_daysOf_3 7 rfl rfl)
abbrev cX14_move : ByteArray := prog_15_method_105_code
def yX14_move : MethodName := ⟨RX14, "move", "(I)V"⟩
def dkwX14_move_9 : List UInt8 := [4, 96, 181, 2, 200, 177]
abbrev dktX14_move_9 : List UInt8 := dkwX14_move_9 ++ []
def dkwX14_move_8 : List UInt8 := [4, 96, 181, 2, 194, 42, 180, 2, 194, 16, 12, 164, 0, 18, 42, 4, 181, 2, 194, 42, 89, 180, 2, 200]
abbrev dktX14_move_8 : List UInt8 := dkwX14_move_8 ++ dktX14_move_9
def dkwX14_move_7 : List UInt8 := [42, 180, 2, 200, 42, 180, 2, 194, 184, 2, 203, 164, 0, 42, 42, 4, 181, 2, 197, 42, 89, 180, 2, 194]
abbrev dktX14_move_7 : List UInt8 := dkwX14_move_7 ++ dktX14_move_8
def dkwX14_move_6 : List UInt8 := [167, 0, 7, 42, 180, 2, 200, 42, 180, 2, 194, 184, 2, 203, 181, 2, 197, 167, 0, 60, 42, 180, 2, 197]
abbrev dktX14_move_6 : List UInt8 := dkwX14_move_6 ++ dktX14_move_7
def dkwX14_move_5 : List UInt8 := [180, 2, 200, 4, 100, 181, 2, 200, 42, 42, 180, 2, 200, 156, 0, 14, 42, 180, 2, 200, 17, 1, 144, 96]
abbrev dktX14_move_5 : List UInt8 := dkwX14_move_5 ++ dktX14_move_6
def dkwX14_move_4 : List UInt8 := [180, 2, 194, 4, 100, 181, 2, 194, 42, 180, 2, 194, 4, 162, 0, 19, 42, 16, 12, 181, 2, 194, 42, 89]
abbrev dktX14_move_4 : List UInt8 := dkwX14_move_4 ++ dktX14_move_5
def dkwX14_move_3 : List UInt8 := [112, 181, 2, 209, 42, 89, 180, 2, 197, 29, 96, 181, 2, 197, 42, 180, 2, 197, 4, 162, 0, 73, 42, 89]
abbrev dktX14_move_3 : List UInt8 := dkwX14_move_3 ++ dktX14_move_4
def dkwX14_move_2 : List UInt8 := [196, 132, 0, 2, 250, 96, 132, 3, 1, 167, 255, 240, 42, 28, 16, 60, 108, 181, 2, 206, 42, 28, 16, 60]
abbrev dktX14_move_2 : List UInt8 := dkwX14_move_2 ++ dktX14_move_3
def dkwX14_move_1 : List UInt8 := [196, 132, 0, 2, 5, 160, 132, 3, 255, 167, 255, 243, 28, 17, 5, 160, 161, 0, 15]
abbrev dktX14_move_1 : List UInt8 := dkwX14_move_1 ++ dktX14_move_2
def dkwX14_move_0 : List UInt8 := [16, 60, 42, 180, 2, 206, 104, 42, 180, 2, 209, 96, 27, 96, 61, 3, 62, 28, 156, 0, 15]
abbrev dktX14_move_0 : List UInt8 := dkwX14_move_0 ++ dktX14_move_1
theorem dksX14_move_0 : cX14_move.data.toList.drop 0 = dktX14_move_0 := by decide +kernel
theorem dksX14_move_1 : cX14_move.data.toList.drop 21 = dktX14_move_1 := dk_seg dksX14_move_0 21 rfl rfl
theorem dksX14_move_2 : cX14_move.data.toList.drop 40 = dktX14_move_2 := dk_seg dksX14_move_1 19 rfl rfl
theorem dksX14_move_3 : cX14_move.data.toList.drop 64 = dktX14_move_3 := dk_seg dksX14_move_2 24 rfl rfl
theorem dksX14_move_4 : cX14_move.data.toList.drop 88 = dktX14_move_4 := dk_seg dksX14_move_3 24 rfl rfl
theorem dksX14_move_5 : cX14_move.data.toList.drop 112 = dktX14_move_5 := dk_seg dksX14_move_4 24 rfl rfl
theorem dksX14_move_6 : cX14_move.data.toList.drop 136 = dktX14_move_6 := dk_seg dksX14_move_5 24 rfl rfl
theorem dksX14_move_7 : cX14_move.data.toList.drop 160 = dktX14_move_7 := dk_seg dksX14_move_6 24 rfl rfl
theorem dksX14_move_8 : cX14_move.data.toList.drop 184 = dktX14_move_8 := dk_seg dksX14_move_7 24 rfl rfl
theorem dksX14_move_9 : cX14_move.data.toList.drop 208 = dktX14_move_9 := dk_seg dksX14_move_8 24 rfl rfl
theorem dX14_move_0 : decode cX14_move 0 = .ok (.bipush 60, 2) := dk_16 60 (dk_at dksX14_move_0 0 rfl rfl)
theorem dX14_move_2 : decode cX14_move 2 = .ok (.aload_n 0, 1) := dk_42 (dk_at dksX14_move_0 2 rfl rfl)
theorem dX14_move_3 : decode cX14_move 3 = .ok (.getfield 718, 3) := dk_180 2 206 (dk_at dksX14_move_0 3 rfl rfl)
theorem dX14_move_6 : decode cX14_move 6 = .ok (.imul, 1) := dk_104 (dk_at dksX14_move_0 6 rfl rfl)
theorem dX14_move_7 : decode cX14_move 7 = .ok (.aload_n 0, 1) := dk_42 (dk_at dksX14_move_0 7 rfl rfl)
theorem dX14_move_8 : decode cX14_move 8 = .ok (.getfield 721, 3) := dk_180 2 209 (dk_at dksX14_move_0 8 rfl rfl)
theorem dX14_move_11 : decode cX14_move 11 = .ok (.iadd, 1) := dk_96 (dk_at dksX14_move_0 11 rfl rfl)
theorem dX14_move_12 : decode cX14_move 12 = .ok (.iload_n 1, 1) := dk_27 (dk_at dksX14_move_0 12 rfl rfl)
theorem dX14_move_13 : decode cX14_move 13 = .ok (.iadd, 1) := dk_96 (dk_at dksX14_move_0 13 rfl rfl)
theorem dX14_move_14 : decode cX14_move 14 = .ok (.istore_n 2, 1) := dk_61 (dk_at dksX14_move_0 14 rfl rfl)
theorem dX14_move_15 : decode cX14_move 15 = .ok (.iconst 0, 1) := dk_3 (dk_at dksX14_move_0 15 rfl rfl)
theorem dX14_move_16 : decode cX14_move 16 = .ok (.istore_n 3, 1) := dk_62 (dk_at dksX14_move_0 16 rfl rfl)
theorem dX14_move_17 : decode cX14_move 17 = .ok (.iload_n 2, 1) := dk_28 (dk_at dksX14_move_0 17 rfl rfl)
theorem dX14_move_18 : decode cX14_move 18 = .ok (.ifCond .ge 15, 3) := dk_156 0 15 (dk_at dksX14_move_0 18 rfl rfl)
theorem dX14_move_21 : decode cX14_move 21 = .ok (.iinc 2 1440, 6) := by decide +kernel
theorem dX14_move_27 : decode cX14_move 27 = .ok (.iinc 3 (-1), 3) := dk_132 3 255 (dk_at dksX14_move_1 6 rfl rfl)
theorem dX14_move_30 : decode cX14_move 30 = .ok (.goto (-13), 3) := dk_167 255 243 (dk_at dksX14_move_1 9 rfl rfl)
theorem dX14_move_33 : decode cX14_move 33 = .ok (.iload_n 2, 1) := dk_28 (dk_at dksX14_move_1 12 rfl rfl)
theorem dX14_move_34 : decode cX14_move 34 = .ok (.sipush 1440, 3) := dk_17 5 160 (dk_at dksX14_move_1 13 rfl rfl)
theorem dX14_move_37 : decode cX14_move 37 = .ok (.if_icmp .lt 15, 3) := dk_161 0 15 (dk_at dksX14_move_1 16 rfl rfl)
theorem dX14_move_40 : decode cX14_move 40 = .ok (.iinc 2 (-1440), 6) := by decide +kernel
theorem dX14_move_46 : decode cX14_move 46 = .ok (.iinc 3 1, 3) := dk_132 3 1 (dk_at dksX14_move_2 6 rfl rfl)
theorem dX14_move_49 : decode cX14_move 49 = .ok (.goto (-16), 3) := dk_167 255 240 (dk_at dksX14_move_2 9 rfl rfl)
theorem dX14_move_52 : decode cX14_move 52 = .ok (.aload_n 0, 1) := dk_42 (dk_at dksX14_move_2 12 rfl rfl)
theorem dX14_move_53 : decode cX14_move 53 = .ok (.iload_n 2, 1) := dk_28 (dk_at dksX14_move_2 13 rfl rfl)
theorem dX14_move_54 : decode cX14_move 54 = .ok (.bipush 60, 2) := dk_16 60 (dk_at dksX14_move_2 14 rfl rfl)
theorem dX14_move_56 : decode cX14_move 56 = .ok (.idiv, 1) := dk_108 (dk_at dksX14_move_2 16 rfl rfl)
theorem dX14_move_57 : decode cX14_move 57 = .ok (.putfield 718, 3) := dk_181 2 206 (dk_at dksX14_move_2 17 rfl rfl)
theorem dX14_move_60 : decode cX14_move 60 = .ok (.aload_n 0, 1) := dk_42 (dk_at dksX14_move_2 20 rfl rfl)
theorem dX14_move_61 : decode cX14_move 61 = .ok (.iload_n 2, 1) := dk_28 (dk_at dksX14_move_2 21 rfl rfl)
theorem dX14_move_62 : decode cX14_move 62 = .ok (.bipush 60, 2) := dk_16 60 (dk_at dksX14_move_2 22 rfl rfl)
theorem dX14_move_64 : decode cX14_move 64 = .ok (.irem, 1) := dk_112 (dk_at dksX14_move_3 0 rfl rfl)
theorem dX14_move_65 : decode cX14_move 65 = .ok (.putfield 721, 3) := dk_181 2 209 (dk_at dksX14_move_3 1 rfl rfl)
theorem dX14_move_68 : decode cX14_move 68 = .ok (.aload_n 0, 1) := dk_42 (dk_at dksX14_move_3 4 rfl rfl)
theorem dX14_move_69 : decode cX14_move 69 = .ok (.dup, 1) := dk_89 (dk_at dksX14_move_3 5 rfl rfl)
theorem dX14_move_70 : decode cX14_move 70 = .ok (.getfield 709, 3) := dk_180 2 197 (dk_at dksX14_move_3 6 rfl rfl)
theorem dX14_move_73 : decode cX14_move 73 = .ok (.iload_n 3, 1) := dk_29 (dk_at dksX14_move_3 9 rfl rfl)
theorem dX14_move_74 : decode cX14_move 74 = .ok (.iadd, 1) := dk_96 (dk_at dksX14_move_3 10 rfl rfl)
theorem dX14_move_75 : decode cX14_move 75 = .ok (.putfield 709, 3) := dk_181 2 197 (dk_at dksX14_move_3 11 rfl rfl)
theorem dX14_move_78 : decode cX14_move 78 = .ok (.aload_n 0, 1) := dk_42 (dk_at dksX14_move_3 14 rfl rfl)
theorem dX14_move_79 : decode cX14_move 79 = .ok (.getfield 709, 3) := dk_180 2 197 (dk_at dksX14_move_3 15 rfl rfl)
theorem dX14_move_82 : decode cX14_move 82 = .ok (.iconst 1, 1) := dk_4 (dk_at dksX14_move_3 18 rfl rfl)
theorem dX14_move_83 : decode cX14_move 83 = .ok (.if_icmp .ge 73, 3) := dk_162 0 73 (dk_at dksX14_move_3 19 rfl rfl)
theorem dX14_move_86 : decode cX14_move 86 = .ok (.aload_n 0, 1) := dk_42 (dk_at dksX14_move_3 22 rfl rfl)
theorem dX14_move_87 : decode cX14_move 87 = .ok (.dup, 1) := dk_89 (dk_at dksX14_move_3 23 rfl rfl)
theorem dX14_move_88 : decode cX14_move 88 = .ok (.getfield 706, 3) := dk_180 2 194 (dk_at dksX14_move_4 0 rfl rfl)
theorem dX14_move_91 : decode cX14_move 91 = .ok (.iconst 1, 1) := dk_4 (dk_at dksX14_move_4 3 rfl rfl)
theorem dX14_move_92 : decode cX14_move 92 = .ok (.isub, 1) := dk_100 (dk_at dksX14_move_4 4 rfl rfl)
theorem dX14_move_93 : decode cX14_move 93 = .ok (.putfield 706, 3) := dk_181 2 194 (dk_at dksX14_move_4 5 rfl rfl)
theorem dX14_move_96 : decode cX14_move 96 = .ok (.aload_n 0, 1) := dk_42 (dk_at dksX14_move_4 8 rfl rfl)
theorem dX14_move_97 : decode cX14_move 97 = .ok (.getfield 706, 3) := dk_180 2 194 (dk_at dksX14_move_4 9 rfl rfl)
theorem dX14_move_100 : decode cX14_move 100 = .ok (.iconst 1, 1) := dk_4 (dk_at dksX14_move_4 12 rfl rfl)
theorem dX14_move_101 : decode cX14_move 101 = .ok (.if_icmp .ge 19, 3) := dk_162 0 19 (dk_at dksX14_move_4 13 rfl rfl)
theorem dX14_move_104 : decode cX14_move 104 = .ok (.aload_n 0, 1) := dk_42 (dk_at dksX14_move_4 16 rfl rfl)
theorem dX14_move_105 : decode cX14_move 105 = .ok (.bipush 12, 2) := dk_16 12 (dk_at dksX14_move_4 17 rfl rfl)
theorem dX14_move_107 : decode cX14_move 107 = .ok (.putfield 706, 3) := dk_181 2 194 (dk_at dksX14_move_4 19 rfl rfl)
theorem dX14_move_110 : decode cX14_move 110 = .ok (.aload_n 0, 1) := dk_42 (dk_at dksX14_move_4 22 rfl rfl)
theorem dX14_move_111 : decode cX14_move 111 = .ok (.dup, 1) := dk_89 (dk_at dksX14_move_4 23 rfl rfl)
theorem dX14_move_112 : decode cX14_move 112 = .ok (.getfield 712, 3) := dk_180 2 200 (dk_at dksX14_move_5 0 rfl rfl)
theorem dX14_move_115 : decode cX14_move 115 = .ok (.iconst 1, 1) := dk_4 (dk_at dksX14_move_5 3 rfl rfl)
theorem dX14_move_116 : decode cX14_move 116 = .ok (.isub, 1) := dk_100 (dk_at dksX14_move_5 4 rfl rfl)
theorem dX14_move_117 : decode cX14_move 117 = .ok (.putfield 712, 3) := dk_181 2 200 (dk_at dksX14_move_5 5 rfl rfl)
theorem dX14_move_120 : decode cX14_move 120 = .ok (.aload_n 0, 1) := dk_42 (dk_at dksX14_move_5 8 rfl rfl)
theorem dX14_move_121 : decode cX14_move 121 = .ok (.aload_n 0, 1) := dk_42 (dk_at dksX14_move_5 9 rfl rfl)
theorem dX14_move_122 : decode cX14_move 122 = .ok (.getfield 712, 3) := dk_180 2 200 (dk_at dksX14_move_5 10 rfl rfl)
theorem dX14_move_125 : decode cX14_move 125 = .ok (.ifCond .ge 14, 3) := dk_156 0 14 (dk_at dksX14_move_5 13 rfl rfl)
theorem dX14_move_128 : decode cX14_move 128 = .ok (.aload_n 0, 1) := dk_42 (dk_at dksX14_move_5 16 rfl rfl)
theorem dX14_move_129 : decode cX14_move 129 = .ok (.getfield 712, 3) := dk_180 2 200 (dk_at dksX14_move_5 17 rfl rfl)
theorem dX14_move_132 : decode cX14_move 132 = .ok (.sipush 400, 3) := dk_17 1 144 (dk_at dksX14_move_5 20 rfl rfl)
theorem dX14_move_135 : decode cX14_move 135 = .ok (.iadd, 1) := dk_96 (dk_at dksX14_move_5 23 rfl rfl)
theorem dX14_move_136 : decode cX14_move 136 = .ok (.goto 7, 3) := dk_167 0 7 (dk_at dksX14_move_6 0 rfl rfl)
theorem dX14_move_139 : decode cX14_move 139 = .ok (.aload_n 0, 1) := dk_42 (dk_at dksX14_move_6 3 rfl rfl)
theorem dX14_move_140 : decode cX14_move 140 = .ok (.getfield 712, 3) := dk_180 2 200 (dk_at dksX14_move_6 4 rfl rfl)
theorem dX14_move_143 : decode cX14_move 143 = .ok (.aload_n 0, 1) := dk_42 (dk_at dksX14_move_6 7 rfl rfl)
theorem dX14_move_144 : decode cX14_move 144 = .ok (.getfield 706, 3) := dk_180 2 194 (dk_at dksX14_move_6 8 rfl rfl)
theorem dX14_move_147 : decode cX14_move 147 = .ok (.invokestatic 715, 3) := dk_184 2 203 (dk_at dksX14_move_6 11 rfl rfl)
theorem dX14_move_150 : decode cX14_move 150 = .ok (.putfield 709, 3) := dk_181 2 197 (dk_at dksX14_move_6 14 rfl rfl)
theorem dX14_move_153 : decode cX14_move 153 = .ok (.goto 60, 3) := dk_167 0 60 (dk_at dksX14_move_6 17 rfl rfl)
theorem dX14_move_156 : decode cX14_move 156 = .ok (.aload_n 0, 1) := dk_42 (dk_at dksX14_move_6 20 rfl rfl)
theorem dX14_move_157 : decode cX14_move 157 = .ok (.getfield 709, 3) := dk_180 2 197 (dk_at dksX14_move_6 21 rfl rfl)
theorem dX14_move_160 : decode cX14_move 160 = .ok (.aload_n 0, 1) := dk_42 (dk_at dksX14_move_7 0 rfl rfl)
theorem dX14_move_161 : decode cX14_move 161 = .ok (.getfield 712, 3) := dk_180 2 200 (dk_at dksX14_move_7 1 rfl rfl)
theorem dX14_move_164 : decode cX14_move 164 = .ok (.aload_n 0, 1) := dk_42 (dk_at dksX14_move_7 4 rfl rfl)
theorem dX14_move_165 : decode cX14_move 165 = .ok (.getfield 706, 3) := dk_180 2 194 (dk_at dksX14_move_7 5 rfl rfl)
theorem dX14_move_168 : decode cX14_move 168 = .ok (.invokestatic 715, 3) := dk_184 2 203 (dk_at dksX14_move_7 8 rfl rfl)
theorem dX14_move_171 : decode cX14_move 171 = .ok (.if_icmp .le 42, 3) := dk_164 0 42 (dk_at dksX14_move_7 11 rfl rfl)
theorem dX14_move_174 : decode cX14_move 174 = .ok (.aload_n 0, 1) := dk_42 (dk_at dksX14_move_7 14 rfl rfl)
theorem dX14_move_175 : decode cX14_move 175 = .ok (.iconst 1, 1) := dk_4 (dk_at dksX14_move_7 15 rfl rfl)
theorem dX14_move_176 : decode cX14_move 176 = .ok (.putfield 709, 3) := dk_181 2 197 (dk_at dksX14_move_7 16 rfl rfl)
theorem dX14_move_179 : decode cX14_move 179 = .ok (.aload_n 0, 1) := dk_42 (dk_at dksX14_move_7 19 rfl rfl)
theorem dX14_move_180 : decode cX14_move 180 = .ok (.dup, 1) := dk_89 (dk_at dksX14_move_7 20 rfl rfl)
theorem dX14_move_181 : decode cX14_move 181 = .ok (.getfield 706, 3) := dk_180 2 194 (dk_at dksX14_move_7 21 rfl rfl)
theorem dX14_move_184 : decode cX14_move 184 = .ok (.iconst 1, 1) := dk_4 (dk_at dksX14_move_8 0 rfl rfl)
theorem dX14_move_185 : decode cX14_move 185 = .ok (.iadd, 1) := dk_96 (dk_at dksX14_move_8 1 rfl rfl)
theorem dX14_move_186 : decode cX14_move 186 = .ok (.putfield 706, 3) := dk_181 2 194 (dk_at dksX14_move_8 2 rfl rfl)
theorem dX14_move_189 : decode cX14_move 189 = .ok (.aload_n 0, 1) := dk_42 (dk_at dksX14_move_8 5 rfl rfl)
theorem dX14_move_190 : decode cX14_move 190 = .ok (.getfield 706, 3) := dk_180 2 194 (dk_at dksX14_move_8 6 rfl rfl)
theorem dX14_move_193 : decode cX14_move 193 = .ok (.bipush 12, 2) := dk_16 12 (dk_at dksX14_move_8 9 rfl rfl)
theorem dX14_move_195 : decode cX14_move 195 = .ok (.if_icmp .le 18, 3) := dk_164 0 18 (dk_at dksX14_move_8 11 rfl rfl)
theorem dX14_move_198 : decode cX14_move 198 = .ok (.aload_n 0, 1) := dk_42 (dk_at dksX14_move_8 14 rfl rfl)
theorem dX14_move_199 : decode cX14_move 199 = .ok (.iconst 1, 1) := dk_4 (dk_at dksX14_move_8 15 rfl rfl)
theorem dX14_move_200 : decode cX14_move 200 = .ok (.putfield 706, 3) := dk_181 2 194 (dk_at dksX14_move_8 16 rfl rfl)
theorem dX14_move_203 : decode cX14_move 203 = .ok (.aload_n 0, 1) := dk_42 (dk_at dksX14_move_8 19 rfl rfl)
theorem dX14_move_204 : decode cX14_move 204 = .ok (.dup, 1) := dk_89 (dk_at dksX14_move_8 20 rfl rfl)
theorem dX14_move_205 : decode cX14_move 205 = .ok (.getfield 712, 3) := dk_180 2 200 (dk_at dksX14_move_8 21 rfl rfl)
theorem dX14_move_208 : decode cX14_move 208 = .ok (.iconst 1, 1) := dk_4 (dk_at dksX14_move_9 0 rfl rfl)
theorem dX14_move_209 : decode cX14_move 209 = .ok (.iadd, 1) := dk_96 (dk_at dksX14_move_9 1 rfl rfl)
theorem dX14_move_210 : decode cX14_move 210 = .ok (.putfield 712, 3) := dk_181 2 200 (dk_at dksX14_move_9 2 rfl rfl)
theorem dX14_move_213 : decode cX14_move 213 = .ok (.return_, 1) := dk_177 (dk_at dksX14_move_9 5 rfl rfl)
abbrev cX14_sayDigits : ByteArray := prog_15_method_107_code
def yX14_sayDigits : MethodName := ⟨RX14, "sayDigits", "(II)V"⟩
def dkwX14_sayDigits_2 : List UInt8 := [16, 10, 108, 54, 4, 167, 255, 230, 177]
abbrev dktX14_sayDigits_2 : List UInt8 := dkwX14_sayDigits_2 ++ []
def dkwX14_sayDigits_1 : List UInt8 := [54, 4, 21, 4, 158, 0, 27, 42, 16, 48, 27, 21, 4, 108, 16, 10, 112, 96, 182, 2, 176, 21, 4]
abbrev dktX14_sayDigits_1 : List UInt8 := dkwX14_sayDigits_1 ++ dktX14_sayDigits_2
def dkwX14_sayDigits_0 : List UInt8 := [4, 62, 4, 54, 4, 21, 4, 28, 162, 0, 14, 16, 10, 29, 104, 62, 132, 4, 1, 167, 255, 242, 29]
abbrev dktX14_sayDigits_0 : List UInt8 := dkwX14_sayDigits_0 ++ dktX14_sayDigits_1
theorem dksX14_sayDigits_0 : cX14_sayDigits.data.toList.drop 0 = dktX14_sayDigits_0 := by decide +kernel
theorem dksX14_sayDigits_1 : cX14_sayDigits.data.toList.drop 23 = dktX14_sayDigits_1 := dk_seg dksX14_sayDigits_0 23 rfl rfl
theorem dksX14_sayDigits_2 : cX14_sayDigits.data.toList.drop 46 = dktX14_sayDigits_2 := dk_seg dksX14_sayDigits_1 23 rfl rfl
theorem dX14_sayDigits_0 : decode cX14_sayDigits 0 = .ok (.iconst 1, 1) := dk_4 (dk_at dksX14_sayDigits_0 0 rfl rfl)
theorem dX14_sayDigits_1 : decode cX14_sayDigits 1 = .ok (.istore_n 3, 1) := dk_62 (dk_at dksX14_sayDigits_0 1 rfl rfl)
theorem dX14_sayDigits_2 : decode cX14_sayDigits 2 = .ok (.iconst 1, 1) := dk_4 (dk_at dksX14_sayDigits_0 2 rfl rfl)
theorem dX14_sayDigits_3 : decode cX14_sayDigits 3 = .ok (.istore 4, 2) := dk_54 4 (dk_at dksX14_sayDigits_0 3 rfl rfl)
theorem dX14_sayDigits_5 : decode cX14_sayDigits 5 = .ok (.iload 4, 2) := dk_21 4 (dk_at dksX14_sayDigits_0 5 rfl rfl)
theorem dX14_sayDigits_7 : decode cX14_sayDigits 7 = .ok (.iload_n 2, 1) := dk_28 (dk_at dksX14_sayDigits_0 7 rfl rfl)
theorem dX14_sayDigits_8 : decode cX14_sayDigits 8 = .ok (.if_icmp .ge 14, 3) := dk_162 0 14 (dk_at dksX14_sayDigits_0 8 rfl rfl)
theorem dX14_sayDigits_11 : decode cX14_sayDigits 11 = .ok (.bipush 10, 2) := dk_16 10 (dk_at dksX14_sayDigits_0 11 rfl rfl)
theorem dX14_sayDigits_13 : decode cX14_sayDigits 13 = .ok (.iload_n 3, 1) := dk_29 (dk_at dksX14_sayDigits_0 13 rfl rfl)
theorem dX14_sayDigits_14 : decode cX14_sayDigits 14 = .ok (.imul, 1) := dk_104 (dk_at dksX14_sayDigits_0 14 rfl rfl)
theorem dX14_sayDigits_15 : decode cX14_sayDigits 15 = .ok (.istore_n 3, 1) := dk_62 (dk_at dksX14_sayDigits_0 15 rfl rfl)
theorem dX14_sayDigits_16 : decode cX14_sayDigits 16 = .ok (.iinc 4 1, 3) := dk_132 4 1 (dk_at dksX14_sayDigits_0 16 rfl rfl)
theorem dX14_sayDigits_19 : decode cX14_sayDigits 19 = .ok (.goto (-14), 3) := dk_167 255 242 (dk_at dksX14_sayDigits_0 19 rfl rfl)
theorem dX14_sayDigits_22 : decode cX14_sayDigits 22 = .ok (.iload_n 3, 1) := dk_29 (dk_at dksX14_sayDigits_0 22 rfl rfl)
theorem dX14_sayDigits_23 : decode cX14_sayDigits 23 = .ok (.istore 4, 2) := dk_54 4 (dk_at dksX14_sayDigits_1 0 rfl rfl)
theorem dX14_sayDigits_25 : decode cX14_sayDigits 25 = .ok (.iload 4, 2) := dk_21 4 (dk_at dksX14_sayDigits_1 2 rfl rfl)
theorem dX14_sayDigits_27 : decode cX14_sayDigits 27 = .ok (.ifCond .le 27, 3) := dk_158 0 27 (dk_at dksX14_sayDigits_1 4 rfl rfl)
theorem dX14_sayDigits_30 : decode cX14_sayDigits 30 = .ok (.aload_n 0, 1) := dk_42 (dk_at dksX14_sayDigits_1 7 rfl rfl)
theorem dX14_sayDigits_31 : decode cX14_sayDigits 31 = .ok (.bipush 48, 2) := dk_16 48 (dk_at dksX14_sayDigits_1 8 rfl rfl)
theorem dX14_sayDigits_33 : decode cX14_sayDigits 33 = .ok (.iload_n 1, 1) := dk_27 (dk_at dksX14_sayDigits_1 10 rfl rfl)
theorem dX14_sayDigits_34 : decode cX14_sayDigits 34 = .ok (.iload 4, 2) := dk_21 4 (dk_at dksX14_sayDigits_1 11 rfl rfl)
theorem dX14_sayDigits_36 : decode cX14_sayDigits 36 = .ok (.idiv, 1) := dk_108 (dk_at dksX14_sayDigits_1 13 rfl rfl)
theorem dX14_sayDigits_37 : decode cX14_sayDigits 37 = .ok (.bipush 10, 2) := dk_16 10 (dk_at dksX14_sayDigits_1 14 rfl rfl)
theorem dX14_sayDigits_39 : decode cX14_sayDigits 39 = .ok (.irem, 1) := dk_112 (dk_at dksX14_sayDigits_1 16 rfl rfl)
theorem dX14_sayDigits_40 : decode cX14_sayDigits 40 = .ok (.iadd, 1) := dk_96 (dk_at dksX14_sayDigits_1 17 rfl rfl)
theorem dX14_sayDigits_41 : decode cX14_sayDigits 41 = .ok (.invokevirtual 688, 3) := dk_182 2 176 (dk_at dksX14_sayDigits_1 18 rfl rfl)
theorem dX14_sayDigits_44 : decode cX14_sayDigits 44 = .ok (.iload 4, 2) := dk_21 4 (dk_at dksX14_sayDigits_1 21 rfl rfl)
theorem dX14_sayDigits_46 : decode cX14_sayDigits 46 = .ok (.bipush 10, 2) := dk_16 10 (dk_at dksX14_sayDigits_2 0 rfl rfl)
theorem dX14_sayDigits_48 : decode cX14_sayDigits 48 = .ok (.idiv, 1) := dk_108 (dk_at dksX14_sayDigits_2 2 rfl rfl)
theorem dX14_sayDigits_49 : decode cX14_sayDigits 49 = .ok (.istore 4, 2) := dk_54 4 (dk_at dksX14_sayDigits_2 3 rfl rfl)
theorem dX14_sayDigits_51 : decode cX14_sayDigits 51 = .ok (.goto (-26), 3) := dk_167 255 230 (dk_at dksX14_sayDigits_2 5 rfl rfl)
theorem dX14_sayDigits_54 : decode cX14_sayDigits 54 = .ok (.return_, 1) := dk_177 (dk_at dksX14_sayDigits_2 8 rfl rfl)
abbrev cX14_sayRest : ByteArray := prog_15_method_109_code
def yX14_sayRest : MethodName := ⟨RX14, "sayRest", "()V"⟩
def dkwX14_sayRest_1 : List UInt8 := [182, 2, 232, 42, 42, 180, 2, 209, 5, 182, 2, 232, 42, 42, 180, 2, 212, 5, 182, 2, 232, 177]
abbrev dktX14_sayRest_1 : List UInt8 := dkwX14_sayRest_1 ++ []
def dkwX14_sayRest_0 : List UInt8 := [42, 42, 180, 2, 194, 5, 182, 2, 232, 42, 42, 180, 2, 197, 5, 182, 2, 232, 42, 42, 180, 2, 206, 5]
abbrev dktX14_sayRest_0 : List UInt8 := dkwX14_sayRest_0 ++ dktX14_sayRest_1
theorem dksX14_sayRest_0 : cX14_sayRest.data.toList.drop 0 = dktX14_sayRest_0 := by decide +kernel
theorem dksX14_sayRest_1 : cX14_sayRest.data.toList.drop 24 = dktX14_sayRest_1 := dk_seg dksX14_sayRest_0 24 rfl rfl
theorem dX14_sayRest_0 : decode cX14_sayRest 0 = .ok (.aload_n 0, 1) := dk_42 (dk_at dksX14_sayRest_0 0 rfl rfl)
theorem dX14_sayRest_1 : decode cX14_sayRest 1 = .ok (.aload_n 0, 1) := dk_42 (dk_at dksX14_sayRest_0 1 rfl rfl)
theorem dX14_sayRest_2 : decode cX14_sayRest 2 = .ok (.getfield 706, 3) := dk_180 2 194 (dk_at dksX14_sayRest_0 2 rfl rfl)
theorem dX14_sayRest_5 : decode cX14_sayRest 5 = .ok (.iconst 2, 1) := dk_5 (dk_at dksX14_sayRest_0 5 rfl rfl)
theorem dX14_sayRest_6 : decode cX14_sayRest 6 = .ok (.invokevirtual 744, 3) := dk_182 2 232 (dk_at dksX14_sayRest_0 6 rfl rfl)
theorem dX14_sayRest_9 : decode cX14_sayRest 9 = .ok (.aload_n 0, 1) := dk_42 (dk_at dksX14_sayRest_0 9 rfl rfl)
theorem dX14_sayRest_10 : decode cX14_sayRest 10 = .ok (.aload_n 0, 1) := dk_42 (dk_at dksX14_sayRest_0 10 rfl rfl)
theorem dX14_sayRest_11 : decode cX14_sayRest 11 = .ok (.getfield 709, 3) := dk_180 2 197 (dk_at dksX14_sayRest_0 11 rfl rfl)
theorem dX14_sayRest_14 : decode cX14_sayRest 14 = .ok (.iconst 2, 1) := dk_5 (dk_at dksX14_sayRest_0 14 rfl rfl)
theorem dX14_sayRest_15 : decode cX14_sayRest 15 = .ok (.invokevirtual 744, 3) := dk_182 2 232 (dk_at dksX14_sayRest_0 15 rfl rfl)
theorem dX14_sayRest_18 : decode cX14_sayRest 18 = .ok (.aload_n 0, 1) := dk_42 (dk_at dksX14_sayRest_0 18 rfl rfl)
theorem dX14_sayRest_19 : decode cX14_sayRest 19 = .ok (.aload_n 0, 1) := dk_42 (dk_at dksX14_sayRest_0 19 rfl rfl)
theorem dX14_sayRest_20 : decode cX14_sayRest 20 = .ok (.getfield 718, 3) := dk_180 2 206 (dk_at dksX14_sayRest_0 20 rfl rfl)
theorem dX14_sayRest_23 : decode cX14_sayRest 23 = .ok (.iconst 2, 1) := dk_5 (dk_at dksX14_sayRest_0 23 rfl rfl)
theorem dX14_sayRest_24 : decode cX14_sayRest 24 = .ok (.invokevirtual 744, 3) := dk_182 2 232 (dk_at dksX14_sayRest_1 0 rfl rfl)
theorem dX14_sayRest_27 : decode cX14_sayRest 27 = .ok (.aload_n 0, 1) := dk_42 (dk_at dksX14_sayRest_1 3 rfl rfl)
theorem dX14_sayRest_28 : decode cX14_sayRest 28 = .ok (.aload_n 0, 1) := dk_42 (dk_at dksX14_sayRest_1 4 rfl rfl)
theorem dX14_sayRest_29 : decode cX14_sayRest 29 = .ok (.getfield 721, 3) := dk_180 2 209 (dk_at dksX14_sayRest_1 5 rfl rfl)
theorem dX14_sayRest_32 : decode cX14_sayRest 32 = .ok (.iconst 2, 1) := dk_5 (dk_at dksX14_sayRest_1 8 rfl rfl)
theorem dX14_sayRest_33 : decode cX14_sayRest 33 = .ok (.invokevirtual 744, 3) := dk_182 2 232 (dk_at dksX14_sayRest_1 9 rfl rfl)
theorem dX14_sayRest_36 : decode cX14_sayRest 36 = .ok (.aload_n 0, 1) := dk_42 (dk_at dksX14_sayRest_1 12 rfl rfl)
theorem dX14_sayRest_37 : decode cX14_sayRest 37 = .ok (.aload_n 0, 1) := dk_42 (dk_at dksX14_sayRest_1 13 rfl rfl)
theorem dX14_sayRest_38 : decode cX14_sayRest 38 = .ok (.getfield 724, 3) := dk_180 2 212 (dk_at dksX14_sayRest_1 14 rfl rfl)
theorem dX14_sayRest_41 : decode cX14_sayRest 41 = .ok (.iconst 2, 1) := dk_5 (dk_at dksX14_sayRest_1 17 rfl rfl)
theorem dX14_sayRest_42 : decode cX14_sayRest 42 = .ok (.invokevirtual 744, 3) := dk_182 2 232 (dk_at dksX14_sayRest_1 18 rfl rfl)
theorem dX14_sayRest_45 : decode cX14_sayRest 45 = .ok (.return_, 1) := dk_177 (dk_at dksX14_sayRest_1 21 rfl rfl)
abbrev cX14_generalTime : ByteArray := prog_15_method_111_code
def yX14_generalTime : MethodName := ⟨RX14, "generalTime", "()I"⟩
def dkwX14_generalTime_21 : List UInt8 := [132, 5, 1, 167, 255, 230, 42, 16, 90, 182, 2, 176, 3, 172]
abbrev dktX14_generalTime_21 : List UInt8 := dkwX14_generalTime_21 ++ []
def dkwX14_generalTime_20 : List UInt8 := [21, 5, 42, 180, 2, 238, 162, 0, 23, 42, 16, 48, 42, 180, 1, 10, 21, 5, 46, 96, 182, 2, 176]
abbrev dktX14_generalTime_20 : List UInt8 := dkwX14_generalTime_20 ++ dktX14_generalTime_21
def dkwX14_generalTime_19 : List UInt8 := [182, 2, 232, 42, 182, 2, 235, 42, 180, 2, 238, 158, 0, 9, 42, 16, 46, 182, 2, 176, 3, 54, 5]
abbrev dktX14_generalTime_19 : List UInt8 := dkwX14_generalTime_19 ++ dktX14_generalTime_20
def dkwX14_generalTime_18 : List UInt8 := [42, 89, 180, 2, 238, 4, 100, 181, 2, 238, 167, 255, 225, 42, 3, 181, 2, 170, 42, 42, 180, 2, 200, 7]
abbrev dktX14_generalTime_18 : List UInt8 := dkwX14_generalTime_18 ++ dktX14_generalTime_19
def dkwX14_generalTime_17 : List UInt8 := [16, 20, 172, 42, 180, 2, 238, 158, 0, 30, 42, 180, 1, 10, 42, 180, 2, 238, 4, 100, 46, 154, 0, 16]
abbrev dktX14_generalTime_17 : List UInt8 := dkwX14_generalTime_17 ++ dktX14_generalTime_18
def dkwX14_generalTime_16 : List UInt8 := [181, 2, 212, 42, 21, 4, 116, 182, 2, 229, 42, 180, 2, 200, 3, 17, 39, 15, 184, 1, 132, 154, 0, 6]
abbrev dktX14_generalTime_16 : List UInt8 := dkwX14_generalTime_16 ++ dktX14_generalTime_17
def dkwX14_generalTime_15 : List UInt8 := [154, 0, 13, 42, 42, 16, 60, 182, 2, 241, 181, 2, 209, 28, 154, 0, 13, 42, 42, 16, 60, 182, 2, 241]
abbrev dktX14_generalTime_15 : List UInt8 := dkwX14_generalTime_15 ++ dktX14_generalTime_16
def dkwX14_generalTime_14 : List UInt8 := [19, 2, 215, 159, 0, 10, 42, 182, 2, 226, 154, 0, 6, 16, 18, 172, 29, 153, 0, 6, 16, 19, 172, 27]
abbrev dktX14_generalTime_14 : List UInt8 := dkwX14_generalTime_14 ++ dktX14_generalTime_15
def dkwX14_generalTime_13 : List UInt8 := [167, 0, 4, 3, 62, 29, 153, 0, 7, 3, 167, 0, 8, 42, 4, 182, 2, 223, 54, 4, 21, 4]
abbrev dktX14_generalTime_13 : List UInt8 := dkwX14_generalTime_13 ++ dktX14_generalTime_14
def dkwX14_generalTime_12 : List UInt8 := [180, 2, 191, 4, 96, 181, 2, 191, 167, 255, 208, 42, 180, 2, 191, 42, 180, 2, 170, 160, 0, 7, 4]
abbrev dktX14_generalTime_12 : List UInt8 := dkwX14_generalTime_12 ++ dktX14_generalTime_13
def dkwX14_generalTime_11 : List UInt8 := [180, 0, 236, 42, 180, 2, 191, 46, 16, 48, 100, 79, 42, 89, 180, 2, 238, 4, 96, 181, 2, 238, 42, 89]
abbrev dktX14_generalTime_11 : List UInt8 := dkwX14_generalTime_11 ++ dktX14_generalTime_12
def dkwX14_generalTime_10 : List UInt8 := [104, 188, 10, 181, 1, 10, 42, 182, 2, 219, 153, 0, 47, 42, 180, 1, 10, 42, 180, 2, 238, 42]
abbrev dktX14_generalTime_10 : List UInt8 := dkwX14_generalTime_10 ++ dktX14_generalTime_11
def dkwX14_generalTime_9 : List UInt8 := [154, 0, 6, 16, 18, 172, 42, 180, 1, 10, 190, 42, 180, 2, 170, 162, 0, 15, 42, 5, 42, 180, 2, 170]
abbrev dktX14_generalTime_9 : List UInt8 := dkwX14_generalTime_9 ++ dktX14_generalTime_10
def dkwX14_generalTime_8 : List UInt8 := [180, 2, 191, 46, 16, 44, 160, 0, 98, 42, 89, 180, 2, 191, 4, 96, 181, 2, 191, 42, 182, 2, 219]
abbrev dktX14_generalTime_8 : List UInt8 := dkwX14_generalTime_8 ++ dktX14_generalTime_9
def dkwX14_generalTime_7 : List UInt8 := [162, 0, 126, 42, 180, 0, 236, 42, 180, 2, 191, 46, 16, 46, 159, 0, 17, 42, 180, 0, 236, 42]
abbrev dktX14_generalTime_7 : List UInt8 := dkwX14_generalTime_7 ++ dktX14_generalTime_8
def dkwX14_generalTime_6 : List UInt8 := [180, 2, 212, 156, 0, 6, 16, 18, 172, 42, 3, 181, 2, 238, 42, 180, 2, 191, 42, 180, 2, 170]
abbrev dktX14_generalTime_6 : List UInt8 := dkwX14_generalTime_6 ++ dktX14_generalTime_7
def dkwX14_generalTime_5 : List UInt8 := [28, 153, 0, 11, 42, 5, 182, 2, 216, 167, 0, 4, 3, 181, 2, 212, 42, 180, 2, 209, 155, 0, 10, 42]
abbrev dktX14_generalTime_5 : List UInt8 := dkwX14_generalTime_5 ++ dktX14_generalTime_6
def dkwX14_generalTime_4 : List UInt8 := [153, 0, 21, 42, 180, 2, 209, 155, 0, 14, 42, 182, 2, 219, 153, 0, 7, 4, 167, 0, 4, 3, 61, 42]
abbrev dktX14_generalTime_4 : List UInt8 := dkwX14_generalTime_4 ++ dktX14_generalTime_5
def dkwX14_generalTime_3 : List UInt8 := [42, 182, 2, 219, 60, 42, 27, 153, 0, 11, 42, 5, 182, 2, 216, 167, 0, 4, 3, 181, 2, 209, 27]
abbrev dktX14_generalTime_3 : List UInt8 := dkwX14_generalTime_3 ++ dktX14_generalTime_4
def dkwX14_generalTime_2 : List UInt8 := [42, 180, 2, 194, 155, 0, 17, 42, 180, 2, 197, 155, 0, 10, 42, 180, 2, 206, 156, 0, 6, 16, 18, 172]
abbrev dktX14_generalTime_2 : List UInt8 := dkwX14_generalTime_2 ++ dktX14_generalTime_3
def dkwX14_generalTime_1 : List UInt8 := [42, 5, 182, 2, 216, 181, 2, 197, 42, 42, 5, 182, 2, 216, 181, 2, 206, 42, 180, 2, 200, 155, 0, 24]
abbrev dktX14_generalTime_1 : List UInt8 := dkwX14_generalTime_1 ++ dktX14_generalTime_2
def dkwX14_generalTime_0 : List UInt8 := [42, 3, 181, 2, 191, 42, 42, 7, 182, 2, 216, 181, 2, 200, 42, 42, 5, 182, 2, 216, 181, 2, 194, 42]
abbrev dktX14_generalTime_0 : List UInt8 := dkwX14_generalTime_0 ++ dktX14_generalTime_1
theorem dksX14_generalTime_0 : cX14_generalTime.data.toList.drop 0 = dktX14_generalTime_0 := by decide +kernel
theorem dksX14_generalTime_1 : cX14_generalTime.data.toList.drop 24 = dktX14_generalTime_1 := dk_seg dksX14_generalTime_0 24 rfl rfl
theorem dksX14_generalTime_2 : cX14_generalTime.data.toList.drop 48 = dktX14_generalTime_2 := dk_seg dksX14_generalTime_1 24 rfl rfl
theorem dksX14_generalTime_3 : cX14_generalTime.data.toList.drop 72 = dktX14_generalTime_3 := dk_seg dksX14_generalTime_2 24 rfl rfl
theorem dksX14_generalTime_4 : cX14_generalTime.data.toList.drop 95 = dktX14_generalTime_4 := dk_seg dksX14_generalTime_3 23 rfl rfl
theorem dksX14_generalTime_5 : cX14_generalTime.data.toList.drop 119 = dktX14_generalTime_5 := dk_seg dksX14_generalTime_4 24 rfl rfl
theorem dksX14_generalTime_6 : cX14_generalTime.data.toList.drop 143 = dktX14_generalTime_6 := dk_seg dksX14_generalTime_5 24 rfl rfl
theorem dksX14_generalTime_7 : cX14_generalTime.data.toList.drop 165 = dktX14_generalTime_7 := dk_seg dksX14_generalTime_6 22 rfl rfl
theorem dksX14_generalTime_8 : cX14_generalTime.data.toList.drop 187 = dktX14_generalTime_8 := dk_seg dksX14_generalTime_7 22 rfl rfl
theorem dksX14_generalTime_9 : cX14_generalTime.data.toList.drop 210 = dktX14_generalTime_9 := dk_seg dksX14_generalTime_8 23 rfl rfl
theorem dksX14_generalTime_10 : cX14_generalTime.data.toList.drop 234 = dktX14_generalTime_10 := dk_seg dksX14_generalTime_9 24 rfl rfl
theorem dksX14_generalTime_11 : cX14_generalTime.data.toList.drop 256 = dktX14_generalTime_11 := dk_seg dksX14_generalTime_10 22 rfl rfl
theorem dksX14_generalTime_12 : cX14_generalTime.data.toList.drop 280 = dktX14_generalTime_12 := dk_seg dksX14_generalTime_11 24 rfl rfl
theorem dksX14_generalTime_13 : cX14_generalTime.data.toList.drop 303 = dktX14_generalTime_13 := dk_seg dksX14_generalTime_12 23 rfl rfl
theorem dksX14_generalTime_14 : cX14_generalTime.data.toList.drop 325 = dktX14_generalTime_14 := dk_seg dksX14_generalTime_13 22 rfl rfl
theorem dksX14_generalTime_15 : cX14_generalTime.data.toList.drop 349 = dktX14_generalTime_15 := dk_seg dksX14_generalTime_14 24 rfl rfl
theorem dksX14_generalTime_16 : cX14_generalTime.data.toList.drop 373 = dktX14_generalTime_16 := dk_seg dksX14_generalTime_15 24 rfl rfl
theorem dksX14_generalTime_17 : cX14_generalTime.data.toList.drop 397 = dktX14_generalTime_17 := dk_seg dksX14_generalTime_16 24 rfl rfl
theorem dksX14_generalTime_18 : cX14_generalTime.data.toList.drop 421 = dktX14_generalTime_18 := dk_seg dksX14_generalTime_17 24 rfl rfl
theorem dksX14_generalTime_19 : cX14_generalTime.data.toList.drop 445 = dktX14_generalTime_19 := dk_seg dksX14_generalTime_18 24 rfl rfl
theorem dksX14_generalTime_20 : cX14_generalTime.data.toList.drop 468 = dktX14_generalTime_20 := dk_seg dksX14_generalTime_19 23 rfl rfl
theorem dksX14_generalTime_21 : cX14_generalTime.data.toList.drop 491 = dktX14_generalTime_21 := dk_seg dksX14_generalTime_20 23 rfl rfl
theorem dX14_generalTime_0 : decode cX14_generalTime 0 = .ok (.aload_n 0, 1) := dk_42 (dk_at dksX14_generalTime_0 0 rfl rfl)
theorem dX14_generalTime_1 : decode cX14_generalTime 1 = .ok (.iconst 0, 1) := dk_3 (dk_at dksX14_generalTime_0 1 rfl rfl)
theorem dX14_generalTime_2 : decode cX14_generalTime 2 = .ok (.putfield 703, 3) := dk_181 2 191 (dk_at dksX14_generalTime_0 2 rfl rfl)
theorem dX14_generalTime_5 : decode cX14_generalTime 5 = .ok (.aload_n 0, 1) := dk_42 (dk_at dksX14_generalTime_0 5 rfl rfl)
theorem dX14_generalTime_6 : decode cX14_generalTime 6 = .ok (.aload_n 0, 1) := dk_42 (dk_at dksX14_generalTime_0 6 rfl rfl)
theorem dX14_generalTime_7 : decode cX14_generalTime 7 = .ok (.iconst 4, 1) := dk_7 (dk_at dksX14_generalTime_0 7 rfl rfl)
theorem dX14_generalTime_8 : decode cX14_generalTime 8 = .ok (.invokevirtual 728, 3) := dk_182 2 216 (dk_at dksX14_generalTime_0 8 rfl rfl)
theorem dX14_generalTime_11 : decode cX14_generalTime 11 = .ok (.putfield 712, 3) := dk_181 2 200 (dk_at dksX14_generalTime_0 11 rfl rfl)
theorem dX14_generalTime_14 : decode cX14_generalTime 14 = .ok (.aload_n 0, 1) := dk_42 (dk_at dksX14_generalTime_0 14 rfl rfl)
theorem dX14_generalTime_15 : decode cX14_generalTime 15 = .ok (.aload_n 0, 1) := dk_42 (dk_at dksX14_generalTime_0 15 rfl rfl)
theorem dX14_generalTime_16 : decode cX14_generalTime 16 = .ok (.iconst 2, 1) := dk_5 (dk_at dksX14_generalTime_0 16 rfl rfl)
theorem dX14_generalTime_17 : decode cX14_generalTime 17 = .ok (.invokevirtual 728, 3) := dk_182 2 216 (dk_at dksX14_generalTime_0 17 rfl rfl)
theorem dX14_generalTime_20 : decode cX14_generalTime 20 = .ok (.putfield 706, 3) := dk_181 2 194 (dk_at dksX14_generalTime_0 20 rfl rfl)
theorem dX14_generalTime_23 : decode cX14_generalTime 23 = .ok (.aload_n 0, 1) := dk_42 (dk_at dksX14_generalTime_0 23 rfl rfl)
theorem dX14_generalTime_24 : decode cX14_generalTime 24 = .ok (.aload_n 0, 1) := dk_42 (dk_at dksX14_generalTime_1 0 rfl rfl)
theorem dX14_generalTime_25 : decode cX14_generalTime 25 = .ok (.iconst 2, 1) := dk_5 (dk_at dksX14_generalTime_1 1 rfl rfl)
theorem dX14_generalTime_26 : decode cX14_generalTime 26 = .ok (.invokevirtual 728, 3) := dk_182 2 216 (dk_at dksX14_generalTime_1 2 rfl rfl)
theorem dX14_generalTime_29 : decode cX14_generalTime 29 = .ok (.putfield 709, 3) := dk_181 2 197 (dk_at dksX14_generalTime_1 5 rfl rfl)
theorem dX14_generalTime_32 : decode cX14_generalTime 32 = .ok (.aload_n 0, 1) := dk_42 (dk_at dksX14_generalTime_1 8 rfl rfl)
theorem dX14_generalTime_33 : decode cX14_generalTime 33 = .ok (.aload_n 0, 1) := dk_42 (dk_at dksX14_generalTime_1 9 rfl rfl)
theorem dX14_generalTime_34 : decode cX14_generalTime 34 = .ok (.iconst 2, 1) := dk_5 (dk_at dksX14_generalTime_1 10 rfl rfl)
theorem dX14_generalTime_35 : decode cX14_generalTime 35 = .ok (.invokevirtual 728, 3) := dk_182 2 216 (dk_at dksX14_generalTime_1 11 rfl rfl)
theorem dX14_generalTime_38 : decode cX14_generalTime 38 = .ok (.putfield 718, 3) := dk_181 2 206 (dk_at dksX14_generalTime_1 14 rfl rfl)
theorem dX14_generalTime_41 : decode cX14_generalTime 41 = .ok (.aload_n 0, 1) := dk_42 (dk_at dksX14_generalTime_1 17 rfl rfl)
theorem dX14_generalTime_42 : decode cX14_generalTime 42 = .ok (.getfield 712, 3) := dk_180 2 200 (dk_at dksX14_generalTime_1 18 rfl rfl)
theorem dX14_generalTime_45 : decode cX14_generalTime 45 = .ok (.ifCond .lt 24, 3) := dk_155 0 24 (dk_at dksX14_generalTime_1 21 rfl rfl)
theorem dX14_generalTime_48 : decode cX14_generalTime 48 = .ok (.aload_n 0, 1) := dk_42 (dk_at dksX14_generalTime_2 0 rfl rfl)
theorem dX14_generalTime_49 : decode cX14_generalTime 49 = .ok (.getfield 706, 3) := dk_180 2 194 (dk_at dksX14_generalTime_2 1 rfl rfl)
theorem dX14_generalTime_52 : decode cX14_generalTime 52 = .ok (.ifCond .lt 17, 3) := dk_155 0 17 (dk_at dksX14_generalTime_2 4 rfl rfl)
theorem dX14_generalTime_55 : decode cX14_generalTime 55 = .ok (.aload_n 0, 1) := dk_42 (dk_at dksX14_generalTime_2 7 rfl rfl)
theorem dX14_generalTime_56 : decode cX14_generalTime 56 = .ok (.getfield 709, 3) := dk_180 2 197 (dk_at dksX14_generalTime_2 8 rfl rfl)
theorem dX14_generalTime_59 : decode cX14_generalTime 59 = .ok (.ifCond .lt 10, 3) := dk_155 0 10 (dk_at dksX14_generalTime_2 11 rfl rfl)
theorem dX14_generalTime_62 : decode cX14_generalTime 62 = .ok (.aload_n 0, 1) := dk_42 (dk_at dksX14_generalTime_2 14 rfl rfl)
theorem dX14_generalTime_63 : decode cX14_generalTime 63 = .ok (.getfield 718, 3) := dk_180 2 206 (dk_at dksX14_generalTime_2 15 rfl rfl)
theorem dX14_generalTime_66 : decode cX14_generalTime 66 = .ok (.ifCond .ge 6, 3) := dk_156 0 6 (dk_at dksX14_generalTime_2 18 rfl rfl)
theorem dX14_generalTime_69 : decode cX14_generalTime 69 = .ok (.bipush 18, 2) := dk_16 18 (dk_at dksX14_generalTime_2 21 rfl rfl)
theorem dX14_generalTime_71 : decode cX14_generalTime 71 = .ok (.ireturn, 1) := dk_172 (dk_at dksX14_generalTime_2 23 rfl rfl)
theorem dX14_generalTime_72 : decode cX14_generalTime 72 = .ok (.aload_n 0, 1) := dk_42 (dk_at dksX14_generalTime_3 0 rfl rfl)
theorem dX14_generalTime_73 : decode cX14_generalTime 73 = .ok (.invokevirtual 731, 3) := dk_182 2 219 (dk_at dksX14_generalTime_3 1 rfl rfl)
theorem dX14_generalTime_76 : decode cX14_generalTime 76 = .ok (.istore_n 1, 1) := dk_60 (dk_at dksX14_generalTime_3 4 rfl rfl)
theorem dX14_generalTime_77 : decode cX14_generalTime 77 = .ok (.aload_n 0, 1) := dk_42 (dk_at dksX14_generalTime_3 5 rfl rfl)
theorem dX14_generalTime_78 : decode cX14_generalTime 78 = .ok (.iload_n 1, 1) := dk_27 (dk_at dksX14_generalTime_3 6 rfl rfl)
theorem dX14_generalTime_79 : decode cX14_generalTime 79 = .ok (.ifCond .eq 11, 3) := dk_153 0 11 (dk_at dksX14_generalTime_3 7 rfl rfl)
theorem dX14_generalTime_82 : decode cX14_generalTime 82 = .ok (.aload_n 0, 1) := dk_42 (dk_at dksX14_generalTime_3 10 rfl rfl)
theorem dX14_generalTime_83 : decode cX14_generalTime 83 = .ok (.iconst 2, 1) := dk_5 (dk_at dksX14_generalTime_3 11 rfl rfl)
theorem dX14_generalTime_84 : decode cX14_generalTime 84 = .ok (.invokevirtual 728, 3) := dk_182 2 216 (dk_at dksX14_generalTime_3 12 rfl rfl)
theorem dX14_generalTime_87 : decode cX14_generalTime 87 = .ok (.goto 4, 3) := dk_167 0 4 (dk_at dksX14_generalTime_3 15 rfl rfl)
theorem dX14_generalTime_90 : decode cX14_generalTime 90 = .ok (.iconst 0, 1) := dk_3 (dk_at dksX14_generalTime_3 18 rfl rfl)
theorem dX14_generalTime_91 : decode cX14_generalTime 91 = .ok (.putfield 721, 3) := dk_181 2 209 (dk_at dksX14_generalTime_3 19 rfl rfl)
theorem dX14_generalTime_94 : decode cX14_generalTime 94 = .ok (.iload_n 1, 1) := dk_27 (dk_at dksX14_generalTime_3 22 rfl rfl)
theorem dX14_generalTime_95 : decode cX14_generalTime 95 = .ok (.ifCond .eq 21, 3) := dk_153 0 21 (dk_at dksX14_generalTime_4 0 rfl rfl)
theorem dX14_generalTime_98 : decode cX14_generalTime 98 = .ok (.aload_n 0, 1) := dk_42 (dk_at dksX14_generalTime_4 3 rfl rfl)
theorem dX14_generalTime_99 : decode cX14_generalTime 99 = .ok (.getfield 721, 3) := dk_180 2 209 (dk_at dksX14_generalTime_4 4 rfl rfl)
theorem dX14_generalTime_102 : decode cX14_generalTime 102 = .ok (.ifCond .lt 14, 3) := dk_155 0 14 (dk_at dksX14_generalTime_4 7 rfl rfl)
theorem dX14_generalTime_105 : decode cX14_generalTime 105 = .ok (.aload_n 0, 1) := dk_42 (dk_at dksX14_generalTime_4 10 rfl rfl)
theorem dX14_generalTime_106 : decode cX14_generalTime 106 = .ok (.invokevirtual 731, 3) := dk_182 2 219 (dk_at dksX14_generalTime_4 11 rfl rfl)
theorem dX14_generalTime_109 : decode cX14_generalTime 109 = .ok (.ifCond .eq 7, 3) := dk_153 0 7 (dk_at dksX14_generalTime_4 14 rfl rfl)
theorem dX14_generalTime_112 : decode cX14_generalTime 112 = .ok (.iconst 1, 1) := dk_4 (dk_at dksX14_generalTime_4 17 rfl rfl)
theorem dX14_generalTime_113 : decode cX14_generalTime 113 = .ok (.goto 4, 3) := dk_167 0 4 (dk_at dksX14_generalTime_4 18 rfl rfl)
theorem dX14_generalTime_116 : decode cX14_generalTime 116 = .ok (.iconst 0, 1) := dk_3 (dk_at dksX14_generalTime_4 21 rfl rfl)
theorem dX14_generalTime_117 : decode cX14_generalTime 117 = .ok (.istore_n 2, 1) := dk_61 (dk_at dksX14_generalTime_4 22 rfl rfl)
theorem dX14_generalTime_118 : decode cX14_generalTime 118 = .ok (.aload_n 0, 1) := dk_42 (dk_at dksX14_generalTime_4 23 rfl rfl)
theorem dX14_generalTime_119 : decode cX14_generalTime 119 = .ok (.iload_n 2, 1) := dk_28 (dk_at dksX14_generalTime_5 0 rfl rfl)
theorem dX14_generalTime_120 : decode cX14_generalTime 120 = .ok (.ifCond .eq 11, 3) := dk_153 0 11 (dk_at dksX14_generalTime_5 1 rfl rfl)
theorem dX14_generalTime_123 : decode cX14_generalTime 123 = .ok (.aload_n 0, 1) := dk_42 (dk_at dksX14_generalTime_5 4 rfl rfl)
theorem dX14_generalTime_124 : decode cX14_generalTime 124 = .ok (.iconst 2, 1) := dk_5 (dk_at dksX14_generalTime_5 5 rfl rfl)
theorem dX14_generalTime_125 : decode cX14_generalTime 125 = .ok (.invokevirtual 728, 3) := dk_182 2 216 (dk_at dksX14_generalTime_5 6 rfl rfl)
theorem dX14_generalTime_128 : decode cX14_generalTime 128 = .ok (.goto 4, 3) := dk_167 0 4 (dk_at dksX14_generalTime_5 9 rfl rfl)
theorem dX14_generalTime_131 : decode cX14_generalTime 131 = .ok (.iconst 0, 1) := dk_3 (dk_at dksX14_generalTime_5 12 rfl rfl)
theorem dX14_generalTime_132 : decode cX14_generalTime 132 = .ok (.putfield 724, 3) := dk_181 2 212 (dk_at dksX14_generalTime_5 13 rfl rfl)
theorem dX14_generalTime_135 : decode cX14_generalTime 135 = .ok (.aload_n 0, 1) := dk_42 (dk_at dksX14_generalTime_5 16 rfl rfl)
theorem dX14_generalTime_136 : decode cX14_generalTime 136 = .ok (.getfield 721, 3) := dk_180 2 209 (dk_at dksX14_generalTime_5 17 rfl rfl)
theorem dX14_generalTime_139 : decode cX14_generalTime 139 = .ok (.ifCond .lt 10, 3) := dk_155 0 10 (dk_at dksX14_generalTime_5 20 rfl rfl)
theorem dX14_generalTime_142 : decode cX14_generalTime 142 = .ok (.aload_n 0, 1) := dk_42 (dk_at dksX14_generalTime_5 23 rfl rfl)
theorem dX14_generalTime_143 : decode cX14_generalTime 143 = .ok (.getfield 724, 3) := dk_180 2 212 (dk_at dksX14_generalTime_6 0 rfl rfl)
theorem dX14_generalTime_146 : decode cX14_generalTime 146 = .ok (.ifCond .ge 6, 3) := dk_156 0 6 (dk_at dksX14_generalTime_6 3 rfl rfl)
theorem dX14_generalTime_149 : decode cX14_generalTime 149 = .ok (.bipush 18, 2) := dk_16 18 (dk_at dksX14_generalTime_6 6 rfl rfl)
theorem dX14_generalTime_151 : decode cX14_generalTime 151 = .ok (.ireturn, 1) := dk_172 (dk_at dksX14_generalTime_6 8 rfl rfl)
theorem dX14_generalTime_152 : decode cX14_generalTime 152 = .ok (.aload_n 0, 1) := dk_42 (dk_at dksX14_generalTime_6 9 rfl rfl)
theorem dX14_generalTime_153 : decode cX14_generalTime 153 = .ok (.iconst 0, 1) := dk_3 (dk_at dksX14_generalTime_6 10 rfl rfl)
theorem dX14_generalTime_154 : decode cX14_generalTime 154 = .ok (.putfield 750, 3) := dk_181 2 238 (dk_at dksX14_generalTime_6 11 rfl rfl)
theorem dX14_generalTime_157 : decode cX14_generalTime 157 = .ok (.aload_n 0, 1) := dk_42 (dk_at dksX14_generalTime_6 14 rfl rfl)
theorem dX14_generalTime_158 : decode cX14_generalTime 158 = .ok (.getfield 703, 3) := dk_180 2 191 (dk_at dksX14_generalTime_6 15 rfl rfl)
theorem dX14_generalTime_161 : decode cX14_generalTime 161 = .ok (.aload_n 0, 1) := dk_42 (dk_at dksX14_generalTime_6 18 rfl rfl)
theorem dX14_generalTime_162 : decode cX14_generalTime 162 = .ok (.getfield 682, 3) := dk_180 2 170 (dk_at dksX14_generalTime_6 19 rfl rfl)
theorem dX14_generalTime_165 : decode cX14_generalTime 165 = .ok (.if_icmp .ge 126, 3) := dk_162 0 126 (dk_at dksX14_generalTime_7 0 rfl rfl)
theorem dX14_generalTime_168 : decode cX14_generalTime 168 = .ok (.aload_n 0, 1) := dk_42 (dk_at dksX14_generalTime_7 3 rfl rfl)
theorem dX14_generalTime_169 : decode cX14_generalTime 169 = .ok (.getfield 236, 3) := dk_180 0 236 (dk_at dksX14_generalTime_7 4 rfl rfl)
theorem dX14_generalTime_172 : decode cX14_generalTime 172 = .ok (.aload_n 0, 1) := dk_42 (dk_at dksX14_generalTime_7 7 rfl rfl)
theorem dX14_generalTime_173 : decode cX14_generalTime 173 = .ok (.getfield 703, 3) := dk_180 2 191 (dk_at dksX14_generalTime_7 8 rfl rfl)
theorem dX14_generalTime_176 : decode cX14_generalTime 176 = .ok (.iaload, 1) := dk_46 (dk_at dksX14_generalTime_7 11 rfl rfl)
theorem dX14_generalTime_177 : decode cX14_generalTime 177 = .ok (.bipush 46, 2) := dk_16 46 (dk_at dksX14_generalTime_7 12 rfl rfl)
theorem dX14_generalTime_179 : decode cX14_generalTime 179 = .ok (.if_icmp .eq 17, 3) := dk_159 0 17 (dk_at dksX14_generalTime_7 14 rfl rfl)
theorem dX14_generalTime_182 : decode cX14_generalTime 182 = .ok (.aload_n 0, 1) := dk_42 (dk_at dksX14_generalTime_7 17 rfl rfl)
theorem dX14_generalTime_183 : decode cX14_generalTime 183 = .ok (.getfield 236, 3) := dk_180 0 236 (dk_at dksX14_generalTime_7 18 rfl rfl)
theorem dX14_generalTime_186 : decode cX14_generalTime 186 = .ok (.aload_n 0, 1) := dk_42 (dk_at dksX14_generalTime_7 21 rfl rfl)
theorem dX14_generalTime_187 : decode cX14_generalTime 187 = .ok (.getfield 703, 3) := dk_180 2 191 (dk_at dksX14_generalTime_8 0 rfl rfl)
theorem dX14_generalTime_190 : decode cX14_generalTime 190 = .ok (.iaload, 1) := dk_46 (dk_at dksX14_generalTime_8 3 rfl rfl)
theorem dX14_generalTime_191 : decode cX14_generalTime 191 = .ok (.bipush 44, 2) := dk_16 44 (dk_at dksX14_generalTime_8 4 rfl rfl)
theorem dX14_generalTime_193 : decode cX14_generalTime 193 = .ok (.if_icmp .ne 98, 3) := dk_160 0 98 (dk_at dksX14_generalTime_8 6 rfl rfl)
theorem dX14_generalTime_196 : decode cX14_generalTime 196 = .ok (.aload_n 0, 1) := dk_42 (dk_at dksX14_generalTime_8 9 rfl rfl)
theorem dX14_generalTime_197 : decode cX14_generalTime 197 = .ok (.dup, 1) := dk_89 (dk_at dksX14_generalTime_8 10 rfl rfl)
theorem dX14_generalTime_198 : decode cX14_generalTime 198 = .ok (.getfield 703, 3) := dk_180 2 191 (dk_at dksX14_generalTime_8 11 rfl rfl)
theorem dX14_generalTime_201 : decode cX14_generalTime 201 = .ok (.iconst 1, 1) := dk_4 (dk_at dksX14_generalTime_8 14 rfl rfl)
theorem dX14_generalTime_202 : decode cX14_generalTime 202 = .ok (.iadd, 1) := dk_96 (dk_at dksX14_generalTime_8 15 rfl rfl)
theorem dX14_generalTime_203 : decode cX14_generalTime 203 = .ok (.putfield 703, 3) := dk_181 2 191 (dk_at dksX14_generalTime_8 16 rfl rfl)
theorem dX14_generalTime_206 : decode cX14_generalTime 206 = .ok (.aload_n 0, 1) := dk_42 (dk_at dksX14_generalTime_8 19 rfl rfl)
theorem dX14_generalTime_207 : decode cX14_generalTime 207 = .ok (.invokevirtual 731, 3) := dk_182 2 219 (dk_at dksX14_generalTime_8 20 rfl rfl)
theorem dX14_generalTime_210 : decode cX14_generalTime 210 = .ok (.ifCond .ne 6, 3) := dk_154 0 6 (dk_at dksX14_generalTime_9 0 rfl rfl)
theorem dX14_generalTime_213 : decode cX14_generalTime 213 = .ok (.bipush 18, 2) := dk_16 18 (dk_at dksX14_generalTime_9 3 rfl rfl)
theorem dX14_generalTime_215 : decode cX14_generalTime 215 = .ok (.ireturn, 1) := dk_172 (dk_at dksX14_generalTime_9 5 rfl rfl)
theorem dX14_generalTime_216 : decode cX14_generalTime 216 = .ok (.aload_n 0, 1) := dk_42 (dk_at dksX14_generalTime_9 6 rfl rfl)
theorem dX14_generalTime_217 : decode cX14_generalTime 217 = .ok (.getfield 266, 3) := dk_180 1 10 (dk_at dksX14_generalTime_9 7 rfl rfl)
theorem dX14_generalTime_220 : decode cX14_generalTime 220 = .ok (.arraylength, 1) := dk_190 (dk_at dksX14_generalTime_9 10 rfl rfl)
theorem dX14_generalTime_221 : decode cX14_generalTime 221 = .ok (.aload_n 0, 1) := dk_42 (dk_at dksX14_generalTime_9 11 rfl rfl)
theorem dX14_generalTime_222 : decode cX14_generalTime 222 = .ok (.getfield 682, 3) := dk_180 2 170 (dk_at dksX14_generalTime_9 12 rfl rfl)
theorem dX14_generalTime_225 : decode cX14_generalTime 225 = .ok (.if_icmp .ge 15, 3) := dk_162 0 15 (dk_at dksX14_generalTime_9 15 rfl rfl)
theorem dX14_generalTime_228 : decode cX14_generalTime 228 = .ok (.aload_n 0, 1) := dk_42 (dk_at dksX14_generalTime_9 18 rfl rfl)
theorem dX14_generalTime_229 : decode cX14_generalTime 229 = .ok (.iconst 2, 1) := dk_5 (dk_at dksX14_generalTime_9 19 rfl rfl)
theorem dX14_generalTime_230 : decode cX14_generalTime 230 = .ok (.aload_n 0, 1) := dk_42 (dk_at dksX14_generalTime_9 20 rfl rfl)
theorem dX14_generalTime_231 : decode cX14_generalTime 231 = .ok (.getfield 682, 3) := dk_180 2 170 (dk_at dksX14_generalTime_9 21 rfl rfl)
theorem dX14_generalTime_234 : decode cX14_generalTime 234 = .ok (.imul, 1) := dk_104 (dk_at dksX14_generalTime_10 0 rfl rfl)
theorem dX14_generalTime_235 : decode cX14_generalTime 235 = .ok (.newarray .int, 2) := dk_188_10 (dk_at dksX14_generalTime_10 1 rfl rfl)
theorem dX14_generalTime_237 : decode cX14_generalTime 237 = .ok (.putfield 266, 3) := dk_181 1 10 (dk_at dksX14_generalTime_10 3 rfl rfl)
theorem dX14_generalTime_240 : decode cX14_generalTime 240 = .ok (.aload_n 0, 1) := dk_42 (dk_at dksX14_generalTime_10 6 rfl rfl)
theorem dX14_generalTime_241 : decode cX14_generalTime 241 = .ok (.invokevirtual 731, 3) := dk_182 2 219 (dk_at dksX14_generalTime_10 7 rfl rfl)
theorem dX14_generalTime_244 : decode cX14_generalTime 244 = .ok (.ifCond .eq 47, 3) := dk_153 0 47 (dk_at dksX14_generalTime_10 10 rfl rfl)
theorem dX14_generalTime_247 : decode cX14_generalTime 247 = .ok (.aload_n 0, 1) := dk_42 (dk_at dksX14_generalTime_10 13 rfl rfl)
theorem dX14_generalTime_248 : decode cX14_generalTime 248 = .ok (.getfield 266, 3) := dk_180 1 10 (dk_at dksX14_generalTime_10 14 rfl rfl)
theorem dX14_generalTime_251 : decode cX14_generalTime 251 = .ok (.aload_n 0, 1) := dk_42 (dk_at dksX14_generalTime_10 17 rfl rfl)
theorem dX14_generalTime_252 : decode cX14_generalTime 252 = .ok (.getfield 750, 3) := dk_180 2 238 (dk_at dksX14_generalTime_10 18 rfl rfl)
theorem dX14_generalTime_255 : decode cX14_generalTime 255 = .ok (.aload_n 0, 1) := dk_42 (dk_at dksX14_generalTime_10 21 rfl rfl)
theorem dX14_generalTime_256 : decode cX14_generalTime 256 = .ok (.getfield 236, 3) := dk_180 0 236 (dk_at dksX14_generalTime_11 0 rfl rfl)
theorem dX14_generalTime_259 : decode cX14_generalTime 259 = .ok (.aload_n 0, 1) := dk_42 (dk_at dksX14_generalTime_11 3 rfl rfl)
theorem dX14_generalTime_260 : decode cX14_generalTime 260 = .ok (.getfield 703, 3) := dk_180 2 191 (dk_at dksX14_generalTime_11 4 rfl rfl)
theorem dX14_generalTime_263 : decode cX14_generalTime 263 = .ok (.iaload, 1) := dk_46 (dk_at dksX14_generalTime_11 7 rfl rfl)
theorem dX14_generalTime_264 : decode cX14_generalTime 264 = .ok (.bipush 48, 2) := dk_16 48 (dk_at dksX14_generalTime_11 8 rfl rfl)
theorem dX14_generalTime_266 : decode cX14_generalTime 266 = .ok (.isub, 1) := dk_100 (dk_at dksX14_generalTime_11 10 rfl rfl)
theorem dX14_generalTime_267 : decode cX14_generalTime 267 = .ok (.iastore, 1) := dk_79 (dk_at dksX14_generalTime_11 11 rfl rfl)
theorem dX14_generalTime_268 : decode cX14_generalTime 268 = .ok (.aload_n 0, 1) := dk_42 (dk_at dksX14_generalTime_11 12 rfl rfl)
theorem dX14_generalTime_269 : decode cX14_generalTime 269 = .ok (.dup, 1) := dk_89 (dk_at dksX14_generalTime_11 13 rfl rfl)
theorem dX14_generalTime_270 : decode cX14_generalTime 270 = .ok (.getfield 750, 3) := dk_180 2 238 (dk_at dksX14_generalTime_11 14 rfl rfl)
theorem dX14_generalTime_273 : decode cX14_generalTime 273 = .ok (.iconst 1, 1) := dk_4 (dk_at dksX14_generalTime_11 17 rfl rfl)
theorem dX14_generalTime_274 : decode cX14_generalTime 274 = .ok (.iadd, 1) := dk_96 (dk_at dksX14_generalTime_11 18 rfl rfl)
theorem dX14_generalTime_275 : decode cX14_generalTime 275 = .ok (.putfield 750, 3) := dk_181 2 238 (dk_at dksX14_generalTime_11 19 rfl rfl)
theorem dX14_generalTime_278 : decode cX14_generalTime 278 = .ok (.aload_n 0, 1) := dk_42 (dk_at dksX14_generalTime_11 22 rfl rfl)
theorem dX14_generalTime_279 : decode cX14_generalTime 279 = .ok (.dup, 1) := dk_89 (dk_at dksX14_generalTime_11 23 rfl rfl)
theorem dX14_generalTime_280 : decode cX14_generalTime 280 = .ok (.getfield 703, 3) := dk_180 2 191 (dk_at dksX14_generalTime_12 0 rfl rfl)
theorem dX14_generalTime_283 : decode cX14_generalTime 283 = .ok (.iconst 1, 1) := dk_4 (dk_at dksX14_generalTime_12 3 rfl rfl)
theorem dX14_generalTime_284 : decode cX14_generalTime 284 = .ok (.iadd, 1) := dk_96 (dk_at dksX14_generalTime_12 4 rfl rfl)
theorem dX14_generalTime_285 : decode cX14_generalTime 285 = .ok (.putfield 703, 3) := dk_181 2 191 (dk_at dksX14_generalTime_12 5 rfl rfl)
theorem dX14_generalTime_288 : decode cX14_generalTime 288 = .ok (.goto (-48), 3) := dk_167 255 208 (dk_at dksX14_generalTime_12 8 rfl rfl)
theorem dX14_generalTime_291 : decode cX14_generalTime 291 = .ok (.aload_n 0, 1) := dk_42 (dk_at dksX14_generalTime_12 11 rfl rfl)
theorem dX14_generalTime_292 : decode cX14_generalTime 292 = .ok (.getfield 703, 3) := dk_180 2 191 (dk_at dksX14_generalTime_12 12 rfl rfl)
theorem dX14_generalTime_295 : decode cX14_generalTime 295 = .ok (.aload_n 0, 1) := dk_42 (dk_at dksX14_generalTime_12 15 rfl rfl)
theorem dX14_generalTime_296 : decode cX14_generalTime 296 = .ok (.getfield 682, 3) := dk_180 2 170 (dk_at dksX14_generalTime_12 16 rfl rfl)
theorem dX14_generalTime_299 : decode cX14_generalTime 299 = .ok (.if_icmp .ne 7, 3) := dk_160 0 7 (dk_at dksX14_generalTime_12 19 rfl rfl)
theorem dX14_generalTime_302 : decode cX14_generalTime 302 = .ok (.iconst 1, 1) := dk_4 (dk_at dksX14_generalTime_12 22 rfl rfl)
theorem dX14_generalTime_303 : decode cX14_generalTime 303 = .ok (.goto 4, 3) := dk_167 0 4 (dk_at dksX14_generalTime_13 0 rfl rfl)
theorem dX14_generalTime_306 : decode cX14_generalTime 306 = .ok (.iconst 0, 1) := dk_3 (dk_at dksX14_generalTime_13 3 rfl rfl)
theorem dX14_generalTime_307 : decode cX14_generalTime 307 = .ok (.istore_n 3, 1) := dk_62 (dk_at dksX14_generalTime_13 4 rfl rfl)
theorem dX14_generalTime_308 : decode cX14_generalTime 308 = .ok (.iload_n 3, 1) := dk_29 (dk_at dksX14_generalTime_13 5 rfl rfl)
theorem dX14_generalTime_309 : decode cX14_generalTime 309 = .ok (.ifCond .eq 7, 3) := dk_153 0 7 (dk_at dksX14_generalTime_13 6 rfl rfl)
theorem dX14_generalTime_312 : decode cX14_generalTime 312 = .ok (.iconst 0, 1) := dk_3 (dk_at dksX14_generalTime_13 9 rfl rfl)
theorem dX14_generalTime_313 : decode cX14_generalTime 313 = .ok (.goto 8, 3) := dk_167 0 8 (dk_at dksX14_generalTime_13 10 rfl rfl)
theorem dX14_generalTime_316 : decode cX14_generalTime 316 = .ok (.aload_n 0, 1) := dk_42 (dk_at dksX14_generalTime_13 13 rfl rfl)
theorem dX14_generalTime_317 : decode cX14_generalTime 317 = .ok (.iconst 1, 1) := dk_4 (dk_at dksX14_generalTime_13 14 rfl rfl)
theorem dX14_generalTime_318 : decode cX14_generalTime 318 = .ok (.invokevirtual 735, 3) := dk_182 2 223 (dk_at dksX14_generalTime_13 15 rfl rfl)
theorem dX14_generalTime_321 : decode cX14_generalTime 321 = .ok (.istore 4, 2) := dk_54 4 (dk_at dksX14_generalTime_13 18 rfl rfl)
theorem dX14_generalTime_323 : decode cX14_generalTime 323 = .ok (.iload 4, 2) := dk_21 4 (dk_at dksX14_generalTime_13 20 rfl rfl)
theorem dX14_generalTime_325 : decode cX14_generalTime 325 = .ok (.ldc_w 727, 3) := dk_19 2 215 (dk_at dksX14_generalTime_14 0 rfl rfl)
theorem dX14_generalTime_328 : decode cX14_generalTime 328 = .ok (.if_icmp .eq 10, 3) := dk_159 0 10 (dk_at dksX14_generalTime_14 3 rfl rfl)
theorem dX14_generalTime_331 : decode cX14_generalTime 331 = .ok (.aload_n 0, 1) := dk_42 (dk_at dksX14_generalTime_14 6 rfl rfl)
theorem dX14_generalTime_332 : decode cX14_generalTime 332 = .ok (.invokevirtual 738, 3) := dk_182 2 226 (dk_at dksX14_generalTime_14 7 rfl rfl)
theorem dX14_generalTime_335 : decode cX14_generalTime 335 = .ok (.ifCond .ne 6, 3) := dk_154 0 6 (dk_at dksX14_generalTime_14 10 rfl rfl)
theorem dX14_generalTime_338 : decode cX14_generalTime 338 = .ok (.bipush 18, 2) := dk_16 18 (dk_at dksX14_generalTime_14 13 rfl rfl)
theorem dX14_generalTime_340 : decode cX14_generalTime 340 = .ok (.ireturn, 1) := dk_172 (dk_at dksX14_generalTime_14 15 rfl rfl)
theorem dX14_generalTime_341 : decode cX14_generalTime 341 = .ok (.iload_n 3, 1) := dk_29 (dk_at dksX14_generalTime_14 16 rfl rfl)
theorem dX14_generalTime_342 : decode cX14_generalTime 342 = .ok (.ifCond .eq 6, 3) := dk_153 0 6 (dk_at dksX14_generalTime_14 17 rfl rfl)
theorem dX14_generalTime_345 : decode cX14_generalTime 345 = .ok (.bipush 19, 2) := dk_16 19 (dk_at dksX14_generalTime_14 20 rfl rfl)
theorem dX14_generalTime_347 : decode cX14_generalTime 347 = .ok (.ireturn, 1) := dk_172 (dk_at dksX14_generalTime_14 22 rfl rfl)
theorem dX14_generalTime_348 : decode cX14_generalTime 348 = .ok (.iload_n 1, 1) := dk_27 (dk_at dksX14_generalTime_14 23 rfl rfl)
theorem dX14_generalTime_349 : decode cX14_generalTime 349 = .ok (.ifCond .ne 13, 3) := dk_154 0 13 (dk_at dksX14_generalTime_15 0 rfl rfl)
theorem dX14_generalTime_352 : decode cX14_generalTime 352 = .ok (.aload_n 0, 1) := dk_42 (dk_at dksX14_generalTime_15 3 rfl rfl)
theorem dX14_generalTime_353 : decode cX14_generalTime 353 = .ok (.aload_n 0, 1) := dk_42 (dk_at dksX14_generalTime_15 4 rfl rfl)
theorem dX14_generalTime_354 : decode cX14_generalTime 354 = .ok (.bipush 60, 2) := dk_16 60 (dk_at dksX14_generalTime_15 5 rfl rfl)
theorem dX14_generalTime_356 : decode cX14_generalTime 356 = .ok (.invokevirtual 753, 3) := dk_182 2 241 (dk_at dksX14_generalTime_15 7 rfl rfl)
theorem dX14_generalTime_359 : decode cX14_generalTime 359 = .ok (.putfield 721, 3) := dk_181 2 209 (dk_at dksX14_generalTime_15 10 rfl rfl)
theorem dX14_generalTime_362 : decode cX14_generalTime 362 = .ok (.iload_n 2, 1) := dk_28 (dk_at dksX14_generalTime_15 13 rfl rfl)
theorem dX14_generalTime_363 : decode cX14_generalTime 363 = .ok (.ifCond .ne 13, 3) := dk_154 0 13 (dk_at dksX14_generalTime_15 14 rfl rfl)
theorem dX14_generalTime_366 : decode cX14_generalTime 366 = .ok (.aload_n 0, 1) := dk_42 (dk_at dksX14_generalTime_15 17 rfl rfl)
theorem dX14_generalTime_367 : decode cX14_generalTime 367 = .ok (.aload_n 0, 1) := dk_42 (dk_at dksX14_generalTime_15 18 rfl rfl)
theorem dX14_generalTime_368 : decode cX14_generalTime 368 = .ok (.bipush 60, 2) := dk_16 60 (dk_at dksX14_generalTime_15 19 rfl rfl)
theorem dX14_generalTime_370 : decode cX14_generalTime 370 = .ok (.invokevirtual 753, 3) := dk_182 2 241 (dk_at dksX14_generalTime_15 21 rfl rfl)
theorem dX14_generalTime_373 : decode cX14_generalTime 373 = .ok (.putfield 724, 3) := dk_181 2 212 (dk_at dksX14_generalTime_16 0 rfl rfl)
theorem dX14_generalTime_376 : decode cX14_generalTime 376 = .ok (.aload_n 0, 1) := dk_42 (dk_at dksX14_generalTime_16 3 rfl rfl)
theorem dX14_generalTime_377 : decode cX14_generalTime 377 = .ok (.iload 4, 2) := dk_21 4 (dk_at dksX14_generalTime_16 4 rfl rfl)
theorem dX14_generalTime_379 : decode cX14_generalTime 379 = .ok (.ineg, 1) := dk_116 (dk_at dksX14_generalTime_16 6 rfl rfl)
theorem dX14_generalTime_380 : decode cX14_generalTime 380 = .ok (.invokevirtual 741, 3) := dk_182 2 229 (dk_at dksX14_generalTime_16 7 rfl rfl)
theorem dX14_generalTime_383 : decode cX14_generalTime 383 = .ok (.aload_n 0, 1) := dk_42 (dk_at dksX14_generalTime_16 10 rfl rfl)
theorem dX14_generalTime_384 : decode cX14_generalTime 384 = .ok (.getfield 712, 3) := dk_180 2 200 (dk_at dksX14_generalTime_16 11 rfl rfl)
theorem dX14_generalTime_387 : decode cX14_generalTime 387 = .ok (.iconst 0, 1) := dk_3 (dk_at dksX14_generalTime_16 14 rfl rfl)
theorem dX14_generalTime_388 : decode cX14_generalTime 388 = .ok (.sipush 9999, 3) := dk_17 39 15 (dk_at dksX14_generalTime_16 15 rfl rfl)
theorem dX14_generalTime_391 : decode cX14_generalTime 391 = .ok (.invokestatic 388, 3) := dk_184 1 132 (dk_at dksX14_generalTime_16 18 rfl rfl)
theorem dX14_generalTime_394 : decode cX14_generalTime 394 = .ok (.ifCond .ne 6, 3) := dk_154 0 6 (dk_at dksX14_generalTime_16 21 rfl rfl)
theorem dX14_generalTime_397 : decode cX14_generalTime 397 = .ok (.bipush 20, 2) := dk_16 20 (dk_at dksX14_generalTime_17 0 rfl rfl)
theorem dX14_generalTime_399 : decode cX14_generalTime 399 = .ok (.ireturn, 1) := dk_172 (dk_at dksX14_generalTime_17 2 rfl rfl)
theorem dX14_generalTime_400 : decode cX14_generalTime 400 = .ok (.aload_n 0, 1) := dk_42 (dk_at dksX14_generalTime_17 3 rfl rfl)
theorem dX14_generalTime_401 : decode cX14_generalTime 401 = .ok (.getfield 750, 3) := dk_180 2 238 (dk_at dksX14_generalTime_17 4 rfl rfl)
theorem dX14_generalTime_404 : decode cX14_generalTime 404 = .ok (.ifCond .le 30, 3) := dk_158 0 30 (dk_at dksX14_generalTime_17 7 rfl rfl)
theorem dX14_generalTime_407 : decode cX14_generalTime 407 = .ok (.aload_n 0, 1) := dk_42 (dk_at dksX14_generalTime_17 10 rfl rfl)
theorem dX14_generalTime_408 : decode cX14_generalTime 408 = .ok (.getfield 266, 3) := dk_180 1 10 (dk_at dksX14_generalTime_17 11 rfl rfl)
theorem dX14_generalTime_411 : decode cX14_generalTime 411 = .ok (.aload_n 0, 1) := dk_42 (dk_at dksX14_generalTime_17 14 rfl rfl)
theorem dX14_generalTime_412 : decode cX14_generalTime 412 = .ok (.getfield 750, 3) := dk_180 2 238 (dk_at dksX14_generalTime_17 15 rfl rfl)
theorem dX14_generalTime_415 : decode cX14_generalTime 415 = .ok (.iconst 1, 1) := dk_4 (dk_at dksX14_generalTime_17 18 rfl rfl)
theorem dX14_generalTime_416 : decode cX14_generalTime 416 = .ok (.isub, 1) := dk_100 (dk_at dksX14_generalTime_17 19 rfl rfl)
theorem dX14_generalTime_417 : decode cX14_generalTime 417 = .ok (.iaload, 1) := dk_46 (dk_at dksX14_generalTime_17 20 rfl rfl)
theorem dX14_generalTime_418 : decode cX14_generalTime 418 = .ok (.ifCond .ne 16, 3) := dk_154 0 16 (dk_at dksX14_generalTime_17 21 rfl rfl)
theorem dX14_generalTime_421 : decode cX14_generalTime 421 = .ok (.aload_n 0, 1) := dk_42 (dk_at dksX14_generalTime_18 0 rfl rfl)
theorem dX14_generalTime_422 : decode cX14_generalTime 422 = .ok (.dup, 1) := dk_89 (dk_at dksX14_generalTime_18 1 rfl rfl)
theorem dX14_generalTime_423 : decode cX14_generalTime 423 = .ok (.getfield 750, 3) := dk_180 2 238 (dk_at dksX14_generalTime_18 2 rfl rfl)
theorem dX14_generalTime_426 : decode cX14_generalTime 426 = .ok (.iconst 1, 1) := dk_4 (dk_at dksX14_generalTime_18 5 rfl rfl)
theorem dX14_generalTime_427 : decode cX14_generalTime 427 = .ok (.isub, 1) := dk_100 (dk_at dksX14_generalTime_18 6 rfl rfl)
theorem dX14_generalTime_428 : decode cX14_generalTime 428 = .ok (.putfield 750, 3) := dk_181 2 238 (dk_at dksX14_generalTime_18 7 rfl rfl)
theorem dX14_generalTime_431 : decode cX14_generalTime 431 = .ok (.goto (-31), 3) := dk_167 255 225 (dk_at dksX14_generalTime_18 10 rfl rfl)
theorem dX14_generalTime_434 : decode cX14_generalTime 434 = .ok (.aload_n 0, 1) := dk_42 (dk_at dksX14_generalTime_18 13 rfl rfl)
theorem dX14_generalTime_435 : decode cX14_generalTime 435 = .ok (.iconst 0, 1) := dk_3 (dk_at dksX14_generalTime_18 14 rfl rfl)
theorem dX14_generalTime_436 : decode cX14_generalTime 436 = .ok (.putfield 682, 3) := dk_181 2 170 (dk_at dksX14_generalTime_18 15 rfl rfl)
theorem dX14_generalTime_439 : decode cX14_generalTime 439 = .ok (.aload_n 0, 1) := dk_42 (dk_at dksX14_generalTime_18 18 rfl rfl)
theorem dX14_generalTime_440 : decode cX14_generalTime 440 = .ok (.aload_n 0, 1) := dk_42 (dk_at dksX14_generalTime_18 19 rfl rfl)
theorem dX14_generalTime_441 : decode cX14_generalTime 441 = .ok (.getfield 712, 3) := dk_180 2 200 (dk_at dksX14_generalTime_18 20 rfl rfl)
theorem dX14_generalTime_444 : decode cX14_generalTime 444 = .ok (.iconst 4, 1) := dk_7 (dk_at dksX14_generalTime_18 23 rfl rfl)
theorem dX14_generalTime_445 : decode cX14_generalTime 445 = .ok (.invokevirtual 744, 3) := dk_182 2 232 (dk_at dksX14_generalTime_19 0 rfl rfl)
theorem dX14_generalTime_448 : decode cX14_generalTime 448 = .ok (.aload_n 0, 1) := dk_42 (dk_at dksX14_generalTime_19 3 rfl rfl)
theorem dX14_generalTime_449 : decode cX14_generalTime 449 = .ok (.invokevirtual 747, 3) := dk_182 2 235 (dk_at dksX14_generalTime_19 4 rfl rfl)
theorem dX14_generalTime_452 : decode cX14_generalTime 452 = .ok (.aload_n 0, 1) := dk_42 (dk_at dksX14_generalTime_19 7 rfl rfl)
theorem dX14_generalTime_453 : decode cX14_generalTime 453 = .ok (.getfield 750, 3) := dk_180 2 238 (dk_at dksX14_generalTime_19 8 rfl rfl)
theorem dX14_generalTime_456 : decode cX14_generalTime 456 = .ok (.ifCond .le 9, 3) := dk_158 0 9 (dk_at dksX14_generalTime_19 11 rfl rfl)
theorem dX14_generalTime_459 : decode cX14_generalTime 459 = .ok (.aload_n 0, 1) := dk_42 (dk_at dksX14_generalTime_19 14 rfl rfl)
theorem dX14_generalTime_460 : decode cX14_generalTime 460 = .ok (.bipush 46, 2) := dk_16 46 (dk_at dksX14_generalTime_19 15 rfl rfl)
theorem dX14_generalTime_462 : decode cX14_generalTime 462 = .ok (.invokevirtual 688, 3) := dk_182 2 176 (dk_at dksX14_generalTime_19 17 rfl rfl)
theorem dX14_generalTime_465 : decode cX14_generalTime 465 = .ok (.iconst 0, 1) := dk_3 (dk_at dksX14_generalTime_19 20 rfl rfl)
theorem dX14_generalTime_466 : decode cX14_generalTime 466 = .ok (.istore 5, 2) := dk_54 5 (dk_at dksX14_generalTime_19 21 rfl rfl)
theorem dX14_generalTime_468 : decode cX14_generalTime 468 = .ok (.iload 5, 2) := dk_21 5 (dk_at dksX14_generalTime_20 0 rfl rfl)
theorem dX14_generalTime_470 : decode cX14_generalTime 470 = .ok (.aload_n 0, 1) := dk_42 (dk_at dksX14_generalTime_20 2 rfl rfl)
theorem dX14_generalTime_471 : decode cX14_generalTime 471 = .ok (.getfield 750, 3) := dk_180 2 238 (dk_at dksX14_generalTime_20 3 rfl rfl)
theorem dX14_generalTime_474 : decode cX14_generalTime 474 = .ok (.if_icmp .ge 23, 3) := dk_162 0 23 (dk_at dksX14_generalTime_20 6 rfl rfl)
theorem dX14_generalTime_477 : decode cX14_generalTime 477 = .ok (.aload_n 0, 1) := dk_42 (dk_at dksX14_generalTime_20 9 rfl rfl)
theorem dX14_generalTime_478 : decode cX14_generalTime 478 = .ok (.bipush 48, 2) := dk_16 48 (dk_at dksX14_generalTime_20 10 rfl rfl)
theorem dX14_generalTime_480 : decode cX14_generalTime 480 = .ok (.aload_n 0, 1) := dk_42 (dk_at dksX14_generalTime_20 12 rfl rfl)
theorem dX14_generalTime_481 : decode cX14_generalTime 481 = .ok (.getfield 266, 3) := dk_180 1 10 (dk_at dksX14_generalTime_20 13 rfl rfl)
theorem dX14_generalTime_484 : decode cX14_generalTime 484 = .ok (.iload 5, 2) := dk_21 5 (dk_at dksX14_generalTime_20 16 rfl rfl)
theorem dX14_generalTime_486 : decode cX14_generalTime 486 = .ok (.iaload, 1) := dk_46 (dk_at dksX14_generalTime_20 18 rfl rfl)
theorem dX14_generalTime_487 : decode cX14_generalTime 487 = .ok (.iadd, 1) := dk_96 (dk_at dksX14_generalTime_20 19 rfl rfl)
theorem dX14_generalTime_488 : decode cX14_generalTime 488 = .ok (.invokevirtual 688, 3) := dk_182 2 176 (dk_at dksX14_generalTime_20 20 rfl rfl)
theorem dX14_generalTime_491 : decode cX14_generalTime 491 = .ok (.iinc 5 1, 3) := dk_132 5 1 (dk_at dksX14_generalTime_21 0 rfl rfl)
theorem dX14_generalTime_494 : decode cX14_generalTime 494 = .ok (.goto (-26), 3) := dk_167 255 230 (dk_at dksX14_generalTime_21 3 rfl rfl)
theorem dX14_generalTime_497 : decode cX14_generalTime 497 = .ok (.aload_n 0, 1) := dk_42 (dk_at dksX14_generalTime_21 6 rfl rfl)
theorem dX14_generalTime_498 : decode cX14_generalTime 498 = .ok (.bipush 90, 2) := dk_16 90 (dk_at dksX14_generalTime_21 7 rfl rfl)
theorem dX14_generalTime_500 : decode cX14_generalTime 500 = .ok (.invokevirtual 688, 3) := dk_182 2 176 (dk_at dksX14_generalTime_21 9 rfl rfl)
theorem dX14_generalTime_503 : decode cX14_generalTime 503 = .ok (.iconst 0, 1) := dk_3 (dk_at dksX14_generalTime_21 12 rfl rfl)
theorem dX14_generalTime_504 : decode cX14_generalTime 504 = .ok (.ireturn, 1) := dk_172 (dk_at dksX14_generalTime_21 13 rfl rfl)
abbrev cX14_partTimes : ByteArray := prog_15_method_110_code
def yX14_partTimes : MethodName := ⟨RX14, "partTimes", "(I)I"⟩
def dkwX14_partTimes_2 : List UInt8 := [167, 255, 220, 28, 172]
abbrev dktX14_partTimes_2 : List UInt8 := dkwX14_partTimes_2 ++ []
def dkwX14_partTimes_1 : List UInt8 := [54, 4, 42, 180, 1, 10, 29, 21, 4, 16, 10, 112, 79, 21, 4, 16, 10, 108, 61, 132, 3, 255]
abbrev dktX14_partTimes_1 : List UInt8 := dkwX14_partTimes_1 ++ dktX14_partTimes_2
def dkwX14_partTimes_0 : List UInt8 := [3, 61, 42, 180, 2, 238, 4, 100, 62, 29, 155, 0, 38, 42, 180, 1, 10, 29, 46, 27, 104, 28, 96]
abbrev dktX14_partTimes_0 : List UInt8 := dkwX14_partTimes_0 ++ dktX14_partTimes_1
theorem dksX14_partTimes_0 : cX14_partTimes.data.toList.drop 0 = dktX14_partTimes_0 := by decide +kernel
theorem dksX14_partTimes_1 : cX14_partTimes.data.toList.drop 23 = dktX14_partTimes_1 := dk_seg dksX14_partTimes_0 23 rfl rfl
theorem dksX14_partTimes_2 : cX14_partTimes.data.toList.drop 45 = dktX14_partTimes_2 := dk_seg dksX14_partTimes_1 22 rfl rfl
theorem dX14_partTimes_0 : decode cX14_partTimes 0 = .ok (.iconst 0, 1) := dk_3 (dk_at dksX14_partTimes_0 0 rfl rfl)
theorem dX14_partTimes_1 : decode cX14_partTimes 1 = .ok (.istore_n 2, 1) := dk_61 (dk_at dksX14_partTimes_0 1 rfl rfl)
theorem dX14_partTimes_2 : decode cX14_partTimes 2 = .ok (.aload_n 0, 1) := dk_42 (dk_at dksX14_partTimes_0 2 rfl rfl)
theorem dX14_partTimes_3 : decode cX14_partTimes 3 = .ok (.getfield 750, 3) := dk_180 2 238 (dk_at dksX14_partTimes_0 3 rfl rfl)
theorem dX14_partTimes_6 : decode cX14_partTimes 6 = .ok (.iconst 1, 1) := dk_4 (dk_at dksX14_partTimes_0 6 rfl rfl)
theorem dX14_partTimes_7 : decode cX14_partTimes 7 = .ok (.isub, 1) := dk_100 (dk_at dksX14_partTimes_0 7 rfl rfl)
theorem dX14_partTimes_8 : decode cX14_partTimes 8 = .ok (.istore_n 3, 1) := dk_62 (dk_at dksX14_partTimes_0 8 rfl rfl)
theorem dX14_partTimes_9 : decode cX14_partTimes 9 = .ok (.iload_n 3, 1) := dk_29 (dk_at dksX14_partTimes_0 9 rfl rfl)
theorem dX14_partTimes_10 : decode cX14_partTimes 10 = .ok (.ifCond .lt 38, 3) := dk_155 0 38 (dk_at dksX14_partTimes_0 10 rfl rfl)
theorem dX14_partTimes_13 : decode cX14_partTimes 13 = .ok (.aload_n 0, 1) := dk_42 (dk_at dksX14_partTimes_0 13 rfl rfl)
theorem dX14_partTimes_14 : decode cX14_partTimes 14 = .ok (.getfield 266, 3) := dk_180 1 10 (dk_at dksX14_partTimes_0 14 rfl rfl)
theorem dX14_partTimes_17 : decode cX14_partTimes 17 = .ok (.iload_n 3, 1) := dk_29 (dk_at dksX14_partTimes_0 17 rfl rfl)
theorem dX14_partTimes_18 : decode cX14_partTimes 18 = .ok (.iaload, 1) := dk_46 (dk_at dksX14_partTimes_0 18 rfl rfl)
theorem dX14_partTimes_19 : decode cX14_partTimes 19 = .ok (.iload_n 1, 1) := dk_27 (dk_at dksX14_partTimes_0 19 rfl rfl)
theorem dX14_partTimes_20 : decode cX14_partTimes 20 = .ok (.imul, 1) := dk_104 (dk_at dksX14_partTimes_0 20 rfl rfl)
theorem dX14_partTimes_21 : decode cX14_partTimes 21 = .ok (.iload_n 2, 1) := dk_28 (dk_at dksX14_partTimes_0 21 rfl rfl)
theorem dX14_partTimes_22 : decode cX14_partTimes 22 = .ok (.iadd, 1) := dk_96 (dk_at dksX14_partTimes_0 22 rfl rfl)
theorem dX14_partTimes_23 : decode cX14_partTimes 23 = .ok (.istore 4, 2) := dk_54 4 (dk_at dksX14_partTimes_1 0 rfl rfl)
theorem dX14_partTimes_25 : decode cX14_partTimes 25 = .ok (.aload_n 0, 1) := dk_42 (dk_at dksX14_partTimes_1 2 rfl rfl)
theorem dX14_partTimes_26 : decode cX14_partTimes 26 = .ok (.getfield 266, 3) := dk_180 1 10 (dk_at dksX14_partTimes_1 3 rfl rfl)
theorem dX14_partTimes_29 : decode cX14_partTimes 29 = .ok (.iload_n 3, 1) := dk_29 (dk_at dksX14_partTimes_1 6 rfl rfl)
theorem dX14_partTimes_30 : decode cX14_partTimes 30 = .ok (.iload 4, 2) := dk_21 4 (dk_at dksX14_partTimes_1 7 rfl rfl)
theorem dX14_partTimes_32 : decode cX14_partTimes 32 = .ok (.bipush 10, 2) := dk_16 10 (dk_at dksX14_partTimes_1 9 rfl rfl)
theorem dX14_partTimes_34 : decode cX14_partTimes 34 = .ok (.irem, 1) := dk_112 (dk_at dksX14_partTimes_1 11 rfl rfl)
theorem dX14_partTimes_35 : decode cX14_partTimes 35 = .ok (.iastore, 1) := dk_79 (dk_at dksX14_partTimes_1 12 rfl rfl)
theorem dX14_partTimes_36 : decode cX14_partTimes 36 = .ok (.iload 4, 2) := dk_21 4 (dk_at dksX14_partTimes_1 13 rfl rfl)
theorem dX14_partTimes_38 : decode cX14_partTimes 38 = .ok (.bipush 10, 2) := dk_16 10 (dk_at dksX14_partTimes_1 15 rfl rfl)
theorem dX14_partTimes_40 : decode cX14_partTimes 40 = .ok (.idiv, 1) := dk_108 (dk_at dksX14_partTimes_1 17 rfl rfl)
theorem dX14_partTimes_41 : decode cX14_partTimes 41 = .ok (.istore_n 2, 1) := dk_61 (dk_at dksX14_partTimes_1 18 rfl rfl)
theorem dX14_partTimes_42 : decode cX14_partTimes 42 = .ok (.iinc 3 (-1), 3) := dk_132 3 255 (dk_at dksX14_partTimes_1 19 rfl rfl)
theorem dX14_partTimes_45 : decode cX14_partTimes 45 = .ok (.goto (-36), 3) := dk_167 255 220 (dk_at dksX14_partTimes_2 0 rfl rfl)
theorem dX14_partTimes_48 : decode cX14_partTimes 48 = .ok (.iload_n 2, 1) := dk_28 (dk_at dksX14_partTimes_2 3 rfl rfl)
theorem dX14_partTimes_49 : decode cX14_partTimes 49 = .ok (.ireturn, 1) := dk_172 (dk_at dksX14_partTimes_2 4 rfl rfl)
abbrev cX14_isPrintable : ByteArray := prog_15_method_100_code
def yX14_isPrintable : MethodName := ⟨RX14, "isPrintable", "(I)Z"⟩
def dkwX14_isPrintable_2 : List UInt8 := [159, 0, 15, 26, 16, 61, 159, 0, 9, 26, 16, 63, 160, 0, 7, 4, 167, 0, 4, 3, 172]
abbrev dktX14_isPrintable_2 : List UInt8 := dkwX14_isPrintable_2 ++ []
def dkwX14_isPrintable_1 : List UInt8 := [159, 0, 38, 26, 16, 41, 159, 0, 32, 26, 16, 43, 16, 47, 184, 1, 132, 154, 0, 21, 26, 16, 58]
abbrev dktX14_isPrintable_1 : List UInt8 := dkwX14_isPrintable_1 ++ dktX14_isPrintable_2
def dkwX14_isPrintable_0 : List UInt8 := [26, 184, 1, 162, 154, 0, 56, 26, 16, 32, 159, 0, 50, 26, 16, 39, 159, 0, 44, 26, 16, 40]
abbrev dktX14_isPrintable_0 : List UInt8 := dkwX14_isPrintable_0 ++ dktX14_isPrintable_1
theorem dksX14_isPrintable_0 : cX14_isPrintable.data.toList.drop 0 = dktX14_isPrintable_0 := by decide +kernel
theorem dksX14_isPrintable_1 : cX14_isPrintable.data.toList.drop 22 = dktX14_isPrintable_1 := dk_seg dksX14_isPrintable_0 22 rfl rfl
theorem dksX14_isPrintable_2 : cX14_isPrintable.data.toList.drop 45 = dktX14_isPrintable_2 := dk_seg dksX14_isPrintable_1 23 rfl rfl
theorem dX14_isPrintable_0 : decode cX14_isPrintable 0 = .ok (.iload_n 0, 1) := dk_26 (dk_at dksX14_isPrintable_0 0 rfl rfl)
theorem dX14_isPrintable_1 : decode cX14_isPrintable 1 = .ok (.invokestatic 418, 3) := dk_184 1 162 (dk_at dksX14_isPrintable_0 1 rfl rfl)
theorem dX14_isPrintable_4 : decode cX14_isPrintable 4 = .ok (.ifCond .ne 56, 3) := dk_154 0 56 (dk_at dksX14_isPrintable_0 4 rfl rfl)
theorem dX14_isPrintable_7 : decode cX14_isPrintable 7 = .ok (.iload_n 0, 1) := dk_26 (dk_at dksX14_isPrintable_0 7 rfl rfl)
theorem dX14_isPrintable_8 : decode cX14_isPrintable 8 = .ok (.bipush 32, 2) := dk_16 32 (dk_at dksX14_isPrintable_0 8 rfl rfl)
theorem dX14_isPrintable_10 : decode cX14_isPrintable 10 = .ok (.if_icmp .eq 50, 3) := dk_159 0 50 (dk_at dksX14_isPrintable_0 10 rfl rfl)
theorem dX14_isPrintable_13 : decode cX14_isPrintable 13 = .ok (.iload_n 0, 1) := dk_26 (dk_at dksX14_isPrintable_0 13 rfl rfl)
theorem dX14_isPrintable_14 : decode cX14_isPrintable 14 = .ok (.bipush 39, 2) := dk_16 39 (dk_at dksX14_isPrintable_0 14 rfl rfl)
theorem dX14_isPrintable_16 : decode cX14_isPrintable 16 = .ok (.if_icmp .eq 44, 3) := dk_159 0 44 (dk_at dksX14_isPrintable_0 16 rfl rfl)
theorem dX14_isPrintable_19 : decode cX14_isPrintable 19 = .ok (.iload_n 0, 1) := dk_26 (dk_at dksX14_isPrintable_0 19 rfl rfl)
theorem dX14_isPrintable_20 : decode cX14_isPrintable 20 = .ok (.bipush 40, 2) := dk_16 40 (dk_at dksX14_isPrintable_0 20 rfl rfl)
theorem dX14_isPrintable_22 : decode cX14_isPrintable 22 = .ok (.if_icmp .eq 38, 3) := dk_159 0 38 (dk_at dksX14_isPrintable_1 0 rfl rfl)
theorem dX14_isPrintable_25 : decode cX14_isPrintable 25 = .ok (.iload_n 0, 1) := dk_26 (dk_at dksX14_isPrintable_1 3 rfl rfl)
theorem dX14_isPrintable_26 : decode cX14_isPrintable 26 = .ok (.bipush 41, 2) := dk_16 41 (dk_at dksX14_isPrintable_1 4 rfl rfl)
theorem dX14_isPrintable_28 : decode cX14_isPrintable 28 = .ok (.if_icmp .eq 32, 3) := dk_159 0 32 (dk_at dksX14_isPrintable_1 6 rfl rfl)
theorem dX14_isPrintable_31 : decode cX14_isPrintable 31 = .ok (.iload_n 0, 1) := dk_26 (dk_at dksX14_isPrintable_1 9 rfl rfl)
theorem dX14_isPrintable_32 : decode cX14_isPrintable 32 = .ok (.bipush 43, 2) := dk_16 43 (dk_at dksX14_isPrintable_1 10 rfl rfl)
theorem dX14_isPrintable_34 : decode cX14_isPrintable 34 = .ok (.bipush 47, 2) := dk_16 47 (dk_at dksX14_isPrintable_1 12 rfl rfl)
theorem dX14_isPrintable_36 : decode cX14_isPrintable 36 = .ok (.invokestatic 388, 3) := dk_184 1 132 (dk_at dksX14_isPrintable_1 14 rfl rfl)
theorem dX14_isPrintable_39 : decode cX14_isPrintable 39 = .ok (.ifCond .ne 21, 3) := dk_154 0 21 (dk_at dksX14_isPrintable_1 17 rfl rfl)
theorem dX14_isPrintable_42 : decode cX14_isPrintable 42 = .ok (.iload_n 0, 1) := dk_26 (dk_at dksX14_isPrintable_1 20 rfl rfl)
theorem dX14_isPrintable_43 : decode cX14_isPrintable 43 = .ok (.bipush 58, 2) := dk_16 58 (dk_at dksX14_isPrintable_1 21 rfl rfl)
theorem dX14_isPrintable_45 : decode cX14_isPrintable 45 = .ok (.if_icmp .eq 15, 3) := dk_159 0 15 (dk_at dksX14_isPrintable_2 0 rfl rfl)
theorem dX14_isPrintable_48 : decode cX14_isPrintable 48 = .ok (.iload_n 0, 1) := dk_26 (dk_at dksX14_isPrintable_2 3 rfl rfl)
theorem dX14_isPrintable_49 : decode cX14_isPrintable 49 = .ok (.bipush 61, 2) := dk_16 61 (dk_at dksX14_isPrintable_2 4 rfl rfl)
theorem dX14_isPrintable_51 : decode cX14_isPrintable 51 = .ok (.if_icmp .eq 9, 3) := dk_159 0 9 (dk_at dksX14_isPrintable_2 6 rfl rfl)
theorem dX14_isPrintable_54 : decode cX14_isPrintable 54 = .ok (.iload_n 0, 1) := dk_26 (dk_at dksX14_isPrintable_2 9 rfl rfl)
theorem dX14_isPrintable_55 : decode cX14_isPrintable 55 = .ok (.bipush 63, 2) := dk_16 63 (dk_at dksX14_isPrintable_2 10 rfl rfl)
theorem dX14_isPrintable_57 : decode cX14_isPrintable 57 = .ok (.if_icmp .ne 7, 3) := dk_160 0 7 (dk_at dksX14_isPrintable_2 12 rfl rfl)
theorem dX14_isPrintable_60 : decode cX14_isPrintable 60 = .ok (.iconst 1, 1) := dk_4 (dk_at dksX14_isPrintable_2 15 rfl rfl)
theorem dX14_isPrintable_61 : decode cX14_isPrintable 61 = .ok (.goto 4, 3) := dk_167 0 4 (dk_at dksX14_isPrintable_2 16 rfl rfl)
theorem dX14_isPrintable_64 : decode cX14_isPrintable 64 = .ok (.iconst 0, 1) := dk_3 (dk_at dksX14_isPrintable_2 19 rfl rfl)
theorem dX14_isPrintable_65 : decode cX14_isPrintable 65 = .ok (.ireturn, 1) := dk_172 (dk_at dksX14_isPrintable_2 20 rfl rfl)
abbrev cX14_allMayMiss : ByteArray := prog_15_method_118_code
def yX14_allMayMiss : MethodName := ⟨RX14, "allMayMiss", "(I)Z"⟩
def dkwX14_allMayMiss_1 : List UInt8 := [158, 0, 7, 4, 167, 0, 4, 3, 61, 42, 180, 0, 112, 29, 46, 62, 167, 255, 226, 28, 172]
abbrev dktX14_allMayMiss_1 : List UInt8 := dkwX14_allMayMiss_1 ++ []
def dkwX14_allMayMiss_0 : List UInt8 := [4, 61, 42, 180, 0, 63, 27, 46, 62, 29, 155, 0, 32, 28, 153, 0, 16, 42, 180, 0, 106, 29, 46]
abbrev dktX14_allMayMiss_0 : List UInt8 := dkwX14_allMayMiss_0 ++ dktX14_allMayMiss_1
theorem dksX14_allMayMiss_0 : cX14_allMayMiss.data.toList.drop 0 = dktX14_allMayMiss_0 := by decide +kernel
theorem dksX14_allMayMiss_1 : cX14_allMayMiss.data.toList.drop 23 = dktX14_allMayMiss_1 := dk_seg dksX14_allMayMiss_0 23 rfl rfl
theorem dX14_allMayMiss_0 : decode cX14_allMayMiss 0 = .ok (.iconst 1, 1) := dk_4 (dk_at dksX14_allMayMiss_0 0 rfl rfl)
theorem dX14_allMayMiss_1 : decode cX14_allMayMiss 1 = .ok (.istore_n 2, 1) := dk_61 (dk_at dksX14_allMayMiss_0 1 rfl rfl)
theorem dX14_allMayMiss_2 : decode cX14_allMayMiss 2 = .ok (.aload_n 0, 1) := dk_42 (dk_at dksX14_allMayMiss_0 2 rfl rfl)
theorem dX14_allMayMiss_3 : decode cX14_allMayMiss 3 = .ok (.getfield 63, 3) := dk_180 0 63 (dk_at dksX14_allMayMiss_0 3 rfl rfl)
theorem dX14_allMayMiss_6 : decode cX14_allMayMiss 6 = .ok (.iload_n 1, 1) := dk_27 (dk_at dksX14_allMayMiss_0 6 rfl rfl)
theorem dX14_allMayMiss_7 : decode cX14_allMayMiss 7 = .ok (.iaload, 1) := dk_46 (dk_at dksX14_allMayMiss_0 7 rfl rfl)
theorem dX14_allMayMiss_8 : decode cX14_allMayMiss 8 = .ok (.istore_n 3, 1) := dk_62 (dk_at dksX14_allMayMiss_0 8 rfl rfl)
theorem dX14_allMayMiss_9 : decode cX14_allMayMiss 9 = .ok (.iload_n 3, 1) := dk_29 (dk_at dksX14_allMayMiss_0 9 rfl rfl)
theorem dX14_allMayMiss_10 : decode cX14_allMayMiss 10 = .ok (.ifCond .lt 32, 3) := dk_155 0 32 (dk_at dksX14_allMayMiss_0 10 rfl rfl)
theorem dX14_allMayMiss_13 : decode cX14_allMayMiss 13 = .ok (.iload_n 2, 1) := dk_28 (dk_at dksX14_allMayMiss_0 13 rfl rfl)
theorem dX14_allMayMiss_14 : decode cX14_allMayMiss 14 = .ok (.ifCond .eq 16, 3) := dk_153 0 16 (dk_at dksX14_allMayMiss_0 14 rfl rfl)
theorem dX14_allMayMiss_17 : decode cX14_allMayMiss 17 = .ok (.aload_n 0, 1) := dk_42 (dk_at dksX14_allMayMiss_0 17 rfl rfl)
theorem dX14_allMayMiss_18 : decode cX14_allMayMiss 18 = .ok (.getfield 106, 3) := dk_180 0 106 (dk_at dksX14_allMayMiss_0 18 rfl rfl)
theorem dX14_allMayMiss_21 : decode cX14_allMayMiss 21 = .ok (.iload_n 3, 1) := dk_29 (dk_at dksX14_allMayMiss_0 21 rfl rfl)
theorem dX14_allMayMiss_22 : decode cX14_allMayMiss 22 = .ok (.iaload, 1) := dk_46 (dk_at dksX14_allMayMiss_0 22 rfl rfl)
theorem dX14_allMayMiss_23 : decode cX14_allMayMiss 23 = .ok (.ifCond .le 7, 3) := dk_158 0 7 (dk_at dksX14_allMayMiss_1 0 rfl rfl)
theorem dX14_allMayMiss_26 : decode cX14_allMayMiss 26 = .ok (.iconst 1, 1) := dk_4 (dk_at dksX14_allMayMiss_1 3 rfl rfl)
theorem dX14_allMayMiss_27 : decode cX14_allMayMiss 27 = .ok (.goto 4, 3) := dk_167 0 4 (dk_at dksX14_allMayMiss_1 4 rfl rfl)
theorem dX14_allMayMiss_30 : decode cX14_allMayMiss 30 = .ok (.iconst 0, 1) := dk_3 (dk_at dksX14_allMayMiss_1 7 rfl rfl)
theorem dX14_allMayMiss_31 : decode cX14_allMayMiss 31 = .ok (.istore_n 2, 1) := dk_61 (dk_at dksX14_allMayMiss_1 8 rfl rfl)
theorem dX14_allMayMiss_32 : decode cX14_allMayMiss 32 = .ok (.aload_n 0, 1) := dk_42 (dk_at dksX14_allMayMiss_1 9 rfl rfl)
theorem dX14_allMayMiss_33 : decode cX14_allMayMiss 33 = .ok (.getfield 112, 3) := dk_180 0 112 (dk_at dksX14_allMayMiss_1 10 rfl rfl)
theorem dX14_allMayMiss_36 : decode cX14_allMayMiss 36 = .ok (.iload_n 3, 1) := dk_29 (dk_at dksX14_allMayMiss_1 13 rfl rfl)
theorem dX14_allMayMiss_37 : decode cX14_allMayMiss 37 = .ok (.iaload, 1) := dk_46 (dk_at dksX14_allMayMiss_1 14 rfl rfl)
theorem dX14_allMayMiss_38 : decode cX14_allMayMiss 38 = .ok (.istore_n 3, 1) := dk_62 (dk_at dksX14_allMayMiss_1 15 rfl rfl)
theorem dX14_allMayMiss_39 : decode cX14_allMayMiss 39 = .ok (.goto (-30), 3) := dk_167 255 226 (dk_at dksX14_allMayMiss_1 16 rfl rfl)
theorem dX14_allMayMiss_42 : decode cX14_allMayMiss 42 = .ok (.iload_n 2, 1) := dk_28 (dk_at dksX14_allMayMiss_1 19 rfl rfl)
theorem dX14_allMayMiss_43 : decode cX14_allMayMiss 43 = .ok (.ireturn, 1) := dk_172 (dk_at dksX14_allMayMiss_1 20 rfl rfl)
