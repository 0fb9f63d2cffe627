set_option maxRecDepth 100000
abbrev cX14_keepValue : ByteArray := prog_15_method_124_code
def yX14_keepValue : MethodName := ⟨RX14, "keepValue", "(IZI)V"⟩
def dkwX14_keepValue_6 : List UInt8 := [132, 4, 1, 167, 255, 225, 42, 89, 180, 3, 36, 42, 180, 2, 170, 96, 181, 3, 36, 177]
abbrev dktX14_keepValue_6 : List UInt8 := dkwX14_keepValue_6 ++ []
def dkwX14_keepValue_5 : List UInt8 := [162, 0, 28, 42, 180, 0, 248, 42, 180, 3, 36, 21, 4, 96, 42, 180, 0, 236, 21, 4, 46, 79]
abbrev dktX14_keepValue_5 : List UInt8 := dkwX14_keepValue_5 ++ dktX14_keepValue_6
def dkwX14_keepValue_4 : List UInt8 := [180, 3, 36, 42, 180, 2, 170, 96, 104, 184, 1, 120, 181, 0, 248, 3, 54, 4, 21, 4, 42, 180, 2, 170]
abbrev dktX14_keepValue_4 : List UInt8 := dkwX14_keepValue_4 ++ dktX14_keepValue_5
def dkwX14_keepValue_3 : List UInt8 := [180, 3, 36, 42, 180, 2, 170, 96, 42, 180, 0, 248, 190, 164, 0, 25, 42, 42, 180, 0, 248, 5, 42]
abbrev dktX14_keepValue_3 : List UInt8 := dkwX14_keepValue_3 ++ dktX14_keepValue_4
def dkwX14_keepValue_2 : List UInt8 := [180, 0, 251, 27, 42, 180, 0, 251, 29, 46, 79, 177, 42, 180, 0, 251, 27, 42, 180, 3, 36, 79, 42]
abbrev dktX14_keepValue_2 : List UInt8 := dkwX14_keepValue_2 ++ dktX14_keepValue_3
def dkwX14_keepValue_1 : List UInt8 := [42, 180, 0, 254, 27, 42, 180, 2, 170, 79, 29, 155, 0, 24, 42, 29, 182, 3, 33, 153, 0, 16, 42]
abbrev dktX14_keepValue_1 : List UInt8 := dkwX14_keepValue_1 ++ dktX14_keepValue_2
def dkwX14_keepValue_0 : List UInt8 := [42, 180, 1, 1, 27, 28, 153, 0, 7, 4, 167, 0, 4, 5, 79, 28, 154, 0, 8, 42, 3, 181, 2, 170]
abbrev dktX14_keepValue_0 : List UInt8 := dkwX14_keepValue_0 ++ dktX14_keepValue_1
theorem dksX14_keepValue_0 : cX14_keepValue.data.toList.drop 0 = dktX14_keepValue_0 := by decide +kernel
theorem dksX14_keepValue_1 : cX14_keepValue.data.toList.drop 24 = dktX14_keepValue_1 := dk_seg dksX14_keepValue_0 24 rfl rfl
theorem dksX14_keepValue_2 : cX14_keepValue.data.toList.drop 47 = dktX14_keepValue_2 := dk_seg dksX14_keepValue_1 23 rfl rfl
theorem dksX14_keepValue_3 : cX14_keepValue.data.toList.drop 70 = dktX14_keepValue_3 := dk_seg dksX14_keepValue_2 23 rfl rfl
theorem dksX14_keepValue_4 : cX14_keepValue.data.toList.drop 93 = dktX14_keepValue_4 := dk_seg dksX14_keepValue_3 23 rfl rfl
theorem dksX14_keepValue_5 : cX14_keepValue.data.toList.drop 117 = dktX14_keepValue_5 := dk_seg dksX14_keepValue_4 24 rfl rfl
theorem dksX14_keepValue_6 : cX14_keepValue.data.toList.drop 139 = dktX14_keepValue_6 := dk_seg dksX14_keepValue_5 22 rfl rfl
theorem dX14_keepValue_0 : decode cX14_keepValue 0 = .ok (.aload_n 0, 1) := dk_42 (dk_at dksX14_keepValue_0 0 rfl rfl)
theorem dX14_keepValue_1 : decode cX14_keepValue 1 = .ok (.getfield 257, 3) := dk_180 1 1 (dk_at dksX14_keepValue_0 1 rfl rfl)
theorem dX14_keepValue_4 : decode cX14_keepValue 4 = .ok (.iload_n 1, 1) := dk_27 (dk_at dksX14_keepValue_0 4 rfl rfl)
theorem dX14_keepValue_5 : decode cX14_keepValue 5 = .ok (.iload_n 2, 1) := dk_28 (dk_at dksX14_keepValue_0 5 rfl rfl)
theorem dX14_keepValue_6 : decode cX14_keepValue 6 = .ok (.ifCond .eq 7, 3) := dk_153 0 7 (dk_at dksX14_keepValue_0 6 rfl rfl)
theorem dX14_keepValue_9 : decode cX14_keepValue 9 = .ok (.iconst 1, 1) := dk_4 (dk_at dksX14_keepValue_0 9 rfl rfl)
theorem dX14_keepValue_10 : decode cX14_keepValue 10 = .ok (.goto 4, 3) := dk_167 0 4 (dk_at dksX14_keepValue_0 10 rfl rfl)
theorem dX14_keepValue_13 : decode cX14_keepValue 13 = .ok (.iconst 2, 1) := dk_5 (dk_at dksX14_keepValue_0 13 rfl rfl)
theorem dX14_keepValue_14 : decode cX14_keepValue 14 = .ok (.iastore, 1) := dk_79 (dk_at dksX14_keepValue_0 14 rfl rfl)
theorem dX14_keepValue_15 : decode cX14_keepValue 15 = .ok (.iload_n 2, 1) := dk_28 (dk_at dksX14_keepValue_0 15 rfl rfl)
theorem dX14_keepValue_16 : decode cX14_keepValue 16 = .ok (.ifCond .ne 8, 3) := dk_154 0 8 (dk_at dksX14_keepValue_0 16 rfl rfl)
theorem dX14_keepValue_19 : decode cX14_keepValue 19 = .ok (.aload_n 0, 1) := dk_42 (dk_at dksX14_keepValue_0 19 rfl rfl)
theorem dX14_keepValue_20 : decode cX14_keepValue 20 = .ok (.iconst 0, 1) := dk_3 (dk_at dksX14_keepValue_0 20 rfl rfl)
theorem dX14_keepValue_21 : decode cX14_keepValue 21 = .ok (.putfield 682, 3) := dk_181 2 170 (dk_at dksX14_keepValue_0 21 rfl rfl)
theorem dX14_keepValue_24 : decode cX14_keepValue 24 = .ok (.aload_n 0, 1) := dk_42 (dk_at dksX14_keepValue_1 0 rfl rfl)
theorem dX14_keepValue_25 : decode cX14_keepValue 25 = .ok (.getfield 254, 3) := dk_180 0 254 (dk_at dksX14_keepValue_1 1 rfl rfl)
theorem dX14_keepValue_28 : decode cX14_keepValue 28 = .ok (.iload_n 1, 1) := dk_27 (dk_at dksX14_keepValue_1 4 rfl rfl)
theorem dX14_keepValue_29 : decode cX14_keepValue 29 = .ok (.aload_n 0, 1) := dk_42 (dk_at dksX14_keepValue_1 5 rfl rfl)
theorem dX14_keepValue_30 : decode cX14_keepValue 30 = .ok (.getfield 682, 3) := dk_180 2 170 (dk_at dksX14_keepValue_1 6 rfl rfl)
theorem dX14_keepValue_33 : decode cX14_keepValue 33 = .ok (.iastore, 1) := dk_79 (dk_at dksX14_keepValue_1 9 rfl rfl)
theorem dX14_keepValue_34 : decode cX14_keepValue 34 = .ok (.iload_n 3, 1) := dk_29 (dk_at dksX14_keepValue_1 10 rfl rfl)
theorem dX14_keepValue_35 : decode cX14_keepValue 35 = .ok (.ifCond .lt 24, 3) := dk_155 0 24 (dk_at dksX14_keepValue_1 11 rfl rfl)
theorem dX14_keepValue_38 : decode cX14_keepValue 38 = .ok (.aload_n 0, 1) := dk_42 (dk_at dksX14_keepValue_1 14 rfl rfl)
theorem dX14_keepValue_39 : decode cX14_keepValue 39 = .ok (.iload_n 3, 1) := dk_29 (dk_at dksX14_keepValue_1 15 rfl rfl)
theorem dX14_keepValue_40 : decode cX14_keepValue 40 = .ok (.invokevirtual 801, 3) := dk_182 3 33 (dk_at dksX14_keepValue_1 16 rfl rfl)
theorem dX14_keepValue_43 : decode cX14_keepValue 43 = .ok (.ifCond .eq 16, 3) := dk_153 0 16 (dk_at dksX14_keepValue_1 19 rfl rfl)
theorem dX14_keepValue_46 : decode cX14_keepValue 46 = .ok (.aload_n 0, 1) := dk_42 (dk_at dksX14_keepValue_1 22 rfl rfl)
theorem dX14_keepValue_47 : decode cX14_keepValue 47 = .ok (.getfield 251, 3) := dk_180 0 251 (dk_at dksX14_keepValue_2 0 rfl rfl)
theorem dX14_keepValue_50 : decode cX14_keepValue 50 = .ok (.iload_n 1, 1) := dk_27 (dk_at dksX14_keepValue_2 3 rfl rfl)
theorem dX14_keepValue_51 : decode cX14_keepValue 51 = .ok (.aload_n 0, 1) := dk_42 (dk_at dksX14_keepValue_2 4 rfl rfl)
theorem dX14_keepValue_52 : decode cX14_keepValue 52 = .ok (.getfield 251, 3) := dk_180 0 251 (dk_at dksX14_keepValue_2 5 rfl rfl)
theorem dX14_keepValue_55 : decode cX14_keepValue 55 = .ok (.iload_n 3, 1) := dk_29 (dk_at dksX14_keepValue_2 8 rfl rfl)
theorem dX14_keepValue_56 : decode cX14_keepValue 56 = .ok (.iaload, 1) := dk_46 (dk_at dksX14_keepValue_2 9 rfl rfl)
theorem dX14_keepValue_57 : decode cX14_keepValue 57 = .ok (.iastore, 1) := dk_79 (dk_at dksX14_keepValue_2 10 rfl rfl)
theorem dX14_keepValue_58 : decode cX14_keepValue 58 = .ok (.return_, 1) := dk_177 (dk_at dksX14_keepValue_2 11 rfl rfl)
theorem dX14_keepValue_59 : decode cX14_keepValue 59 = .ok (.aload_n 0, 1) := dk_42 (dk_at dksX14_keepValue_2 12 rfl rfl)
theorem dX14_keepValue_60 : decode cX14_keepValue 60 = .ok (.getfield 251, 3) := dk_180 0 251 (dk_at dksX14_keepValue_2 13 rfl rfl)
theorem dX14_keepValue_63 : decode cX14_keepValue 63 = .ok (.iload_n 1, 1) := dk_27 (dk_at dksX14_keepValue_2 16 rfl rfl)
theorem dX14_keepValue_64 : decode cX14_keepValue 64 = .ok (.aload_n 0, 1) := dk_42 (dk_at dksX14_keepValue_2 17 rfl rfl)
theorem dX14_keepValue_65 : decode cX14_keepValue 65 = .ok (.getfield 804, 3) := dk_180 3 36 (dk_at dksX14_keepValue_2 18 rfl rfl)
theorem dX14_keepValue_68 : decode cX14_keepValue 68 = .ok (.iastore, 1) := dk_79 (dk_at dksX14_keepValue_2 21 rfl rfl)
theorem dX14_keepValue_69 : decode cX14_keepValue 69 = .ok (.aload_n 0, 1) := dk_42 (dk_at dksX14_keepValue_2 22 rfl rfl)
theorem dX14_keepValue_70 : decode cX14_keepValue 70 = .ok (.getfield 804, 3) := dk_180 3 36 (dk_at dksX14_keepValue_3 0 rfl rfl)
theorem dX14_keepValue_73 : decode cX14_keepValue 73 = .ok (.aload_n 0, 1) := dk_42 (dk_at dksX14_keepValue_3 3 rfl rfl)
theorem dX14_keepValue_74 : decode cX14_keepValue 74 = .ok (.getfield 682, 3) := dk_180 2 170 (dk_at dksX14_keepValue_3 4 rfl rfl)
theorem dX14_keepValue_77 : decode cX14_keepValue 77 = .ok (.iadd, 1) := dk_96 (dk_at dksX14_keepValue_3 7 rfl rfl)
theorem dX14_keepValue_78 : decode cX14_keepValue 78 = .ok (.aload_n 0, 1) := dk_42 (dk_at dksX14_keepValue_3 8 rfl rfl)
theorem dX14_keepValue_79 : decode cX14_keepValue 79 = .ok (.getfield 248, 3) := dk_180 0 248 (dk_at dksX14_keepValue_3 9 rfl rfl)
theorem dX14_keepValue_82 : decode cX14_keepValue 82 = .ok (.arraylength, 1) := dk_190 (dk_at dksX14_keepValue_3 12 rfl rfl)
theorem dX14_keepValue_83 : decode cX14_keepValue 83 = .ok (.if_icmp .le 25, 3) := dk_164 0 25 (dk_at dksX14_keepValue_3 13 rfl rfl)
theorem dX14_keepValue_86 : decode cX14_keepValue 86 = .ok (.aload_n 0, 1) := dk_42 (dk_at dksX14_keepValue_3 16 rfl rfl)
theorem dX14_keepValue_87 : decode cX14_keepValue 87 = .ok (.aload_n 0, 1) := dk_42 (dk_at dksX14_keepValue_3 17 rfl rfl)
theorem dX14_keepValue_88 : decode cX14_keepValue 88 = .ok (.getfield 248, 3) := dk_180 0 248 (dk_at dksX14_keepValue_3 18 rfl rfl)
theorem dX14_keepValue_91 : decode cX14_keepValue 91 = .ok (.iconst 2, 1) := dk_5 (dk_at dksX14_keepValue_3 21 rfl rfl)
theorem dX14_keepValue_92 : decode cX14_keepValue 92 = .ok (.aload_n 0, 1) := dk_42 (dk_at dksX14_keepValue_3 22 rfl rfl)
theorem dX14_keepValue_93 : decode cX14_keepValue 93 = .ok (.getfield 804, 3) := dk_180 3 36 (dk_at dksX14_keepValue_4 0 rfl rfl)
theorem dX14_keepValue_96 : decode cX14_keepValue 96 = .ok (.aload_n 0, 1) := dk_42 (dk_at dksX14_keepValue_4 3 rfl rfl)
theorem dX14_keepValue_97 : decode cX14_keepValue 97 = .ok (.getfield 682, 3) := dk_180 2 170 (dk_at dksX14_keepValue_4 4 rfl rfl)
theorem dX14_keepValue_100 : decode cX14_keepValue 100 = .ok (.iadd, 1) := dk_96 (dk_at dksX14_keepValue_4 7 rfl rfl)
theorem dX14_keepValue_101 : decode cX14_keepValue 101 = .ok (.imul, 1) := dk_104 (dk_at dksX14_keepValue_4 8 rfl rfl)
theorem dX14_keepValue_102 : decode cX14_keepValue 102 = .ok (.invokestatic 376, 3) := dk_184 1 120 (dk_at dksX14_keepValue_4 9 rfl rfl)
theorem dX14_keepValue_105 : decode cX14_keepValue 105 = .ok (.putfield 248, 3) := dk_181 0 248 (dk_at dksX14_keepValue_4 12 rfl rfl)
theorem dX14_keepValue_108 : decode cX14_keepValue 108 = .ok (.iconst 0, 1) := dk_3 (dk_at dksX14_keepValue_4 15 rfl rfl)
theorem dX14_keepValue_109 : decode cX14_keepValue 109 = .ok (.istore 4, 2) := dk_54 4 (dk_at dksX14_keepValue_4 16 rfl rfl)
theorem dX14_keepValue_111 : decode cX14_keepValue 111 = .ok (.iload 4, 2) := dk_21 4 (dk_at dksX14_keepValue_4 18 rfl rfl)
theorem dX14_keepValue_113 : decode cX14_keepValue 113 = .ok (.aload_n 0, 1) := dk_42 (dk_at dksX14_keepValue_4 20 rfl rfl)
theorem dX14_keepValue_114 : decode cX14_keepValue 114 = .ok (.getfield 682, 3) := dk_180 2 170 (dk_at dksX14_keepValue_4 21 rfl rfl)
theorem dX14_keepValue_117 : decode cX14_keepValue 117 = .ok (.if_icmp .ge 28, 3) := dk_162 0 28 (dk_at dksX14_keepValue_5 0 rfl rfl)
theorem dX14_keepValue_120 : decode cX14_keepValue 120 = .ok (.aload_n 0, 1) := dk_42 (dk_at dksX14_keepValue_5 3 rfl rfl)
theorem dX14_keepValue_121 : decode cX14_keepValue 121 = .ok (.getfield 248, 3) := dk_180 0 248 (dk_at dksX14_keepValue_5 4 rfl rfl)
theorem dX14_keepValue_124 : decode cX14_keepValue 124 = .ok (.aload_n 0, 1) := dk_42 (dk_at dksX14_keepValue_5 7 rfl rfl)
theorem dX14_keepValue_125 : decode cX14_keepValue 125 = .ok (.getfield 804, 3) := dk_180 3 36 (dk_at dksX14_keepValue_5 8 rfl rfl)
theorem dX14_keepValue_128 : decode cX14_keepValue 128 = .ok (.iload 4, 2) := dk_21 4 (dk_at dksX14_keepValue_5 11 rfl rfl)
theorem dX14_keepValue_130 : decode cX14_keepValue 130 = .ok (.iadd, 1) := dk_96 (dk_at dksX14_keepValue_5 13 rfl rfl)
theorem dX14_keepValue_131 : decode cX14_keepValue 131 = .ok (.aload_n 0, 1) := dk_42 (dk_at dksX14_keepValue_5 14 rfl rfl)
theorem dX14_keepValue_132 : decode cX14_keepValue 132 = .ok (.getfield 236, 3) := dk_180 0 236 (dk_at dksX14_keepValue_5 15 rfl rfl)
theorem dX14_keepValue_135 : decode cX14_keepValue 135 = .ok (.iload 4, 2) := dk_21 4 (dk_at dksX14_keepValue_5 18 rfl rfl)
theorem dX14_keepValue_137 : decode cX14_keepValue 137 = .ok (.iaload, 1) := dk_46 (dk_at dksX14_keepValue_5 20 rfl rfl)
theorem dX14_keepValue_138 : decode cX14_keepValue 138 = .ok (.iastore, 1) := dk_79 (dk_at dksX14_keepValue_5 21 rfl rfl)
theorem dX14_keepValue_139 : decode cX14_keepValue 139 = .ok (.iinc 4 1, 3) := dk_132 4 1 (dk_at dksX14_keepValue_6 0 rfl rfl)
theorem dX14_keepValue_142 : decode cX14_keepValue 142 = .ok (.goto (-31), 3) := dk_167 255 225 (dk_at dksX14_keepValue_6 3 rfl rfl)
theorem dX14_keepValue_145 : decode cX14_keepValue 145 = .ok (.aload_n 0, 1) := dk_42 (dk_at dksX14_keepValue_6 6 rfl rfl)
theorem dX14_keepValue_146 : decode cX14_keepValue 146 = .ok (.dup, 1) := dk_89 (dk_at dksX14_keepValue_6 7 rfl rfl)
theorem dX14_keepValue_147 : decode cX14_keepValue 147 = .ok (.getfield 804, 3) := dk_180 3 36 (dk_at dksX14_keepValue_6 8 rfl rfl)
theorem dX14_keepValue_150 : decode cX14_keepValue 150 = .ok (.aload_n 0, 1) := dk_42 (dk_at dksX14_keepValue_6 11 rfl rfl)
theorem dX14_keepValue_151 : decode cX14_keepValue 151 = .ok (.getfield 682, 3) := dk_180 2 170 (dk_at dksX14_keepValue_6 12 rfl rfl)
theorem dX14_keepValue_154 : decode cX14_keepValue 154 = .ok (.iadd, 1) := dk_96 (dk_at dksX14_keepValue_6 15 rfl rfl)
theorem dX14_keepValue_155 : decode cX14_keepValue 155 = .ok (.putfield 804, 3) := dk_181 3 36 (dk_at dksX14_keepValue_6 16 rfl rfl)
theorem dX14_keepValue_158 : decode cX14_keepValue 158 = .ok (.return_, 1) := dk_177 (dk_at dksX14_keepValue_6 19 rfl rfl)
abbrev cX14_isWritten : ByteArray := prog_15_method_123_code
def yX14_isWritten : MethodName := ⟨RX14, "isWritten", "(I)Z"⟩
def dkwX14_isWritten_2 : List UInt8 := [180, 0, 236, 29, 46, 160, 0, 7, 4, 167, 0, 4, 3, 61, 132, 3, 1, 167, 255, 213, 28, 172]
abbrev dktX14_isWritten_2 : List UInt8 := dkwX14_isWritten_2 ++ []
def dkwX14_isWritten_1 : List UInt8 := [180, 2, 170, 162, 0, 41, 28, 153, 0, 37, 42, 180, 0, 248, 42, 180, 0, 251, 27, 46, 29, 96, 46, 42]
abbrev dktX14_isWritten_1 : List UInt8 := dkwX14_isWritten_1 ++ dktX14_isWritten_2
def dkwX14_isWritten_0 : List UInt8 := [42, 180, 0, 254, 27, 46, 42, 180, 2, 170, 160, 0, 7, 4, 167, 0, 4, 3, 61, 3, 62, 29, 42]
abbrev dktX14_isWritten_0 : List UInt8 := dkwX14_isWritten_0 ++ dktX14_isWritten_1
theorem dksX14_isWritten_0 : cX14_isWritten.data.toList.drop 0 = dktX14_isWritten_0 := by decide +kernel
theorem dksX14_isWritten_1 : cX14_isWritten.data.toList.drop 23 = dktX14_isWritten_1 := dk_seg dksX14_isWritten_0 23 rfl rfl
theorem dksX14_isWritten_2 : cX14_isWritten.data.toList.drop 47 = dktX14_isWritten_2 := dk_seg dksX14_isWritten_1 24 rfl rfl
theorem dX14_isWritten_0 : decode cX14_isWritten 0 = .ok (.aload_n 0, 1) := dk_42 (dk_at dksX14_isWritten_0 0 rfl rfl)
theorem dX14_isWritten_1 : decode cX14_isWritten 1 = .ok (.getfield 254, 3) := dk_180 0 254 (dk_at dksX14_isWritten_0 1 rfl rfl)
theorem dX14_isWritten_4 : decode cX14_isWritten 4 = .ok (.iload_n 1, 1) := dk_27 (dk_at dksX14_isWritten_0 4 rfl rfl)
theorem dX14_isWritten_5 : decode cX14_isWritten 5 = .ok (.iaload, 1) := dk_46 (dk_at dksX14_isWritten_0 5 rfl rfl)
theorem dX14_isWritten_6 : decode cX14_isWritten 6 = .ok (.aload_n 0, 1) := dk_42 (dk_at dksX14_isWritten_0 6 rfl rfl)
theorem dX14_isWritten_7 : decode cX14_isWritten 7 = .ok (.getfield 682, 3) := dk_180 2 170 (dk_at dksX14_isWritten_0 7 rfl rfl)
theorem dX14_isWritten_10 : decode cX14_isWritten 10 = .ok (.if_icmp .ne 7, 3) := dk_160 0 7 (dk_at dksX14_isWritten_0 10 rfl rfl)
theorem dX14_isWritten_13 : decode cX14_isWritten 13 = .ok (.iconst 1, 1) := dk_4 (dk_at dksX14_isWritten_0 13 rfl rfl)
theorem dX14_isWritten_14 : decode cX14_isWritten 14 = .ok (.goto 4, 3) := dk_167 0 4 (dk_at dksX14_isWritten_0 14 rfl rfl)
theorem dX14_isWritten_17 : decode cX14_isWritten 17 = .ok (.iconst 0, 1) := dk_3 (dk_at dksX14_isWritten_0 17 rfl rfl)
theorem dX14_isWritten_18 : decode cX14_isWritten 18 = .ok (.istore_n 2, 1) := dk_61 (dk_at dksX14_isWritten_0 18 rfl rfl)
theorem dX14_isWritten_19 : decode cX14_isWritten 19 = .ok (.iconst 0, 1) := dk_3 (dk_at dksX14_isWritten_0 19 rfl rfl)
theorem dX14_isWritten_20 : decode cX14_isWritten 20 = .ok (.istore_n 3, 1) := dk_62 (dk_at dksX14_isWritten_0 20 rfl rfl)
theorem dX14_isWritten_21 : decode cX14_isWritten 21 = .ok (.iload_n 3, 1) := dk_29 (dk_at dksX14_isWritten_0 21 rfl rfl)
theorem dX14_isWritten_22 : decode cX14_isWritten 22 = .ok (.aload_n 0, 1) := dk_42 (dk_at dksX14_isWritten_0 22 rfl rfl)
theorem dX14_isWritten_23 : decode cX14_isWritten 23 = .ok (.getfield 682, 3) := dk_180 2 170 (dk_at dksX14_isWritten_1 0 rfl rfl)
theorem dX14_isWritten_26 : decode cX14_isWritten 26 = .ok (.if_icmp .ge 41, 3) := dk_162 0 41 (dk_at dksX14_isWritten_1 3 rfl rfl)
theorem dX14_isWritten_29 : decode cX14_isWritten 29 = .ok (.iload_n 2, 1) := dk_28 (dk_at dksX14_isWritten_1 6 rfl rfl)
theorem dX14_isWritten_30 : decode cX14_isWritten 30 = .ok (.ifCond .eq 37, 3) := dk_153 0 37 (dk_at dksX14_isWritten_1 7 rfl rfl)
theorem dX14_isWritten_33 : decode cX14_isWritten 33 = .ok (.aload_n 0, 1) := dk_42 (dk_at dksX14_isWritten_1 10 rfl rfl)
theorem dX14_isWritten_34 : decode cX14_isWritten 34 = .ok (.getfield 248, 3) := dk_180 0 248 (dk_at dksX14_isWritten_1 11 rfl rfl)
theorem dX14_isWritten_37 : decode cX14_isWritten 37 = .ok (.aload_n 0, 1) := dk_42 (dk_at dksX14_isWritten_1 14 rfl rfl)
theorem dX14_isWritten_38 : decode cX14_isWritten 38 = .ok (.getfield 251, 3) := dk_180 0 251 (dk_at dksX14_isWritten_1 15 rfl rfl)
theorem dX14_isWritten_41 : decode cX14_isWritten 41 = .ok (.iload_n 1, 1) := dk_27 (dk_at dksX14_isWritten_1 18 rfl rfl)
theorem dX14_isWritten_42 : decode cX14_isWritten 42 = .ok (.iaload, 1) := dk_46 (dk_at dksX14_isWritten_1 19 rfl rfl)
theorem dX14_isWritten_43 : decode cX14_isWritten 43 = .ok (.iload_n 3, 1) := dk_29 (dk_at dksX14_isWritten_1 20 rfl rfl)
theorem dX14_isWritten_44 : decode cX14_isWritten 44 = .ok (.iadd, 1) := dk_96 (dk_at dksX14_isWritten_1 21 rfl rfl)
theorem dX14_isWritten_45 : decode cX14_isWritten 45 = .ok (.iaload, 1) := dk_46 (dk_at dksX14_isWritten_1 22 rfl rfl)
theorem dX14_isWritten_46 : decode cX14_isWritten 46 = .ok (.aload_n 0, 1) := dk_42 (dk_at dksX14_isWritten_1 23 rfl rfl)
theorem dX14_isWritten_47 : decode cX14_isWritten 47 = .ok (.getfield 236, 3) := dk_180 0 236 (dk_at dksX14_isWritten_2 0 rfl rfl)
theorem dX14_isWritten_50 : decode cX14_isWritten 50 = .ok (.iload_n 3, 1) := dk_29 (dk_at dksX14_isWritten_2 3 rfl rfl)
theorem dX14_isWritten_51 : decode cX14_isWritten 51 = .ok (.iaload, 1) := dk_46 (dk_at dksX14_isWritten_2 4 rfl rfl)
theorem dX14_isWritten_52 : decode cX14_isWritten 52 = .ok (.if_icmp .ne 7, 3) := dk_160 0 7 (dk_at dksX14_isWritten_2 5 rfl rfl)
theorem dX14_isWritten_55 : decode cX14_isWritten 55 = .ok (.iconst 1, 1) := dk_4 (dk_at dksX14_isWritten_2 8 rfl rfl)
theorem dX14_isWritten_56 : decode cX14_isWritten 56 = .ok (.goto 4, 3) := dk_167 0 4 (dk_at dksX14_isWritten_2 9 rfl rfl)
theorem dX14_isWritten_59 : decode cX14_isWritten 59 = .ok (.iconst 0, 1) := dk_3 (dk_at dksX14_isWritten_2 12 rfl rfl)
theorem dX14_isWritten_60 : decode cX14_isWritten 60 = .ok (.istore_n 2, 1) := dk_61 (dk_at dksX14_isWritten_2 13 rfl rfl)
theorem dX14_isWritten_61 : decode cX14_isWritten 61 = .ok (.iinc 3 1, 3) := dk_132 3 1 (dk_at dksX14_isWritten_2 14 rfl rfl)
theorem dX14_isWritten_64 : decode cX14_isWritten 64 = .ok (.goto (-43), 3) := dk_167 255 213 (dk_at dksX14_isWritten_2 17 rfl rfl)
theorem dX14_isWritten_67 : decode cX14_isWritten 67 = .ok (.iload_n 2, 1) := dk_28 (dk_at dksX14_isWritten_2 20 rfl rfl)
theorem dX14_isWritten_68 : decode cX14_isWritten 68 = .ok (.ireturn, 1) := dk_172 (dk_at dksX14_isWritten_2 21 rfl rfl)
abbrev cX14_derived : ByteArray := prog_15_method_122_code
def yX14_derived : MethodName := ⟨RX14, "derived", "(II)Z"⟩
def dkwX14_derived_13 : List UInt8 := [42, 180, 2, 170, 182, 2, 182, 153, 0, 7, 4, 167, 0, 4, 3, 172]
abbrev dktX14_derived_13 : List UInt8 := dkwX14_derived_13 ++ []
def dkwX14_derived_12 : List UInt8 := [21, 5, 16, 15, 160, 0, 10, 42, 29, 3, 182, 2, 182, 172, 21, 5, 184, 2, 150, 153, 0, 15, 42, 29]
abbrev dktX14_derived_12 : List UInt8 := dkwX14_derived_12 ++ dktX14_derived_13
def dkwX14_derived_11 : List UInt8 := [159, 0, 10, 21, 5, 16, 13, 160, 0, 10, 42, 21, 4, 182, 3, 15, 172, 21, 5, 16, 14, 159, 0, 10]
abbrev dktX14_derived_11 : List UInt8 := dkwX14_derived_11 ++ dktX14_derived_12
def dkwX14_derived_10 : List UInt8 := [153, 0, 16, 42, 21, 4, 182, 3, 6, 153, 0, 7, 4, 167, 0, 4, 3, 172, 21, 5, 16, 12]
abbrev dktX14_derived_10 : List UInt8 := dkwX14_derived_10 ++ dktX14_derived_11
def dkwX14_derived_9 : List UInt8 := [21, 6, 16, 8, 112, 100, 122, 4, 126, 182, 2, 188, 132, 6, 1, 167, 255, 205, 42, 29, 182, 3, 3]
abbrev dktX14_derived_9 : List UInt8 := dkwX14_derived_9 ++ dktX14_derived_10
def dkwX14_derived_8 : List UInt8 := [180, 0, 236, 3, 46, 100, 162, 0, 36, 42, 42, 180, 0, 236, 4, 21, 6, 16, 8, 108, 96, 46, 16, 7]
abbrev dktX14_derived_8 : List UInt8 := dkwX14_derived_8 ++ dktX14_derived_9
def dkwX14_derived_7 : List UInt8 := [160, 0, 88, 42, 3, 181, 2, 173, 3, 54, 6, 21, 6, 16, 8, 42, 180, 2, 170, 4, 100, 104, 42]
abbrev dktX14_derived_7 : List UInt8 := dkwX14_derived_7 ++ dktX14_derived_8
def dkwX14_derived_6 : List UInt8 := [182, 2, 97, 54, 9, 42, 21, 7, 181, 1, 199, 42, 21, 6, 181, 1, 196, 21, 9, 172, 21, 5, 7]
abbrev dktX14_derived_6 : List UInt8 := dkwX14_derived_6 ++ dktX14_derived_7
def dkwX14_derived_5 : List UInt8 := [21, 5, 5, 160, 0, 14, 42, 29, 21, 8, 3, 182, 2, 166, 167, 0, 11, 42, 21, 4, 21, 8]
abbrev dktX14_derived_5 : List UInt8 := dkwX14_derived_5 ++ dktX14_derived_6
def dkwX14_derived_4 : List UInt8 := [21, 5, 6, 160, 0, 63, 42, 180, 1, 196, 54, 6, 42, 180, 1, 199, 54, 7, 42, 182, 3, 30, 54, 8]
abbrev dktX14_derived_4 : List UInt8 := dkwX14_derived_4 ++ dktX14_derived_5
def dkwX14_derived_3 : List UInt8 := [180, 0, 251, 28, 46, 21, 6, 96, 46, 182, 2, 176, 132, 6, 1, 167, 255, 224, 21, 5, 5, 159, 0, 9]
abbrev dktX14_derived_3 : List UInt8 := dkwX14_derived_3 ++ dktX14_derived_4
def dkwX14_derived_2 : List UInt8 := [181, 2, 170, 3, 54, 6, 21, 6, 42, 180, 0, 254, 28, 46, 162, 0, 27, 42, 42, 180, 0, 248, 42]
abbrev dktX14_derived_2 : List UInt8 := dkwX14_derived_2 ++ dktX14_derived_3
def dkwX14_derived_1 : List UInt8 := [21, 5, 42, 180, 0, 42, 42, 42, 180, 0, 166, 28, 46, 182, 2, 100, 46, 159, 0, 5, 3, 172, 42, 3]
abbrev dktX14_derived_1 : List UInt8 := dkwX14_derived_1 ++ dktX14_derived_2
def dkwX14_derived_0 : List UInt8 := [42, 180, 0, 166, 27, 46, 62, 42, 29, 182, 2, 100, 54, 4, 42, 180, 0, 42, 21, 4, 46, 54, 5]
abbrev dktX14_derived_0 : List UInt8 := dkwX14_derived_0 ++ dktX14_derived_1
theorem dksX14_derived_0 : cX14_derived.data.toList.drop 0 = dktX14_derived_0 := by decide +kernel
theorem dksX14_derived_1 : cX14_derived.data.toList.drop 23 = dktX14_derived_1 := dk_seg dksX14_derived_0 23 rfl rfl
theorem dksX14_derived_2 : cX14_derived.data.toList.drop 47 = dktX14_derived_2 := dk_seg dksX14_derived_1 24 rfl rfl
theorem dksX14_derived_3 : cX14_derived.data.toList.drop 70 = dktX14_derived_3 := dk_seg dksX14_derived_2 23 rfl rfl
theorem dksX14_derived_4 : cX14_derived.data.toList.drop 94 = dktX14_derived_4 := dk_seg dksX14_derived_3 24 rfl rfl
theorem dksX14_derived_5 : cX14_derived.data.toList.drop 118 = dktX14_derived_5 := dk_seg dksX14_derived_4 24 rfl rfl
theorem dksX14_derived_6 : cX14_derived.data.toList.drop 140 = dktX14_derived_6 := dk_seg dksX14_derived_5 22 rfl rfl
theorem dksX14_derived_7 : cX14_derived.data.toList.drop 163 = dktX14_derived_7 := dk_seg dksX14_derived_6 23 rfl rfl
theorem dksX14_derived_8 : cX14_derived.data.toList.drop 186 = dktX14_derived_8 := dk_seg dksX14_derived_7 23 rfl rfl
theorem dksX14_derived_9 : cX14_derived.data.toList.drop 210 = dktX14_derived_9 := dk_seg dksX14_derived_8 24 rfl rfl
theorem dksX14_derived_10 : cX14_derived.data.toList.drop 233 = dktX14_derived_10 := dk_seg dksX14_derived_9 23 rfl rfl
theorem dksX14_derived_11 : cX14_derived.data.toList.drop 255 = dktX14_derived_11 := dk_seg dksX14_derived_10 22 rfl rfl
theorem dksX14_derived_12 : cX14_derived.data.toList.drop 279 = dktX14_derived_12 := dk_seg dksX14_derived_11 24 rfl rfl
theorem dksX14_derived_13 : cX14_derived.data.toList.drop 303 = dktX14_derived_13 := dk_seg dksX14_derived_12 24 rfl rfl
theorem dX14_derived_0 : decode cX14_derived 0 = .ok (.aload_n 0, 1) := dk_42 (dk_at dksX14_derived_0 0 rfl rfl)
theorem dX14_derived_1 : decode cX14_derived 1 = .ok (.getfield 166, 3) := dk_180 0 166 (dk_at dksX14_derived_0 1 rfl rfl)
theorem dX14_derived_4 : decode cX14_derived 4 = .ok (.iload_n 1, 1) := dk_27 (dk_at dksX14_derived_0 4 rfl rfl)
theorem dX14_derived_5 : decode cX14_derived 5 = .ok (.iaload, 1) := dk_46 (dk_at dksX14_derived_0 5 rfl rfl)
theorem dX14_derived_6 : decode cX14_derived 6 = .ok (.istore_n 3, 1) := dk_62 (dk_at dksX14_derived_0 6 rfl rfl)
theorem dX14_derived_7 : decode cX14_derived 7 = .ok (.aload_n 0, 1) := dk_42 (dk_at dksX14_derived_0 7 rfl rfl)
theorem dX14_derived_8 : decode cX14_derived 8 = .ok (.iload_n 3, 1) := dk_29 (dk_at dksX14_derived_0 8 rfl rfl)
theorem dX14_derived_9 : decode cX14_derived 9 = .ok (.invokevirtual 612, 3) := dk_182 2 100 (dk_at dksX14_derived_0 9 rfl rfl)
theorem dX14_derived_12 : decode cX14_derived 12 = .ok (.istore 4, 2) := dk_54 4 (dk_at dksX14_derived_0 12 rfl rfl)
theorem dX14_derived_14 : decode cX14_derived 14 = .ok (.aload_n 0, 1) := dk_42 (dk_at dksX14_derived_0 14 rfl rfl)
theorem dX14_derived_15 : decode cX14_derived 15 = .ok (.getfield 42, 3) := dk_180 0 42 (dk_at dksX14_derived_0 15 rfl rfl)
theorem dX14_derived_18 : decode cX14_derived 18 = .ok (.iload 4, 2) := dk_21 4 (dk_at dksX14_derived_0 18 rfl rfl)
theorem dX14_derived_20 : decode cX14_derived 20 = .ok (.iaload, 1) := dk_46 (dk_at dksX14_derived_0 20 rfl rfl)
theorem dX14_derived_21 : decode cX14_derived 21 = .ok (.istore 5, 2) := dk_54 5 (dk_at dksX14_derived_0 21 rfl rfl)
theorem dX14_derived_23 : decode cX14_derived 23 = .ok (.iload 5, 2) := dk_21 5 (dk_at dksX14_derived_1 0 rfl rfl)
theorem dX14_derived_25 : decode cX14_derived 25 = .ok (.aload_n 0, 1) := dk_42 (dk_at dksX14_derived_1 2 rfl rfl)
theorem dX14_derived_26 : decode cX14_derived 26 = .ok (.getfield 42, 3) := dk_180 0 42 (dk_at dksX14_derived_1 3 rfl rfl)
theorem dX14_derived_29 : decode cX14_derived 29 = .ok (.aload_n 0, 1) := dk_42 (dk_at dksX14_derived_1 6 rfl rfl)
theorem dX14_derived_30 : decode cX14_derived 30 = .ok (.aload_n 0, 1) := dk_42 (dk_at dksX14_derived_1 7 rfl rfl)
theorem dX14_derived_31 : decode cX14_derived 31 = .ok (.getfield 166, 3) := dk_180 0 166 (dk_at dksX14_derived_1 8 rfl rfl)
theorem dX14_derived_34 : decode cX14_derived 34 = .ok (.iload_n 2, 1) := dk_28 (dk_at dksX14_derived_1 11 rfl rfl)
theorem dX14_derived_35 : decode cX14_derived 35 = .ok (.iaload, 1) := dk_46 (dk_at dksX14_derived_1 12 rfl rfl)
theorem dX14_derived_36 : decode cX14_derived 36 = .ok (.invokevirtual 612, 3) := dk_182 2 100 (dk_at dksX14_derived_1 13 rfl rfl)
theorem dX14_derived_39 : decode cX14_derived 39 = .ok (.iaload, 1) := dk_46 (dk_at dksX14_derived_1 16 rfl rfl)
theorem dX14_derived_40 : decode cX14_derived 40 = .ok (.if_icmp .eq 5, 3) := dk_159 0 5 (dk_at dksX14_derived_1 17 rfl rfl)
theorem dX14_derived_43 : decode cX14_derived 43 = .ok (.iconst 0, 1) := dk_3 (dk_at dksX14_derived_1 20 rfl rfl)
theorem dX14_derived_44 : decode cX14_derived 44 = .ok (.ireturn, 1) := dk_172 (dk_at dksX14_derived_1 21 rfl rfl)
theorem dX14_derived_45 : decode cX14_derived 45 = .ok (.aload_n 0, 1) := dk_42 (dk_at dksX14_derived_1 22 rfl rfl)
theorem dX14_derived_46 : decode cX14_derived 46 = .ok (.iconst 0, 1) := dk_3 (dk_at dksX14_derived_1 23 rfl rfl)
theorem dX14_derived_47 : decode cX14_derived 47 = .ok (.putfield 682, 3) := dk_181 2 170 (dk_at dksX14_derived_2 0 rfl rfl)
theorem dX14_derived_50 : decode cX14_derived 50 = .ok (.iconst 0, 1) := dk_3 (dk_at dksX14_derived_2 3 rfl rfl)
theorem dX14_derived_51 : decode cX14_derived 51 = .ok (.istore 6, 2) := dk_54 6 (dk_at dksX14_derived_2 4 rfl rfl)
theorem dX14_derived_53 : decode cX14_derived 53 = .ok (.iload 6, 2) := dk_21 6 (dk_at dksX14_derived_2 6 rfl rfl)
theorem dX14_derived_55 : decode cX14_derived 55 = .ok (.aload_n 0, 1) := dk_42 (dk_at dksX14_derived_2 8 rfl rfl)
theorem dX14_derived_56 : decode cX14_derived 56 = .ok (.getfield 254, 3) := dk_180 0 254 (dk_at dksX14_derived_2 9 rfl rfl)
theorem dX14_derived_59 : decode cX14_derived 59 = .ok (.iload_n 2, 1) := dk_28 (dk_at dksX14_derived_2 12 rfl rfl)
theorem dX14_derived_60 : decode cX14_derived 60 = .ok (.iaload, 1) := dk_46 (dk_at dksX14_derived_2 13 rfl rfl)
theorem dX14_derived_61 : decode cX14_derived 61 = .ok (.if_icmp .ge 27, 3) := dk_162 0 27 (dk_at dksX14_derived_2 14 rfl rfl)
theorem dX14_derived_64 : decode cX14_derived 64 = .ok (.aload_n 0, 1) := dk_42 (dk_at dksX14_derived_2 17 rfl rfl)
theorem dX14_derived_65 : decode cX14_derived 65 = .ok (.aload_n 0, 1) := dk_42 (dk_at dksX14_derived_2 18 rfl rfl)
theorem dX14_derived_66 : decode cX14_derived 66 = .ok (.getfield 248, 3) := dk_180 0 248 (dk_at dksX14_derived_2 19 rfl rfl)
theorem dX14_derived_69 : decode cX14_derived 69 = .ok (.aload_n 0, 1) := dk_42 (dk_at dksX14_derived_2 22 rfl rfl)
theorem dX14_derived_70 : decode cX14_derived 70 = .ok (.getfield 251, 3) := dk_180 0 251 (dk_at dksX14_derived_3 0 rfl rfl)
theorem dX14_derived_73 : decode cX14_derived 73 = .ok (.iload_n 2, 1) := dk_28 (dk_at dksX14_derived_3 3 rfl rfl)
theorem dX14_derived_74 : decode cX14_derived 74 = .ok (.iaload, 1) := dk_46 (dk_at dksX14_derived_3 4 rfl rfl)
theorem dX14_derived_75 : decode cX14_derived 75 = .ok (.iload 6, 2) := dk_21 6 (dk_at dksX14_derived_3 5 rfl rfl)
theorem dX14_derived_77 : decode cX14_derived 77 = .ok (.iadd, 1) := dk_96 (dk_at dksX14_derived_3 7 rfl rfl)
theorem dX14_derived_78 : decode cX14_derived 78 = .ok (.iaload, 1) := dk_46 (dk_at dksX14_derived_3 8 rfl rfl)
theorem dX14_derived_79 : decode cX14_derived 79 = .ok (.invokevirtual 688, 3) := dk_182 2 176 (dk_at dksX14_derived_3 9 rfl rfl)
theorem dX14_derived_82 : decode cX14_derived 82 = .ok (.iinc 6 1, 3) := dk_132 6 1 (dk_at dksX14_derived_3 12 rfl rfl)
theorem dX14_derived_85 : decode cX14_derived 85 = .ok (.goto (-32), 3) := dk_167 255 224 (dk_at dksX14_derived_3 15 rfl rfl)
theorem dX14_derived_88 : decode cX14_derived 88 = .ok (.iload 5, 2) := dk_21 5 (dk_at dksX14_derived_3 18 rfl rfl)
theorem dX14_derived_90 : decode cX14_derived 90 = .ok (.iconst 2, 1) := dk_5 (dk_at dksX14_derived_3 20 rfl rfl)
theorem dX14_derived_91 : decode cX14_derived 91 = .ok (.if_icmp .eq 9, 3) := dk_159 0 9 (dk_at dksX14_derived_3 21 rfl rfl)
theorem dX14_derived_94 : decode cX14_derived 94 = .ok (.iload 5, 2) := dk_21 5 (dk_at dksX14_derived_4 0 rfl rfl)
theorem dX14_derived_96 : decode cX14_derived 96 = .ok (.iconst 3, 1) := dk_6 (dk_at dksX14_derived_4 2 rfl rfl)
theorem dX14_derived_97 : decode cX14_derived 97 = .ok (.if_icmp .ne 63, 3) := dk_160 0 63 (dk_at dksX14_derived_4 3 rfl rfl)
theorem dX14_derived_100 : decode cX14_derived 100 = .ok (.aload_n 0, 1) := dk_42 (dk_at dksX14_derived_4 6 rfl rfl)
theorem dX14_derived_101 : decode cX14_derived 101 = .ok (.getfield 452, 3) := dk_180 1 196 (dk_at dksX14_derived_4 7 rfl rfl)
theorem dX14_derived_104 : decode cX14_derived 104 = .ok (.istore 6, 2) := dk_54 6 (dk_at dksX14_derived_4 10 rfl rfl)
theorem dX14_derived_106 : decode cX14_derived 106 = .ok (.aload_n 0, 1) := dk_42 (dk_at dksX14_derived_4 12 rfl rfl)
theorem dX14_derived_107 : decode cX14_derived 107 = .ok (.getfield 455, 3) := dk_180 1 199 (dk_at dksX14_derived_4 13 rfl rfl)
theorem dX14_derived_110 : decode cX14_derived 110 = .ok (.istore 7, 2) := dk_54 7 (dk_at dksX14_derived_4 16 rfl rfl)
theorem dX14_derived_112 : decode cX14_derived 112 = .ok (.aload_n 0, 1) := dk_42 (dk_at dksX14_derived_4 18 rfl rfl)
theorem dX14_derived_113 : decode cX14_derived 113 = .ok (.invokevirtual 798, 3) := dk_182 3 30 (dk_at dksX14_derived_4 19 rfl rfl)
theorem dX14_derived_116 : decode cX14_derived 116 = .ok (.istore 8, 2) := dk_54 8 (dk_at dksX14_derived_4 22 rfl rfl)
theorem dX14_derived_118 : decode cX14_derived 118 = .ok (.iload 5, 2) := dk_21 5 (dk_at dksX14_derived_5 0 rfl rfl)
theorem dX14_derived_120 : decode cX14_derived 120 = .ok (.iconst 2, 1) := dk_5 (dk_at dksX14_derived_5 2 rfl rfl)
theorem dX14_derived_121 : decode cX14_derived 121 = .ok (.if_icmp .ne 14, 3) := dk_160 0 14 (dk_at dksX14_derived_5 3 rfl rfl)
theorem dX14_derived_124 : decode cX14_derived 124 = .ok (.aload_n 0, 1) := dk_42 (dk_at dksX14_derived_5 6 rfl rfl)
theorem dX14_derived_125 : decode cX14_derived 125 = .ok (.iload_n 3, 1) := dk_29 (dk_at dksX14_derived_5 7 rfl rfl)
theorem dX14_derived_126 : decode cX14_derived 126 = .ok (.iload 8, 2) := dk_21 8 (dk_at dksX14_derived_5 8 rfl rfl)
theorem dX14_derived_128 : decode cX14_derived 128 = .ok (.iconst 0, 1) := dk_3 (dk_at dksX14_derived_5 10 rfl rfl)
theorem dX14_derived_129 : decode cX14_derived 129 = .ok (.invokevirtual 678, 3) := dk_182 2 166 (dk_at dksX14_derived_5 11 rfl rfl)
theorem dX14_derived_132 : decode cX14_derived 132 = .ok (.goto 11, 3) := dk_167 0 11 (dk_at dksX14_derived_5 14 rfl rfl)
theorem dX14_derived_135 : decode cX14_derived 135 = .ok (.aload_n 0, 1) := dk_42 (dk_at dksX14_derived_5 17 rfl rfl)
theorem dX14_derived_136 : decode cX14_derived 136 = .ok (.iload 4, 2) := dk_21 4 (dk_at dksX14_derived_5 18 rfl rfl)
theorem dX14_derived_138 : decode cX14_derived 138 = .ok (.iload 8, 2) := dk_21 8 (dk_at dksX14_derived_5 20 rfl rfl)
theorem dX14_derived_140 : decode cX14_derived 140 = .ok (.invokevirtual 609, 3) := dk_182 2 97 (dk_at dksX14_derived_6 0 rfl rfl)
theorem dX14_derived_143 : decode cX14_derived 143 = .ok (.istore 9, 2) := dk_54 9 (dk_at dksX14_derived_6 3 rfl rfl)
theorem dX14_derived_145 : decode cX14_derived 145 = .ok (.aload_n 0, 1) := dk_42 (dk_at dksX14_derived_6 5 rfl rfl)
theorem dX14_derived_146 : decode cX14_derived 146 = .ok (.iload 7, 2) := dk_21 7 (dk_at dksX14_derived_6 6 rfl rfl)
theorem dX14_derived_148 : decode cX14_derived 148 = .ok (.putfield 455, 3) := dk_181 1 199 (dk_at dksX14_derived_6 8 rfl rfl)
theorem dX14_derived_151 : decode cX14_derived 151 = .ok (.aload_n 0, 1) := dk_42 (dk_at dksX14_derived_6 11 rfl rfl)
theorem dX14_derived_152 : decode cX14_derived 152 = .ok (.iload 6, 2) := dk_21 6 (dk_at dksX14_derived_6 12 rfl rfl)
theorem dX14_derived_154 : decode cX14_derived 154 = .ok (.putfield 452, 3) := dk_181 1 196 (dk_at dksX14_derived_6 14 rfl rfl)
theorem dX14_derived_157 : decode cX14_derived 157 = .ok (.iload 9, 2) := dk_21 9 (dk_at dksX14_derived_6 17 rfl rfl)
theorem dX14_derived_159 : decode cX14_derived 159 = .ok (.ireturn, 1) := dk_172 (dk_at dksX14_derived_6 19 rfl rfl)
theorem dX14_derived_160 : decode cX14_derived 160 = .ok (.iload 5, 2) := dk_21 5 (dk_at dksX14_derived_6 20 rfl rfl)
theorem dX14_derived_162 : decode cX14_derived 162 = .ok (.iconst 4, 1) := dk_7 (dk_at dksX14_derived_6 22 rfl rfl)
theorem dX14_derived_163 : decode cX14_derived 163 = .ok (.if_icmp .ne 88, 3) := dk_160 0 88 (dk_at dksX14_derived_7 0 rfl rfl)
theorem dX14_derived_166 : decode cX14_derived 166 = .ok (.aload_n 0, 1) := dk_42 (dk_at dksX14_derived_7 3 rfl rfl)
theorem dX14_derived_167 : decode cX14_derived 167 = .ok (.iconst 0, 1) := dk_3 (dk_at dksX14_derived_7 4 rfl rfl)
theorem dX14_derived_168 : decode cX14_derived 168 = .ok (.putfield 685, 3) := dk_181 2 173 (dk_at dksX14_derived_7 5 rfl rfl)
theorem dX14_derived_171 : decode cX14_derived 171 = .ok (.iconst 0, 1) := dk_3 (dk_at dksX14_derived_7 8 rfl rfl)
theorem dX14_derived_172 : decode cX14_derived 172 = .ok (.istore 6, 2) := dk_54 6 (dk_at dksX14_derived_7 9 rfl rfl)
theorem dX14_derived_174 : decode cX14_derived 174 = .ok (.iload 6, 2) := dk_21 6 (dk_at dksX14_derived_7 11 rfl rfl)
theorem dX14_derived_176 : decode cX14_derived 176 = .ok (.bipush 8, 2) := dk_16 8 (dk_at dksX14_derived_7 13 rfl rfl)
theorem dX14_derived_178 : decode cX14_derived 178 = .ok (.aload_n 0, 1) := dk_42 (dk_at dksX14_derived_7 15 rfl rfl)
theorem dX14_derived_179 : decode cX14_derived 179 = .ok (.getfield 682, 3) := dk_180 2 170 (dk_at dksX14_derived_7 16 rfl rfl)
theorem dX14_derived_182 : decode cX14_derived 182 = .ok (.iconst 1, 1) := dk_4 (dk_at dksX14_derived_7 19 rfl rfl)
theorem dX14_derived_183 : decode cX14_derived 183 = .ok (.isub, 1) := dk_100 (dk_at dksX14_derived_7 20 rfl rfl)
theorem dX14_derived_184 : decode cX14_derived 184 = .ok (.imul, 1) := dk_104 (dk_at dksX14_derived_7 21 rfl rfl)
theorem dX14_derived_185 : decode cX14_derived 185 = .ok (.aload_n 0, 1) := dk_42 (dk_at dksX14_derived_7 22 rfl rfl)
theorem dX14_derived_186 : decode cX14_derived 186 = .ok (.getfield 236, 3) := dk_180 0 236 (dk_at dksX14_derived_8 0 rfl rfl)
theorem dX14_derived_189 : decode cX14_derived 189 = .ok (.iconst 0, 1) := dk_3 (dk_at dksX14_derived_8 3 rfl rfl)
theorem dX14_derived_190 : decode cX14_derived 190 = .ok (.iaload, 1) := dk_46 (dk_at dksX14_derived_8 4 rfl rfl)
theorem dX14_derived_191 : decode cX14_derived 191 = .ok (.isub, 1) := dk_100 (dk_at dksX14_derived_8 5 rfl rfl)
theorem dX14_derived_192 : decode cX14_derived 192 = .ok (.if_icmp .ge 36, 3) := dk_162 0 36 (dk_at dksX14_derived_8 6 rfl rfl)
theorem dX14_derived_195 : decode cX14_derived 195 = .ok (.aload_n 0, 1) := dk_42 (dk_at dksX14_derived_8 9 rfl rfl)
theorem dX14_derived_196 : decode cX14_derived 196 = .ok (.aload_n 0, 1) := dk_42 (dk_at dksX14_derived_8 10 rfl rfl)
theorem dX14_derived_197 : decode cX14_derived 197 = .ok (.getfield 236, 3) := dk_180 0 236 (dk_at dksX14_derived_8 11 rfl rfl)
theorem dX14_derived_200 : decode cX14_derived 200 = .ok (.iconst 1, 1) := dk_4 (dk_at dksX14_derived_8 14 rfl rfl)
theorem dX14_derived_201 : decode cX14_derived 201 = .ok (.iload 6, 2) := dk_21 6 (dk_at dksX14_derived_8 15 rfl rfl)
theorem dX14_derived_203 : decode cX14_derived 203 = .ok (.bipush 8, 2) := dk_16 8 (dk_at dksX14_derived_8 17 rfl rfl)
theorem dX14_derived_205 : decode cX14_derived 205 = .ok (.idiv, 1) := dk_108 (dk_at dksX14_derived_8 19 rfl rfl)
theorem dX14_derived_206 : decode cX14_derived 206 = .ok (.iadd, 1) := dk_96 (dk_at dksX14_derived_8 20 rfl rfl)
theorem dX14_derived_207 : decode cX14_derived 207 = .ok (.iaload, 1) := dk_46 (dk_at dksX14_derived_8 21 rfl rfl)
theorem dX14_derived_208 : decode cX14_derived 208 = .ok (.bipush 7, 2) := dk_16 7 (dk_at dksX14_derived_8 22 rfl rfl)
theorem dX14_derived_210 : decode cX14_derived 210 = .ok (.iload 6, 2) := dk_21 6 (dk_at dksX14_derived_9 0 rfl rfl)
theorem dX14_derived_212 : decode cX14_derived 212 = .ok (.bipush 8, 2) := dk_16 8 (dk_at dksX14_derived_9 2 rfl rfl)
theorem dX14_derived_214 : decode cX14_derived 214 = .ok (.irem, 1) := dk_112 (dk_at dksX14_derived_9 4 rfl rfl)
theorem dX14_derived_215 : decode cX14_derived 215 = .ok (.isub, 1) := dk_100 (dk_at dksX14_derived_9 5 rfl rfl)
theorem dX14_derived_216 : decode cX14_derived 216 = .ok (.ishr, 1) := dk_122 (dk_at dksX14_derived_9 6 rfl rfl)
theorem dX14_derived_217 : decode cX14_derived 217 = .ok (.iconst 1, 1) := dk_4 (dk_at dksX14_derived_9 7 rfl rfl)
theorem dX14_derived_218 : decode cX14_derived 218 = .ok (.iand, 1) := dk_126 (dk_at dksX14_derived_9 8 rfl rfl)
theorem dX14_derived_219 : decode cX14_derived 219 = .ok (.invokevirtual 700, 3) := dk_182 2 188 (dk_at dksX14_derived_9 9 rfl rfl)
theorem dX14_derived_222 : decode cX14_derived 222 = .ok (.iinc 6 1, 3) := dk_132 6 1 (dk_at dksX14_derived_9 12 rfl rfl)
theorem dX14_derived_225 : decode cX14_derived 225 = .ok (.goto (-51), 3) := dk_167 255 205 (dk_at dksX14_derived_9 15 rfl rfl)
theorem dX14_derived_228 : decode cX14_derived 228 = .ok (.aload_n 0, 1) := dk_42 (dk_at dksX14_derived_9 18 rfl rfl)
theorem dX14_derived_229 : decode cX14_derived 229 = .ok (.iload_n 3, 1) := dk_29 (dk_at dksX14_derived_9 19 rfl rfl)
theorem dX14_derived_230 : decode cX14_derived 230 = .ok (.invokevirtual 771, 3) := dk_182 3 3 (dk_at dksX14_derived_9 20 rfl rfl)
theorem dX14_derived_233 : decode cX14_derived 233 = .ok (.ifCond .eq 16, 3) := dk_153 0 16 (dk_at dksX14_derived_10 0 rfl rfl)
theorem dX14_derived_236 : decode cX14_derived 236 = .ok (.aload_n 0, 1) := dk_42 (dk_at dksX14_derived_10 3 rfl rfl)
theorem dX14_derived_237 : decode cX14_derived 237 = .ok (.iload 4, 2) := dk_21 4 (dk_at dksX14_derived_10 4 rfl rfl)
theorem dX14_derived_239 : decode cX14_derived 239 = .ok (.invokevirtual 774, 3) := dk_182 3 6 (dk_at dksX14_derived_10 6 rfl rfl)
theorem dX14_derived_242 : decode cX14_derived 242 = .ok (.ifCond .eq 7, 3) := dk_153 0 7 (dk_at dksX14_derived_10 9 rfl rfl)
theorem dX14_derived_245 : decode cX14_derived 245 = .ok (.iconst 1, 1) := dk_4 (dk_at dksX14_derived_10 12 rfl rfl)
theorem dX14_derived_246 : decode cX14_derived 246 = .ok (.goto 4, 3) := dk_167 0 4 (dk_at dksX14_derived_10 13 rfl rfl)
theorem dX14_derived_249 : decode cX14_derived 249 = .ok (.iconst 0, 1) := dk_3 (dk_at dksX14_derived_10 16 rfl rfl)
theorem dX14_derived_250 : decode cX14_derived 250 = .ok (.ireturn, 1) := dk_172 (dk_at dksX14_derived_10 17 rfl rfl)
theorem dX14_derived_251 : decode cX14_derived 251 = .ok (.iload 5, 2) := dk_21 5 (dk_at dksX14_derived_10 18 rfl rfl)
theorem dX14_derived_253 : decode cX14_derived 253 = .ok (.bipush 12, 2) := dk_16 12 (dk_at dksX14_derived_10 20 rfl rfl)
theorem dX14_derived_255 : decode cX14_derived 255 = .ok (.if_icmp .eq 10, 3) := dk_159 0 10 (dk_at dksX14_derived_11 0 rfl rfl)
theorem dX14_derived_258 : decode cX14_derived 258 = .ok (.iload 5, 2) := dk_21 5 (dk_at dksX14_derived_11 3 rfl rfl)
theorem dX14_derived_260 : decode cX14_derived 260 = .ok (.bipush 13, 2) := dk_16 13 (dk_at dksX14_derived_11 5 rfl rfl)
theorem dX14_derived_262 : decode cX14_derived 262 = .ok (.if_icmp .ne 10, 3) := dk_160 0 10 (dk_at dksX14_derived_11 7 rfl rfl)
theorem dX14_derived_265 : decode cX14_derived 265 = .ok (.aload_n 0, 1) := dk_42 (dk_at dksX14_derived_11 10 rfl rfl)
theorem dX14_derived_266 : decode cX14_derived 266 = .ok (.iload 4, 2) := dk_21 4 (dk_at dksX14_derived_11 11 rfl rfl)
theorem dX14_derived_268 : decode cX14_derived 268 = .ok (.invokevirtual 783, 3) := dk_182 3 15 (dk_at dksX14_derived_11 13 rfl rfl)
theorem dX14_derived_271 : decode cX14_derived 271 = .ok (.ireturn, 1) := dk_172 (dk_at dksX14_derived_11 16 rfl rfl)
theorem dX14_derived_272 : decode cX14_derived 272 = .ok (.iload 5, 2) := dk_21 5 (dk_at dksX14_derived_11 17 rfl rfl)
theorem dX14_derived_274 : decode cX14_derived 274 = .ok (.bipush 14, 2) := dk_16 14 (dk_at dksX14_derived_11 19 rfl rfl)
theorem dX14_derived_276 : decode cX14_derived 276 = .ok (.if_icmp .eq 10, 3) := dk_159 0 10 (dk_at dksX14_derived_11 21 rfl rfl)
theorem dX14_derived_279 : decode cX14_derived 279 = .ok (.iload 5, 2) := dk_21 5 (dk_at dksX14_derived_12 0 rfl rfl)
theorem dX14_derived_281 : decode cX14_derived 281 = .ok (.bipush 15, 2) := dk_16 15 (dk_at dksX14_derived_12 2 rfl rfl)
theorem dX14_derived_283 : decode cX14_derived 283 = .ok (.if_icmp .ne 10, 3) := dk_160 0 10 (dk_at dksX14_derived_12 4 rfl rfl)
theorem dX14_derived_286 : decode cX14_derived 286 = .ok (.aload_n 0, 1) := dk_42 (dk_at dksX14_derived_12 7 rfl rfl)
theorem dX14_derived_287 : decode cX14_derived 287 = .ok (.iload_n 3, 1) := dk_29 (dk_at dksX14_derived_12 8 rfl rfl)
theorem dX14_derived_288 : decode cX14_derived 288 = .ok (.iconst 0, 1) := dk_3 (dk_at dksX14_derived_12 9 rfl rfl)
theorem dX14_derived_289 : decode cX14_derived 289 = .ok (.invokevirtual 694, 3) := dk_182 2 182 (dk_at dksX14_derived_12 10 rfl rfl)
theorem dX14_derived_292 : decode cX14_derived 292 = .ok (.ireturn, 1) := dk_172 (dk_at dksX14_derived_12 13 rfl rfl)
theorem dX14_derived_293 : decode cX14_derived 293 = .ok (.iload 5, 2) := dk_21 5 (dk_at dksX14_derived_12 14 rfl rfl)
theorem dX14_derived_295 : decode cX14_derived 295 = .ok (.invokestatic 662, 3) := dk_184 2 150 (dk_at dksX14_derived_12 16 rfl rfl)
theorem dX14_derived_298 : decode cX14_derived 298 = .ok (.ifCond .eq 15, 3) := dk_153 0 15 (dk_at dksX14_derived_12 19 rfl rfl)
theorem dX14_derived_301 : decode cX14_derived 301 = .ok (.aload_n 0, 1) := dk_42 (dk_at dksX14_derived_12 22 rfl rfl)
theorem dX14_derived_302 : decode cX14_derived 302 = .ok (.iload_n 3, 1) := dk_29 (dk_at dksX14_derived_12 23 rfl rfl)
theorem dX14_derived_303 : decode cX14_derived 303 = .ok (.aload_n 0, 1) := dk_42 (dk_at dksX14_derived_13 0 rfl rfl)
theorem dX14_derived_304 : decode cX14_derived 304 = .ok (.getfield 682, 3) := dk_180 2 170 (dk_at dksX14_derived_13 1 rfl rfl)
theorem dX14_derived_307 : decode cX14_derived 307 = .ok (.invokevirtual 694, 3) := dk_182 2 182 (dk_at dksX14_derived_13 4 rfl rfl)
theorem dX14_derived_310 : decode cX14_derived 310 = .ok (.ifCond .eq 7, 3) := dk_153 0 7 (dk_at dksX14_derived_13 7 rfl rfl)
theorem dX14_derived_313 : decode cX14_derived 313 = .ok (.iconst 1, 1) := dk_4 (dk_at dksX14_derived_13 10 rfl rfl)
theorem dX14_derived_314 : decode cX14_derived 314 = .ok (.goto 4, 3) := dk_167 0 4 (dk_at dksX14_derived_13 11 rfl rfl)
theorem dX14_derived_317 : decode cX14_derived 317 = .ok (.iconst 0, 1) := dk_3 (dk_at dksX14_derived_13 14 rfl rfl)
theorem dX14_derived_318 : decode cX14_derived 318 = .ok (.ireturn, 1) := dk_172 (dk_at dksX14_derived_13 15 rfl rfl)
abbrev cX14_pieceNumber : ByteArray := prog_15_method_97_code
def yX14_pieceNumber : MethodName := ⟨RX14, "pieceNumber", "()I"⟩
def dkwX14_pieceNumber_2 : List UInt8 := [132, 2, 1, 167, 255, 220, 42, 27, 182, 1, 209, 172]
abbrev dktX14_pieceNumber_2 : List UInt8 := dkwX14_pieceNumber_2 ++ []
def dkwX14_pieceNumber_1 : List UInt8 := [180, 0, 199, 42, 180, 1, 196, 42, 180, 0, 236, 28, 46, 79, 42, 89, 180, 1, 196, 4, 96, 181, 1, 196]
abbrev dktX14_pieceNumber_1 : List UInt8 := dkwX14_pieceNumber_1 ++ dktX14_pieceNumber_2
def dkwX14_pieceNumber_0 : List UInt8 := [42, 42, 180, 2, 170, 182, 1, 206, 42, 180, 1, 196, 60, 3, 61, 28, 42, 180, 2, 170, 162, 0, 34, 42]
abbrev dktX14_pieceNumber_0 : List UInt8 := dkwX14_pieceNumber_0 ++ dktX14_pieceNumber_1
theorem dksX14_pieceNumber_0 : cX14_pieceNumber.data.toList.drop 0 = dktX14_pieceNumber_0 := by decide +kernel
theorem dksX14_pieceNumber_1 : cX14_pieceNumber.data.toList.drop 24 = dktX14_pieceNumber_1 := dk_seg dksX14_pieceNumber_0 24 rfl rfl
theorem dksX14_pieceNumber_2 : cX14_pieceNumber.data.toList.drop 48 = dktX14_pieceNumber_2 := dk_seg dksX14_pieceNumber_1 24 rfl rfl
theorem dX14_pieceNumber_0 : decode cX14_pieceNumber 0 = .ok (.aload_n 0, 1) := dk_42 (dk_at dksX14_pieceNumber_0 0 rfl rfl)
theorem dX14_pieceNumber_1 : decode cX14_pieceNumber 1 = .ok (.aload_n 0, 1) := dk_42 (dk_at dksX14_pieceNumber_0 1 rfl rfl)
theorem dX14_pieceNumber_2 : decode cX14_pieceNumber 2 = .ok (.getfield 682, 3) := dk_180 2 170 (dk_at dksX14_pieceNumber_0 2 rfl rfl)
theorem dX14_pieceNumber_5 : decode cX14_pieceNumber 5 = .ok (.invokevirtual 462, 3) := dk_182 1 206 (dk_at dksX14_pieceNumber_0 5 rfl rfl)
theorem dX14_pieceNumber_8 : decode cX14_pieceNumber 8 = .ok (.aload_n 0, 1) := dk_42 (dk_at dksX14_pieceNumber_0 8 rfl rfl)
theorem dX14_pieceNumber_9 : decode cX14_pieceNumber 9 = .ok (.getfield 452, 3) := dk_180 1 196 (dk_at dksX14_pieceNumber_0 9 rfl rfl)
theorem dX14_pieceNumber_12 : decode cX14_pieceNumber 12 = .ok (.istore_n 1, 1) := dk_60 (dk_at dksX14_pieceNumber_0 12 rfl rfl)
theorem dX14_pieceNumber_13 : decode cX14_pieceNumber 13 = .ok (.iconst 0, 1) := dk_3 (dk_at dksX14_pieceNumber_0 13 rfl rfl)
theorem dX14_pieceNumber_14 : decode cX14_pieceNumber 14 = .ok (.istore_n 2, 1) := dk_61 (dk_at dksX14_pieceNumber_0 14 rfl rfl)
theorem dX14_pieceNumber_15 : decode cX14_pieceNumber 15 = .ok (.iload_n 2, 1) := dk_28 (dk_at dksX14_pieceNumber_0 15 rfl rfl)
theorem dX14_pieceNumber_16 : decode cX14_pieceNumber 16 = .ok (.aload_n 0, 1) := dk_42 (dk_at dksX14_pieceNumber_0 16 rfl rfl)
theorem dX14_pieceNumber_17 : decode cX14_pieceNumber 17 = .ok (.getfield 682, 3) := dk_180 2 170 (dk_at dksX14_pieceNumber_0 17 rfl rfl)
theorem dX14_pieceNumber_20 : decode cX14_pieceNumber 20 = .ok (.if_icmp .ge 34, 3) := dk_162 0 34 (dk_at dksX14_pieceNumber_0 20 rfl rfl)
theorem dX14_pieceNumber_23 : decode cX14_pieceNumber 23 = .ok (.aload_n 0, 1) := dk_42 (dk_at dksX14_pieceNumber_0 23 rfl rfl)
theorem dX14_pieceNumber_24 : decode cX14_pieceNumber 24 = .ok (.getfield 199, 3) := dk_180 0 199 (dk_at dksX14_pieceNumber_1 0 rfl rfl)
theorem dX14_pieceNumber_27 : decode cX14_pieceNumber 27 = .ok (.aload_n 0, 1) := dk_42 (dk_at dksX14_pieceNumber_1 3 rfl rfl)
theorem dX14_pieceNumber_28 : decode cX14_pieceNumber 28 = .ok (.getfield 452, 3) := dk_180 1 196 (dk_at dksX14_pieceNumber_1 4 rfl rfl)
theorem dX14_pieceNumber_31 : decode cX14_pieceNumber 31 = .ok (.aload_n 0, 1) := dk_42 (dk_at dksX14_pieceNumber_1 7 rfl rfl)
theorem dX14_pieceNumber_32 : decode cX14_pieceNumber 32 = .ok (.getfield 236, 3) := dk_180 0 236 (dk_at dksX14_pieceNumber_1 8 rfl rfl)
theorem dX14_pieceNumber_35 : decode cX14_pieceNumber 35 = .ok (.iload_n 2, 1) := dk_28 (dk_at dksX14_pieceNumber_1 11 rfl rfl)
theorem dX14_pieceNumber_36 : decode cX14_pieceNumber 36 = .ok (.iaload, 1) := dk_46 (dk_at dksX14_pieceNumber_1 12 rfl rfl)
theorem dX14_pieceNumber_37 : decode cX14_pieceNumber 37 = .ok (.iastore, 1) := dk_79 (dk_at dksX14_pieceNumber_1 13 rfl rfl)
theorem dX14_pieceNumber_38 : decode cX14_pieceNumber 38 = .ok (.aload_n 0, 1) := dk_42 (dk_at dksX14_pieceNumber_1 14 rfl rfl)
theorem dX14_pieceNumber_39 : decode cX14_pieceNumber 39 = .ok (.dup, 1) := dk_89 (dk_at dksX14_pieceNumber_1 15 rfl rfl)
theorem dX14_pieceNumber_40 : decode cX14_pieceNumber 40 = .ok (.getfield 452, 3) := dk_180 1 196 (dk_at dksX14_pieceNumber_1 16 rfl rfl)
theorem dX14_pieceNumber_43 : decode cX14_pieceNumber 43 = .ok (.iconst 1, 1) := dk_4 (dk_at dksX14_pieceNumber_1 19 rfl rfl)
theorem dX14_pieceNumber_44 : decode cX14_pieceNumber 44 = .ok (.iadd, 1) := dk_96 (dk_at dksX14_pieceNumber_1 20 rfl rfl)
theorem dX14_pieceNumber_45 : decode cX14_pieceNumber 45 = .ok (.putfield 452, 3) := dk_181 1 196 (dk_at dksX14_pieceNumber_1 21 rfl rfl)
theorem dX14_pieceNumber_48 : decode cX14_pieceNumber 48 = .ok (.iinc 2 1, 3) := dk_132 2 1 (dk_at dksX14_pieceNumber_2 0 rfl rfl)
theorem dX14_pieceNumber_51 : decode cX14_pieceNumber 51 = .ok (.goto (-36), 3) := dk_167 255 220 (dk_at dksX14_pieceNumber_2 3 rfl rfl)
theorem dX14_pieceNumber_54 : decode cX14_pieceNumber 54 = .ok (.aload_n 0, 1) := dk_42 (dk_at dksX14_pieceNumber_2 6 rfl rfl)
theorem dX14_pieceNumber_55 : decode cX14_pieceNumber 55 = .ok (.iload_n 1, 1) := dk_27 (dk_at dksX14_pieceNumber_2 7 rfl rfl)
theorem dX14_pieceNumber_56 : decode cX14_pieceNumber 56 = .ok (.invokevirtual 465, 3) := dk_182 1 209 (dk_at dksX14_pieceNumber_2 8 rfl rfl)
theorem dX14_pieceNumber_59 : decode cX14_pieceNumber 59 = .ok (.ireturn, 1) := dk_172 (dk_at dksX14_pieceNumber_2 11 rfl rfl)
abbrev cX14_fault : ByteArray := prog_15_method_127_code
def yX14_fault : MethodName := ⟨RX14, "fault", "(I)I"⟩
def dkwX14_fault_1 : List UInt8 := [180, 1, 100, 167, 0, 8, 42, 4, 182, 1, 128, 172]
abbrev dktX14_fault_1 : List UInt8 := dkwX14_fault_1 ++ []
def dkwX14_fault_0 : List UInt8 := [42, 3, 181, 1, 94, 27, 154, 0, 10, 42, 180, 1, 97, 167, 0, 20, 27, 4, 160, 0, 10, 42]
abbrev dktX14_fault_0 : List UInt8 := dkwX14_fault_0 ++ dktX14_fault_1
theorem dksX14_fault_0 : cX14_fault.data.toList.drop 0 = dktX14_fault_0 := by decide +kernel
theorem dksX14_fault_1 : cX14_fault.data.toList.drop 22 = dktX14_fault_1 := dk_seg dksX14_fault_0 22 rfl rfl
theorem dX14_fault_0 : decode cX14_fault 0 = .ok (.aload_n 0, 1) := dk_42 (dk_at dksX14_fault_0 0 rfl rfl)
theorem dX14_fault_1 : decode cX14_fault 1 = .ok (.iconst 0, 1) := dk_3 (dk_at dksX14_fault_0 1 rfl rfl)
theorem dX14_fault_2 : decode cX14_fault 2 = .ok (.putfield 350, 3) := dk_181 1 94 (dk_at dksX14_fault_0 2 rfl rfl)
theorem dX14_fault_5 : decode cX14_fault 5 = .ok (.iload_n 1, 1) := dk_27 (dk_at dksX14_fault_0 5 rfl rfl)
theorem dX14_fault_6 : decode cX14_fault 6 = .ok (.ifCond .ne 10, 3) := dk_154 0 10 (dk_at dksX14_fault_0 6 rfl rfl)
theorem dX14_fault_9 : decode cX14_fault 9 = .ok (.aload_n 0, 1) := dk_42 (dk_at dksX14_fault_0 9 rfl rfl)
theorem dX14_fault_10 : decode cX14_fault 10 = .ok (.getfield 353, 3) := dk_180 1 97 (dk_at dksX14_fault_0 10 rfl rfl)
theorem dX14_fault_13 : decode cX14_fault 13 = .ok (.goto 20, 3) := dk_167 0 20 (dk_at dksX14_fault_0 13 rfl rfl)
theorem dX14_fault_16 : decode cX14_fault 16 = .ok (.iload_n 1, 1) := dk_27 (dk_at dksX14_fault_0 16 rfl rfl)
theorem dX14_fault_17 : decode cX14_fault 17 = .ok (.iconst 1, 1) := dk_4 (dk_at dksX14_fault_0 17 rfl rfl)
theorem dX14_fault_18 : decode cX14_fault 18 = .ok (.if_icmp .ne 10, 3) := dk_160 0 10 (dk_at dksX14_fault_0 18 rfl rfl)
theorem dX14_fault_21 : decode cX14_fault 21 = .ok (.aload_n 0, 1) := dk_42 (dk_at dksX14_fault_0 21 rfl rfl)
theorem dX14_fault_22 : decode cX14_fault 22 = .ok (.getfield 356, 3) := dk_180 1 100 (dk_at dksX14_fault_1 0 rfl rfl)
theorem dX14_fault_25 : decode cX14_fault 25 = .ok (.goto 8, 3) := dk_167 0 8 (dk_at dksX14_fault_1 3 rfl rfl)
theorem dX14_fault_28 : decode cX14_fault 28 = .ok (.aload_n 0, 1) := dk_42 (dk_at dksX14_fault_1 6 rfl rfl)
theorem dX14_fault_29 : decode cX14_fault 29 = .ok (.iconst 1, 1) := dk_4 (dk_at dksX14_fault_1 7 rfl rfl)
theorem dX14_fault_30 : decode cX14_fault 30 = .ok (.invokevirtual 384, 3) := dk_182 1 128 (dk_at dksX14_fault_1 8 rfl rfl)
theorem dX14_fault_33 : decode cX14_fault 33 = .ok (.ireturn, 1) := dk_172 (dk_at dksX14_fault_1 11 rfl rfl)
abbrev cX14_type : ByteArray := prog_15_method_129_code
def yX14_type : MethodName := ⟨RX14, "type", "(II)I"⟩
def dkwX14_type_7 : List UInt8 := [180, 0, 230, 42, 180, 2, 118, 4, 100, 47, 136, 172]
abbrev dktX14_type_7 : List UInt8 := dkwX14_type_7 ++ []
def dkwX14_type_6 : List UInt8 := [160, 0, 21, 42, 180, 0, 230, 42, 180, 2, 118, 4, 100, 47, 16, 32, 123, 136, 167, 0, 15, 42]
abbrev dktX14_type_6 : List UInt8 := dkwX14_type_6 ++ dktX14_type_7
def dkwX14_type_5 : List UInt8 := [182, 2, 128, 28, 5, 160, 0, 8, 42, 180, 2, 118, 172, 42, 180, 2, 118, 154, 0, 5, 2, 172, 28, 6]
abbrev dktX14_type_5 : List UInt8 := dkwX14_type_5 ++ dktX14_type_6
def dkwX14_type_4 : List UInt8 := [160, 0, 19, 42, 180, 0, 66, 21, 5, 46, 42, 180, 0, 60, 21, 5, 46, 96, 172, 42, 21, 4]
abbrev dktX14_type_4 : List UInt8 := dkwX14_type_4 ++ dktX14_type_5
def dkwX14_type_3 : List UInt8 := [42, 180, 0, 175, 29, 46, 46, 100, 172, 28, 4, 160, 0, 11, 42, 180, 0, 42, 21, 5, 46, 172, 28, 8]
abbrev dktX14_type_3 : List UInt8 := dkwX14_type_3 ++ dktX14_type_4
def dkwX14_type_2 : List UInt8 := [182, 2, 100, 54, 5, 28, 154, 0, 27, 42, 180, 0, 39, 42, 180, 0, 175, 29, 46, 46, 42, 180, 0, 36]
abbrev dktX14_type_2 : List UInt8 := dkwX14_type_2 ++ dktX14_type_3
def dkwX14_type_1 : List UInt8 := [182, 1, 128, 172, 42, 180, 0, 184, 27, 46, 62, 42, 180, 0, 178, 29, 46, 54, 4, 42, 21, 4]
abbrev dktX14_type_1 : List UInt8 := dkwX14_type_1 ++ dktX14_type_2
def dkwX14_type_0 : List UInt8 := [42, 3, 181, 1, 94, 42, 27, 182, 3, 91, 153, 0, 12, 28, 3, 8, 184, 1, 132, 154, 0, 9, 42, 4]
abbrev dktX14_type_0 : List UInt8 := dkwX14_type_0 ++ dktX14_type_1
theorem dksX14_type_0 : cX14_type.data.toList.drop 0 = dktX14_type_0 := by decide +kernel
theorem dksX14_type_1 : cX14_type.data.toList.drop 24 = dktX14_type_1 := dk_seg dksX14_type_0 24 rfl rfl
theorem dksX14_type_2 : cX14_type.data.toList.drop 46 = dktX14_type_2 := dk_seg dksX14_type_1 22 rfl rfl
theorem dksX14_type_3 : cX14_type.data.toList.drop 70 = dktX14_type_3 := dk_seg dksX14_type_2 24 rfl rfl
theorem dksX14_type_4 : cX14_type.data.toList.drop 94 = dktX14_type_4 := dk_seg dksX14_type_3 24 rfl rfl
theorem dksX14_type_5 : cX14_type.data.toList.drop 116 = dktX14_type_5 := dk_seg dksX14_type_4 22 rfl rfl
theorem dksX14_type_6 : cX14_type.data.toList.drop 140 = dktX14_type_6 := dk_seg dksX14_type_5 24 rfl rfl
theorem dksX14_type_7 : cX14_type.data.toList.drop 162 = dktX14_type_7 := dk_seg dksX14_type_6 22 rfl rfl
theorem dX14_type_0 : decode cX14_type 0 = .ok (.aload_n 0, 1) := dk_42 (dk_at dksX14_type_0 0 rfl rfl)
theorem dX14_type_1 : decode cX14_type 1 = .ok (.iconst 0, 1) := dk_3 (dk_at dksX14_type_0 1 rfl rfl)
theorem dX14_type_2 : decode cX14_type 2 = .ok (.putfield 350, 3) := dk_181 1 94 (dk_at dksX14_type_0 2 rfl rfl)
theorem dX14_type_5 : decode cX14_type 5 = .ok (.aload_n 0, 1) := dk_42 (dk_at dksX14_type_0 5 rfl rfl)
theorem dX14_type_6 : decode cX14_type 6 = .ok (.iload_n 1, 1) := dk_27 (dk_at dksX14_type_0 6 rfl rfl)
theorem dX14_type_7 : decode cX14_type 7 = .ok (.invokevirtual 859, 3) := dk_182 3 91 (dk_at dksX14_type_0 7 rfl rfl)
theorem dX14_type_10 : decode cX14_type 10 = .ok (.ifCond .eq 12, 3) := dk_153 0 12 (dk_at dksX14_type_0 10 rfl rfl)
theorem dX14_type_13 : decode cX14_type 13 = .ok (.iload_n 2, 1) := dk_28 (dk_at dksX14_type_0 13 rfl rfl)
theorem dX14_type_14 : decode cX14_type 14 = .ok (.iconst 0, 1) := dk_3 (dk_at dksX14_type_0 14 rfl rfl)
theorem dX14_type_15 : decode cX14_type 15 = .ok (.iconst 5, 1) := dk_8 (dk_at dksX14_type_0 15 rfl rfl)
theorem dX14_type_16 : decode cX14_type 16 = .ok (.invokestatic 388, 3) := dk_184 1 132 (dk_at dksX14_type_0 16 rfl rfl)
theorem dX14_type_19 : decode cX14_type 19 = .ok (.ifCond .ne 9, 3) := dk_154 0 9 (dk_at dksX14_type_0 19 rfl rfl)
theorem dX14_type_22 : decode cX14_type 22 = .ok (.aload_n 0, 1) := dk_42 (dk_at dksX14_type_0 22 rfl rfl)
theorem dX14_type_23 : decode cX14_type 23 = .ok (.iconst 1, 1) := dk_4 (dk_at dksX14_type_0 23 rfl rfl)
theorem dX14_type_24 : decode cX14_type 24 = .ok (.invokevirtual 384, 3) := dk_182 1 128 (dk_at dksX14_type_1 0 rfl rfl)
theorem dX14_type_27 : decode cX14_type 27 = .ok (.ireturn, 1) := dk_172 (dk_at dksX14_type_1 3 rfl rfl)
theorem dX14_type_28 : decode cX14_type 28 = .ok (.aload_n 0, 1) := dk_42 (dk_at dksX14_type_1 4 rfl rfl)
theorem dX14_type_29 : decode cX14_type 29 = .ok (.getfield 184, 3) := dk_180 0 184 (dk_at dksX14_type_1 5 rfl rfl)
theorem dX14_type_32 : decode cX14_type 32 = .ok (.iload_n 1, 1) := dk_27 (dk_at dksX14_type_1 8 rfl rfl)
theorem dX14_type_33 : decode cX14_type 33 = .ok (.iaload, 1) := dk_46 (dk_at dksX14_type_1 9 rfl rfl)
theorem dX14_type_34 : decode cX14_type 34 = .ok (.istore_n 3, 1) := dk_62 (dk_at dksX14_type_1 10 rfl rfl)
theorem dX14_type_35 : decode cX14_type 35 = .ok (.aload_n 0, 1) := dk_42 (dk_at dksX14_type_1 11 rfl rfl)
theorem dX14_type_36 : decode cX14_type 36 = .ok (.getfield 178, 3) := dk_180 0 178 (dk_at dksX14_type_1 12 rfl rfl)
theorem dX14_type_39 : decode cX14_type 39 = .ok (.iload_n 3, 1) := dk_29 (dk_at dksX14_type_1 15 rfl rfl)
theorem dX14_type_40 : decode cX14_type 40 = .ok (.iaload, 1) := dk_46 (dk_at dksX14_type_1 16 rfl rfl)
theorem dX14_type_41 : decode cX14_type 41 = .ok (.istore 4, 2) := dk_54 4 (dk_at dksX14_type_1 17 rfl rfl)
theorem dX14_type_43 : decode cX14_type 43 = .ok (.aload_n 0, 1) := dk_42 (dk_at dksX14_type_1 19 rfl rfl)
theorem dX14_type_44 : decode cX14_type 44 = .ok (.iload 4, 2) := dk_21 4 (dk_at dksX14_type_1 20 rfl rfl)
theorem dX14_type_46 : decode cX14_type 46 = .ok (.invokevirtual 612, 3) := dk_182 2 100 (dk_at dksX14_type_2 0 rfl rfl)
theorem dX14_type_49 : decode cX14_type 49 = .ok (.istore 5, 2) := dk_54 5 (dk_at dksX14_type_2 3 rfl rfl)
theorem dX14_type_51 : decode cX14_type 51 = .ok (.iload_n 2, 1) := dk_28 (dk_at dksX14_type_2 5 rfl rfl)
theorem dX14_type_52 : decode cX14_type 52 = .ok (.ifCond .ne 27, 3) := dk_154 0 27 (dk_at dksX14_type_2 6 rfl rfl)
theorem dX14_type_55 : decode cX14_type 55 = .ok (.aload_n 0, 1) := dk_42 (dk_at dksX14_type_2 9 rfl rfl)
theorem dX14_type_56 : decode cX14_type 56 = .ok (.getfield 39, 3) := dk_180 0 39 (dk_at dksX14_type_2 10 rfl rfl)
theorem dX14_type_59 : decode cX14_type 59 = .ok (.aload_n 0, 1) := dk_42 (dk_at dksX14_type_2 13 rfl rfl)
theorem dX14_type_60 : decode cX14_type 60 = .ok (.getfield 175, 3) := dk_180 0 175 (dk_at dksX14_type_2 14 rfl rfl)
theorem dX14_type_63 : decode cX14_type 63 = .ok (.iload_n 3, 1) := dk_29 (dk_at dksX14_type_2 17 rfl rfl)
theorem dX14_type_64 : decode cX14_type 64 = .ok (.iaload, 1) := dk_46 (dk_at dksX14_type_2 18 rfl rfl)
theorem dX14_type_65 : decode cX14_type 65 = .ok (.iaload, 1) := dk_46 (dk_at dksX14_type_2 19 rfl rfl)
theorem dX14_type_66 : decode cX14_type 66 = .ok (.aload_n 0, 1) := dk_42 (dk_at dksX14_type_2 20 rfl rfl)
theorem dX14_type_67 : decode cX14_type 67 = .ok (.getfield 36, 3) := dk_180 0 36 (dk_at dksX14_type_2 21 rfl rfl)
theorem dX14_type_70 : decode cX14_type 70 = .ok (.aload_n 0, 1) := dk_42 (dk_at dksX14_type_3 0 rfl rfl)
theorem dX14_type_71 : decode cX14_type 71 = .ok (.getfield 175, 3) := dk_180 0 175 (dk_at dksX14_type_3 1 rfl rfl)
theorem dX14_type_74 : decode cX14_type 74 = .ok (.iload_n 3, 1) := dk_29 (dk_at dksX14_type_3 4 rfl rfl)
theorem dX14_type_75 : decode cX14_type 75 = .ok (.iaload, 1) := dk_46 (dk_at dksX14_type_3 5 rfl rfl)
theorem dX14_type_76 : decode cX14_type 76 = .ok (.iaload, 1) := dk_46 (dk_at dksX14_type_3 6 rfl rfl)
theorem dX14_type_77 : decode cX14_type 77 = .ok (.isub, 1) := dk_100 (dk_at dksX14_type_3 7 rfl rfl)
theorem dX14_type_78 : decode cX14_type 78 = .ok (.ireturn, 1) := dk_172 (dk_at dksX14_type_3 8 rfl rfl)
theorem dX14_type_79 : decode cX14_type 79 = .ok (.iload_n 2, 1) := dk_28 (dk_at dksX14_type_3 9 rfl rfl)
theorem dX14_type_80 : decode cX14_type 80 = .ok (.iconst 1, 1) := dk_4 (dk_at dksX14_type_3 10 rfl rfl)
theorem dX14_type_81 : decode cX14_type 81 = .ok (.if_icmp .ne 11, 3) := dk_160 0 11 (dk_at dksX14_type_3 11 rfl rfl)
theorem dX14_type_84 : decode cX14_type 84 = .ok (.aload_n 0, 1) := dk_42 (dk_at dksX14_type_3 14 rfl rfl)
theorem dX14_type_85 : decode cX14_type 85 = .ok (.getfield 42, 3) := dk_180 0 42 (dk_at dksX14_type_3 15 rfl rfl)
theorem dX14_type_88 : decode cX14_type 88 = .ok (.iload 5, 2) := dk_21 5 (dk_at dksX14_type_3 18 rfl rfl)
theorem dX14_type_90 : decode cX14_type 90 = .ok (.iaload, 1) := dk_46 (dk_at dksX14_type_3 20 rfl rfl)
theorem dX14_type_91 : decode cX14_type 91 = .ok (.ireturn, 1) := dk_172 (dk_at dksX14_type_3 21 rfl rfl)
theorem dX14_type_92 : decode cX14_type 92 = .ok (.iload_n 2, 1) := dk_28 (dk_at dksX14_type_3 22 rfl rfl)
theorem dX14_type_93 : decode cX14_type 93 = .ok (.iconst 5, 1) := dk_8 (dk_at dksX14_type_3 23 rfl rfl)
theorem dX14_type_94 : decode cX14_type 94 = .ok (.if_icmp .ne 19, 3) := dk_160 0 19 (dk_at dksX14_type_4 0 rfl rfl)
theorem dX14_type_97 : decode cX14_type 97 = .ok (.aload_n 0, 1) := dk_42 (dk_at dksX14_type_4 3 rfl rfl)
theorem dX14_type_98 : decode cX14_type 98 = .ok (.getfield 66, 3) := dk_180 0 66 (dk_at dksX14_type_4 4 rfl rfl)
theorem dX14_type_101 : decode cX14_type 101 = .ok (.iload 5, 2) := dk_21 5 (dk_at dksX14_type_4 7 rfl rfl)
theorem dX14_type_103 : decode cX14_type 103 = .ok (.iaload, 1) := dk_46 (dk_at dksX14_type_4 9 rfl rfl)
theorem dX14_type_104 : decode cX14_type 104 = .ok (.aload_n 0, 1) := dk_42 (dk_at dksX14_type_4 10 rfl rfl)
theorem dX14_type_105 : decode cX14_type 105 = .ok (.getfield 60, 3) := dk_180 0 60 (dk_at dksX14_type_4 11 rfl rfl)
theorem dX14_type_108 : decode cX14_type 108 = .ok (.iload 5, 2) := dk_21 5 (dk_at dksX14_type_4 14 rfl rfl)
theorem dX14_type_110 : decode cX14_type 110 = .ok (.iaload, 1) := dk_46 (dk_at dksX14_type_4 16 rfl rfl)
theorem dX14_type_111 : decode cX14_type 111 = .ok (.iadd, 1) := dk_96 (dk_at dksX14_type_4 17 rfl rfl)
theorem dX14_type_112 : decode cX14_type 112 = .ok (.ireturn, 1) := dk_172 (dk_at dksX14_type_4 18 rfl rfl)
theorem dX14_type_113 : decode cX14_type 113 = .ok (.aload_n 0, 1) := dk_42 (dk_at dksX14_type_4 19 rfl rfl)
theorem dX14_type_114 : decode cX14_type 114 = .ok (.iload 4, 2) := dk_21 4 (dk_at dksX14_type_4 20 rfl rfl)
theorem dX14_type_116 : decode cX14_type 116 = .ok (.invokevirtual 640, 3) := dk_182 2 128 (dk_at dksX14_type_5 0 rfl rfl)
theorem dX14_type_119 : decode cX14_type 119 = .ok (.iload_n 2, 1) := dk_28 (dk_at dksX14_type_5 3 rfl rfl)
theorem dX14_type_120 : decode cX14_type 120 = .ok (.iconst 2, 1) := dk_5 (dk_at dksX14_type_5 4 rfl rfl)
theorem dX14_type_121 : decode cX14_type 121 = .ok (.if_icmp .ne 8, 3) := dk_160 0 8 (dk_at dksX14_type_5 5 rfl rfl)
theorem dX14_type_124 : decode cX14_type 124 = .ok (.aload_n 0, 1) := dk_42 (dk_at dksX14_type_5 8 rfl rfl)
theorem dX14_type_125 : decode cX14_type 125 = .ok (.getfield 630, 3) := dk_180 2 118 (dk_at dksX14_type_5 9 rfl rfl)
theorem dX14_type_128 : decode cX14_type 128 = .ok (.ireturn, 1) := dk_172 (dk_at dksX14_type_5 12 rfl rfl)
theorem dX14_type_129 : decode cX14_type 129 = .ok (.aload_n 0, 1) := dk_42 (dk_at dksX14_type_5 13 rfl rfl)
theorem dX14_type_130 : decode cX14_type 130 = .ok (.getfield 630, 3) := dk_180 2 118 (dk_at dksX14_type_5 14 rfl rfl)
theorem dX14_type_133 : decode cX14_type 133 = .ok (.ifCond .ne 5, 3) := dk_154 0 5 (dk_at dksX14_type_5 17 rfl rfl)
theorem dX14_type_136 : decode cX14_type 136 = .ok (.iconst (-1), 1) := dk_2 (dk_at dksX14_type_5 20 rfl rfl)
theorem dX14_type_137 : decode cX14_type 137 = .ok (.ireturn, 1) := dk_172 (dk_at dksX14_type_5 21 rfl rfl)
theorem dX14_type_138 : decode cX14_type 138 = .ok (.iload_n 2, 1) := dk_28 (dk_at dksX14_type_5 22 rfl rfl)
theorem dX14_type_139 : decode cX14_type 139 = .ok (.iconst 3, 1) := dk_6 (dk_at dksX14_type_5 23 rfl rfl)
theorem dX14_type_140 : decode cX14_type 140 = .ok (.if_icmp .ne 21, 3) := dk_160 0 21 (dk_at dksX14_type_6 0 rfl rfl)
theorem dX14_type_143 : decode cX14_type 143 = .ok (.aload_n 0, 1) := dk_42 (dk_at dksX14_type_6 3 rfl rfl)
theorem dX14_type_144 : decode cX14_type 144 = .ok (.getfield 230, 3) := dk_180 0 230 (dk_at dksX14_type_6 4 rfl rfl)
theorem dX14_type_147 : decode cX14_type 147 = .ok (.aload_n 0, 1) := dk_42 (dk_at dksX14_type_6 7 rfl rfl)
theorem dX14_type_148 : decode cX14_type 148 = .ok (.getfield 630, 3) := dk_180 2 118 (dk_at dksX14_type_6 8 rfl rfl)
theorem dX14_type_151 : decode cX14_type 151 = .ok (.iconst 1, 1) := dk_4 (dk_at dksX14_type_6 11 rfl rfl)
theorem dX14_type_152 : decode cX14_type 152 = .ok (.isub, 1) := dk_100 (dk_at dksX14_type_6 12 rfl rfl)
theorem dX14_type_153 : decode cX14_type 153 = .ok (.laload, 1) := dk_47 (dk_at dksX14_type_6 13 rfl rfl)
theorem dX14_type_154 : decode cX14_type 154 = .ok (.bipush 32, 2) := dk_16 32 (dk_at dksX14_type_6 14 rfl rfl)
theorem dX14_type_156 : decode cX14_type 156 = .ok (.lshr, 1) := dk_123 (dk_at dksX14_type_6 16 rfl rfl)
theorem dX14_type_157 : decode cX14_type 157 = .ok (.l2i, 1) := dk_136 (dk_at dksX14_type_6 17 rfl rfl)
theorem dX14_type_158 : decode cX14_type 158 = .ok (.goto 15, 3) := dk_167 0 15 (dk_at dksX14_type_6 18 rfl rfl)
theorem dX14_type_161 : decode cX14_type 161 = .ok (.aload_n 0, 1) := dk_42 (dk_at dksX14_type_6 21 rfl rfl)
theorem dX14_type_162 : decode cX14_type 162 = .ok (.getfield 230, 3) := dk_180 0 230 (dk_at dksX14_type_7 0 rfl rfl)
theorem dX14_type_165 : decode cX14_type 165 = .ok (.aload_n 0, 1) := dk_42 (dk_at dksX14_type_7 3 rfl rfl)
theorem dX14_type_166 : decode cX14_type 166 = .ok (.getfield 630, 3) := dk_180 2 118 (dk_at dksX14_type_7 4 rfl rfl)
theorem dX14_type_169 : decode cX14_type 169 = .ok (.iconst 1, 1) := dk_4 (dk_at dksX14_type_7 7 rfl rfl)
theorem dX14_type_170 : decode cX14_type 170 = .ok (.isub, 1) := dk_100 (dk_at dksX14_type_7 8 rfl rfl)
theorem dX14_type_171 : decode cX14_type 171 = .ok (.laload, 1) := dk_47 (dk_at dksX14_type_7 9 rfl rfl)
theorem dX14_type_172 : decode cX14_type 172 = .ok (.l2i, 1) := dk_136 (dk_at dksX14_type_7 10 rfl rfl)
theorem dX14_type_173 : decode cX14_type 173 = .ok (.ireturn, 1) := dk_172 (dk_at dksX14_type_7 11 rfl rfl)
abbrev cX14_hasType : ByteArray := prog_15_method_128_code
def yX14_hasType : MethodName := ⟨RX14, "hasType", "(I)Z"⟩
def dkwX14_hasType_1 : List UInt8 := [167, 0, 4, 3, 172]
abbrev dktX14_hasType_1 : List UInt8 := dkwX14_hasType_1 ++ []
def dkwX14_hasType_0 : List UInt8 := [42, 180, 3, 49, 153, 0, 21, 27, 3, 42, 180, 1, 237, 4, 100, 184, 1, 132, 153, 0, 7, 4]
abbrev dktX14_hasType_0 : List UInt8 := dkwX14_hasType_0 ++ dktX14_hasType_1
theorem dksX14_hasType_0 : cX14_hasType.data.toList.drop 0 = dktX14_hasType_0 := by decide +kernel
theorem dksX14_hasType_1 : cX14_hasType.data.toList.drop 22 = dktX14_hasType_1 := dk_seg dksX14_hasType_0 22 rfl rfl
theorem dX14_hasType_0 : decode cX14_hasType 0 = .ok (.aload_n 0, 1) := dk_42 (dk_at dksX14_hasType_0 0 rfl rfl)
theorem dX14_hasType_1 : decode cX14_hasType 1 = .ok (.getfield 817, 3) := dk_180 3 49 (dk_at dksX14_hasType_0 1 rfl rfl)
theorem dX14_hasType_4 : decode cX14_hasType 4 = .ok (.ifCond .eq 21, 3) := dk_153 0 21 (dk_at dksX14_hasType_0 4 rfl rfl)
theorem dX14_hasType_7 : decode cX14_hasType 7 = .ok (.iload_n 1, 1) := dk_27 (dk_at dksX14_hasType_0 7 rfl rfl)
theorem dX14_hasType_8 : decode cX14_hasType 8 = .ok (.iconst 0, 1) := dk_3 (dk_at dksX14_hasType_0 8 rfl rfl)
theorem dX14_hasType_9 : decode cX14_hasType 9 = .ok (.aload_n 0, 1) := dk_42 (dk_at dksX14_hasType_0 9 rfl rfl)
theorem dX14_hasType_10 : decode cX14_hasType 10 = .ok (.getfield 493, 3) := dk_180 1 237 (dk_at dksX14_hasType_0 10 rfl rfl)
theorem dX14_hasType_13 : decode cX14_hasType 13 = .ok (.iconst 1, 1) := dk_4 (dk_at dksX14_hasType_0 13 rfl rfl)
theorem dX14_hasType_14 : decode cX14_hasType 14 = .ok (.isub, 1) := dk_100 (dk_at dksX14_hasType_0 14 rfl rfl)
theorem dX14_hasType_15 : decode cX14_hasType 15 = .ok (.invokestatic 388, 3) := dk_184 1 132 (dk_at dksX14_hasType_0 15 rfl rfl)
theorem dX14_hasType_18 : decode cX14_hasType 18 = .ok (.ifCond .eq 7, 3) := dk_153 0 7 (dk_at dksX14_hasType_0 18 rfl rfl)
theorem dX14_hasType_21 : decode cX14_hasType 21 = .ok (.iconst 1, 1) := dk_4 (dk_at dksX14_hasType_0 21 rfl rfl)
theorem dX14_hasType_22 : decode cX14_hasType 22 = .ok (.goto 4, 3) := dk_167 0 4 (dk_at dksX14_hasType_1 0 rfl rfl)
theorem dX14_hasType_25 : decode cX14_hasType 25 = .ok (.iconst 0, 1) := dk_3 (dk_at dksX14_hasType_1 3 rfl rfl)
theorem dX14_hasType_26 : decode cX14_hasType 26 = .ok (.ireturn, 1) := dk_172 (dk_at dksX14_hasType_1 4 rfl rfl)
abbrev cX14_name : ByteArray := prog_15_method_130_code
def yX14_name : MethodName := ⟨RX14, "name", "(II)I"⟩
def dkwX14_name_3 : List UInt8 := [182, 1, 128, 172]
abbrev dktX14_name_3 : List UInt8 := dkwX14_name_3 ++ []
def dkwX14_name_2 : List UInt8 := [184, 1, 132, 153, 0, 19, 42, 180, 0, 30, 42, 180, 0, 36, 29, 46, 28, 96, 46, 167, 0, 8, 42, 4]
abbrev dktX14_name_2 : List UInt8 := dkwX14_name_2 ++ dktX14_name_3
def dkwX14_name_1 : List UInt8 := [180, 0, 184, 27, 46, 46, 62, 28, 3, 42, 180, 0, 39, 29, 46, 42, 180, 0, 36, 29, 46, 100, 4, 100]
abbrev dktX14_name_1 : List UInt8 := dkwX14_name_1 ++ dktX14_name_2
def dkwX14_name_0 : List UInt8 := [42, 3, 181, 1, 94, 42, 27, 182, 3, 91, 154, 0, 9, 42, 4, 182, 1, 128, 172, 42, 180, 0, 175, 42]
abbrev dktX14_name_0 : List UInt8 := dkwX14_name_0 ++ dktX14_name_1
theorem dksX14_name_0 : cX14_name.data.toList.drop 0 = dktX14_name_0 := by decide +kernel
theorem dksX14_name_1 : cX14_name.data.toList.drop 24 = dktX14_name_1 := dk_seg dksX14_name_0 24 rfl rfl
theorem dksX14_name_2 : cX14_name.data.toList.drop 48 = dktX14_name_2 := dk_seg dksX14_name_1 24 rfl rfl
theorem dksX14_name_3 : cX14_name.data.toList.drop 72 = dktX14_name_3 := dk_seg dksX14_name_2 24 rfl rfl
theorem dX14_name_0 : decode cX14_name 0 = .ok (.aload_n 0, 1) := dk_42 (dk_at dksX14_name_0 0 rfl rfl)
theorem dX14_name_1 : decode cX14_name 1 = .ok (.iconst 0, 1) := dk_3 (dk_at dksX14_name_0 1 rfl rfl)
theorem dX14_name_2 : decode cX14_name 2 = .ok (.putfield 350, 3) := dk_181 1 94 (dk_at dksX14_name_0 2 rfl rfl)
theorem dX14_name_5 : decode cX14_name 5 = .ok (.aload_n 0, 1) := dk_42 (dk_at dksX14_name_0 5 rfl rfl)
theorem dX14_name_6 : decode cX14_name 6 = .ok (.iload_n 1, 1) := dk_27 (dk_at dksX14_name_0 6 rfl rfl)
theorem dX14_name_7 : decode cX14_name 7 = .ok (.invokevirtual 859, 3) := dk_182 3 91 (dk_at dksX14_name_0 7 rfl rfl)
theorem dX14_name_10 : decode cX14_name 10 = .ok (.ifCond .ne 9, 3) := dk_154 0 9 (dk_at dksX14_name_0 10 rfl rfl)
theorem dX14_name_13 : decode cX14_name 13 = .ok (.aload_n 0, 1) := dk_42 (dk_at dksX14_name_0 13 rfl rfl)
theorem dX14_name_14 : decode cX14_name 14 = .ok (.iconst 1, 1) := dk_4 (dk_at dksX14_name_0 14 rfl rfl)
theorem dX14_name_15 : decode cX14_name 15 = .ok (.invokevirtual 384, 3) := dk_182 1 128 (dk_at dksX14_name_0 15 rfl rfl)
theorem dX14_name_18 : decode cX14_name 18 = .ok (.ireturn, 1) := dk_172 (dk_at dksX14_name_0 18 rfl rfl)
theorem dX14_name_19 : decode cX14_name 19 = .ok (.aload_n 0, 1) := dk_42 (dk_at dksX14_name_0 19 rfl rfl)
theorem dX14_name_20 : decode cX14_name 20 = .ok (.getfield 175, 3) := dk_180 0 175 (dk_at dksX14_name_0 20 rfl rfl)
theorem dX14_name_23 : decode cX14_name 23 = .ok (.aload_n 0, 1) := dk_42 (dk_at dksX14_name_0 23 rfl rfl)
theorem dX14_name_24 : decode cX14_name 24 = .ok (.getfield 184, 3) := dk_180 0 184 (dk_at dksX14_name_1 0 rfl rfl)
theorem dX14_name_27 : decode cX14_name 27 = .ok (.iload_n 1, 1) := dk_27 (dk_at dksX14_name_1 3 rfl rfl)
theorem dX14_name_28 : decode cX14_name 28 = .ok (.iaload, 1) := dk_46 (dk_at dksX14_name_1 4 rfl rfl)
theorem dX14_name_29 : decode cX14_name 29 = .ok (.iaload, 1) := dk_46 (dk_at dksX14_name_1 5 rfl rfl)
theorem dX14_name_30 : decode cX14_name 30 = .ok (.istore_n 3, 1) := dk_62 (dk_at dksX14_name_1 6 rfl rfl)
theorem dX14_name_31 : decode cX14_name 31 = .ok (.iload_n 2, 1) := dk_28 (dk_at dksX14_name_1 7 rfl rfl)
theorem dX14_name_32 : decode cX14_name 32 = .ok (.iconst 0, 1) := dk_3 (dk_at dksX14_name_1 8 rfl rfl)
theorem dX14_name_33 : decode cX14_name 33 = .ok (.aload_n 0, 1) := dk_42 (dk_at dksX14_name_1 9 rfl rfl)
theorem dX14_name_34 : decode cX14_name 34 = .ok (.getfield 39, 3) := dk_180 0 39 (dk_at dksX14_name_1 10 rfl rfl)
theorem dX14_name_37 : decode cX14_name 37 = .ok (.iload_n 3, 1) := dk_29 (dk_at dksX14_name_1 13 rfl rfl)
theorem dX14_name_38 : decode cX14_name 38 = .ok (.iaload, 1) := dk_46 (dk_at dksX14_name_1 14 rfl rfl)
theorem dX14_name_39 : decode cX14_name 39 = .ok (.aload_n 0, 1) := dk_42 (dk_at dksX14_name_1 15 rfl rfl)
theorem dX14_name_40 : decode cX14_name 40 = .ok (.getfield 36, 3) := dk_180 0 36 (dk_at dksX14_name_1 16 rfl rfl)
theorem dX14_name_43 : decode cX14_name 43 = .ok (.iload_n 3, 1) := dk_29 (dk_at dksX14_name_1 19 rfl rfl)
theorem dX14_name_44 : decode cX14_name 44 = .ok (.iaload, 1) := dk_46 (dk_at dksX14_name_1 20 rfl rfl)
theorem dX14_name_45 : decode cX14_name 45 = .ok (.isub, 1) := dk_100 (dk_at dksX14_name_1 21 rfl rfl)
theorem dX14_name_46 : decode cX14_name 46 = .ok (.iconst 1, 1) := dk_4 (dk_at dksX14_name_1 22 rfl rfl)
theorem dX14_name_47 : decode cX14_name 47 = .ok (.isub, 1) := dk_100 (dk_at dksX14_name_1 23 rfl rfl)
theorem dX14_name_48 : decode cX14_name 48 = .ok (.invokestatic 388, 3) := dk_184 1 132 (dk_at dksX14_name_2 0 rfl rfl)
theorem dX14_name_51 : decode cX14_name 51 = .ok (.ifCond .eq 19, 3) := dk_153 0 19 (dk_at dksX14_name_2 3 rfl rfl)
theorem dX14_name_54 : decode cX14_name 54 = .ok (.aload_n 0, 1) := dk_42 (dk_at dksX14_name_2 6 rfl rfl)
theorem dX14_name_55 : decode cX14_name 55 = .ok (.getfield 30, 3) := dk_180 0 30 (dk_at dksX14_name_2 7 rfl rfl)
theorem dX14_name_58 : decode cX14_name 58 = .ok (.aload_n 0, 1) := dk_42 (dk_at dksX14_name_2 10 rfl rfl)
theorem dX14_name_59 : decode cX14_name 59 = .ok (.getfield 36, 3) := dk_180 0 36 (dk_at dksX14_name_2 11 rfl rfl)
theorem dX14_name_62 : decode cX14_name 62 = .ok (.iload_n 3, 1) := dk_29 (dk_at dksX14_name_2 14 rfl rfl)
theorem dX14_name_63 : decode cX14_name 63 = .ok (.iaload, 1) := dk_46 (dk_at dksX14_name_2 15 rfl rfl)
theorem dX14_name_64 : decode cX14_name 64 = .ok (.iload_n 2, 1) := dk_28 (dk_at dksX14_name_2 16 rfl rfl)
theorem dX14_name_65 : decode cX14_name 65 = .ok (.iadd, 1) := dk_96 (dk_at dksX14_name_2 17 rfl rfl)
theorem dX14_name_66 : decode cX14_name 66 = .ok (.iaload, 1) := dk_46 (dk_at dksX14_name_2 18 rfl rfl)
theorem dX14_name_67 : decode cX14_name 67 = .ok (.goto 8, 3) := dk_167 0 8 (dk_at dksX14_name_2 19 rfl rfl)
theorem dX14_name_70 : decode cX14_name 70 = .ok (.aload_n 0, 1) := dk_42 (dk_at dksX14_name_2 22 rfl rfl)
theorem dX14_name_71 : decode cX14_name 71 = .ok (.iconst 1, 1) := dk_4 (dk_at dksX14_name_2 23 rfl rfl)
theorem dX14_name_72 : decode cX14_name 72 = .ok (.invokevirtual 384, 3) := dk_182 1 128 (dk_at dksX14_name_3 0 rfl rfl)
theorem dX14_name_75 : decode cX14_name 75 = .ok (.ireturn, 1) := dk_172 (dk_at dksX14_name_3 3 rfl rfl)
abbrev cX14_defaultSize : ByteArray := prog_15_method_131_code
def yX14_defaultSize : MethodName := ⟨RX14, "defaultSize", "(II)I"⟩
def dkwX14_defaultSize_5 : List UInt8 := [46, 5, 160, 0, 18, 42, 180, 0, 254, 42, 180, 0, 109, 21, 4, 46, 46, 167, 0, 4, 2, 172]
abbrev dktX14_defaultSize_5 : List UInt8 := dkwX14_defaultSize_5 ++ []
def dkwX14_defaultSize_4 : List UInt8 := [162, 0, 18, 42, 180, 0, 112, 21, 4, 46, 54, 4, 132, 5, 1, 167, 255, 238, 42, 180, 0, 106, 21, 4]
abbrev dktX14_defaultSize_4 : List UInt8 := dkwX14_defaultSize_4 ++ dktX14_defaultSize_5
def dkwX14_defaultSize_3 : List UInt8 := [154, 0, 9, 42, 4, 182, 1, 128, 172, 42, 180, 0, 63, 29, 46, 54, 4, 3, 54, 5, 21, 5, 28]
abbrev dktX14_defaultSize_3 : List UInt8 := dkwX14_defaultSize_3 ++ dktX14_defaultSize_4
def dkwX14_defaultSize_2 : List UInt8 := [180, 0, 42, 29, 46, 16, 13, 160, 0, 19, 28, 3, 42, 180, 0, 66, 29, 46, 4, 100, 184, 1, 132]
abbrev dktX14_defaultSize_2 : List UInt8 := dkwX14_defaultSize_2 ++ dktX14_defaultSize_3
def dkwX14_defaultSize_1 : List UInt8 := [42, 180, 0, 184, 27, 46, 46, 182, 2, 100, 62, 42, 180, 0, 42, 29, 46, 16, 12, 159, 0, 14, 42]
abbrev dktX14_defaultSize_1 : List UInt8 := dkwX14_defaultSize_1 ++ dktX14_defaultSize_2
def dkwX14_defaultSize_0 : List UInt8 := [42, 3, 181, 1, 94, 42, 27, 182, 3, 91, 154, 0, 9, 42, 4, 182, 1, 128, 172, 42, 42, 180, 0, 178]
abbrev dktX14_defaultSize_0 : List UInt8 := dkwX14_defaultSize_0 ++ dktX14_defaultSize_1
theorem dksX14_defaultSize_0 : cX14_defaultSize.data.toList.drop 0 = dktX14_defaultSize_0 := by decide +kernel
theorem dksX14_defaultSize_1 : cX14_defaultSize.data.toList.drop 24 = dktX14_defaultSize_1 := dk_seg dksX14_defaultSize_0 24 rfl rfl
theorem dksX14_defaultSize_2 : cX14_defaultSize.data.toList.drop 47 = dktX14_defaultSize_2 := dk_seg dksX14_defaultSize_1 23 rfl rfl
theorem dksX14_defaultSize_3 : cX14_defaultSize.data.toList.drop 70 = dktX14_defaultSize_3 := dk_seg dksX14_defaultSize_2 23 rfl rfl
theorem dksX14_defaultSize_4 : cX14_defaultSize.data.toList.drop 93 = dktX14_defaultSize_4 := dk_seg dksX14_defaultSize_3 23 rfl rfl
theorem dksX14_defaultSize_5 : cX14_defaultSize.data.toList.drop 117 = dktX14_defaultSize_5 := dk_seg dksX14_defaultSize_4 24 rfl rfl
theorem dX14_defaultSize_0 : decode cX14_defaultSize 0 = .ok (.aload_n 0, 1) := dk_42 (dk_at dksX14_defaultSize_0 0 rfl rfl)
theorem dX14_defaultSize_1 : decode cX14_defaultSize 1 = .ok (.iconst 0, 1) := dk_3 (dk_at dksX14_defaultSize_0 1 rfl rfl)
theorem dX14_defaultSize_2 : decode cX14_defaultSize 2 = .ok (.putfield 350, 3) := dk_181 1 94 (dk_at dksX14_defaultSize_0 2 rfl rfl)
theorem dX14_defaultSize_5 : decode cX14_defaultSize 5 = .ok (.aload_n 0, 1) := dk_42 (dk_at dksX14_defaultSize_0 5 rfl rfl)
theorem dX14_defaultSize_6 : decode cX14_defaultSize 6 = .ok (.iload_n 1, 1) := dk_27 (dk_at dksX14_defaultSize_0 6 rfl rfl)
theorem dX14_defaultSize_7 : decode cX14_defaultSize 7 = .ok (.invokevirtual 859, 3) := dk_182 3 91 (dk_at dksX14_defaultSize_0 7 rfl rfl)
theorem dX14_defaultSize_10 : decode cX14_defaultSize 10 = .ok (.ifCond .ne 9, 3) := dk_154 0 9 (dk_at dksX14_defaultSize_0 10 rfl rfl)
theorem dX14_defaultSize_13 : decode cX14_defaultSize 13 = .ok (.aload_n 0, 1) := dk_42 (dk_at dksX14_defaultSize_0 13 rfl rfl)
theorem dX14_defaultSize_14 : decode cX14_defaultSize 14 = .ok (.iconst 1, 1) := dk_4 (dk_at dksX14_defaultSize_0 14 rfl rfl)
theorem dX14_defaultSize_15 : decode cX14_defaultSize 15 = .ok (.invokevirtual 384, 3) := dk_182 1 128 (dk_at dksX14_defaultSize_0 15 rfl rfl)
theorem dX14_defaultSize_18 : decode cX14_defaultSize 18 = .ok (.ireturn, 1) := dk_172 (dk_at dksX14_defaultSize_0 18 rfl rfl)
theorem dX14_defaultSize_19 : decode cX14_defaultSize 19 = .ok (.aload_n 0, 1) := dk_42 (dk_at dksX14_defaultSize_0 19 rfl rfl)
theorem dX14_defaultSize_20 : decode cX14_defaultSize 20 = .ok (.aload_n 0, 1) := dk_42 (dk_at dksX14_defaultSize_0 20 rfl rfl)
theorem dX14_defaultSize_21 : decode cX14_defaultSize 21 = .ok (.getfield 178, 3) := dk_180 0 178 (dk_at dksX14_defaultSize_0 21 rfl rfl)
theorem dX14_defaultSize_24 : decode cX14_defaultSize 24 = .ok (.aload_n 0, 1) := dk_42 (dk_at dksX14_defaultSize_1 0 rfl rfl)
theorem dX14_defaultSize_25 : decode cX14_defaultSize 25 = .ok (.getfield 184, 3) := dk_180 0 184 (dk_at dksX14_defaultSize_1 1 rfl rfl)
theorem dX14_defaultSize_28 : decode cX14_defaultSize 28 = .ok (.iload_n 1, 1) := dk_27 (dk_at dksX14_defaultSize_1 4 rfl rfl)
theorem dX14_defaultSize_29 : decode cX14_defaultSize 29 = .ok (.iaload, 1) := dk_46 (dk_at dksX14_defaultSize_1 5 rfl rfl)
theorem dX14_defaultSize_30 : decode cX14_defaultSize 30 = .ok (.iaload, 1) := dk_46 (dk_at dksX14_defaultSize_1 6 rfl rfl)
theorem dX14_defaultSize_31 : decode cX14_defaultSize 31 = .ok (.invokevirtual 612, 3) := dk_182 2 100 (dk_at dksX14_defaultSize_1 7 rfl rfl)
theorem dX14_defaultSize_34 : decode cX14_defaultSize 34 = .ok (.istore_n 3, 1) := dk_62 (dk_at dksX14_defaultSize_1 10 rfl rfl)
theorem dX14_defaultSize_35 : decode cX14_defaultSize 35 = .ok (.aload_n 0, 1) := dk_42 (dk_at dksX14_defaultSize_1 11 rfl rfl)
theorem dX14_defaultSize_36 : decode cX14_defaultSize 36 = .ok (.getfield 42, 3) := dk_180 0 42 (dk_at dksX14_defaultSize_1 12 rfl rfl)
theorem dX14_defaultSize_39 : decode cX14_defaultSize 39 = .ok (.iload_n 3, 1) := dk_29 (dk_at dksX14_defaultSize_1 15 rfl rfl)
theorem dX14_defaultSize_40 : decode cX14_defaultSize 40 = .ok (.iaload, 1) := dk_46 (dk_at dksX14_defaultSize_1 16 rfl rfl)
theorem dX14_defaultSize_41 : decode cX14_defaultSize 41 = .ok (.bipush 12, 2) := dk_16 12 (dk_at dksX14_defaultSize_1 17 rfl rfl)
theorem dX14_defaultSize_43 : decode cX14_defaultSize 43 = .ok (.if_icmp .eq 14, 3) := dk_159 0 14 (dk_at dksX14_defaultSize_1 19 rfl rfl)
theorem dX14_defaultSize_46 : decode cX14_defaultSize 46 = .ok (.aload_n 0, 1) := dk_42 (dk_at dksX14_defaultSize_1 22 rfl rfl)
theorem dX14_defaultSize_47 : decode cX14_defaultSize 47 = .ok (.getfield 42, 3) := dk_180 0 42 (dk_at dksX14_defaultSize_2 0 rfl rfl)
theorem dX14_defaultSize_50 : decode cX14_defaultSize 50 = .ok (.iload_n 3, 1) := dk_29 (dk_at dksX14_defaultSize_2 3 rfl rfl)
theorem dX14_defaultSize_51 : decode cX14_defaultSize 51 = .ok (.iaload, 1) := dk_46 (dk_at dksX14_defaultSize_2 4 rfl rfl)
theorem dX14_defaultSize_52 : decode cX14_defaultSize 52 = .ok (.bipush 13, 2) := dk_16 13 (dk_at dksX14_defaultSize_2 5 rfl rfl)
theorem dX14_defaultSize_54 : decode cX14_defaultSize 54 = .ok (.if_icmp .ne 19, 3) := dk_160 0 19 (dk_at dksX14_defaultSize_2 7 rfl rfl)
theorem dX14_defaultSize_57 : decode cX14_defaultSize 57 = .ok (.iload_n 2, 1) := dk_28 (dk_at dksX14_defaultSize_2 10 rfl rfl)
theorem dX14_defaultSize_58 : decode cX14_defaultSize 58 = .ok (.iconst 0, 1) := dk_3 (dk_at dksX14_defaultSize_2 11 rfl rfl)
theorem dX14_defaultSize_59 : decode cX14_defaultSize 59 = .ok (.aload_n 0, 1) := dk_42 (dk_at dksX14_defaultSize_2 12 rfl rfl)
theorem dX14_defaultSize_60 : decode cX14_defaultSize 60 = .ok (.getfield 66, 3) := dk_180 0 66 (dk_at dksX14_defaultSize_2 13 rfl rfl)
theorem dX14_defaultSize_63 : decode cX14_defaultSize 63 = .ok (.iload_n 3, 1) := dk_29 (dk_at dksX14_defaultSize_2 16 rfl rfl)
theorem dX14_defaultSize_64 : decode cX14_defaultSize 64 = .ok (.iaload, 1) := dk_46 (dk_at dksX14_defaultSize_2 17 rfl rfl)
theorem dX14_defaultSize_65 : decode cX14_defaultSize 65 = .ok (.iconst 1, 1) := dk_4 (dk_at dksX14_defaultSize_2 18 rfl rfl)
theorem dX14_defaultSize_66 : decode cX14_defaultSize 66 = .ok (.isub, 1) := dk_100 (dk_at dksX14_defaultSize_2 19 rfl rfl)
theorem dX14_defaultSize_67 : decode cX14_defaultSize 67 = .ok (.invokestatic 388, 3) := dk_184 1 132 (dk_at dksX14_defaultSize_2 20 rfl rfl)
theorem dX14_defaultSize_70 : decode cX14_defaultSize 70 = .ok (.ifCond .ne 9, 3) := dk_154 0 9 (dk_at dksX14_defaultSize_3 0 rfl rfl)
theorem dX14_defaultSize_73 : decode cX14_defaultSize 73 = .ok (.aload_n 0, 1) := dk_42 (dk_at dksX14_defaultSize_3 3 rfl rfl)
theorem dX14_defaultSize_74 : decode cX14_defaultSize 74 = .ok (.iconst 1, 1) := dk_4 (dk_at dksX14_defaultSize_3 4 rfl rfl)
theorem dX14_defaultSize_75 : decode cX14_defaultSize 75 = .ok (.invokevirtual 384, 3) := dk_182 1 128 (dk_at dksX14_defaultSize_3 5 rfl rfl)
theorem dX14_defaultSize_78 : decode cX14_defaultSize 78 = .ok (.ireturn, 1) := dk_172 (dk_at dksX14_defaultSize_3 8 rfl rfl)
theorem dX14_defaultSize_79 : decode cX14_defaultSize 79 = .ok (.aload_n 0, 1) := dk_42 (dk_at dksX14_defaultSize_3 9 rfl rfl)
theorem dX14_defaultSize_80 : decode cX14_defaultSize 80 = .ok (.getfield 63, 3) := dk_180 0 63 (dk_at dksX14_defaultSize_3 10 rfl rfl)
theorem dX14_defaultSize_83 : decode cX14_defaultSize 83 = .ok (.iload_n 3, 1) := dk_29 (dk_at dksX14_defaultSize_3 13 rfl rfl)
theorem dX14_defaultSize_84 : decode cX14_defaultSize 84 = .ok (.iaload, 1) := dk_46 (dk_at dksX14_defaultSize_3 14 rfl rfl)
theorem dX14_defaultSize_85 : decode cX14_defaultSize 85 = .ok (.istore 4, 2) := dk_54 4 (dk_at dksX14_defaultSize_3 15 rfl rfl)
theorem dX14_defaultSize_87 : decode cX14_defaultSize 87 = .ok (.iconst 0, 1) := dk_3 (dk_at dksX14_defaultSize_3 17 rfl rfl)
theorem dX14_defaultSize_88 : decode cX14_defaultSize 88 = .ok (.istore 5, 2) := dk_54 5 (dk_at dksX14_defaultSize_3 18 rfl rfl)
theorem dX14_defaultSize_90 : decode cX14_defaultSize 90 = .ok (.iload 5, 2) := dk_21 5 (dk_at dksX14_defaultSize_3 20 rfl rfl)
theorem dX14_defaultSize_92 : decode cX14_defaultSize 92 = .ok (.iload_n 2, 1) := dk_28 (dk_at dksX14_defaultSize_3 22 rfl rfl)
theorem dX14_defaultSize_93 : decode cX14_defaultSize 93 = .ok (.if_icmp .ge 18, 3) := dk_162 0 18 (dk_at dksX14_defaultSize_4 0 rfl rfl)
theorem dX14_defaultSize_96 : decode cX14_defaultSize 96 = .ok (.aload_n 0, 1) := dk_42 (dk_at dksX14_defaultSize_4 3 rfl rfl)
theorem dX14_defaultSize_97 : decode cX14_defaultSize 97 = .ok (.getfield 112, 3) := dk_180 0 112 (dk_at dksX14_defaultSize_4 4 rfl rfl)
theorem dX14_defaultSize_100 : decode cX14_defaultSize 100 = .ok (.iload 4, 2) := dk_21 4 (dk_at dksX14_defaultSize_4 7 rfl rfl)
theorem dX14_defaultSize_102 : decode cX14_defaultSize 102 = .ok (.iaload, 1) := dk_46 (dk_at dksX14_defaultSize_4 9 rfl rfl)
theorem dX14_defaultSize_103 : decode cX14_defaultSize 103 = .ok (.istore 4, 2) := dk_54 4 (dk_at dksX14_defaultSize_4 10 rfl rfl)
theorem dX14_defaultSize_105 : decode cX14_defaultSize 105 = .ok (.iinc 5 1, 3) := dk_132 5 1 (dk_at dksX14_defaultSize_4 12 rfl rfl)
theorem dX14_defaultSize_108 : decode cX14_defaultSize 108 = .ok (.goto (-18), 3) := dk_167 255 238 (dk_at dksX14_defaultSize_4 15 rfl rfl)
theorem dX14_defaultSize_111 : decode cX14_defaultSize 111 = .ok (.aload_n 0, 1) := dk_42 (dk_at dksX14_defaultSize_4 18 rfl rfl)
theorem dX14_defaultSize_112 : decode cX14_defaultSize 112 = .ok (.getfield 106, 3) := dk_180 0 106 (dk_at dksX14_defaultSize_4 19 rfl rfl)
theorem dX14_defaultSize_115 : decode cX14_defaultSize 115 = .ok (.iload 4, 2) := dk_21 4 (dk_at dksX14_defaultSize_4 22 rfl rfl)
theorem dX14_defaultSize_117 : decode cX14_defaultSize 117 = .ok (.iaload, 1) := dk_46 (dk_at dksX14_defaultSize_5 0 rfl rfl)
theorem dX14_defaultSize_118 : decode cX14_defaultSize 118 = .ok (.iconst 2, 1) := dk_5 (dk_at dksX14_defaultSize_5 1 rfl rfl)
theorem dX14_defaultSize_119 : decode cX14_defaultSize 119 = .ok (.if_icmp .ne 18, 3) := dk_160 0 18 (dk_at dksX14_defaultSize_5 2 rfl rfl)
theorem dX14_defaultSize_122 : decode cX14_defaultSize 122 = .ok (.aload_n 0, 1) := dk_42 (dk_at dksX14_defaultSize_5 5 rfl rfl)
theorem dX14_defaultSize_123 : decode cX14_defaultSize 123 = .ok (.getfield 254, 3) := dk_180 0 254 (dk_at dksX14_defaultSize_5 6 rfl rfl)
theorem dX14_defaultSize_126 : decode cX14_defaultSize 126 = .ok (.aload_n 0, 1) := dk_42 (dk_at dksX14_defaultSize_5 9 rfl rfl)
theorem dX14_defaultSize_127 : decode cX14_defaultSize 127 = .ok (.getfield 109, 3) := dk_180 0 109 (dk_at dksX14_defaultSize_5 10 rfl rfl)
theorem dX14_defaultSize_130 : decode cX14_defaultSize 130 = .ok (.iload 4, 2) := dk_21 4 (dk_at dksX14_defaultSize_5 13 rfl rfl)
theorem dX14_defaultSize_132 : decode cX14_defaultSize 132 = .ok (.iaload, 1) := dk_46 (dk_at dksX14_defaultSize_5 15 rfl rfl)
theorem dX14_defaultSize_133 : decode cX14_defaultSize 133 = .ok (.iaload, 1) := dk_46 (dk_at dksX14_defaultSize_5 16 rfl rfl)
theorem dX14_defaultSize_134 : decode cX14_defaultSize 134 = .ok (.goto 4, 3) := dk_167 0 4 (dk_at dksX14_defaultSize_5 17 rfl rfl)
theorem dX14_defaultSize_137 : decode cX14_defaultSize 137 = .ok (.iconst (-1), 1) := dk_2 (dk_at dksX14_defaultSize_5 20 rfl rfl)
theorem dX14_defaultSize_138 : decode cX14_defaultSize 138 = .ok (.ireturn, 1) := dk_172 (dk_at dksX14_defaultSize_5 21 rfl rfl)
abbrev cX14_limit : ByteArray := prog_15_method_132_code
def yX14_limit : MethodName := ⟨RX14, "limit", "(I)I"⟩
def dkwX14_limit_1 : List UInt8 := [180, 0, 23, 61, 42, 27, 181, 0, 23, 28, 172]
abbrev dktX14_limit_1 : List UInt8 := dkwX14_limit_1 ++ []
def dkwX14_limit_0 : List UInt8 := [42, 3, 181, 1, 94, 27, 7, 17, 4, 0, 184, 1, 132, 154, 0, 9, 42, 4, 182, 1, 128, 172, 42]
abbrev dktX14_limit_0 : List UInt8 := dkwX14_limit_0 ++ dktX14_limit_1
theorem dksX14_limit_0 : cX14_limit.data.toList.drop 0 = dktX14_limit_0 := by decide +kernel
theorem dksX14_limit_1 : cX14_limit.data.toList.drop 23 = dktX14_limit_1 := dk_seg dksX14_limit_0 23 rfl rfl
theorem dX14_limit_0 : decode cX14_limit 0 = .ok (.aload_n 0, 1) := dk_42 (dk_at dksX14_limit_0 0 rfl rfl)
theorem dX14_limit_1 : decode cX14_limit 1 = .ok (.iconst 0, 1) := dk_3 (dk_at dksX14_limit_0 1 rfl rfl)
theorem dX14_limit_2 : decode cX14_limit 2 = .ok (.putfield 350, 3) := dk_181 1 94 (dk_at dksX14_limit_0 2 rfl rfl)
theorem dX14_limit_5 : decode cX14_limit 5 = .ok (.iload_n 1, 1) := dk_27 (dk_at dksX14_limit_0 5 rfl rfl)
theorem dX14_limit_6 : decode cX14_limit 6 = .ok (.iconst 4, 1) := dk_7 (dk_at dksX14_limit_0 6 rfl rfl)
theorem dX14_limit_7 : decode cX14_limit 7 = .ok (.sipush 1024, 3) := dk_17 4 0 (dk_at dksX14_limit_0 7 rfl rfl)
theorem dX14_limit_10 : decode cX14_limit 10 = .ok (.invokestatic 388, 3) := dk_184 1 132 (dk_at dksX14_limit_0 10 rfl rfl)
theorem dX14_limit_13 : decode cX14_limit 13 = .ok (.ifCond .ne 9, 3) := dk_154 0 9 (dk_at dksX14_limit_0 13 rfl rfl)
theorem dX14_limit_16 : decode cX14_limit 16 = .ok (.aload_n 0, 1) := dk_42 (dk_at dksX14_limit_0 16 rfl rfl)
theorem dX14_limit_17 : decode cX14_limit 17 = .ok (.iconst 1, 1) := dk_4 (dk_at dksX14_limit_0 17 rfl rfl)
theorem dX14_limit_18 : decode cX14_limit 18 = .ok (.invokevirtual 384, 3) := dk_182 1 128 (dk_at dksX14_limit_0 18 rfl rfl)
theorem dX14_limit_21 : decode cX14_limit 21 = .ok (.ireturn, 1) := dk_172 (dk_at dksX14_limit_0 21 rfl rfl)
theorem dX14_limit_22 : decode cX14_limit 22 = .ok (.aload_n 0, 1) := dk_42 (dk_at dksX14_limit_0 22 rfl rfl)
theorem dX14_limit_23 : decode cX14_limit 23 = .ok (.getfield 23, 3) := dk_180 0 23 (dk_at dksX14_limit_1 0 rfl rfl)
theorem dX14_limit_26 : decode cX14_limit 26 = .ok (.istore_n 2, 1) := dk_61 (dk_at dksX14_limit_1 3 rfl rfl)
theorem dX14_limit_27 : decode cX14_limit 27 = .ok (.aload_n 0, 1) := dk_42 (dk_at dksX14_limit_1 4 rfl rfl)
theorem dX14_limit_28 : decode cX14_limit 28 = .ok (.iload_n 1, 1) := dk_27 (dk_at dksX14_limit_1 5 rfl rfl)
theorem dX14_limit_29 : decode cX14_limit 29 = .ok (.putfield 23, 3) := dk_181 0 23 (dk_at dksX14_limit_1 6 rfl rfl)
theorem dX14_limit_32 : decode cX14_limit 32 = .ok (.iload_n 2, 1) := dk_28 (dk_at dksX14_limit_1 9 rfl rfl)
theorem dX14_limit_33 : decode cX14_limit 33 = .ok (.ireturn, 1) := dk_172 (dk_at dksX14_limit_1 10 rfl rfl)
abbrev cX14_transcode : ByteArray := prog_15_method_164_code
def yX14_transcode : MethodName := ⟨RX14, "transcode", "(I)I"⟩
def dkwX14_transcode_9 : List UInt8 := [79, 132, 2, 1, 167, 255, 233, 42, 180, 3, 232, 172]
abbrev dktX14_transcode_9 : List UInt8 := dkwX14_transcode_9 ++ []
def dkwX14_transcode_8 : List UInt8 := [181, 0, 27, 3, 61, 28, 42, 180, 3, 232, 162, 0, 21, 42, 180, 0, 27, 28, 42, 180, 1, 49, 28, 46]
abbrev dktX14_transcode_8 : List UInt8 := dkwX14_transcode_8 ++ dktX14_transcode_9
def dkwX14_transcode_7 : List UInt8 := [181, 3, 232, 42, 180, 0, 27, 190, 42, 180, 3, 232, 162, 0, 14, 42, 42, 180, 1, 49, 190, 188, 10]
abbrev dktX14_transcode_7 : List UInt8 := dkwX14_transcode_7 ++ dktX14_transcode_8
def dkwX14_transcode_6 : List UInt8 := [158, 0, 9, 42, 5, 182, 1, 128, 172, 42, 42, 180, 3, 100, 181, 3, 229, 42, 42, 180, 3, 120]
abbrev dktX14_transcode_6 : List UInt8 := dkwX14_transcode_6 ++ dktX14_transcode_7
def dkwX14_transcode_5 : List UInt8 := [180, 1, 97, 154, 0, 17, 42, 180, 1, 117, 158, 0, 10, 42, 182, 3, 226, 167, 255, 238, 42, 180, 1, 97]
abbrev dktX14_transcode_5 : List UInt8 := dkwX14_transcode_5 ++ dktX14_transcode_6
def dkwX14_transcode_4 : List UInt8 := [180, 1, 97, 154, 0, 20, 42, 42, 180, 0, 178, 42, 180, 0, 184, 27, 46, 46, 3, 2, 182, 3, 169, 42]
abbrev dktX14_transcode_4 : List UInt8 := dkwX14_transcode_4 ++ dktX14_transcode_5
def dkwX14_transcode_3 : List UInt8 := [182, 3, 220, 42, 182, 3, 223, 42, 3, 181, 3, 120, 42, 3, 181, 1, 117, 42, 3, 181, 3, 140, 42]
abbrev dktX14_transcode_3 : List UInt8 := dkwX14_transcode_3 ++ dktX14_transcode_4
def dkwX14_transcode_2 : List UInt8 := [180, 1, 13, 28, 42, 180, 0, 20, 28, 46, 79, 132, 2, 1, 167, 255, 233, 42, 3, 181, 1, 124, 42]
abbrev dktX14_transcode_2 : List UInt8 := dkwX14_transcode_2 ++ dktX14_transcode_3
def dkwX14_transcode_1 : List UInt8 := [42, 3, 181, 1, 100, 42, 42, 180, 1, 124, 181, 1, 114, 3, 61, 28, 42, 180, 1, 124, 162, 0, 21, 42]
abbrev dktX14_transcode_1 : List UInt8 := dkwX14_transcode_1 ++ dktX14_transcode_2
def dkwX14_transcode_0 : List UInt8 := [42, 3, 181, 1, 94, 42, 27, 182, 3, 91, 154, 0, 9, 42, 4, 182, 1, 128, 172, 42, 3, 181, 1, 97]
abbrev dktX14_transcode_0 : List UInt8 := dkwX14_transcode_0 ++ dktX14_transcode_1
theorem dksX14_transcode_0 : cX14_transcode.data.toList.drop 0 = dktX14_transcode_0 := by decide +kernel
theorem dksX14_transcode_1 : cX14_transcode.data.toList.drop 24 = dktX14_transcode_1 := dk_seg dksX14_transcode_0 24 rfl rfl
theorem dksX14_transcode_2 : cX14_transcode.data.toList.drop 48 = dktX14_transcode_2 := dk_seg dksX14_transcode_1 24 rfl rfl
theorem dksX14_transcode_3 : cX14_transcode.data.toList.drop 71 = dktX14_transcode_3 := dk_seg dksX14_transcode_2 23 rfl rfl
theorem dksX14_transcode_4 : cX14_transcode.data.toList.drop 94 = dktX14_transcode_4 := dk_seg dksX14_transcode_3 23 rfl rfl
theorem dksX14_transcode_5 : cX14_transcode.data.toList.drop 118 = dktX14_transcode_5 := dk_seg dksX14_transcode_4 24 rfl rfl
theorem dksX14_transcode_6 : cX14_transcode.data.toList.drop 142 = dktX14_transcode_6 := dk_seg dksX14_transcode_5 24 rfl rfl
theorem dksX14_transcode_7 : cX14_transcode.data.toList.drop 164 = dktX14_transcode_7 := dk_seg dksX14_transcode_6 22 rfl rfl
theorem dksX14_transcode_8 : cX14_transcode.data.toList.drop 187 = dktX14_transcode_8 := dk_seg dksX14_transcode_7 23 rfl rfl
theorem dksX14_transcode_9 : cX14_transcode.data.toList.drop 211 = dktX14_transcode_9 := dk_seg dksX14_transcode_8 24 rfl rfl
theorem dX14_transcode_0 : decode cX14_transcode 0 = .ok (.aload_n 0, 1) := dk_42 (dk_at dksX14_transcode_0 0 rfl rfl)
theorem dX14_transcode_1 : decode cX14_transcode 1 = .ok (.iconst 0, 1) := dk_3 (dk_at dksX14_transcode_0 1 rfl rfl)
theorem dX14_transcode_2 : decode cX14_transcode 2 = .ok (.putfield 350, 3) := dk_181 1 94 (dk_at dksX14_transcode_0 2 rfl rfl)
theorem dX14_transcode_5 : decode cX14_transcode 5 = .ok (.aload_n 0, 1) := dk_42 (dk_at dksX14_transcode_0 5 rfl rfl)
theorem dX14_transcode_6 : decode cX14_transcode 6 = .ok (.iload_n 1, 1) := dk_27 (dk_at dksX14_transcode_0 6 rfl rfl)
theorem dX14_transcode_7 : decode cX14_transcode 7 = .ok (.invokevirtual 859, 3) := dk_182 3 91 (dk_at dksX14_transcode_0 7 rfl rfl)
theorem dX14_transcode_10 : decode cX14_transcode 10 = .ok (.ifCond .ne 9, 3) := dk_154 0 9 (dk_at dksX14_transcode_0 10 rfl rfl)
theorem dX14_transcode_13 : decode cX14_transcode 13 = .ok (.aload_n 0, 1) := dk_42 (dk_at dksX14_transcode_0 13 rfl rfl)
theorem dX14_transcode_14 : decode cX14_transcode 14 = .ok (.iconst 1, 1) := dk_4 (dk_at dksX14_transcode_0 14 rfl rfl)
theorem dX14_transcode_15 : decode cX14_transcode 15 = .ok (.invokevirtual 384, 3) := dk_182 1 128 (dk_at dksX14_transcode_0 15 rfl rfl)
theorem dX14_transcode_18 : decode cX14_transcode 18 = .ok (.ireturn, 1) := dk_172 (dk_at dksX14_transcode_0 18 rfl rfl)
theorem dX14_transcode_19 : decode cX14_transcode 19 = .ok (.aload_n 0, 1) := dk_42 (dk_at dksX14_transcode_0 19 rfl rfl)
theorem dX14_transcode_20 : decode cX14_transcode 20 = .ok (.iconst 0, 1) := dk_3 (dk_at dksX14_transcode_0 20 rfl rfl)
theorem dX14_transcode_21 : decode cX14_transcode 21 = .ok (.putfield 353, 3) := dk_181 1 97 (dk_at dksX14_transcode_0 21 rfl rfl)
theorem dX14_transcode_24 : decode cX14_transcode 24 = .ok (.aload_n 0, 1) := dk_42 (dk_at dksX14_transcode_1 0 rfl rfl)
theorem dX14_transcode_25 : decode cX14_transcode 25 = .ok (.iconst 0, 1) := dk_3 (dk_at dksX14_transcode_1 1 rfl rfl)
theorem dX14_transcode_26 : decode cX14_transcode 26 = .ok (.putfield 356, 3) := dk_181 1 100 (dk_at dksX14_transcode_1 2 rfl rfl)
theorem dX14_transcode_29 : decode cX14_transcode 29 = .ok (.aload_n 0, 1) := dk_42 (dk_at dksX14_transcode_1 5 rfl rfl)
theorem dX14_transcode_30 : decode cX14_transcode 30 = .ok (.aload_n 0, 1) := dk_42 (dk_at dksX14_transcode_1 6 rfl rfl)
theorem dX14_transcode_31 : decode cX14_transcode 31 = .ok (.getfield 380, 3) := dk_180 1 124 (dk_at dksX14_transcode_1 7 rfl rfl)
theorem dX14_transcode_34 : decode cX14_transcode 34 = .ok (.putfield 370, 3) := dk_181 1 114 (dk_at dksX14_transcode_1 10 rfl rfl)
theorem dX14_transcode_37 : decode cX14_transcode 37 = .ok (.iconst 0, 1) := dk_3 (dk_at dksX14_transcode_1 13 rfl rfl)
theorem dX14_transcode_38 : decode cX14_transcode 38 = .ok (.istore_n 2, 1) := dk_61 (dk_at dksX14_transcode_1 14 rfl rfl)
theorem dX14_transcode_39 : decode cX14_transcode 39 = .ok (.iload_n 2, 1) := dk_28 (dk_at dksX14_transcode_1 15 rfl rfl)
theorem dX14_transcode_40 : decode cX14_transcode 40 = .ok (.aload_n 0, 1) := dk_42 (dk_at dksX14_transcode_1 16 rfl rfl)
theorem dX14_transcode_41 : decode cX14_transcode 41 = .ok (.getfield 380, 3) := dk_180 1 124 (dk_at dksX14_transcode_1 17 rfl rfl)
theorem dX14_transcode_44 : decode cX14_transcode 44 = .ok (.if_icmp .ge 21, 3) := dk_162 0 21 (dk_at dksX14_transcode_1 20 rfl rfl)
theorem dX14_transcode_47 : decode cX14_transcode 47 = .ok (.aload_n 0, 1) := dk_42 (dk_at dksX14_transcode_1 23 rfl rfl)
theorem dX14_transcode_48 : decode cX14_transcode 48 = .ok (.getfield 269, 3) := dk_180 1 13 (dk_at dksX14_transcode_2 0 rfl rfl)
theorem dX14_transcode_51 : decode cX14_transcode 51 = .ok (.iload_n 2, 1) := dk_28 (dk_at dksX14_transcode_2 3 rfl rfl)
theorem dX14_transcode_52 : decode cX14_transcode 52 = .ok (.aload_n 0, 1) := dk_42 (dk_at dksX14_transcode_2 4 rfl rfl)
theorem dX14_transcode_53 : decode cX14_transcode 53 = .ok (.getfield 20, 3) := dk_180 0 20 (dk_at dksX14_transcode_2 5 rfl rfl)
theorem dX14_transcode_56 : decode cX14_transcode 56 = .ok (.iload_n 2, 1) := dk_28 (dk_at dksX14_transcode_2 8 rfl rfl)
theorem dX14_transcode_57 : decode cX14_transcode 57 = .ok (.iaload, 1) := dk_46 (dk_at dksX14_transcode_2 9 rfl rfl)
theorem dX14_transcode_58 : decode cX14_transcode 58 = .ok (.iastore, 1) := dk_79 (dk_at dksX14_transcode_2 10 rfl rfl)
theorem dX14_transcode_59 : decode cX14_transcode 59 = .ok (.iinc 2 1, 3) := dk_132 2 1 (dk_at dksX14_transcode_2 11 rfl rfl)
theorem dX14_transcode_62 : decode cX14_transcode 62 = .ok (.goto (-23), 3) := dk_167 255 233 (dk_at dksX14_transcode_2 14 rfl rfl)
theorem dX14_transcode_65 : decode cX14_transcode 65 = .ok (.aload_n 0, 1) := dk_42 (dk_at dksX14_transcode_2 17 rfl rfl)
theorem dX14_transcode_66 : decode cX14_transcode 66 = .ok (.iconst 0, 1) := dk_3 (dk_at dksX14_transcode_2 18 rfl rfl)
theorem dX14_transcode_67 : decode cX14_transcode 67 = .ok (.putfield 380, 3) := dk_181 1 124 (dk_at dksX14_transcode_2 19 rfl rfl)
theorem dX14_transcode_70 : decode cX14_transcode 70 = .ok (.aload_n 0, 1) := dk_42 (dk_at dksX14_transcode_2 22 rfl rfl)
theorem dX14_transcode_71 : decode cX14_transcode 71 = .ok (.invokevirtual 988, 3) := dk_182 3 220 (dk_at dksX14_transcode_3 0 rfl rfl)
theorem dX14_transcode_74 : decode cX14_transcode 74 = .ok (.aload_n 0, 1) := dk_42 (dk_at dksX14_transcode_3 3 rfl rfl)
theorem dX14_transcode_75 : decode cX14_transcode 75 = .ok (.invokevirtual 991, 3) := dk_182 3 223 (dk_at dksX14_transcode_3 4 rfl rfl)
theorem dX14_transcode_78 : decode cX14_transcode 78 = .ok (.aload_n 0, 1) := dk_42 (dk_at dksX14_transcode_3 7 rfl rfl)
theorem dX14_transcode_79 : decode cX14_transcode 79 = .ok (.iconst 0, 1) := dk_3 (dk_at dksX14_transcode_3 8 rfl rfl)
theorem dX14_transcode_80 : decode cX14_transcode 80 = .ok (.putfield 888, 3) := dk_181 3 120 (dk_at dksX14_transcode_3 9 rfl rfl)
theorem dX14_transcode_83 : decode cX14_transcode 83 = .ok (.aload_n 0, 1) := dk_42 (dk_at dksX14_transcode_3 12 rfl rfl)
theorem dX14_transcode_84 : decode cX14_transcode 84 = .ok (.iconst 0, 1) := dk_3 (dk_at dksX14_transcode_3 13 rfl rfl)
theorem dX14_transcode_85 : decode cX14_transcode 85 = .ok (.putfield 373, 3) := dk_181 1 117 (dk_at dksX14_transcode_3 14 rfl rfl)
theorem dX14_transcode_88 : decode cX14_transcode 88 = .ok (.aload_n 0, 1) := dk_42 (dk_at dksX14_transcode_3 17 rfl rfl)
theorem dX14_transcode_89 : decode cX14_transcode 89 = .ok (.iconst 0, 1) := dk_3 (dk_at dksX14_transcode_3 18 rfl rfl)
theorem dX14_transcode_90 : decode cX14_transcode 90 = .ok (.putfield 908, 3) := dk_181 3 140 (dk_at dksX14_transcode_3 19 rfl rfl)
theorem dX14_transcode_93 : decode cX14_transcode 93 = .ok (.aload_n 0, 1) := dk_42 (dk_at dksX14_transcode_3 22 rfl rfl)
theorem dX14_transcode_94 : decode cX14_transcode 94 = .ok (.getfield 353, 3) := dk_180 1 97 (dk_at dksX14_transcode_4 0 rfl rfl)
theorem dX14_transcode_97 : decode cX14_transcode 97 = .ok (.ifCond .ne 20, 3) := dk_154 0 20 (dk_at dksX14_transcode_4 3 rfl rfl)
theorem dX14_transcode_100 : decode cX14_transcode 100 = .ok (.aload_n 0, 1) := dk_42 (dk_at dksX14_transcode_4 6 rfl rfl)
theorem dX14_transcode_101 : decode cX14_transcode 101 = .ok (.aload_n 0, 1) := dk_42 (dk_at dksX14_transcode_4 7 rfl rfl)
theorem dX14_transcode_102 : decode cX14_transcode 102 = .ok (.getfield 178, 3) := dk_180 0 178 (dk_at dksX14_transcode_4 8 rfl rfl)
theorem dX14_transcode_105 : decode cX14_transcode 105 = .ok (.aload_n 0, 1) := dk_42 (dk_at dksX14_transcode_4 11 rfl rfl)
theorem dX14_transcode_106 : decode cX14_transcode 106 = .ok (.getfield 184, 3) := dk_180 0 184 (dk_at dksX14_transcode_4 12 rfl rfl)
theorem dX14_transcode_109 : decode cX14_transcode 109 = .ok (.iload_n 1, 1) := dk_27 (dk_at dksX14_transcode_4 15 rfl rfl)
theorem dX14_transcode_110 : decode cX14_transcode 110 = .ok (.iaload, 1) := dk_46 (dk_at dksX14_transcode_4 16 rfl rfl)
theorem dX14_transcode_111 : decode cX14_transcode 111 = .ok (.iaload, 1) := dk_46 (dk_at dksX14_transcode_4 17 rfl rfl)
theorem dX14_transcode_112 : decode cX14_transcode 112 = .ok (.iconst 0, 1) := dk_3 (dk_at dksX14_transcode_4 18 rfl rfl)
theorem dX14_transcode_113 : decode cX14_transcode 113 = .ok (.iconst (-1), 1) := dk_2 (dk_at dksX14_transcode_4 19 rfl rfl)
theorem dX14_transcode_114 : decode cX14_transcode 114 = .ok (.invokevirtual 937, 3) := dk_182 3 169 (dk_at dksX14_transcode_4 20 rfl rfl)
theorem dX14_transcode_117 : decode cX14_transcode 117 = .ok (.aload_n 0, 1) := dk_42 (dk_at dksX14_transcode_4 23 rfl rfl)
theorem dX14_transcode_118 : decode cX14_transcode 118 = .ok (.getfield 353, 3) := dk_180 1 97 (dk_at dksX14_transcode_5 0 rfl rfl)
theorem dX14_transcode_121 : decode cX14_transcode 121 = .ok (.ifCond .ne 17, 3) := dk_154 0 17 (dk_at dksX14_transcode_5 3 rfl rfl)
theorem dX14_transcode_124 : decode cX14_transcode 124 = .ok (.aload_n 0, 1) := dk_42 (dk_at dksX14_transcode_5 6 rfl rfl)
theorem dX14_transcode_125 : decode cX14_transcode 125 = .ok (.getfield 373, 3) := dk_180 1 117 (dk_at dksX14_transcode_5 7 rfl rfl)
theorem dX14_transcode_128 : decode cX14_transcode 128 = .ok (.ifCond .le 10, 3) := dk_158 0 10 (dk_at dksX14_transcode_5 10 rfl rfl)
theorem dX14_transcode_131 : decode cX14_transcode 131 = .ok (.aload_n 0, 1) := dk_42 (dk_at dksX14_transcode_5 13 rfl rfl)
theorem dX14_transcode_132 : decode cX14_transcode 132 = .ok (.invokevirtual 994, 3) := dk_182 3 226 (dk_at dksX14_transcode_5 14 rfl rfl)
theorem dX14_transcode_135 : decode cX14_transcode 135 = .ok (.goto (-18), 3) := dk_167 255 238 (dk_at dksX14_transcode_5 17 rfl rfl)
theorem dX14_transcode_138 : decode cX14_transcode 138 = .ok (.aload_n 0, 1) := dk_42 (dk_at dksX14_transcode_5 20 rfl rfl)
theorem dX14_transcode_139 : decode cX14_transcode 139 = .ok (.getfield 353, 3) := dk_180 1 97 (dk_at dksX14_transcode_5 21 rfl rfl)
theorem dX14_transcode_142 : decode cX14_transcode 142 = .ok (.ifCond .le 9, 3) := dk_158 0 9 (dk_at dksX14_transcode_6 0 rfl rfl)
theorem dX14_transcode_145 : decode cX14_transcode 145 = .ok (.aload_n 0, 1) := dk_42 (dk_at dksX14_transcode_6 3 rfl rfl)
theorem dX14_transcode_146 : decode cX14_transcode 146 = .ok (.iconst 2, 1) := dk_5 (dk_at dksX14_transcode_6 4 rfl rfl)
theorem dX14_transcode_147 : decode cX14_transcode 147 = .ok (.invokevirtual 384, 3) := dk_182 1 128 (dk_at dksX14_transcode_6 5 rfl rfl)
theorem dX14_transcode_150 : decode cX14_transcode 150 = .ok (.ireturn, 1) := dk_172 (dk_at dksX14_transcode_6 8 rfl rfl)
theorem dX14_transcode_151 : decode cX14_transcode 151 = .ok (.aload_n 0, 1) := dk_42 (dk_at dksX14_transcode_6 9 rfl rfl)
theorem dX14_transcode_152 : decode cX14_transcode 152 = .ok (.aload_n 0, 1) := dk_42 (dk_at dksX14_transcode_6 10 rfl rfl)
theorem dX14_transcode_153 : decode cX14_transcode 153 = .ok (.getfield 868, 3) := dk_180 3 100 (dk_at dksX14_transcode_6 11 rfl rfl)
theorem dX14_transcode_156 : decode cX14_transcode 156 = .ok (.putfield 997, 3) := dk_181 3 229 (dk_at dksX14_transcode_6 14 rfl rfl)
theorem dX14_transcode_159 : decode cX14_transcode 159 = .ok (.aload_n 0, 1) := dk_42 (dk_at dksX14_transcode_6 17 rfl rfl)
theorem dX14_transcode_160 : decode cX14_transcode 160 = .ok (.aload_n 0, 1) := dk_42 (dk_at dksX14_transcode_6 18 rfl rfl)
theorem dX14_transcode_161 : decode cX14_transcode 161 = .ok (.getfield 888, 3) := dk_180 3 120 (dk_at dksX14_transcode_6 19 rfl rfl)
theorem dX14_transcode_164 : decode cX14_transcode 164 = .ok (.putfield 1000, 3) := dk_181 3 232 (dk_at dksX14_transcode_7 0 rfl rfl)
theorem dX14_transcode_167 : decode cX14_transcode 167 = .ok (.aload_n 0, 1) := dk_42 (dk_at dksX14_transcode_7 3 rfl rfl)
theorem dX14_transcode_168 : decode cX14_transcode 168 = .ok (.getfield 27, 3) := dk_180 0 27 (dk_at dksX14_transcode_7 4 rfl rfl)
theorem dX14_transcode_171 : decode cX14_transcode 171 = .ok (.arraylength, 1) := dk_190 (dk_at dksX14_transcode_7 7 rfl rfl)
theorem dX14_transcode_172 : decode cX14_transcode 172 = .ok (.aload_n 0, 1) := dk_42 (dk_at dksX14_transcode_7 8 rfl rfl)
theorem dX14_transcode_173 : decode cX14_transcode 173 = .ok (.getfield 1000, 3) := dk_180 3 232 (dk_at dksX14_transcode_7 9 rfl rfl)
theorem dX14_transcode_176 : decode cX14_transcode 176 = .ok (.if_icmp .ge 14, 3) := dk_162 0 14 (dk_at dksX14_transcode_7 12 rfl rfl)
theorem dX14_transcode_179 : decode cX14_transcode 179 = .ok (.aload_n 0, 1) := dk_42 (dk_at dksX14_transcode_7 15 rfl rfl)
theorem dX14_transcode_180 : decode cX14_transcode 180 = .ok (.aload_n 0, 1) := dk_42 (dk_at dksX14_transcode_7 16 rfl rfl)
theorem dX14_transcode_181 : decode cX14_transcode 181 = .ok (.getfield 305, 3) := dk_180 1 49 (dk_at dksX14_transcode_7 17 rfl rfl)
theorem dX14_transcode_184 : decode cX14_transcode 184 = .ok (.arraylength, 1) := dk_190 (dk_at dksX14_transcode_7 20 rfl rfl)
theorem dX14_transcode_185 : decode cX14_transcode 185 = .ok (.newarray .int, 2) := dk_188_10 (dk_at dksX14_transcode_7 21 rfl rfl)
theorem dX14_transcode_187 : decode cX14_transcode 187 = .ok (.putfield 27, 3) := dk_181 0 27 (dk_at dksX14_transcode_8 0 rfl rfl)
theorem dX14_transcode_190 : decode cX14_transcode 190 = .ok (.iconst 0, 1) := dk_3 (dk_at dksX14_transcode_8 3 rfl rfl)
theorem dX14_transcode_191 : decode cX14_transcode 191 = .ok (.istore_n 2, 1) := dk_61 (dk_at dksX14_transcode_8 4 rfl rfl)
theorem dX14_transcode_192 : decode cX14_transcode 192 = .ok (.iload_n 2, 1) := dk_28 (dk_at dksX14_transcode_8 5 rfl rfl)
theorem dX14_transcode_193 : decode cX14_transcode 193 = .ok (.aload_n 0, 1) := dk_42 (dk_at dksX14_transcode_8 6 rfl rfl)
theorem dX14_transcode_194 : decode cX14_transcode 194 = .ok (.getfield 1000, 3) := dk_180 3 232 (dk_at dksX14_transcode_8 7 rfl rfl)
theorem dX14_transcode_197 : decode cX14_transcode 197 = .ok (.if_icmp .ge 21, 3) := dk_162 0 21 (dk_at dksX14_transcode_8 10 rfl rfl)
theorem dX14_transcode_200 : decode cX14_transcode 200 = .ok (.aload_n 0, 1) := dk_42 (dk_at dksX14_transcode_8 13 rfl rfl)
theorem dX14_transcode_201 : decode cX14_transcode 201 = .ok (.getfield 27, 3) := dk_180 0 27 (dk_at dksX14_transcode_8 14 rfl rfl)
theorem dX14_transcode_204 : decode cX14_transcode 204 = .ok (.iload_n 2, 1) := dk_28 (dk_at dksX14_transcode_8 17 rfl rfl)
theorem dX14_transcode_205 : decode cX14_transcode 205 = .ok (.aload_n 0, 1) := dk_42 (dk_at dksX14_transcode_8 18 rfl rfl)
theorem dX14_transcode_206 : decode cX14_transcode 206 = .ok (.getfield 305, 3) := dk_180 1 49 (dk_at dksX14_transcode_8 19 rfl rfl)
theorem dX14_transcode_209 : decode cX14_transcode 209 = .ok (.iload_n 2, 1) := dk_28 (dk_at dksX14_transcode_8 22 rfl rfl)
theorem dX14_transcode_210 : decode cX14_transcode 210 = .ok (.iaload, 1) := dk_46 (dk_at dksX14_transcode_8 23 rfl rfl)
theorem dX14_transcode_211 : decode cX14_transcode 211 = .ok (.iastore, 1) := dk_79 (dk_at dksX14_transcode_9 0 rfl rfl)
theorem dX14_transcode_212 : decode cX14_transcode 212 = .ok (.iinc 2 1, 3) := dk_132 2 1 (dk_at dksX14_transcode_9 1 rfl rfl)
theorem dX14_transcode_215 : decode cX14_transcode 215 = .ok (.goto (-23), 3) := dk_167 255 233 (dk_at dksX14_transcode_9 4 rfl rfl)
theorem dX14_transcode_218 : decode cX14_transcode 218 = .ok (.aload_n 0, 1) := dk_42 (dk_at dksX14_transcode_9 7 rfl rfl)
theorem dX14_transcode_219 : decode cX14_transcode 219 = .ok (.getfield 1000, 3) := dk_180 3 232 (dk_at dksX14_transcode_9 8 rfl rfl)
theorem dX14_transcode_222 : decode cX14_transcode 222 = .ok (.ireturn, 1) := dk_172 (dk_at dksX14_transcode_9 11 rfl rfl)
abbrev cX14_roomForElements : ByteArray := prog_15_method_9_code
def yX14_roomForElements : MethodName := ⟨RX14, "roomForElements", "()V"⟩
def dkwX14_roomForElements_5 : List UInt8 := [188, 10, 181, 1, 85, 42, 27, 188, 10, 181, 1, 88, 42, 27, 188, 10, 181, 1, 91, 177]
abbrev dktX14_roomForElements_5 : List UInt8 := dkwX14_roomForElements_5 ++ []
def dkwX14_roomForElements_4 : List UInt8 := [42, 27, 188, 10, 181, 1, 43, 42, 27, 188, 10, 181, 1, 46, 42, 27, 188, 10, 181, 1, 82, 42, 27]
abbrev dktX14_roomForElements_4 : List UInt8 := dkwX14_roomForElements_4 ++ dktX14_roomForElements_5
def dkwX14_roomForElements_3 : List UInt8 := [181, 1, 31, 42, 27, 188, 4, 181, 1, 34, 42, 27, 188, 10, 181, 1, 37, 42, 27, 188, 10, 181, 1, 40]
abbrev dktX14_roomForElements_3 : List UInt8 := dkwX14_roomForElements_3 ++ dktX14_roomForElements_4
def dkwX14_roomForElements_2 : List UInt8 := [188, 4, 181, 1, 22, 42, 27, 188, 10, 181, 1, 25, 42, 27, 188, 10, 181, 1, 28, 42, 27, 188, 10]
abbrev dktX14_roomForElements_2 : List UInt8 := dkwX14_roomForElements_2 ++ dktX14_roomForElements_3
def dkwX14_roomForElements_1 : List UInt8 := [96, 17, 64, 8, 184, 1, 107, 60, 42, 27, 188, 10, 181, 1, 16, 42, 27, 188, 10, 181, 1, 19, 42, 27]
abbrev dktX14_roomForElements_1 : List UInt8 := dkwX14_roomForElements_1 ++ dktX14_roomForElements_2
def dkwX14_roomForElements_0 : List UInt8 := [42, 180, 1, 16, 190, 42, 180, 1, 114, 5, 108, 7, 96, 161, 0, 4, 177, 42, 180, 1, 114, 5, 108, 7]
abbrev dktX14_roomForElements_0 : List UInt8 := dkwX14_roomForElements_0 ++ dktX14_roomForElements_1
theorem dksX14_roomForElements_0 : cX14_roomForElements.data.toList.drop 0 = dktX14_roomForElements_0 := by decide +kernel
theorem dksX14_roomForElements_1 : cX14_roomForElements.data.toList.drop 24 = dktX14_roomForElements_1 := dk_seg dksX14_roomForElements_0 24 rfl rfl
theorem dksX14_roomForElements_2 : cX14_roomForElements.data.toList.drop 48 = dktX14_roomForElements_2 := dk_seg dksX14_roomForElements_1 24 rfl rfl
theorem dksX14_roomForElements_3 : cX14_roomForElements.data.toList.drop 71 = dktX14_roomForElements_3 := dk_seg dksX14_roomForElements_2 23 rfl rfl
theorem dksX14_roomForElements_4 : cX14_roomForElements.data.toList.drop 95 = dktX14_roomForElements_4 := dk_seg dksX14_roomForElements_3 24 rfl rfl
theorem dksX14_roomForElements_5 : cX14_roomForElements.data.toList.drop 118 = dktX14_roomForElements_5 := dk_seg dksX14_roomForElements_4 23 rfl rfl
theorem dX14_roomForElements_0 : decode cX14_roomForElements 0 = .ok (.aload_n 0, 1) := dk_42 (dk_at dksX14_roomForElements_0 0 rfl rfl)
theorem dX14_roomForElements_1 : decode cX14_roomForElements 1 = .ok (.getfield 272, 3) := dk_180 1 16 (dk_at dksX14_roomForElements_0 1 rfl rfl)
theorem dX14_roomForElements_4 : decode cX14_roomForElements 4 = .ok (.arraylength, 1) := dk_190 (dk_at dksX14_roomForElements_0 4 rfl rfl)
theorem dX14_roomForElements_5 : decode cX14_roomForElements 5 = .ok (.aload_n 0, 1) := dk_42 (dk_at dksX14_roomForElements_0 5 rfl rfl)
theorem dX14_roomForElements_6 : decode cX14_roomForElements 6 = .ok (.getfield 370, 3) := dk_180 1 114 (dk_at dksX14_roomForElements_0 6 rfl rfl)
theorem dX14_roomForElements_9 : decode cX14_roomForElements 9 = .ok (.iconst 2, 1) := dk_5 (dk_at dksX14_roomForElements_0 9 rfl rfl)
theorem dX14_roomForElements_10 : decode cX14_roomForElements 10 = .ok (.idiv, 1) := dk_108 (dk_at dksX14_roomForElements_0 10 rfl rfl)
theorem dX14_roomForElements_11 : decode cX14_roomForElements 11 = .ok (.iconst 4, 1) := dk_7 (dk_at dksX14_roomForElements_0 11 rfl rfl)
theorem dX14_roomForElements_12 : decode cX14_roomForElements 12 = .ok (.iadd, 1) := dk_96 (dk_at dksX14_roomForElements_0 12 rfl rfl)
theorem dX14_roomForElements_13 : decode cX14_roomForElements 13 = .ok (.if_icmp .lt 4, 3) := dk_161 0 4 (dk_at dksX14_roomForElements_0 13 rfl rfl)
theorem dX14_roomForElements_16 : decode cX14_roomForElements 16 = .ok (.return_, 1) := dk_177 (dk_at dksX14_roomForElements_0 16 rfl rfl)
theorem dX14_roomForElements_17 : decode cX14_roomForElements 17 = .ok (.aload_n 0, 1) := dk_42 (dk_at dksX14_roomForElements_0 17 rfl rfl)
theorem dX14_roomForElements_18 : decode cX14_roomForElements 18 = .ok (.getfield 370, 3) := dk_180 1 114 (dk_at dksX14_roomForElements_0 18 rfl rfl)
theorem dX14_roomForElements_21 : decode cX14_roomForElements 21 = .ok (.iconst 2, 1) := dk_5 (dk_at dksX14_roomForElements_0 21 rfl rfl)
theorem dX14_roomForElements_22 : decode cX14_roomForElements 22 = .ok (.idiv, 1) := dk_108 (dk_at dksX14_roomForElements_0 22 rfl rfl)
theorem dX14_roomForElements_23 : decode cX14_roomForElements 23 = .ok (.iconst 4, 1) := dk_7 (dk_at dksX14_roomForElements_0 23 rfl rfl)
theorem dX14_roomForElements_24 : decode cX14_roomForElements 24 = .ok (.iadd, 1) := dk_96 (dk_at dksX14_roomForElements_1 0 rfl rfl)
theorem dX14_roomForElements_25 : decode cX14_roomForElements 25 = .ok (.sipush 16392, 3) := dk_17 64 8 (dk_at dksX14_roomForElements_1 1 rfl rfl)
theorem dX14_roomForElements_28 : decode cX14_roomForElements 28 = .ok (.invokestatic 363, 3) := dk_184 1 107 (dk_at dksX14_roomForElements_1 4 rfl rfl)
theorem dX14_roomForElements_31 : decode cX14_roomForElements 31 = .ok (.istore_n 1, 1) := dk_60 (dk_at dksX14_roomForElements_1 7 rfl rfl)
theorem dX14_roomForElements_32 : decode cX14_roomForElements 32 = .ok (.aload_n 0, 1) := dk_42 (dk_at dksX14_roomForElements_1 8 rfl rfl)
theorem dX14_roomForElements_33 : decode cX14_roomForElements 33 = .ok (.iload_n 1, 1) := dk_27 (dk_at dksX14_roomForElements_1 9 rfl rfl)
theorem dX14_roomForElements_34 : decode cX14_roomForElements 34 = .ok (.newarray .int, 2) := dk_188_10 (dk_at dksX14_roomForElements_1 10 rfl rfl)
theorem dX14_roomForElements_36 : decode cX14_roomForElements 36 = .ok (.putfield 272, 3) := dk_181 1 16 (dk_at dksX14_roomForElements_1 12 rfl rfl)
theorem dX14_roomForElements_39 : decode cX14_roomForElements 39 = .ok (.aload_n 0, 1) := dk_42 (dk_at dksX14_roomForElements_1 15 rfl rfl)
theorem dX14_roomForElements_40 : decode cX14_roomForElements 40 = .ok (.iload_n 1, 1) := dk_27 (dk_at dksX14_roomForElements_1 16 rfl rfl)
theorem dX14_roomForElements_41 : decode cX14_roomForElements 41 = .ok (.newarray .int, 2) := dk_188_10 (dk_at dksX14_roomForElements_1 17 rfl rfl)
theorem dX14_roomForElements_43 : decode cX14_roomForElements 43 = .ok (.putfield 275, 3) := dk_181 1 19 (dk_at dksX14_roomForElements_1 19 rfl rfl)
theorem dX14_roomForElements_46 : decode cX14_roomForElements 46 = .ok (.aload_n 0, 1) := dk_42 (dk_at dksX14_roomForElements_1 22 rfl rfl)
theorem dX14_roomForElements_47 : decode cX14_roomForElements 47 = .ok (.iload_n 1, 1) := dk_27 (dk_at dksX14_roomForElements_1 23 rfl rfl)
theorem dX14_roomForElements_48 : decode cX14_roomForElements 48 = .ok (.newarray .boolean, 2) := dk_188_4 (dk_at dksX14_roomForElements_2 0 rfl rfl)
theorem dX14_roomForElements_50 : decode cX14_roomForElements 50 = .ok (.putfield 278, 3) := dk_181 1 22 (dk_at dksX14_roomForElements_2 2 rfl rfl)
theorem dX14_roomForElements_53 : decode cX14_roomForElements 53 = .ok (.aload_n 0, 1) := dk_42 (dk_at dksX14_roomForElements_2 5 rfl rfl)
theorem dX14_roomForElements_54 : decode cX14_roomForElements 54 = .ok (.iload_n 1, 1) := dk_27 (dk_at dksX14_roomForElements_2 6 rfl rfl)
theorem dX14_roomForElements_55 : decode cX14_roomForElements 55 = .ok (.newarray .int, 2) := dk_188_10 (dk_at dksX14_roomForElements_2 7 rfl rfl)
theorem dX14_roomForElements_57 : decode cX14_roomForElements 57 = .ok (.putfield 281, 3) := dk_181 1 25 (dk_at dksX14_roomForElements_2 9 rfl rfl)
theorem dX14_roomForElements_60 : decode cX14_roomForElements 60 = .ok (.aload_n 0, 1) := dk_42 (dk_at dksX14_roomForElements_2 12 rfl rfl)
theorem dX14_roomForElements_61 : decode cX14_roomForElements 61 = .ok (.iload_n 1, 1) := dk_27 (dk_at dksX14_roomForElements_2 13 rfl rfl)
theorem dX14_roomForElements_62 : decode cX14_roomForElements 62 = .ok (.newarray .int, 2) := dk_188_10 (dk_at dksX14_roomForElements_2 14 rfl rfl)
theorem dX14_roomForElements_64 : decode cX14_roomForElements 64 = .ok (.putfield 284, 3) := dk_181 1 28 (dk_at dksX14_roomForElements_2 16 rfl rfl)
theorem dX14_roomForElements_67 : decode cX14_roomForElements 67 = .ok (.aload_n 0, 1) := dk_42 (dk_at dksX14_roomForElements_2 19 rfl rfl)
theorem dX14_roomForElements_68 : decode cX14_roomForElements 68 = .ok (.iload_n 1, 1) := dk_27 (dk_at dksX14_roomForElements_2 20 rfl rfl)
theorem dX14_roomForElements_69 : decode cX14_roomForElements 69 = .ok (.newarray .int, 2) := dk_188_10 (dk_at dksX14_roomForElements_2 21 rfl rfl)
theorem dX14_roomForElements_71 : decode cX14_roomForElements 71 = .ok (.putfield 287, 3) := dk_181 1 31 (dk_at dksX14_roomForElements_3 0 rfl rfl)
theorem dX14_roomForElements_74 : decode cX14_roomForElements 74 = .ok (.aload_n 0, 1) := dk_42 (dk_at dksX14_roomForElements_3 3 rfl rfl)
theorem dX14_roomForElements_75 : decode cX14_roomForElements 75 = .ok (.iload_n 1, 1) := dk_27 (dk_at dksX14_roomForElements_3 4 rfl rfl)
theorem dX14_roomForElements_76 : decode cX14_roomForElements 76 = .ok (.newarray .boolean, 2) := dk_188_4 (dk_at dksX14_roomForElements_3 5 rfl rfl)
theorem dX14_roomForElements_78 : decode cX14_roomForElements 78 = .ok (.putfield 290, 3) := dk_181 1 34 (dk_at dksX14_roomForElements_3 7 rfl rfl)
theorem dX14_roomForElements_81 : decode cX14_roomForElements 81 = .ok (.aload_n 0, 1) := dk_42 (dk_at dksX14_roomForElements_3 10 rfl rfl)
theorem dX14_roomForElements_82 : decode cX14_roomForElements 82 = .ok (.iload_n 1, 1) := dk_27 (dk_at dksX14_roomForElements_3 11 rfl rfl)
theorem dX14_roomForElements_83 : decode cX14_roomForElements 83 = .ok (.newarray .int, 2) := dk_188_10 (dk_at dksX14_roomForElements_3 12 rfl rfl)
theorem dX14_roomForElements_85 : decode cX14_roomForElements 85 = .ok (.putfield 293, 3) := dk_181 1 37 (dk_at dksX14_roomForElements_3 14 rfl rfl)
theorem dX14_roomForElements_88 : decode cX14_roomForElements 88 = .ok (.aload_n 0, 1) := dk_42 (dk_at dksX14_roomForElements_3 17 rfl rfl)
theorem dX14_roomForElements_89 : decode cX14_roomForElements 89 = .ok (.iload_n 1, 1) := dk_27 (dk_at dksX14_roomForElements_3 18 rfl rfl)
theorem dX14_roomForElements_90 : decode cX14_roomForElements 90 = .ok (.newarray .int, 2) := dk_188_10 (dk_at dksX14_roomForElements_3 19 rfl rfl)
theorem dX14_roomForElements_92 : decode cX14_roomForElements 92 = .ok (.putfield 296, 3) := dk_181 1 40 (dk_at dksX14_roomForElements_3 21 rfl rfl)
theorem dX14_roomForElements_95 : decode cX14_roomForElements 95 = .ok (.aload_n 0, 1) := dk_42 (dk_at dksX14_roomForElements_4 0 rfl rfl)
theorem dX14_roomForElements_96 : decode cX14_roomForElements 96 = .ok (.iload_n 1, 1) := dk_27 (dk_at dksX14_roomForElements_4 1 rfl rfl)
theorem dX14_roomForElements_97 : decode cX14_roomForElements 97 = .ok (.newarray .int, 2) := dk_188_10 (dk_at dksX14_roomForElements_4 2 rfl rfl)
theorem dX14_roomForElements_99 : decode cX14_roomForElements 99 = .ok (.putfield 299, 3) := dk_181 1 43 (dk_at dksX14_roomForElements_4 4 rfl rfl)
theorem dX14_roomForElements_102 : decode cX14_roomForElements 102 = .ok (.aload_n 0, 1) := dk_42 (dk_at dksX14_roomForElements_4 7 rfl rfl)
theorem dX14_roomForElements_103 : decode cX14_roomForElements 103 = .ok (.iload_n 1, 1) := dk_27 (dk_at dksX14_roomForElements_4 8 rfl rfl)
theorem dX14_roomForElements_104 : decode cX14_roomForElements 104 = .ok (.newarray .int, 2) := dk_188_10 (dk_at dksX14_roomForElements_4 9 rfl rfl)
theorem dX14_roomForElements_106 : decode cX14_roomForElements 106 = .ok (.putfield 302, 3) := dk_181 1 46 (dk_at dksX14_roomForElements_4 11 rfl rfl)
theorem dX14_roomForElements_109 : decode cX14_roomForElements 109 = .ok (.aload_n 0, 1) := dk_42 (dk_at dksX14_roomForElements_4 14 rfl rfl)
theorem dX14_roomForElements_110 : decode cX14_roomForElements 110 = .ok (.iload_n 1, 1) := dk_27 (dk_at dksX14_roomForElements_4 15 rfl rfl)
theorem dX14_roomForElements_111 : decode cX14_roomForElements 111 = .ok (.newarray .int, 2) := dk_188_10 (dk_at dksX14_roomForElements_4 16 rfl rfl)
theorem dX14_roomForElements_113 : decode cX14_roomForElements 113 = .ok (.putfield 338, 3) := dk_181 1 82 (dk_at dksX14_roomForElements_4 18 rfl rfl)
theorem dX14_roomForElements_116 : decode cX14_roomForElements 116 = .ok (.aload_n 0, 1) := dk_42 (dk_at dksX14_roomForElements_4 21 rfl rfl)
theorem dX14_roomForElements_117 : decode cX14_roomForElements 117 = .ok (.iload_n 1, 1) := dk_27 (dk_at dksX14_roomForElements_4 22 rfl rfl)
theorem dX14_roomForElements_118 : decode cX14_roomForElements 118 = .ok (.newarray .int, 2) := dk_188_10 (dk_at dksX14_roomForElements_5 0 rfl rfl)
theorem dX14_roomForElements_120 : decode cX14_roomForElements 120 = .ok (.putfield 341, 3) := dk_181 1 85 (dk_at dksX14_roomForElements_5 2 rfl rfl)
theorem dX14_roomForElements_123 : decode cX14_roomForElements 123 = .ok (.aload_n 0, 1) := dk_42 (dk_at dksX14_roomForElements_5 5 rfl rfl)
theorem dX14_roomForElements_124 : decode cX14_roomForElements 124 = .ok (.iload_n 1, 1) := dk_27 (dk_at dksX14_roomForElements_5 6 rfl rfl)
theorem dX14_roomForElements_125 : decode cX14_roomForElements 125 = .ok (.newarray .int, 2) := dk_188_10 (dk_at dksX14_roomForElements_5 7 rfl rfl)
theorem dX14_roomForElements_127 : decode cX14_roomForElements 127 = .ok (.putfield 344, 3) := dk_181 1 88 (dk_at dksX14_roomForElements_5 9 rfl rfl)
theorem dX14_roomForElements_130 : decode cX14_roomForElements 130 = .ok (.aload_n 0, 1) := dk_42 (dk_at dksX14_roomForElements_5 12 rfl rfl)
theorem dX14_roomForElements_131 : decode cX14_roomForElements 131 = .ok (.iload_n 1, 1) := dk_27 (dk_at dksX14_roomForElements_5 13 rfl rfl)
theorem dX14_roomForElements_132 : decode cX14_roomForElements 132 = .ok (.newarray .int, 2) := dk_188_10 (dk_at dksX14_roomForElements_5 14 rfl rfl)
theorem dX14_roomForElements_134 : decode cX14_roomForElements 134 = .ok (.putfield 347, 3) := dk_181 1 91 (dk_at dksX14_roomForElements_5 16 rfl rfl)
theorem dX14_roomForElements_137 : decode cX14_roomForElements 137 = .ok (.return_, 1) := dk_177 (dk_at dksX14_roomForElements_5 19 rfl rfl)
abbrev cX14_cutElements : ByteArray := prog_15_method_135_code
def yX14_cutElements : MethodName := ⟨RX14, "cutElements", "()V"⟩
def dkwX14_cutElements_11 : List UInt8 := [42, 16, 6, 42, 180, 3, 103, 182, 1, 158, 177]
abbrev dktX14_cutElements_11 : List UInt8 := dkwX14_cutElements_11 ++ []
def dkwX14_cutElements_10 : List UInt8 := [182, 3, 112, 167, 255, 46, 42, 180, 1, 97, 154, 0, 24, 42, 180, 3, 103, 42, 180, 1, 114, 162, 0, 13]
abbrev dktX14_cutElements_10 : List UInt8 := dkwX14_cutElements_10 ++ dktX14_cutElements_11
def dkwX14_cutElements_9 : List UInt8 := [180, 3, 97, 42, 180, 0, 23, 164, 0, 15, 42, 8, 42, 180, 3, 103, 182, 1, 158, 167, 0, 8, 42, 28]
abbrev dktX14_cutElements_9 : List UInt8 := dkwX14_cutElements_9 ++ dktX14_cutElements_10
def dkwX14_cutElements_8 : List UInt8 := [167, 0, 51, 42, 180, 3, 103, 28, 161, 0, 15, 42, 4, 42, 180, 3, 103, 182, 1, 158, 167, 0, 31, 42]
abbrev dktX14_cutElements_8 : List UInt8 := dkwX14_cutElements_8 ++ dktX14_cutElements_9
def dkwX14_cutElements_7 : List UInt8 := [180, 3, 94, 42, 180, 3, 103, 79, 42, 89, 180, 3, 103, 5, 96, 181, 3, 103, 42, 182, 3, 109]
abbrev dktX14_cutElements_7 : List UInt8 := dkwX14_cutElements_7 ++ dktX14_cutElements_8
def dkwX14_cutElements_6 : List UInt8 := [154, 0, 47, 42, 180, 1, 13, 42, 180, 3, 103, 4, 96, 46, 154, 0, 33, 42, 180, 1, 31, 42]
abbrev dktX14_cutElements_6 : List UInt8 := dkwX14_cutElements_6 ++ dktX14_cutElements_7
def dkwX14_cutElements_5 : List UInt8 := [153, 0, 69, 42, 180, 3, 103, 4, 96, 28, 162, 0, 59, 42, 180, 1, 13, 42, 180, 3, 103, 46]
abbrev dktX14_cutElements_5 : List UInt8 := dkwX14_cutElements_5 ++ dktX14_cutElements_6
def dkwX14_cutElements_4 : List UInt8 := [182, 3, 109, 167, 0, 136, 42, 180, 3, 94, 155, 0, 81, 42, 180, 1, 34, 42, 180, 3, 94, 51]
abbrev dktX14_cutElements_4 : List UInt8 := dkwX14_cutElements_4 ++ dktX14_cutElements_5
def dkwX14_cutElements_3 : List UInt8 := [180, 3, 94, 51, 154, 0, 26, 42, 180, 3, 103, 42, 180, 1, 31, 42, 180, 3, 94, 46, 160, 0, 10, 42]
abbrev dktX14_cutElements_3 : List UInt8 := dkwX14_cutElements_3 ++ dktX14_cutElements_4
def dkwX14_cutElements_2 : List UInt8 := [180, 3, 100, 158, 0, 8, 4, 60, 167, 0, 178, 42, 180, 3, 94, 155, 0, 38, 42, 180, 1, 34, 42]
abbrev dktX14_cutElements_2 : List UInt8 := dkwX14_cutElements_2 ++ dktX14_cutElements_3
def dkwX14_cutElements_1 : List UInt8 := [180, 1, 97, 154, 0, 209, 27, 154, 0, 205, 42, 182, 3, 106, 61, 42, 180, 3, 94, 156, 0, 15, 42]
abbrev dktX14_cutElements_1 : List UInt8 := dkwX14_cutElements_1 ++ dktX14_cutElements_2
def dkwX14_cutElements_0 : List UInt8 := [42, 3, 181, 3, 100, 42, 2, 181, 3, 94, 42, 3, 181, 3, 97, 42, 3, 181, 3, 103, 3, 60, 42]
abbrev dktX14_cutElements_0 : List UInt8 := dkwX14_cutElements_0 ++ dktX14_cutElements_1
theorem dksX14_cutElements_0 : cX14_cutElements.data.toList.drop 0 = dktX14_cutElements_0 := by decide +kernel
theorem dksX14_cutElements_1 : cX14_cutElements.data.toList.drop 23 = dktX14_cutElements_1 := dk_seg dksX14_cutElements_0 23 rfl rfl
theorem dksX14_cutElements_2 : cX14_cutElements.data.toList.drop 46 = dktX14_cutElements_2 := dk_seg dksX14_cutElements_1 23 rfl rfl
theorem dksX14_cutElements_3 : cX14_cutElements.data.toList.drop 69 = dktX14_cutElements_3 := dk_seg dksX14_cutElements_2 23 rfl rfl
theorem dksX14_cutElements_4 : cX14_cutElements.data.toList.drop 93 = dktX14_cutElements_4 := dk_seg dksX14_cutElements_3 24 rfl rfl
theorem dksX14_cutElements_5 : cX14_cutElements.data.toList.drop 115 = dktX14_cutElements_5 := dk_seg dksX14_cutElements_4 22 rfl rfl
theorem dksX14_cutElements_6 : cX14_cutElements.data.toList.drop 137 = dktX14_cutElements_6 := dk_seg dksX14_cutElements_5 22 rfl rfl
theorem dksX14_cutElements_7 : cX14_cutElements.data.toList.drop 159 = dktX14_cutElements_7 := dk_seg dksX14_cutElements_6 22 rfl rfl
theorem dksX14_cutElements_8 : cX14_cutElements.data.toList.drop 181 = dktX14_cutElements_8 := dk_seg dksX14_cutElements_7 22 rfl rfl
theorem dksX14_cutElements_9 : cX14_cutElements.data.toList.drop 205 = dktX14_cutElements_9 := dk_seg dksX14_cutElements_8 24 rfl rfl
theorem dksX14_cutElements_10 : cX14_cutElements.data.toList.drop 229 = dktX14_cutElements_10 := dk_seg dksX14_cutElements_9 24 rfl rfl
theorem dksX14_cutElements_11 : cX14_cutElements.data.toList.drop 253 = dktX14_cutElements_11 := dk_seg dksX14_cutElements_10 24 rfl rfl
theorem dX14_cutElements_0 : decode cX14_cutElements 0 = .ok (.aload_n 0, 1) := dk_42 (dk_at dksX14_cutElements_0 0 rfl rfl)
theorem dX14_cutElements_1 : decode cX14_cutElements 1 = .ok (.iconst 0, 1) := dk_3 (dk_at dksX14_cutElements_0 1 rfl rfl)
theorem dX14_cutElements_2 : decode cX14_cutElements 2 = .ok (.putfield 868, 3) := dk_181 3 100 (dk_at dksX14_cutElements_0 2 rfl rfl)
theorem dX14_cutElements_5 : decode cX14_cutElements 5 = .ok (.aload_n 0, 1) := dk_42 (dk_at dksX14_cutElements_0 5 rfl rfl)
theorem dX14_cutElements_6 : decode cX14_cutElements 6 = .ok (.iconst (-1), 1) := dk_2 (dk_at dksX14_cutElements_0 6 rfl rfl)
theorem dX14_cutElements_7 : decode cX14_cutElements 7 = .ok (.putfield 862, 3) := dk_181 3 94 (dk_at dksX14_cutElements_0 7 rfl rfl)
theorem dX14_cutElements_10 : decode cX14_cutElements 10 = .ok (.aload_n 0, 1) := dk_42 (dk_at dksX14_cutElements_0 10 rfl rfl)
theorem dX14_cutElements_11 : decode cX14_cutElements 11 = .ok (.iconst 0, 1) := dk_3 (dk_at dksX14_cutElements_0 11 rfl rfl)
theorem dX14_cutElements_12 : decode cX14_cutElements 12 = .ok (.putfield 865, 3) := dk_181 3 97 (dk_at dksX14_cutElements_0 12 rfl rfl)
theorem dX14_cutElements_15 : decode cX14_cutElements 15 = .ok (.aload_n 0, 1) := dk_42 (dk_at dksX14_cutElements_0 15 rfl rfl)
theorem dX14_cutElements_16 : decode cX14_cutElements 16 = .ok (.iconst 0, 1) := dk_3 (dk_at dksX14_cutElements_0 16 rfl rfl)
theorem dX14_cutElements_17 : decode cX14_cutElements 17 = .ok (.putfield 871, 3) := dk_181 3 103 (dk_at dksX14_cutElements_0 17 rfl rfl)
theorem dX14_cutElements_20 : decode cX14_cutElements 20 = .ok (.iconst 0, 1) := dk_3 (dk_at dksX14_cutElements_0 20 rfl rfl)
theorem dX14_cutElements_21 : decode cX14_cutElements 21 = .ok (.istore_n 1, 1) := dk_60 (dk_at dksX14_cutElements_0 21 rfl rfl)
theorem dX14_cutElements_22 : decode cX14_cutElements 22 = .ok (.aload_n 0, 1) := dk_42 (dk_at dksX14_cutElements_0 22 rfl rfl)
theorem dX14_cutElements_23 : decode cX14_cutElements 23 = .ok (.getfield 353, 3) := dk_180 1 97 (dk_at dksX14_cutElements_1 0 rfl rfl)
theorem dX14_cutElements_26 : decode cX14_cutElements 26 = .ok (.ifCond .ne 209, 3) := dk_154 0 209 (dk_at dksX14_cutElements_1 3 rfl rfl)
theorem dX14_cutElements_29 : decode cX14_cutElements 29 = .ok (.iload_n 1, 1) := dk_27 (dk_at dksX14_cutElements_1 6 rfl rfl)
theorem dX14_cutElements_30 : decode cX14_cutElements 30 = .ok (.ifCond .ne 205, 3) := dk_154 0 205 (dk_at dksX14_cutElements_1 7 rfl rfl)
theorem dX14_cutElements_33 : decode cX14_cutElements 33 = .ok (.aload_n 0, 1) := dk_42 (dk_at dksX14_cutElements_1 10 rfl rfl)
theorem dX14_cutElements_34 : decode cX14_cutElements 34 = .ok (.invokevirtual 874, 3) := dk_182 3 106 (dk_at dksX14_cutElements_1 11 rfl rfl)
theorem dX14_cutElements_37 : decode cX14_cutElements 37 = .ok (.istore_n 2, 1) := dk_61 (dk_at dksX14_cutElements_1 14 rfl rfl)
theorem dX14_cutElements_38 : decode cX14_cutElements 38 = .ok (.aload_n 0, 1) := dk_42 (dk_at dksX14_cutElements_1 15 rfl rfl)
theorem dX14_cutElements_39 : decode cX14_cutElements 39 = .ok (.getfield 862, 3) := dk_180 3 94 (dk_at dksX14_cutElements_1 16 rfl rfl)
theorem dX14_cutElements_42 : decode cX14_cutElements 42 = .ok (.ifCond .ge 15, 3) := dk_156 0 15 (dk_at dksX14_cutElements_1 19 rfl rfl)
theorem dX14_cutElements_45 : decode cX14_cutElements 45 = .ok (.aload_n 0, 1) := dk_42 (dk_at dksX14_cutElements_1 22 rfl rfl)
theorem dX14_cutElements_46 : decode cX14_cutElements 46 = .ok (.getfield 868, 3) := dk_180 3 100 (dk_at dksX14_cutElements_2 0 rfl rfl)
theorem dX14_cutElements_49 : decode cX14_cutElements 49 = .ok (.ifCond .le 8, 3) := dk_158 0 8 (dk_at dksX14_cutElements_2 3 rfl rfl)
theorem dX14_cutElements_52 : decode cX14_cutElements 52 = .ok (.iconst 1, 1) := dk_4 (dk_at dksX14_cutElements_2 6 rfl rfl)
theorem dX14_cutElements_53 : decode cX14_cutElements 53 = .ok (.istore_n 1, 1) := dk_60 (dk_at dksX14_cutElements_2 7 rfl rfl)
theorem dX14_cutElements_54 : decode cX14_cutElements 54 = .ok (.goto 178, 3) := dk_167 0 178 (dk_at dksX14_cutElements_2 8 rfl rfl)
theorem dX14_cutElements_57 : decode cX14_cutElements 57 = .ok (.aload_n 0, 1) := dk_42 (dk_at dksX14_cutElements_2 11 rfl rfl)
theorem dX14_cutElements_58 : decode cX14_cutElements 58 = .ok (.getfield 862, 3) := dk_180 3 94 (dk_at dksX14_cutElements_2 12 rfl rfl)
theorem dX14_cutElements_61 : decode cX14_cutElements 61 = .ok (.ifCond .lt 38, 3) := dk_155 0 38 (dk_at dksX14_cutElements_2 15 rfl rfl)
theorem dX14_cutElements_64 : decode cX14_cutElements 64 = .ok (.aload_n 0, 1) := dk_42 (dk_at dksX14_cutElements_2 18 rfl rfl)
theorem dX14_cutElements_65 : decode cX14_cutElements 65 = .ok (.getfield 290, 3) := dk_180 1 34 (dk_at dksX14_cutElements_2 19 rfl rfl)
theorem dX14_cutElements_68 : decode cX14_cutElements 68 = .ok (.aload_n 0, 1) := dk_42 (dk_at dksX14_cutElements_2 22 rfl rfl)
theorem dX14_cutElements_69 : decode cX14_cutElements 69 = .ok (.getfield 862, 3) := dk_180 3 94 (dk_at dksX14_cutElements_3 0 rfl rfl)
theorem dX14_cutElements_72 : decode cX14_cutElements 72 = .ok (.baload, 1) := dk_51 (dk_at dksX14_cutElements_3 3 rfl rfl)
theorem dX14_cutElements_73 : decode cX14_cutElements 73 = .ok (.ifCond .ne 26, 3) := dk_154 0 26 (dk_at dksX14_cutElements_3 4 rfl rfl)
theorem dX14_cutElements_76 : decode cX14_cutElements 76 = .ok (.aload_n 0, 1) := dk_42 (dk_at dksX14_cutElements_3 7 rfl rfl)
theorem dX14_cutElements_77 : decode cX14_cutElements 77 = .ok (.getfield 871, 3) := dk_180 3 103 (dk_at dksX14_cutElements_3 8 rfl rfl)
theorem dX14_cutElements_80 : decode cX14_cutElements 80 = .ok (.aload_n 0, 1) := dk_42 (dk_at dksX14_cutElements_3 11 rfl rfl)
theorem dX14_cutElements_81 : decode cX14_cutElements 81 = .ok (.getfield 287, 3) := dk_180 1 31 (dk_at dksX14_cutElements_3 12 rfl rfl)
theorem dX14_cutElements_84 : decode cX14_cutElements 84 = .ok (.aload_n 0, 1) := dk_42 (dk_at dksX14_cutElements_3 15 rfl rfl)
theorem dX14_cutElements_85 : decode cX14_cutElements 85 = .ok (.getfield 862, 3) := dk_180 3 94 (dk_at dksX14_cutElements_3 16 rfl rfl)
theorem dX14_cutElements_88 : decode cX14_cutElements 88 = .ok (.iaload, 1) := dk_46 (dk_at dksX14_cutElements_3 19 rfl rfl)
theorem dX14_cutElements_89 : decode cX14_cutElements 89 = .ok (.if_icmp .ne 10, 3) := dk_160 0 10 (dk_at dksX14_cutElements_3 20 rfl rfl)
theorem dX14_cutElements_92 : decode cX14_cutElements 92 = .ok (.aload_n 0, 1) := dk_42 (dk_at dksX14_cutElements_3 23 rfl rfl)
theorem dX14_cutElements_93 : decode cX14_cutElements 93 = .ok (.invokevirtual 877, 3) := dk_182 3 109 (dk_at dksX14_cutElements_4 0 rfl rfl)
theorem dX14_cutElements_96 : decode cX14_cutElements 96 = .ok (.goto 136, 3) := dk_167 0 136 (dk_at dksX14_cutElements_4 3 rfl rfl)
theorem dX14_cutElements_99 : decode cX14_cutElements 99 = .ok (.aload_n 0, 1) := dk_42 (dk_at dksX14_cutElements_4 6 rfl rfl)
theorem dX14_cutElements_100 : decode cX14_cutElements 100 = .ok (.getfield 862, 3) := dk_180 3 94 (dk_at dksX14_cutElements_4 7 rfl rfl)
theorem dX14_cutElements_103 : decode cX14_cutElements 103 = .ok (.ifCond .lt 81, 3) := dk_155 0 81 (dk_at dksX14_cutElements_4 10 rfl rfl)
theorem dX14_cutElements_106 : decode cX14_cutElements 106 = .ok (.aload_n 0, 1) := dk_42 (dk_at dksX14_cutElements_4 13 rfl rfl)
theorem dX14_cutElements_107 : decode cX14_cutElements 107 = .ok (.getfield 290, 3) := dk_180 1 34 (dk_at dksX14_cutElements_4 14 rfl rfl)
theorem dX14_cutElements_110 : decode cX14_cutElements 110 = .ok (.aload_n 0, 1) := dk_42 (dk_at dksX14_cutElements_4 17 rfl rfl)
theorem dX14_cutElements_111 : decode cX14_cutElements 111 = .ok (.getfield 862, 3) := dk_180 3 94 (dk_at dksX14_cutElements_4 18 rfl rfl)
theorem dX14_cutElements_114 : decode cX14_cutElements 114 = .ok (.baload, 1) := dk_51 (dk_at dksX14_cutElements_4 21 rfl rfl)
theorem dX14_cutElements_115 : decode cX14_cutElements 115 = .ok (.ifCond .eq 69, 3) := dk_153 0 69 (dk_at dksX14_cutElements_5 0 rfl rfl)
theorem dX14_cutElements_118 : decode cX14_cutElements 118 = .ok (.aload_n 0, 1) := dk_42 (dk_at dksX14_cutElements_5 3 rfl rfl)
theorem dX14_cutElements_119 : decode cX14_cutElements 119 = .ok (.getfield 871, 3) := dk_180 3 103 (dk_at dksX14_cutElements_5 4 rfl rfl)
theorem dX14_cutElements_122 : decode cX14_cutElements 122 = .ok (.iconst 1, 1) := dk_4 (dk_at dksX14_cutElements_5 7 rfl rfl)
theorem dX14_cutElements_123 : decode cX14_cutElements 123 = .ok (.iadd, 1) := dk_96 (dk_at dksX14_cutElements_5 8 rfl rfl)
theorem dX14_cutElements_124 : decode cX14_cutElements 124 = .ok (.iload_n 2, 1) := dk_28 (dk_at dksX14_cutElements_5 9 rfl rfl)
theorem dX14_cutElements_125 : decode cX14_cutElements 125 = .ok (.if_icmp .ge 59, 3) := dk_162 0 59 (dk_at dksX14_cutElements_5 10 rfl rfl)
theorem dX14_cutElements_128 : decode cX14_cutElements 128 = .ok (.aload_n 0, 1) := dk_42 (dk_at dksX14_cutElements_5 13 rfl rfl)
theorem dX14_cutElements_129 : decode cX14_cutElements 129 = .ok (.getfield 269, 3) := dk_180 1 13 (dk_at dksX14_cutElements_5 14 rfl rfl)
theorem dX14_cutElements_132 : decode cX14_cutElements 132 = .ok (.aload_n 0, 1) := dk_42 (dk_at dksX14_cutElements_5 17 rfl rfl)
theorem dX14_cutElements_133 : decode cX14_cutElements 133 = .ok (.getfield 871, 3) := dk_180 3 103 (dk_at dksX14_cutElements_5 18 rfl rfl)
theorem dX14_cutElements_136 : decode cX14_cutElements 136 = .ok (.iaload, 1) := dk_46 (dk_at dksX14_cutElements_5 21 rfl rfl)
theorem dX14_cutElements_137 : decode cX14_cutElements 137 = .ok (.ifCond .ne 47, 3) := dk_154 0 47 (dk_at dksX14_cutElements_6 0 rfl rfl)
theorem dX14_cutElements_140 : decode cX14_cutElements 140 = .ok (.aload_n 0, 1) := dk_42 (dk_at dksX14_cutElements_6 3 rfl rfl)
theorem dX14_cutElements_141 : decode cX14_cutElements 141 = .ok (.getfield 269, 3) := dk_180 1 13 (dk_at dksX14_cutElements_6 4 rfl rfl)
theorem dX14_cutElements_144 : decode cX14_cutElements 144 = .ok (.aload_n 0, 1) := dk_42 (dk_at dksX14_cutElements_6 7 rfl rfl)
theorem dX14_cutElements_145 : decode cX14_cutElements 145 = .ok (.getfield 871, 3) := dk_180 3 103 (dk_at dksX14_cutElements_6 8 rfl rfl)
theorem dX14_cutElements_148 : decode cX14_cutElements 148 = .ok (.iconst 1, 1) := dk_4 (dk_at dksX14_cutElements_6 11 rfl rfl)
theorem dX14_cutElements_149 : decode cX14_cutElements 149 = .ok (.iadd, 1) := dk_96 (dk_at dksX14_cutElements_6 12 rfl rfl)
theorem dX14_cutElements_150 : decode cX14_cutElements 150 = .ok (.iaload, 1) := dk_46 (dk_at dksX14_cutElements_6 13 rfl rfl)
theorem dX14_cutElements_151 : decode cX14_cutElements 151 = .ok (.ifCond .ne 33, 3) := dk_154 0 33 (dk_at dksX14_cutElements_6 14 rfl rfl)
theorem dX14_cutElements_154 : decode cX14_cutElements 154 = .ok (.aload_n 0, 1) := dk_42 (dk_at dksX14_cutElements_6 17 rfl rfl)
theorem dX14_cutElements_155 : decode cX14_cutElements 155 = .ok (.getfield 287, 3) := dk_180 1 31 (dk_at dksX14_cutElements_6 18 rfl rfl)
theorem dX14_cutElements_158 : decode cX14_cutElements 158 = .ok (.aload_n 0, 1) := dk_42 (dk_at dksX14_cutElements_6 21 rfl rfl)
theorem dX14_cutElements_159 : decode cX14_cutElements 159 = .ok (.getfield 862, 3) := dk_180 3 94 (dk_at dksX14_cutElements_7 0 rfl rfl)
theorem dX14_cutElements_162 : decode cX14_cutElements 162 = .ok (.aload_n 0, 1) := dk_42 (dk_at dksX14_cutElements_7 3 rfl rfl)
theorem dX14_cutElements_163 : decode cX14_cutElements 163 = .ok (.getfield 871, 3) := dk_180 3 103 (dk_at dksX14_cutElements_7 4 rfl rfl)
theorem dX14_cutElements_166 : decode cX14_cutElements 166 = .ok (.iastore, 1) := dk_79 (dk_at dksX14_cutElements_7 7 rfl rfl)
theorem dX14_cutElements_167 : decode cX14_cutElements 167 = .ok (.aload_n 0, 1) := dk_42 (dk_at dksX14_cutElements_7 8 rfl rfl)
theorem dX14_cutElements_168 : decode cX14_cutElements 168 = .ok (.dup, 1) := dk_89 (dk_at dksX14_cutElements_7 9 rfl rfl)
theorem dX14_cutElements_169 : decode cX14_cutElements 169 = .ok (.getfield 871, 3) := dk_180 3 103 (dk_at dksX14_cutElements_7 10 rfl rfl)
theorem dX14_cutElements_172 : decode cX14_cutElements 172 = .ok (.iconst 2, 1) := dk_5 (dk_at dksX14_cutElements_7 13 rfl rfl)
theorem dX14_cutElements_173 : decode cX14_cutElements 173 = .ok (.iadd, 1) := dk_96 (dk_at dksX14_cutElements_7 14 rfl rfl)
theorem dX14_cutElements_174 : decode cX14_cutElements 174 = .ok (.putfield 871, 3) := dk_181 3 103 (dk_at dksX14_cutElements_7 15 rfl rfl)
theorem dX14_cutElements_177 : decode cX14_cutElements 177 = .ok (.aload_n 0, 1) := dk_42 (dk_at dksX14_cutElements_7 18 rfl rfl)
theorem dX14_cutElements_178 : decode cX14_cutElements 178 = .ok (.invokevirtual 877, 3) := dk_182 3 109 (dk_at dksX14_cutElements_7 19 rfl rfl)
theorem dX14_cutElements_181 : decode cX14_cutElements 181 = .ok (.goto 51, 3) := dk_167 0 51 (dk_at dksX14_cutElements_8 0 rfl rfl)
theorem dX14_cutElements_184 : decode cX14_cutElements 184 = .ok (.aload_n 0, 1) := dk_42 (dk_at dksX14_cutElements_8 3 rfl rfl)
theorem dX14_cutElements_185 : decode cX14_cutElements 185 = .ok (.getfield 871, 3) := dk_180 3 103 (dk_at dksX14_cutElements_8 4 rfl rfl)
theorem dX14_cutElements_188 : decode cX14_cutElements 188 = .ok (.iload_n 2, 1) := dk_28 (dk_at dksX14_cutElements_8 7 rfl rfl)
theorem dX14_cutElements_189 : decode cX14_cutElements 189 = .ok (.if_icmp .lt 15, 3) := dk_161 0 15 (dk_at dksX14_cutElements_8 8 rfl rfl)
theorem dX14_cutElements_192 : decode cX14_cutElements 192 = .ok (.aload_n 0, 1) := dk_42 (dk_at dksX14_cutElements_8 11 rfl rfl)
theorem dX14_cutElements_193 : decode cX14_cutElements 193 = .ok (.iconst 1, 1) := dk_4 (dk_at dksX14_cutElements_8 12 rfl rfl)
theorem dX14_cutElements_194 : decode cX14_cutElements 194 = .ok (.aload_n 0, 1) := dk_42 (dk_at dksX14_cutElements_8 13 rfl rfl)
theorem dX14_cutElements_195 : decode cX14_cutElements 195 = .ok (.getfield 871, 3) := dk_180 3 103 (dk_at dksX14_cutElements_8 14 rfl rfl)
theorem dX14_cutElements_198 : decode cX14_cutElements 198 = .ok (.invokevirtual 414, 3) := dk_182 1 158 (dk_at dksX14_cutElements_8 17 rfl rfl)
theorem dX14_cutElements_201 : decode cX14_cutElements 201 = .ok (.goto 31, 3) := dk_167 0 31 (dk_at dksX14_cutElements_8 20 rfl rfl)
theorem dX14_cutElements_204 : decode cX14_cutElements 204 = .ok (.aload_n 0, 1) := dk_42 (dk_at dksX14_cutElements_8 23 rfl rfl)
theorem dX14_cutElements_205 : decode cX14_cutElements 205 = .ok (.getfield 865, 3) := dk_180 3 97 (dk_at dksX14_cutElements_9 0 rfl rfl)
theorem dX14_cutElements_208 : decode cX14_cutElements 208 = .ok (.aload_n 0, 1) := dk_42 (dk_at dksX14_cutElements_9 3 rfl rfl)
theorem dX14_cutElements_209 : decode cX14_cutElements 209 = .ok (.getfield 23, 3) := dk_180 0 23 (dk_at dksX14_cutElements_9 4 rfl rfl)
theorem dX14_cutElements_212 : decode cX14_cutElements 212 = .ok (.if_icmp .le 15, 3) := dk_164 0 15 (dk_at dksX14_cutElements_9 7 rfl rfl)
theorem dX14_cutElements_215 : decode cX14_cutElements 215 = .ok (.aload_n 0, 1) := dk_42 (dk_at dksX14_cutElements_9 10 rfl rfl)
theorem dX14_cutElements_216 : decode cX14_cutElements 216 = .ok (.iconst 5, 1) := dk_8 (dk_at dksX14_cutElements_9 11 rfl rfl)
theorem dX14_cutElements_217 : decode cX14_cutElements 217 = .ok (.aload_n 0, 1) := dk_42 (dk_at dksX14_cutElements_9 12 rfl rfl)
theorem dX14_cutElements_218 : decode cX14_cutElements 218 = .ok (.getfield 871, 3) := dk_180 3 103 (dk_at dksX14_cutElements_9 13 rfl rfl)
theorem dX14_cutElements_221 : decode cX14_cutElements 221 = .ok (.invokevirtual 414, 3) := dk_182 1 158 (dk_at dksX14_cutElements_9 16 rfl rfl)
theorem dX14_cutElements_224 : decode cX14_cutElements 224 = .ok (.goto 8, 3) := dk_167 0 8 (dk_at dksX14_cutElements_9 19 rfl rfl)
theorem dX14_cutElements_227 : decode cX14_cutElements 227 = .ok (.aload_n 0, 1) := dk_42 (dk_at dksX14_cutElements_9 22 rfl rfl)
theorem dX14_cutElements_228 : decode cX14_cutElements 228 = .ok (.iload_n 2, 1) := dk_28 (dk_at dksX14_cutElements_9 23 rfl rfl)
theorem dX14_cutElements_229 : decode cX14_cutElements 229 = .ok (.invokevirtual 880, 3) := dk_182 3 112 (dk_at dksX14_cutElements_10 0 rfl rfl)
theorem dX14_cutElements_232 : decode cX14_cutElements 232 = .ok (.goto (-210), 3) := dk_167 255 46 (dk_at dksX14_cutElements_10 3 rfl rfl)
theorem dX14_cutElements_235 : decode cX14_cutElements 235 = .ok (.aload_n 0, 1) := dk_42 (dk_at dksX14_cutElements_10 6 rfl rfl)
theorem dX14_cutElements_236 : decode cX14_cutElements 236 = .ok (.getfield 353, 3) := dk_180 1 97 (dk_at dksX14_cutElements_10 7 rfl rfl)
theorem dX14_cutElements_239 : decode cX14_cutElements 239 = .ok (.ifCond .ne 24, 3) := dk_154 0 24 (dk_at dksX14_cutElements_10 10 rfl rfl)
theorem dX14_cutElements_242 : decode cX14_cutElements 242 = .ok (.aload_n 0, 1) := dk_42 (dk_at dksX14_cutElements_10 13 rfl rfl)
theorem dX14_cutElements_243 : decode cX14_cutElements 243 = .ok (.getfield 871, 3) := dk_180 3 103 (dk_at dksX14_cutElements_10 14 rfl rfl)
theorem dX14_cutElements_246 : decode cX14_cutElements 246 = .ok (.aload_n 0, 1) := dk_42 (dk_at dksX14_cutElements_10 17 rfl rfl)
theorem dX14_cutElements_247 : decode cX14_cutElements 247 = .ok (.getfield 370, 3) := dk_180 1 114 (dk_at dksX14_cutElements_10 18 rfl rfl)
theorem dX14_cutElements_250 : decode cX14_cutElements 250 = .ok (.if_icmp .ge 13, 3) := dk_162 0 13 (dk_at dksX14_cutElements_10 21 rfl rfl)
theorem dX14_cutElements_253 : decode cX14_cutElements 253 = .ok (.aload_n 0, 1) := dk_42 (dk_at dksX14_cutElements_11 0 rfl rfl)
theorem dX14_cutElements_254 : decode cX14_cutElements 254 = .ok (.bipush 6, 2) := dk_16 6 (dk_at dksX14_cutElements_11 1 rfl rfl)
theorem dX14_cutElements_256 : decode cX14_cutElements 256 = .ok (.aload_n 0, 1) := dk_42 (dk_at dksX14_cutElements_11 3 rfl rfl)
theorem dX14_cutElements_257 : decode cX14_cutElements 257 = .ok (.getfield 871, 3) := dk_180 3 103 (dk_at dksX14_cutElements_11 4 rfl rfl)
theorem dX14_cutElements_260 : decode cX14_cutElements 260 = .ok (.invokevirtual 414, 3) := dk_182 1 158 (dk_at dksX14_cutElements_11 7 rfl rfl)
theorem dX14_cutElements_263 : decode cX14_cutElements 263 = .ok (.return_, 1) := dk_177 (dk_at dksX14_cutElements_11 10 rfl rfl)
abbrev cX14_wall : ByteArray := prog_15_method_133_code
def yX14_wall : MethodName := ⟨RX14, "wall", "()I"⟩
def dkwX14_wall_1 : List UInt8 := [60, 167, 255, 236, 27, 156, 0, 10, 42, 180, 1, 114, 167, 0, 9, 42, 180, 1, 31, 27, 46, 172]
abbrev dktX14_wall_1 : List UInt8 := dkwX14_wall_1 ++ []
def dkwX14_wall_0 : List UInt8 := [42, 180, 3, 94, 60, 27, 155, 0, 22, 42, 180, 1, 34, 27, 51, 153, 0, 13, 42, 180, 1, 37, 27, 46]
abbrev dktX14_wall_0 : List UInt8 := dkwX14_wall_0 ++ dktX14_wall_1
theorem dksX14_wall_0 : cX14_wall.data.toList.drop 0 = dktX14_wall_0 := by decide +kernel
theorem dksX14_wall_1 : cX14_wall.data.toList.drop 24 = dktX14_wall_1 := dk_seg dksX14_wall_0 24 rfl rfl
theorem dX14_wall_0 : decode cX14_wall 0 = .ok (.aload_n 0, 1) := dk_42 (dk_at dksX14_wall_0 0 rfl rfl)
theorem dX14_wall_1 : decode cX14_wall 1 = .ok (.getfield 862, 3) := dk_180 3 94 (dk_at dksX14_wall_0 1 rfl rfl)
theorem dX14_wall_4 : decode cX14_wall 4 = .ok (.istore_n 1, 1) := dk_60 (dk_at dksX14_wall_0 4 rfl rfl)
theorem dX14_wall_5 : decode cX14_wall 5 = .ok (.iload_n 1, 1) := dk_27 (dk_at dksX14_wall_0 5 rfl rfl)
theorem dX14_wall_6 : decode cX14_wall 6 = .ok (.ifCond .lt 22, 3) := dk_155 0 22 (dk_at dksX14_wall_0 6 rfl rfl)
theorem dX14_wall_9 : decode cX14_wall 9 = .ok (.aload_n 0, 1) := dk_42 (dk_at dksX14_wall_0 9 rfl rfl)
theorem dX14_wall_10 : decode cX14_wall 10 = .ok (.getfield 290, 3) := dk_180 1 34 (dk_at dksX14_wall_0 10 rfl rfl)
theorem dX14_wall_13 : decode cX14_wall 13 = .ok (.iload_n 1, 1) := dk_27 (dk_at dksX14_wall_0 13 rfl rfl)
theorem dX14_wall_14 : decode cX14_wall 14 = .ok (.baload, 1) := dk_51 (dk_at dksX14_wall_0 14 rfl rfl)
theorem dX14_wall_15 : decode cX14_wall 15 = .ok (.ifCond .eq 13, 3) := dk_153 0 13 (dk_at dksX14_wall_0 15 rfl rfl)
theorem dX14_wall_18 : decode cX14_wall 18 = .ok (.aload_n 0, 1) := dk_42 (dk_at dksX14_wall_0 18 rfl rfl)
theorem dX14_wall_19 : decode cX14_wall 19 = .ok (.getfield 293, 3) := dk_180 1 37 (dk_at dksX14_wall_0 19 rfl rfl)
theorem dX14_wall_22 : decode cX14_wall 22 = .ok (.iload_n 1, 1) := dk_27 (dk_at dksX14_wall_0 22 rfl rfl)
theorem dX14_wall_23 : decode cX14_wall 23 = .ok (.iaload, 1) := dk_46 (dk_at dksX14_wall_0 23 rfl rfl)
theorem dX14_wall_24 : decode cX14_wall 24 = .ok (.istore_n 1, 1) := dk_60 (dk_at dksX14_wall_1 0 rfl rfl)
theorem dX14_wall_25 : decode cX14_wall 25 = .ok (.goto (-20), 3) := dk_167 255 236 (dk_at dksX14_wall_1 1 rfl rfl)
theorem dX14_wall_28 : decode cX14_wall 28 = .ok (.iload_n 1, 1) := dk_27 (dk_at dksX14_wall_1 4 rfl rfl)
theorem dX14_wall_29 : decode cX14_wall 29 = .ok (.ifCond .ge 10, 3) := dk_156 0 10 (dk_at dksX14_wall_1 5 rfl rfl)
theorem dX14_wall_32 : decode cX14_wall 32 = .ok (.aload_n 0, 1) := dk_42 (dk_at dksX14_wall_1 8 rfl rfl)
theorem dX14_wall_33 : decode cX14_wall 33 = .ok (.getfield 370, 3) := dk_180 1 114 (dk_at dksX14_wall_1 9 rfl rfl)
theorem dX14_wall_36 : decode cX14_wall 36 = .ok (.goto 9, 3) := dk_167 0 9 (dk_at dksX14_wall_1 12 rfl rfl)
theorem dX14_wall_39 : decode cX14_wall 39 = .ok (.aload_n 0, 1) := dk_42 (dk_at dksX14_wall_1 15 rfl rfl)
theorem dX14_wall_40 : decode cX14_wall 40 = .ok (.getfield 287, 3) := dk_180 1 31 (dk_at dksX14_wall_1 16 rfl rfl)
theorem dX14_wall_43 : decode cX14_wall 43 = .ok (.iload_n 1, 1) := dk_27 (dk_at dksX14_wall_1 19 rfl rfl)
theorem dX14_wall_44 : decode cX14_wall 44 = .ok (.iaload, 1) := dk_46 (dk_at dksX14_wall_1 20 rfl rfl)
theorem dX14_wall_45 : decode cX14_wall 45 = .ok (.ireturn, 1) := dk_172 (dk_at dksX14_wall_1 21 rfl rfl)
abbrev cX14_closeParent : ByteArray := prog_15_method_134_code
def yX14_closeParent : MethodName := ⟨RX14, "closeParent", "()V"⟩
def dkwX14_closeParent_0 : List UInt8 := [42, 42, 180, 1, 37, 42, 180, 3, 94, 46, 181, 3, 94, 42, 89, 180, 3, 97, 4, 100, 181, 3, 97, 177]
abbrev dktX14_closeParent_0 : List UInt8 := dkwX14_closeParent_0 ++ []
theorem dksX14_closeParent_0 : cX14_closeParent.data.toList.drop 0 = dktX14_closeParent_0 := by decide +kernel
theorem dX14_closeParent_0 : decode cX14_closeParent 0 = .ok (.aload_n 0, 1) := dk_42 (dk_at dksX14_closeParent_0 0 rfl rfl)
theorem dX14_closeParent_1 : decode cX14_closeParent 1 = .ok (.aload_n 0, 1) := dk_42 (dk_at dksX14_closeParent_0 1 rfl rfl)
theorem dX14_closeParent_2 : decode cX14_closeParent 2 = .ok (.getfield 293, 3) := dk_180 1 37 (dk_at dksX14_closeParent_0 2 rfl rfl)
theorem dX14_closeParent_5 : decode cX14_closeParent 5 = .ok (.aload_n 0, 1) := dk_42 (dk_at dksX14_closeParent_0 5 rfl rfl)
theorem dX14_closeParent_6 : decode cX14_closeParent 6 = .ok (.getfield 862, 3) := dk_180 3 94 (dk_at dksX14_closeParent_0 6 rfl rfl)
theorem dX14_closeParent_9 : decode cX14_closeParent 9 = .ok (.iaload, 1) := dk_46 (dk_at dksX14_closeParent_0 9 rfl rfl)
theorem dX14_closeParent_10 : decode cX14_closeParent 10 = .ok (.putfield 862, 3) := dk_181 3 94 (dk_at dksX14_closeParent_0 10 rfl rfl)
theorem dX14_closeParent_13 : decode cX14_closeParent 13 = .ok (.aload_n 0, 1) := dk_42 (dk_at dksX14_closeParent_0 13 rfl rfl)
theorem dX14_closeParent_14 : decode cX14_closeParent 14 = .ok (.dup, 1) := dk_89 (dk_at dksX14_closeParent_0 14 rfl rfl)
theorem dX14_closeParent_15 : decode cX14_closeParent 15 = .ok (.getfield 865, 3) := dk_180 3 97 (dk_at dksX14_closeParent_0 15 rfl rfl)
theorem dX14_closeParent_18 : decode cX14_closeParent 18 = .ok (.iconst 1, 1) := dk_4 (dk_at dksX14_closeParent_0 18 rfl rfl)
theorem dX14_closeParent_19 : decode cX14_closeParent 19 = .ok (.isub, 1) := dk_100 (dk_at dksX14_closeParent_0 19 rfl rfl)
theorem dX14_closeParent_20 : decode cX14_closeParent 20 = .ok (.putfield 865, 3) := dk_181 3 97 (dk_at dksX14_closeParent_0 20 rfl rfl)
theorem dX14_closeParent_23 : decode cX14_closeParent 23 = .ok (.return_, 1) := dk_177 (dk_at dksX14_closeParent_0 23 rfl rfl)
abbrev cX14_element : ByteArray := prog_15_method_136_code
def yX14_element : MethodName := ⟨RX14, "element", "(I)V"⟩
def dkwX14_element_28 : List UInt8 := [42, 21, 5, 181, 3, 103, 167, 0, 13, 42, 42, 180, 1, 31, 28, 46, 181, 3, 103, 177]
abbrev dktX14_element_28 : List UInt8 := dkwX14_element_28 ++ []
def dkwX14_element_27 : List UInt8 := [96, 181, 3, 100, 21, 10, 153, 0, 27, 42, 28, 181, 3, 94, 42, 89, 180, 3, 97, 4, 96, 181, 3, 97]
abbrev dktX14_element_27 : List UInt8 := dkwX14_element_27 ++ dktX14_element_28
def dkwX14_element_26 : List UInt8 := [79, 42, 180, 3, 94, 155, 0, 13, 42, 180, 1, 43, 42, 180, 3, 94, 28, 79, 42, 89, 180, 3, 100, 4]
abbrev dktX14_element_26 : List UInt8 := dkwX14_element_26 ++ dktX14_element_27
def dkwX14_element_25 : List UInt8 := [155, 0, 25, 42, 180, 1, 43, 42, 180, 3, 94, 46, 156, 0, 13, 42, 180, 1, 40, 42, 180, 3, 94, 28]
abbrev dktX14_element_25 : List UInt8 := dkwX14_element_25 ++ dktX14_element_26
def dkwX14_element_24 : List UInt8 := [155, 0, 18, 42, 180, 1, 46, 42, 180, 1, 43, 42, 180, 3, 94, 46, 28, 79, 42, 180, 3, 94]
abbrev dktX14_element_24 : List UInt8 := dkwX14_element_24 ++ dktX14_element_25
def dkwX14_element_23 : List UInt8 := [42, 180, 1, 46, 28, 2, 79, 42, 180, 3, 94, 155, 0, 30, 42, 180, 1, 43, 42, 180, 3, 94, 46]
abbrev dktX14_element_23 : List UInt8 := dkwX14_element_23 ++ dktX14_element_24
def dkwX14_element_22 : List UInt8 := [42, 180, 1, 37, 28, 42, 180, 3, 94, 79, 42, 180, 1, 40, 28, 2, 79, 42, 180, 1, 43, 28, 2, 79]
abbrev dktX14_element_22 : List UInt8 := dkwX14_element_22 ++ dktX14_element_23
def dkwX14_element_21 : List UInt8 := [21, 11, 153, 0, 7, 2, 167, 0, 9, 21, 5, 22, 8, 136, 96, 79, 42, 180, 1, 34, 28, 21, 11, 84]
abbrev dktX14_element_21 : List UInt8 := dkwX14_element_21 ++ dktX14_element_22
def dkwX14_element_20 : List UInt8 := [21, 10, 84, 42, 180, 1, 25, 28, 21, 6, 79, 42, 180, 1, 28, 28, 21, 5, 79, 42, 180, 1, 31, 28]
abbrev dktX14_element_20 : List UInt8 := dkwX14_element_20 ++ dktX14_element_21
def dkwX14_element_19 : List UInt8 := [42, 180, 1, 16, 28, 29, 79, 42, 180, 1, 19, 28, 21, 4, 16, 6, 122, 79, 42, 180, 1, 22, 28]
abbrev dktX14_element_19 : List UInt8 := dkwX14_element_19 ++ dktX14_element_20
def dkwX14_element_18 : List UInt8 := [133, 22, 8, 97, 27, 133, 148, 158, 0, 9, 42, 4, 29, 182, 1, 158, 42, 180, 1, 97, 158, 0, 4, 177]
abbrev dktX14_element_18 : List UInt8 := dkwX14_element_18 ++ dktX14_element_19
def dkwX14_element_17 : List UInt8 := [160, 0, 7, 4, 167, 0, 4, 3, 54, 11, 42, 180, 1, 97, 154, 0, 26, 21, 11, 154, 0, 21, 21, 5]
abbrev dktX14_element_17 : List UInt8 := dkwX14_element_17 ++ dktX14_element_18
def dkwX14_element_16 : List UInt8 := [158, 0, 9, 42, 6, 29, 182, 1, 158, 132, 5, 1, 132, 11, 1, 167, 255, 178, 21, 7, 17, 0, 128]
abbrev dktX14_element_16 : List UInt8 := dkwX14_element_16 ++ dktX14_element_17
def dkwX14_element_15 : List UInt8 := [162, 0, 13, 42, 180, 1, 13, 21, 5, 46, 167, 0, 4, 3, 133, 97, 55, 8, 22, 8, 20, 3, 118, 148]
abbrev dktX14_element_15 : List UInt8 := dkwX14_element_15 ++ dktX14_element_16
def dkwX14_element_14 : List UInt8 := [154, 0, 66, 21, 5, 27, 161, 0, 9, 42, 4, 29, 182, 1, 158, 20, 3, 116, 22, 8, 105, 21, 5, 27]
abbrev dktX14_element_14 : List UInt8 := dkwX14_element_14 ++ dktX14_element_15
def dkwX14_element_13 : List UInt8 := [164, 0, 90, 9, 55, 8, 3, 54, 11, 21, 11, 21, 7, 17, 0, 128, 100, 162, 0, 73, 42, 180, 1, 97]
abbrev dktX14_element_13 : List UInt8 := dkwX14_element_13 ++ dktX14_element_14
def dkwX14_element_12 : List UInt8 := [160, 0, 17, 21, 10, 154, 0, 12, 42, 6, 29, 182, 1, 158, 167, 0, 98, 21, 7, 17, 0, 128]
abbrev dktX14_element_12 : List UInt8 := dkwX14_element_12 ++ dktX14_element_13
def dkwX14_element_11 : List UInt8 := [160, 0, 7, 4, 167, 0, 4, 3, 54, 10, 21, 7, 17, 0, 255, 159, 0, 16, 21, 7, 17, 0, 128]
abbrev dktX14_element_11 : List UInt8 := dkwX14_element_11 ++ dktX14_element_12
def dkwX14_element_10 : List UInt8 := [180, 1, 13, 21, 5, 46, 54, 7, 132, 5, 1, 21, 7, 133, 55, 8, 21, 4, 8, 122, 4, 126, 4]
abbrev dktX14_element_10 : List UInt8 := dkwX14_element_10 ++ dktX14_element_11
def dkwX14_element_9 : List UInt8 := [154, 0, 15, 21, 5, 27, 161, 0, 9, 42, 4, 29, 182, 1, 158, 42, 180, 1, 97, 158, 0, 4, 177, 42]
abbrev dktX14_element_9 : List UInt8 := dkwX14_element_9 ++ dktX14_element_10
def dkwX14_element_8 : List UInt8 := [180, 1, 97, 154, 0, 16, 21, 6, 16, 31, 162, 0, 9, 42, 5, 29, 182, 1, 158, 42, 180, 1, 97]
abbrev dktX14_element_8 : List UInt8 := dkwX14_element_8 ++ dktX14_element_9
def dkwX14_element_7 : List UInt8 := [54, 6, 21, 8, 16, 127, 164, 0, 7, 4, 167, 0, 4, 3, 54, 7, 132, 5, 1, 167, 255, 136, 42]
abbrev dktX14_element_7 : List UInt8 := dkwX14_element_7 ++ dktX14_element_8
def dkwX14_element_6 : List UInt8 := [164, 0, 12, 42, 5, 29, 182, 1, 158, 3, 54, 6, 17, 0, 128, 21, 6, 104, 21, 8, 16, 127, 126, 96]
abbrev dktX14_element_6 : List UInt8 := dkwX14_element_6 ++ dktX14_element_7
def dkwX14_element_5 : List UInt8 := [160, 0, 17, 21, 8, 17, 0, 128, 160, 0, 9, 42, 5, 29, 182, 1, 158, 21, 6, 19, 3, 115]
abbrev dktX14_element_5 : List UInt8 := dkwX14_element_5 ++ dktX14_element_6
def dkwX14_element_4 : List UInt8 := [180, 1, 13, 21, 5, 46, 167, 0, 4, 3, 54, 8, 42, 180, 1, 97, 154, 0, 25, 21, 5, 29, 4, 96]
abbrev dktX14_element_4 : List UInt8 := dkwX14_element_4 ++ dktX14_element_5
def dkwX14_element_3 : List UInt8 := [154, 0, 114, 21, 5, 27, 161, 0, 9, 42, 4, 29, 182, 1, 158, 21, 5, 27, 162, 0, 13, 42]
abbrev dktX14_element_3 : List UInt8 := dkwX14_element_3 ++ dktX14_element_4
def dkwX14_element_2 : List UInt8 := [54, 6, 21, 6, 16, 31, 160, 0, 152, 3, 54, 6, 4, 54, 7, 21, 7, 153, 0, 121, 42, 180, 1, 97]
abbrev dktX14_element_2 : List UInt8 := dkwX14_element_2 ++ dktX14_element_3
def dkwX14_element_1 : List UInt8 := [21, 4, 16, 32, 160, 0, 10, 42, 7, 29, 182, 1, 158, 177, 29, 4, 96, 54, 5, 21, 4, 16, 31, 126]
abbrev dktX14_element_1 : List UInt8 := dkwX14_element_1 ++ dktX14_element_2
def dkwX14_element_0 : List UInt8 := [42, 180, 3, 100, 61, 42, 180, 3, 103, 62, 42, 180, 1, 13, 29, 46, 54, 4, 21, 4, 153, 0, 10]
abbrev dktX14_element_0 : List UInt8 := dkwX14_element_0 ++ dktX14_element_1
theorem dksX14_element_0 : cX14_element.data.toList.drop 0 = dktX14_element_0 := by decide +kernel
theorem dksX14_element_1 : cX14_element.data.toList.drop 23 = dktX14_element_1 := dk_seg dksX14_element_0 23 rfl rfl
theorem dksX14_element_2 : cX14_element.data.toList.drop 47 = dktX14_element_2 := dk_seg dksX14_element_1 24 rfl rfl
theorem dksX14_element_3 : cX14_element.data.toList.drop 71 = dktX14_element_3 := dk_seg dksX14_element_2 24 rfl rfl
theorem dksX14_element_4 : cX14_element.data.toList.drop 93 = dktX14_element_4 := dk_seg dksX14_element_3 22 rfl rfl
theorem dksX14_element_5 : cX14_element.data.toList.drop 117 = dktX14_element_5 := dk_seg dksX14_element_4 24 rfl rfl
theorem dksX14_element_6 : cX14_element.data.toList.drop 139 = dktX14_element_6 := dk_seg dksX14_element_5 22 rfl rfl
theorem dksX14_element_7 : cX14_element.data.toList.drop 163 = dktX14_element_7 := dk_seg dksX14_element_6 24 rfl rfl
theorem dksX14_element_8 : cX14_element.data.toList.drop 186 = dktX14_element_8 := dk_seg dksX14_element_7 23 rfl rfl
theorem dksX14_element_9 : cX14_element.data.toList.drop 209 = dktX14_element_9 := dk_seg dksX14_element_8 23 rfl rfl
theorem dksX14_element_10 : cX14_element.data.toList.drop 233 = dktX14_element_10 := dk_seg dksX14_element_9 24 rfl rfl
theorem dksX14_element_11 : cX14_element.data.toList.drop 256 = dktX14_element_11 := dk_seg dksX14_element_10 23 rfl rfl
theorem dksX14_element_12 : cX14_element.data.toList.drop 279 = dktX14_element_12 := dk_seg dksX14_element_11 23 rfl rfl
theorem dksX14_element_13 : cX14_element.data.toList.drop 301 = dktX14_element_13 := dk_seg dksX14_element_12 22 rfl rfl
theorem dksX14_element_14 : cX14_element.data.toList.drop 325 = dktX14_element_14 := dk_seg dksX14_element_13 24 rfl rfl
theorem dksX14_element_15 : cX14_element.data.toList.drop 349 = dktX14_element_15 := dk_seg dksX14_element_14 24 rfl rfl
theorem dksX14_element_16 : cX14_element.data.toList.drop 373 = dktX14_element_16 := dk_seg dksX14_element_15 24 rfl rfl
theorem dksX14_element_17 : cX14_element.data.toList.drop 396 = dktX14_element_17 := dk_seg dksX14_element_16 23 rfl rfl
theorem dksX14_element_18 : cX14_element.data.toList.drop 420 = dktX14_element_18 := dk_seg dksX14_element_17 24 rfl rfl
theorem dksX14_element_19 : cX14_element.data.toList.drop 444 = dktX14_element_19 := dk_seg dksX14_element_18 24 rfl rfl
theorem dksX14_element_20 : cX14_element.data.toList.drop 467 = dktX14_element_20 := dk_seg dksX14_element_19 23 rfl rfl
theorem dksX14_element_21 : cX14_element.data.toList.drop 491 = dktX14_element_21 := dk_seg dksX14_element_20 24 rfl rfl
theorem dksX14_element_22 : cX14_element.data.toList.drop 515 = dktX14_element_22 := dk_seg dksX14_element_21 24 rfl rfl
theorem dksX14_element_23 : cX14_element.data.toList.drop 539 = dktX14_element_23 := dk_seg dksX14_element_22 24 rfl rfl
theorem dksX14_element_24 : cX14_element.data.toList.drop 562 = dktX14_element_24 := dk_seg dksX14_element_23 23 rfl rfl
theorem dksX14_element_25 : cX14_element.data.toList.drop 584 = dktX14_element_25 := dk_seg dksX14_element_24 22 rfl rfl
theorem dksX14_element_26 : cX14_element.data.toList.drop 608 = dktX14_element_26 := dk_seg dksX14_element_25 24 rfl rfl
theorem dksX14_element_27 : cX14_element.data.toList.drop 632 = dktX14_element_27 := dk_seg dksX14_element_26 24 rfl rfl
theorem dksX14_element_28 : cX14_element.data.toList.drop 656 = dktX14_element_28 := dk_seg dksX14_element_27 24 rfl rfl
theorem dX14_element_0 : decode cX14_element 0 = .ok (.aload_n 0, 1) := dk_42 (dk_at dksX14_element_0 0 rfl rfl)
theorem dX14_element_1 : decode cX14_element 1 = .ok (.getfield 868, 3) := dk_180 3 100 (dk_at dksX14_element_0 1 rfl rfl)
theorem dX14_element_4 : decode cX14_element 4 = .ok (.istore_n 2, 1) := dk_61 (dk_at dksX14_element_0 4 rfl rfl)
theorem dX14_element_5 : decode cX14_element 5 = .ok (.aload_n 0, 1) := dk_42 (dk_at dksX14_element_0 5 rfl rfl)
theorem dX14_element_6 : decode cX14_element 6 = .ok (.getfield 871, 3) := dk_180 3 103 (dk_at dksX14_element_0 6 rfl rfl)
theorem dX14_element_9 : decode cX14_element 9 = .ok (.istore_n 3, 1) := dk_62 (dk_at dksX14_element_0 9 rfl rfl)
theorem dX14_element_10 : decode cX14_element 10 = .ok (.aload_n 0, 1) := dk_42 (dk_at dksX14_element_0 10 rfl rfl)
theorem dX14_element_11 : decode cX14_element 11 = .ok (.getfield 269, 3) := dk_180 1 13 (dk_at dksX14_element_0 11 rfl rfl)
theorem dX14_element_14 : decode cX14_element 14 = .ok (.iload_n 3, 1) := dk_29 (dk_at dksX14_element_0 14 rfl rfl)
theorem dX14_element_15 : decode cX14_element 15 = .ok (.iaload, 1) := dk_46 (dk_at dksX14_element_0 15 rfl rfl)
theorem dX14_element_16 : decode cX14_element 16 = .ok (.istore 4, 2) := dk_54 4 (dk_at dksX14_element_0 16 rfl rfl)
theorem dX14_element_18 : decode cX14_element 18 = .ok (.iload 4, 2) := dk_21 4 (dk_at dksX14_element_0 18 rfl rfl)
theorem dX14_element_20 : decode cX14_element 20 = .ok (.ifCond .eq 10, 3) := dk_153 0 10 (dk_at dksX14_element_0 20 rfl rfl)
theorem dX14_element_23 : decode cX14_element 23 = .ok (.iload 4, 2) := dk_21 4 (dk_at dksX14_element_1 0 rfl rfl)
theorem dX14_element_25 : decode cX14_element 25 = .ok (.bipush 32, 2) := dk_16 32 (dk_at dksX14_element_1 2 rfl rfl)
theorem dX14_element_27 : decode cX14_element 27 = .ok (.if_icmp .ne 10, 3) := dk_160 0 10 (dk_at dksX14_element_1 4 rfl rfl)
theorem dX14_element_30 : decode cX14_element 30 = .ok (.aload_n 0, 1) := dk_42 (dk_at dksX14_element_1 7 rfl rfl)
theorem dX14_element_31 : decode cX14_element 31 = .ok (.iconst 4, 1) := dk_7 (dk_at dksX14_element_1 8 rfl rfl)
theorem dX14_element_32 : decode cX14_element 32 = .ok (.iload_n 3, 1) := dk_29 (dk_at dksX14_element_1 9 rfl rfl)
theorem dX14_element_33 : decode cX14_element 33 = .ok (.invokevirtual 414, 3) := dk_182 1 158 (dk_at dksX14_element_1 10 rfl rfl)
theorem dX14_element_36 : decode cX14_element 36 = .ok (.return_, 1) := dk_177 (dk_at dksX14_element_1 13 rfl rfl)
theorem dX14_element_37 : decode cX14_element 37 = .ok (.iload_n 3, 1) := dk_29 (dk_at dksX14_element_1 14 rfl rfl)
theorem dX14_element_38 : decode cX14_element 38 = .ok (.iconst 1, 1) := dk_4 (dk_at dksX14_element_1 15 rfl rfl)
theorem dX14_element_39 : decode cX14_element 39 = .ok (.iadd, 1) := dk_96 (dk_at dksX14_element_1 16 rfl rfl)
theorem dX14_element_40 : decode cX14_element 40 = .ok (.istore 5, 2) := dk_54 5 (dk_at dksX14_element_1 17 rfl rfl)
theorem dX14_element_42 : decode cX14_element 42 = .ok (.iload 4, 2) := dk_21 4 (dk_at dksX14_element_1 19 rfl rfl)
theorem dX14_element_44 : decode cX14_element 44 = .ok (.bipush 31, 2) := dk_16 31 (dk_at dksX14_element_1 21 rfl rfl)
theorem dX14_element_46 : decode cX14_element 46 = .ok (.iand, 1) := dk_126 (dk_at dksX14_element_1 23 rfl rfl)
theorem dX14_element_47 : decode cX14_element 47 = .ok (.istore 6, 2) := dk_54 6 (dk_at dksX14_element_2 0 rfl rfl)
theorem dX14_element_49 : decode cX14_element 49 = .ok (.iload 6, 2) := dk_21 6 (dk_at dksX14_element_2 2 rfl rfl)
theorem dX14_element_51 : decode cX14_element 51 = .ok (.bipush 31, 2) := dk_16 31 (dk_at dksX14_element_2 4 rfl rfl)
theorem dX14_element_53 : decode cX14_element 53 = .ok (.if_icmp .ne 152, 3) := dk_160 0 152 (dk_at dksX14_element_2 6 rfl rfl)
theorem dX14_element_56 : decode cX14_element 56 = .ok (.iconst 0, 1) := dk_3 (dk_at dksX14_element_2 9 rfl rfl)
theorem dX14_element_57 : decode cX14_element 57 = .ok (.istore 6, 2) := dk_54 6 (dk_at dksX14_element_2 10 rfl rfl)
theorem dX14_element_59 : decode cX14_element 59 = .ok (.iconst 1, 1) := dk_4 (dk_at dksX14_element_2 12 rfl rfl)
theorem dX14_element_60 : decode cX14_element 60 = .ok (.istore 7, 2) := dk_54 7 (dk_at dksX14_element_2 13 rfl rfl)
theorem dX14_element_62 : decode cX14_element 62 = .ok (.iload 7, 2) := dk_21 7 (dk_at dksX14_element_2 15 rfl rfl)
theorem dX14_element_64 : decode cX14_element 64 = .ok (.ifCond .eq 121, 3) := dk_153 0 121 (dk_at dksX14_element_2 17 rfl rfl)
theorem dX14_element_67 : decode cX14_element 67 = .ok (.aload_n 0, 1) := dk_42 (dk_at dksX14_element_2 20 rfl rfl)
theorem dX14_element_68 : decode cX14_element 68 = .ok (.getfield 353, 3) := dk_180 1 97 (dk_at dksX14_element_2 21 rfl rfl)
theorem dX14_element_71 : decode cX14_element 71 = .ok (.ifCond .ne 114, 3) := dk_154 0 114 (dk_at dksX14_element_3 0 rfl rfl)
theorem dX14_element_74 : decode cX14_element 74 = .ok (.iload 5, 2) := dk_21 5 (dk_at dksX14_element_3 3 rfl rfl)
theorem dX14_element_76 : decode cX14_element 76 = .ok (.iload_n 1, 1) := dk_27 (dk_at dksX14_element_3 5 rfl rfl)
theorem dX14_element_77 : decode cX14_element 77 = .ok (.if_icmp .lt 9, 3) := dk_161 0 9 (dk_at dksX14_element_3 6 rfl rfl)
theorem dX14_element_80 : decode cX14_element 80 = .ok (.aload_n 0, 1) := dk_42 (dk_at dksX14_element_3 9 rfl rfl)
theorem dX14_element_81 : decode cX14_element 81 = .ok (.iconst 1, 1) := dk_4 (dk_at dksX14_element_3 10 rfl rfl)
theorem dX14_element_82 : decode cX14_element 82 = .ok (.iload_n 3, 1) := dk_29 (dk_at dksX14_element_3 11 rfl rfl)
theorem dX14_element_83 : decode cX14_element 83 = .ok (.invokevirtual 414, 3) := dk_182 1 158 (dk_at dksX14_element_3 12 rfl rfl)
theorem dX14_element_86 : decode cX14_element 86 = .ok (.iload 5, 2) := dk_21 5 (dk_at dksX14_element_3 15 rfl rfl)
theorem dX14_element_88 : decode cX14_element 88 = .ok (.iload_n 1, 1) := dk_27 (dk_at dksX14_element_3 17 rfl rfl)
theorem dX14_element_89 : decode cX14_element 89 = .ok (.if_icmp .ge 13, 3) := dk_162 0 13 (dk_at dksX14_element_3 18 rfl rfl)
theorem dX14_element_92 : decode cX14_element 92 = .ok (.aload_n 0, 1) := dk_42 (dk_at dksX14_element_3 21 rfl rfl)
theorem dX14_element_93 : decode cX14_element 93 = .ok (.getfield 269, 3) := dk_180 1 13 (dk_at dksX14_element_4 0 rfl rfl)
theorem dX14_element_96 : decode cX14_element 96 = .ok (.iload 5, 2) := dk_21 5 (dk_at dksX14_element_4 3 rfl rfl)
theorem dX14_element_98 : decode cX14_element 98 = .ok (.iaload, 1) := dk_46 (dk_at dksX14_element_4 5 rfl rfl)
theorem dX14_element_99 : decode cX14_element 99 = .ok (.goto 4, 3) := dk_167 0 4 (dk_at dksX14_element_4 6 rfl rfl)
theorem dX14_element_102 : decode cX14_element 102 = .ok (.iconst 0, 1) := dk_3 (dk_at dksX14_element_4 9 rfl rfl)
theorem dX14_element_103 : decode cX14_element 103 = .ok (.istore 8, 2) := dk_54 8 (dk_at dksX14_element_4 10 rfl rfl)
theorem dX14_element_105 : decode cX14_element 105 = .ok (.aload_n 0, 1) := dk_42 (dk_at dksX14_element_4 12 rfl rfl)
theorem dX14_element_106 : decode cX14_element 106 = .ok (.getfield 353, 3) := dk_180 1 97 (dk_at dksX14_element_4 13 rfl rfl)
theorem dX14_element_109 : decode cX14_element 109 = .ok (.ifCond .ne 25, 3) := dk_154 0 25 (dk_at dksX14_element_4 16 rfl rfl)
theorem dX14_element_112 : decode cX14_element 112 = .ok (.iload 5, 2) := dk_21 5 (dk_at dksX14_element_4 19 rfl rfl)
theorem dX14_element_114 : decode cX14_element 114 = .ok (.iload_n 3, 1) := dk_29 (dk_at dksX14_element_4 21 rfl rfl)
theorem dX14_element_115 : decode cX14_element 115 = .ok (.iconst 1, 1) := dk_4 (dk_at dksX14_element_4 22 rfl rfl)
theorem dX14_element_116 : decode cX14_element 116 = .ok (.iadd, 1) := dk_96 (dk_at dksX14_element_4 23 rfl rfl)
theorem dX14_element_117 : decode cX14_element 117 = .ok (.if_icmp .ne 17, 3) := dk_160 0 17 (dk_at dksX14_element_5 0 rfl rfl)
theorem dX14_element_120 : decode cX14_element 120 = .ok (.iload 8, 2) := dk_21 8 (dk_at dksX14_element_5 3 rfl rfl)
theorem dX14_element_122 : decode cX14_element 122 = .ok (.sipush 128, 3) := dk_17 0 128 (dk_at dksX14_element_5 5 rfl rfl)
theorem dX14_element_125 : decode cX14_element 125 = .ok (.if_icmp .ne 9, 3) := dk_160 0 9 (dk_at dksX14_element_5 8 rfl rfl)
theorem dX14_element_128 : decode cX14_element 128 = .ok (.aload_n 0, 1) := dk_42 (dk_at dksX14_element_5 11 rfl rfl)
theorem dX14_element_129 : decode cX14_element 129 = .ok (.iconst 2, 1) := dk_5 (dk_at dksX14_element_5 12 rfl rfl)
theorem dX14_element_130 : decode cX14_element 130 = .ok (.iload_n 3, 1) := dk_29 (dk_at dksX14_element_5 13 rfl rfl)
theorem dX14_element_131 : decode cX14_element 131 = .ok (.invokevirtual 414, 3) := dk_182 1 158 (dk_at dksX14_element_5 14 rfl rfl)
theorem dX14_element_134 : decode cX14_element 134 = .ok (.iload 6, 2) := dk_21 6 (dk_at dksX14_element_5 17 rfl rfl)
theorem dX14_element_136 : decode cX14_element 136 = .ok (.ldc_w 883, 3) := dk_19 3 115 (dk_at dksX14_element_5 19 rfl rfl)
theorem dX14_element_139 : decode cX14_element 139 = .ok (.if_icmp .le 12, 3) := dk_164 0 12 (dk_at dksX14_element_6 0 rfl rfl)
theorem dX14_element_142 : decode cX14_element 142 = .ok (.aload_n 0, 1) := dk_42 (dk_at dksX14_element_6 3 rfl rfl)
theorem dX14_element_143 : decode cX14_element 143 = .ok (.iconst 2, 1) := dk_5 (dk_at dksX14_element_6 4 rfl rfl)
theorem dX14_element_144 : decode cX14_element 144 = .ok (.iload_n 3, 1) := dk_29 (dk_at dksX14_element_6 5 rfl rfl)
theorem dX14_element_145 : decode cX14_element 145 = .ok (.invokevirtual 414, 3) := dk_182 1 158 (dk_at dksX14_element_6 6 rfl rfl)
theorem dX14_element_148 : decode cX14_element 148 = .ok (.iconst 0, 1) := dk_3 (dk_at dksX14_element_6 9 rfl rfl)
theorem dX14_element_149 : decode cX14_element 149 = .ok (.istore 6, 2) := dk_54 6 (dk_at dksX14_element_6 10 rfl rfl)
theorem dX14_element_151 : decode cX14_element 151 = .ok (.sipush 128, 3) := dk_17 0 128 (dk_at dksX14_element_6 12 rfl rfl)
theorem dX14_element_154 : decode cX14_element 154 = .ok (.iload 6, 2) := dk_21 6 (dk_at dksX14_element_6 15 rfl rfl)
theorem dX14_element_156 : decode cX14_element 156 = .ok (.imul, 1) := dk_104 (dk_at dksX14_element_6 17 rfl rfl)
theorem dX14_element_157 : decode cX14_element 157 = .ok (.iload 8, 2) := dk_21 8 (dk_at dksX14_element_6 18 rfl rfl)
theorem dX14_element_159 : decode cX14_element 159 = .ok (.bipush 127, 2) := dk_16 127 (dk_at dksX14_element_6 20 rfl rfl)
theorem dX14_element_161 : decode cX14_element 161 = .ok (.iand, 1) := dk_126 (dk_at dksX14_element_6 22 rfl rfl)
theorem dX14_element_162 : decode cX14_element 162 = .ok (.iadd, 1) := dk_96 (dk_at dksX14_element_6 23 rfl rfl)
theorem dX14_element_163 : decode cX14_element 163 = .ok (.istore 6, 2) := dk_54 6 (dk_at dksX14_element_7 0 rfl rfl)
theorem dX14_element_165 : decode cX14_element 165 = .ok (.iload 8, 2) := dk_21 8 (dk_at dksX14_element_7 2 rfl rfl)
theorem dX14_element_167 : decode cX14_element 167 = .ok (.bipush 127, 2) := dk_16 127 (dk_at dksX14_element_7 4 rfl rfl)
theorem dX14_element_169 : decode cX14_element 169 = .ok (.if_icmp .le 7, 3) := dk_164 0 7 (dk_at dksX14_element_7 6 rfl rfl)
theorem dX14_element_172 : decode cX14_element 172 = .ok (.iconst 1, 1) := dk_4 (dk_at dksX14_element_7 9 rfl rfl)
theorem dX14_element_173 : decode cX14_element 173 = .ok (.goto 4, 3) := dk_167 0 4 (dk_at dksX14_element_7 10 rfl rfl)
theorem dX14_element_176 : decode cX14_element 176 = .ok (.iconst 0, 1) := dk_3 (dk_at dksX14_element_7 13 rfl rfl)
theorem dX14_element_177 : decode cX14_element 177 = .ok (.istore 7, 2) := dk_54 7 (dk_at dksX14_element_7 14 rfl rfl)
theorem dX14_element_179 : decode cX14_element 179 = .ok (.iinc 5 1, 3) := dk_132 5 1 (dk_at dksX14_element_7 16 rfl rfl)
theorem dX14_element_182 : decode cX14_element 182 = .ok (.goto (-120), 3) := dk_167 255 136 (dk_at dksX14_element_7 19 rfl rfl)
theorem dX14_element_185 : decode cX14_element 185 = .ok (.aload_n 0, 1) := dk_42 (dk_at dksX14_element_7 22 rfl rfl)
theorem dX14_element_186 : decode cX14_element 186 = .ok (.getfield 353, 3) := dk_180 1 97 (dk_at dksX14_element_8 0 rfl rfl)
theorem dX14_element_189 : decode cX14_element 189 = .ok (.ifCond .ne 16, 3) := dk_154 0 16 (dk_at dksX14_element_8 3 rfl rfl)
theorem dX14_element_192 : decode cX14_element 192 = .ok (.iload 6, 2) := dk_21 6 (dk_at dksX14_element_8 6 rfl rfl)
theorem dX14_element_194 : decode cX14_element 194 = .ok (.bipush 31, 2) := dk_16 31 (dk_at dksX14_element_8 8 rfl rfl)
theorem dX14_element_196 : decode cX14_element 196 = .ok (.if_icmp .ge 9, 3) := dk_162 0 9 (dk_at dksX14_element_8 10 rfl rfl)
theorem dX14_element_199 : decode cX14_element 199 = .ok (.aload_n 0, 1) := dk_42 (dk_at dksX14_element_8 13 rfl rfl)
theorem dX14_element_200 : decode cX14_element 200 = .ok (.iconst 2, 1) := dk_5 (dk_at dksX14_element_8 14 rfl rfl)
theorem dX14_element_201 : decode cX14_element 201 = .ok (.iload_n 3, 1) := dk_29 (dk_at dksX14_element_8 15 rfl rfl)
theorem dX14_element_202 : decode cX14_element 202 = .ok (.invokevirtual 414, 3) := dk_182 1 158 (dk_at dksX14_element_8 16 rfl rfl)
theorem dX14_element_205 : decode cX14_element 205 = .ok (.aload_n 0, 1) := dk_42 (dk_at dksX14_element_8 19 rfl rfl)
theorem dX14_element_206 : decode cX14_element 206 = .ok (.getfield 353, 3) := dk_180 1 97 (dk_at dksX14_element_8 20 rfl rfl)
theorem dX14_element_209 : decode cX14_element 209 = .ok (.ifCond .ne 15, 3) := dk_154 0 15 (dk_at dksX14_element_9 0 rfl rfl)
theorem dX14_element_212 : decode cX14_element 212 = .ok (.iload 5, 2) := dk_21 5 (dk_at dksX14_element_9 3 rfl rfl)
theorem dX14_element_214 : decode cX14_element 214 = .ok (.iload_n 1, 1) := dk_27 (dk_at dksX14_element_9 5 rfl rfl)
theorem dX14_element_215 : decode cX14_element 215 = .ok (.if_icmp .lt 9, 3) := dk_161 0 9 (dk_at dksX14_element_9 6 rfl rfl)
theorem dX14_element_218 : decode cX14_element 218 = .ok (.aload_n 0, 1) := dk_42 (dk_at dksX14_element_9 9 rfl rfl)
theorem dX14_element_219 : decode cX14_element 219 = .ok (.iconst 1, 1) := dk_4 (dk_at dksX14_element_9 10 rfl rfl)
theorem dX14_element_220 : decode cX14_element 220 = .ok (.iload_n 3, 1) := dk_29 (dk_at dksX14_element_9 11 rfl rfl)
theorem dX14_element_221 : decode cX14_element 221 = .ok (.invokevirtual 414, 3) := dk_182 1 158 (dk_at dksX14_element_9 12 rfl rfl)
theorem dX14_element_224 : decode cX14_element 224 = .ok (.aload_n 0, 1) := dk_42 (dk_at dksX14_element_9 15 rfl rfl)
theorem dX14_element_225 : decode cX14_element 225 = .ok (.getfield 353, 3) := dk_180 1 97 (dk_at dksX14_element_9 16 rfl rfl)
theorem dX14_element_228 : decode cX14_element 228 = .ok (.ifCond .le 4, 3) := dk_158 0 4 (dk_at dksX14_element_9 19 rfl rfl)
theorem dX14_element_231 : decode cX14_element 231 = .ok (.return_, 1) := dk_177 (dk_at dksX14_element_9 22 rfl rfl)
theorem dX14_element_232 : decode cX14_element 232 = .ok (.aload_n 0, 1) := dk_42 (dk_at dksX14_element_9 23 rfl rfl)
theorem dX14_element_233 : decode cX14_element 233 = .ok (.getfield 269, 3) := dk_180 1 13 (dk_at dksX14_element_10 0 rfl rfl)
theorem dX14_element_236 : decode cX14_element 236 = .ok (.iload 5, 2) := dk_21 5 (dk_at dksX14_element_10 3 rfl rfl)
theorem dX14_element_238 : decode cX14_element 238 = .ok (.iaload, 1) := dk_46 (dk_at dksX14_element_10 5 rfl rfl)
theorem dX14_element_239 : decode cX14_element 239 = .ok (.istore 7, 2) := dk_54 7 (dk_at dksX14_element_10 6 rfl rfl)
theorem dX14_element_241 : decode cX14_element 241 = .ok (.iinc 5 1, 3) := dk_132 5 1 (dk_at dksX14_element_10 8 rfl rfl)
theorem dX14_element_244 : decode cX14_element 244 = .ok (.iload 7, 2) := dk_21 7 (dk_at dksX14_element_10 11 rfl rfl)
theorem dX14_element_246 : decode cX14_element 246 = .ok (.i2l, 1) := dk_133 (dk_at dksX14_element_10 13 rfl rfl)
theorem dX14_element_247 : decode cX14_element 247 = .ok (.lstore 8, 2) := dk_55 8 (dk_at dksX14_element_10 14 rfl rfl)
theorem dX14_element_249 : decode cX14_element 249 = .ok (.iload 4, 2) := dk_21 4 (dk_at dksX14_element_10 16 rfl rfl)
theorem dX14_element_251 : decode cX14_element 251 = .ok (.iconst 5, 1) := dk_8 (dk_at dksX14_element_10 18 rfl rfl)
theorem dX14_element_252 : decode cX14_element 252 = .ok (.ishr, 1) := dk_122 (dk_at dksX14_element_10 19 rfl rfl)
theorem dX14_element_253 : decode cX14_element 253 = .ok (.iconst 1, 1) := dk_4 (dk_at dksX14_element_10 20 rfl rfl)
theorem dX14_element_254 : decode cX14_element 254 = .ok (.iand, 1) := dk_126 (dk_at dksX14_element_10 21 rfl rfl)
theorem dX14_element_255 : decode cX14_element 255 = .ok (.iconst 1, 1) := dk_4 (dk_at dksX14_element_10 22 rfl rfl)
theorem dX14_element_256 : decode cX14_element 256 = .ok (.if_icmp .ne 7, 3) := dk_160 0 7 (dk_at dksX14_element_11 0 rfl rfl)
theorem dX14_element_259 : decode cX14_element 259 = .ok (.iconst 1, 1) := dk_4 (dk_at dksX14_element_11 3 rfl rfl)
theorem dX14_element_260 : decode cX14_element 260 = .ok (.goto 4, 3) := dk_167 0 4 (dk_at dksX14_element_11 4 rfl rfl)
theorem dX14_element_263 : decode cX14_element 263 = .ok (.iconst 0, 1) := dk_3 (dk_at dksX14_element_11 7 rfl rfl)
theorem dX14_element_264 : decode cX14_element 264 = .ok (.istore 10, 2) := dk_54 10 (dk_at dksX14_element_11 8 rfl rfl)
theorem dX14_element_266 : decode cX14_element 266 = .ok (.iload 7, 2) := dk_21 7 (dk_at dksX14_element_11 10 rfl rfl)
theorem dX14_element_268 : decode cX14_element 268 = .ok (.sipush 255, 3) := dk_17 0 255 (dk_at dksX14_element_11 12 rfl rfl)
theorem dX14_element_271 : decode cX14_element 271 = .ok (.if_icmp .eq 16, 3) := dk_159 0 16 (dk_at dksX14_element_11 15 rfl rfl)
theorem dX14_element_274 : decode cX14_element 274 = .ok (.iload 7, 2) := dk_21 7 (dk_at dksX14_element_11 18 rfl rfl)
theorem dX14_element_276 : decode cX14_element 276 = .ok (.sipush 128, 3) := dk_17 0 128 (dk_at dksX14_element_11 20 rfl rfl)
theorem dX14_element_279 : decode cX14_element 279 = .ok (.if_icmp .ne 17, 3) := dk_160 0 17 (dk_at dksX14_element_12 0 rfl rfl)
theorem dX14_element_282 : decode cX14_element 282 = .ok (.iload 10, 2) := dk_21 10 (dk_at dksX14_element_12 3 rfl rfl)
theorem dX14_element_284 : decode cX14_element 284 = .ok (.ifCond .ne 12, 3) := dk_154 0 12 (dk_at dksX14_element_12 5 rfl rfl)
theorem dX14_element_287 : decode cX14_element 287 = .ok (.aload_n 0, 1) := dk_42 (dk_at dksX14_element_12 8 rfl rfl)
theorem dX14_element_288 : decode cX14_element 288 = .ok (.iconst 3, 1) := dk_6 (dk_at dksX14_element_12 9 rfl rfl)
theorem dX14_element_289 : decode cX14_element 289 = .ok (.iload_n 3, 1) := dk_29 (dk_at dksX14_element_12 10 rfl rfl)
theorem dX14_element_290 : decode cX14_element 290 = .ok (.invokevirtual 414, 3) := dk_182 1 158 (dk_at dksX14_element_12 11 rfl rfl)
theorem dX14_element_293 : decode cX14_element 293 = .ok (.goto 98, 3) := dk_167 0 98 (dk_at dksX14_element_12 14 rfl rfl)
theorem dX14_element_296 : decode cX14_element 296 = .ok (.iload 7, 2) := dk_21 7 (dk_at dksX14_element_12 17 rfl rfl)
theorem dX14_element_298 : decode cX14_element 298 = .ok (.sipush 128, 3) := dk_17 0 128 (dk_at dksX14_element_12 19 rfl rfl)
theorem dX14_element_301 : decode cX14_element 301 = .ok (.if_icmp .le 90, 3) := dk_164 0 90 (dk_at dksX14_element_13 0 rfl rfl)
theorem dX14_element_304 : decode cX14_element 304 = .ok (.lconst 0, 1) := dk_9 (dk_at dksX14_element_13 3 rfl rfl)
theorem dX14_element_305 : decode cX14_element 305 = .ok (.lstore 8, 2) := dk_55 8 (dk_at dksX14_element_13 4 rfl rfl)
theorem dX14_element_307 : decode cX14_element 307 = .ok (.iconst 0, 1) := dk_3 (dk_at dksX14_element_13 6 rfl rfl)
theorem dX14_element_308 : decode cX14_element 308 = .ok (.istore 11, 2) := dk_54 11 (dk_at dksX14_element_13 7 rfl rfl)
theorem dX14_element_310 : decode cX14_element 310 = .ok (.iload 11, 2) := dk_21 11 (dk_at dksX14_element_13 9 rfl rfl)
theorem dX14_element_312 : decode cX14_element 312 = .ok (.iload 7, 2) := dk_21 7 (dk_at dksX14_element_13 11 rfl rfl)
theorem dX14_element_314 : decode cX14_element 314 = .ok (.sipush 128, 3) := dk_17 0 128 (dk_at dksX14_element_13 13 rfl rfl)
theorem dX14_element_317 : decode cX14_element 317 = .ok (.isub, 1) := dk_100 (dk_at dksX14_element_13 16 rfl rfl)
theorem dX14_element_318 : decode cX14_element 318 = .ok (.if_icmp .ge 73, 3) := dk_162 0 73 (dk_at dksX14_element_13 17 rfl rfl)
theorem dX14_element_321 : decode cX14_element 321 = .ok (.aload_n 0, 1) := dk_42 (dk_at dksX14_element_13 20 rfl rfl)
theorem dX14_element_322 : decode cX14_element 322 = .ok (.getfield 353, 3) := dk_180 1 97 (dk_at dksX14_element_13 21 rfl rfl)
theorem dX14_element_325 : decode cX14_element 325 = .ok (.ifCond .ne 66, 3) := dk_154 0 66 (dk_at dksX14_element_14 0 rfl rfl)
theorem dX14_element_328 : decode cX14_element 328 = .ok (.iload 5, 2) := dk_21 5 (dk_at dksX14_element_14 3 rfl rfl)
theorem dX14_element_330 : decode cX14_element 330 = .ok (.iload_n 1, 1) := dk_27 (dk_at dksX14_element_14 5 rfl rfl)
theorem dX14_element_331 : decode cX14_element 331 = .ok (.if_icmp .lt 9, 3) := dk_161 0 9 (dk_at dksX14_element_14 6 rfl rfl)
theorem dX14_element_334 : decode cX14_element 334 = .ok (.aload_n 0, 1) := dk_42 (dk_at dksX14_element_14 9 rfl rfl)
theorem dX14_element_335 : decode cX14_element 335 = .ok (.iconst 1, 1) := dk_4 (dk_at dksX14_element_14 10 rfl rfl)
theorem dX14_element_336 : decode cX14_element 336 = .ok (.iload_n 3, 1) := dk_29 (dk_at dksX14_element_14 11 rfl rfl)
theorem dX14_element_337 : decode cX14_element 337 = .ok (.invokevirtual 414, 3) := dk_182 1 158 (dk_at dksX14_element_14 12 rfl rfl)
theorem dX14_element_340 : decode cX14_element 340 = .ok (.ldc2_w 884, 3) := dk_20 3 116 (dk_at dksX14_element_14 15 rfl rfl)
theorem dX14_element_343 : decode cX14_element 343 = .ok (.lload 8, 2) := dk_22 8 (dk_at dksX14_element_14 18 rfl rfl)
theorem dX14_element_345 : decode cX14_element 345 = .ok (.lmul, 1) := dk_105 (dk_at dksX14_element_14 20 rfl rfl)
theorem dX14_element_346 : decode cX14_element 346 = .ok (.iload 5, 2) := dk_21 5 (dk_at dksX14_element_14 21 rfl rfl)
theorem dX14_element_348 : decode cX14_element 348 = .ok (.iload_n 1, 1) := dk_27 (dk_at dksX14_element_14 23 rfl rfl)
theorem dX14_element_349 : decode cX14_element 349 = .ok (.if_icmp .ge 13, 3) := dk_162 0 13 (dk_at dksX14_element_15 0 rfl rfl)
theorem dX14_element_352 : decode cX14_element 352 = .ok (.aload_n 0, 1) := dk_42 (dk_at dksX14_element_15 3 rfl rfl)
theorem dX14_element_353 : decode cX14_element 353 = .ok (.getfield 269, 3) := dk_180 1 13 (dk_at dksX14_element_15 4 rfl rfl)
theorem dX14_element_356 : decode cX14_element 356 = .ok (.iload 5, 2) := dk_21 5 (dk_at dksX14_element_15 7 rfl rfl)
theorem dX14_element_358 : decode cX14_element 358 = .ok (.iaload, 1) := dk_46 (dk_at dksX14_element_15 9 rfl rfl)
theorem dX14_element_359 : decode cX14_element 359 = .ok (.goto 4, 3) := dk_167 0 4 (dk_at dksX14_element_15 10 rfl rfl)
theorem dX14_element_362 : decode cX14_element 362 = .ok (.iconst 0, 1) := dk_3 (dk_at dksX14_element_15 13 rfl rfl)
theorem dX14_element_363 : decode cX14_element 363 = .ok (.i2l, 1) := dk_133 (dk_at dksX14_element_15 14 rfl rfl)
theorem dX14_element_364 : decode cX14_element 364 = .ok (.ladd, 1) := dk_97 (dk_at dksX14_element_15 15 rfl rfl)
theorem dX14_element_365 : decode cX14_element 365 = .ok (.lstore 8, 2) := dk_55 8 (dk_at dksX14_element_15 16 rfl rfl)
theorem dX14_element_367 : decode cX14_element 367 = .ok (.lload 8, 2) := dk_22 8 (dk_at dksX14_element_15 18 rfl rfl)
theorem dX14_element_369 : decode cX14_element 369 = .ok (.ldc2_w 886, 3) := dk_20 3 118 (dk_at dksX14_element_15 20 rfl rfl)
theorem dX14_element_372 : decode cX14_element 372 = .ok (.lcmp, 1) := dk_148 (dk_at dksX14_element_15 23 rfl rfl)
theorem dX14_element_373 : decode cX14_element 373 = .ok (.ifCond .le 9, 3) := dk_158 0 9 (dk_at dksX14_element_16 0 rfl rfl)
theorem dX14_element_376 : decode cX14_element 376 = .ok (.aload_n 0, 1) := dk_42 (dk_at dksX14_element_16 3 rfl rfl)
theorem dX14_element_377 : decode cX14_element 377 = .ok (.iconst 3, 1) := dk_6 (dk_at dksX14_element_16 4 rfl rfl)
theorem dX14_element_378 : decode cX14_element 378 = .ok (.iload_n 3, 1) := dk_29 (dk_at dksX14_element_16 5 rfl rfl)
theorem dX14_element_379 : decode cX14_element 379 = .ok (.invokevirtual 414, 3) := dk_182 1 158 (dk_at dksX14_element_16 6 rfl rfl)
theorem dX14_element_382 : decode cX14_element 382 = .ok (.iinc 5 1, 3) := dk_132 5 1 (dk_at dksX14_element_16 9 rfl rfl)
theorem dX14_element_385 : decode cX14_element 385 = .ok (.iinc 11 1, 3) := dk_132 11 1 (dk_at dksX14_element_16 12 rfl rfl)
theorem dX14_element_388 : decode cX14_element 388 = .ok (.goto (-78), 3) := dk_167 255 178 (dk_at dksX14_element_16 15 rfl rfl)
theorem dX14_element_391 : decode cX14_element 391 = .ok (.iload 7, 2) := dk_21 7 (dk_at dksX14_element_16 18 rfl rfl)
theorem dX14_element_393 : decode cX14_element 393 = .ok (.sipush 128, 3) := dk_17 0 128 (dk_at dksX14_element_16 20 rfl rfl)
theorem dX14_element_396 : decode cX14_element 396 = .ok (.if_icmp .ne 7, 3) := dk_160 0 7 (dk_at dksX14_element_17 0 rfl rfl)
theorem dX14_element_399 : decode cX14_element 399 = .ok (.iconst 1, 1) := dk_4 (dk_at dksX14_element_17 3 rfl rfl)
theorem dX14_element_400 : decode cX14_element 400 = .ok (.goto 4, 3) := dk_167 0 4 (dk_at dksX14_element_17 4 rfl rfl)
theorem dX14_element_403 : decode cX14_element 403 = .ok (.iconst 0, 1) := dk_3 (dk_at dksX14_element_17 7 rfl rfl)
theorem dX14_element_404 : decode cX14_element 404 = .ok (.istore 11, 2) := dk_54 11 (dk_at dksX14_element_17 8 rfl rfl)
theorem dX14_element_406 : decode cX14_element 406 = .ok (.aload_n 0, 1) := dk_42 (dk_at dksX14_element_17 10 rfl rfl)
theorem dX14_element_407 : decode cX14_element 407 = .ok (.getfield 353, 3) := dk_180 1 97 (dk_at dksX14_element_17 11 rfl rfl)
theorem dX14_element_410 : decode cX14_element 410 = .ok (.ifCond .ne 26, 3) := dk_154 0 26 (dk_at dksX14_element_17 14 rfl rfl)
theorem dX14_element_413 : decode cX14_element 413 = .ok (.iload 11, 2) := dk_21 11 (dk_at dksX14_element_17 17 rfl rfl)
theorem dX14_element_415 : decode cX14_element 415 = .ok (.ifCond .ne 21, 3) := dk_154 0 21 (dk_at dksX14_element_17 19 rfl rfl)
theorem dX14_element_418 : decode cX14_element 418 = .ok (.iload 5, 2) := dk_21 5 (dk_at dksX14_element_17 22 rfl rfl)
theorem dX14_element_420 : decode cX14_element 420 = .ok (.i2l, 1) := dk_133 (dk_at dksX14_element_18 0 rfl rfl)
theorem dX14_element_421 : decode cX14_element 421 = .ok (.lload 8, 2) := dk_22 8 (dk_at dksX14_element_18 1 rfl rfl)
theorem dX14_element_423 : decode cX14_element 423 = .ok (.ladd, 1) := dk_97 (dk_at dksX14_element_18 3 rfl rfl)
theorem dX14_element_424 : decode cX14_element 424 = .ok (.iload_n 1, 1) := dk_27 (dk_at dksX14_element_18 4 rfl rfl)
theorem dX14_element_425 : decode cX14_element 425 = .ok (.i2l, 1) := dk_133 (dk_at dksX14_element_18 5 rfl rfl)
theorem dX14_element_426 : decode cX14_element 426 = .ok (.lcmp, 1) := dk_148 (dk_at dksX14_element_18 6 rfl rfl)
theorem dX14_element_427 : decode cX14_element 427 = .ok (.ifCond .le 9, 3) := dk_158 0 9 (dk_at dksX14_element_18 7 rfl rfl)
theorem dX14_element_430 : decode cX14_element 430 = .ok (.aload_n 0, 1) := dk_42 (dk_at dksX14_element_18 10 rfl rfl)
theorem dX14_element_431 : decode cX14_element 431 = .ok (.iconst 1, 1) := dk_4 (dk_at dksX14_element_18 11 rfl rfl)
theorem dX14_element_432 : decode cX14_element 432 = .ok (.iload_n 3, 1) := dk_29 (dk_at dksX14_element_18 12 rfl rfl)
theorem dX14_element_433 : decode cX14_element 433 = .ok (.invokevirtual 414, 3) := dk_182 1 158 (dk_at dksX14_element_18 13 rfl rfl)
theorem dX14_element_436 : decode cX14_element 436 = .ok (.aload_n 0, 1) := dk_42 (dk_at dksX14_element_18 16 rfl rfl)
theorem dX14_element_437 : decode cX14_element 437 = .ok (.getfield 353, 3) := dk_180 1 97 (dk_at dksX14_element_18 17 rfl rfl)
theorem dX14_element_440 : decode cX14_element 440 = .ok (.ifCond .le 4, 3) := dk_158 0 4 (dk_at dksX14_element_18 20 rfl rfl)
theorem dX14_element_443 : decode cX14_element 443 = .ok (.return_, 1) := dk_177 (dk_at dksX14_element_18 23 rfl rfl)
theorem dX14_element_444 : decode cX14_element 444 = .ok (.aload_n 0, 1) := dk_42 (dk_at dksX14_element_19 0 rfl rfl)
theorem dX14_element_445 : decode cX14_element 445 = .ok (.getfield 272, 3) := dk_180 1 16 (dk_at dksX14_element_19 1 rfl rfl)
theorem dX14_element_448 : decode cX14_element 448 = .ok (.iload_n 2, 1) := dk_28 (dk_at dksX14_element_19 4 rfl rfl)
theorem dX14_element_449 : decode cX14_element 449 = .ok (.iload_n 3, 1) := dk_29 (dk_at dksX14_element_19 5 rfl rfl)
theorem dX14_element_450 : decode cX14_element 450 = .ok (.iastore, 1) := dk_79 (dk_at dksX14_element_19 6 rfl rfl)
theorem dX14_element_451 : decode cX14_element 451 = .ok (.aload_n 0, 1) := dk_42 (dk_at dksX14_element_19 7 rfl rfl)
theorem dX14_element_452 : decode cX14_element 452 = .ok (.getfield 275, 3) := dk_180 1 19 (dk_at dksX14_element_19 8 rfl rfl)
theorem dX14_element_455 : decode cX14_element 455 = .ok (.iload_n 2, 1) := dk_28 (dk_at dksX14_element_19 11 rfl rfl)
theorem dX14_element_456 : decode cX14_element 456 = .ok (.iload 4, 2) := dk_21 4 (dk_at dksX14_element_19 12 rfl rfl)
theorem dX14_element_458 : decode cX14_element 458 = .ok (.bipush 6, 2) := dk_16 6 (dk_at dksX14_element_19 14 rfl rfl)
theorem dX14_element_460 : decode cX14_element 460 = .ok (.ishr, 1) := dk_122 (dk_at dksX14_element_19 16 rfl rfl)
theorem dX14_element_461 : decode cX14_element 461 = .ok (.iastore, 1) := dk_79 (dk_at dksX14_element_19 17 rfl rfl)
theorem dX14_element_462 : decode cX14_element 462 = .ok (.aload_n 0, 1) := dk_42 (dk_at dksX14_element_19 18 rfl rfl)
theorem dX14_element_463 : decode cX14_element 463 = .ok (.getfield 278, 3) := dk_180 1 22 (dk_at dksX14_element_19 19 rfl rfl)
theorem dX14_element_466 : decode cX14_element 466 = .ok (.iload_n 2, 1) := dk_28 (dk_at dksX14_element_19 22 rfl rfl)
theorem dX14_element_467 : decode cX14_element 467 = .ok (.iload 10, 2) := dk_21 10 (dk_at dksX14_element_20 0 rfl rfl)
theorem dX14_element_469 : decode cX14_element 469 = .ok (.bastore, 1) := dk_84 (dk_at dksX14_element_20 2 rfl rfl)
theorem dX14_element_470 : decode cX14_element 470 = .ok (.aload_n 0, 1) := dk_42 (dk_at dksX14_element_20 3 rfl rfl)
theorem dX14_element_471 : decode cX14_element 471 = .ok (.getfield 281, 3) := dk_180 1 25 (dk_at dksX14_element_20 4 rfl rfl)
theorem dX14_element_474 : decode cX14_element 474 = .ok (.iload_n 2, 1) := dk_28 (dk_at dksX14_element_20 7 rfl rfl)
theorem dX14_element_475 : decode cX14_element 475 = .ok (.iload 6, 2) := dk_21 6 (dk_at dksX14_element_20 8 rfl rfl)
theorem dX14_element_477 : decode cX14_element 477 = .ok (.iastore, 1) := dk_79 (dk_at dksX14_element_20 10 rfl rfl)
theorem dX14_element_478 : decode cX14_element 478 = .ok (.aload_n 0, 1) := dk_42 (dk_at dksX14_element_20 11 rfl rfl)
theorem dX14_element_479 : decode cX14_element 479 = .ok (.getfield 284, 3) := dk_180 1 28 (dk_at dksX14_element_20 12 rfl rfl)
theorem dX14_element_482 : decode cX14_element 482 = .ok (.iload_n 2, 1) := dk_28 (dk_at dksX14_element_20 15 rfl rfl)
theorem dX14_element_483 : decode cX14_element 483 = .ok (.iload 5, 2) := dk_21 5 (dk_at dksX14_element_20 16 rfl rfl)
theorem dX14_element_485 : decode cX14_element 485 = .ok (.iastore, 1) := dk_79 (dk_at dksX14_element_20 18 rfl rfl)
theorem dX14_element_486 : decode cX14_element 486 = .ok (.aload_n 0, 1) := dk_42 (dk_at dksX14_element_20 19 rfl rfl)
theorem dX14_element_487 : decode cX14_element 487 = .ok (.getfield 287, 3) := dk_180 1 31 (dk_at dksX14_element_20 20 rfl rfl)
theorem dX14_element_490 : decode cX14_element 490 = .ok (.iload_n 2, 1) := dk_28 (dk_at dksX14_element_20 23 rfl rfl)
theorem dX14_element_491 : decode cX14_element 491 = .ok (.iload 11, 2) := dk_21 11 (dk_at dksX14_element_21 0 rfl rfl)
theorem dX14_element_493 : decode cX14_element 493 = .ok (.ifCond .eq 7, 3) := dk_153 0 7 (dk_at dksX14_element_21 2 rfl rfl)
theorem dX14_element_496 : decode cX14_element 496 = .ok (.iconst (-1), 1) := dk_2 (dk_at dksX14_element_21 5 rfl rfl)
theorem dX14_element_497 : decode cX14_element 497 = .ok (.goto 9, 3) := dk_167 0 9 (dk_at dksX14_element_21 6 rfl rfl)
theorem dX14_element_500 : decode cX14_element 500 = .ok (.iload 5, 2) := dk_21 5 (dk_at dksX14_element_21 9 rfl rfl)
theorem dX14_element_502 : decode cX14_element 502 = .ok (.lload 8, 2) := dk_22 8 (dk_at dksX14_element_21 11 rfl rfl)
theorem dX14_element_504 : decode cX14_element 504 = .ok (.l2i, 1) := dk_136 (dk_at dksX14_element_21 13 rfl rfl)
theorem dX14_element_505 : decode cX14_element 505 = .ok (.iadd, 1) := dk_96 (dk_at dksX14_element_21 14 rfl rfl)
theorem dX14_element_506 : decode cX14_element 506 = .ok (.iastore, 1) := dk_79 (dk_at dksX14_element_21 15 rfl rfl)
theorem dX14_element_507 : decode cX14_element 507 = .ok (.aload_n 0, 1) := dk_42 (dk_at dksX14_element_21 16 rfl rfl)
theorem dX14_element_508 : decode cX14_element 508 = .ok (.getfield 290, 3) := dk_180 1 34 (dk_at dksX14_element_21 17 rfl rfl)
theorem dX14_element_511 : decode cX14_element 511 = .ok (.iload_n 2, 1) := dk_28 (dk_at dksX14_element_21 20 rfl rfl)
theorem dX14_element_512 : decode cX14_element 512 = .ok (.iload 11, 2) := dk_21 11 (dk_at dksX14_element_21 21 rfl rfl)
theorem dX14_element_514 : decode cX14_element 514 = .ok (.bastore, 1) := dk_84 (dk_at dksX14_element_21 23 rfl rfl)
theorem dX14_element_515 : decode cX14_element 515 = .ok (.aload_n 0, 1) := dk_42 (dk_at dksX14_element_22 0 rfl rfl)
theorem dX14_element_516 : decode cX14_element 516 = .ok (.getfield 293, 3) := dk_180 1 37 (dk_at dksX14_element_22 1 rfl rfl)
theorem dX14_element_519 : decode cX14_element 519 = .ok (.iload_n 2, 1) := dk_28 (dk_at dksX14_element_22 4 rfl rfl)
theorem dX14_element_520 : decode cX14_element 520 = .ok (.aload_n 0, 1) := dk_42 (dk_at dksX14_element_22 5 rfl rfl)
theorem dX14_element_521 : decode cX14_element 521 = .ok (.getfield 862, 3) := dk_180 3 94 (dk_at dksX14_element_22 6 rfl rfl)
theorem dX14_element_524 : decode cX14_element 524 = .ok (.iastore, 1) := dk_79 (dk_at dksX14_element_22 9 rfl rfl)
theorem dX14_element_525 : decode cX14_element 525 = .ok (.aload_n 0, 1) := dk_42 (dk_at dksX14_element_22 10 rfl rfl)
theorem dX14_element_526 : decode cX14_element 526 = .ok (.getfield 296, 3) := dk_180 1 40 (dk_at dksX14_element_22 11 rfl rfl)
theorem dX14_element_529 : decode cX14_element 529 = .ok (.iload_n 2, 1) := dk_28 (dk_at dksX14_element_22 14 rfl rfl)
theorem dX14_element_530 : decode cX14_element 530 = .ok (.iconst (-1), 1) := dk_2 (dk_at dksX14_element_22 15 rfl rfl)
theorem dX14_element_531 : decode cX14_element 531 = .ok (.iastore, 1) := dk_79 (dk_at dksX14_element_22 16 rfl rfl)
theorem dX14_element_532 : decode cX14_element 532 = .ok (.aload_n 0, 1) := dk_42 (dk_at dksX14_element_22 17 rfl rfl)
theorem dX14_element_533 : decode cX14_element 533 = .ok (.getfield 299, 3) := dk_180 1 43 (dk_at dksX14_element_22 18 rfl rfl)
theorem dX14_element_536 : decode cX14_element 536 = .ok (.iload_n 2, 1) := dk_28 (dk_at dksX14_element_22 21 rfl rfl)
theorem dX14_element_537 : decode cX14_element 537 = .ok (.iconst (-1), 1) := dk_2 (dk_at dksX14_element_22 22 rfl rfl)
theorem dX14_element_538 : decode cX14_element 538 = .ok (.iastore, 1) := dk_79 (dk_at dksX14_element_22 23 rfl rfl)
theorem dX14_element_539 : decode cX14_element 539 = .ok (.aload_n 0, 1) := dk_42 (dk_at dksX14_element_23 0 rfl rfl)
theorem dX14_element_540 : decode cX14_element 540 = .ok (.getfield 302, 3) := dk_180 1 46 (dk_at dksX14_element_23 1 rfl rfl)
theorem dX14_element_543 : decode cX14_element 543 = .ok (.iload_n 2, 1) := dk_28 (dk_at dksX14_element_23 4 rfl rfl)
theorem dX14_element_544 : decode cX14_element 544 = .ok (.iconst (-1), 1) := dk_2 (dk_at dksX14_element_23 5 rfl rfl)
theorem dX14_element_545 : decode cX14_element 545 = .ok (.iastore, 1) := dk_79 (dk_at dksX14_element_23 6 rfl rfl)
theorem dX14_element_546 : decode cX14_element 546 = .ok (.aload_n 0, 1) := dk_42 (dk_at dksX14_element_23 7 rfl rfl)
theorem dX14_element_547 : decode cX14_element 547 = .ok (.getfield 862, 3) := dk_180 3 94 (dk_at dksX14_element_23 8 rfl rfl)
theorem dX14_element_550 : decode cX14_element 550 = .ok (.ifCond .lt 30, 3) := dk_155 0 30 (dk_at dksX14_element_23 11 rfl rfl)
theorem dX14_element_553 : decode cX14_element 553 = .ok (.aload_n 0, 1) := dk_42 (dk_at dksX14_element_23 14 rfl rfl)
theorem dX14_element_554 : decode cX14_element 554 = .ok (.getfield 299, 3) := dk_180 1 43 (dk_at dksX14_element_23 15 rfl rfl)
theorem dX14_element_557 : decode cX14_element 557 = .ok (.aload_n 0, 1) := dk_42 (dk_at dksX14_element_23 18 rfl rfl)
theorem dX14_element_558 : decode cX14_element 558 = .ok (.getfield 862, 3) := dk_180 3 94 (dk_at dksX14_element_23 19 rfl rfl)
theorem dX14_element_561 : decode cX14_element 561 = .ok (.iaload, 1) := dk_46 (dk_at dksX14_element_23 22 rfl rfl)
theorem dX14_element_562 : decode cX14_element 562 = .ok (.ifCond .lt 18, 3) := dk_155 0 18 (dk_at dksX14_element_24 0 rfl rfl)
theorem dX14_element_565 : decode cX14_element 565 = .ok (.aload_n 0, 1) := dk_42 (dk_at dksX14_element_24 3 rfl rfl)
theorem dX14_element_566 : decode cX14_element 566 = .ok (.getfield 302, 3) := dk_180 1 46 (dk_at dksX14_element_24 4 rfl rfl)
theorem dX14_element_569 : decode cX14_element 569 = .ok (.aload_n 0, 1) := dk_42 (dk_at dksX14_element_24 7 rfl rfl)
theorem dX14_element_570 : decode cX14_element 570 = .ok (.getfield 299, 3) := dk_180 1 43 (dk_at dksX14_element_24 8 rfl rfl)
theorem dX14_element_573 : decode cX14_element 573 = .ok (.aload_n 0, 1) := dk_42 (dk_at dksX14_element_24 11 rfl rfl)
theorem dX14_element_574 : decode cX14_element 574 = .ok (.getfield 862, 3) := dk_180 3 94 (dk_at dksX14_element_24 12 rfl rfl)
theorem dX14_element_577 : decode cX14_element 577 = .ok (.iaload, 1) := dk_46 (dk_at dksX14_element_24 15 rfl rfl)
theorem dX14_element_578 : decode cX14_element 578 = .ok (.iload_n 2, 1) := dk_28 (dk_at dksX14_element_24 16 rfl rfl)
theorem dX14_element_579 : decode cX14_element 579 = .ok (.iastore, 1) := dk_79 (dk_at dksX14_element_24 17 rfl rfl)
theorem dX14_element_580 : decode cX14_element 580 = .ok (.aload_n 0, 1) := dk_42 (dk_at dksX14_element_24 18 rfl rfl)
theorem dX14_element_581 : decode cX14_element 581 = .ok (.getfield 862, 3) := dk_180 3 94 (dk_at dksX14_element_24 19 rfl rfl)
theorem dX14_element_584 : decode cX14_element 584 = .ok (.ifCond .lt 25, 3) := dk_155 0 25 (dk_at dksX14_element_25 0 rfl rfl)
theorem dX14_element_587 : decode cX14_element 587 = .ok (.aload_n 0, 1) := dk_42 (dk_at dksX14_element_25 3 rfl rfl)
theorem dX14_element_588 : decode cX14_element 588 = .ok (.getfield 299, 3) := dk_180 1 43 (dk_at dksX14_element_25 4 rfl rfl)
theorem dX14_element_591 : decode cX14_element 591 = .ok (.aload_n 0, 1) := dk_42 (dk_at dksX14_element_25 7 rfl rfl)
theorem dX14_element_592 : decode cX14_element 592 = .ok (.getfield 862, 3) := dk_180 3 94 (dk_at dksX14_element_25 8 rfl rfl)
theorem dX14_element_595 : decode cX14_element 595 = .ok (.iaload, 1) := dk_46 (dk_at dksX14_element_25 11 rfl rfl)
theorem dX14_element_596 : decode cX14_element 596 = .ok (.ifCond .ge 13, 3) := dk_156 0 13 (dk_at dksX14_element_25 12 rfl rfl)
theorem dX14_element_599 : decode cX14_element 599 = .ok (.aload_n 0, 1) := dk_42 (dk_at dksX14_element_25 15 rfl rfl)
theorem dX14_element_600 : decode cX14_element 600 = .ok (.getfield 296, 3) := dk_180 1 40 (dk_at dksX14_element_25 16 rfl rfl)
theorem dX14_element_603 : decode cX14_element 603 = .ok (.aload_n 0, 1) := dk_42 (dk_at dksX14_element_25 19 rfl rfl)
theorem dX14_element_604 : decode cX14_element 604 = .ok (.getfield 862, 3) := dk_180 3 94 (dk_at dksX14_element_25 20 rfl rfl)
theorem dX14_element_607 : decode cX14_element 607 = .ok (.iload_n 2, 1) := dk_28 (dk_at dksX14_element_25 23 rfl rfl)
theorem dX14_element_608 : decode cX14_element 608 = .ok (.iastore, 1) := dk_79 (dk_at dksX14_element_26 0 rfl rfl)
theorem dX14_element_609 : decode cX14_element 609 = .ok (.aload_n 0, 1) := dk_42 (dk_at dksX14_element_26 1 rfl rfl)
theorem dX14_element_610 : decode cX14_element 610 = .ok (.getfield 862, 3) := dk_180 3 94 (dk_at dksX14_element_26 2 rfl rfl)
theorem dX14_element_613 : decode cX14_element 613 = .ok (.ifCond .lt 13, 3) := dk_155 0 13 (dk_at dksX14_element_26 5 rfl rfl)
theorem dX14_element_616 : decode cX14_element 616 = .ok (.aload_n 0, 1) := dk_42 (dk_at dksX14_element_26 8 rfl rfl)
theorem dX14_element_617 : decode cX14_element 617 = .ok (.getfield 299, 3) := dk_180 1 43 (dk_at dksX14_element_26 9 rfl rfl)
theorem dX14_element_620 : decode cX14_element 620 = .ok (.aload_n 0, 1) := dk_42 (dk_at dksX14_element_26 12 rfl rfl)
theorem dX14_element_621 : decode cX14_element 621 = .ok (.getfield 862, 3) := dk_180 3 94 (dk_at dksX14_element_26 13 rfl rfl)
theorem dX14_element_624 : decode cX14_element 624 = .ok (.iload_n 2, 1) := dk_28 (dk_at dksX14_element_26 16 rfl rfl)
theorem dX14_element_625 : decode cX14_element 625 = .ok (.iastore, 1) := dk_79 (dk_at dksX14_element_26 17 rfl rfl)
theorem dX14_element_626 : decode cX14_element 626 = .ok (.aload_n 0, 1) := dk_42 (dk_at dksX14_element_26 18 rfl rfl)
theorem dX14_element_627 : decode cX14_element 627 = .ok (.dup, 1) := dk_89 (dk_at dksX14_element_26 19 rfl rfl)
theorem dX14_element_628 : decode cX14_element 628 = .ok (.getfield 868, 3) := dk_180 3 100 (dk_at dksX14_element_26 20 rfl rfl)
theorem dX14_element_631 : decode cX14_element 631 = .ok (.iconst 1, 1) := dk_4 (dk_at dksX14_element_26 23 rfl rfl)
theorem dX14_element_632 : decode cX14_element 632 = .ok (.iadd, 1) := dk_96 (dk_at dksX14_element_27 0 rfl rfl)
theorem dX14_element_633 : decode cX14_element 633 = .ok (.putfield 868, 3) := dk_181 3 100 (dk_at dksX14_element_27 1 rfl rfl)
theorem dX14_element_636 : decode cX14_element 636 = .ok (.iload 10, 2) := dk_21 10 (dk_at dksX14_element_27 4 rfl rfl)
theorem dX14_element_638 : decode cX14_element 638 = .ok (.ifCond .eq 27, 3) := dk_153 0 27 (dk_at dksX14_element_27 6 rfl rfl)
theorem dX14_element_641 : decode cX14_element 641 = .ok (.aload_n 0, 1) := dk_42 (dk_at dksX14_element_27 9 rfl rfl)
theorem dX14_element_642 : decode cX14_element 642 = .ok (.iload_n 2, 1) := dk_28 (dk_at dksX14_element_27 10 rfl rfl)
theorem dX14_element_643 : decode cX14_element 643 = .ok (.putfield 862, 3) := dk_181 3 94 (dk_at dksX14_element_27 11 rfl rfl)
theorem dX14_element_646 : decode cX14_element 646 = .ok (.aload_n 0, 1) := dk_42 (dk_at dksX14_element_27 14 rfl rfl)
theorem dX14_element_647 : decode cX14_element 647 = .ok (.dup, 1) := dk_89 (dk_at dksX14_element_27 15 rfl rfl)
theorem dX14_element_648 : decode cX14_element 648 = .ok (.getfield 865, 3) := dk_180 3 97 (dk_at dksX14_element_27 16 rfl rfl)
theorem dX14_element_651 : decode cX14_element 651 = .ok (.iconst 1, 1) := dk_4 (dk_at dksX14_element_27 19 rfl rfl)
theorem dX14_element_652 : decode cX14_element 652 = .ok (.iadd, 1) := dk_96 (dk_at dksX14_element_27 20 rfl rfl)
theorem dX14_element_653 : decode cX14_element 653 = .ok (.putfield 865, 3) := dk_181 3 97 (dk_at dksX14_element_27 21 rfl rfl)
theorem dX14_element_656 : decode cX14_element 656 = .ok (.aload_n 0, 1) := dk_42 (dk_at dksX14_element_28 0 rfl rfl)
theorem dX14_element_657 : decode cX14_element 657 = .ok (.iload 5, 2) := dk_21 5 (dk_at dksX14_element_28 1 rfl rfl)
theorem dX14_element_659 : decode cX14_element 659 = .ok (.putfield 871, 3) := dk_181 3 103 (dk_at dksX14_element_28 3 rfl rfl)
theorem dX14_element_662 : decode cX14_element 662 = .ok (.goto 13, 3) := dk_167 0 13 (dk_at dksX14_element_28 6 rfl rfl)
theorem dX14_element_665 : decode cX14_element 665 = .ok (.aload_n 0, 1) := dk_42 (dk_at dksX14_element_28 9 rfl rfl)
theorem dX14_element_666 : decode cX14_element 666 = .ok (.aload_n 0, 1) := dk_42 (dk_at dksX14_element_28 10 rfl rfl)
theorem dX14_element_667 : decode cX14_element 667 = .ok (.getfield 287, 3) := dk_180 1 31 (dk_at dksX14_element_28 11 rfl rfl)
theorem dX14_element_670 : decode cX14_element 670 = .ok (.iload_n 2, 1) := dk_28 (dk_at dksX14_element_28 14 rfl rfl)
theorem dX14_element_671 : decode cX14_element 671 = .ok (.iaload, 1) := dk_46 (dk_at dksX14_element_28 15 rfl rfl)
theorem dX14_element_672 : decode cX14_element 672 = .ok (.putfield 871, 3) := dk_181 3 103 (dk_at dksX14_element_28 16 rfl rfl)
theorem dX14_element_675 : decode cX14_element 675 = .ok (.return_, 1) := dk_177 (dk_at dksX14_element_28 19 rfl rfl)
abbrev cX14_enter : ByteArray := prog_15_method_143_code
def yX14_enter : MethodName := ⟨RX14, "enter", "(III)V"⟩
def dkwX14_enter_17 : List UInt8 := [42, 27, 21, 4, 21, 5, 182, 3, 143, 42, 180, 1, 97, 154, 0, 7, 42, 182, 3, 147, 177]
abbrev dktX14_enter_17 : List UInt8 := dkwX14_enter_17 ++ []
def dkwX14_enter_16 : List UInt8 := [180, 1, 40, 21, 5, 46, 79, 42, 180, 1, 76, 21, 8, 42, 180, 0, 63, 21, 4, 46, 79, 167, 0, 23]
abbrev dktX14_enter_16 : List UInt8 := dkwX14_enter_16 ++ dktX14_enter_17
def dkwX14_enter_15 : List UInt8 := [154, 0, 16, 42, 16, 14, 42, 180, 1, 16, 21, 5, 46, 182, 1, 158, 42, 180, 1, 73, 21, 8, 42]
abbrev dktX14_enter_15 : List UInt8 := dkwX14_enter_15 ++ dktX14_enter_16
def dkwX14_enter_14 : List UInt8 := [167, 0, 89, 42, 180, 0, 42, 21, 4, 46, 16, 12, 161, 0, 57, 42, 180, 1, 22, 21, 5, 51]
abbrev dktX14_enter_14 : List UInt8 := dkwX14_enter_14 ++ dktX14_enter_15
def dkwX14_enter_13 : List UInt8 := [2, 79, 42, 180, 0, 42, 21, 4, 46, 16, 16, 160, 0, 15, 42, 180, 1, 73, 21, 8, 21, 5, 79]
abbrev dktX14_enter_13 : List UInt8 := dkwX14_enter_13 ++ dktX14_enter_14
def dkwX14_enter_12 : List UInt8 := [180, 1, 79, 21, 8, 42, 180, 3, 140, 79, 42, 180, 1, 73, 21, 8, 2, 79, 42, 180, 1, 76, 21, 8]
abbrev dktX14_enter_12 : List UInt8 := dkwX14_enter_12 ++ dktX14_enter_13
def dkwX14_enter_11 : List UInt8 := [21, 7, 79, 42, 180, 1, 67, 21, 8, 42, 180, 3, 120, 79, 42, 180, 1, 70, 21, 8, 29, 79, 42]
abbrev dktX14_enter_11 : List UInt8 := dkwX14_enter_11 ++ dktX14_enter_12
def dkwX14_enter_10 : List UInt8 := [42, 180, 1, 58, 21, 8, 27, 79, 42, 180, 1, 61, 21, 8, 21, 5, 79, 42, 180, 1, 64, 21, 8]
abbrev dktX14_enter_10 : List UInt8 := dkwX14_enter_10 ++ dktX14_enter_11
def dkwX14_enter_9 : List UInt8 := [158, 0, 4, 177, 42, 182, 3, 137, 42, 180, 1, 117, 54, 8, 42, 89, 180, 1, 117, 4, 96, 181, 1, 117]
abbrev dktX14_enter_9 : List UInt8 := dkwX14_enter_9 ++ dktX14_enter_10
def dkwX14_enter_8 : List UInt8 := [182, 3, 133, 154, 0, 16, 42, 16, 11, 42, 180, 1, 16, 21, 5, 46, 182, 1, 158, 42, 180, 1, 97]
abbrev dktX14_enter_8 : List UInt8 := dkwX14_enter_8 ++ dktX14_enter_9
def dkwX14_enter_7 : List UInt8 := [42, 180, 1, 97, 154, 0, 37, 21, 6, 4, 160, 0, 31, 42, 21, 5, 42, 180, 0, 230, 3, 47]
abbrev dktX14_enter_7 : List UInt8 := dkwX14_enter_7 ++ dktX14_enter_8
def dkwX14_enter_6 : List UInt8 := [21, 5, 46, 182, 1, 158, 167, 0, 12, 42, 180, 1, 40, 21, 5, 46, 54, 5, 132, 8, 255, 167, 255, 146]
abbrev dktX14_enter_6 : List UInt8 := dkwX14_enter_6 ++ dktX14_enter_7
def dkwX14_enter_5 : List UInt8 := [182, 1, 158, 167, 0, 38, 42, 180, 1, 40, 21, 5, 46, 156, 0, 19, 42, 16, 15, 42, 180, 1, 16]
abbrev dktX14_enter_5 : List UInt8 := dkwX14_enter_5 ++ dktX14_enter_6
def dkwX14_enter_4 : List UInt8 := [167, 0, 64, 42, 180, 1, 22, 21, 5, 51, 154, 0, 19, 42, 16, 14, 42, 180, 1, 16, 21, 5, 46]
abbrev dktX14_enter_4 : List UInt8 := dkwX14_enter_4 ++ dktX14_enter_5
def dkwX14_enter_3 : List UInt8 := [21, 8, 47, 182, 3, 133, 154, 0, 19, 42, 16, 11, 42, 180, 1, 16, 21, 5, 46, 182, 1, 158]
abbrev dktX14_enter_3 : List UInt8 := dkwX14_enter_3 ++ dktX14_enter_4
def dkwX14_enter_2 : List UInt8 := [100, 54, 8, 21, 8, 21, 6, 161, 0, 109, 42, 180, 1, 97, 154, 0, 102, 42, 21, 5, 42, 180, 0, 230]
abbrev dktX14_enter_2 : List UInt8 := dkwX14_enter_2 ++ dktX14_enter_3
def dkwX14_enter_1 : List UInt8 := [160, 0, 7, 3, 167, 0, 4, 4, 54, 6, 42, 180, 2, 118, 21, 6, 100, 54, 7, 42, 180, 2, 118, 4]
abbrev dktX14_enter_1 : List UInt8 := dkwX14_enter_1 ++ dktX14_enter_2
def dkwX14_enter_0 : List UInt8 := [42, 27, 182, 2, 128, 42, 27, 182, 2, 100, 54, 4, 28, 54, 5, 42, 180, 0, 42, 21, 4, 46, 16, 16]
abbrev dktX14_enter_0 : List UInt8 := dkwX14_enter_0 ++ dktX14_enter_1
theorem dksX14_enter_0 : cX14_enter.data.toList.drop 0 = dktX14_enter_0 := by decide +kernel
theorem dksX14_enter_1 : cX14_enter.data.toList.drop 24 = dktX14_enter_1 := dk_seg dksX14_enter_0 24 rfl rfl
theorem dksX14_enter_2 : cX14_enter.data.toList.drop 48 = dktX14_enter_2 := dk_seg dksX14_enter_1 24 rfl rfl
theorem dksX14_enter_3 : cX14_enter.data.toList.drop 72 = dktX14_enter_3 := dk_seg dksX14_enter_2 24 rfl rfl
theorem dksX14_enter_4 : cX14_enter.data.toList.drop 94 = dktX14_enter_4 := dk_seg dksX14_enter_3 22 rfl rfl
theorem dksX14_enter_5 : cX14_enter.data.toList.drop 117 = dktX14_enter_5 := dk_seg dksX14_enter_4 23 rfl rfl
theorem dksX14_enter_6 : cX14_enter.data.toList.drop 140 = dktX14_enter_6 := dk_seg dksX14_enter_5 23 rfl rfl
theorem dksX14_enter_7 : cX14_enter.data.toList.drop 164 = dktX14_enter_7 := dk_seg dksX14_enter_6 24 rfl rfl
theorem dksX14_enter_8 : cX14_enter.data.toList.drop 186 = dktX14_enter_8 := dk_seg dksX14_enter_7 22 rfl rfl
theorem dksX14_enter_9 : cX14_enter.data.toList.drop 209 = dktX14_enter_9 := dk_seg dksX14_enter_8 23 rfl rfl
theorem dksX14_enter_10 : cX14_enter.data.toList.drop 233 = dktX14_enter_10 := dk_seg dksX14_enter_9 24 rfl rfl
theorem dksX14_enter_11 : cX14_enter.data.toList.drop 256 = dktX14_enter_11 := dk_seg dksX14_enter_10 23 rfl rfl
theorem dksX14_enter_12 : cX14_enter.data.toList.drop 279 = dktX14_enter_12 := dk_seg dksX14_enter_11 23 rfl rfl
theorem dksX14_enter_13 : cX14_enter.data.toList.drop 303 = dktX14_enter_13 := dk_seg dksX14_enter_12 24 rfl rfl
theorem dksX14_enter_14 : cX14_enter.data.toList.drop 326 = dktX14_enter_14 := dk_seg dksX14_enter_13 23 rfl rfl
theorem dksX14_enter_15 : cX14_enter.data.toList.drop 348 = dktX14_enter_15 := dk_seg dksX14_enter_14 22 rfl rfl
theorem dksX14_enter_16 : cX14_enter.data.toList.drop 371 = dktX14_enter_16 := dk_seg dksX14_enter_15 23 rfl rfl
theorem dksX14_enter_17 : cX14_enter.data.toList.drop 395 = dktX14_enter_17 := dk_seg dksX14_enter_16 24 rfl rfl
theorem dX14_enter_0 : decode cX14_enter 0 = .ok (.aload_n 0, 1) := dk_42 (dk_at dksX14_enter_0 0 rfl rfl)
theorem dX14_enter_1 : decode cX14_enter 1 = .ok (.iload_n 1, 1) := dk_27 (dk_at dksX14_enter_0 1 rfl rfl)
theorem dX14_enter_2 : decode cX14_enter 2 = .ok (.invokevirtual 640, 3) := dk_182 2 128 (dk_at dksX14_enter_0 2 rfl rfl)
theorem dX14_enter_5 : decode cX14_enter 5 = .ok (.aload_n 0, 1) := dk_42 (dk_at dksX14_enter_0 5 rfl rfl)
theorem dX14_enter_6 : decode cX14_enter 6 = .ok (.iload_n 1, 1) := dk_27 (dk_at dksX14_enter_0 6 rfl rfl)
theorem dX14_enter_7 : decode cX14_enter 7 = .ok (.invokevirtual 612, 3) := dk_182 2 100 (dk_at dksX14_enter_0 7 rfl rfl)
theorem dX14_enter_10 : decode cX14_enter 10 = .ok (.istore 4, 2) := dk_54 4 (dk_at dksX14_enter_0 10 rfl rfl)
theorem dX14_enter_12 : decode cX14_enter 12 = .ok (.iload_n 2, 1) := dk_28 (dk_at dksX14_enter_0 12 rfl rfl)
theorem dX14_enter_13 : decode cX14_enter 13 = .ok (.istore 5, 2) := dk_54 5 (dk_at dksX14_enter_0 13 rfl rfl)
theorem dX14_enter_15 : decode cX14_enter 15 = .ok (.aload_n 0, 1) := dk_42 (dk_at dksX14_enter_0 15 rfl rfl)
theorem dX14_enter_16 : decode cX14_enter 16 = .ok (.getfield 42, 3) := dk_180 0 42 (dk_at dksX14_enter_0 16 rfl rfl)
theorem dX14_enter_19 : decode cX14_enter 19 = .ok (.iload 4, 2) := dk_21 4 (dk_at dksX14_enter_0 19 rfl rfl)
theorem dX14_enter_21 : decode cX14_enter 21 = .ok (.iaload, 1) := dk_46 (dk_at dksX14_enter_0 21 rfl rfl)
theorem dX14_enter_22 : decode cX14_enter 22 = .ok (.bipush 16, 2) := dk_16 16 (dk_at dksX14_enter_0 22 rfl rfl)
theorem dX14_enter_24 : decode cX14_enter 24 = .ok (.if_icmp .ne 7, 3) := dk_160 0 7 (dk_at dksX14_enter_1 0 rfl rfl)
theorem dX14_enter_27 : decode cX14_enter 27 = .ok (.iconst 0, 1) := dk_3 (dk_at dksX14_enter_1 3 rfl rfl)
theorem dX14_enter_28 : decode cX14_enter 28 = .ok (.goto 4, 3) := dk_167 0 4 (dk_at dksX14_enter_1 4 rfl rfl)
theorem dX14_enter_31 : decode cX14_enter 31 = .ok (.iconst 1, 1) := dk_4 (dk_at dksX14_enter_1 7 rfl rfl)
theorem dX14_enter_32 : decode cX14_enter 32 = .ok (.istore 6, 2) := dk_54 6 (dk_at dksX14_enter_1 8 rfl rfl)
theorem dX14_enter_34 : decode cX14_enter 34 = .ok (.aload_n 0, 1) := dk_42 (dk_at dksX14_enter_1 10 rfl rfl)
theorem dX14_enter_35 : decode cX14_enter 35 = .ok (.getfield 630, 3) := dk_180 2 118 (dk_at dksX14_enter_1 11 rfl rfl)
theorem dX14_enter_38 : decode cX14_enter 38 = .ok (.iload 6, 2) := dk_21 6 (dk_at dksX14_enter_1 14 rfl rfl)
theorem dX14_enter_40 : decode cX14_enter 40 = .ok (.isub, 1) := dk_100 (dk_at dksX14_enter_1 16 rfl rfl)
theorem dX14_enter_41 : decode cX14_enter 41 = .ok (.istore 7, 2) := dk_54 7 (dk_at dksX14_enter_1 17 rfl rfl)
theorem dX14_enter_43 : decode cX14_enter 43 = .ok (.aload_n 0, 1) := dk_42 (dk_at dksX14_enter_1 19 rfl rfl)
theorem dX14_enter_44 : decode cX14_enter 44 = .ok (.getfield 630, 3) := dk_180 2 118 (dk_at dksX14_enter_1 20 rfl rfl)
theorem dX14_enter_47 : decode cX14_enter 47 = .ok (.iconst 1, 1) := dk_4 (dk_at dksX14_enter_1 23 rfl rfl)
theorem dX14_enter_48 : decode cX14_enter 48 = .ok (.isub, 1) := dk_100 (dk_at dksX14_enter_2 0 rfl rfl)
theorem dX14_enter_49 : decode cX14_enter 49 = .ok (.istore 8, 2) := dk_54 8 (dk_at dksX14_enter_2 1 rfl rfl)
theorem dX14_enter_51 : decode cX14_enter 51 = .ok (.iload 8, 2) := dk_21 8 (dk_at dksX14_enter_2 3 rfl rfl)
theorem dX14_enter_53 : decode cX14_enter 53 = .ok (.iload 6, 2) := dk_21 6 (dk_at dksX14_enter_2 5 rfl rfl)
theorem dX14_enter_55 : decode cX14_enter 55 = .ok (.if_icmp .lt 109, 3) := dk_161 0 109 (dk_at dksX14_enter_2 7 rfl rfl)
theorem dX14_enter_58 : decode cX14_enter 58 = .ok (.aload_n 0, 1) := dk_42 (dk_at dksX14_enter_2 10 rfl rfl)
theorem dX14_enter_59 : decode cX14_enter 59 = .ok (.getfield 353, 3) := dk_180 1 97 (dk_at dksX14_enter_2 11 rfl rfl)
theorem dX14_enter_62 : decode cX14_enter 62 = .ok (.ifCond .ne 102, 3) := dk_154 0 102 (dk_at dksX14_enter_2 14 rfl rfl)
theorem dX14_enter_65 : decode cX14_enter 65 = .ok (.aload_n 0, 1) := dk_42 (dk_at dksX14_enter_2 17 rfl rfl)
theorem dX14_enter_66 : decode cX14_enter 66 = .ok (.iload 5, 2) := dk_21 5 (dk_at dksX14_enter_2 18 rfl rfl)
theorem dX14_enter_68 : decode cX14_enter 68 = .ok (.aload_n 0, 1) := dk_42 (dk_at dksX14_enter_2 20 rfl rfl)
theorem dX14_enter_69 : decode cX14_enter 69 = .ok (.getfield 230, 3) := dk_180 0 230 (dk_at dksX14_enter_2 21 rfl rfl)
theorem dX14_enter_72 : decode cX14_enter 72 = .ok (.iload 8, 2) := dk_21 8 (dk_at dksX14_enter_3 0 rfl rfl)
theorem dX14_enter_74 : decode cX14_enter 74 = .ok (.laload, 1) := dk_47 (dk_at dksX14_enter_3 2 rfl rfl)
theorem dX14_enter_75 : decode cX14_enter 75 = .ok (.invokevirtual 901, 3) := dk_182 3 133 (dk_at dksX14_enter_3 3 rfl rfl)
theorem dX14_enter_78 : decode cX14_enter 78 = .ok (.ifCond .ne 19, 3) := dk_154 0 19 (dk_at dksX14_enter_3 6 rfl rfl)
theorem dX14_enter_81 : decode cX14_enter 81 = .ok (.aload_n 0, 1) := dk_42 (dk_at dksX14_enter_3 9 rfl rfl)
theorem dX14_enter_82 : decode cX14_enter 82 = .ok (.bipush 11, 2) := dk_16 11 (dk_at dksX14_enter_3 10 rfl rfl)
theorem dX14_enter_84 : decode cX14_enter 84 = .ok (.aload_n 0, 1) := dk_42 (dk_at dksX14_enter_3 12 rfl rfl)
theorem dX14_enter_85 : decode cX14_enter 85 = .ok (.getfield 272, 3) := dk_180 1 16 (dk_at dksX14_enter_3 13 rfl rfl)
theorem dX14_enter_88 : decode cX14_enter 88 = .ok (.iload 5, 2) := dk_21 5 (dk_at dksX14_enter_3 16 rfl rfl)
theorem dX14_enter_90 : decode cX14_enter 90 = .ok (.iaload, 1) := dk_46 (dk_at dksX14_enter_3 18 rfl rfl)
theorem dX14_enter_91 : decode cX14_enter 91 = .ok (.invokevirtual 414, 3) := dk_182 1 158 (dk_at dksX14_enter_3 19 rfl rfl)
theorem dX14_enter_94 : decode cX14_enter 94 = .ok (.goto 64, 3) := dk_167 0 64 (dk_at dksX14_enter_4 0 rfl rfl)
theorem dX14_enter_97 : decode cX14_enter 97 = .ok (.aload_n 0, 1) := dk_42 (dk_at dksX14_enter_4 3 rfl rfl)
theorem dX14_enter_98 : decode cX14_enter 98 = .ok (.getfield 278, 3) := dk_180 1 22 (dk_at dksX14_enter_4 4 rfl rfl)
theorem dX14_enter_101 : decode cX14_enter 101 = .ok (.iload 5, 2) := dk_21 5 (dk_at dksX14_enter_4 7 rfl rfl)
theorem dX14_enter_103 : decode cX14_enter 103 = .ok (.baload, 1) := dk_51 (dk_at dksX14_enter_4 9 rfl rfl)
theorem dX14_enter_104 : decode cX14_enter 104 = .ok (.ifCond .ne 19, 3) := dk_154 0 19 (dk_at dksX14_enter_4 10 rfl rfl)
theorem dX14_enter_107 : decode cX14_enter 107 = .ok (.aload_n 0, 1) := dk_42 (dk_at dksX14_enter_4 13 rfl rfl)
theorem dX14_enter_108 : decode cX14_enter 108 = .ok (.bipush 14, 2) := dk_16 14 (dk_at dksX14_enter_4 14 rfl rfl)
theorem dX14_enter_110 : decode cX14_enter 110 = .ok (.aload_n 0, 1) := dk_42 (dk_at dksX14_enter_4 16 rfl rfl)
theorem dX14_enter_111 : decode cX14_enter 111 = .ok (.getfield 272, 3) := dk_180 1 16 (dk_at dksX14_enter_4 17 rfl rfl)
theorem dX14_enter_114 : decode cX14_enter 114 = .ok (.iload 5, 2) := dk_21 5 (dk_at dksX14_enter_4 20 rfl rfl)
theorem dX14_enter_116 : decode cX14_enter 116 = .ok (.iaload, 1) := dk_46 (dk_at dksX14_enter_4 22 rfl rfl)
theorem dX14_enter_117 : decode cX14_enter 117 = .ok (.invokevirtual 414, 3) := dk_182 1 158 (dk_at dksX14_enter_5 0 rfl rfl)
theorem dX14_enter_120 : decode cX14_enter 120 = .ok (.goto 38, 3) := dk_167 0 38 (dk_at dksX14_enter_5 3 rfl rfl)
theorem dX14_enter_123 : decode cX14_enter 123 = .ok (.aload_n 0, 1) := dk_42 (dk_at dksX14_enter_5 6 rfl rfl)
theorem dX14_enter_124 : decode cX14_enter 124 = .ok (.getfield 296, 3) := dk_180 1 40 (dk_at dksX14_enter_5 7 rfl rfl)
theorem dX14_enter_127 : decode cX14_enter 127 = .ok (.iload 5, 2) := dk_21 5 (dk_at dksX14_enter_5 10 rfl rfl)
theorem dX14_enter_129 : decode cX14_enter 129 = .ok (.iaload, 1) := dk_46 (dk_at dksX14_enter_5 12 rfl rfl)
theorem dX14_enter_130 : decode cX14_enter 130 = .ok (.ifCond .ge 19, 3) := dk_156 0 19 (dk_at dksX14_enter_5 13 rfl rfl)
theorem dX14_enter_133 : decode cX14_enter 133 = .ok (.aload_n 0, 1) := dk_42 (dk_at dksX14_enter_5 16 rfl rfl)
theorem dX14_enter_134 : decode cX14_enter 134 = .ok (.bipush 15, 2) := dk_16 15 (dk_at dksX14_enter_5 17 rfl rfl)
theorem dX14_enter_136 : decode cX14_enter 136 = .ok (.aload_n 0, 1) := dk_42 (dk_at dksX14_enter_5 19 rfl rfl)
theorem dX14_enter_137 : decode cX14_enter 137 = .ok (.getfield 272, 3) := dk_180 1 16 (dk_at dksX14_enter_5 20 rfl rfl)
theorem dX14_enter_140 : decode cX14_enter 140 = .ok (.iload 5, 2) := dk_21 5 (dk_at dksX14_enter_6 0 rfl rfl)
theorem dX14_enter_142 : decode cX14_enter 142 = .ok (.iaload, 1) := dk_46 (dk_at dksX14_enter_6 2 rfl rfl)
theorem dX14_enter_143 : decode cX14_enter 143 = .ok (.invokevirtual 414, 3) := dk_182 1 158 (dk_at dksX14_enter_6 3 rfl rfl)
theorem dX14_enter_146 : decode cX14_enter 146 = .ok (.goto 12, 3) := dk_167 0 12 (dk_at dksX14_enter_6 6 rfl rfl)
theorem dX14_enter_149 : decode cX14_enter 149 = .ok (.aload_n 0, 1) := dk_42 (dk_at dksX14_enter_6 9 rfl rfl)
theorem dX14_enter_150 : decode cX14_enter 150 = .ok (.getfield 296, 3) := dk_180 1 40 (dk_at dksX14_enter_6 10 rfl rfl)
theorem dX14_enter_153 : decode cX14_enter 153 = .ok (.iload 5, 2) := dk_21 5 (dk_at dksX14_enter_6 13 rfl rfl)
theorem dX14_enter_155 : decode cX14_enter 155 = .ok (.iaload, 1) := dk_46 (dk_at dksX14_enter_6 15 rfl rfl)
theorem dX14_enter_156 : decode cX14_enter 156 = .ok (.istore 5, 2) := dk_54 5 (dk_at dksX14_enter_6 16 rfl rfl)
theorem dX14_enter_158 : decode cX14_enter 158 = .ok (.iinc 8 (-1), 3) := dk_132 8 255 (dk_at dksX14_enter_6 18 rfl rfl)
theorem dX14_enter_161 : decode cX14_enter 161 = .ok (.goto (-110), 3) := dk_167 255 146 (dk_at dksX14_enter_6 21 rfl rfl)
theorem dX14_enter_164 : decode cX14_enter 164 = .ok (.aload_n 0, 1) := dk_42 (dk_at dksX14_enter_7 0 rfl rfl)
theorem dX14_enter_165 : decode cX14_enter 165 = .ok (.getfield 353, 3) := dk_180 1 97 (dk_at dksX14_enter_7 1 rfl rfl)
theorem dX14_enter_168 : decode cX14_enter 168 = .ok (.ifCond .ne 37, 3) := dk_154 0 37 (dk_at dksX14_enter_7 4 rfl rfl)
theorem dX14_enter_171 : decode cX14_enter 171 = .ok (.iload 6, 2) := dk_21 6 (dk_at dksX14_enter_7 7 rfl rfl)
theorem dX14_enter_173 : decode cX14_enter 173 = .ok (.iconst 1, 1) := dk_4 (dk_at dksX14_enter_7 9 rfl rfl)
theorem dX14_enter_174 : decode cX14_enter 174 = .ok (.if_icmp .ne 31, 3) := dk_160 0 31 (dk_at dksX14_enter_7 10 rfl rfl)
theorem dX14_enter_177 : decode cX14_enter 177 = .ok (.aload_n 0, 1) := dk_42 (dk_at dksX14_enter_7 13 rfl rfl)
theorem dX14_enter_178 : decode cX14_enter 178 = .ok (.iload 5, 2) := dk_21 5 (dk_at dksX14_enter_7 14 rfl rfl)
theorem dX14_enter_180 : decode cX14_enter 180 = .ok (.aload_n 0, 1) := dk_42 (dk_at dksX14_enter_7 16 rfl rfl)
theorem dX14_enter_181 : decode cX14_enter 181 = .ok (.getfield 230, 3) := dk_180 0 230 (dk_at dksX14_enter_7 17 rfl rfl)
theorem dX14_enter_184 : decode cX14_enter 184 = .ok (.iconst 0, 1) := dk_3 (dk_at dksX14_enter_7 20 rfl rfl)
theorem dX14_enter_185 : decode cX14_enter 185 = .ok (.laload, 1) := dk_47 (dk_at dksX14_enter_7 21 rfl rfl)
theorem dX14_enter_186 : decode cX14_enter 186 = .ok (.invokevirtual 901, 3) := dk_182 3 133 (dk_at dksX14_enter_8 0 rfl rfl)
theorem dX14_enter_189 : decode cX14_enter 189 = .ok (.ifCond .ne 16, 3) := dk_154 0 16 (dk_at dksX14_enter_8 3 rfl rfl)
theorem dX14_enter_192 : decode cX14_enter 192 = .ok (.aload_n 0, 1) := dk_42 (dk_at dksX14_enter_8 6 rfl rfl)
theorem dX14_enter_193 : decode cX14_enter 193 = .ok (.bipush 11, 2) := dk_16 11 (dk_at dksX14_enter_8 7 rfl rfl)
theorem dX14_enter_195 : decode cX14_enter 195 = .ok (.aload_n 0, 1) := dk_42 (dk_at dksX14_enter_8 9 rfl rfl)
theorem dX14_enter_196 : decode cX14_enter 196 = .ok (.getfield 272, 3) := dk_180 1 16 (dk_at dksX14_enter_8 10 rfl rfl)
theorem dX14_enter_199 : decode cX14_enter 199 = .ok (.iload 5, 2) := dk_21 5 (dk_at dksX14_enter_8 13 rfl rfl)
theorem dX14_enter_201 : decode cX14_enter 201 = .ok (.iaload, 1) := dk_46 (dk_at dksX14_enter_8 15 rfl rfl)
theorem dX14_enter_202 : decode cX14_enter 202 = .ok (.invokevirtual 414, 3) := dk_182 1 158 (dk_at dksX14_enter_8 16 rfl rfl)
theorem dX14_enter_205 : decode cX14_enter 205 = .ok (.aload_n 0, 1) := dk_42 (dk_at dksX14_enter_8 19 rfl rfl)
theorem dX14_enter_206 : decode cX14_enter 206 = .ok (.getfield 353, 3) := dk_180 1 97 (dk_at dksX14_enter_8 20 rfl rfl)
theorem dX14_enter_209 : decode cX14_enter 209 = .ok (.ifCond .le 4, 3) := dk_158 0 4 (dk_at dksX14_enter_9 0 rfl rfl)
theorem dX14_enter_212 : decode cX14_enter 212 = .ok (.return_, 1) := dk_177 (dk_at dksX14_enter_9 3 rfl rfl)
theorem dX14_enter_213 : decode cX14_enter 213 = .ok (.aload_n 0, 1) := dk_42 (dk_at dksX14_enter_9 4 rfl rfl)
theorem dX14_enter_214 : decode cX14_enter 214 = .ok (.invokevirtual 905, 3) := dk_182 3 137 (dk_at dksX14_enter_9 5 rfl rfl)
theorem dX14_enter_217 : decode cX14_enter 217 = .ok (.aload_n 0, 1) := dk_42 (dk_at dksX14_enter_9 8 rfl rfl)
theorem dX14_enter_218 : decode cX14_enter 218 = .ok (.getfield 373, 3) := dk_180 1 117 (dk_at dksX14_enter_9 9 rfl rfl)
theorem dX14_enter_221 : decode cX14_enter 221 = .ok (.istore 8, 2) := dk_54 8 (dk_at dksX14_enter_9 12 rfl rfl)
theorem dX14_enter_223 : decode cX14_enter 223 = .ok (.aload_n 0, 1) := dk_42 (dk_at dksX14_enter_9 14 rfl rfl)
theorem dX14_enter_224 : decode cX14_enter 224 = .ok (.dup, 1) := dk_89 (dk_at dksX14_enter_9 15 rfl rfl)
theorem dX14_enter_225 : decode cX14_enter 225 = .ok (.getfield 373, 3) := dk_180 1 117 (dk_at dksX14_enter_9 16 rfl rfl)
theorem dX14_enter_228 : decode cX14_enter 228 = .ok (.iconst 1, 1) := dk_4 (dk_at dksX14_enter_9 19 rfl rfl)
theorem dX14_enter_229 : decode cX14_enter 229 = .ok (.iadd, 1) := dk_96 (dk_at dksX14_enter_9 20 rfl rfl)
theorem dX14_enter_230 : decode cX14_enter 230 = .ok (.putfield 373, 3) := dk_181 1 117 (dk_at dksX14_enter_9 21 rfl rfl)
theorem dX14_enter_233 : decode cX14_enter 233 = .ok (.aload_n 0, 1) := dk_42 (dk_at dksX14_enter_10 0 rfl rfl)
theorem dX14_enter_234 : decode cX14_enter 234 = .ok (.getfield 314, 3) := dk_180 1 58 (dk_at dksX14_enter_10 1 rfl rfl)
theorem dX14_enter_237 : decode cX14_enter 237 = .ok (.iload 8, 2) := dk_21 8 (dk_at dksX14_enter_10 4 rfl rfl)
theorem dX14_enter_239 : decode cX14_enter 239 = .ok (.iload_n 1, 1) := dk_27 (dk_at dksX14_enter_10 6 rfl rfl)
theorem dX14_enter_240 : decode cX14_enter 240 = .ok (.iastore, 1) := dk_79 (dk_at dksX14_enter_10 7 rfl rfl)
theorem dX14_enter_241 : decode cX14_enter 241 = .ok (.aload_n 0, 1) := dk_42 (dk_at dksX14_enter_10 8 rfl rfl)
theorem dX14_enter_242 : decode cX14_enter 242 = .ok (.getfield 317, 3) := dk_180 1 61 (dk_at dksX14_enter_10 9 rfl rfl)
theorem dX14_enter_245 : decode cX14_enter 245 = .ok (.iload 8, 2) := dk_21 8 (dk_at dksX14_enter_10 12 rfl rfl)
theorem dX14_enter_247 : decode cX14_enter 247 = .ok (.iload 5, 2) := dk_21 5 (dk_at dksX14_enter_10 14 rfl rfl)
theorem dX14_enter_249 : decode cX14_enter 249 = .ok (.iastore, 1) := dk_79 (dk_at dksX14_enter_10 16 rfl rfl)
theorem dX14_enter_250 : decode cX14_enter 250 = .ok (.aload_n 0, 1) := dk_42 (dk_at dksX14_enter_10 17 rfl rfl)
theorem dX14_enter_251 : decode cX14_enter 251 = .ok (.getfield 320, 3) := dk_180 1 64 (dk_at dksX14_enter_10 18 rfl rfl)
theorem dX14_enter_254 : decode cX14_enter 254 = .ok (.iload 8, 2) := dk_21 8 (dk_at dksX14_enter_10 21 rfl rfl)
theorem dX14_enter_256 : decode cX14_enter 256 = .ok (.iload 7, 2) := dk_21 7 (dk_at dksX14_enter_11 0 rfl rfl)
theorem dX14_enter_258 : decode cX14_enter 258 = .ok (.iastore, 1) := dk_79 (dk_at dksX14_enter_11 2 rfl rfl)
theorem dX14_enter_259 : decode cX14_enter 259 = .ok (.aload_n 0, 1) := dk_42 (dk_at dksX14_enter_11 3 rfl rfl)
theorem dX14_enter_260 : decode cX14_enter 260 = .ok (.getfield 323, 3) := dk_180 1 67 (dk_at dksX14_enter_11 4 rfl rfl)
theorem dX14_enter_263 : decode cX14_enter 263 = .ok (.iload 8, 2) := dk_21 8 (dk_at dksX14_enter_11 7 rfl rfl)
theorem dX14_enter_265 : decode cX14_enter 265 = .ok (.aload_n 0, 1) := dk_42 (dk_at dksX14_enter_11 9 rfl rfl)
theorem dX14_enter_266 : decode cX14_enter 266 = .ok (.getfield 888, 3) := dk_180 3 120 (dk_at dksX14_enter_11 10 rfl rfl)
theorem dX14_enter_269 : decode cX14_enter 269 = .ok (.iastore, 1) := dk_79 (dk_at dksX14_enter_11 13 rfl rfl)
theorem dX14_enter_270 : decode cX14_enter 270 = .ok (.aload_n 0, 1) := dk_42 (dk_at dksX14_enter_11 14 rfl rfl)
theorem dX14_enter_271 : decode cX14_enter 271 = .ok (.getfield 326, 3) := dk_180 1 70 (dk_at dksX14_enter_11 15 rfl rfl)
theorem dX14_enter_274 : decode cX14_enter 274 = .ok (.iload 8, 2) := dk_21 8 (dk_at dksX14_enter_11 18 rfl rfl)
theorem dX14_enter_276 : decode cX14_enter 276 = .ok (.iload_n 3, 1) := dk_29 (dk_at dksX14_enter_11 20 rfl rfl)
theorem dX14_enter_277 : decode cX14_enter 277 = .ok (.iastore, 1) := dk_79 (dk_at dksX14_enter_11 21 rfl rfl)
theorem dX14_enter_278 : decode cX14_enter 278 = .ok (.aload_n 0, 1) := dk_42 (dk_at dksX14_enter_11 22 rfl rfl)
theorem dX14_enter_279 : decode cX14_enter 279 = .ok (.getfield 335, 3) := dk_180 1 79 (dk_at dksX14_enter_12 0 rfl rfl)
theorem dX14_enter_282 : decode cX14_enter 282 = .ok (.iload 8, 2) := dk_21 8 (dk_at dksX14_enter_12 3 rfl rfl)
theorem dX14_enter_284 : decode cX14_enter 284 = .ok (.aload_n 0, 1) := dk_42 (dk_at dksX14_enter_12 5 rfl rfl)
theorem dX14_enter_285 : decode cX14_enter 285 = .ok (.getfield 908, 3) := dk_180 3 140 (dk_at dksX14_enter_12 6 rfl rfl)
theorem dX14_enter_288 : decode cX14_enter 288 = .ok (.iastore, 1) := dk_79 (dk_at dksX14_enter_12 9 rfl rfl)
theorem dX14_enter_289 : decode cX14_enter 289 = .ok (.aload_n 0, 1) := dk_42 (dk_at dksX14_enter_12 10 rfl rfl)
theorem dX14_enter_290 : decode cX14_enter 290 = .ok (.getfield 329, 3) := dk_180 1 73 (dk_at dksX14_enter_12 11 rfl rfl)
theorem dX14_enter_293 : decode cX14_enter 293 = .ok (.iload 8, 2) := dk_21 8 (dk_at dksX14_enter_12 14 rfl rfl)
theorem dX14_enter_295 : decode cX14_enter 295 = .ok (.iconst (-1), 1) := dk_2 (dk_at dksX14_enter_12 16 rfl rfl)
theorem dX14_enter_296 : decode cX14_enter 296 = .ok (.iastore, 1) := dk_79 (dk_at dksX14_enter_12 17 rfl rfl)
theorem dX14_enter_297 : decode cX14_enter 297 = .ok (.aload_n 0, 1) := dk_42 (dk_at dksX14_enter_12 18 rfl rfl)
theorem dX14_enter_298 : decode cX14_enter 298 = .ok (.getfield 332, 3) := dk_180 1 76 (dk_at dksX14_enter_12 19 rfl rfl)
theorem dX14_enter_301 : decode cX14_enter 301 = .ok (.iload 8, 2) := dk_21 8 (dk_at dksX14_enter_12 22 rfl rfl)
theorem dX14_enter_303 : decode cX14_enter 303 = .ok (.iconst (-1), 1) := dk_2 (dk_at dksX14_enter_13 0 rfl rfl)
theorem dX14_enter_304 : decode cX14_enter 304 = .ok (.iastore, 1) := dk_79 (dk_at dksX14_enter_13 1 rfl rfl)
theorem dX14_enter_305 : decode cX14_enter 305 = .ok (.aload_n 0, 1) := dk_42 (dk_at dksX14_enter_13 2 rfl rfl)
theorem dX14_enter_306 : decode cX14_enter 306 = .ok (.getfield 42, 3) := dk_180 0 42 (dk_at dksX14_enter_13 3 rfl rfl)
theorem dX14_enter_309 : decode cX14_enter 309 = .ok (.iload 4, 2) := dk_21 4 (dk_at dksX14_enter_13 6 rfl rfl)
theorem dX14_enter_311 : decode cX14_enter 311 = .ok (.iaload, 1) := dk_46 (dk_at dksX14_enter_13 8 rfl rfl)
theorem dX14_enter_312 : decode cX14_enter 312 = .ok (.bipush 16, 2) := dk_16 16 (dk_at dksX14_enter_13 9 rfl rfl)
theorem dX14_enter_314 : decode cX14_enter 314 = .ok (.if_icmp .ne 15, 3) := dk_160 0 15 (dk_at dksX14_enter_13 11 rfl rfl)
theorem dX14_enter_317 : decode cX14_enter 317 = .ok (.aload_n 0, 1) := dk_42 (dk_at dksX14_enter_13 14 rfl rfl)
theorem dX14_enter_318 : decode cX14_enter 318 = .ok (.getfield 329, 3) := dk_180 1 73 (dk_at dksX14_enter_13 15 rfl rfl)
theorem dX14_enter_321 : decode cX14_enter 321 = .ok (.iload 8, 2) := dk_21 8 (dk_at dksX14_enter_13 18 rfl rfl)
theorem dX14_enter_323 : decode cX14_enter 323 = .ok (.iload 5, 2) := dk_21 5 (dk_at dksX14_enter_13 20 rfl rfl)
theorem dX14_enter_325 : decode cX14_enter 325 = .ok (.iastore, 1) := dk_79 (dk_at dksX14_enter_13 22 rfl rfl)
theorem dX14_enter_326 : decode cX14_enter 326 = .ok (.goto 89, 3) := dk_167 0 89 (dk_at dksX14_enter_14 0 rfl rfl)
theorem dX14_enter_329 : decode cX14_enter 329 = .ok (.aload_n 0, 1) := dk_42 (dk_at dksX14_enter_14 3 rfl rfl)
theorem dX14_enter_330 : decode cX14_enter 330 = .ok (.getfield 42, 3) := dk_180 0 42 (dk_at dksX14_enter_14 4 rfl rfl)
theorem dX14_enter_333 : decode cX14_enter 333 = .ok (.iload 4, 2) := dk_21 4 (dk_at dksX14_enter_14 7 rfl rfl)
theorem dX14_enter_335 : decode cX14_enter 335 = .ok (.iaload, 1) := dk_46 (dk_at dksX14_enter_14 9 rfl rfl)
theorem dX14_enter_336 : decode cX14_enter 336 = .ok (.bipush 12, 2) := dk_16 12 (dk_at dksX14_enter_14 10 rfl rfl)
theorem dX14_enter_338 : decode cX14_enter 338 = .ok (.if_icmp .lt 57, 3) := dk_161 0 57 (dk_at dksX14_enter_14 12 rfl rfl)
theorem dX14_enter_341 : decode cX14_enter 341 = .ok (.aload_n 0, 1) := dk_42 (dk_at dksX14_enter_14 15 rfl rfl)
theorem dX14_enter_342 : decode cX14_enter 342 = .ok (.getfield 278, 3) := dk_180 1 22 (dk_at dksX14_enter_14 16 rfl rfl)
theorem dX14_enter_345 : decode cX14_enter 345 = .ok (.iload 5, 2) := dk_21 5 (dk_at dksX14_enter_14 19 rfl rfl)
theorem dX14_enter_347 : decode cX14_enter 347 = .ok (.baload, 1) := dk_51 (dk_at dksX14_enter_14 21 rfl rfl)
theorem dX14_enter_348 : decode cX14_enter 348 = .ok (.ifCond .ne 16, 3) := dk_154 0 16 (dk_at dksX14_enter_15 0 rfl rfl)
theorem dX14_enter_351 : decode cX14_enter 351 = .ok (.aload_n 0, 1) := dk_42 (dk_at dksX14_enter_15 3 rfl rfl)
theorem dX14_enter_352 : decode cX14_enter 352 = .ok (.bipush 14, 2) := dk_16 14 (dk_at dksX14_enter_15 4 rfl rfl)
theorem dX14_enter_354 : decode cX14_enter 354 = .ok (.aload_n 0, 1) := dk_42 (dk_at dksX14_enter_15 6 rfl rfl)
theorem dX14_enter_355 : decode cX14_enter 355 = .ok (.getfield 272, 3) := dk_180 1 16 (dk_at dksX14_enter_15 7 rfl rfl)
theorem dX14_enter_358 : decode cX14_enter 358 = .ok (.iload 5, 2) := dk_21 5 (dk_at dksX14_enter_15 10 rfl rfl)
theorem dX14_enter_360 : decode cX14_enter 360 = .ok (.iaload, 1) := dk_46 (dk_at dksX14_enter_15 12 rfl rfl)
theorem dX14_enter_361 : decode cX14_enter 361 = .ok (.invokevirtual 414, 3) := dk_182 1 158 (dk_at dksX14_enter_15 13 rfl rfl)
theorem dX14_enter_364 : decode cX14_enter 364 = .ok (.aload_n 0, 1) := dk_42 (dk_at dksX14_enter_15 16 rfl rfl)
theorem dX14_enter_365 : decode cX14_enter 365 = .ok (.getfield 329, 3) := dk_180 1 73 (dk_at dksX14_enter_15 17 rfl rfl)
theorem dX14_enter_368 : decode cX14_enter 368 = .ok (.iload 8, 2) := dk_21 8 (dk_at dksX14_enter_15 20 rfl rfl)
theorem dX14_enter_370 : decode cX14_enter 370 = .ok (.aload_n 0, 1) := dk_42 (dk_at dksX14_enter_15 22 rfl rfl)
theorem dX14_enter_371 : decode cX14_enter 371 = .ok (.getfield 296, 3) := dk_180 1 40 (dk_at dksX14_enter_16 0 rfl rfl)
theorem dX14_enter_374 : decode cX14_enter 374 = .ok (.iload 5, 2) := dk_21 5 (dk_at dksX14_enter_16 3 rfl rfl)
theorem dX14_enter_376 : decode cX14_enter 376 = .ok (.iaload, 1) := dk_46 (dk_at dksX14_enter_16 5 rfl rfl)
theorem dX14_enter_377 : decode cX14_enter 377 = .ok (.iastore, 1) := dk_79 (dk_at dksX14_enter_16 6 rfl rfl)
theorem dX14_enter_378 : decode cX14_enter 378 = .ok (.aload_n 0, 1) := dk_42 (dk_at dksX14_enter_16 7 rfl rfl)
theorem dX14_enter_379 : decode cX14_enter 379 = .ok (.getfield 332, 3) := dk_180 1 76 (dk_at dksX14_enter_16 8 rfl rfl)
theorem dX14_enter_382 : decode cX14_enter 382 = .ok (.iload 8, 2) := dk_21 8 (dk_at dksX14_enter_16 11 rfl rfl)
theorem dX14_enter_384 : decode cX14_enter 384 = .ok (.aload_n 0, 1) := dk_42 (dk_at dksX14_enter_16 13 rfl rfl)
theorem dX14_enter_385 : decode cX14_enter 385 = .ok (.getfield 63, 3) := dk_180 0 63 (dk_at dksX14_enter_16 14 rfl rfl)
theorem dX14_enter_388 : decode cX14_enter 388 = .ok (.iload 4, 2) := dk_21 4 (dk_at dksX14_enter_16 17 rfl rfl)
theorem dX14_enter_390 : decode cX14_enter 390 = .ok (.iaload, 1) := dk_46 (dk_at dksX14_enter_16 19 rfl rfl)
theorem dX14_enter_391 : decode cX14_enter 391 = .ok (.iastore, 1) := dk_79 (dk_at dksX14_enter_16 20 rfl rfl)
theorem dX14_enter_392 : decode cX14_enter 392 = .ok (.goto 23, 3) := dk_167 0 23 (dk_at dksX14_enter_16 21 rfl rfl)
theorem dX14_enter_395 : decode cX14_enter 395 = .ok (.aload_n 0, 1) := dk_42 (dk_at dksX14_enter_17 0 rfl rfl)
theorem dX14_enter_396 : decode cX14_enter 396 = .ok (.iload_n 1, 1) := dk_27 (dk_at dksX14_enter_17 1 rfl rfl)
theorem dX14_enter_397 : decode cX14_enter 397 = .ok (.iload 4, 2) := dk_21 4 (dk_at dksX14_enter_17 2 rfl rfl)
theorem dX14_enter_399 : decode cX14_enter 399 = .ok (.iload 5, 2) := dk_21 5 (dk_at dksX14_enter_17 4 rfl rfl)
theorem dX14_enter_401 : decode cX14_enter 401 = .ok (.invokevirtual 911, 3) := dk_182 3 143 (dk_at dksX14_enter_17 6 rfl rfl)
theorem dX14_enter_404 : decode cX14_enter 404 = .ok (.aload_n 0, 1) := dk_42 (dk_at dksX14_enter_17 9 rfl rfl)
theorem dX14_enter_405 : decode cX14_enter 405 = .ok (.getfield 353, 3) := dk_180 1 97 (dk_at dksX14_enter_17 10 rfl rfl)
theorem dX14_enter_408 : decode cX14_enter 408 = .ok (.ifCond .ne 7, 3) := dk_154 0 7 (dk_at dksX14_enter_17 13 rfl rfl)
theorem dX14_enter_411 : decode cX14_enter 411 = .ok (.aload_n 0, 1) := dk_42 (dk_at dksX14_enter_17 16 rfl rfl)
theorem dX14_enter_412 : decode cX14_enter 412 = .ok (.invokevirtual 915, 3) := dk_182 3 147 (dk_at dksX14_enter_17 17 rfl rfl)
theorem dX14_enter_415 : decode cX14_enter 415 = .ok (.return_, 1) := dk_177 (dk_at dksX14_enter_17 20 rfl rfl)
abbrev cX14_hasTag : ByteArray := prog_15_method_141_code
def yX14_hasTag : MethodName := ⟨RX14, "hasTag", "(IJ)Z"⟩
def dkwX14_hasTag_1 : List UInt8 := [3, 172]
abbrev dktX14_hasTag_1 : List UInt8 := dkwX14_hasTag_1 ++ []
def dkwX14_hasTag_0 : List UInt8 := [42, 180, 1, 19, 27, 46, 42, 180, 1, 25, 27, 46, 184, 2, 121, 32, 148, 154, 0, 7, 4, 167, 0, 4]
abbrev dktX14_hasTag_0 : List UInt8 := dkwX14_hasTag_0 ++ dktX14_hasTag_1
theorem dksX14_hasTag_0 : cX14_hasTag.data.toList.drop 0 = dktX14_hasTag_0 := by decide +kernel
theorem dksX14_hasTag_1 : cX14_hasTag.data.toList.drop 24 = dktX14_hasTag_1 := dk_seg dksX14_hasTag_0 24 rfl rfl
theorem dX14_hasTag_0 : decode cX14_hasTag 0 = .ok (.aload_n 0, 1) := dk_42 (dk_at dksX14_hasTag_0 0 rfl rfl)
theorem dX14_hasTag_1 : decode cX14_hasTag 1 = .ok (.getfield 275, 3) := dk_180 1 19 (dk_at dksX14_hasTag_0 1 rfl rfl)
theorem dX14_hasTag_4 : decode cX14_hasTag 4 = .ok (.iload_n 1, 1) := dk_27 (dk_at dksX14_hasTag_0 4 rfl rfl)
theorem dX14_hasTag_5 : decode cX14_hasTag 5 = .ok (.iaload, 1) := dk_46 (dk_at dksX14_hasTag_0 5 rfl rfl)
theorem dX14_hasTag_6 : decode cX14_hasTag 6 = .ok (.aload_n 0, 1) := dk_42 (dk_at dksX14_hasTag_0 6 rfl rfl)
theorem dX14_hasTag_7 : decode cX14_hasTag 7 = .ok (.getfield 281, 3) := dk_180 1 25 (dk_at dksX14_hasTag_0 7 rfl rfl)
theorem dX14_hasTag_10 : decode cX14_hasTag 10 = .ok (.iload_n 1, 1) := dk_27 (dk_at dksX14_hasTag_0 10 rfl rfl)
theorem dX14_hasTag_11 : decode cX14_hasTag 11 = .ok (.iaload, 1) := dk_46 (dk_at dksX14_hasTag_0 11 rfl rfl)
theorem dX14_hasTag_12 : decode cX14_hasTag 12 = .ok (.invokestatic 633, 3) := dk_184 2 121 (dk_at dksX14_hasTag_0 12 rfl rfl)
theorem dX14_hasTag_15 : decode cX14_hasTag 15 = .ok (.lload_n 2, 1) := dk_32 (dk_at dksX14_hasTag_0 15 rfl rfl)
theorem dX14_hasTag_16 : decode cX14_hasTag 16 = .ok (.lcmp, 1) := dk_148 (dk_at dksX14_hasTag_0 16 rfl rfl)
theorem dX14_hasTag_17 : decode cX14_hasTag 17 = .ok (.ifCond .ne 7, 3) := dk_154 0 7 (dk_at dksX14_hasTag_0 17 rfl rfl)
theorem dX14_hasTag_20 : decode cX14_hasTag 20 = .ok (.iconst 1, 1) := dk_4 (dk_at dksX14_hasTag_0 20 rfl rfl)
theorem dX14_hasTag_21 : decode cX14_hasTag 21 = .ok (.goto 4, 3) := dk_167 0 4 (dk_at dksX14_hasTag_0 21 rfl rfl)
theorem dX14_hasTag_24 : decode cX14_hasTag 24 = .ok (.iconst 0, 1) := dk_3 (dk_at dksX14_hasTag_1 0 rfl rfl)
theorem dX14_hasTag_25 : decode cX14_hasTag 25 = .ok (.ireturn, 1) := dk_172 (dk_at dksX14_hasTag_1 1 rfl rfl)
abbrev cX14_roomForFrames : ByteArray := prog_15_method_11_code
def yX14_roomForFrames : MethodName := ⟨RX14, "roomForFrames", "()V"⟩
def dkwX14_roomForFrames_4 : List UInt8 := [42, 180, 1, 76, 27, 184, 1, 120, 181, 1, 76, 42, 42, 180, 1, 79, 27, 184, 1, 120, 181, 1, 79, 177]
abbrev dktX14_roomForFrames_4 : List UInt8 := dkwX14_roomForFrames_4 ++ []
def dkwX14_roomForFrames_3 : List UInt8 := [42, 180, 1, 70, 27, 184, 1, 120, 181, 1, 70, 42, 42, 180, 1, 73, 27, 184, 1, 120, 181, 1, 73, 42]
abbrev dktX14_roomForFrames_3 : List UInt8 := dkwX14_roomForFrames_3 ++ dktX14_roomForFrames_4
def dkwX14_roomForFrames_2 : List UInt8 := [42, 180, 1, 64, 27, 184, 1, 120, 181, 1, 64, 42, 42, 180, 1, 67, 27, 184, 1, 120, 181, 1, 67, 42]
abbrev dktX14_roomForFrames_2 : List UInt8 := dkwX14_roomForFrames_2 ++ dktX14_roomForFrames_3
def dkwX14_roomForFrames_1 : List UInt8 := [42, 180, 1, 58, 27, 184, 1, 120, 181, 1, 58, 42, 42, 180, 1, 61, 27, 184, 1, 120, 181, 1, 61, 42]
abbrev dktX14_roomForFrames_1 : List UInt8 := dkwX14_roomForFrames_1 ++ dktX14_roomForFrames_2
def dkwX14_roomForFrames_0 : List UInt8 := [42, 180, 1, 117, 42, 180, 1, 58, 190, 162, 0, 4, 177, 5, 42, 180, 1, 117, 104, 16, 64, 96, 60, 42]
abbrev dktX14_roomForFrames_0 : List UInt8 := dkwX14_roomForFrames_0 ++ dktX14_roomForFrames_1
theorem dksX14_roomForFrames_0 : cX14_roomForFrames.data.toList.drop 0 = dktX14_roomForFrames_0 := by decide +kernel
theorem dksX14_roomForFrames_1 : cX14_roomForFrames.data.toList.drop 24 = dktX14_roomForFrames_1 := dk_seg dksX14_roomForFrames_0 24 rfl rfl
theorem dksX14_roomForFrames_2 : cX14_roomForFrames.data.toList.drop 48 = dktX14_roomForFrames_2 := dk_seg dksX14_roomForFrames_1 24 rfl rfl
theorem dksX14_roomForFrames_3 : cX14_roomForFrames.data.toList.drop 72 = dktX14_roomForFrames_3 := dk_seg dksX14_roomForFrames_2 24 rfl rfl
theorem dksX14_roomForFrames_4 : cX14_roomForFrames.data.toList.drop 96 = dktX14_roomForFrames_4 := dk_seg dksX14_roomForFrames_3 24 rfl rfl
theorem dX14_roomForFrames_0 : decode cX14_roomForFrames 0 = .ok (.aload_n 0, 1) := dk_42 (dk_at dksX14_roomForFrames_0 0 rfl rfl)
theorem dX14_roomForFrames_1 : decode cX14_roomForFrames 1 = .ok (.getfield 373, 3) := dk_180 1 117 (dk_at dksX14_roomForFrames_0 1 rfl rfl)
theorem dX14_roomForFrames_4 : decode cX14_roomForFrames 4 = .ok (.aload_n 0, 1) := dk_42 (dk_at dksX14_roomForFrames_0 4 rfl rfl)
theorem dX14_roomForFrames_5 : decode cX14_roomForFrames 5 = .ok (.getfield 314, 3) := dk_180 1 58 (dk_at dksX14_roomForFrames_0 5 rfl rfl)
theorem dX14_roomForFrames_8 : decode cX14_roomForFrames 8 = .ok (.arraylength, 1) := dk_190 (dk_at dksX14_roomForFrames_0 8 rfl rfl)
theorem dX14_roomForFrames_9 : decode cX14_roomForFrames 9 = .ok (.if_icmp .ge 4, 3) := dk_162 0 4 (dk_at dksX14_roomForFrames_0 9 rfl rfl)
theorem dX14_roomForFrames_12 : decode cX14_roomForFrames 12 = .ok (.return_, 1) := dk_177 (dk_at dksX14_roomForFrames_0 12 rfl rfl)
theorem dX14_roomForFrames_13 : decode cX14_roomForFrames 13 = .ok (.iconst 2, 1) := dk_5 (dk_at dksX14_roomForFrames_0 13 rfl rfl)
theorem dX14_roomForFrames_14 : decode cX14_roomForFrames 14 = .ok (.aload_n 0, 1) := dk_42 (dk_at dksX14_roomForFrames_0 14 rfl rfl)
theorem dX14_roomForFrames_15 : decode cX14_roomForFrames 15 = .ok (.getfield 373, 3) := dk_180 1 117 (dk_at dksX14_roomForFrames_0 15 rfl rfl)
theorem dX14_roomForFrames_18 : decode cX14_roomForFrames 18 = .ok (.imul, 1) := dk_104 (dk_at dksX14_roomForFrames_0 18 rfl rfl)
theorem dX14_roomForFrames_19 : decode cX14_roomForFrames 19 = .ok (.bipush 64, 2) := dk_16 64 (dk_at dksX14_roomForFrames_0 19 rfl rfl)
theorem dX14_roomForFrames_21 : decode cX14_roomForFrames 21 = .ok (.iadd, 1) := dk_96 (dk_at dksX14_roomForFrames_0 21 rfl rfl)
theorem dX14_roomForFrames_22 : decode cX14_roomForFrames 22 = .ok (.istore_n 1, 1) := dk_60 (dk_at dksX14_roomForFrames_0 22 rfl rfl)
theorem dX14_roomForFrames_23 : decode cX14_roomForFrames 23 = .ok (.aload_n 0, 1) := dk_42 (dk_at dksX14_roomForFrames_0 23 rfl rfl)
theorem dX14_roomForFrames_24 : decode cX14_roomForFrames 24 = .ok (.aload_n 0, 1) := dk_42 (dk_at dksX14_roomForFrames_1 0 rfl rfl)
theorem dX14_roomForFrames_25 : decode cX14_roomForFrames 25 = .ok (.getfield 314, 3) := dk_180 1 58 (dk_at dksX14_roomForFrames_1 1 rfl rfl)
theorem dX14_roomForFrames_28 : decode cX14_roomForFrames 28 = .ok (.iload_n 1, 1) := dk_27 (dk_at dksX14_roomForFrames_1 4 rfl rfl)
theorem dX14_roomForFrames_29 : decode cX14_roomForFrames 29 = .ok (.invokestatic 376, 3) := dk_184 1 120 (dk_at dksX14_roomForFrames_1 5 rfl rfl)
theorem dX14_roomForFrames_32 : decode cX14_roomForFrames 32 = .ok (.putfield 314, 3) := dk_181 1 58 (dk_at dksX14_roomForFrames_1 8 rfl rfl)
theorem dX14_roomForFrames_35 : decode cX14_roomForFrames 35 = .ok (.aload_n 0, 1) := dk_42 (dk_at dksX14_roomForFrames_1 11 rfl rfl)
theorem dX14_roomForFrames_36 : decode cX14_roomForFrames 36 = .ok (.aload_n 0, 1) := dk_42 (dk_at dksX14_roomForFrames_1 12 rfl rfl)
theorem dX14_roomForFrames_37 : decode cX14_roomForFrames 37 = .ok (.getfield 317, 3) := dk_180 1 61 (dk_at dksX14_roomForFrames_1 13 rfl rfl)
theorem dX14_roomForFrames_40 : decode cX14_roomForFrames 40 = .ok (.iload_n 1, 1) := dk_27 (dk_at dksX14_roomForFrames_1 16 rfl rfl)
theorem dX14_roomForFrames_41 : decode cX14_roomForFrames 41 = .ok (.invokestatic 376, 3) := dk_184 1 120 (dk_at dksX14_roomForFrames_1 17 rfl rfl)
theorem dX14_roomForFrames_44 : decode cX14_roomForFrames 44 = .ok (.putfield 317, 3) := dk_181 1 61 (dk_at dksX14_roomForFrames_1 20 rfl rfl)
theorem dX14_roomForFrames_47 : decode cX14_roomForFrames 47 = .ok (.aload_n 0, 1) := dk_42 (dk_at dksX14_roomForFrames_1 23 rfl rfl)
theorem dX14_roomForFrames_48 : decode cX14_roomForFrames 48 = .ok (.aload_n 0, 1) := dk_42 (dk_at dksX14_roomForFrames_2 0 rfl rfl)
theorem dX14_roomForFrames_49 : decode cX14_roomForFrames 49 = .ok (.getfield 320, 3) := dk_180 1 64 (dk_at dksX14_roomForFrames_2 1 rfl rfl)
theorem dX14_roomForFrames_52 : decode cX14_roomForFrames 52 = .ok (.iload_n 1, 1) := dk_27 (dk_at dksX14_roomForFrames_2 4 rfl rfl)
theorem dX14_roomForFrames_53 : decode cX14_roomForFrames 53 = .ok (.invokestatic 376, 3) := dk_184 1 120 (dk_at dksX14_roomForFrames_2 5 rfl rfl)
theorem dX14_roomForFrames_56 : decode cX14_roomForFrames 56 = .ok (.putfield 320, 3) := dk_181 1 64 (dk_at dksX14_roomForFrames_2 8 rfl rfl)
theorem dX14_roomForFrames_59 : decode cX14_roomForFrames 59 = .ok (.aload_n 0, 1) := dk_42 (dk_at dksX14_roomForFrames_2 11 rfl rfl)
theorem dX14_roomForFrames_60 : decode cX14_roomForFrames 60 = .ok (.aload_n 0, 1) := dk_42 (dk_at dksX14_roomForFrames_2 12 rfl rfl)
theorem dX14_roomForFrames_61 : decode cX14_roomForFrames 61 = .ok (.getfield 323, 3) := dk_180 1 67 (dk_at dksX14_roomForFrames_2 13 rfl rfl)
theorem dX14_roomForFrames_64 : decode cX14_roomForFrames 64 = .ok (.iload_n 1, 1) := dk_27 (dk_at dksX14_roomForFrames_2 16 rfl rfl)
theorem dX14_roomForFrames_65 : decode cX14_roomForFrames 65 = .ok (.invokestatic 376, 3) := dk_184 1 120 (dk_at dksX14_roomForFrames_2 17 rfl rfl)
theorem dX14_roomForFrames_68 : decode cX14_roomForFrames 68 = .ok (.putfield 323, 3) := dk_181 1 67 (dk_at dksX14_roomForFrames_2 20 rfl rfl)
theorem dX14_roomForFrames_71 : decode cX14_roomForFrames 71 = .ok (.aload_n 0, 1) := dk_42 (dk_at dksX14_roomForFrames_2 23 rfl rfl)
theorem dX14_roomForFrames_72 : decode cX14_roomForFrames 72 = .ok (.aload_n 0, 1) := dk_42 (dk_at dksX14_roomForFrames_3 0 rfl rfl)
theorem dX14_roomForFrames_73 : decode cX14_roomForFrames 73 = .ok (.getfield 326, 3) := dk_180 1 70 (dk_at dksX14_roomForFrames_3 1 rfl rfl)
theorem dX14_roomForFrames_76 : decode cX14_roomForFrames 76 = .ok (.iload_n 1, 1) := dk_27 (dk_at dksX14_roomForFrames_3 4 rfl rfl)
theorem dX14_roomForFrames_77 : decode cX14_roomForFrames 77 = .ok (.invokestatic 376, 3) := dk_184 1 120 (dk_at dksX14_roomForFrames_3 5 rfl rfl)
theorem dX14_roomForFrames_80 : decode cX14_roomForFrames 80 = .ok (.putfield 326, 3) := dk_181 1 70 (dk_at dksX14_roomForFrames_3 8 rfl rfl)
theorem dX14_roomForFrames_83 : decode cX14_roomForFrames 83 = .ok (.aload_n 0, 1) := dk_42 (dk_at dksX14_roomForFrames_3 11 rfl rfl)
theorem dX14_roomForFrames_84 : decode cX14_roomForFrames 84 = .ok (.aload_n 0, 1) := dk_42 (dk_at dksX14_roomForFrames_3 12 rfl rfl)
theorem dX14_roomForFrames_85 : decode cX14_roomForFrames 85 = .ok (.getfield 329, 3) := dk_180 1 73 (dk_at dksX14_roomForFrames_3 13 rfl rfl)
theorem dX14_roomForFrames_88 : decode cX14_roomForFrames 88 = .ok (.iload_n 1, 1) := dk_27 (dk_at dksX14_roomForFrames_3 16 rfl rfl)
theorem dX14_roomForFrames_89 : decode cX14_roomForFrames 89 = .ok (.invokestatic 376, 3) := dk_184 1 120 (dk_at dksX14_roomForFrames_3 17 rfl rfl)
theorem dX14_roomForFrames_92 : decode cX14_roomForFrames 92 = .ok (.putfield 329, 3) := dk_181 1 73 (dk_at dksX14_roomForFrames_3 20 rfl rfl)
theorem dX14_roomForFrames_95 : decode cX14_roomForFrames 95 = .ok (.aload_n 0, 1) := dk_42 (dk_at dksX14_roomForFrames_3 23 rfl rfl)
theorem dX14_roomForFrames_96 : decode cX14_roomForFrames 96 = .ok (.aload_n 0, 1) := dk_42 (dk_at dksX14_roomForFrames_4 0 rfl rfl)
theorem dX14_roomForFrames_97 : decode cX14_roomForFrames 97 = .ok (.getfield 332, 3) := dk_180 1 76 (dk_at dksX14_roomForFrames_4 1 rfl rfl)
theorem dX14_roomForFrames_100 : decode cX14_roomForFrames 100 = .ok (.iload_n 1, 1) := dk_27 (dk_at dksX14_roomForFrames_4 4 rfl rfl)
theorem dX14_roomForFrames_101 : decode cX14_roomForFrames 101 = .ok (.invokestatic 376, 3) := dk_184 1 120 (dk_at dksX14_roomForFrames_4 5 rfl rfl)
theorem dX14_roomForFrames_104 : decode cX14_roomForFrames 104 = .ok (.putfield 332, 3) := dk_181 1 76 (dk_at dksX14_roomForFrames_4 8 rfl rfl)
theorem dX14_roomForFrames_107 : decode cX14_roomForFrames 107 = .ok (.aload_n 0, 1) := dk_42 (dk_at dksX14_roomForFrames_4 11 rfl rfl)
theorem dX14_roomForFrames_108 : decode cX14_roomForFrames 108 = .ok (.aload_n 0, 1) := dk_42 (dk_at dksX14_roomForFrames_4 12 rfl rfl)
theorem dX14_roomForFrames_109 : decode cX14_roomForFrames 109 = .ok (.getfield 335, 3) := dk_180 1 79 (dk_at dksX14_roomForFrames_4 13 rfl rfl)
theorem dX14_roomForFrames_112 : decode cX14_roomForFrames 112 = .ok (.iload_n 1, 1) := dk_27 (dk_at dksX14_roomForFrames_4 16 rfl rfl)
theorem dX14_roomForFrames_113 : decode cX14_roomForFrames 113 = .ok (.invokestatic 376, 3) := dk_184 1 120 (dk_at dksX14_roomForFrames_4 17 rfl rfl)
theorem dX14_roomForFrames_116 : decode cX14_roomForFrames 116 = .ok (.putfield 335, 3) := dk_181 1 79 (dk_at dksX14_roomForFrames_4 20 rfl rfl)
theorem dX14_roomForFrames_119 : decode cX14_roomForFrames 119 = .ok (.return_, 1) := dk_177 (dk_at dksX14_roomForFrames_4 23 rfl rfl)
abbrev cX14_leaf : ByteArray := prog_15_method_161_code
def yX14_leaf : MethodName := ⟨RX14, "leaf", "(III)V"⟩
def dkwX14_leaf_12 : List UInt8 := [154, 0, 7, 42, 182, 3, 214, 177]
abbrev dktX14_leaf_12 : List UInt8 := dkwX14_leaf_12 ++ []
def dkwX14_leaf_11 : List UInt8 := [16, 16, 21, 5, 182, 1, 158, 167, 0, 12, 42, 27, 21, 4, 21, 5, 182, 3, 211, 42, 180, 1, 97]
abbrev dktX14_leaf_11 : List UInt8 := dkwX14_leaf_11 ++ dktX14_leaf_12
def dkwX14_leaf_10 : List UInt8 := [28, 21, 5, 182, 3, 205, 167, 0, 37, 21, 4, 16, 6, 160, 0, 21, 42, 182, 3, 208, 154, 0, 23, 42]
abbrev dktX14_leaf_10 : List UInt8 := dkwX14_leaf_10 ++ dktX14_leaf_11
def dkwX14_leaf_9 : List UInt8 := [6, 160, 0, 32, 42, 182, 3, 202, 154, 0, 14, 42, 16, 16, 21, 5, 182, 1, 158, 167, 0, 48, 42, 27]
abbrev dktX14_leaf_9 : List UInt8 := dkwX14_leaf_9 ++ dktX14_leaf_10
def dkwX14_leaf_8 : List UInt8 := [3, 46, 154, 0, 7, 3, 167, 0, 6, 17, 0, 255, 79, 167, 0, 78, 21, 4, 5, 159, 0, 9, 21, 4]
abbrev dktX14_leaf_8 : List UInt8 := dkwX14_leaf_8 ++ dktX14_leaf_9
def dkwX14_leaf_7 : List UInt8 := [16, 16, 21, 5, 182, 1, 158, 167, 0, 108, 21, 4, 154, 0, 103, 42, 180, 0, 236, 3, 42, 180, 0, 236]
abbrev dktX14_leaf_7 : List UInt8 := dkwX14_leaf_7 ++ dktX14_leaf_8
def dkwX14_leaf_6 : List UInt8 := [21, 4, 4, 160, 0, 61, 42, 180, 2, 170, 21, 4, 154, 0, 7, 4, 167, 0, 4, 3, 159, 0, 14, 42]
abbrev dktX14_leaf_6 : List UInt8 := dkwX14_leaf_6 ++ dktX14_leaf_7
def dkwX14_leaf_5 : List UInt8 := [7, 182, 3, 199, 154, 0, 14, 42, 16, 16, 21, 5, 182, 1, 158, 167, 0, 147, 21, 4, 153, 0, 9]
abbrev dktX14_leaf_5 : List UInt8 := dkwX14_leaf_5 ++ dktX14_leaf_6
def dkwX14_leaf_4 : List UInt8 := [167, 0, 186, 42, 27, 182, 3, 3, 154, 0, 178, 42, 16, 22, 21, 5, 182, 1, 158, 167, 0, 167, 42, 29]
abbrev dktX14_leaf_4 : List UInt8 := dkwX14_leaf_4 ++ dktX14_leaf_5
def dkwX14_leaf_3 : List UInt8 := [177, 21, 4, 7, 160, 0, 41, 42, 29, 182, 3, 196, 154, 0, 14, 42, 16, 16, 21, 5, 182, 1, 158]
abbrev dktX14_leaf_3 : List UInt8 := dkwX14_leaf_3 ++ dktX14_leaf_4
def dkwX14_leaf_2 : List UInt8 := [54, 6, 42, 180, 1, 22, 29, 51, 153, 0, 17, 21, 6, 154, 0, 12, 42, 16, 14, 21, 5, 182, 1, 158]
abbrev dktX14_leaf_2 : List UInt8 := dkwX14_leaf_2 ++ dktX14_leaf_3
def dkwX14_leaf_1 : List UInt8 := [8, 159, 0, 17, 21, 4, 16, 7, 161, 0, 14, 21, 4, 16, 11, 163, 0, 7, 4, 167, 0, 4, 3]
abbrev dktX14_leaf_1 : List UInt8 := dkwX14_leaf_1 ++ dktX14_leaf_2
def dkwX14_leaf_0 : List UInt8 := [42, 180, 0, 42, 28, 46, 54, 4, 42, 180, 1, 16, 29, 46, 54, 5, 21, 4, 7, 159, 0, 23, 21, 4]
abbrev dktX14_leaf_0 : List UInt8 := dkwX14_leaf_0 ++ dktX14_leaf_1
theorem dksX14_leaf_0 : cX14_leaf.data.toList.drop 0 = dktX14_leaf_0 := by decide +kernel
theorem dksX14_leaf_1 : cX14_leaf.data.toList.drop 24 = dktX14_leaf_1 := dk_seg dksX14_leaf_0 24 rfl rfl
theorem dksX14_leaf_2 : cX14_leaf.data.toList.drop 47 = dktX14_leaf_2 := dk_seg dksX14_leaf_1 23 rfl rfl
theorem dksX14_leaf_3 : cX14_leaf.data.toList.drop 71 = dktX14_leaf_3 := dk_seg dksX14_leaf_2 24 rfl rfl
theorem dksX14_leaf_4 : cX14_leaf.data.toList.drop 94 = dktX14_leaf_4 := dk_seg dksX14_leaf_3 23 rfl rfl
theorem dksX14_leaf_5 : cX14_leaf.data.toList.drop 118 = dktX14_leaf_5 := dk_seg dksX14_leaf_4 24 rfl rfl
theorem dksX14_leaf_6 : cX14_leaf.data.toList.drop 141 = dktX14_leaf_6 := dk_seg dksX14_leaf_5 23 rfl rfl
theorem dksX14_leaf_7 : cX14_leaf.data.toList.drop 165 = dktX14_leaf_7 := dk_seg dksX14_leaf_6 24 rfl rfl
theorem dksX14_leaf_8 : cX14_leaf.data.toList.drop 189 = dktX14_leaf_8 := dk_seg dksX14_leaf_7 24 rfl rfl
theorem dksX14_leaf_9 : cX14_leaf.data.toList.drop 213 = dktX14_leaf_9 := dk_seg dksX14_leaf_8 24 rfl rfl
theorem dksX14_leaf_10 : cX14_leaf.data.toList.drop 237 = dktX14_leaf_10 := dk_seg dksX14_leaf_9 24 rfl rfl
theorem dksX14_leaf_11 : cX14_leaf.data.toList.drop 261 = dktX14_leaf_11 := dk_seg dksX14_leaf_10 24 rfl rfl
theorem dksX14_leaf_12 : cX14_leaf.data.toList.drop 284 = dktX14_leaf_12 := dk_seg dksX14_leaf_11 23 rfl rfl
theorem dX14_leaf_0 : decode cX14_leaf 0 = .ok (.aload_n 0, 1) := dk_42 (dk_at dksX14_leaf_0 0 rfl rfl)
theorem dX14_leaf_1 : decode cX14_leaf 1 = .ok (.getfield 42, 3) := dk_180 0 42 (dk_at dksX14_leaf_0 1 rfl rfl)
theorem dX14_leaf_4 : decode cX14_leaf 4 = .ok (.iload_n 2, 1) := dk_28 (dk_at dksX14_leaf_0 4 rfl rfl)
theorem dX14_leaf_5 : decode cX14_leaf 5 = .ok (.iaload, 1) := dk_46 (dk_at dksX14_leaf_0 5 rfl rfl)
theorem dX14_leaf_6 : decode cX14_leaf 6 = .ok (.istore 4, 2) := dk_54 4 (dk_at dksX14_leaf_0 6 rfl rfl)
theorem dX14_leaf_8 : decode cX14_leaf 8 = .ok (.aload_n 0, 1) := dk_42 (dk_at dksX14_leaf_0 8 rfl rfl)
theorem dX14_leaf_9 : decode cX14_leaf 9 = .ok (.getfield 272, 3) := dk_180 1 16 (dk_at dksX14_leaf_0 9 rfl rfl)
theorem dX14_leaf_12 : decode cX14_leaf 12 = .ok (.iload_n 3, 1) := dk_29 (dk_at dksX14_leaf_0 12 rfl rfl)
theorem dX14_leaf_13 : decode cX14_leaf 13 = .ok (.iaload, 1) := dk_46 (dk_at dksX14_leaf_0 13 rfl rfl)
theorem dX14_leaf_14 : decode cX14_leaf 14 = .ok (.istore 5, 2) := dk_54 5 (dk_at dksX14_leaf_0 14 rfl rfl)
theorem dX14_leaf_16 : decode cX14_leaf 16 = .ok (.iload 4, 2) := dk_21 4 (dk_at dksX14_leaf_0 16 rfl rfl)
theorem dX14_leaf_18 : decode cX14_leaf 18 = .ok (.iconst 4, 1) := dk_7 (dk_at dksX14_leaf_0 18 rfl rfl)
theorem dX14_leaf_19 : decode cX14_leaf 19 = .ok (.if_icmp .eq 23, 3) := dk_159 0 23 (dk_at dksX14_leaf_0 19 rfl rfl)
theorem dX14_leaf_22 : decode cX14_leaf 22 = .ok (.iload 4, 2) := dk_21 4 (dk_at dksX14_leaf_0 22 rfl rfl)
theorem dX14_leaf_24 : decode cX14_leaf 24 = .ok (.iconst 5, 1) := dk_8 (dk_at dksX14_leaf_1 0 rfl rfl)
theorem dX14_leaf_25 : decode cX14_leaf 25 = .ok (.if_icmp .eq 17, 3) := dk_159 0 17 (dk_at dksX14_leaf_1 1 rfl rfl)
theorem dX14_leaf_28 : decode cX14_leaf 28 = .ok (.iload 4, 2) := dk_21 4 (dk_at dksX14_leaf_1 4 rfl rfl)
theorem dX14_leaf_30 : decode cX14_leaf 30 = .ok (.bipush 7, 2) := dk_16 7 (dk_at dksX14_leaf_1 6 rfl rfl)
theorem dX14_leaf_32 : decode cX14_leaf 32 = .ok (.if_icmp .lt 14, 3) := dk_161 0 14 (dk_at dksX14_leaf_1 8 rfl rfl)
theorem dX14_leaf_35 : decode cX14_leaf 35 = .ok (.iload 4, 2) := dk_21 4 (dk_at dksX14_leaf_1 11 rfl rfl)
theorem dX14_leaf_37 : decode cX14_leaf 37 = .ok (.bipush 11, 2) := dk_16 11 (dk_at dksX14_leaf_1 13 rfl rfl)
theorem dX14_leaf_39 : decode cX14_leaf 39 = .ok (.if_icmp .gt 7, 3) := dk_163 0 7 (dk_at dksX14_leaf_1 15 rfl rfl)
theorem dX14_leaf_42 : decode cX14_leaf 42 = .ok (.iconst 1, 1) := dk_4 (dk_at dksX14_leaf_1 18 rfl rfl)
theorem dX14_leaf_43 : decode cX14_leaf 43 = .ok (.goto 4, 3) := dk_167 0 4 (dk_at dksX14_leaf_1 19 rfl rfl)
theorem dX14_leaf_46 : decode cX14_leaf 46 = .ok (.iconst 0, 1) := dk_3 (dk_at dksX14_leaf_1 22 rfl rfl)
theorem dX14_leaf_47 : decode cX14_leaf 47 = .ok (.istore 6, 2) := dk_54 6 (dk_at dksX14_leaf_2 0 rfl rfl)
theorem dX14_leaf_49 : decode cX14_leaf 49 = .ok (.aload_n 0, 1) := dk_42 (dk_at dksX14_leaf_2 2 rfl rfl)
theorem dX14_leaf_50 : decode cX14_leaf 50 = .ok (.getfield 278, 3) := dk_180 1 22 (dk_at dksX14_leaf_2 3 rfl rfl)
theorem dX14_leaf_53 : decode cX14_leaf 53 = .ok (.iload_n 3, 1) := dk_29 (dk_at dksX14_leaf_2 6 rfl rfl)
theorem dX14_leaf_54 : decode cX14_leaf 54 = .ok (.baload, 1) := dk_51 (dk_at dksX14_leaf_2 7 rfl rfl)
theorem dX14_leaf_55 : decode cX14_leaf 55 = .ok (.ifCond .eq 17, 3) := dk_153 0 17 (dk_at dksX14_leaf_2 8 rfl rfl)
theorem dX14_leaf_58 : decode cX14_leaf 58 = .ok (.iload 6, 2) := dk_21 6 (dk_at dksX14_leaf_2 11 rfl rfl)
theorem dX14_leaf_60 : decode cX14_leaf 60 = .ok (.ifCond .ne 12, 3) := dk_154 0 12 (dk_at dksX14_leaf_2 13 rfl rfl)
theorem dX14_leaf_63 : decode cX14_leaf 63 = .ok (.aload_n 0, 1) := dk_42 (dk_at dksX14_leaf_2 16 rfl rfl)
theorem dX14_leaf_64 : decode cX14_leaf 64 = .ok (.bipush 14, 2) := dk_16 14 (dk_at dksX14_leaf_2 17 rfl rfl)
theorem dX14_leaf_66 : decode cX14_leaf 66 = .ok (.iload 5, 2) := dk_21 5 (dk_at dksX14_leaf_2 19 rfl rfl)
theorem dX14_leaf_68 : decode cX14_leaf 68 = .ok (.invokevirtual 414, 3) := dk_182 1 158 (dk_at dksX14_leaf_2 21 rfl rfl)
theorem dX14_leaf_71 : decode cX14_leaf 71 = .ok (.return_, 1) := dk_177 (dk_at dksX14_leaf_3 0 rfl rfl)
theorem dX14_leaf_72 : decode cX14_leaf 72 = .ok (.iload 4, 2) := dk_21 4 (dk_at dksX14_leaf_3 1 rfl rfl)
theorem dX14_leaf_74 : decode cX14_leaf 74 = .ok (.iconst 4, 1) := dk_7 (dk_at dksX14_leaf_3 3 rfl rfl)
theorem dX14_leaf_75 : decode cX14_leaf 75 = .ok (.if_icmp .ne 41, 3) := dk_160 0 41 (dk_at dksX14_leaf_3 4 rfl rfl)
theorem dX14_leaf_78 : decode cX14_leaf 78 = .ok (.aload_n 0, 1) := dk_42 (dk_at dksX14_leaf_3 7 rfl rfl)
theorem dX14_leaf_79 : decode cX14_leaf 79 = .ok (.iload_n 3, 1) := dk_29 (dk_at dksX14_leaf_3 8 rfl rfl)
theorem dX14_leaf_80 : decode cX14_leaf 80 = .ok (.invokevirtual 964, 3) := dk_182 3 196 (dk_at dksX14_leaf_3 9 rfl rfl)
theorem dX14_leaf_83 : decode cX14_leaf 83 = .ok (.ifCond .ne 14, 3) := dk_154 0 14 (dk_at dksX14_leaf_3 12 rfl rfl)
theorem dX14_leaf_86 : decode cX14_leaf 86 = .ok (.aload_n 0, 1) := dk_42 (dk_at dksX14_leaf_3 15 rfl rfl)
theorem dX14_leaf_87 : decode cX14_leaf 87 = .ok (.bipush 16, 2) := dk_16 16 (dk_at dksX14_leaf_3 16 rfl rfl)
theorem dX14_leaf_89 : decode cX14_leaf 89 = .ok (.iload 5, 2) := dk_21 5 (dk_at dksX14_leaf_3 18 rfl rfl)
theorem dX14_leaf_91 : decode cX14_leaf 91 = .ok (.invokevirtual 414, 3) := dk_182 1 158 (dk_at dksX14_leaf_3 20 rfl rfl)
theorem dX14_leaf_94 : decode cX14_leaf 94 = .ok (.goto 186, 3) := dk_167 0 186 (dk_at dksX14_leaf_4 0 rfl rfl)
theorem dX14_leaf_97 : decode cX14_leaf 97 = .ok (.aload_n 0, 1) := dk_42 (dk_at dksX14_leaf_4 3 rfl rfl)
theorem dX14_leaf_98 : decode cX14_leaf 98 = .ok (.iload_n 1, 1) := dk_27 (dk_at dksX14_leaf_4 4 rfl rfl)
theorem dX14_leaf_99 : decode cX14_leaf 99 = .ok (.invokevirtual 771, 3) := dk_182 3 3 (dk_at dksX14_leaf_4 5 rfl rfl)
theorem dX14_leaf_102 : decode cX14_leaf 102 = .ok (.ifCond .ne 178, 3) := dk_154 0 178 (dk_at dksX14_leaf_4 8 rfl rfl)
theorem dX14_leaf_105 : decode cX14_leaf 105 = .ok (.aload_n 0, 1) := dk_42 (dk_at dksX14_leaf_4 11 rfl rfl)
theorem dX14_leaf_106 : decode cX14_leaf 106 = .ok (.bipush 22, 2) := dk_16 22 (dk_at dksX14_leaf_4 12 rfl rfl)
theorem dX14_leaf_108 : decode cX14_leaf 108 = .ok (.iload 5, 2) := dk_21 5 (dk_at dksX14_leaf_4 14 rfl rfl)
theorem dX14_leaf_110 : decode cX14_leaf 110 = .ok (.invokevirtual 414, 3) := dk_182 1 158 (dk_at dksX14_leaf_4 16 rfl rfl)
theorem dX14_leaf_113 : decode cX14_leaf 113 = .ok (.goto 167, 3) := dk_167 0 167 (dk_at dksX14_leaf_4 19 rfl rfl)
theorem dX14_leaf_116 : decode cX14_leaf 116 = .ok (.aload_n 0, 1) := dk_42 (dk_at dksX14_leaf_4 22 rfl rfl)
theorem dX14_leaf_117 : decode cX14_leaf 117 = .ok (.iload_n 3, 1) := dk_29 (dk_at dksX14_leaf_4 23 rfl rfl)
theorem dX14_leaf_118 : decode cX14_leaf 118 = .ok (.iconst 4, 1) := dk_7 (dk_at dksX14_leaf_5 0 rfl rfl)
theorem dX14_leaf_119 : decode cX14_leaf 119 = .ok (.invokevirtual 967, 3) := dk_182 3 199 (dk_at dksX14_leaf_5 1 rfl rfl)
theorem dX14_leaf_122 : decode cX14_leaf 122 = .ok (.ifCond .ne 14, 3) := dk_154 0 14 (dk_at dksX14_leaf_5 4 rfl rfl)
theorem dX14_leaf_125 : decode cX14_leaf 125 = .ok (.aload_n 0, 1) := dk_42 (dk_at dksX14_leaf_5 7 rfl rfl)
theorem dX14_leaf_126 : decode cX14_leaf 126 = .ok (.bipush 16, 2) := dk_16 16 (dk_at dksX14_leaf_5 8 rfl rfl)
theorem dX14_leaf_128 : decode cX14_leaf 128 = .ok (.iload 5, 2) := dk_21 5 (dk_at dksX14_leaf_5 10 rfl rfl)
theorem dX14_leaf_130 : decode cX14_leaf 130 = .ok (.invokevirtual 414, 3) := dk_182 1 158 (dk_at dksX14_leaf_5 12 rfl rfl)
theorem dX14_leaf_133 : decode cX14_leaf 133 = .ok (.goto 147, 3) := dk_167 0 147 (dk_at dksX14_leaf_5 15 rfl rfl)
theorem dX14_leaf_136 : decode cX14_leaf 136 = .ok (.iload 4, 2) := dk_21 4 (dk_at dksX14_leaf_5 18 rfl rfl)
theorem dX14_leaf_138 : decode cX14_leaf 138 = .ok (.ifCond .eq 9, 3) := dk_153 0 9 (dk_at dksX14_leaf_5 20 rfl rfl)
theorem dX14_leaf_141 : decode cX14_leaf 141 = .ok (.iload 4, 2) := dk_21 4 (dk_at dksX14_leaf_6 0 rfl rfl)
theorem dX14_leaf_143 : decode cX14_leaf 143 = .ok (.iconst 1, 1) := dk_4 (dk_at dksX14_leaf_6 2 rfl rfl)
theorem dX14_leaf_144 : decode cX14_leaf 144 = .ok (.if_icmp .ne 61, 3) := dk_160 0 61 (dk_at dksX14_leaf_6 3 rfl rfl)
theorem dX14_leaf_147 : decode cX14_leaf 147 = .ok (.aload_n 0, 1) := dk_42 (dk_at dksX14_leaf_6 6 rfl rfl)
theorem dX14_leaf_148 : decode cX14_leaf 148 = .ok (.getfield 682, 3) := dk_180 2 170 (dk_at dksX14_leaf_6 7 rfl rfl)
theorem dX14_leaf_151 : decode cX14_leaf 151 = .ok (.iload 4, 2) := dk_21 4 (dk_at dksX14_leaf_6 10 rfl rfl)
theorem dX14_leaf_153 : decode cX14_leaf 153 = .ok (.ifCond .ne 7, 3) := dk_154 0 7 (dk_at dksX14_leaf_6 12 rfl rfl)
theorem dX14_leaf_156 : decode cX14_leaf 156 = .ok (.iconst 1, 1) := dk_4 (dk_at dksX14_leaf_6 15 rfl rfl)
theorem dX14_leaf_157 : decode cX14_leaf 157 = .ok (.goto 4, 3) := dk_167 0 4 (dk_at dksX14_leaf_6 16 rfl rfl)
theorem dX14_leaf_160 : decode cX14_leaf 160 = .ok (.iconst 0, 1) := dk_3 (dk_at dksX14_leaf_6 19 rfl rfl)
theorem dX14_leaf_161 : decode cX14_leaf 161 = .ok (.if_icmp .eq 14, 3) := dk_159 0 14 (dk_at dksX14_leaf_6 20 rfl rfl)
theorem dX14_leaf_164 : decode cX14_leaf 164 = .ok (.aload_n 0, 1) := dk_42 (dk_at dksX14_leaf_6 23 rfl rfl)
theorem dX14_leaf_165 : decode cX14_leaf 165 = .ok (.bipush 16, 2) := dk_16 16 (dk_at dksX14_leaf_7 0 rfl rfl)
theorem dX14_leaf_167 : decode cX14_leaf 167 = .ok (.iload 5, 2) := dk_21 5 (dk_at dksX14_leaf_7 2 rfl rfl)
theorem dX14_leaf_169 : decode cX14_leaf 169 = .ok (.invokevirtual 414, 3) := dk_182 1 158 (dk_at dksX14_leaf_7 4 rfl rfl)
theorem dX14_leaf_172 : decode cX14_leaf 172 = .ok (.goto 108, 3) := dk_167 0 108 (dk_at dksX14_leaf_7 7 rfl rfl)
theorem dX14_leaf_175 : decode cX14_leaf 175 = .ok (.iload 4, 2) := dk_21 4 (dk_at dksX14_leaf_7 10 rfl rfl)
theorem dX14_leaf_177 : decode cX14_leaf 177 = .ok (.ifCond .ne 103, 3) := dk_154 0 103 (dk_at dksX14_leaf_7 12 rfl rfl)
theorem dX14_leaf_180 : decode cX14_leaf 180 = .ok (.aload_n 0, 1) := dk_42 (dk_at dksX14_leaf_7 15 rfl rfl)
theorem dX14_leaf_181 : decode cX14_leaf 181 = .ok (.getfield 236, 3) := dk_180 0 236 (dk_at dksX14_leaf_7 16 rfl rfl)
theorem dX14_leaf_184 : decode cX14_leaf 184 = .ok (.iconst 0, 1) := dk_3 (dk_at dksX14_leaf_7 19 rfl rfl)
theorem dX14_leaf_185 : decode cX14_leaf 185 = .ok (.aload_n 0, 1) := dk_42 (dk_at dksX14_leaf_7 20 rfl rfl)
theorem dX14_leaf_186 : decode cX14_leaf 186 = .ok (.getfield 236, 3) := dk_180 0 236 (dk_at dksX14_leaf_7 21 rfl rfl)
theorem dX14_leaf_189 : decode cX14_leaf 189 = .ok (.iconst 0, 1) := dk_3 (dk_at dksX14_leaf_8 0 rfl rfl)
theorem dX14_leaf_190 : decode cX14_leaf 190 = .ok (.iaload, 1) := dk_46 (dk_at dksX14_leaf_8 1 rfl rfl)
theorem dX14_leaf_191 : decode cX14_leaf 191 = .ok (.ifCond .ne 7, 3) := dk_154 0 7 (dk_at dksX14_leaf_8 2 rfl rfl)
theorem dX14_leaf_194 : decode cX14_leaf 194 = .ok (.iconst 0, 1) := dk_3 (dk_at dksX14_leaf_8 5 rfl rfl)
theorem dX14_leaf_195 : decode cX14_leaf 195 = .ok (.goto 6, 3) := dk_167 0 6 (dk_at dksX14_leaf_8 6 rfl rfl)
theorem dX14_leaf_198 : decode cX14_leaf 198 = .ok (.sipush 255, 3) := dk_17 0 255 (dk_at dksX14_leaf_8 9 rfl rfl)
theorem dX14_leaf_201 : decode cX14_leaf 201 = .ok (.iastore, 1) := dk_79 (dk_at dksX14_leaf_8 12 rfl rfl)
theorem dX14_leaf_202 : decode cX14_leaf 202 = .ok (.goto 78, 3) := dk_167 0 78 (dk_at dksX14_leaf_8 13 rfl rfl)
theorem dX14_leaf_205 : decode cX14_leaf 205 = .ok (.iload 4, 2) := dk_21 4 (dk_at dksX14_leaf_8 16 rfl rfl)
theorem dX14_leaf_207 : decode cX14_leaf 207 = .ok (.iconst 2, 1) := dk_5 (dk_at dksX14_leaf_8 18 rfl rfl)
theorem dX14_leaf_208 : decode cX14_leaf 208 = .ok (.if_icmp .eq 9, 3) := dk_159 0 9 (dk_at dksX14_leaf_8 19 rfl rfl)
theorem dX14_leaf_211 : decode cX14_leaf 211 = .ok (.iload 4, 2) := dk_21 4 (dk_at dksX14_leaf_8 22 rfl rfl)
theorem dX14_leaf_213 : decode cX14_leaf 213 = .ok (.iconst 3, 1) := dk_6 (dk_at dksX14_leaf_9 0 rfl rfl)
theorem dX14_leaf_214 : decode cX14_leaf 214 = .ok (.if_icmp .ne 32, 3) := dk_160 0 32 (dk_at dksX14_leaf_9 1 rfl rfl)
theorem dX14_leaf_217 : decode cX14_leaf 217 = .ok (.aload_n 0, 1) := dk_42 (dk_at dksX14_leaf_9 4 rfl rfl)
theorem dX14_leaf_218 : decode cX14_leaf 218 = .ok (.invokevirtual 970, 3) := dk_182 3 202 (dk_at dksX14_leaf_9 5 rfl rfl)
theorem dX14_leaf_221 : decode cX14_leaf 221 = .ok (.ifCond .ne 14, 3) := dk_154 0 14 (dk_at dksX14_leaf_9 8 rfl rfl)
theorem dX14_leaf_224 : decode cX14_leaf 224 = .ok (.aload_n 0, 1) := dk_42 (dk_at dksX14_leaf_9 11 rfl rfl)
theorem dX14_leaf_225 : decode cX14_leaf 225 = .ok (.bipush 16, 2) := dk_16 16 (dk_at dksX14_leaf_9 12 rfl rfl)
theorem dX14_leaf_227 : decode cX14_leaf 227 = .ok (.iload 5, 2) := dk_21 5 (dk_at dksX14_leaf_9 14 rfl rfl)
theorem dX14_leaf_229 : decode cX14_leaf 229 = .ok (.invokevirtual 414, 3) := dk_182 1 158 (dk_at dksX14_leaf_9 16 rfl rfl)
theorem dX14_leaf_232 : decode cX14_leaf 232 = .ok (.goto 48, 3) := dk_167 0 48 (dk_at dksX14_leaf_9 19 rfl rfl)
theorem dX14_leaf_235 : decode cX14_leaf 235 = .ok (.aload_n 0, 1) := dk_42 (dk_at dksX14_leaf_9 22 rfl rfl)
theorem dX14_leaf_236 : decode cX14_leaf 236 = .ok (.iload_n 1, 1) := dk_27 (dk_at dksX14_leaf_9 23 rfl rfl)
theorem dX14_leaf_237 : decode cX14_leaf 237 = .ok (.iload_n 2, 1) := dk_28 (dk_at dksX14_leaf_10 0 rfl rfl)
theorem dX14_leaf_238 : decode cX14_leaf 238 = .ok (.iload 5, 2) := dk_21 5 (dk_at dksX14_leaf_10 1 rfl rfl)
theorem dX14_leaf_240 : decode cX14_leaf 240 = .ok (.invokevirtual 973, 3) := dk_182 3 205 (dk_at dksX14_leaf_10 3 rfl rfl)
theorem dX14_leaf_243 : decode cX14_leaf 243 = .ok (.goto 37, 3) := dk_167 0 37 (dk_at dksX14_leaf_10 6 rfl rfl)
theorem dX14_leaf_246 : decode cX14_leaf 246 = .ok (.iload 4, 2) := dk_21 4 (dk_at dksX14_leaf_10 9 rfl rfl)
theorem dX14_leaf_248 : decode cX14_leaf 248 = .ok (.bipush 6, 2) := dk_16 6 (dk_at dksX14_leaf_10 11 rfl rfl)
theorem dX14_leaf_250 : decode cX14_leaf 250 = .ok (.if_icmp .ne 21, 3) := dk_160 0 21 (dk_at dksX14_leaf_10 13 rfl rfl)
theorem dX14_leaf_253 : decode cX14_leaf 253 = .ok (.aload_n 0, 1) := dk_42 (dk_at dksX14_leaf_10 16 rfl rfl)
theorem dX14_leaf_254 : decode cX14_leaf 254 = .ok (.invokevirtual 976, 3) := dk_182 3 208 (dk_at dksX14_leaf_10 17 rfl rfl)
theorem dX14_leaf_257 : decode cX14_leaf 257 = .ok (.ifCond .ne 23, 3) := dk_154 0 23 (dk_at dksX14_leaf_10 20 rfl rfl)
theorem dX14_leaf_260 : decode cX14_leaf 260 = .ok (.aload_n 0, 1) := dk_42 (dk_at dksX14_leaf_10 23 rfl rfl)
theorem dX14_leaf_261 : decode cX14_leaf 261 = .ok (.bipush 16, 2) := dk_16 16 (dk_at dksX14_leaf_11 0 rfl rfl)
theorem dX14_leaf_263 : decode cX14_leaf 263 = .ok (.iload 5, 2) := dk_21 5 (dk_at dksX14_leaf_11 2 rfl rfl)
theorem dX14_leaf_265 : decode cX14_leaf 265 = .ok (.invokevirtual 414, 3) := dk_182 1 158 (dk_at dksX14_leaf_11 4 rfl rfl)
theorem dX14_leaf_268 : decode cX14_leaf 268 = .ok (.goto 12, 3) := dk_167 0 12 (dk_at dksX14_leaf_11 7 rfl rfl)
theorem dX14_leaf_271 : decode cX14_leaf 271 = .ok (.aload_n 0, 1) := dk_42 (dk_at dksX14_leaf_11 10 rfl rfl)
theorem dX14_leaf_272 : decode cX14_leaf 272 = .ok (.iload_n 1, 1) := dk_27 (dk_at dksX14_leaf_11 11 rfl rfl)
theorem dX14_leaf_273 : decode cX14_leaf 273 = .ok (.iload 4, 2) := dk_21 4 (dk_at dksX14_leaf_11 12 rfl rfl)
theorem dX14_leaf_275 : decode cX14_leaf 275 = .ok (.iload 5, 2) := dk_21 5 (dk_at dksX14_leaf_11 14 rfl rfl)
theorem dX14_leaf_277 : decode cX14_leaf 277 = .ok (.invokevirtual 979, 3) := dk_182 3 211 (dk_at dksX14_leaf_11 16 rfl rfl)
theorem dX14_leaf_280 : decode cX14_leaf 280 = .ok (.aload_n 0, 1) := dk_42 (dk_at dksX14_leaf_11 19 rfl rfl)
theorem dX14_leaf_281 : decode cX14_leaf 281 = .ok (.getfield 353, 3) := dk_180 1 97 (dk_at dksX14_leaf_11 20 rfl rfl)
theorem dX14_leaf_284 : decode cX14_leaf 284 = .ok (.ifCond .ne 7, 3) := dk_154 0 7 (dk_at dksX14_leaf_12 0 rfl rfl)
theorem dX14_leaf_287 : decode cX14_leaf 287 = .ok (.aload_n 0, 1) := dk_42 (dk_at dksX14_leaf_12 3 rfl rfl)
theorem dX14_leaf_288 : decode cX14_leaf 288 = .ok (.invokevirtual 982, 3) := dk_182 3 214 (dk_at dksX14_leaf_12 4 rfl rfl)
theorem dX14_leaf_291 : decode cX14_leaf 291 = .ok (.return_, 1) := dk_177 (dk_at dksX14_leaf_12 7 rfl rfl)
abbrev cX14_gatherBits : ByteArray := prog_15_method_156_code
def yX14_gatherBits : MethodName := ⟨RX14, "gatherBits", "(I)Z"⟩
def dkwX14_gatherBits_11 : List UInt8 := [167, 255, 12, 42, 180, 1, 46, 28, 46, 61, 167, 255, 2, 29, 172]
abbrev dktX14_gatherBits_11 : List UInt8 := dkwX14_gatherBits_11 ++ []
def dkwX14_gatherBits_10 : List UInt8 := [28, 46, 156, 0, 13, 42, 180, 1, 37, 28, 46, 61, 167, 255, 235, 28, 27, 160, 0, 9, 4, 54, 4]
abbrev dktX14_gatherBits_10 : List UInt8 := dkwX14_gatherBits_10 ++ dktX14_gatherBits_11
def dkwX14_gatherBits_9 : List UInt8 := [28, 46, 155, 0, 13, 42, 180, 1, 40, 28, 46, 61, 167, 255, 47, 28, 27, 159, 0, 22, 42, 180, 1, 46]
abbrev dktX14_gatherBits_9 : List UInt8 := dkwX14_gatherBits_9 ++ dktX14_gatherBits_10
def dkwX14_gatherBits_8 : List UInt8 := [16, 7, 21, 8, 16, 8, 112, 100, 122, 4, 126, 182, 2, 188, 132, 8, 1, 167, 255, 200, 42, 180, 1, 40]
abbrev dktX14_gatherBits_8 : List UInt8 := dkwX14_gatherBits_8 ++ dktX14_gatherBits_9
def dkwX14_gatherBits_7 : List UInt8 := [162, 0, 43, 42, 42, 180, 1, 13, 42, 180, 1, 28, 28, 46, 4, 96, 21, 8, 16, 8, 108, 96, 46]
abbrev dktX14_gatherBits_7 : List UInt8 := dkwX14_gatherBits_7 ++ dktX14_gatherBits_8
def dkwX14_gatherBits_6 : List UInt8 := [3, 54, 5, 3, 54, 8, 29, 153, 0, 58, 21, 8, 16, 8, 21, 6, 4, 100, 104, 21, 7, 100]
abbrev dktX14_gatherBits_6 : List UInt8 := dkwX14_gatherBits_6 ++ dktX14_gatherBits_7
def dkwX14_gatherBits_5 : List UInt8 := [153, 0, 9, 21, 6, 4, 164, 0, 7, 4, 167, 0, 4, 3, 62, 21, 7, 158, 0, 7, 4, 167, 0, 4]
abbrev dktX14_gatherBits_5 : List UInt8 := dkwX14_gatherBits_5 ++ dktX14_gatherBits_6
def dkwX14_gatherBits_4 : List UInt8 := [46, 46, 167, 0, 5, 16, 8, 54, 7, 21, 5, 154, 0, 25, 21, 7, 16, 8, 162, 0, 18, 21, 7]
abbrev dktX14_gatherBits_4 : List UInt8 := dkwX14_gatherBits_4 ++ dktX14_gatherBits_5
def dkwX14_gatherBits_3 : List UInt8 := [46, 42, 180, 1, 28, 28, 46, 100, 54, 6, 21, 6, 158, 0, 17, 42, 180, 1, 13, 42, 180, 1, 28, 28]
abbrev dktX14_gatherBits_3 : List UInt8 := dkwX14_gatherBits_3 ++ dktX14_gatherBits_4
def dkwX14_gatherBits_2 : List UInt8 := [4, 167, 0, 4, 3, 62, 29, 153, 0, 153, 42, 180, 1, 22, 28, 51, 154, 0, 144, 42, 180, 1, 31, 28]
abbrev dktX14_gatherBits_2 : List UInt8 := dkwX14_gatherBits_2 ++ dktX14_gatherBits_3
def dkwX14_gatherBits_1 : List UInt8 := [28, 27, 159, 0, 28, 42, 180, 1, 19, 28, 46, 154, 0, 17, 42, 180, 1, 25, 28, 46, 6, 160, 0, 7]
abbrev dktX14_gatherBits_1 : List UInt8 := dkwX14_gatherBits_1 ++ dktX14_gatherBits_2
def dkwX14_gatherBits_0 : List UInt8 := [42, 3, 181, 2, 173, 27, 61, 4, 62, 3, 54, 4, 3, 54, 5, 21, 4, 154, 0, 255, 29, 153, 0, 251]
abbrev dktX14_gatherBits_0 : List UInt8 := dkwX14_gatherBits_0 ++ dktX14_gatherBits_1
theorem dksX14_gatherBits_0 : cX14_gatherBits.data.toList.drop 0 = dktX14_gatherBits_0 := by decide +kernel
theorem dksX14_gatherBits_1 : cX14_gatherBits.data.toList.drop 24 = dktX14_gatherBits_1 := dk_seg dksX14_gatherBits_0 24 rfl rfl
theorem dksX14_gatherBits_2 : cX14_gatherBits.data.toList.drop 48 = dktX14_gatherBits_2 := dk_seg dksX14_gatherBits_1 24 rfl rfl
theorem dksX14_gatherBits_3 : cX14_gatherBits.data.toList.drop 72 = dktX14_gatherBits_3 := dk_seg dksX14_gatherBits_2 24 rfl rfl
theorem dksX14_gatherBits_4 : cX14_gatherBits.data.toList.drop 96 = dktX14_gatherBits_4 := dk_seg dksX14_gatherBits_3 24 rfl rfl
theorem dksX14_gatherBits_5 : cX14_gatherBits.data.toList.drop 119 = dktX14_gatherBits_5 := dk_seg dksX14_gatherBits_4 23 rfl rfl
theorem dksX14_gatherBits_6 : cX14_gatherBits.data.toList.drop 143 = dktX14_gatherBits_6 := dk_seg dksX14_gatherBits_5 24 rfl rfl
theorem dksX14_gatherBits_7 : cX14_gatherBits.data.toList.drop 165 = dktX14_gatherBits_7 := dk_seg dksX14_gatherBits_6 22 rfl rfl
theorem dksX14_gatherBits_8 : cX14_gatherBits.data.toList.drop 188 = dktX14_gatherBits_8 := dk_seg dksX14_gatherBits_7 23 rfl rfl
theorem dksX14_gatherBits_9 : cX14_gatherBits.data.toList.drop 212 = dktX14_gatherBits_9 := dk_seg dksX14_gatherBits_8 24 rfl rfl
theorem dksX14_gatherBits_10 : cX14_gatherBits.data.toList.drop 236 = dktX14_gatherBits_10 := dk_seg dksX14_gatherBits_9 24 rfl rfl
theorem dksX14_gatherBits_11 : cX14_gatherBits.data.toList.drop 259 = dktX14_gatherBits_11 := dk_seg dksX14_gatherBits_10 23 rfl rfl
theorem dX14_gatherBits_0 : decode cX14_gatherBits 0 = .ok (.aload_n 0, 1) := dk_42 (dk_at dksX14_gatherBits_0 0 rfl rfl)
theorem dX14_gatherBits_1 : decode cX14_gatherBits 1 = .ok (.iconst 0, 1) := dk_3 (dk_at dksX14_gatherBits_0 1 rfl rfl)
theorem dX14_gatherBits_2 : decode cX14_gatherBits 2 = .ok (.putfield 685, 3) := dk_181 2 173 (dk_at dksX14_gatherBits_0 2 rfl rfl)
theorem dX14_gatherBits_5 : decode cX14_gatherBits 5 = .ok (.iload_n 1, 1) := dk_27 (dk_at dksX14_gatherBits_0 5 rfl rfl)
theorem dX14_gatherBits_6 : decode cX14_gatherBits 6 = .ok (.istore_n 2, 1) := dk_61 (dk_at dksX14_gatherBits_0 6 rfl rfl)
theorem dX14_gatherBits_7 : decode cX14_gatherBits 7 = .ok (.iconst 1, 1) := dk_4 (dk_at dksX14_gatherBits_0 7 rfl rfl)
theorem dX14_gatherBits_8 : decode cX14_gatherBits 8 = .ok (.istore_n 3, 1) := dk_62 (dk_at dksX14_gatherBits_0 8 rfl rfl)
theorem dX14_gatherBits_9 : decode cX14_gatherBits 9 = .ok (.iconst 0, 1) := dk_3 (dk_at dksX14_gatherBits_0 9 rfl rfl)
theorem dX14_gatherBits_10 : decode cX14_gatherBits 10 = .ok (.istore 4, 2) := dk_54 4 (dk_at dksX14_gatherBits_0 10 rfl rfl)
theorem dX14_gatherBits_12 : decode cX14_gatherBits 12 = .ok (.iconst 0, 1) := dk_3 (dk_at dksX14_gatherBits_0 12 rfl rfl)
theorem dX14_gatherBits_13 : decode cX14_gatherBits 13 = .ok (.istore 5, 2) := dk_54 5 (dk_at dksX14_gatherBits_0 13 rfl rfl)
theorem dX14_gatherBits_15 : decode cX14_gatherBits 15 = .ok (.iload 4, 2) := dk_21 4 (dk_at dksX14_gatherBits_0 15 rfl rfl)
theorem dX14_gatherBits_17 : decode cX14_gatherBits 17 = .ok (.ifCond .ne 255, 3) := dk_154 0 255 (dk_at dksX14_gatherBits_0 17 rfl rfl)
theorem dX14_gatherBits_20 : decode cX14_gatherBits 20 = .ok (.iload_n 3, 1) := dk_29 (dk_at dksX14_gatherBits_0 20 rfl rfl)
theorem dX14_gatherBits_21 : decode cX14_gatherBits 21 = .ok (.ifCond .eq 251, 3) := dk_153 0 251 (dk_at dksX14_gatherBits_0 21 rfl rfl)
theorem dX14_gatherBits_24 : decode cX14_gatherBits 24 = .ok (.iload_n 2, 1) := dk_28 (dk_at dksX14_gatherBits_1 0 rfl rfl)
theorem dX14_gatherBits_25 : decode cX14_gatherBits 25 = .ok (.iload_n 1, 1) := dk_27 (dk_at dksX14_gatherBits_1 1 rfl rfl)
theorem dX14_gatherBits_26 : decode cX14_gatherBits 26 = .ok (.if_icmp .eq 28, 3) := dk_159 0 28 (dk_at dksX14_gatherBits_1 2 rfl rfl)
theorem dX14_gatherBits_29 : decode cX14_gatherBits 29 = .ok (.aload_n 0, 1) := dk_42 (dk_at dksX14_gatherBits_1 5 rfl rfl)
theorem dX14_gatherBits_30 : decode cX14_gatherBits 30 = .ok (.getfield 275, 3) := dk_180 1 19 (dk_at dksX14_gatherBits_1 6 rfl rfl)
theorem dX14_gatherBits_33 : decode cX14_gatherBits 33 = .ok (.iload_n 2, 1) := dk_28 (dk_at dksX14_gatherBits_1 9 rfl rfl)
theorem dX14_gatherBits_34 : decode cX14_gatherBits 34 = .ok (.iaload, 1) := dk_46 (dk_at dksX14_gatherBits_1 10 rfl rfl)
theorem dX14_gatherBits_35 : decode cX14_gatherBits 35 = .ok (.ifCond .ne 17, 3) := dk_154 0 17 (dk_at dksX14_gatherBits_1 11 rfl rfl)
theorem dX14_gatherBits_38 : decode cX14_gatherBits 38 = .ok (.aload_n 0, 1) := dk_42 (dk_at dksX14_gatherBits_1 14 rfl rfl)
theorem dX14_gatherBits_39 : decode cX14_gatherBits 39 = .ok (.getfield 281, 3) := dk_180 1 25 (dk_at dksX14_gatherBits_1 15 rfl rfl)
theorem dX14_gatherBits_42 : decode cX14_gatherBits 42 = .ok (.iload_n 2, 1) := dk_28 (dk_at dksX14_gatherBits_1 18 rfl rfl)
theorem dX14_gatherBits_43 : decode cX14_gatherBits 43 = .ok (.iaload, 1) := dk_46 (dk_at dksX14_gatherBits_1 19 rfl rfl)
theorem dX14_gatherBits_44 : decode cX14_gatherBits 44 = .ok (.iconst 3, 1) := dk_6 (dk_at dksX14_gatherBits_1 20 rfl rfl)
theorem dX14_gatherBits_45 : decode cX14_gatherBits 45 = .ok (.if_icmp .ne 7, 3) := dk_160 0 7 (dk_at dksX14_gatherBits_1 21 rfl rfl)
theorem dX14_gatherBits_48 : decode cX14_gatherBits 48 = .ok (.iconst 1, 1) := dk_4 (dk_at dksX14_gatherBits_2 0 rfl rfl)
theorem dX14_gatherBits_49 : decode cX14_gatherBits 49 = .ok (.goto 4, 3) := dk_167 0 4 (dk_at dksX14_gatherBits_2 1 rfl rfl)
theorem dX14_gatherBits_52 : decode cX14_gatherBits 52 = .ok (.iconst 0, 1) := dk_3 (dk_at dksX14_gatherBits_2 4 rfl rfl)
theorem dX14_gatherBits_53 : decode cX14_gatherBits 53 = .ok (.istore_n 3, 1) := dk_62 (dk_at dksX14_gatherBits_2 5 rfl rfl)
theorem dX14_gatherBits_54 : decode cX14_gatherBits 54 = .ok (.iload_n 3, 1) := dk_29 (dk_at dksX14_gatherBits_2 6 rfl rfl)
theorem dX14_gatherBits_55 : decode cX14_gatherBits 55 = .ok (.ifCond .eq 153, 3) := dk_153 0 153 (dk_at dksX14_gatherBits_2 7 rfl rfl)
theorem dX14_gatherBits_58 : decode cX14_gatherBits 58 = .ok (.aload_n 0, 1) := dk_42 (dk_at dksX14_gatherBits_2 10 rfl rfl)
theorem dX14_gatherBits_59 : decode cX14_gatherBits 59 = .ok (.getfield 278, 3) := dk_180 1 22 (dk_at dksX14_gatherBits_2 11 rfl rfl)
theorem dX14_gatherBits_62 : decode cX14_gatherBits 62 = .ok (.iload_n 2, 1) := dk_28 (dk_at dksX14_gatherBits_2 14 rfl rfl)
theorem dX14_gatherBits_63 : decode cX14_gatherBits 63 = .ok (.baload, 1) := dk_51 (dk_at dksX14_gatherBits_2 15 rfl rfl)
theorem dX14_gatherBits_64 : decode cX14_gatherBits 64 = .ok (.ifCond .ne 144, 3) := dk_154 0 144 (dk_at dksX14_gatherBits_2 16 rfl rfl)
theorem dX14_gatherBits_67 : decode cX14_gatherBits 67 = .ok (.aload_n 0, 1) := dk_42 (dk_at dksX14_gatherBits_2 19 rfl rfl)
theorem dX14_gatherBits_68 : decode cX14_gatherBits 68 = .ok (.getfield 287, 3) := dk_180 1 31 (dk_at dksX14_gatherBits_2 20 rfl rfl)
theorem dX14_gatherBits_71 : decode cX14_gatherBits 71 = .ok (.iload_n 2, 1) := dk_28 (dk_at dksX14_gatherBits_2 23 rfl rfl)
theorem dX14_gatherBits_72 : decode cX14_gatherBits 72 = .ok (.iaload, 1) := dk_46 (dk_at dksX14_gatherBits_3 0 rfl rfl)
theorem dX14_gatherBits_73 : decode cX14_gatherBits 73 = .ok (.aload_n 0, 1) := dk_42 (dk_at dksX14_gatherBits_3 1 rfl rfl)
theorem dX14_gatherBits_74 : decode cX14_gatherBits 74 = .ok (.getfield 284, 3) := dk_180 1 28 (dk_at dksX14_gatherBits_3 2 rfl rfl)
theorem dX14_gatherBits_77 : decode cX14_gatherBits 77 = .ok (.iload_n 2, 1) := dk_28 (dk_at dksX14_gatherBits_3 5 rfl rfl)
theorem dX14_gatherBits_78 : decode cX14_gatherBits 78 = .ok (.iaload, 1) := dk_46 (dk_at dksX14_gatherBits_3 6 rfl rfl)
theorem dX14_gatherBits_79 : decode cX14_gatherBits 79 = .ok (.isub, 1) := dk_100 (dk_at dksX14_gatherBits_3 7 rfl rfl)
theorem dX14_gatherBits_80 : decode cX14_gatherBits 80 = .ok (.istore 6, 2) := dk_54 6 (dk_at dksX14_gatherBits_3 8 rfl rfl)
theorem dX14_gatherBits_82 : decode cX14_gatherBits 82 = .ok (.iload 6, 2) := dk_21 6 (dk_at dksX14_gatherBits_3 10 rfl rfl)
theorem dX14_gatherBits_84 : decode cX14_gatherBits 84 = .ok (.ifCond .le 17, 3) := dk_158 0 17 (dk_at dksX14_gatherBits_3 12 rfl rfl)
theorem dX14_gatherBits_87 : decode cX14_gatherBits 87 = .ok (.aload_n 0, 1) := dk_42 (dk_at dksX14_gatherBits_3 15 rfl rfl)
theorem dX14_gatherBits_88 : decode cX14_gatherBits 88 = .ok (.getfield 269, 3) := dk_180 1 13 (dk_at dksX14_gatherBits_3 16 rfl rfl)
theorem dX14_gatherBits_91 : decode cX14_gatherBits 91 = .ok (.aload_n 0, 1) := dk_42 (dk_at dksX14_gatherBits_3 19 rfl rfl)
theorem dX14_gatherBits_92 : decode cX14_gatherBits 92 = .ok (.getfield 284, 3) := dk_180 1 28 (dk_at dksX14_gatherBits_3 20 rfl rfl)
theorem dX14_gatherBits_95 : decode cX14_gatherBits 95 = .ok (.iload_n 2, 1) := dk_28 (dk_at dksX14_gatherBits_3 23 rfl rfl)
theorem dX14_gatherBits_96 : decode cX14_gatherBits 96 = .ok (.iaload, 1) := dk_46 (dk_at dksX14_gatherBits_4 0 rfl rfl)
theorem dX14_gatherBits_97 : decode cX14_gatherBits 97 = .ok (.iaload, 1) := dk_46 (dk_at dksX14_gatherBits_4 1 rfl rfl)
theorem dX14_gatherBits_98 : decode cX14_gatherBits 98 = .ok (.goto 5, 3) := dk_167 0 5 (dk_at dksX14_gatherBits_4 2 rfl rfl)
theorem dX14_gatherBits_101 : decode cX14_gatherBits 101 = .ok (.bipush 8, 2) := dk_16 8 (dk_at dksX14_gatherBits_4 5 rfl rfl)
theorem dX14_gatherBits_103 : decode cX14_gatherBits 103 = .ok (.istore 7, 2) := dk_54 7 (dk_at dksX14_gatherBits_4 7 rfl rfl)
theorem dX14_gatherBits_105 : decode cX14_gatherBits 105 = .ok (.iload 5, 2) := dk_21 5 (dk_at dksX14_gatherBits_4 9 rfl rfl)
theorem dX14_gatherBits_107 : decode cX14_gatherBits 107 = .ok (.ifCond .ne 25, 3) := dk_154 0 25 (dk_at dksX14_gatherBits_4 11 rfl rfl)
theorem dX14_gatherBits_110 : decode cX14_gatherBits 110 = .ok (.iload 7, 2) := dk_21 7 (dk_at dksX14_gatherBits_4 14 rfl rfl)
theorem dX14_gatherBits_112 : decode cX14_gatherBits 112 = .ok (.bipush 8, 2) := dk_16 8 (dk_at dksX14_gatherBits_4 16 rfl rfl)
theorem dX14_gatherBits_114 : decode cX14_gatherBits 114 = .ok (.if_icmp .ge 18, 3) := dk_162 0 18 (dk_at dksX14_gatherBits_4 18 rfl rfl)
theorem dX14_gatherBits_117 : decode cX14_gatherBits 117 = .ok (.iload 7, 2) := dk_21 7 (dk_at dksX14_gatherBits_4 21 rfl rfl)
theorem dX14_gatherBits_119 : decode cX14_gatherBits 119 = .ok (.ifCond .eq 9, 3) := dk_153 0 9 (dk_at dksX14_gatherBits_5 0 rfl rfl)
theorem dX14_gatherBits_122 : decode cX14_gatherBits 122 = .ok (.iload 6, 2) := dk_21 6 (dk_at dksX14_gatherBits_5 3 rfl rfl)
theorem dX14_gatherBits_124 : decode cX14_gatherBits 124 = .ok (.iconst 1, 1) := dk_4 (dk_at dksX14_gatherBits_5 5 rfl rfl)
theorem dX14_gatherBits_125 : decode cX14_gatherBits 125 = .ok (.if_icmp .le 7, 3) := dk_164 0 7 (dk_at dksX14_gatherBits_5 6 rfl rfl)
theorem dX14_gatherBits_128 : decode cX14_gatherBits 128 = .ok (.iconst 1, 1) := dk_4 (dk_at dksX14_gatherBits_5 9 rfl rfl)
theorem dX14_gatherBits_129 : decode cX14_gatherBits 129 = .ok (.goto 4, 3) := dk_167 0 4 (dk_at dksX14_gatherBits_5 10 rfl rfl)
theorem dX14_gatherBits_132 : decode cX14_gatherBits 132 = .ok (.iconst 0, 1) := dk_3 (dk_at dksX14_gatherBits_5 13 rfl rfl)
theorem dX14_gatherBits_133 : decode cX14_gatherBits 133 = .ok (.istore_n 3, 1) := dk_62 (dk_at dksX14_gatherBits_5 14 rfl rfl)
theorem dX14_gatherBits_134 : decode cX14_gatherBits 134 = .ok (.iload 7, 2) := dk_21 7 (dk_at dksX14_gatherBits_5 15 rfl rfl)
theorem dX14_gatherBits_136 : decode cX14_gatherBits 136 = .ok (.ifCond .le 7, 3) := dk_158 0 7 (dk_at dksX14_gatherBits_5 17 rfl rfl)
theorem dX14_gatherBits_139 : decode cX14_gatherBits 139 = .ok (.iconst 1, 1) := dk_4 (dk_at dksX14_gatherBits_5 20 rfl rfl)
theorem dX14_gatherBits_140 : decode cX14_gatherBits 140 = .ok (.goto 4, 3) := dk_167 0 4 (dk_at dksX14_gatherBits_5 21 rfl rfl)
theorem dX14_gatherBits_143 : decode cX14_gatherBits 143 = .ok (.iconst 0, 1) := dk_3 (dk_at dksX14_gatherBits_6 0 rfl rfl)
theorem dX14_gatherBits_144 : decode cX14_gatherBits 144 = .ok (.istore 5, 2) := dk_54 5 (dk_at dksX14_gatherBits_6 1 rfl rfl)
theorem dX14_gatherBits_146 : decode cX14_gatherBits 146 = .ok (.iconst 0, 1) := dk_3 (dk_at dksX14_gatherBits_6 3 rfl rfl)
theorem dX14_gatherBits_147 : decode cX14_gatherBits 147 = .ok (.istore 8, 2) := dk_54 8 (dk_at dksX14_gatherBits_6 4 rfl rfl)
theorem dX14_gatherBits_149 : decode cX14_gatherBits 149 = .ok (.iload_n 3, 1) := dk_29 (dk_at dksX14_gatherBits_6 6 rfl rfl)
theorem dX14_gatherBits_150 : decode cX14_gatherBits 150 = .ok (.ifCond .eq 58, 3) := dk_153 0 58 (dk_at dksX14_gatherBits_6 7 rfl rfl)
theorem dX14_gatherBits_153 : decode cX14_gatherBits 153 = .ok (.iload 8, 2) := dk_21 8 (dk_at dksX14_gatherBits_6 10 rfl rfl)
theorem dX14_gatherBits_155 : decode cX14_gatherBits 155 = .ok (.bipush 8, 2) := dk_16 8 (dk_at dksX14_gatherBits_6 12 rfl rfl)
theorem dX14_gatherBits_157 : decode cX14_gatherBits 157 = .ok (.iload 6, 2) := dk_21 6 (dk_at dksX14_gatherBits_6 14 rfl rfl)
theorem dX14_gatherBits_159 : decode cX14_gatherBits 159 = .ok (.iconst 1, 1) := dk_4 (dk_at dksX14_gatherBits_6 16 rfl rfl)
theorem dX14_gatherBits_160 : decode cX14_gatherBits 160 = .ok (.isub, 1) := dk_100 (dk_at dksX14_gatherBits_6 17 rfl rfl)
theorem dX14_gatherBits_161 : decode cX14_gatherBits 161 = .ok (.imul, 1) := dk_104 (dk_at dksX14_gatherBits_6 18 rfl rfl)
theorem dX14_gatherBits_162 : decode cX14_gatherBits 162 = .ok (.iload 7, 2) := dk_21 7 (dk_at dksX14_gatherBits_6 19 rfl rfl)
theorem dX14_gatherBits_164 : decode cX14_gatherBits 164 = .ok (.isub, 1) := dk_100 (dk_at dksX14_gatherBits_6 21 rfl rfl)
theorem dX14_gatherBits_165 : decode cX14_gatherBits 165 = .ok (.if_icmp .ge 43, 3) := dk_162 0 43 (dk_at dksX14_gatherBits_7 0 rfl rfl)
theorem dX14_gatherBits_168 : decode cX14_gatherBits 168 = .ok (.aload_n 0, 1) := dk_42 (dk_at dksX14_gatherBits_7 3 rfl rfl)
theorem dX14_gatherBits_169 : decode cX14_gatherBits 169 = .ok (.aload_n 0, 1) := dk_42 (dk_at dksX14_gatherBits_7 4 rfl rfl)
theorem dX14_gatherBits_170 : decode cX14_gatherBits 170 = .ok (.getfield 269, 3) := dk_180 1 13 (dk_at dksX14_gatherBits_7 5 rfl rfl)
theorem dX14_gatherBits_173 : decode cX14_gatherBits 173 = .ok (.aload_n 0, 1) := dk_42 (dk_at dksX14_gatherBits_7 8 rfl rfl)
theorem dX14_gatherBits_174 : decode cX14_gatherBits 174 = .ok (.getfield 284, 3) := dk_180 1 28 (dk_at dksX14_gatherBits_7 9 rfl rfl)
theorem dX14_gatherBits_177 : decode cX14_gatherBits 177 = .ok (.iload_n 2, 1) := dk_28 (dk_at dksX14_gatherBits_7 12 rfl rfl)
theorem dX14_gatherBits_178 : decode cX14_gatherBits 178 = .ok (.iaload, 1) := dk_46 (dk_at dksX14_gatherBits_7 13 rfl rfl)
theorem dX14_gatherBits_179 : decode cX14_gatherBits 179 = .ok (.iconst 1, 1) := dk_4 (dk_at dksX14_gatherBits_7 14 rfl rfl)
theorem dX14_gatherBits_180 : decode cX14_gatherBits 180 = .ok (.iadd, 1) := dk_96 (dk_at dksX14_gatherBits_7 15 rfl rfl)
theorem dX14_gatherBits_181 : decode cX14_gatherBits 181 = .ok (.iload 8, 2) := dk_21 8 (dk_at dksX14_gatherBits_7 16 rfl rfl)
theorem dX14_gatherBits_183 : decode cX14_gatherBits 183 = .ok (.bipush 8, 2) := dk_16 8 (dk_at dksX14_gatherBits_7 18 rfl rfl)
theorem dX14_gatherBits_185 : decode cX14_gatherBits 185 = .ok (.idiv, 1) := dk_108 (dk_at dksX14_gatherBits_7 20 rfl rfl)
theorem dX14_gatherBits_186 : decode cX14_gatherBits 186 = .ok (.iadd, 1) := dk_96 (dk_at dksX14_gatherBits_7 21 rfl rfl)
theorem dX14_gatherBits_187 : decode cX14_gatherBits 187 = .ok (.iaload, 1) := dk_46 (dk_at dksX14_gatherBits_7 22 rfl rfl)
theorem dX14_gatherBits_188 : decode cX14_gatherBits 188 = .ok (.bipush 7, 2) := dk_16 7 (dk_at dksX14_gatherBits_8 0 rfl rfl)
theorem dX14_gatherBits_190 : decode cX14_gatherBits 190 = .ok (.iload 8, 2) := dk_21 8 (dk_at dksX14_gatherBits_8 2 rfl rfl)
theorem dX14_gatherBits_192 : decode cX14_gatherBits 192 = .ok (.bipush 8, 2) := dk_16 8 (dk_at dksX14_gatherBits_8 4 rfl rfl)
theorem dX14_gatherBits_194 : decode cX14_gatherBits 194 = .ok (.irem, 1) := dk_112 (dk_at dksX14_gatherBits_8 6 rfl rfl)
theorem dX14_gatherBits_195 : decode cX14_gatherBits 195 = .ok (.isub, 1) := dk_100 (dk_at dksX14_gatherBits_8 7 rfl rfl)
theorem dX14_gatherBits_196 : decode cX14_gatherBits 196 = .ok (.ishr, 1) := dk_122 (dk_at dksX14_gatherBits_8 8 rfl rfl)
theorem dX14_gatherBits_197 : decode cX14_gatherBits 197 = .ok (.iconst 1, 1) := dk_4 (dk_at dksX14_gatherBits_8 9 rfl rfl)
theorem dX14_gatherBits_198 : decode cX14_gatherBits 198 = .ok (.iand, 1) := dk_126 (dk_at dksX14_gatherBits_8 10 rfl rfl)
theorem dX14_gatherBits_199 : decode cX14_gatherBits 199 = .ok (.invokevirtual 700, 3) := dk_182 2 188 (dk_at dksX14_gatherBits_8 11 rfl rfl)
theorem dX14_gatherBits_202 : decode cX14_gatherBits 202 = .ok (.iinc 8 1, 3) := dk_132 8 1 (dk_at dksX14_gatherBits_8 14 rfl rfl)
theorem dX14_gatherBits_205 : decode cX14_gatherBits 205 = .ok (.goto (-56), 3) := dk_167 255 200 (dk_at dksX14_gatherBits_8 17 rfl rfl)
theorem dX14_gatherBits_208 : decode cX14_gatherBits 208 = .ok (.aload_n 0, 1) := dk_42 (dk_at dksX14_gatherBits_8 20 rfl rfl)
theorem dX14_gatherBits_209 : decode cX14_gatherBits 209 = .ok (.getfield 296, 3) := dk_180 1 40 (dk_at dksX14_gatherBits_8 21 rfl rfl)
theorem dX14_gatherBits_212 : decode cX14_gatherBits 212 = .ok (.iload_n 2, 1) := dk_28 (dk_at dksX14_gatherBits_9 0 rfl rfl)
theorem dX14_gatherBits_213 : decode cX14_gatherBits 213 = .ok (.iaload, 1) := dk_46 (dk_at dksX14_gatherBits_9 1 rfl rfl)
theorem dX14_gatherBits_214 : decode cX14_gatherBits 214 = .ok (.ifCond .lt 13, 3) := dk_155 0 13 (dk_at dksX14_gatherBits_9 2 rfl rfl)
theorem dX14_gatherBits_217 : decode cX14_gatherBits 217 = .ok (.aload_n 0, 1) := dk_42 (dk_at dksX14_gatherBits_9 5 rfl rfl)
theorem dX14_gatherBits_218 : decode cX14_gatherBits 218 = .ok (.getfield 296, 3) := dk_180 1 40 (dk_at dksX14_gatherBits_9 6 rfl rfl)
theorem dX14_gatherBits_221 : decode cX14_gatherBits 221 = .ok (.iload_n 2, 1) := dk_28 (dk_at dksX14_gatherBits_9 9 rfl rfl)
theorem dX14_gatherBits_222 : decode cX14_gatherBits 222 = .ok (.iaload, 1) := dk_46 (dk_at dksX14_gatherBits_9 10 rfl rfl)
theorem dX14_gatherBits_223 : decode cX14_gatherBits 223 = .ok (.istore_n 2, 1) := dk_61 (dk_at dksX14_gatherBits_9 11 rfl rfl)
theorem dX14_gatherBits_224 : decode cX14_gatherBits 224 = .ok (.goto (-209), 3) := dk_167 255 47 (dk_at dksX14_gatherBits_9 12 rfl rfl)
theorem dX14_gatherBits_227 : decode cX14_gatherBits 227 = .ok (.iload_n 2, 1) := dk_28 (dk_at dksX14_gatherBits_9 15 rfl rfl)
theorem dX14_gatherBits_228 : decode cX14_gatherBits 228 = .ok (.iload_n 1, 1) := dk_27 (dk_at dksX14_gatherBits_9 16 rfl rfl)
theorem dX14_gatherBits_229 : decode cX14_gatherBits 229 = .ok (.if_icmp .eq 22, 3) := dk_159 0 22 (dk_at dksX14_gatherBits_9 17 rfl rfl)
theorem dX14_gatherBits_232 : decode cX14_gatherBits 232 = .ok (.aload_n 0, 1) := dk_42 (dk_at dksX14_gatherBits_9 20 rfl rfl)
theorem dX14_gatherBits_233 : decode cX14_gatherBits 233 = .ok (.getfield 302, 3) := dk_180 1 46 (dk_at dksX14_gatherBits_9 21 rfl rfl)
theorem dX14_gatherBits_236 : decode cX14_gatherBits 236 = .ok (.iload_n 2, 1) := dk_28 (dk_at dksX14_gatherBits_10 0 rfl rfl)
theorem dX14_gatherBits_237 : decode cX14_gatherBits 237 = .ok (.iaload, 1) := dk_46 (dk_at dksX14_gatherBits_10 1 rfl rfl)
theorem dX14_gatherBits_238 : decode cX14_gatherBits 238 = .ok (.ifCond .ge 13, 3) := dk_156 0 13 (dk_at dksX14_gatherBits_10 2 rfl rfl)
theorem dX14_gatherBits_241 : decode cX14_gatherBits 241 = .ok (.aload_n 0, 1) := dk_42 (dk_at dksX14_gatherBits_10 5 rfl rfl)
theorem dX14_gatherBits_242 : decode cX14_gatherBits 242 = .ok (.getfield 293, 3) := dk_180 1 37 (dk_at dksX14_gatherBits_10 6 rfl rfl)
theorem dX14_gatherBits_245 : decode cX14_gatherBits 245 = .ok (.iload_n 2, 1) := dk_28 (dk_at dksX14_gatherBits_10 9 rfl rfl)
theorem dX14_gatherBits_246 : decode cX14_gatherBits 246 = .ok (.iaload, 1) := dk_46 (dk_at dksX14_gatherBits_10 10 rfl rfl)
theorem dX14_gatherBits_247 : decode cX14_gatherBits 247 = .ok (.istore_n 2, 1) := dk_61 (dk_at dksX14_gatherBits_10 11 rfl rfl)
theorem dX14_gatherBits_248 : decode cX14_gatherBits 248 = .ok (.goto (-21), 3) := dk_167 255 235 (dk_at dksX14_gatherBits_10 12 rfl rfl)
theorem dX14_gatherBits_251 : decode cX14_gatherBits 251 = .ok (.iload_n 2, 1) := dk_28 (dk_at dksX14_gatherBits_10 15 rfl rfl)
theorem dX14_gatherBits_252 : decode cX14_gatherBits 252 = .ok (.iload_n 1, 1) := dk_27 (dk_at dksX14_gatherBits_10 16 rfl rfl)
theorem dX14_gatherBits_253 : decode cX14_gatherBits 253 = .ok (.if_icmp .ne 9, 3) := dk_160 0 9 (dk_at dksX14_gatherBits_10 17 rfl rfl)
theorem dX14_gatherBits_256 : decode cX14_gatherBits 256 = .ok (.iconst 1, 1) := dk_4 (dk_at dksX14_gatherBits_10 20 rfl rfl)
theorem dX14_gatherBits_257 : decode cX14_gatherBits 257 = .ok (.istore 4, 2) := dk_54 4 (dk_at dksX14_gatherBits_10 21 rfl rfl)
theorem dX14_gatherBits_259 : decode cX14_gatherBits 259 = .ok (.goto (-244), 3) := dk_167 255 12 (dk_at dksX14_gatherBits_11 0 rfl rfl)
theorem dX14_gatherBits_262 : decode cX14_gatherBits 262 = .ok (.aload_n 0, 1) := dk_42 (dk_at dksX14_gatherBits_11 3 rfl rfl)
theorem dX14_gatherBits_263 : decode cX14_gatherBits 263 = .ok (.getfield 302, 3) := dk_180 1 46 (dk_at dksX14_gatherBits_11 4 rfl rfl)
theorem dX14_gatherBits_266 : decode cX14_gatherBits 266 = .ok (.iload_n 2, 1) := dk_28 (dk_at dksX14_gatherBits_11 7 rfl rfl)
theorem dX14_gatherBits_267 : decode cX14_gatherBits 267 = .ok (.iaload, 1) := dk_46 (dk_at dksX14_gatherBits_11 8 rfl rfl)
theorem dX14_gatherBits_268 : decode cX14_gatherBits 268 = .ok (.istore_n 2, 1) := dk_61 (dk_at dksX14_gatherBits_11 9 rfl rfl)
theorem dX14_gatherBits_269 : decode cX14_gatherBits 269 = .ok (.goto (-254), 3) := dk_167 255 2 (dk_at dksX14_gatherBits_11 10 rfl rfl)
theorem dX14_gatherBits_272 : decode cX14_gatherBits 272 = .ok (.iload_n 3, 1) := dk_29 (dk_at dksX14_gatherBits_11 13 rfl rfl)
theorem dX14_gatherBits_273 : decode cX14_gatherBits 273 = .ok (.ireturn, 1) := dk_172 (dk_at dksX14_gatherBits_11 14 rfl rfl)
abbrev cX14_gatherParts : ByteArray := prog_15_method_155_code
def yX14_gatherParts : MethodName := ⟨RX14, "gatherParts", "(II)Z"⟩
def dkwX14_gatherParts_7 : List UInt8 := [167, 255, 104, 21, 4, 172]
abbrev dktX14_gatherParts_7 : List UInt8 := dkwX14_gatherParts_7 ++ []
def dkwX14_gatherParts_6 : List UInt8 := [62, 167, 255, 235, 29, 27, 160, 0, 9, 4, 54, 5, 167, 255, 114, 42, 180, 1, 46, 29, 46, 62]
abbrev dktX14_gatherParts_6 : List UInt8 := dkwX14_gatherParts_6 ++ dktX14_gatherParts_7
def dkwX14_gatherParts_5 : List UInt8 := [62, 167, 255, 149, 29, 27, 159, 0, 22, 42, 180, 1, 46, 29, 46, 156, 0, 13, 42, 180, 1, 37, 29, 46]
abbrev dktX14_gatherParts_5 : List UInt8 := dkwX14_gatherParts_5 ++ dktX14_gatherParts_6
def dkwX14_gatherParts_4 : List UInt8 := [182, 2, 176, 132, 6, 1, 167, 255, 231, 42, 180, 1, 40, 29, 46, 155, 0, 13, 42, 180, 1, 40, 29, 46]
abbrev dktX14_gatherParts_4 : List UInt8 := dkwX14_gatherParts_4 ++ dktX14_gatherParts_5
def dkwX14_gatherParts_3 : List UInt8 := [29, 46, 54, 6, 21, 6, 42, 180, 1, 31, 29, 46, 162, 0, 20, 42, 42, 180, 1, 13, 21, 6, 46]
abbrev dktX14_gatherParts_3 : List UInt8 := dkwX14_gatherParts_3 ++ dktX14_gatherParts_4
def dkwX14_gatherParts_2 : List UInt8 := [167, 0, 4, 3, 54, 4, 21, 4, 153, 0, 48, 42, 180, 1, 22, 29, 51, 154, 0, 39, 42, 180, 1, 28]
abbrev dktX14_gatherParts_2 : List UInt8 := dkwX14_gatherParts_2 ++ dktX14_gatherParts_3
def dkwX14_gatherParts_1 : List UInt8 := [27, 159, 0, 29, 42, 180, 1, 19, 29, 46, 154, 0, 17, 42, 180, 1, 25, 29, 46, 28, 160, 0, 7, 4]
abbrev dktX14_gatherParts_1 : List UInt8 := dkwX14_gatherParts_1 ++ dktX14_gatherParts_2
def dkwX14_gatherParts_0 : List UInt8 := [42, 3, 181, 2, 170, 27, 62, 4, 54, 4, 3, 54, 5, 21, 5, 154, 0, 153, 21, 4, 153, 0, 148, 29]
abbrev dktX14_gatherParts_0 : List UInt8 := dkwX14_gatherParts_0 ++ dktX14_gatherParts_1
theorem dksX14_gatherParts_0 : cX14_gatherParts.data.toList.drop 0 = dktX14_gatherParts_0 := by decide +kernel
theorem dksX14_gatherParts_1 : cX14_gatherParts.data.toList.drop 24 = dktX14_gatherParts_1 := dk_seg dksX14_gatherParts_0 24 rfl rfl
theorem dksX14_gatherParts_2 : cX14_gatherParts.data.toList.drop 48 = dktX14_gatherParts_2 := dk_seg dksX14_gatherParts_1 24 rfl rfl
theorem dksX14_gatherParts_3 : cX14_gatherParts.data.toList.drop 72 = dktX14_gatherParts_3 := dk_seg dksX14_gatherParts_2 24 rfl rfl
theorem dksX14_gatherParts_4 : cX14_gatherParts.data.toList.drop 95 = dktX14_gatherParts_4 := dk_seg dksX14_gatherParts_3 23 rfl rfl
theorem dksX14_gatherParts_5 : cX14_gatherParts.data.toList.drop 119 = dktX14_gatherParts_5 := dk_seg dksX14_gatherParts_4 24 rfl rfl
theorem dksX14_gatherParts_6 : cX14_gatherParts.data.toList.drop 143 = dktX14_gatherParts_6 := dk_seg dksX14_gatherParts_5 24 rfl rfl
theorem dksX14_gatherParts_7 : cX14_gatherParts.data.toList.drop 165 = dktX14_gatherParts_7 := dk_seg dksX14_gatherParts_6 22 rfl rfl
theorem dX14_gatherParts_0 : decode cX14_gatherParts 0 = .ok (.aload_n 0, 1) := dk_42 (dk_at dksX14_gatherParts_0 0 rfl rfl)
theorem dX14_gatherParts_1 : decode cX14_gatherParts 1 = .ok (.iconst 0, 1) := dk_3 (dk_at dksX14_gatherParts_0 1 rfl rfl)
theorem dX14_gatherParts_2 : decode cX14_gatherParts 2 = .ok (.putfield 682, 3) := dk_181 2 170 (dk_at dksX14_gatherParts_0 2 rfl rfl)
theorem dX14_gatherParts_5 : decode cX14_gatherParts 5 = .ok (.iload_n 1, 1) := dk_27 (dk_at dksX14_gatherParts_0 5 rfl rfl)
theorem dX14_gatherParts_6 : decode cX14_gatherParts 6 = .ok (.istore_n 3, 1) := dk_62 (dk_at dksX14_gatherParts_0 6 rfl rfl)
theorem dX14_gatherParts_7 : decode cX14_gatherParts 7 = .ok (.iconst 1, 1) := dk_4 (dk_at dksX14_gatherParts_0 7 rfl rfl)
theorem dX14_gatherParts_8 : decode cX14_gatherParts 8 = .ok (.istore 4, 2) := dk_54 4 (dk_at dksX14_gatherParts_0 8 rfl rfl)
theorem dX14_gatherParts_10 : decode cX14_gatherParts 10 = .ok (.iconst 0, 1) := dk_3 (dk_at dksX14_gatherParts_0 10 rfl rfl)
theorem dX14_gatherParts_11 : decode cX14_gatherParts 11 = .ok (.istore 5, 2) := dk_54 5 (dk_at dksX14_gatherParts_0 11 rfl rfl)
theorem dX14_gatherParts_13 : decode cX14_gatherParts 13 = .ok (.iload 5, 2) := dk_21 5 (dk_at dksX14_gatherParts_0 13 rfl rfl)
theorem dX14_gatherParts_15 : decode cX14_gatherParts 15 = .ok (.ifCond .ne 153, 3) := dk_154 0 153 (dk_at dksX14_gatherParts_0 15 rfl rfl)
theorem dX14_gatherParts_18 : decode cX14_gatherParts 18 = .ok (.iload 4, 2) := dk_21 4 (dk_at dksX14_gatherParts_0 18 rfl rfl)
theorem dX14_gatherParts_20 : decode cX14_gatherParts 20 = .ok (.ifCond .eq 148, 3) := dk_153 0 148 (dk_at dksX14_gatherParts_0 20 rfl rfl)
theorem dX14_gatherParts_23 : decode cX14_gatherParts 23 = .ok (.iload_n 3, 1) := dk_29 (dk_at dksX14_gatherParts_0 23 rfl rfl)
theorem dX14_gatherParts_24 : decode cX14_gatherParts 24 = .ok (.iload_n 1, 1) := dk_27 (dk_at dksX14_gatherParts_1 0 rfl rfl)
theorem dX14_gatherParts_25 : decode cX14_gatherParts 25 = .ok (.if_icmp .eq 29, 3) := dk_159 0 29 (dk_at dksX14_gatherParts_1 1 rfl rfl)
theorem dX14_gatherParts_28 : decode cX14_gatherParts 28 = .ok (.aload_n 0, 1) := dk_42 (dk_at dksX14_gatherParts_1 4 rfl rfl)
theorem dX14_gatherParts_29 : decode cX14_gatherParts 29 = .ok (.getfield 275, 3) := dk_180 1 19 (dk_at dksX14_gatherParts_1 5 rfl rfl)
theorem dX14_gatherParts_32 : decode cX14_gatherParts 32 = .ok (.iload_n 3, 1) := dk_29 (dk_at dksX14_gatherParts_1 8 rfl rfl)
theorem dX14_gatherParts_33 : decode cX14_gatherParts 33 = .ok (.iaload, 1) := dk_46 (dk_at dksX14_gatherParts_1 9 rfl rfl)
theorem dX14_gatherParts_34 : decode cX14_gatherParts 34 = .ok (.ifCond .ne 17, 3) := dk_154 0 17 (dk_at dksX14_gatherParts_1 10 rfl rfl)
theorem dX14_gatherParts_37 : decode cX14_gatherParts 37 = .ok (.aload_n 0, 1) := dk_42 (dk_at dksX14_gatherParts_1 13 rfl rfl)
theorem dX14_gatherParts_38 : decode cX14_gatherParts 38 = .ok (.getfield 281, 3) := dk_180 1 25 (dk_at dksX14_gatherParts_1 14 rfl rfl)
theorem dX14_gatherParts_41 : decode cX14_gatherParts 41 = .ok (.iload_n 3, 1) := dk_29 (dk_at dksX14_gatherParts_1 17 rfl rfl)
theorem dX14_gatherParts_42 : decode cX14_gatherParts 42 = .ok (.iaload, 1) := dk_46 (dk_at dksX14_gatherParts_1 18 rfl rfl)
theorem dX14_gatherParts_43 : decode cX14_gatherParts 43 = .ok (.iload_n 2, 1) := dk_28 (dk_at dksX14_gatherParts_1 19 rfl rfl)
theorem dX14_gatherParts_44 : decode cX14_gatherParts 44 = .ok (.if_icmp .ne 7, 3) := dk_160 0 7 (dk_at dksX14_gatherParts_1 20 rfl rfl)
theorem dX14_gatherParts_47 : decode cX14_gatherParts 47 = .ok (.iconst 1, 1) := dk_4 (dk_at dksX14_gatherParts_1 23 rfl rfl)
theorem dX14_gatherParts_48 : decode cX14_gatherParts 48 = .ok (.goto 4, 3) := dk_167 0 4 (dk_at dksX14_gatherParts_2 0 rfl rfl)
theorem dX14_gatherParts_51 : decode cX14_gatherParts 51 = .ok (.iconst 0, 1) := dk_3 (dk_at dksX14_gatherParts_2 3 rfl rfl)
theorem dX14_gatherParts_52 : decode cX14_gatherParts 52 = .ok (.istore 4, 2) := dk_54 4 (dk_at dksX14_gatherParts_2 4 rfl rfl)
theorem dX14_gatherParts_54 : decode cX14_gatherParts 54 = .ok (.iload 4, 2) := dk_21 4 (dk_at dksX14_gatherParts_2 6 rfl rfl)
theorem dX14_gatherParts_56 : decode cX14_gatherParts 56 = .ok (.ifCond .eq 48, 3) := dk_153 0 48 (dk_at dksX14_gatherParts_2 8 rfl rfl)
theorem dX14_gatherParts_59 : decode cX14_gatherParts 59 = .ok (.aload_n 0, 1) := dk_42 (dk_at dksX14_gatherParts_2 11 rfl rfl)
theorem dX14_gatherParts_60 : decode cX14_gatherParts 60 = .ok (.getfield 278, 3) := dk_180 1 22 (dk_at dksX14_gatherParts_2 12 rfl rfl)
theorem dX14_gatherParts_63 : decode cX14_gatherParts 63 = .ok (.iload_n 3, 1) := dk_29 (dk_at dksX14_gatherParts_2 15 rfl rfl)
theorem dX14_gatherParts_64 : decode cX14_gatherParts 64 = .ok (.baload, 1) := dk_51 (dk_at dksX14_gatherParts_2 16 rfl rfl)
theorem dX14_gatherParts_65 : decode cX14_gatherParts 65 = .ok (.ifCond .ne 39, 3) := dk_154 0 39 (dk_at dksX14_gatherParts_2 17 rfl rfl)
theorem dX14_gatherParts_68 : decode cX14_gatherParts 68 = .ok (.aload_n 0, 1) := dk_42 (dk_at dksX14_gatherParts_2 20 rfl rfl)
theorem dX14_gatherParts_69 : decode cX14_gatherParts 69 = .ok (.getfield 284, 3) := dk_180 1 28 (dk_at dksX14_gatherParts_2 21 rfl rfl)
theorem dX14_gatherParts_72 : decode cX14_gatherParts 72 = .ok (.iload_n 3, 1) := dk_29 (dk_at dksX14_gatherParts_3 0 rfl rfl)
theorem dX14_gatherParts_73 : decode cX14_gatherParts 73 = .ok (.iaload, 1) := dk_46 (dk_at dksX14_gatherParts_3 1 rfl rfl)
theorem dX14_gatherParts_74 : decode cX14_gatherParts 74 = .ok (.istore 6, 2) := dk_54 6 (dk_at dksX14_gatherParts_3 2 rfl rfl)
theorem dX14_gatherParts_76 : decode cX14_gatherParts 76 = .ok (.iload 6, 2) := dk_21 6 (dk_at dksX14_gatherParts_3 4 rfl rfl)
theorem dX14_gatherParts_78 : decode cX14_gatherParts 78 = .ok (.aload_n 0, 1) := dk_42 (dk_at dksX14_gatherParts_3 6 rfl rfl)
theorem dX14_gatherParts_79 : decode cX14_gatherParts 79 = .ok (.getfield 287, 3) := dk_180 1 31 (dk_at dksX14_gatherParts_3 7 rfl rfl)
theorem dX14_gatherParts_82 : decode cX14_gatherParts 82 = .ok (.iload_n 3, 1) := dk_29 (dk_at dksX14_gatherParts_3 10 rfl rfl)
theorem dX14_gatherParts_83 : decode cX14_gatherParts 83 = .ok (.iaload, 1) := dk_46 (dk_at dksX14_gatherParts_3 11 rfl rfl)
theorem dX14_gatherParts_84 : decode cX14_gatherParts 84 = .ok (.if_icmp .ge 20, 3) := dk_162 0 20 (dk_at dksX14_gatherParts_3 12 rfl rfl)
theorem dX14_gatherParts_87 : decode cX14_gatherParts 87 = .ok (.aload_n 0, 1) := dk_42 (dk_at dksX14_gatherParts_3 15 rfl rfl)
theorem dX14_gatherParts_88 : decode cX14_gatherParts 88 = .ok (.aload_n 0, 1) := dk_42 (dk_at dksX14_gatherParts_3 16 rfl rfl)
theorem dX14_gatherParts_89 : decode cX14_gatherParts 89 = .ok (.getfield 269, 3) := dk_180 1 13 (dk_at dksX14_gatherParts_3 17 rfl rfl)
theorem dX14_gatherParts_92 : decode cX14_gatherParts 92 = .ok (.iload 6, 2) := dk_21 6 (dk_at dksX14_gatherParts_3 20 rfl rfl)
theorem dX14_gatherParts_94 : decode cX14_gatherParts 94 = .ok (.iaload, 1) := dk_46 (dk_at dksX14_gatherParts_3 22 rfl rfl)
theorem dX14_gatherParts_95 : decode cX14_gatherParts 95 = .ok (.invokevirtual 688, 3) := dk_182 2 176 (dk_at dksX14_gatherParts_4 0 rfl rfl)
theorem dX14_gatherParts_98 : decode cX14_gatherParts 98 = .ok (.iinc 6 1, 3) := dk_132 6 1 (dk_at dksX14_gatherParts_4 3 rfl rfl)
theorem dX14_gatherParts_101 : decode cX14_gatherParts 101 = .ok (.goto (-25), 3) := dk_167 255 231 (dk_at dksX14_gatherParts_4 6 rfl rfl)
theorem dX14_gatherParts_104 : decode cX14_gatherParts 104 = .ok (.aload_n 0, 1) := dk_42 (dk_at dksX14_gatherParts_4 9 rfl rfl)
theorem dX14_gatherParts_105 : decode cX14_gatherParts 105 = .ok (.getfield 296, 3) := dk_180 1 40 (dk_at dksX14_gatherParts_4 10 rfl rfl)
theorem dX14_gatherParts_108 : decode cX14_gatherParts 108 = .ok (.iload_n 3, 1) := dk_29 (dk_at dksX14_gatherParts_4 13 rfl rfl)
theorem dX14_gatherParts_109 : decode cX14_gatherParts 109 = .ok (.iaload, 1) := dk_46 (dk_at dksX14_gatherParts_4 14 rfl rfl)
theorem dX14_gatherParts_110 : decode cX14_gatherParts 110 = .ok (.ifCond .lt 13, 3) := dk_155 0 13 (dk_at dksX14_gatherParts_4 15 rfl rfl)
theorem dX14_gatherParts_113 : decode cX14_gatherParts 113 = .ok (.aload_n 0, 1) := dk_42 (dk_at dksX14_gatherParts_4 18 rfl rfl)
theorem dX14_gatherParts_114 : decode cX14_gatherParts 114 = .ok (.getfield 296, 3) := dk_180 1 40 (dk_at dksX14_gatherParts_4 19 rfl rfl)
theorem dX14_gatherParts_117 : decode cX14_gatherParts 117 = .ok (.iload_n 3, 1) := dk_29 (dk_at dksX14_gatherParts_4 22 rfl rfl)
theorem dX14_gatherParts_118 : decode cX14_gatherParts 118 = .ok (.iaload, 1) := dk_46 (dk_at dksX14_gatherParts_4 23 rfl rfl)
theorem dX14_gatherParts_119 : decode cX14_gatherParts 119 = .ok (.istore_n 3, 1) := dk_62 (dk_at dksX14_gatherParts_5 0 rfl rfl)
theorem dX14_gatherParts_120 : decode cX14_gatherParts 120 = .ok (.goto (-107), 3) := dk_167 255 149 (dk_at dksX14_gatherParts_5 1 rfl rfl)
theorem dX14_gatherParts_123 : decode cX14_gatherParts 123 = .ok (.iload_n 3, 1) := dk_29 (dk_at dksX14_gatherParts_5 4 rfl rfl)
theorem dX14_gatherParts_124 : decode cX14_gatherParts 124 = .ok (.iload_n 1, 1) := dk_27 (dk_at dksX14_gatherParts_5 5 rfl rfl)
theorem dX14_gatherParts_125 : decode cX14_gatherParts 125 = .ok (.if_icmp .eq 22, 3) := dk_159 0 22 (dk_at dksX14_gatherParts_5 6 rfl rfl)
theorem dX14_gatherParts_128 : decode cX14_gatherParts 128 = .ok (.aload_n 0, 1) := dk_42 (dk_at dksX14_gatherParts_5 9 rfl rfl)
theorem dX14_gatherParts_129 : decode cX14_gatherParts 129 = .ok (.getfield 302, 3) := dk_180 1 46 (dk_at dksX14_gatherParts_5 10 rfl rfl)
theorem dX14_gatherParts_132 : decode cX14_gatherParts 132 = .ok (.iload_n 3, 1) := dk_29 (dk_at dksX14_gatherParts_5 13 rfl rfl)
theorem dX14_gatherParts_133 : decode cX14_gatherParts 133 = .ok (.iaload, 1) := dk_46 (dk_at dksX14_gatherParts_5 14 rfl rfl)
theorem dX14_gatherParts_134 : decode cX14_gatherParts 134 = .ok (.ifCond .ge 13, 3) := dk_156 0 13 (dk_at dksX14_gatherParts_5 15 rfl rfl)
theorem dX14_gatherParts_137 : decode cX14_gatherParts 137 = .ok (.aload_n 0, 1) := dk_42 (dk_at dksX14_gatherParts_5 18 rfl rfl)
theorem dX14_gatherParts_138 : decode cX14_gatherParts 138 = .ok (.getfield 293, 3) := dk_180 1 37 (dk_at dksX14_gatherParts_5 19 rfl rfl)
theorem dX14_gatherParts_141 : decode cX14_gatherParts 141 = .ok (.iload_n 3, 1) := dk_29 (dk_at dksX14_gatherParts_5 22 rfl rfl)
theorem dX14_gatherParts_142 : decode cX14_gatherParts 142 = .ok (.iaload, 1) := dk_46 (dk_at dksX14_gatherParts_5 23 rfl rfl)
theorem dX14_gatherParts_143 : decode cX14_gatherParts 143 = .ok (.istore_n 3, 1) := dk_62 (dk_at dksX14_gatherParts_6 0 rfl rfl)
theorem dX14_gatherParts_144 : decode cX14_gatherParts 144 = .ok (.goto (-21), 3) := dk_167 255 235 (dk_at dksX14_gatherParts_6 1 rfl rfl)
theorem dX14_gatherParts_147 : decode cX14_gatherParts 147 = .ok (.iload_n 3, 1) := dk_29 (dk_at dksX14_gatherParts_6 4 rfl rfl)
theorem dX14_gatherParts_148 : decode cX14_gatherParts 148 = .ok (.iload_n 1, 1) := dk_27 (dk_at dksX14_gatherParts_6 5 rfl rfl)
theorem dX14_gatherParts_149 : decode cX14_gatherParts 149 = .ok (.if_icmp .ne 9, 3) := dk_160 0 9 (dk_at dksX14_gatherParts_6 6 rfl rfl)
theorem dX14_gatherParts_152 : decode cX14_gatherParts 152 = .ok (.iconst 1, 1) := dk_4 (dk_at dksX14_gatherParts_6 9 rfl rfl)
theorem dX14_gatherParts_153 : decode cX14_gatherParts 153 = .ok (.istore 5, 2) := dk_54 5 (dk_at dksX14_gatherParts_6 10 rfl rfl)
theorem dX14_gatherParts_155 : decode cX14_gatherParts 155 = .ok (.goto (-142), 3) := dk_167 255 114 (dk_at dksX14_gatherParts_6 12 rfl rfl)
theorem dX14_gatherParts_158 : decode cX14_gatherParts 158 = .ok (.aload_n 0, 1) := dk_42 (dk_at dksX14_gatherParts_6 15 rfl rfl)
theorem dX14_gatherParts_159 : decode cX14_gatherParts 159 = .ok (.getfield 302, 3) := dk_180 1 46 (dk_at dksX14_gatherParts_6 16 rfl rfl)
theorem dX14_gatherParts_162 : decode cX14_gatherParts 162 = .ok (.iload_n 3, 1) := dk_29 (dk_at dksX14_gatherParts_6 19 rfl rfl)
theorem dX14_gatherParts_163 : decode cX14_gatherParts 163 = .ok (.iaload, 1) := dk_46 (dk_at dksX14_gatherParts_6 20 rfl rfl)
theorem dX14_gatherParts_164 : decode cX14_gatherParts 164 = .ok (.istore_n 3, 1) := dk_62 (dk_at dksX14_gatherParts_6 21 rfl rfl)
theorem dX14_gatherParts_165 : decode cX14_gatherParts 165 = .ok (.goto (-152), 3) := dk_167 255 104 (dk_at dksX14_gatherParts_7 0 rfl rfl)
theorem dX14_gatherParts_168 : decode cX14_gatherParts 168 = .ok (.iload 4, 2) := dk_21 4 (dk_at dksX14_gatherParts_7 3 rfl rfl)
theorem dX14_gatherParts_170 : decode cX14_gatherParts 170 = .ok (.ireturn, 1) := dk_172 (dk_at dksX14_gatherParts_7 5 rfl rfl)
abbrev cX14_isShortest : ByteArray := prog_15_method_159_code
def yX14_isShortest : MethodName := ⟨RX14, "isShortest", "()Z"⟩
def dkwX14_isShortest_2 : List UInt8 := [160, 0, 14, 42, 180, 0, 236, 4, 46, 16, 127, 163, 0, 7, 4, 167, 0, 4, 3, 172]
abbrev dktX14_isShortest_2 : List UInt8 := dkwX14_isShortest_2 ++ []
def dkwX14_isShortest_1 : List UInt8 := [154, 0, 15, 42, 180, 0, 236, 4, 46, 17, 0, 128, 161, 0, 30, 42, 180, 0, 236, 3, 46, 17, 0, 255]
abbrev dktX14_isShortest_1 : List UInt8 := dkwX14_isShortest_1 ++ dktX14_isShortest_2
def dkwX14_isShortest_0 : List UInt8 := [42, 180, 2, 170, 4, 159, 0, 55, 42, 180, 2, 170, 4, 164, 0, 51, 42, 180, 0, 236, 3, 46]
abbrev dktX14_isShortest_0 : List UInt8 := dkwX14_isShortest_0 ++ dktX14_isShortest_1
theorem dksX14_isShortest_0 : cX14_isShortest.data.toList.drop 0 = dktX14_isShortest_0 := by decide +kernel
theorem dksX14_isShortest_1 : cX14_isShortest.data.toList.drop 22 = dktX14_isShortest_1 := dk_seg dksX14_isShortest_0 22 rfl rfl
theorem dksX14_isShortest_2 : cX14_isShortest.data.toList.drop 46 = dktX14_isShortest_2 := dk_seg dksX14_isShortest_1 24 rfl rfl
theorem dX14_isShortest_0 : decode cX14_isShortest 0 = .ok (.aload_n 0, 1) := dk_42 (dk_at dksX14_isShortest_0 0 rfl rfl)
theorem dX14_isShortest_1 : decode cX14_isShortest 1 = .ok (.getfield 682, 3) := dk_180 2 170 (dk_at dksX14_isShortest_0 1 rfl rfl)
theorem dX14_isShortest_4 : decode cX14_isShortest 4 = .ok (.iconst 1, 1) := dk_4 (dk_at dksX14_isShortest_0 4 rfl rfl)
theorem dX14_isShortest_5 : decode cX14_isShortest 5 = .ok (.if_icmp .eq 55, 3) := dk_159 0 55 (dk_at dksX14_isShortest_0 5 rfl rfl)
theorem dX14_isShortest_8 : decode cX14_isShortest 8 = .ok (.aload_n 0, 1) := dk_42 (dk_at dksX14_isShortest_0 8 rfl rfl)
theorem dX14_isShortest_9 : decode cX14_isShortest 9 = .ok (.getfield 682, 3) := dk_180 2 170 (dk_at dksX14_isShortest_0 9 rfl rfl)
theorem dX14_isShortest_12 : decode cX14_isShortest 12 = .ok (.iconst 1, 1) := dk_4 (dk_at dksX14_isShortest_0 12 rfl rfl)
theorem dX14_isShortest_13 : decode cX14_isShortest 13 = .ok (.if_icmp .le 51, 3) := dk_164 0 51 (dk_at dksX14_isShortest_0 13 rfl rfl)
theorem dX14_isShortest_16 : decode cX14_isShortest 16 = .ok (.aload_n 0, 1) := dk_42 (dk_at dksX14_isShortest_0 16 rfl rfl)
theorem dX14_isShortest_17 : decode cX14_isShortest 17 = .ok (.getfield 236, 3) := dk_180 0 236 (dk_at dksX14_isShortest_0 17 rfl rfl)
theorem dX14_isShortest_20 : decode cX14_isShortest 20 = .ok (.iconst 0, 1) := dk_3 (dk_at dksX14_isShortest_0 20 rfl rfl)
theorem dX14_isShortest_21 : decode cX14_isShortest 21 = .ok (.iaload, 1) := dk_46 (dk_at dksX14_isShortest_0 21 rfl rfl)
theorem dX14_isShortest_22 : decode cX14_isShortest 22 = .ok (.ifCond .ne 15, 3) := dk_154 0 15 (dk_at dksX14_isShortest_1 0 rfl rfl)
theorem dX14_isShortest_25 : decode cX14_isShortest 25 = .ok (.aload_n 0, 1) := dk_42 (dk_at dksX14_isShortest_1 3 rfl rfl)
theorem dX14_isShortest_26 : decode cX14_isShortest 26 = .ok (.getfield 236, 3) := dk_180 0 236 (dk_at dksX14_isShortest_1 4 rfl rfl)
theorem dX14_isShortest_29 : decode cX14_isShortest 29 = .ok (.iconst 1, 1) := dk_4 (dk_at dksX14_isShortest_1 7 rfl rfl)
theorem dX14_isShortest_30 : decode cX14_isShortest 30 = .ok (.iaload, 1) := dk_46 (dk_at dksX14_isShortest_1 8 rfl rfl)
theorem dX14_isShortest_31 : decode cX14_isShortest 31 = .ok (.sipush 128, 3) := dk_17 0 128 (dk_at dksX14_isShortest_1 9 rfl rfl)
theorem dX14_isShortest_34 : decode cX14_isShortest 34 = .ok (.if_icmp .lt 30, 3) := dk_161 0 30 (dk_at dksX14_isShortest_1 12 rfl rfl)
theorem dX14_isShortest_37 : decode cX14_isShortest 37 = .ok (.aload_n 0, 1) := dk_42 (dk_at dksX14_isShortest_1 15 rfl rfl)
theorem dX14_isShortest_38 : decode cX14_isShortest 38 = .ok (.getfield 236, 3) := dk_180 0 236 (dk_at dksX14_isShortest_1 16 rfl rfl)
theorem dX14_isShortest_41 : decode cX14_isShortest 41 = .ok (.iconst 0, 1) := dk_3 (dk_at dksX14_isShortest_1 19 rfl rfl)
theorem dX14_isShortest_42 : decode cX14_isShortest 42 = .ok (.iaload, 1) := dk_46 (dk_at dksX14_isShortest_1 20 rfl rfl)
theorem dX14_isShortest_43 : decode cX14_isShortest 43 = .ok (.sipush 255, 3) := dk_17 0 255 (dk_at dksX14_isShortest_1 21 rfl rfl)
theorem dX14_isShortest_46 : decode cX14_isShortest 46 = .ok (.if_icmp .ne 14, 3) := dk_160 0 14 (dk_at dksX14_isShortest_2 0 rfl rfl)
theorem dX14_isShortest_49 : decode cX14_isShortest 49 = .ok (.aload_n 0, 1) := dk_42 (dk_at dksX14_isShortest_2 3 rfl rfl)
theorem dX14_isShortest_50 : decode cX14_isShortest 50 = .ok (.getfield 236, 3) := dk_180 0 236 (dk_at dksX14_isShortest_2 4 rfl rfl)
theorem dX14_isShortest_53 : decode cX14_isShortest 53 = .ok (.iconst 1, 1) := dk_4 (dk_at dksX14_isShortest_2 7 rfl rfl)
theorem dX14_isShortest_54 : decode cX14_isShortest 54 = .ok (.iaload, 1) := dk_46 (dk_at dksX14_isShortest_2 8 rfl rfl)
theorem dX14_isShortest_55 : decode cX14_isShortest 55 = .ok (.bipush 127, 2) := dk_16 127 (dk_at dksX14_isShortest_2 9 rfl rfl)
theorem dX14_isShortest_57 : decode cX14_isShortest 57 = .ok (.if_icmp .gt 7, 3) := dk_163 0 7 (dk_at dksX14_isShortest_2 11 rfl rfl)
theorem dX14_isShortest_60 : decode cX14_isShortest 60 = .ok (.iconst 1, 1) := dk_4 (dk_at dksX14_isShortest_2 14 rfl rfl)
theorem dX14_isShortest_61 : decode cX14_isShortest 61 = .ok (.goto 4, 3) := dk_167 0 4 (dk_at dksX14_isShortest_2 15 rfl rfl)
theorem dX14_isShortest_64 : decode cX14_isShortest 64 = .ok (.iconst 0, 1) := dk_3 (dk_at dksX14_isShortest_2 18 rfl rfl)
theorem dX14_isShortest_65 : decode cX14_isShortest 65 = .ok (.ireturn, 1) := dk_172 (dk_at dksX14_isShortest_2 19 rfl rfl)
abbrev cX14_number : ByteArray := prog_15_method_162_code
def yX14_number : MethodName := ⟨RX14, "number", "(III)V"⟩
def dkwX14_number_3 : List UInt8 := [29, 182, 1, 158, 42, 21, 5, 181, 1, 199, 42, 21, 4, 181, 1, 196, 177]
abbrev dktX14_number_3 : List UInt8 := dkwX14_number_3 ++ []
def dkwX14_number_2 : List UInt8 := [42, 180, 0, 42, 28, 46, 5, 160, 0, 21, 42, 27, 21, 6, 3, 182, 2, 166, 154, 0, 10, 42, 16, 21]
abbrev dktX14_number_2 : List UInt8 := dkwX14_number_2 ++ dktX14_number_3
def dkwX14_number_1 : List UInt8 := [6, 160, 0, 23, 42, 28, 21, 6, 182, 2, 97, 154, 0, 13, 42, 16, 23, 29, 182, 1, 158, 167, 0, 31]
abbrev dktX14_number_1 : List UInt8 := dkwX14_number_1 ++ dktX14_number_2
def dkwX14_number_0 : List UInt8 := [42, 180, 1, 196, 54, 4, 42, 180, 1, 199, 54, 5, 42, 182, 3, 30, 54, 6, 42, 180, 0, 42, 28, 46]
abbrev dktX14_number_0 : List UInt8 := dkwX14_number_0 ++ dktX14_number_1
theorem dksX14_number_0 : cX14_number.data.toList.drop 0 = dktX14_number_0 := by decide +kernel
theorem dksX14_number_1 : cX14_number.data.toList.drop 24 = dktX14_number_1 := dk_seg dksX14_number_0 24 rfl rfl
theorem dksX14_number_2 : cX14_number.data.toList.drop 48 = dktX14_number_2 := dk_seg dksX14_number_1 24 rfl rfl
theorem dksX14_number_3 : cX14_number.data.toList.drop 72 = dktX14_number_3 := dk_seg dksX14_number_2 24 rfl rfl
theorem dX14_number_0 : decode cX14_number 0 = .ok (.aload_n 0, 1) := dk_42 (dk_at dksX14_number_0 0 rfl rfl)
theorem dX14_number_1 : decode cX14_number 1 = .ok (.getfield 452, 3) := dk_180 1 196 (dk_at dksX14_number_0 1 rfl rfl)
theorem dX14_number_4 : decode cX14_number 4 = .ok (.istore 4, 2) := dk_54 4 (dk_at dksX14_number_0 4 rfl rfl)
theorem dX14_number_6 : decode cX14_number 6 = .ok (.aload_n 0, 1) := dk_42 (dk_at dksX14_number_0 6 rfl rfl)
theorem dX14_number_7 : decode cX14_number 7 = .ok (.getfield 455, 3) := dk_180 1 199 (dk_at dksX14_number_0 7 rfl rfl)
theorem dX14_number_10 : decode cX14_number 10 = .ok (.istore 5, 2) := dk_54 5 (dk_at dksX14_number_0 10 rfl rfl)
theorem dX14_number_12 : decode cX14_number 12 = .ok (.aload_n 0, 1) := dk_42 (dk_at dksX14_number_0 12 rfl rfl)
theorem dX14_number_13 : decode cX14_number 13 = .ok (.invokevirtual 798, 3) := dk_182 3 30 (dk_at dksX14_number_0 13 rfl rfl)
theorem dX14_number_16 : decode cX14_number 16 = .ok (.istore 6, 2) := dk_54 6 (dk_at dksX14_number_0 16 rfl rfl)
theorem dX14_number_18 : decode cX14_number 18 = .ok (.aload_n 0, 1) := dk_42 (dk_at dksX14_number_0 18 rfl rfl)
theorem dX14_number_19 : decode cX14_number 19 = .ok (.getfield 42, 3) := dk_180 0 42 (dk_at dksX14_number_0 19 rfl rfl)
theorem dX14_number_22 : decode cX14_number 22 = .ok (.iload_n 2, 1) := dk_28 (dk_at dksX14_number_0 22 rfl rfl)
theorem dX14_number_23 : decode cX14_number 23 = .ok (.iaload, 1) := dk_46 (dk_at dksX14_number_0 23 rfl rfl)
theorem dX14_number_24 : decode cX14_number 24 = .ok (.iconst 3, 1) := dk_6 (dk_at dksX14_number_1 0 rfl rfl)
theorem dX14_number_25 : decode cX14_number 25 = .ok (.if_icmp .ne 23, 3) := dk_160 0 23 (dk_at dksX14_number_1 1 rfl rfl)
theorem dX14_number_28 : decode cX14_number 28 = .ok (.aload_n 0, 1) := dk_42 (dk_at dksX14_number_1 4 rfl rfl)
theorem dX14_number_29 : decode cX14_number 29 = .ok (.iload_n 2, 1) := dk_28 (dk_at dksX14_number_1 5 rfl rfl)
theorem dX14_number_30 : decode cX14_number 30 = .ok (.iload 6, 2) := dk_21 6 (dk_at dksX14_number_1 6 rfl rfl)
theorem dX14_number_32 : decode cX14_number 32 = .ok (.invokevirtual 609, 3) := dk_182 2 97 (dk_at dksX14_number_1 8 rfl rfl)
theorem dX14_number_35 : decode cX14_number 35 = .ok (.ifCond .ne 13, 3) := dk_154 0 13 (dk_at dksX14_number_1 11 rfl rfl)
theorem dX14_number_38 : decode cX14_number 38 = .ok (.aload_n 0, 1) := dk_42 (dk_at dksX14_number_1 14 rfl rfl)
theorem dX14_number_39 : decode cX14_number 39 = .ok (.bipush 23, 2) := dk_16 23 (dk_at dksX14_number_1 15 rfl rfl)
theorem dX14_number_41 : decode cX14_number 41 = .ok (.iload_n 3, 1) := dk_29 (dk_at dksX14_number_1 17 rfl rfl)
theorem dX14_number_42 : decode cX14_number 42 = .ok (.invokevirtual 414, 3) := dk_182 1 158 (dk_at dksX14_number_1 18 rfl rfl)
theorem dX14_number_45 : decode cX14_number 45 = .ok (.goto 31, 3) := dk_167 0 31 (dk_at dksX14_number_1 21 rfl rfl)
theorem dX14_number_48 : decode cX14_number 48 = .ok (.aload_n 0, 1) := dk_42 (dk_at dksX14_number_2 0 rfl rfl)
theorem dX14_number_49 : decode cX14_number 49 = .ok (.getfield 42, 3) := dk_180 0 42 (dk_at dksX14_number_2 1 rfl rfl)
theorem dX14_number_52 : decode cX14_number 52 = .ok (.iload_n 2, 1) := dk_28 (dk_at dksX14_number_2 4 rfl rfl)
theorem dX14_number_53 : decode cX14_number 53 = .ok (.iaload, 1) := dk_46 (dk_at dksX14_number_2 5 rfl rfl)
theorem dX14_number_54 : decode cX14_number 54 = .ok (.iconst 2, 1) := dk_5 (dk_at dksX14_number_2 6 rfl rfl)
theorem dX14_number_55 : decode cX14_number 55 = .ok (.if_icmp .ne 21, 3) := dk_160 0 21 (dk_at dksX14_number_2 7 rfl rfl)
theorem dX14_number_58 : decode cX14_number 58 = .ok (.aload_n 0, 1) := dk_42 (dk_at dksX14_number_2 10 rfl rfl)
theorem dX14_number_59 : decode cX14_number 59 = .ok (.iload_n 1, 1) := dk_27 (dk_at dksX14_number_2 11 rfl rfl)
theorem dX14_number_60 : decode cX14_number 60 = .ok (.iload 6, 2) := dk_21 6 (dk_at dksX14_number_2 12 rfl rfl)
theorem dX14_number_62 : decode cX14_number 62 = .ok (.iconst 0, 1) := dk_3 (dk_at dksX14_number_2 14 rfl rfl)
theorem dX14_number_63 : decode cX14_number 63 = .ok (.invokevirtual 678, 3) := dk_182 2 166 (dk_at dksX14_number_2 15 rfl rfl)
theorem dX14_number_66 : decode cX14_number 66 = .ok (.ifCond .ne 10, 3) := dk_154 0 10 (dk_at dksX14_number_2 18 rfl rfl)
theorem dX14_number_69 : decode cX14_number 69 = .ok (.aload_n 0, 1) := dk_42 (dk_at dksX14_number_2 21 rfl rfl)
theorem dX14_number_70 : decode cX14_number 70 = .ok (.bipush 21, 2) := dk_16 21 (dk_at dksX14_number_2 22 rfl rfl)
theorem dX14_number_72 : decode cX14_number 72 = .ok (.iload_n 3, 1) := dk_29 (dk_at dksX14_number_3 0 rfl rfl)
theorem dX14_number_73 : decode cX14_number 73 = .ok (.invokevirtual 414, 3) := dk_182 1 158 (dk_at dksX14_number_3 1 rfl rfl)
theorem dX14_number_76 : decode cX14_number 76 = .ok (.aload_n 0, 1) := dk_42 (dk_at dksX14_number_3 4 rfl rfl)
theorem dX14_number_77 : decode cX14_number 77 = .ok (.iload 5, 2) := dk_21 5 (dk_at dksX14_number_3 5 rfl rfl)
theorem dX14_number_79 : decode cX14_number 79 = .ok (.putfield 455, 3) := dk_181 1 199 (dk_at dksX14_number_3 7 rfl rfl)
theorem dX14_number_82 : decode cX14_number 82 = .ok (.aload_n 0, 1) := dk_42 (dk_at dksX14_number_3 10 rfl rfl)
theorem dX14_number_83 : decode cX14_number 83 = .ok (.iload 4, 2) := dk_21 4 (dk_at dksX14_number_3 11 rfl rfl)
theorem dX14_number_85 : decode cX14_number 85 = .ok (.putfield 452, 3) := dk_181 1 196 (dk_at dksX14_number_3 13 rfl rfl)
theorem dX14_number_88 : decode cX14_number 88 = .ok (.return_, 1) := dk_177 (dk_at dksX14_number_3 16 rfl rfl)
abbrev cX14_isObject : ByteArray := prog_15_method_158_code
def yX14_isObject : MethodName := ⟨RX14, "isObject", "()Z"⟩
def dkwX14_isObject_3 : List UInt8 := [172]
abbrev dktX14_isObject_3 : List UInt8 := dkwX14_isObject_3 ++ []
def dkwX14_isObject_2 : List UInt8 := [3, 60, 132, 2, 1, 167, 255, 209, 42, 180, 2, 170, 158, 0, 11, 27, 153, 0, 7, 4, 167, 0, 4, 3]
abbrev dktX14_isObject_2 : List UInt8 := dkwX14_isObject_2 ++ dktX14_isObject_3
def dkwX14_isObject_1 : List UInt8 := [17, 0, 128, 160, 0, 5, 3, 172, 42, 180, 0, 236, 28, 46, 17, 0, 128, 162, 0, 7, 4, 167, 0, 4]
abbrev dktX14_isObject_1 : List UInt8 := dkwX14_isObject_1 ++ dktX14_isObject_2
def dkwX14_isObject_0 : List UInt8 := [4, 60, 3, 61, 28, 42, 180, 2, 170, 162, 0, 45, 27, 153, 0, 17, 42, 180, 0, 236, 28, 46]
abbrev dktX14_isObject_0 : List UInt8 := dkwX14_isObject_0 ++ dktX14_isObject_1
theorem dksX14_isObject_0 : cX14_isObject.data.toList.drop 0 = dktX14_isObject_0 := by decide +kernel
theorem dksX14_isObject_1 : cX14_isObject.data.toList.drop 22 = dktX14_isObject_1 := dk_seg dksX14_isObject_0 22 rfl rfl
theorem dksX14_isObject_2 : cX14_isObject.data.toList.drop 46 = dktX14_isObject_2 := dk_seg dksX14_isObject_1 24 rfl rfl
theorem dksX14_isObject_3 : cX14_isObject.data.toList.drop 70 = dktX14_isObject_3 := dk_seg dksX14_isObject_2 24 rfl rfl
theorem dX14_isObject_0 : decode cX14_isObject 0 = .ok (.iconst 1, 1) := dk_4 (dk_at dksX14_isObject_0 0 rfl rfl)
theorem dX14_isObject_1 : decode cX14_isObject 1 = .ok (.istore_n 1, 1) := dk_60 (dk_at dksX14_isObject_0 1 rfl rfl)
theorem dX14_isObject_2 : decode cX14_isObject 2 = .ok (.iconst 0, 1) := dk_3 (dk_at dksX14_isObject_0 2 rfl rfl)
theorem dX14_isObject_3 : decode cX14_isObject 3 = .ok (.istore_n 2, 1) := dk_61 (dk_at dksX14_isObject_0 3 rfl rfl)
theorem dX14_isObject_4 : decode cX14_isObject 4 = .ok (.iload_n 2, 1) := dk_28 (dk_at dksX14_isObject_0 4 rfl rfl)
theorem dX14_isObject_5 : decode cX14_isObject 5 = .ok (.aload_n 0, 1) := dk_42 (dk_at dksX14_isObject_0 5 rfl rfl)
theorem dX14_isObject_6 : decode cX14_isObject 6 = .ok (.getfield 682, 3) := dk_180 2 170 (dk_at dksX14_isObject_0 6 rfl rfl)
theorem dX14_isObject_9 : decode cX14_isObject 9 = .ok (.if_icmp .ge 45, 3) := dk_162 0 45 (dk_at dksX14_isObject_0 9 rfl rfl)
theorem dX14_isObject_12 : decode cX14_isObject 12 = .ok (.iload_n 1, 1) := dk_27 (dk_at dksX14_isObject_0 12 rfl rfl)
theorem dX14_isObject_13 : decode cX14_isObject 13 = .ok (.ifCond .eq 17, 3) := dk_153 0 17 (dk_at dksX14_isObject_0 13 rfl rfl)
theorem dX14_isObject_16 : decode cX14_isObject 16 = .ok (.aload_n 0, 1) := dk_42 (dk_at dksX14_isObject_0 16 rfl rfl)
theorem dX14_isObject_17 : decode cX14_isObject 17 = .ok (.getfield 236, 3) := dk_180 0 236 (dk_at dksX14_isObject_0 17 rfl rfl)
theorem dX14_isObject_20 : decode cX14_isObject 20 = .ok (.iload_n 2, 1) := dk_28 (dk_at dksX14_isObject_0 20 rfl rfl)
theorem dX14_isObject_21 : decode cX14_isObject 21 = .ok (.iaload, 1) := dk_46 (dk_at dksX14_isObject_0 21 rfl rfl)
theorem dX14_isObject_22 : decode cX14_isObject 22 = .ok (.sipush 128, 3) := dk_17 0 128 (dk_at dksX14_isObject_1 0 rfl rfl)
theorem dX14_isObject_25 : decode cX14_isObject 25 = .ok (.if_icmp .ne 5, 3) := dk_160 0 5 (dk_at dksX14_isObject_1 3 rfl rfl)
theorem dX14_isObject_28 : decode cX14_isObject 28 = .ok (.iconst 0, 1) := dk_3 (dk_at dksX14_isObject_1 6 rfl rfl)
theorem dX14_isObject_29 : decode cX14_isObject 29 = .ok (.ireturn, 1) := dk_172 (dk_at dksX14_isObject_1 7 rfl rfl)
theorem dX14_isObject_30 : decode cX14_isObject 30 = .ok (.aload_n 0, 1) := dk_42 (dk_at dksX14_isObject_1 8 rfl rfl)
theorem dX14_isObject_31 : decode cX14_isObject 31 = .ok (.getfield 236, 3) := dk_180 0 236 (dk_at dksX14_isObject_1 9 rfl rfl)
theorem dX14_isObject_34 : decode cX14_isObject 34 = .ok (.iload_n 2, 1) := dk_28 (dk_at dksX14_isObject_1 12 rfl rfl)
theorem dX14_isObject_35 : decode cX14_isObject 35 = .ok (.iaload, 1) := dk_46 (dk_at dksX14_isObject_1 13 rfl rfl)
theorem dX14_isObject_36 : decode cX14_isObject 36 = .ok (.sipush 128, 3) := dk_17 0 128 (dk_at dksX14_isObject_1 14 rfl rfl)
theorem dX14_isObject_39 : decode cX14_isObject 39 = .ok (.if_icmp .ge 7, 3) := dk_162 0 7 (dk_at dksX14_isObject_1 17 rfl rfl)
theorem dX14_isObject_42 : decode cX14_isObject 42 = .ok (.iconst 1, 1) := dk_4 (dk_at dksX14_isObject_1 20 rfl rfl)
theorem dX14_isObject_43 : decode cX14_isObject 43 = .ok (.goto 4, 3) := dk_167 0 4 (dk_at dksX14_isObject_1 21 rfl rfl)
theorem dX14_isObject_46 : decode cX14_isObject 46 = .ok (.iconst 0, 1) := dk_3 (dk_at dksX14_isObject_2 0 rfl rfl)
theorem dX14_isObject_47 : decode cX14_isObject 47 = .ok (.istore_n 1, 1) := dk_60 (dk_at dksX14_isObject_2 1 rfl rfl)
theorem dX14_isObject_48 : decode cX14_isObject 48 = .ok (.iinc 2 1, 3) := dk_132 2 1 (dk_at dksX14_isObject_2 2 rfl rfl)
theorem dX14_isObject_51 : decode cX14_isObject 51 = .ok (.goto (-47), 3) := dk_167 255 209 (dk_at dksX14_isObject_2 5 rfl rfl)
theorem dX14_isObject_54 : decode cX14_isObject 54 = .ok (.aload_n 0, 1) := dk_42 (dk_at dksX14_isObject_2 8 rfl rfl)
theorem dX14_isObject_55 : decode cX14_isObject 55 = .ok (.getfield 682, 3) := dk_180 2 170 (dk_at dksX14_isObject_2 9 rfl rfl)
theorem dX14_isObject_58 : decode cX14_isObject 58 = .ok (.ifCond .le 11, 3) := dk_158 0 11 (dk_at dksX14_isObject_2 12 rfl rfl)
theorem dX14_isObject_61 : decode cX14_isObject 61 = .ok (.iload_n 1, 1) := dk_27 (dk_at dksX14_isObject_2 15 rfl rfl)
theorem dX14_isObject_62 : decode cX14_isObject 62 = .ok (.ifCond .eq 7, 3) := dk_153 0 7 (dk_at dksX14_isObject_2 16 rfl rfl)
theorem dX14_isObject_65 : decode cX14_isObject 65 = .ok (.iconst 1, 1) := dk_4 (dk_at dksX14_isObject_2 19 rfl rfl)
theorem dX14_isObject_66 : decode cX14_isObject 66 = .ok (.goto 4, 3) := dk_167 0 4 (dk_at dksX14_isObject_2 20 rfl rfl)
theorem dX14_isObject_69 : decode cX14_isObject 69 = .ok (.iconst 0, 1) := dk_3 (dk_at dksX14_isObject_2 23 rfl rfl)
theorem dX14_isObject_70 : decode cX14_isObject 70 = .ok (.ireturn, 1) := dk_172 (dk_at dksX14_isObject_3 0 rfl rfl)
abbrev cX14_string : ByteArray := prog_15_method_163_code
def yX14_string : MethodName := ⟨RX14, "string", "(III)V"⟩
def dkwX14_string_7 : List UInt8 := [27, 21, 4, 182, 2, 182, 154, 0, 10, 42, 16, 22, 29, 182, 1, 158, 177]
abbrev dktX14_string_7 : List UInt8 := dkwX14_string_7 ++ []
def dkwX14_string_6 : List UInt8 := [54, 5, 132, 6, 1, 167, 255, 194, 21, 5, 154, 0, 13, 42, 16, 17, 29, 182, 1, 158, 167, 0, 20, 42]
abbrev dktX14_string_6 : List UInt8 := dkwX14_string_6 ++ dktX14_string_7
def dkwX14_string_5 : List UInt8 := [16, 9, 160, 0, 16, 42, 180, 0, 236, 21, 6, 46, 17, 0, 128, 162, 0, 7, 4, 167, 0, 4, 3]
abbrev dktX14_string_5 : List UInt8 := dkwX14_string_5 ++ dktX14_string_6
def dkwX14_string_4 : List UInt8 := [153, 0, 45, 28, 16, 8, 160, 0, 16, 42, 180, 0, 236, 21, 6, 46, 184, 3, 27, 153, 0, 26, 28]
abbrev dktX14_string_4 : List UInt8 := dkwX14_string_4 ++ dktX14_string_5
def dkwX14_string_3 : List UInt8 := [155, 0, 7, 4, 167, 0, 4, 3, 54, 5, 3, 54, 6, 21, 6, 42, 180, 2, 170, 162, 0, 59, 21, 5]
abbrev dktX14_string_3 : List UInt8 := dkwX14_string_3 ++ dktX14_string_4
def dkwX14_string_2 : List UInt8 := [180, 2, 170, 54, 4, 4, 54, 5, 28, 16, 7, 160, 0, 21, 42, 182, 3, 217, 54, 4, 21, 4]
abbrev dktX14_string_2 : List UInt8 := dkwX14_string_2 ++ dktX14_string_3
def dkwX14_string_1 : List UInt8 := [167, 0, 7, 42, 182, 3, 24, 54, 4, 21, 4, 158, 0, 10, 42, 21, 4, 29, 182, 1, 158, 177, 42]
abbrev dktX14_string_1 : List UInt8 := dkwX14_string_1 ++ dktX14_string_2
def dkwX14_string_0 : List UInt8 := [28, 16, 10, 159, 0, 9, 28, 16, 11, 160, 0, 35, 28, 16, 10, 160, 0, 10, 42, 182, 3, 21]
abbrev dktX14_string_0 : List UInt8 := dkwX14_string_0 ++ dktX14_string_1
theorem dksX14_string_0 : cX14_string.data.toList.drop 0 = dktX14_string_0 := by decide +kernel
theorem dksX14_string_1 : cX14_string.data.toList.drop 22 = dktX14_string_1 := dk_seg dksX14_string_0 22 rfl rfl
theorem dksX14_string_2 : cX14_string.data.toList.drop 45 = dktX14_string_2 := dk_seg dksX14_string_1 23 rfl rfl
theorem dksX14_string_3 : cX14_string.data.toList.drop 67 = dktX14_string_3 := dk_seg dksX14_string_2 22 rfl rfl
theorem dksX14_string_4 : cX14_string.data.toList.drop 91 = dktX14_string_4 := dk_seg dksX14_string_3 24 rfl rfl
theorem dksX14_string_5 : cX14_string.data.toList.drop 114 = dktX14_string_5 := dk_seg dksX14_string_4 23 rfl rfl
theorem dksX14_string_6 : cX14_string.data.toList.drop 137 = dktX14_string_6 := dk_seg dksX14_string_5 23 rfl rfl
theorem dksX14_string_7 : cX14_string.data.toList.drop 161 = dktX14_string_7 := dk_seg dksX14_string_6 24 rfl rfl
theorem dX14_string_0 : decode cX14_string 0 = .ok (.iload_n 2, 1) := dk_28 (dk_at dksX14_string_0 0 rfl rfl)
theorem dX14_string_1 : decode cX14_string 1 = .ok (.bipush 10, 2) := dk_16 10 (dk_at dksX14_string_0 1 rfl rfl)
theorem dX14_string_3 : decode cX14_string 3 = .ok (.if_icmp .eq 9, 3) := dk_159 0 9 (dk_at dksX14_string_0 3 rfl rfl)
theorem dX14_string_6 : decode cX14_string 6 = .ok (.iload_n 2, 1) := dk_28 (dk_at dksX14_string_0 6 rfl rfl)
theorem dX14_string_7 : decode cX14_string 7 = .ok (.bipush 11, 2) := dk_16 11 (dk_at dksX14_string_0 7 rfl rfl)
theorem dX14_string_9 : decode cX14_string 9 = .ok (.if_icmp .ne 35, 3) := dk_160 0 35 (dk_at dksX14_string_0 9 rfl rfl)
theorem dX14_string_12 : decode cX14_string 12 = .ok (.iload_n 2, 1) := dk_28 (dk_at dksX14_string_0 12 rfl rfl)
theorem dX14_string_13 : decode cX14_string 13 = .ok (.bipush 10, 2) := dk_16 10 (dk_at dksX14_string_0 13 rfl rfl)
theorem dX14_string_15 : decode cX14_string 15 = .ok (.if_icmp .ne 10, 3) := dk_160 0 10 (dk_at dksX14_string_0 15 rfl rfl)
theorem dX14_string_18 : decode cX14_string 18 = .ok (.aload_n 0, 1) := dk_42 (dk_at dksX14_string_0 18 rfl rfl)
theorem dX14_string_19 : decode cX14_string 19 = .ok (.invokevirtual 789, 3) := dk_182 3 21 (dk_at dksX14_string_0 19 rfl rfl)
theorem dX14_string_22 : decode cX14_string 22 = .ok (.goto 7, 3) := dk_167 0 7 (dk_at dksX14_string_1 0 rfl rfl)
theorem dX14_string_25 : decode cX14_string 25 = .ok (.aload_n 0, 1) := dk_42 (dk_at dksX14_string_1 3 rfl rfl)
theorem dX14_string_26 : decode cX14_string 26 = .ok (.invokevirtual 792, 3) := dk_182 3 24 (dk_at dksX14_string_1 4 rfl rfl)
theorem dX14_string_29 : decode cX14_string 29 = .ok (.istore 4, 2) := dk_54 4 (dk_at dksX14_string_1 7 rfl rfl)
theorem dX14_string_31 : decode cX14_string 31 = .ok (.iload 4, 2) := dk_21 4 (dk_at dksX14_string_1 9 rfl rfl)
theorem dX14_string_33 : decode cX14_string 33 = .ok (.ifCond .le 10, 3) := dk_158 0 10 (dk_at dksX14_string_1 11 rfl rfl)
theorem dX14_string_36 : decode cX14_string 36 = .ok (.aload_n 0, 1) := dk_42 (dk_at dksX14_string_1 14 rfl rfl)
theorem dX14_string_37 : decode cX14_string 37 = .ok (.iload 4, 2) := dk_21 4 (dk_at dksX14_string_1 15 rfl rfl)
theorem dX14_string_39 : decode cX14_string 39 = .ok (.iload_n 3, 1) := dk_29 (dk_at dksX14_string_1 17 rfl rfl)
theorem dX14_string_40 : decode cX14_string 40 = .ok (.invokevirtual 414, 3) := dk_182 1 158 (dk_at dksX14_string_1 18 rfl rfl)
theorem dX14_string_43 : decode cX14_string 43 = .ok (.return_, 1) := dk_177 (dk_at dksX14_string_1 21 rfl rfl)
theorem dX14_string_44 : decode cX14_string 44 = .ok (.aload_n 0, 1) := dk_42 (dk_at dksX14_string_1 22 rfl rfl)
theorem dX14_string_45 : decode cX14_string 45 = .ok (.getfield 682, 3) := dk_180 2 170 (dk_at dksX14_string_2 0 rfl rfl)
theorem dX14_string_48 : decode cX14_string 48 = .ok (.istore 4, 2) := dk_54 4 (dk_at dksX14_string_2 3 rfl rfl)
theorem dX14_string_50 : decode cX14_string 50 = .ok (.iconst 1, 1) := dk_4 (dk_at dksX14_string_2 5 rfl rfl)
theorem dX14_string_51 : decode cX14_string 51 = .ok (.istore 5, 2) := dk_54 5 (dk_at dksX14_string_2 6 rfl rfl)
theorem dX14_string_53 : decode cX14_string 53 = .ok (.iload_n 2, 1) := dk_28 (dk_at dksX14_string_2 8 rfl rfl)
theorem dX14_string_54 : decode cX14_string 54 = .ok (.bipush 7, 2) := dk_16 7 (dk_at dksX14_string_2 9 rfl rfl)
theorem dX14_string_56 : decode cX14_string 56 = .ok (.if_icmp .ne 21, 3) := dk_160 0 21 (dk_at dksX14_string_2 11 rfl rfl)
theorem dX14_string_59 : decode cX14_string 59 = .ok (.aload_n 0, 1) := dk_42 (dk_at dksX14_string_2 14 rfl rfl)
theorem dX14_string_60 : decode cX14_string 60 = .ok (.invokevirtual 985, 3) := dk_182 3 217 (dk_at dksX14_string_2 15 rfl rfl)
theorem dX14_string_63 : decode cX14_string 63 = .ok (.istore 4, 2) := dk_54 4 (dk_at dksX14_string_2 18 rfl rfl)
theorem dX14_string_65 : decode cX14_string 65 = .ok (.iload 4, 2) := dk_21 4 (dk_at dksX14_string_2 20 rfl rfl)
theorem dX14_string_67 : decode cX14_string 67 = .ok (.ifCond .lt 7, 3) := dk_155 0 7 (dk_at dksX14_string_3 0 rfl rfl)
theorem dX14_string_70 : decode cX14_string 70 = .ok (.iconst 1, 1) := dk_4 (dk_at dksX14_string_3 3 rfl rfl)
theorem dX14_string_71 : decode cX14_string 71 = .ok (.goto 4, 3) := dk_167 0 4 (dk_at dksX14_string_3 4 rfl rfl)
theorem dX14_string_74 : decode cX14_string 74 = .ok (.iconst 0, 1) := dk_3 (dk_at dksX14_string_3 7 rfl rfl)
theorem dX14_string_75 : decode cX14_string 75 = .ok (.istore 5, 2) := dk_54 5 (dk_at dksX14_string_3 8 rfl rfl)
theorem dX14_string_77 : decode cX14_string 77 = .ok (.iconst 0, 1) := dk_3 (dk_at dksX14_string_3 10 rfl rfl)
theorem dX14_string_78 : decode cX14_string 78 = .ok (.istore 6, 2) := dk_54 6 (dk_at dksX14_string_3 11 rfl rfl)
theorem dX14_string_80 : decode cX14_string 80 = .ok (.iload 6, 2) := dk_21 6 (dk_at dksX14_string_3 13 rfl rfl)
theorem dX14_string_82 : decode cX14_string 82 = .ok (.aload_n 0, 1) := dk_42 (dk_at dksX14_string_3 15 rfl rfl)
theorem dX14_string_83 : decode cX14_string 83 = .ok (.getfield 682, 3) := dk_180 2 170 (dk_at dksX14_string_3 16 rfl rfl)
theorem dX14_string_86 : decode cX14_string 86 = .ok (.if_icmp .ge 59, 3) := dk_162 0 59 (dk_at dksX14_string_3 19 rfl rfl)
theorem dX14_string_89 : decode cX14_string 89 = .ok (.iload 5, 2) := dk_21 5 (dk_at dksX14_string_3 22 rfl rfl)
theorem dX14_string_91 : decode cX14_string 91 = .ok (.ifCond .eq 45, 3) := dk_153 0 45 (dk_at dksX14_string_4 0 rfl rfl)
theorem dX14_string_94 : decode cX14_string 94 = .ok (.iload_n 2, 1) := dk_28 (dk_at dksX14_string_4 3 rfl rfl)
theorem dX14_string_95 : decode cX14_string 95 = .ok (.bipush 8, 2) := dk_16 8 (dk_at dksX14_string_4 4 rfl rfl)
theorem dX14_string_97 : decode cX14_string 97 = .ok (.if_icmp .ne 16, 3) := dk_160 0 16 (dk_at dksX14_string_4 6 rfl rfl)
theorem dX14_string_100 : decode cX14_string 100 = .ok (.aload_n 0, 1) := dk_42 (dk_at dksX14_string_4 9 rfl rfl)
theorem dX14_string_101 : decode cX14_string 101 = .ok (.getfield 236, 3) := dk_180 0 236 (dk_at dksX14_string_4 10 rfl rfl)
theorem dX14_string_104 : decode cX14_string 104 = .ok (.iload 6, 2) := dk_21 6 (dk_at dksX14_string_4 13 rfl rfl)
theorem dX14_string_106 : decode cX14_string 106 = .ok (.iaload, 1) := dk_46 (dk_at dksX14_string_4 15 rfl rfl)
theorem dX14_string_107 : decode cX14_string 107 = .ok (.invokestatic 795, 3) := dk_184 3 27 (dk_at dksX14_string_4 16 rfl rfl)
theorem dX14_string_110 : decode cX14_string 110 = .ok (.ifCond .eq 26, 3) := dk_153 0 26 (dk_at dksX14_string_4 19 rfl rfl)
theorem dX14_string_113 : decode cX14_string 113 = .ok (.iload_n 2, 1) := dk_28 (dk_at dksX14_string_4 22 rfl rfl)
theorem dX14_string_114 : decode cX14_string 114 = .ok (.bipush 9, 2) := dk_16 9 (dk_at dksX14_string_5 0 rfl rfl)
theorem dX14_string_116 : decode cX14_string 116 = .ok (.if_icmp .ne 16, 3) := dk_160 0 16 (dk_at dksX14_string_5 2 rfl rfl)
theorem dX14_string_119 : decode cX14_string 119 = .ok (.aload_n 0, 1) := dk_42 (dk_at dksX14_string_5 5 rfl rfl)
theorem dX14_string_120 : decode cX14_string 120 = .ok (.getfield 236, 3) := dk_180 0 236 (dk_at dksX14_string_5 6 rfl rfl)
theorem dX14_string_123 : decode cX14_string 123 = .ok (.iload 6, 2) := dk_21 6 (dk_at dksX14_string_5 9 rfl rfl)
theorem dX14_string_125 : decode cX14_string 125 = .ok (.iaload, 1) := dk_46 (dk_at dksX14_string_5 11 rfl rfl)
theorem dX14_string_126 : decode cX14_string 126 = .ok (.sipush 128, 3) := dk_17 0 128 (dk_at dksX14_string_5 12 rfl rfl)
theorem dX14_string_129 : decode cX14_string 129 = .ok (.if_icmp .ge 7, 3) := dk_162 0 7 (dk_at dksX14_string_5 15 rfl rfl)
theorem dX14_string_132 : decode cX14_string 132 = .ok (.iconst 1, 1) := dk_4 (dk_at dksX14_string_5 18 rfl rfl)
theorem dX14_string_133 : decode cX14_string 133 = .ok (.goto 4, 3) := dk_167 0 4 (dk_at dksX14_string_5 19 rfl rfl)
theorem dX14_string_136 : decode cX14_string 136 = .ok (.iconst 0, 1) := dk_3 (dk_at dksX14_string_5 22 rfl rfl)
theorem dX14_string_137 : decode cX14_string 137 = .ok (.istore 5, 2) := dk_54 5 (dk_at dksX14_string_6 0 rfl rfl)
theorem dX14_string_139 : decode cX14_string 139 = .ok (.iinc 6 1, 3) := dk_132 6 1 (dk_at dksX14_string_6 2 rfl rfl)
theorem dX14_string_142 : decode cX14_string 142 = .ok (.goto (-62), 3) := dk_167 255 194 (dk_at dksX14_string_6 5 rfl rfl)
theorem dX14_string_145 : decode cX14_string 145 = .ok (.iload 5, 2) := dk_21 5 (dk_at dksX14_string_6 8 rfl rfl)
theorem dX14_string_147 : decode cX14_string 147 = .ok (.ifCond .ne 13, 3) := dk_154 0 13 (dk_at dksX14_string_6 10 rfl rfl)
theorem dX14_string_150 : decode cX14_string 150 = .ok (.aload_n 0, 1) := dk_42 (dk_at dksX14_string_6 13 rfl rfl)
theorem dX14_string_151 : decode cX14_string 151 = .ok (.bipush 17, 2) := dk_16 17 (dk_at dksX14_string_6 14 rfl rfl)
theorem dX14_string_153 : decode cX14_string 153 = .ok (.iload_n 3, 1) := dk_29 (dk_at dksX14_string_6 16 rfl rfl)
theorem dX14_string_154 : decode cX14_string 154 = .ok (.invokevirtual 414, 3) := dk_182 1 158 (dk_at dksX14_string_6 17 rfl rfl)
theorem dX14_string_157 : decode cX14_string 157 = .ok (.goto 20, 3) := dk_167 0 20 (dk_at dksX14_string_6 20 rfl rfl)
theorem dX14_string_160 : decode cX14_string 160 = .ok (.aload_n 0, 1) := dk_42 (dk_at dksX14_string_6 23 rfl rfl)
theorem dX14_string_161 : decode cX14_string 161 = .ok (.iload_n 1, 1) := dk_27 (dk_at dksX14_string_7 0 rfl rfl)
theorem dX14_string_162 : decode cX14_string 162 = .ok (.iload 4, 2) := dk_21 4 (dk_at dksX14_string_7 1 rfl rfl)
theorem dX14_string_164 : decode cX14_string 164 = .ok (.invokevirtual 694, 3) := dk_182 2 182 (dk_at dksX14_string_7 3 rfl rfl)
theorem dX14_string_167 : decode cX14_string 167 = .ok (.ifCond .ne 10, 3) := dk_154 0 10 (dk_at dksX14_string_7 6 rfl rfl)
theorem dX14_string_170 : decode cX14_string 170 = .ok (.aload_n 0, 1) := dk_42 (dk_at dksX14_string_7 9 rfl rfl)
theorem dX14_string_171 : decode cX14_string 171 = .ok (.bipush 22, 2) := dk_16 22 (dk_at dksX14_string_7 10 rfl rfl)
theorem dX14_string_173 : decode cX14_string 173 = .ok (.iload_n 3, 1) := dk_29 (dk_at dksX14_string_7 12 rfl rfl)
theorem dX14_string_174 : decode cX14_string 174 = .ok (.invokevirtual 414, 3) := dk_182 1 158 (dk_at dksX14_string_7 13 rfl rfl)
theorem dX14_string_177 : decode cX14_string 177 = .ok (.return_, 1) := dk_177 (dk_at dksX14_string_7 16 rfl rfl)
abbrev cX14_countCharacters : ByteArray := prog_15_method_157_code
def yX14_countCharacters : MethodName := ⟨RX14, "countCharacters", "()I"⟩
def dkwX14_countCharacters_11 : List UInt8 := [172]
abbrev dktX14_countCharacters_11 : List UInt8 := dkwX14_countCharacters_11 ++ []
def dkwX14_countCharacters_10 : List UInt8 := [21, 5, 19, 3, 192, 164, 0, 5, 2, 172, 28, 21, 4, 4, 96, 96, 61, 132, 1, 1, 167, 255, 11, 27]
abbrev dktX14_countCharacters_10 : List UInt8 := dkwX14_countCharacters_10 ++ dktX14_countCharacters_11
def dkwX14_countCharacters_9 : List UInt8 := [54, 6, 21, 5, 21, 6, 161, 0, 25, 21, 5, 19, 3, 190, 19, 3, 191, 184, 1, 132, 154, 0, 11]
abbrev dktX14_countCharacters_9 : List UInt8 := dkwX14_countCharacters_9 ++ dktX14_countCharacters_10
def dkwX14_countCharacters_8 : List UInt8 := [160, 0, 9, 17, 0, 128, 167, 0, 18, 21, 4, 5, 160, 0, 9, 17, 8, 0, 167, 0, 6, 19, 3, 189]
abbrev dktX14_countCharacters_8 : List UInt8 := dkwX14_countCharacters_8 ++ dktX14_countCharacters_9
def dkwX14_countCharacters_7 : List UInt8 := [126, 128, 54, 5, 132, 6, 1, 167, 255, 205, 21, 4, 154, 0, 7, 3, 167, 0, 30, 21, 4, 4]
abbrev dktX14_countCharacters_7 : List UInt8 := dkwX14_countCharacters_7 ++ dktX14_countCharacters_8
def dkwX14_countCharacters_6 : List UInt8 := [17, 0, 128, 159, 0, 5, 2, 172, 21, 5, 16, 6, 120, 42, 180, 0, 236, 28, 21, 6, 96, 46, 16, 63]
abbrev dktX14_countCharacters_6 : List UInt8 := dkwX14_countCharacters_6 ++ dktX14_countCharacters_7
def dkwX14_countCharacters_5 : List UInt8 := [54, 6, 21, 6, 21, 4, 163, 0, 50, 42, 180, 0, 236, 28, 21, 6, 96, 46, 17, 0, 192, 126]
abbrev dktX14_countCharacters_5 : List UInt8 := dkwX14_countCharacters_5 ++ dktX14_countCharacters_6
def dkwX14_countCharacters_4 : List UInt8 := [161, 0, 5, 2, 172, 21, 4, 154, 0, 7, 29, 167, 0, 10, 29, 16, 63, 21, 4, 122, 126, 54, 5, 4]
abbrev dktX14_countCharacters_4 : List UInt8 := dkwX14_countCharacters_4 ++ dktX14_countCharacters_5
def dkwX14_countCharacters_3 : List UInt8 := [162, 0, 7, 6, 167, 0, 4, 2, 54, 4, 21, 4, 155, 0, 14, 28, 21, 4, 96, 42, 180, 2, 170]
abbrev dktX14_countCharacters_3 : List UInt8 := dkwX14_countCharacters_3 ++ dktX14_countCharacters_4
def dkwX14_countCharacters_2 : List UInt8 := [162, 0, 7, 4, 167, 0, 26, 29, 17, 0, 240, 162, 0, 7, 5, 167, 0, 15, 29, 17, 0, 248]
abbrev dktX14_countCharacters_2 : List UInt8 := dkwX14_countCharacters_2 ++ dktX14_countCharacters_3
def dkwX14_countCharacters_1 : List UInt8 := [162, 0, 7, 3, 167, 0, 48, 29, 17, 0, 192, 162, 0, 7, 2, 167, 0, 37, 29, 17, 0, 224]
abbrev dktX14_countCharacters_1 : List UInt8 := dkwX14_countCharacters_1 ++ dktX14_countCharacters_2
def dkwX14_countCharacters_0 : List UInt8 := [3, 60, 3, 61, 28, 42, 180, 2, 170, 162, 0, 243, 42, 180, 0, 236, 28, 46, 62, 29, 17, 0, 128]
abbrev dktX14_countCharacters_0 : List UInt8 := dkwX14_countCharacters_0 ++ dktX14_countCharacters_1
theorem dksX14_countCharacters_0 : cX14_countCharacters.data.toList.drop 0 = dktX14_countCharacters_0 := by decide +kernel
theorem dksX14_countCharacters_1 : cX14_countCharacters.data.toList.drop 23 = dktX14_countCharacters_1 := dk_seg dksX14_countCharacters_0 23 rfl rfl
theorem dksX14_countCharacters_2 : cX14_countCharacters.data.toList.drop 45 = dktX14_countCharacters_2 := dk_seg dksX14_countCharacters_1 22 rfl rfl
theorem dksX14_countCharacters_3 : cX14_countCharacters.data.toList.drop 67 = dktX14_countCharacters_3 := dk_seg dksX14_countCharacters_2 22 rfl rfl
theorem dksX14_countCharacters_4 : cX14_countCharacters.data.toList.drop 90 = dktX14_countCharacters_4 := dk_seg dksX14_countCharacters_3 23 rfl rfl
theorem dksX14_countCharacters_5 : cX14_countCharacters.data.toList.drop 114 = dktX14_countCharacters_5 := dk_seg dksX14_countCharacters_4 24 rfl rfl
theorem dksX14_countCharacters_6 : cX14_countCharacters.data.toList.drop 136 = dktX14_countCharacters_6 := dk_seg dksX14_countCharacters_5 22 rfl rfl
theorem dksX14_countCharacters_7 : cX14_countCharacters.data.toList.drop 160 = dktX14_countCharacters_7 := dk_seg dksX14_countCharacters_6 24 rfl rfl
theorem dksX14_countCharacters_8 : cX14_countCharacters.data.toList.drop 182 = dktX14_countCharacters_8 := dk_seg dksX14_countCharacters_7 22 rfl rfl
theorem dksX14_countCharacters_9 : cX14_countCharacters.data.toList.drop 206 = dktX14_countCharacters_9 := dk_seg dksX14_countCharacters_8 24 rfl rfl
theorem dksX14_countCharacters_10 : cX14_countCharacters.data.toList.drop 229 = dktX14_countCharacters_10 := dk_seg dksX14_countCharacters_9 23 rfl rfl
theorem dksX14_countCharacters_11 : cX14_countCharacters.data.toList.drop 253 = dktX14_countCharacters_11 := dk_seg dksX14_countCharacters_10 24 rfl rfl
theorem dX14_countCharacters_0 : decode cX14_countCharacters 0 = .ok (.iconst 0, 1) := dk_3 (dk_at dksX14_countCharacters_0 0 rfl rfl)
theorem dX14_countCharacters_1 : decode cX14_countCharacters 1 = .ok (.istore_n 1, 1) := dk_60 (dk_at dksX14_countCharacters_0 1 rfl rfl)
theorem dX14_countCharacters_2 : decode cX14_countCharacters 2 = .ok (.iconst 0, 1) := dk_3 (dk_at dksX14_countCharacters_0 2 rfl rfl)
theorem dX14_countCharacters_3 : decode cX14_countCharacters 3 = .ok (.istore_n 2, 1) := dk_61 (dk_at dksX14_countCharacters_0 3 rfl rfl)
theorem dX14_countCharacters_4 : decode cX14_countCharacters 4 = .ok (.iload_n 2, 1) := dk_28 (dk_at dksX14_countCharacters_0 4 rfl rfl)
theorem dX14_countCharacters_5 : decode cX14_countCharacters 5 = .ok (.aload_n 0, 1) := dk_42 (dk_at dksX14_countCharacters_0 5 rfl rfl)
theorem dX14_countCharacters_6 : decode cX14_countCharacters 6 = .ok (.getfield 682, 3) := dk_180 2 170 (dk_at dksX14_countCharacters_0 6 rfl rfl)
theorem dX14_countCharacters_9 : decode cX14_countCharacters 9 = .ok (.if_icmp .ge 243, 3) := dk_162 0 243 (dk_at dksX14_countCharacters_0 9 rfl rfl)
theorem dX14_countCharacters_12 : decode cX14_countCharacters 12 = .ok (.aload_n 0, 1) := dk_42 (dk_at dksX14_countCharacters_0 12 rfl rfl)
theorem dX14_countCharacters_13 : decode cX14_countCharacters 13 = .ok (.getfield 236, 3) := dk_180 0 236 (dk_at dksX14_countCharacters_0 13 rfl rfl)
theorem dX14_countCharacters_16 : decode cX14_countCharacters 16 = .ok (.iload_n 2, 1) := dk_28 (dk_at dksX14_countCharacters_0 16 rfl rfl)
theorem dX14_countCharacters_17 : decode cX14_countCharacters 17 = .ok (.iaload, 1) := dk_46 (dk_at dksX14_countCharacters_0 17 rfl rfl)
theorem dX14_countCharacters_18 : decode cX14_countCharacters 18 = .ok (.istore_n 3, 1) := dk_62 (dk_at dksX14_countCharacters_0 18 rfl rfl)
theorem dX14_countCharacters_19 : decode cX14_countCharacters 19 = .ok (.iload_n 3, 1) := dk_29 (dk_at dksX14_countCharacters_0 19 rfl rfl)
theorem dX14_countCharacters_20 : decode cX14_countCharacters 20 = .ok (.sipush 128, 3) := dk_17 0 128 (dk_at dksX14_countCharacters_0 20 rfl rfl)
theorem dX14_countCharacters_23 : decode cX14_countCharacters 23 = .ok (.if_icmp .ge 7, 3) := dk_162 0 7 (dk_at dksX14_countCharacters_1 0 rfl rfl)
theorem dX14_countCharacters_26 : decode cX14_countCharacters 26 = .ok (.iconst 0, 1) := dk_3 (dk_at dksX14_countCharacters_1 3 rfl rfl)
theorem dX14_countCharacters_27 : decode cX14_countCharacters 27 = .ok (.goto 48, 3) := dk_167 0 48 (dk_at dksX14_countCharacters_1 4 rfl rfl)
theorem dX14_countCharacters_30 : decode cX14_countCharacters 30 = .ok (.iload_n 3, 1) := dk_29 (dk_at dksX14_countCharacters_1 7 rfl rfl)
theorem dX14_countCharacters_31 : decode cX14_countCharacters 31 = .ok (.sipush 192, 3) := dk_17 0 192 (dk_at dksX14_countCharacters_1 8 rfl rfl)
theorem dX14_countCharacters_34 : decode cX14_countCharacters 34 = .ok (.if_icmp .ge 7, 3) := dk_162 0 7 (dk_at dksX14_countCharacters_1 11 rfl rfl)
theorem dX14_countCharacters_37 : decode cX14_countCharacters 37 = .ok (.iconst (-1), 1) := dk_2 (dk_at dksX14_countCharacters_1 14 rfl rfl)
theorem dX14_countCharacters_38 : decode cX14_countCharacters 38 = .ok (.goto 37, 3) := dk_167 0 37 (dk_at dksX14_countCharacters_1 15 rfl rfl)
theorem dX14_countCharacters_41 : decode cX14_countCharacters 41 = .ok (.iload_n 3, 1) := dk_29 (dk_at dksX14_countCharacters_1 18 rfl rfl)
theorem dX14_countCharacters_42 : decode cX14_countCharacters 42 = .ok (.sipush 224, 3) := dk_17 0 224 (dk_at dksX14_countCharacters_1 19 rfl rfl)
theorem dX14_countCharacters_45 : decode cX14_countCharacters 45 = .ok (.if_icmp .ge 7, 3) := dk_162 0 7 (dk_at dksX14_countCharacters_2 0 rfl rfl)
theorem dX14_countCharacters_48 : decode cX14_countCharacters 48 = .ok (.iconst 1, 1) := dk_4 (dk_at dksX14_countCharacters_2 3 rfl rfl)
theorem dX14_countCharacters_49 : decode cX14_countCharacters 49 = .ok (.goto 26, 3) := dk_167 0 26 (dk_at dksX14_countCharacters_2 4 rfl rfl)
theorem dX14_countCharacters_52 : decode cX14_countCharacters 52 = .ok (.iload_n 3, 1) := dk_29 (dk_at dksX14_countCharacters_2 7 rfl rfl)
theorem dX14_countCharacters_53 : decode cX14_countCharacters 53 = .ok (.sipush 240, 3) := dk_17 0 240 (dk_at dksX14_countCharacters_2 8 rfl rfl)
theorem dX14_countCharacters_56 : decode cX14_countCharacters 56 = .ok (.if_icmp .ge 7, 3) := dk_162 0 7 (dk_at dksX14_countCharacters_2 11 rfl rfl)
theorem dX14_countCharacters_59 : decode cX14_countCharacters 59 = .ok (.iconst 2, 1) := dk_5 (dk_at dksX14_countCharacters_2 14 rfl rfl)
theorem dX14_countCharacters_60 : decode cX14_countCharacters 60 = .ok (.goto 15, 3) := dk_167 0 15 (dk_at dksX14_countCharacters_2 15 rfl rfl)
theorem dX14_countCharacters_63 : decode cX14_countCharacters 63 = .ok (.iload_n 3, 1) := dk_29 (dk_at dksX14_countCharacters_2 18 rfl rfl)
theorem dX14_countCharacters_64 : decode cX14_countCharacters 64 = .ok (.sipush 248, 3) := dk_17 0 248 (dk_at dksX14_countCharacters_2 19 rfl rfl)
theorem dX14_countCharacters_67 : decode cX14_countCharacters 67 = .ok (.if_icmp .ge 7, 3) := dk_162 0 7 (dk_at dksX14_countCharacters_3 0 rfl rfl)
theorem dX14_countCharacters_70 : decode cX14_countCharacters 70 = .ok (.iconst 3, 1) := dk_6 (dk_at dksX14_countCharacters_3 3 rfl rfl)
theorem dX14_countCharacters_71 : decode cX14_countCharacters 71 = .ok (.goto 4, 3) := dk_167 0 4 (dk_at dksX14_countCharacters_3 4 rfl rfl)
theorem dX14_countCharacters_74 : decode cX14_countCharacters 74 = .ok (.iconst (-1), 1) := dk_2 (dk_at dksX14_countCharacters_3 7 rfl rfl)
theorem dX14_countCharacters_75 : decode cX14_countCharacters 75 = .ok (.istore 4, 2) := dk_54 4 (dk_at dksX14_countCharacters_3 8 rfl rfl)
theorem dX14_countCharacters_77 : decode cX14_countCharacters 77 = .ok (.iload 4, 2) := dk_21 4 (dk_at dksX14_countCharacters_3 10 rfl rfl)
theorem dX14_countCharacters_79 : decode cX14_countCharacters 79 = .ok (.ifCond .lt 14, 3) := dk_155 0 14 (dk_at dksX14_countCharacters_3 12 rfl rfl)
theorem dX14_countCharacters_82 : decode cX14_countCharacters 82 = .ok (.iload_n 2, 1) := dk_28 (dk_at dksX14_countCharacters_3 15 rfl rfl)
theorem dX14_countCharacters_83 : decode cX14_countCharacters 83 = .ok (.iload 4, 2) := dk_21 4 (dk_at dksX14_countCharacters_3 16 rfl rfl)
theorem dX14_countCharacters_85 : decode cX14_countCharacters 85 = .ok (.iadd, 1) := dk_96 (dk_at dksX14_countCharacters_3 18 rfl rfl)
theorem dX14_countCharacters_86 : decode cX14_countCharacters 86 = .ok (.aload_n 0, 1) := dk_42 (dk_at dksX14_countCharacters_3 19 rfl rfl)
theorem dX14_countCharacters_87 : decode cX14_countCharacters 87 = .ok (.getfield 682, 3) := dk_180 2 170 (dk_at dksX14_countCharacters_3 20 rfl rfl)
theorem dX14_countCharacters_90 : decode cX14_countCharacters 90 = .ok (.if_icmp .lt 5, 3) := dk_161 0 5 (dk_at dksX14_countCharacters_4 0 rfl rfl)
theorem dX14_countCharacters_93 : decode cX14_countCharacters 93 = .ok (.iconst (-1), 1) := dk_2 (dk_at dksX14_countCharacters_4 3 rfl rfl)
theorem dX14_countCharacters_94 : decode cX14_countCharacters 94 = .ok (.ireturn, 1) := dk_172 (dk_at dksX14_countCharacters_4 4 rfl rfl)
theorem dX14_countCharacters_95 : decode cX14_countCharacters 95 = .ok (.iload 4, 2) := dk_21 4 (dk_at dksX14_countCharacters_4 5 rfl rfl)
theorem dX14_countCharacters_97 : decode cX14_countCharacters 97 = .ok (.ifCond .ne 7, 3) := dk_154 0 7 (dk_at dksX14_countCharacters_4 7 rfl rfl)
theorem dX14_countCharacters_100 : decode cX14_countCharacters 100 = .ok (.iload_n 3, 1) := dk_29 (dk_at dksX14_countCharacters_4 10 rfl rfl)
theorem dX14_countCharacters_101 : decode cX14_countCharacters 101 = .ok (.goto 10, 3) := dk_167 0 10 (dk_at dksX14_countCharacters_4 11 rfl rfl)
theorem dX14_countCharacters_104 : decode cX14_countCharacters 104 = .ok (.iload_n 3, 1) := dk_29 (dk_at dksX14_countCharacters_4 14 rfl rfl)
theorem dX14_countCharacters_105 : decode cX14_countCharacters 105 = .ok (.bipush 63, 2) := dk_16 63 (dk_at dksX14_countCharacters_4 15 rfl rfl)
theorem dX14_countCharacters_107 : decode cX14_countCharacters 107 = .ok (.iload 4, 2) := dk_21 4 (dk_at dksX14_countCharacters_4 17 rfl rfl)
theorem dX14_countCharacters_109 : decode cX14_countCharacters 109 = .ok (.ishr, 1) := dk_122 (dk_at dksX14_countCharacters_4 19 rfl rfl)
theorem dX14_countCharacters_110 : decode cX14_countCharacters 110 = .ok (.iand, 1) := dk_126 (dk_at dksX14_countCharacters_4 20 rfl rfl)
theorem dX14_countCharacters_111 : decode cX14_countCharacters 111 = .ok (.istore 5, 2) := dk_54 5 (dk_at dksX14_countCharacters_4 21 rfl rfl)
theorem dX14_countCharacters_113 : decode cX14_countCharacters 113 = .ok (.iconst 1, 1) := dk_4 (dk_at dksX14_countCharacters_4 23 rfl rfl)
theorem dX14_countCharacters_114 : decode cX14_countCharacters 114 = .ok (.istore 6, 2) := dk_54 6 (dk_at dksX14_countCharacters_5 0 rfl rfl)
theorem dX14_countCharacters_116 : decode cX14_countCharacters 116 = .ok (.iload 6, 2) := dk_21 6 (dk_at dksX14_countCharacters_5 2 rfl rfl)
theorem dX14_countCharacters_118 : decode cX14_countCharacters 118 = .ok (.iload 4, 2) := dk_21 4 (dk_at dksX14_countCharacters_5 4 rfl rfl)
theorem dX14_countCharacters_120 : decode cX14_countCharacters 120 = .ok (.if_icmp .gt 50, 3) := dk_163 0 50 (dk_at dksX14_countCharacters_5 6 rfl rfl)
theorem dX14_countCharacters_123 : decode cX14_countCharacters 123 = .ok (.aload_n 0, 1) := dk_42 (dk_at dksX14_countCharacters_5 9 rfl rfl)
theorem dX14_countCharacters_124 : decode cX14_countCharacters 124 = .ok (.getfield 236, 3) := dk_180 0 236 (dk_at dksX14_countCharacters_5 10 rfl rfl)
theorem dX14_countCharacters_127 : decode cX14_countCharacters 127 = .ok (.iload_n 2, 1) := dk_28 (dk_at dksX14_countCharacters_5 13 rfl rfl)
theorem dX14_countCharacters_128 : decode cX14_countCharacters 128 = .ok (.iload 6, 2) := dk_21 6 (dk_at dksX14_countCharacters_5 14 rfl rfl)
theorem dX14_countCharacters_130 : decode cX14_countCharacters 130 = .ok (.iadd, 1) := dk_96 (dk_at dksX14_countCharacters_5 16 rfl rfl)
theorem dX14_countCharacters_131 : decode cX14_countCharacters 131 = .ok (.iaload, 1) := dk_46 (dk_at dksX14_countCharacters_5 17 rfl rfl)
theorem dX14_countCharacters_132 : decode cX14_countCharacters 132 = .ok (.sipush 192, 3) := dk_17 0 192 (dk_at dksX14_countCharacters_5 18 rfl rfl)
theorem dX14_countCharacters_135 : decode cX14_countCharacters 135 = .ok (.iand, 1) := dk_126 (dk_at dksX14_countCharacters_5 21 rfl rfl)
theorem dX14_countCharacters_136 : decode cX14_countCharacters 136 = .ok (.sipush 128, 3) := dk_17 0 128 (dk_at dksX14_countCharacters_6 0 rfl rfl)
theorem dX14_countCharacters_139 : decode cX14_countCharacters 139 = .ok (.if_icmp .eq 5, 3) := dk_159 0 5 (dk_at dksX14_countCharacters_6 3 rfl rfl)
theorem dX14_countCharacters_142 : decode cX14_countCharacters 142 = .ok (.iconst (-1), 1) := dk_2 (dk_at dksX14_countCharacters_6 6 rfl rfl)
theorem dX14_countCharacters_143 : decode cX14_countCharacters 143 = .ok (.ireturn, 1) := dk_172 (dk_at dksX14_countCharacters_6 7 rfl rfl)
theorem dX14_countCharacters_144 : decode cX14_countCharacters 144 = .ok (.iload 5, 2) := dk_21 5 (dk_at dksX14_countCharacters_6 8 rfl rfl)
theorem dX14_countCharacters_146 : decode cX14_countCharacters 146 = .ok (.bipush 6, 2) := dk_16 6 (dk_at dksX14_countCharacters_6 10 rfl rfl)
theorem dX14_countCharacters_148 : decode cX14_countCharacters 148 = .ok (.ishl, 1) := dk_120 (dk_at dksX14_countCharacters_6 12 rfl rfl)
theorem dX14_countCharacters_149 : decode cX14_countCharacters 149 = .ok (.aload_n 0, 1) := dk_42 (dk_at dksX14_countCharacters_6 13 rfl rfl)
theorem dX14_countCharacters_150 : decode cX14_countCharacters 150 = .ok (.getfield 236, 3) := dk_180 0 236 (dk_at dksX14_countCharacters_6 14 rfl rfl)
theorem dX14_countCharacters_153 : decode cX14_countCharacters 153 = .ok (.iload_n 2, 1) := dk_28 (dk_at dksX14_countCharacters_6 17 rfl rfl)
theorem dX14_countCharacters_154 : decode cX14_countCharacters 154 = .ok (.iload 6, 2) := dk_21 6 (dk_at dksX14_countCharacters_6 18 rfl rfl)
theorem dX14_countCharacters_156 : decode cX14_countCharacters 156 = .ok (.iadd, 1) := dk_96 (dk_at dksX14_countCharacters_6 20 rfl rfl)
theorem dX14_countCharacters_157 : decode cX14_countCharacters 157 = .ok (.iaload, 1) := dk_46 (dk_at dksX14_countCharacters_6 21 rfl rfl)
theorem dX14_countCharacters_158 : decode cX14_countCharacters 158 = .ok (.bipush 63, 2) := dk_16 63 (dk_at dksX14_countCharacters_6 22 rfl rfl)
theorem dX14_countCharacters_160 : decode cX14_countCharacters 160 = .ok (.iand, 1) := dk_126 (dk_at dksX14_countCharacters_7 0 rfl rfl)
theorem dX14_countCharacters_161 : decode cX14_countCharacters 161 = .ok (.ior, 1) := dk_128 (dk_at dksX14_countCharacters_7 1 rfl rfl)
theorem dX14_countCharacters_162 : decode cX14_countCharacters 162 = .ok (.istore 5, 2) := dk_54 5 (dk_at dksX14_countCharacters_7 2 rfl rfl)
theorem dX14_countCharacters_164 : decode cX14_countCharacters 164 = .ok (.iinc 6 1, 3) := dk_132 6 1 (dk_at dksX14_countCharacters_7 4 rfl rfl)
theorem dX14_countCharacters_167 : decode cX14_countCharacters 167 = .ok (.goto (-51), 3) := dk_167 255 205 (dk_at dksX14_countCharacters_7 7 rfl rfl)
theorem dX14_countCharacters_170 : decode cX14_countCharacters 170 = .ok (.iload 4, 2) := dk_21 4 (dk_at dksX14_countCharacters_7 10 rfl rfl)
theorem dX14_countCharacters_172 : decode cX14_countCharacters 172 = .ok (.ifCond .ne 7, 3) := dk_154 0 7 (dk_at dksX14_countCharacters_7 12 rfl rfl)
theorem dX14_countCharacters_175 : decode cX14_countCharacters 175 = .ok (.iconst 0, 1) := dk_3 (dk_at dksX14_countCharacters_7 15 rfl rfl)
theorem dX14_countCharacters_176 : decode cX14_countCharacters 176 = .ok (.goto 30, 3) := dk_167 0 30 (dk_at dksX14_countCharacters_7 16 rfl rfl)
theorem dX14_countCharacters_179 : decode cX14_countCharacters 179 = .ok (.iload 4, 2) := dk_21 4 (dk_at dksX14_countCharacters_7 19 rfl rfl)
theorem dX14_countCharacters_181 : decode cX14_countCharacters 181 = .ok (.iconst 1, 1) := dk_4 (dk_at dksX14_countCharacters_7 21 rfl rfl)
theorem dX14_countCharacters_182 : decode cX14_countCharacters 182 = .ok (.if_icmp .ne 9, 3) := dk_160 0 9 (dk_at dksX14_countCharacters_8 0 rfl rfl)
theorem dX14_countCharacters_185 : decode cX14_countCharacters 185 = .ok (.sipush 128, 3) := dk_17 0 128 (dk_at dksX14_countCharacters_8 3 rfl rfl)
theorem dX14_countCharacters_188 : decode cX14_countCharacters 188 = .ok (.goto 18, 3) := dk_167 0 18 (dk_at dksX14_countCharacters_8 6 rfl rfl)
theorem dX14_countCharacters_191 : decode cX14_countCharacters 191 = .ok (.iload 4, 2) := dk_21 4 (dk_at dksX14_countCharacters_8 9 rfl rfl)
theorem dX14_countCharacters_193 : decode cX14_countCharacters 193 = .ok (.iconst 2, 1) := dk_5 (dk_at dksX14_countCharacters_8 11 rfl rfl)
theorem dX14_countCharacters_194 : decode cX14_countCharacters 194 = .ok (.if_icmp .ne 9, 3) := dk_160 0 9 (dk_at dksX14_countCharacters_8 12 rfl rfl)
theorem dX14_countCharacters_197 : decode cX14_countCharacters 197 = .ok (.sipush 2048, 3) := dk_17 8 0 (dk_at dksX14_countCharacters_8 15 rfl rfl)
theorem dX14_countCharacters_200 : decode cX14_countCharacters 200 = .ok (.goto 6, 3) := dk_167 0 6 (dk_at dksX14_countCharacters_8 18 rfl rfl)
theorem dX14_countCharacters_203 : decode cX14_countCharacters 203 = .ok (.ldc_w 957, 3) := dk_19 3 189 (dk_at dksX14_countCharacters_8 21 rfl rfl)
theorem dX14_countCharacters_206 : decode cX14_countCharacters 206 = .ok (.istore 6, 2) := dk_54 6 (dk_at dksX14_countCharacters_9 0 rfl rfl)
theorem dX14_countCharacters_208 : decode cX14_countCharacters 208 = .ok (.iload 5, 2) := dk_21 5 (dk_at dksX14_countCharacters_9 2 rfl rfl)
theorem dX14_countCharacters_210 : decode cX14_countCharacters 210 = .ok (.iload 6, 2) := dk_21 6 (dk_at dksX14_countCharacters_9 4 rfl rfl)
theorem dX14_countCharacters_212 : decode cX14_countCharacters 212 = .ok (.if_icmp .lt 25, 3) := dk_161 0 25 (dk_at dksX14_countCharacters_9 6 rfl rfl)
theorem dX14_countCharacters_215 : decode cX14_countCharacters 215 = .ok (.iload 5, 2) := dk_21 5 (dk_at dksX14_countCharacters_9 9 rfl rfl)
theorem dX14_countCharacters_217 : decode cX14_countCharacters 217 = .ok (.ldc_w 958, 3) := dk_19 3 190 (dk_at dksX14_countCharacters_9 11 rfl rfl)
theorem dX14_countCharacters_220 : decode cX14_countCharacters 220 = .ok (.ldc_w 959, 3) := dk_19 3 191 (dk_at dksX14_countCharacters_9 14 rfl rfl)
theorem dX14_countCharacters_223 : decode cX14_countCharacters 223 = .ok (.invokestatic 388, 3) := dk_184 1 132 (dk_at dksX14_countCharacters_9 17 rfl rfl)
theorem dX14_countCharacters_226 : decode cX14_countCharacters 226 = .ok (.ifCond .ne 11, 3) := dk_154 0 11 (dk_at dksX14_countCharacters_9 20 rfl rfl)
theorem dX14_countCharacters_229 : decode cX14_countCharacters 229 = .ok (.iload 5, 2) := dk_21 5 (dk_at dksX14_countCharacters_10 0 rfl rfl)
theorem dX14_countCharacters_231 : decode cX14_countCharacters 231 = .ok (.ldc_w 960, 3) := dk_19 3 192 (dk_at dksX14_countCharacters_10 2 rfl rfl)
theorem dX14_countCharacters_234 : decode cX14_countCharacters 234 = .ok (.if_icmp .le 5, 3) := dk_164 0 5 (dk_at dksX14_countCharacters_10 5 rfl rfl)
theorem dX14_countCharacters_237 : decode cX14_countCharacters 237 = .ok (.iconst (-1), 1) := dk_2 (dk_at dksX14_countCharacters_10 8 rfl rfl)
theorem dX14_countCharacters_238 : decode cX14_countCharacters 238 = .ok (.ireturn, 1) := dk_172 (dk_at dksX14_countCharacters_10 9 rfl rfl)
theorem dX14_countCharacters_239 : decode cX14_countCharacters 239 = .ok (.iload_n 2, 1) := dk_28 (dk_at dksX14_countCharacters_10 10 rfl rfl)
theorem dX14_countCharacters_240 : decode cX14_countCharacters 240 = .ok (.iload 4, 2) := dk_21 4 (dk_at dksX14_countCharacters_10 11 rfl rfl)
theorem dX14_countCharacters_242 : decode cX14_countCharacters 242 = .ok (.iconst 1, 1) := dk_4 (dk_at dksX14_countCharacters_10 13 rfl rfl)
theorem dX14_countCharacters_243 : decode cX14_countCharacters 243 = .ok (.iadd, 1) := dk_96 (dk_at dksX14_countCharacters_10 14 rfl rfl)
theorem dX14_countCharacters_244 : decode cX14_countCharacters 244 = .ok (.iadd, 1) := dk_96 (dk_at dksX14_countCharacters_10 15 rfl rfl)
theorem dX14_countCharacters_245 : decode cX14_countCharacters 245 = .ok (.istore_n 2, 1) := dk_61 (dk_at dksX14_countCharacters_10 16 rfl rfl)
theorem dX14_countCharacters_246 : decode cX14_countCharacters 246 = .ok (.iinc 1 1, 3) := dk_132 1 1 (dk_at dksX14_countCharacters_10 17 rfl rfl)
theorem dX14_countCharacters_249 : decode cX14_countCharacters 249 = .ok (.goto (-245), 3) := dk_167 255 11 (dk_at dksX14_countCharacters_10 20 rfl rfl)
theorem dX14_countCharacters_252 : decode cX14_countCharacters 252 = .ok (.iload_n 1, 1) := dk_27 (dk_at dksX14_countCharacters_10 23 rfl rfl)
theorem dX14_countCharacters_253 : decode cX14_countCharacters 253 = .ok (.ireturn, 1) := dk_172 (dk_at dksX14_countCharacters_11 0 rfl rfl)
abbrev cX14_writePiece : ByteArray := prog_15_method_160_code
def yX14_writePiece : MethodName := ⟨RX14, "writePiece", "()V"⟩
def dkwX14_writePiece_1 : List UInt8 := [167, 255, 235, 177]
abbrev dktX14_writePiece_1 : List UInt8 := dkwX14_writePiece_1 ++ []
def dkwX14_writePiece_0 : List UInt8 := [3, 60, 27, 42, 180, 2, 170, 162, 0, 19, 42, 42, 180, 0, 236, 27, 46, 182, 3, 193, 132, 1, 1]
abbrev dktX14_writePiece_0 : List UInt8 := dkwX14_writePiece_0 ++ dktX14_writePiece_1
theorem dksX14_writePiece_0 : cX14_writePiece.data.toList.drop 0 = dktX14_writePiece_0 := by decide +kernel
theorem dksX14_writePiece_1 : cX14_writePiece.data.toList.drop 23 = dktX14_writePiece_1 := dk_seg dksX14_writePiece_0 23 rfl rfl
theorem dX14_writePiece_0 : decode cX14_writePiece 0 = .ok (.iconst 0, 1) := dk_3 (dk_at dksX14_writePiece_0 0 rfl rfl)
theorem dX14_writePiece_1 : decode cX14_writePiece 1 = .ok (.istore_n 1, 1) := dk_60 (dk_at dksX14_writePiece_0 1 rfl rfl)
theorem dX14_writePiece_2 : decode cX14_writePiece 2 = .ok (.iload_n 1, 1) := dk_27 (dk_at dksX14_writePiece_0 2 rfl rfl)
theorem dX14_writePiece_3 : decode cX14_writePiece 3 = .ok (.aload_n 0, 1) := dk_42 (dk_at dksX14_writePiece_0 3 rfl rfl)
theorem dX14_writePiece_4 : decode cX14_writePiece 4 = .ok (.getfield 682, 3) := dk_180 2 170 (dk_at dksX14_writePiece_0 4 rfl rfl)
theorem dX14_writePiece_7 : decode cX14_writePiece 7 = .ok (.if_icmp .ge 19, 3) := dk_162 0 19 (dk_at dksX14_writePiece_0 7 rfl rfl)
theorem dX14_writePiece_10 : decode cX14_writePiece 10 = .ok (.aload_n 0, 1) := dk_42 (dk_at dksX14_writePiece_0 10 rfl rfl)
theorem dX14_writePiece_11 : decode cX14_writePiece 11 = .ok (.aload_n 0, 1) := dk_42 (dk_at dksX14_writePiece_0 11 rfl rfl)
theorem dX14_writePiece_12 : decode cX14_writePiece 12 = .ok (.getfield 236, 3) := dk_180 0 236 (dk_at dksX14_writePiece_0 12 rfl rfl)
theorem dX14_writePiece_15 : decode cX14_writePiece 15 = .ok (.iload_n 1, 1) := dk_27 (dk_at dksX14_writePiece_0 15 rfl rfl)
theorem dX14_writePiece_16 : decode cX14_writePiece 16 = .ok (.iaload, 1) := dk_46 (dk_at dksX14_writePiece_0 16 rfl rfl)
theorem dX14_writePiece_17 : decode cX14_writePiece 17 = .ok (.invokevirtual 961, 3) := dk_182 3 193 (dk_at dksX14_writePiece_0 17 rfl rfl)
theorem dX14_writePiece_20 : decode cX14_writePiece 20 = .ok (.iinc 1 1, 3) := dk_132 1 1 (dk_at dksX14_writePiece_0 20 rfl rfl)
theorem dX14_writePiece_23 : decode cX14_writePiece 23 = .ok (.goto (-21), 3) := dk_167 255 235 (dk_at dksX14_writePiece_1 0 rfl rfl)
theorem dX14_writePiece_26 : decode cX14_writePiece 26 = .ok (.return_, 1) := dk_177 (dk_at dksX14_writePiece_1 3 rfl rfl)
abbrev cX14_write : ByteArray := prog_15_method_138_code
def yX14_write : MethodName := ⟨RX14, "write", "(I)V"⟩
def dkwX14_write_1 : List UInt8 := [181, 3, 120, 177]
abbrev dktX14_write_1 : List UInt8 := dkwX14_write_1 ++ []
def dkwX14_write_0 : List UInt8 := [42, 4, 182, 3, 124, 42, 180, 1, 49, 42, 180, 3, 120, 27, 79, 42, 89, 180, 3, 120, 4, 96]
abbrev dktX14_write_0 : List UInt8 := dkwX14_write_0 ++ dktX14_write_1
theorem dksX14_write_0 : cX14_write.data.toList.drop 0 = dktX14_write_0 := by decide +kernel
theorem dksX14_write_1 : cX14_write.data.toList.drop 22 = dktX14_write_1 := dk_seg dksX14_write_0 22 rfl rfl
theorem dX14_write_0 : decode cX14_write 0 = .ok (.aload_n 0, 1) := dk_42 (dk_at dksX14_write_0 0 rfl rfl)
theorem dX14_write_1 : decode cX14_write 1 = .ok (.iconst 1, 1) := dk_4 (dk_at dksX14_write_0 1 rfl rfl)
theorem dX14_write_2 : decode cX14_write 2 = .ok (.invokevirtual 892, 3) := dk_182 3 124 (dk_at dksX14_write_0 2 rfl rfl)
theorem dX14_write_5 : decode cX14_write 5 = .ok (.aload_n 0, 1) := dk_42 (dk_at dksX14_write_0 5 rfl rfl)
theorem dX14_write_6 : decode cX14_write 6 = .ok (.getfield 305, 3) := dk_180 1 49 (dk_at dksX14_write_0 6 rfl rfl)
theorem dX14_write_9 : decode cX14_write 9 = .ok (.aload_n 0, 1) := dk_42 (dk_at dksX14_write_0 9 rfl rfl)
theorem dX14_write_10 : decode cX14_write 10 = .ok (.getfield 888, 3) := dk_180 3 120 (dk_at dksX14_write_0 10 rfl rfl)
theorem dX14_write_13 : decode cX14_write 13 = .ok (.iload_n 1, 1) := dk_27 (dk_at dksX14_write_0 13 rfl rfl)
theorem dX14_write_14 : decode cX14_write 14 = .ok (.iastore, 1) := dk_79 (dk_at dksX14_write_0 14 rfl rfl)
theorem dX14_write_15 : decode cX14_write 15 = .ok (.aload_n 0, 1) := dk_42 (dk_at dksX14_write_0 15 rfl rfl)
theorem dX14_write_16 : decode cX14_write 16 = .ok (.dup, 1) := dk_89 (dk_at dksX14_write_0 16 rfl rfl)
theorem dX14_write_17 : decode cX14_write 17 = .ok (.getfield 888, 3) := dk_180 3 120 (dk_at dksX14_write_0 17 rfl rfl)
theorem dX14_write_20 : decode cX14_write 20 = .ok (.iconst 1, 1) := dk_4 (dk_at dksX14_write_0 20 rfl rfl)
theorem dX14_write_21 : decode cX14_write 21 = .ok (.iadd, 1) := dk_96 (dk_at dksX14_write_0 21 rfl rfl)
theorem dX14_write_22 : decode cX14_write 22 = .ok (.putfield 888, 3) := dk_181 3 120 (dk_at dksX14_write_1 0 rfl rfl)
theorem dX14_write_25 : decode cX14_write 25 = .ok (.return_, 1) := dk_177 (dk_at dksX14_write_1 3 rfl rfl)
abbrev cX14_roomForWork : ByteArray := prog_15_method_137_code
def yX14_roomForWork : MethodName := ⟨RX14, "roomForWork", "(I)V"⟩
def dkwX14_roomForWork_2 : List UInt8 := [167, 0, 6, 5, 28, 104, 184, 1, 120, 181, 1, 49, 177]
abbrev dktX14_roomForWork_2 : List UInt8 := dkwX14_roomForWork_2 ++ []
def dkwX14_roomForWork_1 : List UInt8 := [19, 1, 127, 163, 0, 9, 19, 1, 127, 167, 0, 19, 28, 19, 3, 123, 163, 0, 9, 19, 3, 123]
abbrev dktX14_roomForWork_1 : List UInt8 := dkwX14_roomForWork_1 ++ dktX14_roomForWork_2
def dkwX14_roomForWork_0 : List UInt8 := [42, 180, 3, 120, 27, 96, 61, 28, 42, 180, 1, 49, 190, 163, 0, 4, 177, 42, 42, 180, 1, 49, 28]
abbrev dktX14_roomForWork_0 : List UInt8 := dkwX14_roomForWork_0 ++ dktX14_roomForWork_1
theorem dksX14_roomForWork_0 : cX14_roomForWork.data.toList.drop 0 = dktX14_roomForWork_0 := by decide +kernel
theorem dksX14_roomForWork_1 : cX14_roomForWork.data.toList.drop 23 = dktX14_roomForWork_1 := dk_seg dksX14_roomForWork_0 23 rfl rfl
theorem dksX14_roomForWork_2 : cX14_roomForWork.data.toList.drop 45 = dktX14_roomForWork_2 := dk_seg dksX14_roomForWork_1 22 rfl rfl
theorem dX14_roomForWork_0 : decode cX14_roomForWork 0 = .ok (.aload_n 0, 1) := dk_42 (dk_at dksX14_roomForWork_0 0 rfl rfl)
theorem dX14_roomForWork_1 : decode cX14_roomForWork 1 = .ok (.getfield 888, 3) := dk_180 3 120 (dk_at dksX14_roomForWork_0 1 rfl rfl)
theorem dX14_roomForWork_4 : decode cX14_roomForWork 4 = .ok (.iload_n 1, 1) := dk_27 (dk_at dksX14_roomForWork_0 4 rfl rfl)
theorem dX14_roomForWork_5 : decode cX14_roomForWork 5 = .ok (.iadd, 1) := dk_96 (dk_at dksX14_roomForWork_0 5 rfl rfl)
theorem dX14_roomForWork_6 : decode cX14_roomForWork 6 = .ok (.istore_n 2, 1) := dk_61 (dk_at dksX14_roomForWork_0 6 rfl rfl)
theorem dX14_roomForWork_7 : decode cX14_roomForWork 7 = .ok (.iload_n 2, 1) := dk_28 (dk_at dksX14_roomForWork_0 7 rfl rfl)
theorem dX14_roomForWork_8 : decode cX14_roomForWork 8 = .ok (.aload_n 0, 1) := dk_42 (dk_at dksX14_roomForWork_0 8 rfl rfl)
theorem dX14_roomForWork_9 : decode cX14_roomForWork 9 = .ok (.getfield 305, 3) := dk_180 1 49 (dk_at dksX14_roomForWork_0 9 rfl rfl)
theorem dX14_roomForWork_12 : decode cX14_roomForWork 12 = .ok (.arraylength, 1) := dk_190 (dk_at dksX14_roomForWork_0 12 rfl rfl)
theorem dX14_roomForWork_13 : decode cX14_roomForWork 13 = .ok (.if_icmp .gt 4, 3) := dk_163 0 4 (dk_at dksX14_roomForWork_0 13 rfl rfl)
theorem dX14_roomForWork_16 : decode cX14_roomForWork 16 = .ok (.return_, 1) := dk_177 (dk_at dksX14_roomForWork_0 16 rfl rfl)
theorem dX14_roomForWork_17 : decode cX14_roomForWork 17 = .ok (.aload_n 0, 1) := dk_42 (dk_at dksX14_roomForWork_0 17 rfl rfl)
theorem dX14_roomForWork_18 : decode cX14_roomForWork 18 = .ok (.aload_n 0, 1) := dk_42 (dk_at dksX14_roomForWork_0 18 rfl rfl)
theorem dX14_roomForWork_19 : decode cX14_roomForWork 19 = .ok (.getfield 305, 3) := dk_180 1 49 (dk_at dksX14_roomForWork_0 19 rfl rfl)
theorem dX14_roomForWork_22 : decode cX14_roomForWork 22 = .ok (.iload_n 2, 1) := dk_28 (dk_at dksX14_roomForWork_0 22 rfl rfl)
theorem dX14_roomForWork_23 : decode cX14_roomForWork 23 = .ok (.ldc_w 383, 3) := dk_19 1 127 (dk_at dksX14_roomForWork_1 0 rfl rfl)
theorem dX14_roomForWork_26 : decode cX14_roomForWork 26 = .ok (.if_icmp .gt 9, 3) := dk_163 0 9 (dk_at dksX14_roomForWork_1 3 rfl rfl)
theorem dX14_roomForWork_29 : decode cX14_roomForWork 29 = .ok (.ldc_w 383, 3) := dk_19 1 127 (dk_at dksX14_roomForWork_1 6 rfl rfl)
theorem dX14_roomForWork_32 : decode cX14_roomForWork 32 = .ok (.goto 19, 3) := dk_167 0 19 (dk_at dksX14_roomForWork_1 9 rfl rfl)
theorem dX14_roomForWork_35 : decode cX14_roomForWork 35 = .ok (.iload_n 2, 1) := dk_28 (dk_at dksX14_roomForWork_1 12 rfl rfl)
theorem dX14_roomForWork_36 : decode cX14_roomForWork 36 = .ok (.ldc_w 891, 3) := dk_19 3 123 (dk_at dksX14_roomForWork_1 13 rfl rfl)
theorem dX14_roomForWork_39 : decode cX14_roomForWork 39 = .ok (.if_icmp .gt 9, 3) := dk_163 0 9 (dk_at dksX14_roomForWork_1 16 rfl rfl)
theorem dX14_roomForWork_42 : decode cX14_roomForWork 42 = .ok (.ldc_w 891, 3) := dk_19 3 123 (dk_at dksX14_roomForWork_1 19 rfl rfl)
theorem dX14_roomForWork_45 : decode cX14_roomForWork 45 = .ok (.goto 6, 3) := dk_167 0 6 (dk_at dksX14_roomForWork_2 0 rfl rfl)
theorem dX14_roomForWork_48 : decode cX14_roomForWork 48 = .ok (.iconst 2, 1) := dk_5 (dk_at dksX14_roomForWork_2 3 rfl rfl)
theorem dX14_roomForWork_49 : decode cX14_roomForWork 49 = .ok (.iload_n 2, 1) := dk_28 (dk_at dksX14_roomForWork_2 4 rfl rfl)
theorem dX14_roomForWork_50 : decode cX14_roomForWork 50 = .ok (.imul, 1) := dk_104 (dk_at dksX14_roomForWork_2 5 rfl rfl)
theorem dX14_roomForWork_51 : decode cX14_roomForWork 51 = .ok (.invokestatic 376, 3) := dk_184 1 120 (dk_at dksX14_roomForWork_2 6 rfl rfl)
theorem dX14_roomForWork_54 : decode cX14_roomForWork 54 = .ok (.putfield 305, 3) := dk_181 1 49 (dk_at dksX14_roomForWork_2 9 rfl rfl)
theorem dX14_roomForWork_57 : decode cX14_roomForWork 57 = .ok (.return_, 1) := dk_177 (dk_at dksX14_roomForWork_2 12 rfl rfl)
abbrev cX14_leave : ByteArray := prog_15_method_144_code
def yX14_leave : MethodName := ⟨RX14, "leave", "()V"⟩
def dkwX14_leave_10 : List UInt8 := [132, 7, 1, 167, 255, 195, 177]
abbrev dktX14_leave_10 : List UInt8 := dkwX14_leave_10 ++ []
def dkwX14_leave_9 : List UInt8 := [21, 7, 157, 0, 14, 42, 180, 0, 42, 29, 46, 16, 12, 161, 0, 7, 4, 167, 0, 4, 3, 182, 3, 153]
abbrev dktX14_leave_9 : List UInt8 := dkwX14_leave_9 ++ dktX14_leave_10
def dkwX14_leave_8 : List UInt8 := [180, 1, 67, 27, 46, 42, 180, 0, 230, 21, 7, 47, 42, 180, 0, 42, 29, 46, 16, 16, 159, 0, 19]
abbrev dktX14_leave_8 : List UInt8 := dkwX14_leave_8 ++ dktX14_leave_9
def dkwX14_leave_7 : List UInt8 := [167, 0, 75, 42, 28, 182, 2, 128, 3, 54, 7, 21, 7, 42, 180, 2, 118, 162, 0, 58, 42, 42]
abbrev dktX14_leave_7 : List UInt8 := dkwX14_leave_7 ++ dktX14_leave_8
def dkwX14_leave_6 : List UInt8 := [54, 6, 132, 7, 1, 167, 255, 198, 21, 5, 153, 0, 16, 42, 42, 180, 1, 67, 27, 46, 181, 3, 120]
abbrev dktX14_leave_6 : List UInt8 := dkwX14_leave_6 ++ dktX14_leave_7
def dkwX14_leave_5 : List UInt8 := [16, 15, 42, 180, 1, 16, 42, 180, 1, 37, 21, 6, 46, 46, 182, 1, 158, 42, 180, 1, 37, 21, 6, 46]
abbrev dktX14_leave_5 : List UInt8 := dkwX14_leave_5 ++ dktX14_leave_6
def dkwX14_leave_4 : List UInt8 := [27, 46, 162, 0, 53, 42, 180, 1, 97, 154, 0, 46, 42, 180, 1, 46, 21, 6, 46, 155, 0, 21, 42]
abbrev dktX14_leave_4 : List UInt8 := dkwX14_leave_4 ++ dktX14_leave_5
def dkwX14_leave_3 : List UInt8 := [4, 167, 0, 4, 3, 54, 5, 42, 180, 1, 61, 27, 46, 54, 6, 3, 54, 7, 21, 7, 42, 180, 1, 64]
abbrev dktX14_leave_3 : List UInt8 := dkwX14_leave_3 ++ dktX14_leave_4
def dkwX14_leave_2 : List UInt8 := [5, 160, 0, 27, 42, 42, 180, 1, 67, 27, 46, 42, 180, 0, 109, 21, 4, 46, 182, 3, 150, 153, 0, 7]
abbrev dktX14_leave_2 : List UInt8 := dkwX14_leave_2 ++ dktX14_leave_3
def dkwX14_leave_1 : List UInt8 := [182, 2, 100, 62, 42, 180, 1, 70, 27, 46, 54, 4, 21, 4, 155, 0, 38, 42, 180, 0, 106, 21, 4, 46]
abbrev dktX14_leave_1 : List UInt8 := dkwX14_leave_1 ++ dktX14_leave_2
def dkwX14_leave_0 : List UInt8 := [42, 89, 180, 1, 117, 4, 100, 181, 1, 117, 42, 180, 1, 117, 60, 42, 180, 1, 58, 27, 46, 61, 42, 28]
abbrev dktX14_leave_0 : List UInt8 := dkwX14_leave_0 ++ dktX14_leave_1
theorem dksX14_leave_0 : cX14_leave.data.toList.drop 0 = dktX14_leave_0 := by decide +kernel
theorem dksX14_leave_1 : cX14_leave.data.toList.drop 24 = dktX14_leave_1 := dk_seg dksX14_leave_0 24 rfl rfl
theorem dksX14_leave_2 : cX14_leave.data.toList.drop 48 = dktX14_leave_2 := dk_seg dksX14_leave_1 24 rfl rfl
theorem dksX14_leave_3 : cX14_leave.data.toList.drop 72 = dktX14_leave_3 := dk_seg dksX14_leave_2 24 rfl rfl
theorem dksX14_leave_4 : cX14_leave.data.toList.drop 96 = dktX14_leave_4 := dk_seg dksX14_leave_3 24 rfl rfl
theorem dksX14_leave_5 : cX14_leave.data.toList.drop 119 = dktX14_leave_5 := dk_seg dksX14_leave_4 23 rfl rfl
theorem dksX14_leave_6 : cX14_leave.data.toList.drop 143 = dktX14_leave_6 := dk_seg dksX14_leave_5 24 rfl rfl
theorem dksX14_leave_7 : cX14_leave.data.toList.drop 166 = dktX14_leave_7 := dk_seg dksX14_leave_6 23 rfl rfl
theorem dksX14_leave_8 : cX14_leave.data.toList.drop 188 = dktX14_leave_8 := dk_seg dksX14_leave_7 22 rfl rfl
theorem dksX14_leave_9 : cX14_leave.data.toList.drop 211 = dktX14_leave_9 := dk_seg dksX14_leave_8 23 rfl rfl
theorem dksX14_leave_10 : cX14_leave.data.toList.drop 235 = dktX14_leave_10 := dk_seg dksX14_leave_9 24 rfl rfl
theorem dX14_leave_0 : decode cX14_leave 0 = .ok (.aload_n 0, 1) := dk_42 (dk_at dksX14_leave_0 0 rfl rfl)
theorem dX14_leave_1 : decode cX14_leave 1 = .ok (.dup, 1) := dk_89 (dk_at dksX14_leave_0 1 rfl rfl)
theorem dX14_leave_2 : decode cX14_leave 2 = .ok (.getfield 373, 3) := dk_180 1 117 (dk_at dksX14_leave_0 2 rfl rfl)
theorem dX14_leave_5 : decode cX14_leave 5 = .ok (.iconst 1, 1) := dk_4 (dk_at dksX14_leave_0 5 rfl rfl)
theorem dX14_leave_6 : decode cX14_leave 6 = .ok (.isub, 1) := dk_100 (dk_at dksX14_leave_0 6 rfl rfl)
theorem dX14_leave_7 : decode cX14_leave 7 = .ok (.putfield 373, 3) := dk_181 1 117 (dk_at dksX14_leave_0 7 rfl rfl)
theorem dX14_leave_10 : decode cX14_leave 10 = .ok (.aload_n 0, 1) := dk_42 (dk_at dksX14_leave_0 10 rfl rfl)
theorem dX14_leave_11 : decode cX14_leave 11 = .ok (.getfield 373, 3) := dk_180 1 117 (dk_at dksX14_leave_0 11 rfl rfl)
theorem dX14_leave_14 : decode cX14_leave 14 = .ok (.istore_n 1, 1) := dk_60 (dk_at dksX14_leave_0 14 rfl rfl)
theorem dX14_leave_15 : decode cX14_leave 15 = .ok (.aload_n 0, 1) := dk_42 (dk_at dksX14_leave_0 15 rfl rfl)
theorem dX14_leave_16 : decode cX14_leave 16 = .ok (.getfield 314, 3) := dk_180 1 58 (dk_at dksX14_leave_0 16 rfl rfl)
theorem dX14_leave_19 : decode cX14_leave 19 = .ok (.iload_n 1, 1) := dk_27 (dk_at dksX14_leave_0 19 rfl rfl)
theorem dX14_leave_20 : decode cX14_leave 20 = .ok (.iaload, 1) := dk_46 (dk_at dksX14_leave_0 20 rfl rfl)
theorem dX14_leave_21 : decode cX14_leave 21 = .ok (.istore_n 2, 1) := dk_61 (dk_at dksX14_leave_0 21 rfl rfl)
theorem dX14_leave_22 : decode cX14_leave 22 = .ok (.aload_n 0, 1) := dk_42 (dk_at dksX14_leave_0 22 rfl rfl)
theorem dX14_leave_23 : decode cX14_leave 23 = .ok (.iload_n 2, 1) := dk_28 (dk_at dksX14_leave_0 23 rfl rfl)
theorem dX14_leave_24 : decode cX14_leave 24 = .ok (.invokevirtual 612, 3) := dk_182 2 100 (dk_at dksX14_leave_1 0 rfl rfl)
theorem dX14_leave_27 : decode cX14_leave 27 = .ok (.istore_n 3, 1) := dk_62 (dk_at dksX14_leave_1 3 rfl rfl)
theorem dX14_leave_28 : decode cX14_leave 28 = .ok (.aload_n 0, 1) := dk_42 (dk_at dksX14_leave_1 4 rfl rfl)
theorem dX14_leave_29 : decode cX14_leave 29 = .ok (.getfield 326, 3) := dk_180 1 70 (dk_at dksX14_leave_1 5 rfl rfl)
theorem dX14_leave_32 : decode cX14_leave 32 = .ok (.iload_n 1, 1) := dk_27 (dk_at dksX14_leave_1 8 rfl rfl)
theorem dX14_leave_33 : decode cX14_leave 33 = .ok (.iaload, 1) := dk_46 (dk_at dksX14_leave_1 9 rfl rfl)
theorem dX14_leave_34 : decode cX14_leave 34 = .ok (.istore 4, 2) := dk_54 4 (dk_at dksX14_leave_1 10 rfl rfl)
theorem dX14_leave_36 : decode cX14_leave 36 = .ok (.iload 4, 2) := dk_21 4 (dk_at dksX14_leave_1 12 rfl rfl)
theorem dX14_leave_38 : decode cX14_leave 38 = .ok (.ifCond .lt 38, 3) := dk_155 0 38 (dk_at dksX14_leave_1 14 rfl rfl)
theorem dX14_leave_41 : decode cX14_leave 41 = .ok (.aload_n 0, 1) := dk_42 (dk_at dksX14_leave_1 17 rfl rfl)
theorem dX14_leave_42 : decode cX14_leave 42 = .ok (.getfield 106, 3) := dk_180 0 106 (dk_at dksX14_leave_1 18 rfl rfl)
theorem dX14_leave_45 : decode cX14_leave 45 = .ok (.iload 4, 2) := dk_21 4 (dk_at dksX14_leave_1 21 rfl rfl)
theorem dX14_leave_47 : decode cX14_leave 47 = .ok (.iaload, 1) := dk_46 (dk_at dksX14_leave_1 23 rfl rfl)
theorem dX14_leave_48 : decode cX14_leave 48 = .ok (.iconst 2, 1) := dk_5 (dk_at dksX14_leave_2 0 rfl rfl)
theorem dX14_leave_49 : decode cX14_leave 49 = .ok (.if_icmp .ne 27, 3) := dk_160 0 27 (dk_at dksX14_leave_2 1 rfl rfl)
theorem dX14_leave_52 : decode cX14_leave 52 = .ok (.aload_n 0, 1) := dk_42 (dk_at dksX14_leave_2 4 rfl rfl)
theorem dX14_leave_53 : decode cX14_leave 53 = .ok (.aload_n 0, 1) := dk_42 (dk_at dksX14_leave_2 5 rfl rfl)
theorem dX14_leave_54 : decode cX14_leave 54 = .ok (.getfield 323, 3) := dk_180 1 67 (dk_at dksX14_leave_2 6 rfl rfl)
theorem dX14_leave_57 : decode cX14_leave 57 = .ok (.iload_n 1, 1) := dk_27 (dk_at dksX14_leave_2 9 rfl rfl)
theorem dX14_leave_58 : decode cX14_leave 58 = .ok (.iaload, 1) := dk_46 (dk_at dksX14_leave_2 10 rfl rfl)
theorem dX14_leave_59 : decode cX14_leave 59 = .ok (.aload_n 0, 1) := dk_42 (dk_at dksX14_leave_2 11 rfl rfl)
theorem dX14_leave_60 : decode cX14_leave 60 = .ok (.getfield 109, 3) := dk_180 0 109 (dk_at dksX14_leave_2 12 rfl rfl)
theorem dX14_leave_63 : decode cX14_leave 63 = .ok (.iload 4, 2) := dk_21 4 (dk_at dksX14_leave_2 15 rfl rfl)
theorem dX14_leave_65 : decode cX14_leave 65 = .ok (.iaload, 1) := dk_46 (dk_at dksX14_leave_2 17 rfl rfl)
theorem dX14_leave_66 : decode cX14_leave 66 = .ok (.invokevirtual 918, 3) := dk_182 3 150 (dk_at dksX14_leave_2 18 rfl rfl)
theorem dX14_leave_69 : decode cX14_leave 69 = .ok (.ifCond .eq 7, 3) := dk_153 0 7 (dk_at dksX14_leave_2 21 rfl rfl)
theorem dX14_leave_72 : decode cX14_leave 72 = .ok (.iconst 1, 1) := dk_4 (dk_at dksX14_leave_3 0 rfl rfl)
theorem dX14_leave_73 : decode cX14_leave 73 = .ok (.goto 4, 3) := dk_167 0 4 (dk_at dksX14_leave_3 1 rfl rfl)
theorem dX14_leave_76 : decode cX14_leave 76 = .ok (.iconst 0, 1) := dk_3 (dk_at dksX14_leave_3 4 rfl rfl)
theorem dX14_leave_77 : decode cX14_leave 77 = .ok (.istore 5, 2) := dk_54 5 (dk_at dksX14_leave_3 5 rfl rfl)
theorem dX14_leave_79 : decode cX14_leave 79 = .ok (.aload_n 0, 1) := dk_42 (dk_at dksX14_leave_3 7 rfl rfl)
theorem dX14_leave_80 : decode cX14_leave 80 = .ok (.getfield 317, 3) := dk_180 1 61 (dk_at dksX14_leave_3 8 rfl rfl)
theorem dX14_leave_83 : decode cX14_leave 83 = .ok (.iload_n 1, 1) := dk_27 (dk_at dksX14_leave_3 11 rfl rfl)
theorem dX14_leave_84 : decode cX14_leave 84 = .ok (.iaload, 1) := dk_46 (dk_at dksX14_leave_3 12 rfl rfl)
theorem dX14_leave_85 : decode cX14_leave 85 = .ok (.istore 6, 2) := dk_54 6 (dk_at dksX14_leave_3 13 rfl rfl)
theorem dX14_leave_87 : decode cX14_leave 87 = .ok (.iconst 0, 1) := dk_3 (dk_at dksX14_leave_3 15 rfl rfl)
theorem dX14_leave_88 : decode cX14_leave 88 = .ok (.istore 7, 2) := dk_54 7 (dk_at dksX14_leave_3 16 rfl rfl)
theorem dX14_leave_90 : decode cX14_leave 90 = .ok (.iload 7, 2) := dk_21 7 (dk_at dksX14_leave_3 18 rfl rfl)
theorem dX14_leave_92 : decode cX14_leave 92 = .ok (.aload_n 0, 1) := dk_42 (dk_at dksX14_leave_3 20 rfl rfl)
theorem dX14_leave_93 : decode cX14_leave 93 = .ok (.getfield 320, 3) := dk_180 1 64 (dk_at dksX14_leave_3 21 rfl rfl)
theorem dX14_leave_96 : decode cX14_leave 96 = .ok (.iload_n 1, 1) := dk_27 (dk_at dksX14_leave_4 0 rfl rfl)
theorem dX14_leave_97 : decode cX14_leave 97 = .ok (.iaload, 1) := dk_46 (dk_at dksX14_leave_4 1 rfl rfl)
theorem dX14_leave_98 : decode cX14_leave 98 = .ok (.if_icmp .ge 53, 3) := dk_162 0 53 (dk_at dksX14_leave_4 2 rfl rfl)
theorem dX14_leave_101 : decode cX14_leave 101 = .ok (.aload_n 0, 1) := dk_42 (dk_at dksX14_leave_4 5 rfl rfl)
theorem dX14_leave_102 : decode cX14_leave 102 = .ok (.getfield 353, 3) := dk_180 1 97 (dk_at dksX14_leave_4 6 rfl rfl)
theorem dX14_leave_105 : decode cX14_leave 105 = .ok (.ifCond .ne 46, 3) := dk_154 0 46 (dk_at dksX14_leave_4 9 rfl rfl)
theorem dX14_leave_108 : decode cX14_leave 108 = .ok (.aload_n 0, 1) := dk_42 (dk_at dksX14_leave_4 12 rfl rfl)
theorem dX14_leave_109 : decode cX14_leave 109 = .ok (.getfield 302, 3) := dk_180 1 46 (dk_at dksX14_leave_4 13 rfl rfl)
theorem dX14_leave_112 : decode cX14_leave 112 = .ok (.iload 6, 2) := dk_21 6 (dk_at dksX14_leave_4 16 rfl rfl)
theorem dX14_leave_114 : decode cX14_leave 114 = .ok (.iaload, 1) := dk_46 (dk_at dksX14_leave_4 18 rfl rfl)
theorem dX14_leave_115 : decode cX14_leave 115 = .ok (.ifCond .lt 21, 3) := dk_155 0 21 (dk_at dksX14_leave_4 19 rfl rfl)
theorem dX14_leave_118 : decode cX14_leave 118 = .ok (.aload_n 0, 1) := dk_42 (dk_at dksX14_leave_4 22 rfl rfl)
theorem dX14_leave_119 : decode cX14_leave 119 = .ok (.bipush 15, 2) := dk_16 15 (dk_at dksX14_leave_5 0 rfl rfl)
theorem dX14_leave_121 : decode cX14_leave 121 = .ok (.aload_n 0, 1) := dk_42 (dk_at dksX14_leave_5 2 rfl rfl)
theorem dX14_leave_122 : decode cX14_leave 122 = .ok (.getfield 272, 3) := dk_180 1 16 (dk_at dksX14_leave_5 3 rfl rfl)
theorem dX14_leave_125 : decode cX14_leave 125 = .ok (.aload_n 0, 1) := dk_42 (dk_at dksX14_leave_5 6 rfl rfl)
theorem dX14_leave_126 : decode cX14_leave 126 = .ok (.getfield 293, 3) := dk_180 1 37 (dk_at dksX14_leave_5 7 rfl rfl)
theorem dX14_leave_129 : decode cX14_leave 129 = .ok (.iload 6, 2) := dk_21 6 (dk_at dksX14_leave_5 10 rfl rfl)
theorem dX14_leave_131 : decode cX14_leave 131 = .ok (.iaload, 1) := dk_46 (dk_at dksX14_leave_5 12 rfl rfl)
theorem dX14_leave_132 : decode cX14_leave 132 = .ok (.iaload, 1) := dk_46 (dk_at dksX14_leave_5 13 rfl rfl)
theorem dX14_leave_133 : decode cX14_leave 133 = .ok (.invokevirtual 414, 3) := dk_182 1 158 (dk_at dksX14_leave_5 14 rfl rfl)
theorem dX14_leave_136 : decode cX14_leave 136 = .ok (.aload_n 0, 1) := dk_42 (dk_at dksX14_leave_5 17 rfl rfl)
theorem dX14_leave_137 : decode cX14_leave 137 = .ok (.getfield 293, 3) := dk_180 1 37 (dk_at dksX14_leave_5 18 rfl rfl)
theorem dX14_leave_140 : decode cX14_leave 140 = .ok (.iload 6, 2) := dk_21 6 (dk_at dksX14_leave_5 21 rfl rfl)
theorem dX14_leave_142 : decode cX14_leave 142 = .ok (.iaload, 1) := dk_46 (dk_at dksX14_leave_5 23 rfl rfl)
theorem dX14_leave_143 : decode cX14_leave 143 = .ok (.istore 6, 2) := dk_54 6 (dk_at dksX14_leave_6 0 rfl rfl)
theorem dX14_leave_145 : decode cX14_leave 145 = .ok (.iinc 7 1, 3) := dk_132 7 1 (dk_at dksX14_leave_6 2 rfl rfl)
theorem dX14_leave_148 : decode cX14_leave 148 = .ok (.goto (-58), 3) := dk_167 255 198 (dk_at dksX14_leave_6 5 rfl rfl)
theorem dX14_leave_151 : decode cX14_leave 151 = .ok (.iload 5, 2) := dk_21 5 (dk_at dksX14_leave_6 8 rfl rfl)
theorem dX14_leave_153 : decode cX14_leave 153 = .ok (.ifCond .eq 16, 3) := dk_153 0 16 (dk_at dksX14_leave_6 10 rfl rfl)
theorem dX14_leave_156 : decode cX14_leave 156 = .ok (.aload_n 0, 1) := dk_42 (dk_at dksX14_leave_6 13 rfl rfl)
theorem dX14_leave_157 : decode cX14_leave 157 = .ok (.aload_n 0, 1) := dk_42 (dk_at dksX14_leave_6 14 rfl rfl)
theorem dX14_leave_158 : decode cX14_leave 158 = .ok (.getfield 323, 3) := dk_180 1 67 (dk_at dksX14_leave_6 15 rfl rfl)
theorem dX14_leave_161 : decode cX14_leave 161 = .ok (.iload_n 1, 1) := dk_27 (dk_at dksX14_leave_6 18 rfl rfl)
theorem dX14_leave_162 : decode cX14_leave 162 = .ok (.iaload, 1) := dk_46 (dk_at dksX14_leave_6 19 rfl rfl)
theorem dX14_leave_163 : decode cX14_leave 163 = .ok (.putfield 888, 3) := dk_181 3 120 (dk_at dksX14_leave_6 20 rfl rfl)
theorem dX14_leave_166 : decode cX14_leave 166 = .ok (.goto 75, 3) := dk_167 0 75 (dk_at dksX14_leave_7 0 rfl rfl)
theorem dX14_leave_169 : decode cX14_leave 169 = .ok (.aload_n 0, 1) := dk_42 (dk_at dksX14_leave_7 3 rfl rfl)
theorem dX14_leave_170 : decode cX14_leave 170 = .ok (.iload_n 2, 1) := dk_28 (dk_at dksX14_leave_7 4 rfl rfl)
theorem dX14_leave_171 : decode cX14_leave 171 = .ok (.invokevirtual 640, 3) := dk_182 2 128 (dk_at dksX14_leave_7 5 rfl rfl)
theorem dX14_leave_174 : decode cX14_leave 174 = .ok (.iconst 0, 1) := dk_3 (dk_at dksX14_leave_7 8 rfl rfl)
theorem dX14_leave_175 : decode cX14_leave 175 = .ok (.istore 7, 2) := dk_54 7 (dk_at dksX14_leave_7 9 rfl rfl)
theorem dX14_leave_177 : decode cX14_leave 177 = .ok (.iload 7, 2) := dk_21 7 (dk_at dksX14_leave_7 11 rfl rfl)
theorem dX14_leave_179 : decode cX14_leave 179 = .ok (.aload_n 0, 1) := dk_42 (dk_at dksX14_leave_7 13 rfl rfl)
theorem dX14_leave_180 : decode cX14_leave 180 = .ok (.getfield 630, 3) := dk_180 2 118 (dk_at dksX14_leave_7 14 rfl rfl)
theorem dX14_leave_183 : decode cX14_leave 183 = .ok (.if_icmp .ge 58, 3) := dk_162 0 58 (dk_at dksX14_leave_7 17 rfl rfl)
theorem dX14_leave_186 : decode cX14_leave 186 = .ok (.aload_n 0, 1) := dk_42 (dk_at dksX14_leave_7 20 rfl rfl)
theorem dX14_leave_187 : decode cX14_leave 187 = .ok (.aload_n 0, 1) := dk_42 (dk_at dksX14_leave_7 21 rfl rfl)
theorem dX14_leave_188 : decode cX14_leave 188 = .ok (.getfield 323, 3) := dk_180 1 67 (dk_at dksX14_leave_8 0 rfl rfl)
theorem dX14_leave_191 : decode cX14_leave 191 = .ok (.iload_n 1, 1) := dk_27 (dk_at dksX14_leave_8 3 rfl rfl)
theorem dX14_leave_192 : decode cX14_leave 192 = .ok (.iaload, 1) := dk_46 (dk_at dksX14_leave_8 4 rfl rfl)
theorem dX14_leave_193 : decode cX14_leave 193 = .ok (.aload_n 0, 1) := dk_42 (dk_at dksX14_leave_8 5 rfl rfl)
theorem dX14_leave_194 : decode cX14_leave 194 = .ok (.getfield 230, 3) := dk_180 0 230 (dk_at dksX14_leave_8 6 rfl rfl)
theorem dX14_leave_197 : decode cX14_leave 197 = .ok (.iload 7, 2) := dk_21 7 (dk_at dksX14_leave_8 9 rfl rfl)
theorem dX14_leave_199 : decode cX14_leave 199 = .ok (.laload, 1) := dk_47 (dk_at dksX14_leave_8 11 rfl rfl)
theorem dX14_leave_200 : decode cX14_leave 200 = .ok (.aload_n 0, 1) := dk_42 (dk_at dksX14_leave_8 12 rfl rfl)
theorem dX14_leave_201 : decode cX14_leave 201 = .ok (.getfield 42, 3) := dk_180 0 42 (dk_at dksX14_leave_8 13 rfl rfl)
theorem dX14_leave_204 : decode cX14_leave 204 = .ok (.iload_n 3, 1) := dk_29 (dk_at dksX14_leave_8 16 rfl rfl)
theorem dX14_leave_205 : decode cX14_leave 205 = .ok (.iaload, 1) := dk_46 (dk_at dksX14_leave_8 17 rfl rfl)
theorem dX14_leave_206 : decode cX14_leave 206 = .ok (.bipush 16, 2) := dk_16 16 (dk_at dksX14_leave_8 18 rfl rfl)
theorem dX14_leave_208 : decode cX14_leave 208 = .ok (.if_icmp .eq 19, 3) := dk_159 0 19 (dk_at dksX14_leave_8 20 rfl rfl)
theorem dX14_leave_211 : decode cX14_leave 211 = .ok (.iload 7, 2) := dk_21 7 (dk_at dksX14_leave_9 0 rfl rfl)
theorem dX14_leave_213 : decode cX14_leave 213 = .ok (.ifCond .gt 14, 3) := dk_157 0 14 (dk_at dksX14_leave_9 2 rfl rfl)
theorem dX14_leave_216 : decode cX14_leave 216 = .ok (.aload_n 0, 1) := dk_42 (dk_at dksX14_leave_9 5 rfl rfl)
theorem dX14_leave_217 : decode cX14_leave 217 = .ok (.getfield 42, 3) := dk_180 0 42 (dk_at dksX14_leave_9 6 rfl rfl)
theorem dX14_leave_220 : decode cX14_leave 220 = .ok (.iload_n 3, 1) := dk_29 (dk_at dksX14_leave_9 9 rfl rfl)
theorem dX14_leave_221 : decode cX14_leave 221 = .ok (.iaload, 1) := dk_46 (dk_at dksX14_leave_9 10 rfl rfl)
theorem dX14_leave_222 : decode cX14_leave 222 = .ok (.bipush 12, 2) := dk_16 12 (dk_at dksX14_leave_9 11 rfl rfl)
theorem dX14_leave_224 : decode cX14_leave 224 = .ok (.if_icmp .lt 7, 3) := dk_161 0 7 (dk_at dksX14_leave_9 13 rfl rfl)
theorem dX14_leave_227 : decode cX14_leave 227 = .ok (.iconst 1, 1) := dk_4 (dk_at dksX14_leave_9 16 rfl rfl)
theorem dX14_leave_228 : decode cX14_leave 228 = .ok (.goto 4, 3) := dk_167 0 4 (dk_at dksX14_leave_9 17 rfl rfl)
theorem dX14_leave_231 : decode cX14_leave 231 = .ok (.iconst 0, 1) := dk_3 (dk_at dksX14_leave_9 20 rfl rfl)
theorem dX14_leave_232 : decode cX14_leave 232 = .ok (.invokevirtual 921, 3) := dk_182 3 153 (dk_at dksX14_leave_9 21 rfl rfl)
theorem dX14_leave_235 : decode cX14_leave 235 = .ok (.iinc 7 1, 3) := dk_132 7 1 (dk_at dksX14_leave_10 0 rfl rfl)
theorem dX14_leave_238 : decode cX14_leave 238 = .ok (.goto (-61), 3) := dk_167 255 195 (dk_at dksX14_leave_10 3 rfl rfl)
theorem dX14_leave_241 : decode cX14_leave 241 = .ok (.return_, 1) := dk_177 (dk_at dksX14_leave_10 6 rfl rfl)
abbrev cX14_isDefault : ByteArray := prog_15_method_145_code
def yX14_isDefault : MethodName := ⟨RX14, "isDefault", "(II)Z"⟩
def dkwX14_isDefault_3 : List UInt8 := [132, 4, 1, 167, 255, 206, 29, 172]
abbrev dktX14_isDefault_3 : List UInt8 := dkwX14_isDefault_3 ++ []
def dkwX14_isDefault_2 : List UInt8 := [42, 180, 0, 248, 42, 180, 0, 251, 28, 46, 21, 4, 96, 46, 160, 0, 7, 4, 167, 0, 4, 3, 62]
abbrev dktX14_isDefault_2 : List UInt8 := dkwX14_isDefault_2 ++ dktX14_isDefault_3
def dkwX14_isDefault_1 : List UInt8 := [21, 4, 42, 180, 0, 254, 28, 46, 162, 0, 45, 29, 153, 0, 41, 42, 180, 1, 49, 27, 21, 4, 96, 46]
abbrev dktX14_isDefault_1 : List UInt8 := dkwX14_isDefault_1 ++ dktX14_isDefault_2
def dkwX14_isDefault_0 : List UInt8 := [42, 180, 3, 120, 27, 100, 42, 180, 0, 254, 28, 46, 160, 0, 7, 4, 167, 0, 4, 3, 62, 3, 54, 4]
abbrev dktX14_isDefault_0 : List UInt8 := dkwX14_isDefault_0 ++ dktX14_isDefault_1
theorem dksX14_isDefault_0 : cX14_isDefault.data.toList.drop 0 = dktX14_isDefault_0 := by decide +kernel
theorem dksX14_isDefault_1 : cX14_isDefault.data.toList.drop 24 = dktX14_isDefault_1 := dk_seg dksX14_isDefault_0 24 rfl rfl
theorem dksX14_isDefault_2 : cX14_isDefault.data.toList.drop 48 = dktX14_isDefault_2 := dk_seg dksX14_isDefault_1 24 rfl rfl
theorem dksX14_isDefault_3 : cX14_isDefault.data.toList.drop 71 = dktX14_isDefault_3 := dk_seg dksX14_isDefault_2 23 rfl rfl
theorem dX14_isDefault_0 : decode cX14_isDefault 0 = .ok (.aload_n 0, 1) := dk_42 (dk_at dksX14_isDefault_0 0 rfl rfl)
theorem dX14_isDefault_1 : decode cX14_isDefault 1 = .ok (.getfield 888, 3) := dk_180 3 120 (dk_at dksX14_isDefault_0 1 rfl rfl)
theorem dX14_isDefault_4 : decode cX14_isDefault 4 = .ok (.iload_n 1, 1) := dk_27 (dk_at dksX14_isDefault_0 4 rfl rfl)
theorem dX14_isDefault_5 : decode cX14_isDefault 5 = .ok (.isub, 1) := dk_100 (dk_at dksX14_isDefault_0 5 rfl rfl)
theorem dX14_isDefault_6 : decode cX14_isDefault 6 = .ok (.aload_n 0, 1) := dk_42 (dk_at dksX14_isDefault_0 6 rfl rfl)
theorem dX14_isDefault_7 : decode cX14_isDefault 7 = .ok (.getfield 254, 3) := dk_180 0 254 (dk_at dksX14_isDefault_0 7 rfl rfl)
theorem dX14_isDefault_10 : decode cX14_isDefault 10 = .ok (.iload_n 2, 1) := dk_28 (dk_at dksX14_isDefault_0 10 rfl rfl)
theorem dX14_isDefault_11 : decode cX14_isDefault 11 = .ok (.iaload, 1) := dk_46 (dk_at dksX14_isDefault_0 11 rfl rfl)
theorem dX14_isDefault_12 : decode cX14_isDefault 12 = .ok (.if_icmp .ne 7, 3) := dk_160 0 7 (dk_at dksX14_isDefault_0 12 rfl rfl)
theorem dX14_isDefault_15 : decode cX14_isDefault 15 = .ok (.iconst 1, 1) := dk_4 (dk_at dksX14_isDefault_0 15 rfl rfl)
theorem dX14_isDefault_16 : decode cX14_isDefault 16 = .ok (.goto 4, 3) := dk_167 0 4 (dk_at dksX14_isDefault_0 16 rfl rfl)
theorem dX14_isDefault_19 : decode cX14_isDefault 19 = .ok (.iconst 0, 1) := dk_3 (dk_at dksX14_isDefault_0 19 rfl rfl)
theorem dX14_isDefault_20 : decode cX14_isDefault 20 = .ok (.istore_n 3, 1) := dk_62 (dk_at dksX14_isDefault_0 20 rfl rfl)
theorem dX14_isDefault_21 : decode cX14_isDefault 21 = .ok (.iconst 0, 1) := dk_3 (dk_at dksX14_isDefault_0 21 rfl rfl)
theorem dX14_isDefault_22 : decode cX14_isDefault 22 = .ok (.istore 4, 2) := dk_54 4 (dk_at dksX14_isDefault_0 22 rfl rfl)
theorem dX14_isDefault_24 : decode cX14_isDefault 24 = .ok (.iload 4, 2) := dk_21 4 (dk_at dksX14_isDefault_1 0 rfl rfl)
theorem dX14_isDefault_26 : decode cX14_isDefault 26 = .ok (.aload_n 0, 1) := dk_42 (dk_at dksX14_isDefault_1 2 rfl rfl)
theorem dX14_isDefault_27 : decode cX14_isDefault 27 = .ok (.getfield 254, 3) := dk_180 0 254 (dk_at dksX14_isDefault_1 3 rfl rfl)
theorem dX14_isDefault_30 : decode cX14_isDefault 30 = .ok (.iload_n 2, 1) := dk_28 (dk_at dksX14_isDefault_1 6 rfl rfl)
theorem dX14_isDefault_31 : decode cX14_isDefault 31 = .ok (.iaload, 1) := dk_46 (dk_at dksX14_isDefault_1 7 rfl rfl)
theorem dX14_isDefault_32 : decode cX14_isDefault 32 = .ok (.if_icmp .ge 45, 3) := dk_162 0 45 (dk_at dksX14_isDefault_1 8 rfl rfl)
theorem dX14_isDefault_35 : decode cX14_isDefault 35 = .ok (.iload_n 3, 1) := dk_29 (dk_at dksX14_isDefault_1 11 rfl rfl)
theorem dX14_isDefault_36 : decode cX14_isDefault 36 = .ok (.ifCond .eq 41, 3) := dk_153 0 41 (dk_at dksX14_isDefault_1 12 rfl rfl)
theorem dX14_isDefault_39 : decode cX14_isDefault 39 = .ok (.aload_n 0, 1) := dk_42 (dk_at dksX14_isDefault_1 15 rfl rfl)
theorem dX14_isDefault_40 : decode cX14_isDefault 40 = .ok (.getfield 305, 3) := dk_180 1 49 (dk_at dksX14_isDefault_1 16 rfl rfl)
theorem dX14_isDefault_43 : decode cX14_isDefault 43 = .ok (.iload_n 1, 1) := dk_27 (dk_at dksX14_isDefault_1 19 rfl rfl)
theorem dX14_isDefault_44 : decode cX14_isDefault 44 = .ok (.iload 4, 2) := dk_21 4 (dk_at dksX14_isDefault_1 20 rfl rfl)
theorem dX14_isDefault_46 : decode cX14_isDefault 46 = .ok (.iadd, 1) := dk_96 (dk_at dksX14_isDefault_1 22 rfl rfl)
theorem dX14_isDefault_47 : decode cX14_isDefault 47 = .ok (.iaload, 1) := dk_46 (dk_at dksX14_isDefault_1 23 rfl rfl)
theorem dX14_isDefault_48 : decode cX14_isDefault 48 = .ok (.aload_n 0, 1) := dk_42 (dk_at dksX14_isDefault_2 0 rfl rfl)
theorem dX14_isDefault_49 : decode cX14_isDefault 49 = .ok (.getfield 248, 3) := dk_180 0 248 (dk_at dksX14_isDefault_2 1 rfl rfl)
theorem dX14_isDefault_52 : decode cX14_isDefault 52 = .ok (.aload_n 0, 1) := dk_42 (dk_at dksX14_isDefault_2 4 rfl rfl)
theorem dX14_isDefault_53 : decode cX14_isDefault 53 = .ok (.getfield 251, 3) := dk_180 0 251 (dk_at dksX14_isDefault_2 5 rfl rfl)
theorem dX14_isDefault_56 : decode cX14_isDefault 56 = .ok (.iload_n 2, 1) := dk_28 (dk_at dksX14_isDefault_2 8 rfl rfl)
theorem dX14_isDefault_57 : decode cX14_isDefault 57 = .ok (.iaload, 1) := dk_46 (dk_at dksX14_isDefault_2 9 rfl rfl)
theorem dX14_isDefault_58 : decode cX14_isDefault 58 = .ok (.iload 4, 2) := dk_21 4 (dk_at dksX14_isDefault_2 10 rfl rfl)
theorem dX14_isDefault_60 : decode cX14_isDefault 60 = .ok (.iadd, 1) := dk_96 (dk_at dksX14_isDefault_2 12 rfl rfl)
theorem dX14_isDefault_61 : decode cX14_isDefault 61 = .ok (.iaload, 1) := dk_46 (dk_at dksX14_isDefault_2 13 rfl rfl)
theorem dX14_isDefault_62 : decode cX14_isDefault 62 = .ok (.if_icmp .ne 7, 3) := dk_160 0 7 (dk_at dksX14_isDefault_2 14 rfl rfl)
theorem dX14_isDefault_65 : decode cX14_isDefault 65 = .ok (.iconst 1, 1) := dk_4 (dk_at dksX14_isDefault_2 17 rfl rfl)
theorem dX14_isDefault_66 : decode cX14_isDefault 66 = .ok (.goto 4, 3) := dk_167 0 4 (dk_at dksX14_isDefault_2 18 rfl rfl)
theorem dX14_isDefault_69 : decode cX14_isDefault 69 = .ok (.iconst 0, 1) := dk_3 (dk_at dksX14_isDefault_2 21 rfl rfl)
theorem dX14_isDefault_70 : decode cX14_isDefault 70 = .ok (.istore_n 3, 1) := dk_62 (dk_at dksX14_isDefault_2 22 rfl rfl)
theorem dX14_isDefault_71 : decode cX14_isDefault 71 = .ok (.iinc 4 1, 3) := dk_132 4 1 (dk_at dksX14_isDefault_3 0 rfl rfl)
theorem dX14_isDefault_74 : decode cX14_isDefault 74 = .ok (.goto (-50), 3) := dk_167 255 206 (dk_at dksX14_isDefault_3 3 rfl rfl)
theorem dX14_isDefault_77 : decode cX14_isDefault 77 = .ok (.iload_n 3, 1) := dk_29 (dk_at dksX14_isDefault_3 6 rfl rfl)
theorem dX14_isDefault_78 : decode cX14_isDefault 78 = .ok (.ireturn, 1) := dk_172 (dk_at dksX14_isDefault_3 7 rfl rfl)
abbrev cX14_wrap : ByteArray := prog_15_method_139_code
def yX14_wrap : MethodName := ⟨RX14, "wrap", "(IJZ)V"⟩
def dkwX14_wrap_11 : List UInt8 := [42, 89, 180, 3, 120, 42, 180, 3, 127, 96, 181, 3, 120, 177]
abbrev dktX14_wrap_11 : List UInt8 := dkwX14_wrap_11 ++ []
def dkwX14_wrap_10 : List UInt8 := [21, 8, 96, 42, 180, 1, 55, 42, 180, 3, 127, 4, 100, 21, 8, 100, 46, 79, 132, 8, 1, 167, 255, 221]
abbrev dktX14_wrap_10 : List UInt8 := dkwX14_wrap_10 ++ dktX14_wrap_11
def dkwX14_wrap_9 : List UInt8 := [132, 8, 255, 167, 255, 228, 3, 54, 8, 21, 8, 42, 180, 3, 127, 162, 0, 32, 42, 180, 1, 49, 27]
abbrev dktX14_wrap_9 : List UInt8 := dkwX14_wrap_9 ++ dktX14_wrap_10
def dkwX14_wrap_8 : List UInt8 := [161, 0, 28, 42, 180, 1, 49, 21, 8, 42, 180, 3, 127, 96, 42, 180, 1, 49, 21, 8, 46, 79]
abbrev dktX14_wrap_8 : List UInt8 := dkwX14_wrap_8 ++ dktX14_wrap_9
def dkwX14_wrap_7 : List UInt8 := [182, 3, 130, 42, 42, 180, 3, 127, 182, 3, 124, 42, 180, 3, 120, 4, 100, 54, 8, 21, 8, 27]
abbrev dktX14_wrap_7 : List UInt8 := dkwX14_wrap_7 ++ dktX14_wrap_8
def dkwX14_wrap_6 : List UInt8 := [182, 3, 130, 17, 0, 128, 54, 9, 21, 8, 16, 7, 122, 54, 8, 167, 255, 227, 42, 21, 7, 16, 31, 128]
abbrev dktX14_wrap_6 : List UInt8 := dkwX14_wrap_6 ++ dktX14_wrap_7
def dkwX14_wrap_5 : List UInt8 := [167, 0, 51, 21, 6, 54, 8, 3, 54, 9, 21, 8, 158, 0, 30, 42, 21, 8, 16, 127, 126, 21, 9, 128]
abbrev dktX14_wrap_5 : List UInt8 := dkwX14_wrap_5 ++ dktX14_wrap_6
def dkwX14_wrap_4 : List UInt8 := [167, 0, 4, 3, 128, 54, 7, 21, 6, 16, 31, 162, 0, 15, 42, 21, 7, 21, 6, 128, 182, 3, 130]
abbrev dktX14_wrap_4 : List UInt8 := dkwX14_wrap_4 ++ dktX14_wrap_5
def dkwX14_wrap_3 : List UInt8 := [182, 3, 130, 32, 136, 54, 6, 32, 16, 32, 123, 136, 16, 6, 120, 21, 4, 153, 0, 8, 16, 32]
abbrev dktX14_wrap_3 : List UInt8 := dkwX14_wrap_3 ++ dktX14_wrap_4
def dkwX14_wrap_2 : List UInt8 := [182, 3, 130, 21, 6, 16, 8, 124, 54, 6, 167, 255, 234, 42, 17, 0, 128, 42, 180, 3, 127, 96]
abbrev dktX14_wrap_2 : List UInt8 := dkwX14_wrap_2 ++ dktX14_wrap_3
def dkwX14_wrap_1 : List UInt8 := [182, 3, 130, 167, 0, 44, 21, 5, 54, 6, 21, 6, 158, 0, 23, 42, 21, 6, 17, 0, 255, 126]
abbrev dktX14_wrap_1 : List UInt8 := dkwX14_wrap_1 ++ dktX14_wrap_2
def dkwX14_wrap_0 : List UInt8 := [42, 180, 3, 120, 27, 100, 54, 5, 42, 3, 181, 3, 127, 21, 5, 17, 0, 128, 162, 0, 12, 42, 21, 5]
abbrev dktX14_wrap_0 : List UInt8 := dkwX14_wrap_0 ++ dktX14_wrap_1
theorem dksX14_wrap_0 : cX14_wrap.data.toList.drop 0 = dktX14_wrap_0 := by decide +kernel
theorem dksX14_wrap_1 : cX14_wrap.data.toList.drop 24 = dktX14_wrap_1 := dk_seg dksX14_wrap_0 24 rfl rfl
theorem dksX14_wrap_2 : cX14_wrap.data.toList.drop 46 = dktX14_wrap_2 := dk_seg dksX14_wrap_1 22 rfl rfl
theorem dksX14_wrap_3 : cX14_wrap.data.toList.drop 68 = dktX14_wrap_3 := dk_seg dksX14_wrap_2 22 rfl rfl
theorem dksX14_wrap_4 : cX14_wrap.data.toList.drop 90 = dktX14_wrap_4 := dk_seg dksX14_wrap_3 22 rfl rfl
theorem dksX14_wrap_5 : cX14_wrap.data.toList.drop 113 = dktX14_wrap_5 := dk_seg dksX14_wrap_4 23 rfl rfl
theorem dksX14_wrap_6 : cX14_wrap.data.toList.drop 137 = dktX14_wrap_6 := dk_seg dksX14_wrap_5 24 rfl rfl
theorem dksX14_wrap_7 : cX14_wrap.data.toList.drop 161 = dktX14_wrap_7 := dk_seg dksX14_wrap_6 24 rfl rfl
theorem dksX14_wrap_8 : cX14_wrap.data.toList.drop 183 = dktX14_wrap_8 := dk_seg dksX14_wrap_7 22 rfl rfl
theorem dksX14_wrap_9 : cX14_wrap.data.toList.drop 205 = dktX14_wrap_9 := dk_seg dksX14_wrap_8 22 rfl rfl
theorem dksX14_wrap_10 : cX14_wrap.data.toList.drop 228 = dktX14_wrap_10 := dk_seg dksX14_wrap_9 23 rfl rfl
theorem dksX14_wrap_11 : cX14_wrap.data.toList.drop 252 = dktX14_wrap_11 := dk_seg dksX14_wrap_10 24 rfl rfl
theorem dX14_wrap_0 : decode cX14_wrap 0 = .ok (.aload_n 0, 1) := dk_42 (dk_at dksX14_wrap_0 0 rfl rfl)
theorem dX14_wrap_1 : decode cX14_wrap 1 = .ok (.getfield 888, 3) := dk_180 3 120 (dk_at dksX14_wrap_0 1 rfl rfl)
theorem dX14_wrap_4 : decode cX14_wrap 4 = .ok (.iload_n 1, 1) := dk_27 (dk_at dksX14_wrap_0 4 rfl rfl)
theorem dX14_wrap_5 : decode cX14_wrap 5 = .ok (.isub, 1) := dk_100 (dk_at dksX14_wrap_0 5 rfl rfl)
theorem dX14_wrap_6 : decode cX14_wrap 6 = .ok (.istore 5, 2) := dk_54 5 (dk_at dksX14_wrap_0 6 rfl rfl)
theorem dX14_wrap_8 : decode cX14_wrap 8 = .ok (.aload_n 0, 1) := dk_42 (dk_at dksX14_wrap_0 8 rfl rfl)
theorem dX14_wrap_9 : decode cX14_wrap 9 = .ok (.iconst 0, 1) := dk_3 (dk_at dksX14_wrap_0 9 rfl rfl)
theorem dX14_wrap_10 : decode cX14_wrap 10 = .ok (.putfield 895, 3) := dk_181 3 127 (dk_at dksX14_wrap_0 10 rfl rfl)
theorem dX14_wrap_13 : decode cX14_wrap 13 = .ok (.iload 5, 2) := dk_21 5 (dk_at dksX14_wrap_0 13 rfl rfl)
theorem dX14_wrap_15 : decode cX14_wrap 15 = .ok (.sipush 128, 3) := dk_17 0 128 (dk_at dksX14_wrap_0 15 rfl rfl)
theorem dX14_wrap_18 : decode cX14_wrap 18 = .ok (.if_icmp .ge 12, 3) := dk_162 0 12 (dk_at dksX14_wrap_0 18 rfl rfl)
theorem dX14_wrap_21 : decode cX14_wrap 21 = .ok (.aload_n 0, 1) := dk_42 (dk_at dksX14_wrap_0 21 rfl rfl)
theorem dX14_wrap_22 : decode cX14_wrap 22 = .ok (.iload 5, 2) := dk_21 5 (dk_at dksX14_wrap_0 22 rfl rfl)
theorem dX14_wrap_24 : decode cX14_wrap 24 = .ok (.invokevirtual 898, 3) := dk_182 3 130 (dk_at dksX14_wrap_1 0 rfl rfl)
theorem dX14_wrap_27 : decode cX14_wrap 27 = .ok (.goto 44, 3) := dk_167 0 44 (dk_at dksX14_wrap_1 3 rfl rfl)
theorem dX14_wrap_30 : decode cX14_wrap 30 = .ok (.iload 5, 2) := dk_21 5 (dk_at dksX14_wrap_1 6 rfl rfl)
theorem dX14_wrap_32 : decode cX14_wrap 32 = .ok (.istore 6, 2) := dk_54 6 (dk_at dksX14_wrap_1 8 rfl rfl)
theorem dX14_wrap_34 : decode cX14_wrap 34 = .ok (.iload 6, 2) := dk_21 6 (dk_at dksX14_wrap_1 10 rfl rfl)
theorem dX14_wrap_36 : decode cX14_wrap 36 = .ok (.ifCond .le 23, 3) := dk_158 0 23 (dk_at dksX14_wrap_1 12 rfl rfl)
theorem dX14_wrap_39 : decode cX14_wrap 39 = .ok (.aload_n 0, 1) := dk_42 (dk_at dksX14_wrap_1 15 rfl rfl)
theorem dX14_wrap_40 : decode cX14_wrap 40 = .ok (.iload 6, 2) := dk_21 6 (dk_at dksX14_wrap_1 16 rfl rfl)
theorem dX14_wrap_42 : decode cX14_wrap 42 = .ok (.sipush 255, 3) := dk_17 0 255 (dk_at dksX14_wrap_1 18 rfl rfl)
theorem dX14_wrap_45 : decode cX14_wrap 45 = .ok (.iand, 1) := dk_126 (dk_at dksX14_wrap_1 21 rfl rfl)
theorem dX14_wrap_46 : decode cX14_wrap 46 = .ok (.invokevirtual 898, 3) := dk_182 3 130 (dk_at dksX14_wrap_2 0 rfl rfl)
theorem dX14_wrap_49 : decode cX14_wrap 49 = .ok (.iload 6, 2) := dk_21 6 (dk_at dksX14_wrap_2 3 rfl rfl)
theorem dX14_wrap_51 : decode cX14_wrap 51 = .ok (.bipush 8, 2) := dk_16 8 (dk_at dksX14_wrap_2 5 rfl rfl)
theorem dX14_wrap_53 : decode cX14_wrap 53 = .ok (.iushr, 1) := dk_124 (dk_at dksX14_wrap_2 7 rfl rfl)
theorem dX14_wrap_54 : decode cX14_wrap 54 = .ok (.istore 6, 2) := dk_54 6 (dk_at dksX14_wrap_2 8 rfl rfl)
theorem dX14_wrap_56 : decode cX14_wrap 56 = .ok (.goto (-22), 3) := dk_167 255 234 (dk_at dksX14_wrap_2 10 rfl rfl)
theorem dX14_wrap_59 : decode cX14_wrap 59 = .ok (.aload_n 0, 1) := dk_42 (dk_at dksX14_wrap_2 13 rfl rfl)
theorem dX14_wrap_60 : decode cX14_wrap 60 = .ok (.sipush 128, 3) := dk_17 0 128 (dk_at dksX14_wrap_2 14 rfl rfl)
theorem dX14_wrap_63 : decode cX14_wrap 63 = .ok (.aload_n 0, 1) := dk_42 (dk_at dksX14_wrap_2 17 rfl rfl)
theorem dX14_wrap_64 : decode cX14_wrap 64 = .ok (.getfield 895, 3) := dk_180 3 127 (dk_at dksX14_wrap_2 18 rfl rfl)
theorem dX14_wrap_67 : decode cX14_wrap 67 = .ok (.iadd, 1) := dk_96 (dk_at dksX14_wrap_2 21 rfl rfl)
theorem dX14_wrap_68 : decode cX14_wrap 68 = .ok (.invokevirtual 898, 3) := dk_182 3 130 (dk_at dksX14_wrap_3 0 rfl rfl)
theorem dX14_wrap_71 : decode cX14_wrap 71 = .ok (.lload_n 2, 1) := dk_32 (dk_at dksX14_wrap_3 3 rfl rfl)
theorem dX14_wrap_72 : decode cX14_wrap 72 = .ok (.l2i, 1) := dk_136 (dk_at dksX14_wrap_3 4 rfl rfl)
theorem dX14_wrap_73 : decode cX14_wrap 73 = .ok (.istore 6, 2) := dk_54 6 (dk_at dksX14_wrap_3 5 rfl rfl)
theorem dX14_wrap_75 : decode cX14_wrap 75 = .ok (.lload_n 2, 1) := dk_32 (dk_at dksX14_wrap_3 7 rfl rfl)
theorem dX14_wrap_76 : decode cX14_wrap 76 = .ok (.bipush 32, 2) := dk_16 32 (dk_at dksX14_wrap_3 8 rfl rfl)
theorem dX14_wrap_78 : decode cX14_wrap 78 = .ok (.lshr, 1) := dk_123 (dk_at dksX14_wrap_3 10 rfl rfl)
theorem dX14_wrap_79 : decode cX14_wrap 79 = .ok (.l2i, 1) := dk_136 (dk_at dksX14_wrap_3 11 rfl rfl)
theorem dX14_wrap_80 : decode cX14_wrap 80 = .ok (.bipush 6, 2) := dk_16 6 (dk_at dksX14_wrap_3 12 rfl rfl)
theorem dX14_wrap_82 : decode cX14_wrap 82 = .ok (.ishl, 1) := dk_120 (dk_at dksX14_wrap_3 14 rfl rfl)
theorem dX14_wrap_83 : decode cX14_wrap 83 = .ok (.iload 4, 2) := dk_21 4 (dk_at dksX14_wrap_3 15 rfl rfl)
theorem dX14_wrap_85 : decode cX14_wrap 85 = .ok (.ifCond .eq 8, 3) := dk_153 0 8 (dk_at dksX14_wrap_3 17 rfl rfl)
theorem dX14_wrap_88 : decode cX14_wrap 88 = .ok (.bipush 32, 2) := dk_16 32 (dk_at dksX14_wrap_3 20 rfl rfl)
theorem dX14_wrap_90 : decode cX14_wrap 90 = .ok (.goto 4, 3) := dk_167 0 4 (dk_at dksX14_wrap_4 0 rfl rfl)
theorem dX14_wrap_93 : decode cX14_wrap 93 = .ok (.iconst 0, 1) := dk_3 (dk_at dksX14_wrap_4 3 rfl rfl)
theorem dX14_wrap_94 : decode cX14_wrap 94 = .ok (.ior, 1) := dk_128 (dk_at dksX14_wrap_4 4 rfl rfl)
theorem dX14_wrap_95 : decode cX14_wrap 95 = .ok (.istore 7, 2) := dk_54 7 (dk_at dksX14_wrap_4 5 rfl rfl)
theorem dX14_wrap_97 : decode cX14_wrap 97 = .ok (.iload 6, 2) := dk_21 6 (dk_at dksX14_wrap_4 7 rfl rfl)
theorem dX14_wrap_99 : decode cX14_wrap 99 = .ok (.bipush 31, 2) := dk_16 31 (dk_at dksX14_wrap_4 9 rfl rfl)
theorem dX14_wrap_101 : decode cX14_wrap 101 = .ok (.if_icmp .ge 15, 3) := dk_162 0 15 (dk_at dksX14_wrap_4 11 rfl rfl)
theorem dX14_wrap_104 : decode cX14_wrap 104 = .ok (.aload_n 0, 1) := dk_42 (dk_at dksX14_wrap_4 14 rfl rfl)
theorem dX14_wrap_105 : decode cX14_wrap 105 = .ok (.iload 7, 2) := dk_21 7 (dk_at dksX14_wrap_4 15 rfl rfl)
theorem dX14_wrap_107 : decode cX14_wrap 107 = .ok (.iload 6, 2) := dk_21 6 (dk_at dksX14_wrap_4 17 rfl rfl)
theorem dX14_wrap_109 : decode cX14_wrap 109 = .ok (.ior, 1) := dk_128 (dk_at dksX14_wrap_4 19 rfl rfl)
theorem dX14_wrap_110 : decode cX14_wrap 110 = .ok (.invokevirtual 898, 3) := dk_182 3 130 (dk_at dksX14_wrap_4 20 rfl rfl)
theorem dX14_wrap_113 : decode cX14_wrap 113 = .ok (.goto 51, 3) := dk_167 0 51 (dk_at dksX14_wrap_5 0 rfl rfl)
theorem dX14_wrap_116 : decode cX14_wrap 116 = .ok (.iload 6, 2) := dk_21 6 (dk_at dksX14_wrap_5 3 rfl rfl)
theorem dX14_wrap_118 : decode cX14_wrap 118 = .ok (.istore 8, 2) := dk_54 8 (dk_at dksX14_wrap_5 5 rfl rfl)
theorem dX14_wrap_120 : decode cX14_wrap 120 = .ok (.iconst 0, 1) := dk_3 (dk_at dksX14_wrap_5 7 rfl rfl)
theorem dX14_wrap_121 : decode cX14_wrap 121 = .ok (.istore 9, 2) := dk_54 9 (dk_at dksX14_wrap_5 8 rfl rfl)
theorem dX14_wrap_123 : decode cX14_wrap 123 = .ok (.iload 8, 2) := dk_21 8 (dk_at dksX14_wrap_5 10 rfl rfl)
theorem dX14_wrap_125 : decode cX14_wrap 125 = .ok (.ifCond .le 30, 3) := dk_158 0 30 (dk_at dksX14_wrap_5 12 rfl rfl)
theorem dX14_wrap_128 : decode cX14_wrap 128 = .ok (.aload_n 0, 1) := dk_42 (dk_at dksX14_wrap_5 15 rfl rfl)
theorem dX14_wrap_129 : decode cX14_wrap 129 = .ok (.iload 8, 2) := dk_21 8 (dk_at dksX14_wrap_5 16 rfl rfl)
theorem dX14_wrap_131 : decode cX14_wrap 131 = .ok (.bipush 127, 2) := dk_16 127 (dk_at dksX14_wrap_5 18 rfl rfl)
theorem dX14_wrap_133 : decode cX14_wrap 133 = .ok (.iand, 1) := dk_126 (dk_at dksX14_wrap_5 20 rfl rfl)
theorem dX14_wrap_134 : decode cX14_wrap 134 = .ok (.iload 9, 2) := dk_21 9 (dk_at dksX14_wrap_5 21 rfl rfl)
theorem dX14_wrap_136 : decode cX14_wrap 136 = .ok (.ior, 1) := dk_128 (dk_at dksX14_wrap_5 23 rfl rfl)
theorem dX14_wrap_137 : decode cX14_wrap 137 = .ok (.invokevirtual 898, 3) := dk_182 3 130 (dk_at dksX14_wrap_6 0 rfl rfl)
theorem dX14_wrap_140 : decode cX14_wrap 140 = .ok (.sipush 128, 3) := dk_17 0 128 (dk_at dksX14_wrap_6 3 rfl rfl)
theorem dX14_wrap_143 : decode cX14_wrap 143 = .ok (.istore 9, 2) := dk_54 9 (dk_at dksX14_wrap_6 6 rfl rfl)
theorem dX14_wrap_145 : decode cX14_wrap 145 = .ok (.iload 8, 2) := dk_21 8 (dk_at dksX14_wrap_6 8 rfl rfl)
theorem dX14_wrap_147 : decode cX14_wrap 147 = .ok (.bipush 7, 2) := dk_16 7 (dk_at dksX14_wrap_6 10 rfl rfl)
theorem dX14_wrap_149 : decode cX14_wrap 149 = .ok (.ishr, 1) := dk_122 (dk_at dksX14_wrap_6 12 rfl rfl)
theorem dX14_wrap_150 : decode cX14_wrap 150 = .ok (.istore 8, 2) := dk_54 8 (dk_at dksX14_wrap_6 13 rfl rfl)
theorem dX14_wrap_152 : decode cX14_wrap 152 = .ok (.goto (-29), 3) := dk_167 255 227 (dk_at dksX14_wrap_6 15 rfl rfl)
theorem dX14_wrap_155 : decode cX14_wrap 155 = .ok (.aload_n 0, 1) := dk_42 (dk_at dksX14_wrap_6 18 rfl rfl)
theorem dX14_wrap_156 : decode cX14_wrap 156 = .ok (.iload 7, 2) := dk_21 7 (dk_at dksX14_wrap_6 19 rfl rfl)
theorem dX14_wrap_158 : decode cX14_wrap 158 = .ok (.bipush 31, 2) := dk_16 31 (dk_at dksX14_wrap_6 21 rfl rfl)
theorem dX14_wrap_160 : decode cX14_wrap 160 = .ok (.ior, 1) := dk_128 (dk_at dksX14_wrap_6 23 rfl rfl)
theorem dX14_wrap_161 : decode cX14_wrap 161 = .ok (.invokevirtual 898, 3) := dk_182 3 130 (dk_at dksX14_wrap_7 0 rfl rfl)
theorem dX14_wrap_164 : decode cX14_wrap 164 = .ok (.aload_n 0, 1) := dk_42 (dk_at dksX14_wrap_7 3 rfl rfl)
theorem dX14_wrap_165 : decode cX14_wrap 165 = .ok (.aload_n 0, 1) := dk_42 (dk_at dksX14_wrap_7 4 rfl rfl)
theorem dX14_wrap_166 : decode cX14_wrap 166 = .ok (.getfield 895, 3) := dk_180 3 127 (dk_at dksX14_wrap_7 5 rfl rfl)
theorem dX14_wrap_169 : decode cX14_wrap 169 = .ok (.invokevirtual 892, 3) := dk_182 3 124 (dk_at dksX14_wrap_7 8 rfl rfl)
theorem dX14_wrap_172 : decode cX14_wrap 172 = .ok (.aload_n 0, 1) := dk_42 (dk_at dksX14_wrap_7 11 rfl rfl)
theorem dX14_wrap_173 : decode cX14_wrap 173 = .ok (.getfield 888, 3) := dk_180 3 120 (dk_at dksX14_wrap_7 12 rfl rfl)
theorem dX14_wrap_176 : decode cX14_wrap 176 = .ok (.iconst 1, 1) := dk_4 (dk_at dksX14_wrap_7 15 rfl rfl)
theorem dX14_wrap_177 : decode cX14_wrap 177 = .ok (.isub, 1) := dk_100 (dk_at dksX14_wrap_7 16 rfl rfl)
theorem dX14_wrap_178 : decode cX14_wrap 178 = .ok (.istore 8, 2) := dk_54 8 (dk_at dksX14_wrap_7 17 rfl rfl)
theorem dX14_wrap_180 : decode cX14_wrap 180 = .ok (.iload 8, 2) := dk_21 8 (dk_at dksX14_wrap_7 19 rfl rfl)
theorem dX14_wrap_182 : decode cX14_wrap 182 = .ok (.iload_n 1, 1) := dk_27 (dk_at dksX14_wrap_7 21 rfl rfl)
theorem dX14_wrap_183 : decode cX14_wrap 183 = .ok (.if_icmp .lt 28, 3) := dk_161 0 28 (dk_at dksX14_wrap_8 0 rfl rfl)
theorem dX14_wrap_186 : decode cX14_wrap 186 = .ok (.aload_n 0, 1) := dk_42 (dk_at dksX14_wrap_8 3 rfl rfl)
theorem dX14_wrap_187 : decode cX14_wrap 187 = .ok (.getfield 305, 3) := dk_180 1 49 (dk_at dksX14_wrap_8 4 rfl rfl)
theorem dX14_wrap_190 : decode cX14_wrap 190 = .ok (.iload 8, 2) := dk_21 8 (dk_at dksX14_wrap_8 7 rfl rfl)
theorem dX14_wrap_192 : decode cX14_wrap 192 = .ok (.aload_n 0, 1) := dk_42 (dk_at dksX14_wrap_8 9 rfl rfl)
theorem dX14_wrap_193 : decode cX14_wrap 193 = .ok (.getfield 895, 3) := dk_180 3 127 (dk_at dksX14_wrap_8 10 rfl rfl)
theorem dX14_wrap_196 : decode cX14_wrap 196 = .ok (.iadd, 1) := dk_96 (dk_at dksX14_wrap_8 13 rfl rfl)
theorem dX14_wrap_197 : decode cX14_wrap 197 = .ok (.aload_n 0, 1) := dk_42 (dk_at dksX14_wrap_8 14 rfl rfl)
theorem dX14_wrap_198 : decode cX14_wrap 198 = .ok (.getfield 305, 3) := dk_180 1 49 (dk_at dksX14_wrap_8 15 rfl rfl)
theorem dX14_wrap_201 : decode cX14_wrap 201 = .ok (.iload 8, 2) := dk_21 8 (dk_at dksX14_wrap_8 18 rfl rfl)
theorem dX14_wrap_203 : decode cX14_wrap 203 = .ok (.iaload, 1) := dk_46 (dk_at dksX14_wrap_8 20 rfl rfl)
theorem dX14_wrap_204 : decode cX14_wrap 204 = .ok (.iastore, 1) := dk_79 (dk_at dksX14_wrap_8 21 rfl rfl)
theorem dX14_wrap_205 : decode cX14_wrap 205 = .ok (.iinc 8 (-1), 3) := dk_132 8 255 (dk_at dksX14_wrap_9 0 rfl rfl)
theorem dX14_wrap_208 : decode cX14_wrap 208 = .ok (.goto (-28), 3) := dk_167 255 228 (dk_at dksX14_wrap_9 3 rfl rfl)
theorem dX14_wrap_211 : decode cX14_wrap 211 = .ok (.iconst 0, 1) := dk_3 (dk_at dksX14_wrap_9 6 rfl rfl)
theorem dX14_wrap_212 : decode cX14_wrap 212 = .ok (.istore 8, 2) := dk_54 8 (dk_at dksX14_wrap_9 7 rfl rfl)
theorem dX14_wrap_214 : decode cX14_wrap 214 = .ok (.iload 8, 2) := dk_21 8 (dk_at dksX14_wrap_9 9 rfl rfl)
theorem dX14_wrap_216 : decode cX14_wrap 216 = .ok (.aload_n 0, 1) := dk_42 (dk_at dksX14_wrap_9 11 rfl rfl)
theorem dX14_wrap_217 : decode cX14_wrap 217 = .ok (.getfield 895, 3) := dk_180 3 127 (dk_at dksX14_wrap_9 12 rfl rfl)
theorem dX14_wrap_220 : decode cX14_wrap 220 = .ok (.if_icmp .ge 32, 3) := dk_162 0 32 (dk_at dksX14_wrap_9 15 rfl rfl)
theorem dX14_wrap_223 : decode cX14_wrap 223 = .ok (.aload_n 0, 1) := dk_42 (dk_at dksX14_wrap_9 18 rfl rfl)
theorem dX14_wrap_224 : decode cX14_wrap 224 = .ok (.getfield 305, 3) := dk_180 1 49 (dk_at dksX14_wrap_9 19 rfl rfl)
theorem dX14_wrap_227 : decode cX14_wrap 227 = .ok (.iload_n 1, 1) := dk_27 (dk_at dksX14_wrap_9 22 rfl rfl)
theorem dX14_wrap_228 : decode cX14_wrap 228 = .ok (.iload 8, 2) := dk_21 8 (dk_at dksX14_wrap_10 0 rfl rfl)
theorem dX14_wrap_230 : decode cX14_wrap 230 = .ok (.iadd, 1) := dk_96 (dk_at dksX14_wrap_10 2 rfl rfl)
theorem dX14_wrap_231 : decode cX14_wrap 231 = .ok (.aload_n 0, 1) := dk_42 (dk_at dksX14_wrap_10 3 rfl rfl)
theorem dX14_wrap_232 : decode cX14_wrap 232 = .ok (.getfield 311, 3) := dk_180 1 55 (dk_at dksX14_wrap_10 4 rfl rfl)
theorem dX14_wrap_235 : decode cX14_wrap 235 = .ok (.aload_n 0, 1) := dk_42 (dk_at dksX14_wrap_10 7 rfl rfl)
theorem dX14_wrap_236 : decode cX14_wrap 236 = .ok (.getfield 895, 3) := dk_180 3 127 (dk_at dksX14_wrap_10 8 rfl rfl)
theorem dX14_wrap_239 : decode cX14_wrap 239 = .ok (.iconst 1, 1) := dk_4 (dk_at dksX14_wrap_10 11 rfl rfl)
theorem dX14_wrap_240 : decode cX14_wrap 240 = .ok (.isub, 1) := dk_100 (dk_at dksX14_wrap_10 12 rfl rfl)
theorem dX14_wrap_241 : decode cX14_wrap 241 = .ok (.iload 8, 2) := dk_21 8 (dk_at dksX14_wrap_10 13 rfl rfl)
theorem dX14_wrap_243 : decode cX14_wrap 243 = .ok (.isub, 1) := dk_100 (dk_at dksX14_wrap_10 15 rfl rfl)
theorem dX14_wrap_244 : decode cX14_wrap 244 = .ok (.iaload, 1) := dk_46 (dk_at dksX14_wrap_10 16 rfl rfl)
theorem dX14_wrap_245 : decode cX14_wrap 245 = .ok (.iastore, 1) := dk_79 (dk_at dksX14_wrap_10 17 rfl rfl)
theorem dX14_wrap_246 : decode cX14_wrap 246 = .ok (.iinc 8 1, 3) := dk_132 8 1 (dk_at dksX14_wrap_10 18 rfl rfl)
theorem dX14_wrap_249 : decode cX14_wrap 249 = .ok (.goto (-35), 3) := dk_167 255 221 (dk_at dksX14_wrap_10 21 rfl rfl)
theorem dX14_wrap_252 : decode cX14_wrap 252 = .ok (.aload_n 0, 1) := dk_42 (dk_at dksX14_wrap_11 0 rfl rfl)
theorem dX14_wrap_253 : decode cX14_wrap 253 = .ok (.dup, 1) := dk_89 (dk_at dksX14_wrap_11 1 rfl rfl)
theorem dX14_wrap_254 : decode cX14_wrap 254 = .ok (.getfield 888, 3) := dk_180 3 120 (dk_at dksX14_wrap_11 2 rfl rfl)
theorem dX14_wrap_257 : decode cX14_wrap 257 = .ok (.aload_n 0, 1) := dk_42 (dk_at dksX14_wrap_11 5 rfl rfl)
theorem dX14_wrap_258 : decode cX14_wrap 258 = .ok (.getfield 895, 3) := dk_180 3 127 (dk_at dksX14_wrap_11 6 rfl rfl)
theorem dX14_wrap_261 : decode cX14_wrap 261 = .ok (.iadd, 1) := dk_96 (dk_at dksX14_wrap_11 9 rfl rfl)
theorem dX14_wrap_262 : decode cX14_wrap 262 = .ok (.putfield 888, 3) := dk_181 3 120 (dk_at dksX14_wrap_11 10 rfl rfl)
theorem dX14_wrap_265 : decode cX14_wrap 265 = .ok (.return_, 1) := dk_177 (dk_at dksX14_wrap_11 13 rfl rfl)
abbrev cX14_headByte : ByteArray := prog_15_method_140_code
def yX14_headByte : MethodName := ⟨RX14, "headByte", "(I)V"⟩
def dkwX14_headByte_0 : List UInt8 := [42, 180, 1, 55, 42, 180, 3, 127, 27, 79, 42, 89, 180, 3, 127, 4, 96, 181, 3, 127, 177]
abbrev dktX14_headByte_0 : List UInt8 := dkwX14_headByte_0 ++ []
theorem dksX14_headByte_0 : cX14_headByte.data.toList.drop 0 = dktX14_headByte_0 := by decide +kernel
theorem dX14_headByte_0 : decode cX14_headByte 0 = .ok (.aload_n 0, 1) := dk_42 (dk_at dksX14_headByte_0 0 rfl rfl)
theorem dX14_headByte_1 : decode cX14_headByte 1 = .ok (.getfield 311, 3) := dk_180 1 55 (dk_at dksX14_headByte_0 1 rfl rfl)
theorem dX14_headByte_4 : decode cX14_headByte 4 = .ok (.aload_n 0, 1) := dk_42 (dk_at dksX14_headByte_0 4 rfl rfl)
theorem dX14_headByte_5 : decode cX14_headByte 5 = .ok (.getfield 895, 3) := dk_180 3 127 (dk_at dksX14_headByte_0 5 rfl rfl)
theorem dX14_headByte_8 : decode cX14_headByte 8 = .ok (.iload_n 1, 1) := dk_27 (dk_at dksX14_headByte_0 8 rfl rfl)
theorem dX14_headByte_9 : decode cX14_headByte 9 = .ok (.iastore, 1) := dk_79 (dk_at dksX14_headByte_0 9 rfl rfl)
theorem dX14_headByte_10 : decode cX14_headByte 10 = .ok (.aload_n 0, 1) := dk_42 (dk_at dksX14_headByte_0 10 rfl rfl)
theorem dX14_headByte_11 : decode cX14_headByte 11 = .ok (.dup, 1) := dk_89 (dk_at dksX14_headByte_0 11 rfl rfl)
theorem dX14_headByte_12 : decode cX14_headByte 12 = .ok (.getfield 895, 3) := dk_180 3 127 (dk_at dksX14_headByte_0 12 rfl rfl)
theorem dX14_headByte_15 : decode cX14_headByte 15 = .ok (.iconst 1, 1) := dk_4 (dk_at dksX14_headByte_0 15 rfl rfl)
theorem dX14_headByte_16 : decode cX14_headByte 16 = .ok (.iadd, 1) := dk_96 (dk_at dksX14_headByte_0 16 rfl rfl)
theorem dX14_headByte_17 : decode cX14_headByte 17 = .ok (.putfield 895, 3) := dk_181 3 127 (dk_at dksX14_headByte_0 17 rfl rfl)
theorem dX14_headByte_20 : decode cX14_headByte 20 = .ok (.return_, 1) := dk_177 (dk_at dksX14_headByte_0 20 rfl rfl)
abbrev cX14_goOn : ByteArray := prog_15_method_146_code
def yX14_goOn : MethodName := ⟨RX14, "goOn", "()V"⟩
def dkwX14_goOn_6 : List UInt8 := [182, 3, 169, 177]
abbrev dktX14_goOn_6 : List UInt8 := dkwX14_goOn_6 ++ []
def dkwX14_goOn_5 : List UInt8 := [180, 3, 120, 79, 42, 89, 180, 3, 140, 4, 96, 181, 3, 140, 42, 42, 180, 0, 69, 28, 46, 29, 2]
abbrev dktX14_goOn_5 : List UInt8 := dkwX14_goOn_5 ++ dktX14_goOn_6
def dkwX14_goOn_4 : List UInt8 := [167, 0, 50, 42, 180, 1, 73, 27, 42, 180, 1, 46, 29, 46, 79, 42, 180, 1, 82, 42, 180, 3, 140, 42]
abbrev dktX14_goOn_4 : List UInt8 := dkwX14_goOn_4 ++ dktX14_goOn_5
def dkwX14_goOn_3 : List UInt8 := [27, 28, 29, 182, 3, 163, 167, 0, 67, 21, 4, 16, 13, 160, 0, 13, 42, 27, 28, 29, 182, 3, 166]
abbrev dktX14_goOn_3 : List UInt8 := dkwX14_goOn_3 ++ dktX14_goOn_4
def dkwX14_goOn_2 : List UInt8 := [167, 0, 97, 29, 156, 0, 12, 42, 27, 28, 182, 3, 160, 167, 0, 84, 21, 4, 16, 12, 160, 0, 13, 42]
abbrev dktX14_goOn_2 : List UInt8 := dkwX14_goOn_2 ++ dktX14_goOn_3
def dkwX14_goOn_1 : List UInt8 := [62, 42, 180, 0, 42, 28, 46, 54, 4, 21, 4, 16, 16, 160, 0, 13, 42, 27, 28, 29, 182, 3, 157]
abbrev dktX14_goOn_1 : List UInt8 := dkwX14_goOn_1 ++ dktX14_goOn_2
def dkwX14_goOn_0 : List UInt8 := [42, 180, 1, 117, 4, 100, 60, 42, 42, 180, 1, 58, 27, 46, 182, 2, 100, 61, 42, 180, 1, 73, 27, 46]
abbrev dktX14_goOn_0 : List UInt8 := dkwX14_goOn_0 ++ dktX14_goOn_1
theorem dksX14_goOn_0 : cX14_goOn.data.toList.drop 0 = dktX14_goOn_0 := by decide +kernel
theorem dksX14_goOn_1 : cX14_goOn.data.toList.drop 24 = dktX14_goOn_1 := dk_seg dksX14_goOn_0 24 rfl rfl
theorem dksX14_goOn_2 : cX14_goOn.data.toList.drop 47 = dktX14_goOn_2 := dk_seg dksX14_goOn_1 23 rfl rfl
theorem dksX14_goOn_3 : cX14_goOn.data.toList.drop 71 = dktX14_goOn_3 := dk_seg dksX14_goOn_2 24 rfl rfl
theorem dksX14_goOn_4 : cX14_goOn.data.toList.drop 94 = dktX14_goOn_4 := dk_seg dksX14_goOn_3 23 rfl rfl
theorem dksX14_goOn_5 : cX14_goOn.data.toList.drop 118 = dktX14_goOn_5 := dk_seg dksX14_goOn_4 24 rfl rfl
theorem dksX14_goOn_6 : cX14_goOn.data.toList.drop 141 = dktX14_goOn_6 := dk_seg dksX14_goOn_5 23 rfl rfl
theorem dX14_goOn_0 : decode cX14_goOn 0 = .ok (.aload_n 0, 1) := dk_42 (dk_at dksX14_goOn_0 0 rfl rfl)
theorem dX14_goOn_1 : decode cX14_goOn 1 = .ok (.getfield 373, 3) := dk_180 1 117 (dk_at dksX14_goOn_0 1 rfl rfl)
theorem dX14_goOn_4 : decode cX14_goOn 4 = .ok (.iconst 1, 1) := dk_4 (dk_at dksX14_goOn_0 4 rfl rfl)
theorem dX14_goOn_5 : decode cX14_goOn 5 = .ok (.isub, 1) := dk_100 (dk_at dksX14_goOn_0 5 rfl rfl)
theorem dX14_goOn_6 : decode cX14_goOn 6 = .ok (.istore_n 1, 1) := dk_60 (dk_at dksX14_goOn_0 6 rfl rfl)
theorem dX14_goOn_7 : decode cX14_goOn 7 = .ok (.aload_n 0, 1) := dk_42 (dk_at dksX14_goOn_0 7 rfl rfl)
theorem dX14_goOn_8 : decode cX14_goOn 8 = .ok (.aload_n 0, 1) := dk_42 (dk_at dksX14_goOn_0 8 rfl rfl)
theorem dX14_goOn_9 : decode cX14_goOn 9 = .ok (.getfield 314, 3) := dk_180 1 58 (dk_at dksX14_goOn_0 9 rfl rfl)
theorem dX14_goOn_12 : decode cX14_goOn 12 = .ok (.iload_n 1, 1) := dk_27 (dk_at dksX14_goOn_0 12 rfl rfl)
theorem dX14_goOn_13 : decode cX14_goOn 13 = .ok (.iaload, 1) := dk_46 (dk_at dksX14_goOn_0 13 rfl rfl)
theorem dX14_goOn_14 : decode cX14_goOn 14 = .ok (.invokevirtual 612, 3) := dk_182 2 100 (dk_at dksX14_goOn_0 14 rfl rfl)
theorem dX14_goOn_17 : decode cX14_goOn 17 = .ok (.istore_n 2, 1) := dk_61 (dk_at dksX14_goOn_0 17 rfl rfl)
theorem dX14_goOn_18 : decode cX14_goOn 18 = .ok (.aload_n 0, 1) := dk_42 (dk_at dksX14_goOn_0 18 rfl rfl)
theorem dX14_goOn_19 : decode cX14_goOn 19 = .ok (.getfield 329, 3) := dk_180 1 73 (dk_at dksX14_goOn_0 19 rfl rfl)
theorem dX14_goOn_22 : decode cX14_goOn 22 = .ok (.iload_n 1, 1) := dk_27 (dk_at dksX14_goOn_0 22 rfl rfl)
theorem dX14_goOn_23 : decode cX14_goOn 23 = .ok (.iaload, 1) := dk_46 (dk_at dksX14_goOn_0 23 rfl rfl)
theorem dX14_goOn_24 : decode cX14_goOn 24 = .ok (.istore_n 3, 1) := dk_62 (dk_at dksX14_goOn_1 0 rfl rfl)
theorem dX14_goOn_25 : decode cX14_goOn 25 = .ok (.aload_n 0, 1) := dk_42 (dk_at dksX14_goOn_1 1 rfl rfl)
theorem dX14_goOn_26 : decode cX14_goOn 26 = .ok (.getfield 42, 3) := dk_180 0 42 (dk_at dksX14_goOn_1 2 rfl rfl)
theorem dX14_goOn_29 : decode cX14_goOn 29 = .ok (.iload_n 2, 1) := dk_28 (dk_at dksX14_goOn_1 5 rfl rfl)
theorem dX14_goOn_30 : decode cX14_goOn 30 = .ok (.iaload, 1) := dk_46 (dk_at dksX14_goOn_1 6 rfl rfl)
theorem dX14_goOn_31 : decode cX14_goOn 31 = .ok (.istore 4, 2) := dk_54 4 (dk_at dksX14_goOn_1 7 rfl rfl)
theorem dX14_goOn_33 : decode cX14_goOn 33 = .ok (.iload 4, 2) := dk_21 4 (dk_at dksX14_goOn_1 9 rfl rfl)
theorem dX14_goOn_35 : decode cX14_goOn 35 = .ok (.bipush 16, 2) := dk_16 16 (dk_at dksX14_goOn_1 11 rfl rfl)
theorem dX14_goOn_37 : decode cX14_goOn 37 = .ok (.if_icmp .ne 13, 3) := dk_160 0 13 (dk_at dksX14_goOn_1 13 rfl rfl)
theorem dX14_goOn_40 : decode cX14_goOn 40 = .ok (.aload_n 0, 1) := dk_42 (dk_at dksX14_goOn_1 16 rfl rfl)
theorem dX14_goOn_41 : decode cX14_goOn 41 = .ok (.iload_n 1, 1) := dk_27 (dk_at dksX14_goOn_1 17 rfl rfl)
theorem dX14_goOn_42 : decode cX14_goOn 42 = .ok (.iload_n 2, 1) := dk_28 (dk_at dksX14_goOn_1 18 rfl rfl)
theorem dX14_goOn_43 : decode cX14_goOn 43 = .ok (.iload_n 3, 1) := dk_29 (dk_at dksX14_goOn_1 19 rfl rfl)
theorem dX14_goOn_44 : decode cX14_goOn 44 = .ok (.invokevirtual 925, 3) := dk_182 3 157 (dk_at dksX14_goOn_1 20 rfl rfl)
theorem dX14_goOn_47 : decode cX14_goOn 47 = .ok (.goto 97, 3) := dk_167 0 97 (dk_at dksX14_goOn_2 0 rfl rfl)
theorem dX14_goOn_50 : decode cX14_goOn 50 = .ok (.iload_n 3, 1) := dk_29 (dk_at dksX14_goOn_2 3 rfl rfl)
theorem dX14_goOn_51 : decode cX14_goOn 51 = .ok (.ifCond .ge 12, 3) := dk_156 0 12 (dk_at dksX14_goOn_2 4 rfl rfl)
theorem dX14_goOn_54 : decode cX14_goOn 54 = .ok (.aload_n 0, 1) := dk_42 (dk_at dksX14_goOn_2 7 rfl rfl)
theorem dX14_goOn_55 : decode cX14_goOn 55 = .ok (.iload_n 1, 1) := dk_27 (dk_at dksX14_goOn_2 8 rfl rfl)
theorem dX14_goOn_56 : decode cX14_goOn 56 = .ok (.iload_n 2, 1) := dk_28 (dk_at dksX14_goOn_2 9 rfl rfl)
theorem dX14_goOn_57 : decode cX14_goOn 57 = .ok (.invokevirtual 928, 3) := dk_182 3 160 (dk_at dksX14_goOn_2 10 rfl rfl)
theorem dX14_goOn_60 : decode cX14_goOn 60 = .ok (.goto 84, 3) := dk_167 0 84 (dk_at dksX14_goOn_2 13 rfl rfl)
theorem dX14_goOn_63 : decode cX14_goOn 63 = .ok (.iload 4, 2) := dk_21 4 (dk_at dksX14_goOn_2 16 rfl rfl)
theorem dX14_goOn_65 : decode cX14_goOn 65 = .ok (.bipush 12, 2) := dk_16 12 (dk_at dksX14_goOn_2 18 rfl rfl)
theorem dX14_goOn_67 : decode cX14_goOn 67 = .ok (.if_icmp .ne 13, 3) := dk_160 0 13 (dk_at dksX14_goOn_2 20 rfl rfl)
theorem dX14_goOn_70 : decode cX14_goOn 70 = .ok (.aload_n 0, 1) := dk_42 (dk_at dksX14_goOn_2 23 rfl rfl)
theorem dX14_goOn_71 : decode cX14_goOn 71 = .ok (.iload_n 1, 1) := dk_27 (dk_at dksX14_goOn_3 0 rfl rfl)
theorem dX14_goOn_72 : decode cX14_goOn 72 = .ok (.iload_n 2, 1) := dk_28 (dk_at dksX14_goOn_3 1 rfl rfl)
theorem dX14_goOn_73 : decode cX14_goOn 73 = .ok (.iload_n 3, 1) := dk_29 (dk_at dksX14_goOn_3 2 rfl rfl)
theorem dX14_goOn_74 : decode cX14_goOn 74 = .ok (.invokevirtual 931, 3) := dk_182 3 163 (dk_at dksX14_goOn_3 3 rfl rfl)
theorem dX14_goOn_77 : decode cX14_goOn 77 = .ok (.goto 67, 3) := dk_167 0 67 (dk_at dksX14_goOn_3 6 rfl rfl)
theorem dX14_goOn_80 : decode cX14_goOn 80 = .ok (.iload 4, 2) := dk_21 4 (dk_at dksX14_goOn_3 9 rfl rfl)
theorem dX14_goOn_82 : decode cX14_goOn 82 = .ok (.bipush 13, 2) := dk_16 13 (dk_at dksX14_goOn_3 11 rfl rfl)
theorem dX14_goOn_84 : decode cX14_goOn 84 = .ok (.if_icmp .ne 13, 3) := dk_160 0 13 (dk_at dksX14_goOn_3 13 rfl rfl)
theorem dX14_goOn_87 : decode cX14_goOn 87 = .ok (.aload_n 0, 1) := dk_42 (dk_at dksX14_goOn_3 16 rfl rfl)
theorem dX14_goOn_88 : decode cX14_goOn 88 = .ok (.iload_n 1, 1) := dk_27 (dk_at dksX14_goOn_3 17 rfl rfl)
theorem dX14_goOn_89 : decode cX14_goOn 89 = .ok (.iload_n 2, 1) := dk_28 (dk_at dksX14_goOn_3 18 rfl rfl)
theorem dX14_goOn_90 : decode cX14_goOn 90 = .ok (.iload_n 3, 1) := dk_29 (dk_at dksX14_goOn_3 19 rfl rfl)
theorem dX14_goOn_91 : decode cX14_goOn 91 = .ok (.invokevirtual 934, 3) := dk_182 3 166 (dk_at dksX14_goOn_3 20 rfl rfl)
theorem dX14_goOn_94 : decode cX14_goOn 94 = .ok (.goto 50, 3) := dk_167 0 50 (dk_at dksX14_goOn_4 0 rfl rfl)
theorem dX14_goOn_97 : decode cX14_goOn 97 = .ok (.aload_n 0, 1) := dk_42 (dk_at dksX14_goOn_4 3 rfl rfl)
theorem dX14_goOn_98 : decode cX14_goOn 98 = .ok (.getfield 329, 3) := dk_180 1 73 (dk_at dksX14_goOn_4 4 rfl rfl)
theorem dX14_goOn_101 : decode cX14_goOn 101 = .ok (.iload_n 1, 1) := dk_27 (dk_at dksX14_goOn_4 7 rfl rfl)
theorem dX14_goOn_102 : decode cX14_goOn 102 = .ok (.aload_n 0, 1) := dk_42 (dk_at dksX14_goOn_4 8 rfl rfl)
theorem dX14_goOn_103 : decode cX14_goOn 103 = .ok (.getfield 302, 3) := dk_180 1 46 (dk_at dksX14_goOn_4 9 rfl rfl)
theorem dX14_goOn_106 : decode cX14_goOn 106 = .ok (.iload_n 3, 1) := dk_29 (dk_at dksX14_goOn_4 12 rfl rfl)
theorem dX14_goOn_107 : decode cX14_goOn 107 = .ok (.iaload, 1) := dk_46 (dk_at dksX14_goOn_4 13 rfl rfl)
theorem dX14_goOn_108 : decode cX14_goOn 108 = .ok (.iastore, 1) := dk_79 (dk_at dksX14_goOn_4 14 rfl rfl)
theorem dX14_goOn_109 : decode cX14_goOn 109 = .ok (.aload_n 0, 1) := dk_42 (dk_at dksX14_goOn_4 15 rfl rfl)
theorem dX14_goOn_110 : decode cX14_goOn 110 = .ok (.getfield 338, 3) := dk_180 1 82 (dk_at dksX14_goOn_4 16 rfl rfl)
theorem dX14_goOn_113 : decode cX14_goOn 113 = .ok (.aload_n 0, 1) := dk_42 (dk_at dksX14_goOn_4 19 rfl rfl)
theorem dX14_goOn_114 : decode cX14_goOn 114 = .ok (.getfield 908, 3) := dk_180 3 140 (dk_at dksX14_goOn_4 20 rfl rfl)
theorem dX14_goOn_117 : decode cX14_goOn 117 = .ok (.aload_n 0, 1) := dk_42 (dk_at dksX14_goOn_4 23 rfl rfl)
theorem dX14_goOn_118 : decode cX14_goOn 118 = .ok (.getfield 888, 3) := dk_180 3 120 (dk_at dksX14_goOn_5 0 rfl rfl)
theorem dX14_goOn_121 : decode cX14_goOn 121 = .ok (.iastore, 1) := dk_79 (dk_at dksX14_goOn_5 3 rfl rfl)
theorem dX14_goOn_122 : decode cX14_goOn 122 = .ok (.aload_n 0, 1) := dk_42 (dk_at dksX14_goOn_5 4 rfl rfl)
theorem dX14_goOn_123 : decode cX14_goOn 123 = .ok (.dup, 1) := dk_89 (dk_at dksX14_goOn_5 5 rfl rfl)
theorem dX14_goOn_124 : decode cX14_goOn 124 = .ok (.getfield 908, 3) := dk_180 3 140 (dk_at dksX14_goOn_5 6 rfl rfl)
theorem dX14_goOn_127 : decode cX14_goOn 127 = .ok (.iconst 1, 1) := dk_4 (dk_at dksX14_goOn_5 9 rfl rfl)
theorem dX14_goOn_128 : decode cX14_goOn 128 = .ok (.iadd, 1) := dk_96 (dk_at dksX14_goOn_5 10 rfl rfl)
theorem dX14_goOn_129 : decode cX14_goOn 129 = .ok (.putfield 908, 3) := dk_181 3 140 (dk_at dksX14_goOn_5 11 rfl rfl)
theorem dX14_goOn_132 : decode cX14_goOn 132 = .ok (.aload_n 0, 1) := dk_42 (dk_at dksX14_goOn_5 14 rfl rfl)
theorem dX14_goOn_133 : decode cX14_goOn 133 = .ok (.aload_n 0, 1) := dk_42 (dk_at dksX14_goOn_5 15 rfl rfl)
theorem dX14_goOn_134 : decode cX14_goOn 134 = .ok (.getfield 69, 3) := dk_180 0 69 (dk_at dksX14_goOn_5 16 rfl rfl)
theorem dX14_goOn_137 : decode cX14_goOn 137 = .ok (.iload_n 2, 1) := dk_28 (dk_at dksX14_goOn_5 19 rfl rfl)
theorem dX14_goOn_138 : decode cX14_goOn 138 = .ok (.iaload, 1) := dk_46 (dk_at dksX14_goOn_5 20 rfl rfl)
theorem dX14_goOn_139 : decode cX14_goOn 139 = .ok (.iload_n 3, 1) := dk_29 (dk_at dksX14_goOn_5 21 rfl rfl)
theorem dX14_goOn_140 : decode cX14_goOn 140 = .ok (.iconst (-1), 1) := dk_2 (dk_at dksX14_goOn_5 22 rfl rfl)
theorem dX14_goOn_141 : decode cX14_goOn 141 = .ok (.invokevirtual 937, 3) := dk_182 3 169 (dk_at dksX14_goOn_6 0 rfl rfl)
theorem dX14_goOn_144 : decode cX14_goOn 144 = .ok (.return_, 1) := dk_177 (dk_at dksX14_goOn_6 3 rfl rfl)
abbrev cX14_choose : ByteArray := prog_15_method_147_code
def yX14_choose : MethodName := ⟨RX14, "choose", "(III)V"⟩
def dkwX14_choose_3 : List UInt8 := [182, 1, 158, 167, 0, 16, 42, 42, 180, 0, 103, 21, 4, 46, 29, 2, 182, 3, 169, 177]
abbrev dktX14_choose_3 : List UInt8 := dkwX14_choose_3 ++ []
def dkwX14_choose_2 : List UInt8 := [167, 255, 227, 42, 180, 1, 73, 27, 2, 79, 21, 4, 156, 0, 18, 42, 16, 11, 42, 180, 1, 16, 29, 46]
abbrev dktX14_choose_2 : List UInt8 := dkwX14_choose_2 ++ dktX14_choose_3
def dkwX14_choose_1 : List UInt8 := [42, 180, 0, 103, 21, 4, 46, 182, 3, 172, 154, 0, 15, 42, 180, 0, 112, 21, 4, 46, 54, 4]
abbrev dktX14_choose_1 : List UInt8 := dkwX14_choose_1 ++ dktX14_choose_2
def dkwX14_choose_0 : List UInt8 := [29, 156, 0, 8, 42, 182, 3, 147, 177, 42, 180, 0, 63, 28, 46, 54, 4, 21, 4, 155, 0, 30, 42, 29]
abbrev dktX14_choose_0 : List UInt8 := dkwX14_choose_0 ++ dktX14_choose_1
theorem dksX14_choose_0 : cX14_choose.data.toList.drop 0 = dktX14_choose_0 := by decide +kernel
theorem dksX14_choose_1 : cX14_choose.data.toList.drop 24 = dktX14_choose_1 := dk_seg dksX14_choose_0 24 rfl rfl
theorem dksX14_choose_2 : cX14_choose.data.toList.drop 46 = dktX14_choose_2 := dk_seg dksX14_choose_1 22 rfl rfl
theorem dksX14_choose_3 : cX14_choose.data.toList.drop 70 = dktX14_choose_3 := dk_seg dksX14_choose_2 24 rfl rfl
theorem dX14_choose_0 : decode cX14_choose 0 = .ok (.iload_n 3, 1) := dk_29 (dk_at dksX14_choose_0 0 rfl rfl)
theorem dX14_choose_1 : decode cX14_choose 1 = .ok (.ifCond .ge 8, 3) := dk_156 0 8 (dk_at dksX14_choose_0 1 rfl rfl)
theorem dX14_choose_4 : decode cX14_choose 4 = .ok (.aload_n 0, 1) := dk_42 (dk_at dksX14_choose_0 4 rfl rfl)
theorem dX14_choose_5 : decode cX14_choose 5 = .ok (.invokevirtual 915, 3) := dk_182 3 147 (dk_at dksX14_choose_0 5 rfl rfl)
theorem dX14_choose_8 : decode cX14_choose 8 = .ok (.return_, 1) := dk_177 (dk_at dksX14_choose_0 8 rfl rfl)
theorem dX14_choose_9 : decode cX14_choose 9 = .ok (.aload_n 0, 1) := dk_42 (dk_at dksX14_choose_0 9 rfl rfl)
theorem dX14_choose_10 : decode cX14_choose 10 = .ok (.getfield 63, 3) := dk_180 0 63 (dk_at dksX14_choose_0 10 rfl rfl)
theorem dX14_choose_13 : decode cX14_choose 13 = .ok (.iload_n 2, 1) := dk_28 (dk_at dksX14_choose_0 13 rfl rfl)
theorem dX14_choose_14 : decode cX14_choose 14 = .ok (.iaload, 1) := dk_46 (dk_at dksX14_choose_0 14 rfl rfl)
theorem dX14_choose_15 : decode cX14_choose 15 = .ok (.istore 4, 2) := dk_54 4 (dk_at dksX14_choose_0 15 rfl rfl)
theorem dX14_choose_17 : decode cX14_choose 17 = .ok (.iload 4, 2) := dk_21 4 (dk_at dksX14_choose_0 17 rfl rfl)
theorem dX14_choose_19 : decode cX14_choose 19 = .ok (.ifCond .lt 30, 3) := dk_155 0 30 (dk_at dksX14_choose_0 19 rfl rfl)
theorem dX14_choose_22 : decode cX14_choose 22 = .ok (.aload_n 0, 1) := dk_42 (dk_at dksX14_choose_0 22 rfl rfl)
theorem dX14_choose_23 : decode cX14_choose 23 = .ok (.iload_n 3, 1) := dk_29 (dk_at dksX14_choose_0 23 rfl rfl)
theorem dX14_choose_24 : decode cX14_choose 24 = .ok (.aload_n 0, 1) := dk_42 (dk_at dksX14_choose_1 0 rfl rfl)
theorem dX14_choose_25 : decode cX14_choose 25 = .ok (.getfield 103, 3) := dk_180 0 103 (dk_at dksX14_choose_1 1 rfl rfl)
theorem dX14_choose_28 : decode cX14_choose 28 = .ok (.iload 4, 2) := dk_21 4 (dk_at dksX14_choose_1 4 rfl rfl)
theorem dX14_choose_30 : decode cX14_choose 30 = .ok (.iaload, 1) := dk_46 (dk_at dksX14_choose_1 6 rfl rfl)
theorem dX14_choose_31 : decode cX14_choose 31 = .ok (.invokevirtual 940, 3) := dk_182 3 172 (dk_at dksX14_choose_1 7 rfl rfl)
theorem dX14_choose_34 : decode cX14_choose 34 = .ok (.ifCond .ne 15, 3) := dk_154 0 15 (dk_at dksX14_choose_1 10 rfl rfl)
theorem dX14_choose_37 : decode cX14_choose 37 = .ok (.aload_n 0, 1) := dk_42 (dk_at dksX14_choose_1 13 rfl rfl)
theorem dX14_choose_38 : decode cX14_choose 38 = .ok (.getfield 112, 3) := dk_180 0 112 (dk_at dksX14_choose_1 14 rfl rfl)
theorem dX14_choose_41 : decode cX14_choose 41 = .ok (.iload 4, 2) := dk_21 4 (dk_at dksX14_choose_1 17 rfl rfl)
theorem dX14_choose_43 : decode cX14_choose 43 = .ok (.iaload, 1) := dk_46 (dk_at dksX14_choose_1 19 rfl rfl)
theorem dX14_choose_44 : decode cX14_choose 44 = .ok (.istore 4, 2) := dk_54 4 (dk_at dksX14_choose_1 20 rfl rfl)
theorem dX14_choose_46 : decode cX14_choose 46 = .ok (.goto (-29), 3) := dk_167 255 227 (dk_at dksX14_choose_2 0 rfl rfl)
theorem dX14_choose_49 : decode cX14_choose 49 = .ok (.aload_n 0, 1) := dk_42 (dk_at dksX14_choose_2 3 rfl rfl)
theorem dX14_choose_50 : decode cX14_choose 50 = .ok (.getfield 329, 3) := dk_180 1 73 (dk_at dksX14_choose_2 4 rfl rfl)
theorem dX14_choose_53 : decode cX14_choose 53 = .ok (.iload_n 1, 1) := dk_27 (dk_at dksX14_choose_2 7 rfl rfl)
theorem dX14_choose_54 : decode cX14_choose 54 = .ok (.iconst (-1), 1) := dk_2 (dk_at dksX14_choose_2 8 rfl rfl)
theorem dX14_choose_55 : decode cX14_choose 55 = .ok (.iastore, 1) := dk_79 (dk_at dksX14_choose_2 9 rfl rfl)
theorem dX14_choose_56 : decode cX14_choose 56 = .ok (.iload 4, 2) := dk_21 4 (dk_at dksX14_choose_2 10 rfl rfl)
theorem dX14_choose_58 : decode cX14_choose 58 = .ok (.ifCond .ge 18, 3) := dk_156 0 18 (dk_at dksX14_choose_2 12 rfl rfl)
theorem dX14_choose_61 : decode cX14_choose 61 = .ok (.aload_n 0, 1) := dk_42 (dk_at dksX14_choose_2 15 rfl rfl)
theorem dX14_choose_62 : decode cX14_choose 62 = .ok (.bipush 11, 2) := dk_16 11 (dk_at dksX14_choose_2 16 rfl rfl)
theorem dX14_choose_64 : decode cX14_choose 64 = .ok (.aload_n 0, 1) := dk_42 (dk_at dksX14_choose_2 18 rfl rfl)
theorem dX14_choose_65 : decode cX14_choose 65 = .ok (.getfield 272, 3) := dk_180 1 16 (dk_at dksX14_choose_2 19 rfl rfl)
theorem dX14_choose_68 : decode cX14_choose 68 = .ok (.iload_n 3, 1) := dk_29 (dk_at dksX14_choose_2 22 rfl rfl)
theorem dX14_choose_69 : decode cX14_choose 69 = .ok (.iaload, 1) := dk_46 (dk_at dksX14_choose_2 23 rfl rfl)
theorem dX14_choose_70 : decode cX14_choose 70 = .ok (.invokevirtual 414, 3) := dk_182 1 158 (dk_at dksX14_choose_3 0 rfl rfl)
theorem dX14_choose_73 : decode cX14_choose 73 = .ok (.goto 16, 3) := dk_167 0 16 (dk_at dksX14_choose_3 3 rfl rfl)
theorem dX14_choose_76 : decode cX14_choose 76 = .ok (.aload_n 0, 1) := dk_42 (dk_at dksX14_choose_3 6 rfl rfl)
theorem dX14_choose_77 : decode cX14_choose 77 = .ok (.aload_n 0, 1) := dk_42 (dk_at dksX14_choose_3 7 rfl rfl)
theorem dX14_choose_78 : decode cX14_choose 78 = .ok (.getfield 103, 3) := dk_180 0 103 (dk_at dksX14_choose_3 8 rfl rfl)
theorem dX14_choose_81 : decode cX14_choose 81 = .ok (.iload 4, 2) := dk_21 4 (dk_at dksX14_choose_3 11 rfl rfl)
theorem dX14_choose_83 : decode cX14_choose 83 = .ok (.iaload, 1) := dk_46 (dk_at dksX14_choose_3 13 rfl rfl)
theorem dX14_choose_84 : decode cX14_choose 84 = .ok (.iload_n 3, 1) := dk_29 (dk_at dksX14_choose_3 14 rfl rfl)
theorem dX14_choose_85 : decode cX14_choose 85 = .ok (.iconst (-1), 1) := dk_2 (dk_at dksX14_choose_3 15 rfl rfl)
theorem dX14_choose_86 : decode cX14_choose 86 = .ok (.invokevirtual 937, 3) := dk_182 3 169 (dk_at dksX14_choose_3 16 rfl rfl)
theorem dX14_choose_89 : decode cX14_choose 89 = .ok (.return_, 1) := dk_177 (dk_at dksX14_choose_3 19 rfl rfl)
abbrev cX14_mayBe : ByteArray := prog_15_method_142_code
def yX14_mayBe : MethodName := ⟨RX14, "mayBe", "(II)Z"⟩
def dkwX14_mayBe_2 : List UInt8 := [62, 132, 4, 1, 167, 255, 219, 29, 172]
abbrev dktX14_mayBe_2 : List UInt8 := dkwX14_mayBe_2 ++ []
def dkwX14_mayBe_1 : List UInt8 := [29, 154, 0, 18, 42, 27, 42, 180, 0, 227, 21, 4, 47, 182, 3, 133, 153, 0, 7, 4, 167, 0, 4, 3]
abbrev dktX14_mayBe_1 : List UInt8 := dkwX14_mayBe_1 ++ dktX14_mayBe_2
def dkwX14_mayBe_0 : List UInt8 := [42, 3, 181, 2, 135, 42, 28, 182, 2, 138, 3, 62, 3, 54, 4, 21, 4, 42, 180, 2, 135, 162, 0, 34]
abbrev dktX14_mayBe_0 : List UInt8 := dkwX14_mayBe_0 ++ dktX14_mayBe_1
theorem dksX14_mayBe_0 : cX14_mayBe.data.toList.drop 0 = dktX14_mayBe_0 := by decide +kernel
theorem dksX14_mayBe_1 : cX14_mayBe.data.toList.drop 24 = dktX14_mayBe_1 := dk_seg dksX14_mayBe_0 24 rfl rfl
theorem dksX14_mayBe_2 : cX14_mayBe.data.toList.drop 48 = dktX14_mayBe_2 := dk_seg dksX14_mayBe_1 24 rfl rfl
theorem dX14_mayBe_0 : decode cX14_mayBe 0 = .ok (.aload_n 0, 1) := dk_42 (dk_at dksX14_mayBe_0 0 rfl rfl)
theorem dX14_mayBe_1 : decode cX14_mayBe 1 = .ok (.iconst 0, 1) := dk_3 (dk_at dksX14_mayBe_0 1 rfl rfl)
theorem dX14_mayBe_2 : decode cX14_mayBe 2 = .ok (.putfield 647, 3) := dk_181 2 135 (dk_at dksX14_mayBe_0 2 rfl rfl)
theorem dX14_mayBe_5 : decode cX14_mayBe 5 = .ok (.aload_n 0, 1) := dk_42 (dk_at dksX14_mayBe_0 5 rfl rfl)
theorem dX14_mayBe_6 : decode cX14_mayBe 6 = .ok (.iload_n 2, 1) := dk_28 (dk_at dksX14_mayBe_0 6 rfl rfl)
theorem dX14_mayBe_7 : decode cX14_mayBe 7 = .ok (.invokevirtual 650, 3) := dk_182 2 138 (dk_at dksX14_mayBe_0 7 rfl rfl)
theorem dX14_mayBe_10 : decode cX14_mayBe 10 = .ok (.iconst 0, 1) := dk_3 (dk_at dksX14_mayBe_0 10 rfl rfl)
theorem dX14_mayBe_11 : decode cX14_mayBe 11 = .ok (.istore_n 3, 1) := dk_62 (dk_at dksX14_mayBe_0 11 rfl rfl)
theorem dX14_mayBe_12 : decode cX14_mayBe 12 = .ok (.iconst 0, 1) := dk_3 (dk_at dksX14_mayBe_0 12 rfl rfl)
theorem dX14_mayBe_13 : decode cX14_mayBe 13 = .ok (.istore 4, 2) := dk_54 4 (dk_at dksX14_mayBe_0 13 rfl rfl)
theorem dX14_mayBe_15 : decode cX14_mayBe 15 = .ok (.iload 4, 2) := dk_21 4 (dk_at dksX14_mayBe_0 15 rfl rfl)
theorem dX14_mayBe_17 : decode cX14_mayBe 17 = .ok (.aload_n 0, 1) := dk_42 (dk_at dksX14_mayBe_0 17 rfl rfl)
theorem dX14_mayBe_18 : decode cX14_mayBe 18 = .ok (.getfield 647, 3) := dk_180 2 135 (dk_at dksX14_mayBe_0 18 rfl rfl)
theorem dX14_mayBe_21 : decode cX14_mayBe 21 = .ok (.if_icmp .ge 34, 3) := dk_162 0 34 (dk_at dksX14_mayBe_0 21 rfl rfl)
theorem dX14_mayBe_24 : decode cX14_mayBe 24 = .ok (.iload_n 3, 1) := dk_29 (dk_at dksX14_mayBe_1 0 rfl rfl)
theorem dX14_mayBe_25 : decode cX14_mayBe 25 = .ok (.ifCond .ne 18, 3) := dk_154 0 18 (dk_at dksX14_mayBe_1 1 rfl rfl)
theorem dX14_mayBe_28 : decode cX14_mayBe 28 = .ok (.aload_n 0, 1) := dk_42 (dk_at dksX14_mayBe_1 4 rfl rfl)
theorem dX14_mayBe_29 : decode cX14_mayBe 29 = .ok (.iload_n 1, 1) := dk_27 (dk_at dksX14_mayBe_1 5 rfl rfl)
theorem dX14_mayBe_30 : decode cX14_mayBe 30 = .ok (.aload_n 0, 1) := dk_42 (dk_at dksX14_mayBe_1 6 rfl rfl)
theorem dX14_mayBe_31 : decode cX14_mayBe 31 = .ok (.getfield 227, 3) := dk_180 0 227 (dk_at dksX14_mayBe_1 7 rfl rfl)
theorem dX14_mayBe_34 : decode cX14_mayBe 34 = .ok (.iload 4, 2) := dk_21 4 (dk_at dksX14_mayBe_1 10 rfl rfl)
theorem dX14_mayBe_36 : decode cX14_mayBe 36 = .ok (.laload, 1) := dk_47 (dk_at dksX14_mayBe_1 12 rfl rfl)
theorem dX14_mayBe_37 : decode cX14_mayBe 37 = .ok (.invokevirtual 901, 3) := dk_182 3 133 (dk_at dksX14_mayBe_1 13 rfl rfl)
theorem dX14_mayBe_40 : decode cX14_mayBe 40 = .ok (.ifCond .eq 7, 3) := dk_153 0 7 (dk_at dksX14_mayBe_1 16 rfl rfl)
theorem dX14_mayBe_43 : decode cX14_mayBe 43 = .ok (.iconst 1, 1) := dk_4 (dk_at dksX14_mayBe_1 19 rfl rfl)
theorem dX14_mayBe_44 : decode cX14_mayBe 44 = .ok (.goto 4, 3) := dk_167 0 4 (dk_at dksX14_mayBe_1 20 rfl rfl)
theorem dX14_mayBe_47 : decode cX14_mayBe 47 = .ok (.iconst 0, 1) := dk_3 (dk_at dksX14_mayBe_1 23 rfl rfl)
theorem dX14_mayBe_48 : decode cX14_mayBe 48 = .ok (.istore_n 3, 1) := dk_62 (dk_at dksX14_mayBe_2 0 rfl rfl)
theorem dX14_mayBe_49 : decode cX14_mayBe 49 = .ok (.iinc 4 1, 3) := dk_132 4 1 (dk_at dksX14_mayBe_2 1 rfl rfl)
theorem dX14_mayBe_52 : decode cX14_mayBe 52 = .ok (.goto (-37), 3) := dk_167 255 219 (dk_at dksX14_mayBe_2 4 rfl rfl)
theorem dX14_mayBe_55 : decode cX14_mayBe 55 = .ok (.iload_n 3, 1) := dk_29 (dk_at dksX14_mayBe_2 7 rfl rfl)
theorem dX14_mayBe_56 : decode cX14_mayBe 56 = .ok (.ireturn, 1) := dk_172 (dk_at dksX14_mayBe_2 8 rfl rfl)
abbrev cX14_finish : ByteArray := prog_15_method_150_code
def yX14_finish : MethodName := ⟨RX14, "finish", "(II)V"⟩
def dkwX14_finish_12 : List UInt8 := [182, 3, 147, 177]
abbrev dktX14_finish_12 : List UInt8 := dkwX14_finish_12 ++ []
def dkwX14_finish_11 : List UInt8 := [160, 0, 7, 4, 167, 0, 4, 3, 182, 3, 175, 42, 42, 180, 1, 79, 27, 46, 181, 3, 140, 42]
abbrev dktX14_finish_11 : List UInt8 := dkwX14_finish_11 ++ dktX14_finish_12
def dkwX14_finish_10 : List UInt8 := [29, 16, 13, 159, 0, 9, 29, 16, 15, 160, 0, 24, 42, 42, 180, 1, 79, 27, 46, 29, 16, 13]
abbrev dktX14_finish_10 : List UInt8 := dkwX14_finish_10 ++ dktX14_finish_11
def dkwX14_finish_9 : List UInt8 := [154, 0, 16, 42, 16, 22, 42, 180, 1, 16, 21, 4, 46, 182, 1, 158, 42, 180, 1, 97, 158, 0, 4, 177]
abbrev dktX14_finish_9 : List UInt8 := dkwX14_finish_9 ++ dktX14_finish_10
def dkwX14_finish_8 : List UInt8 := [167, 0, 40, 42, 42, 180, 1, 58, 27, 46, 42, 180, 3, 140, 42, 180, 1, 79, 27, 46, 100, 182, 2, 182]
abbrev dktX14_finish_8 : List UInt8 := dkwX14_finish_8 ++ dktX14_finish_9
def dkwX14_finish_7 : List UInt8 := [42, 180, 1, 16, 21, 4, 46, 182, 1, 158, 42, 180, 0, 112, 21, 5, 46, 54, 5, 167, 255, 160]
abbrev dktX14_finish_7 : List UInt8 := dkwX14_finish_7 ++ dktX14_finish_8
def dkwX14_finish_6 : List UInt8 := [160, 0, 7, 4, 167, 0, 4, 3, 54, 6, 132, 7, 1, 167, 255, 220, 21, 6, 154, 0, 16, 42, 16, 12]
abbrev dktX14_finish_6 : List UInt8 := dkwX14_finish_6 ++ dktX14_finish_7
def dkwX14_finish_5 : List UInt8 := [21, 7, 42, 180, 3, 140, 162, 0, 33, 21, 6, 154, 0, 15, 42, 180, 1, 85, 21, 7, 46, 21, 5]
abbrev dktX14_finish_5 : List UInt8 := dkwX14_finish_5 ++ dktX14_finish_6
def dkwX14_finish_4 : List UInt8 := [180, 0, 106, 21, 5, 46, 158, 0, 7, 4, 167, 0, 4, 3, 54, 6, 42, 180, 1, 79, 27, 46, 54, 7]
abbrev dktX14_finish_4 : List UInt8 := dkwX14_finish_4 ++ dktX14_finish_5
def dkwX14_finish_3 : List UInt8 := [167, 0, 156, 29, 16, 13, 160, 0, 113, 42, 180, 0, 63, 28, 46, 54, 5, 21, 5, 155, 0, 97, 42]
abbrev dktX14_finish_3 : List UInt8 := dkwX14_finish_3 ++ dktX14_finish_4
def dkwX14_finish_2 : List UInt8 := [16, 12, 42, 180, 1, 16, 21, 4, 46, 182, 1, 158, 42, 180, 0, 112, 21, 5, 46, 54, 5, 167, 255, 219]
abbrev dktX14_finish_2 : List UInt8 := dkwX14_finish_2 ++ dktX14_finish_3
def dkwX14_finish_1 : List UInt8 := [180, 1, 76, 27, 46, 54, 5, 21, 5, 155, 0, 38, 42, 180, 0, 106, 21, 5, 46, 154, 0, 16, 42]
abbrev dktX14_finish_1 : List UInt8 := dkwX14_finish_1 ++ dktX14_finish_2
def dkwX14_finish_0 : List UInt8 := [42, 180, 0, 42, 28, 46, 62, 42, 180, 1, 61, 27, 46, 54, 4, 29, 16, 12, 160, 0, 54, 42]
abbrev dktX14_finish_0 : List UInt8 := dkwX14_finish_0 ++ dktX14_finish_1
theorem dksX14_finish_0 : cX14_finish.data.toList.drop 0 = dktX14_finish_0 := by decide +kernel
theorem dksX14_finish_1 : cX14_finish.data.toList.drop 22 = dktX14_finish_1 := dk_seg dksX14_finish_0 22 rfl rfl
theorem dksX14_finish_2 : cX14_finish.data.toList.drop 45 = dktX14_finish_2 := dk_seg dksX14_finish_1 23 rfl rfl
theorem dksX14_finish_3 : cX14_finish.data.toList.drop 69 = dktX14_finish_3 := dk_seg dksX14_finish_2 24 rfl rfl
theorem dksX14_finish_4 : cX14_finish.data.toList.drop 92 = dktX14_finish_4 := dk_seg dksX14_finish_3 23 rfl rfl
theorem dksX14_finish_5 : cX14_finish.data.toList.drop 116 = dktX14_finish_5 := dk_seg dksX14_finish_4 24 rfl rfl
theorem dksX14_finish_6 : cX14_finish.data.toList.drop 139 = dktX14_finish_6 := dk_seg dksX14_finish_5 23 rfl rfl
theorem dksX14_finish_7 : cX14_finish.data.toList.drop 163 = dktX14_finish_7 := dk_seg dksX14_finish_6 24 rfl rfl
theorem dksX14_finish_8 : cX14_finish.data.toList.drop 185 = dktX14_finish_8 := dk_seg dksX14_finish_7 22 rfl rfl
theorem dksX14_finish_9 : cX14_finish.data.toList.drop 209 = dktX14_finish_9 := dk_seg dksX14_finish_8 24 rfl rfl
theorem dksX14_finish_10 : cX14_finish.data.toList.drop 233 = dktX14_finish_10 := dk_seg dksX14_finish_9 24 rfl rfl
theorem dksX14_finish_11 : cX14_finish.data.toList.drop 255 = dktX14_finish_11 := dk_seg dksX14_finish_10 22 rfl rfl
theorem dksX14_finish_12 : cX14_finish.data.toList.drop 277 = dktX14_finish_12 := dk_seg dksX14_finish_11 22 rfl rfl
theorem dX14_finish_0 : decode cX14_finish 0 = .ok (.aload_n 0, 1) := dk_42 (dk_at dksX14_finish_0 0 rfl rfl)
theorem dX14_finish_1 : decode cX14_finish 1 = .ok (.getfield 42, 3) := dk_180 0 42 (dk_at dksX14_finish_0 1 rfl rfl)
theorem dX14_finish_4 : decode cX14_finish 4 = .ok (.iload_n 2, 1) := dk_28 (dk_at dksX14_finish_0 4 rfl rfl)
theorem dX14_finish_5 : decode cX14_finish 5 = .ok (.iaload, 1) := dk_46 (dk_at dksX14_finish_0 5 rfl rfl)
theorem dX14_finish_6 : decode cX14_finish 6 = .ok (.istore_n 3, 1) := dk_62 (dk_at dksX14_finish_0 6 rfl rfl)
theorem dX14_finish_7 : decode cX14_finish 7 = .ok (.aload_n 0, 1) := dk_42 (dk_at dksX14_finish_0 7 rfl rfl)
theorem dX14_finish_8 : decode cX14_finish 8 = .ok (.getfield 317, 3) := dk_180 1 61 (dk_at dksX14_finish_0 8 rfl rfl)
theorem dX14_finish_11 : decode cX14_finish 11 = .ok (.iload_n 1, 1) := dk_27 (dk_at dksX14_finish_0 11 rfl rfl)
theorem dX14_finish_12 : decode cX14_finish 12 = .ok (.iaload, 1) := dk_46 (dk_at dksX14_finish_0 12 rfl rfl)
theorem dX14_finish_13 : decode cX14_finish 13 = .ok (.istore 4, 2) := dk_54 4 (dk_at dksX14_finish_0 13 rfl rfl)
theorem dX14_finish_15 : decode cX14_finish 15 = .ok (.iload_n 3, 1) := dk_29 (dk_at dksX14_finish_0 15 rfl rfl)
theorem dX14_finish_16 : decode cX14_finish 16 = .ok (.bipush 12, 2) := dk_16 12 (dk_at dksX14_finish_0 16 rfl rfl)
theorem dX14_finish_18 : decode cX14_finish 18 = .ok (.if_icmp .ne 54, 3) := dk_160 0 54 (dk_at dksX14_finish_0 18 rfl rfl)
theorem dX14_finish_21 : decode cX14_finish 21 = .ok (.aload_n 0, 1) := dk_42 (dk_at dksX14_finish_0 21 rfl rfl)
theorem dX14_finish_22 : decode cX14_finish 22 = .ok (.getfield 332, 3) := dk_180 1 76 (dk_at dksX14_finish_1 0 rfl rfl)
theorem dX14_finish_25 : decode cX14_finish 25 = .ok (.iload_n 1, 1) := dk_27 (dk_at dksX14_finish_1 3 rfl rfl)
theorem dX14_finish_26 : decode cX14_finish 26 = .ok (.iaload, 1) := dk_46 (dk_at dksX14_finish_1 4 rfl rfl)
theorem dX14_finish_27 : decode cX14_finish 27 = .ok (.istore 5, 2) := dk_54 5 (dk_at dksX14_finish_1 5 rfl rfl)
theorem dX14_finish_29 : decode cX14_finish 29 = .ok (.iload 5, 2) := dk_21 5 (dk_at dksX14_finish_1 7 rfl rfl)
theorem dX14_finish_31 : decode cX14_finish 31 = .ok (.ifCond .lt 38, 3) := dk_155 0 38 (dk_at dksX14_finish_1 9 rfl rfl)
theorem dX14_finish_34 : decode cX14_finish 34 = .ok (.aload_n 0, 1) := dk_42 (dk_at dksX14_finish_1 12 rfl rfl)
theorem dX14_finish_35 : decode cX14_finish 35 = .ok (.getfield 106, 3) := dk_180 0 106 (dk_at dksX14_finish_1 13 rfl rfl)
theorem dX14_finish_38 : decode cX14_finish 38 = .ok (.iload 5, 2) := dk_21 5 (dk_at dksX14_finish_1 16 rfl rfl)
theorem dX14_finish_40 : decode cX14_finish 40 = .ok (.iaload, 1) := dk_46 (dk_at dksX14_finish_1 18 rfl rfl)
theorem dX14_finish_41 : decode cX14_finish 41 = .ok (.ifCond .ne 16, 3) := dk_154 0 16 (dk_at dksX14_finish_1 19 rfl rfl)
theorem dX14_finish_44 : decode cX14_finish 44 = .ok (.aload_n 0, 1) := dk_42 (dk_at dksX14_finish_1 22 rfl rfl)
theorem dX14_finish_45 : decode cX14_finish 45 = .ok (.bipush 12, 2) := dk_16 12 (dk_at dksX14_finish_2 0 rfl rfl)
theorem dX14_finish_47 : decode cX14_finish 47 = .ok (.aload_n 0, 1) := dk_42 (dk_at dksX14_finish_2 2 rfl rfl)
theorem dX14_finish_48 : decode cX14_finish 48 = .ok (.getfield 272, 3) := dk_180 1 16 (dk_at dksX14_finish_2 3 rfl rfl)
theorem dX14_finish_51 : decode cX14_finish 51 = .ok (.iload 4, 2) := dk_21 4 (dk_at dksX14_finish_2 6 rfl rfl)
theorem dX14_finish_53 : decode cX14_finish 53 = .ok (.iaload, 1) := dk_46 (dk_at dksX14_finish_2 8 rfl rfl)
theorem dX14_finish_54 : decode cX14_finish 54 = .ok (.invokevirtual 414, 3) := dk_182 1 158 (dk_at dksX14_finish_2 9 rfl rfl)
theorem dX14_finish_57 : decode cX14_finish 57 = .ok (.aload_n 0, 1) := dk_42 (dk_at dksX14_finish_2 12 rfl rfl)
theorem dX14_finish_58 : decode cX14_finish 58 = .ok (.getfield 112, 3) := dk_180 0 112 (dk_at dksX14_finish_2 13 rfl rfl)
theorem dX14_finish_61 : decode cX14_finish 61 = .ok (.iload 5, 2) := dk_21 5 (dk_at dksX14_finish_2 16 rfl rfl)
theorem dX14_finish_63 : decode cX14_finish 63 = .ok (.iaload, 1) := dk_46 (dk_at dksX14_finish_2 18 rfl rfl)
theorem dX14_finish_64 : decode cX14_finish 64 = .ok (.istore 5, 2) := dk_54 5 (dk_at dksX14_finish_2 19 rfl rfl)
theorem dX14_finish_66 : decode cX14_finish 66 = .ok (.goto (-37), 3) := dk_167 255 219 (dk_at dksX14_finish_2 21 rfl rfl)
theorem dX14_finish_69 : decode cX14_finish 69 = .ok (.goto 156, 3) := dk_167 0 156 (dk_at dksX14_finish_3 0 rfl rfl)
theorem dX14_finish_72 : decode cX14_finish 72 = .ok (.iload_n 3, 1) := dk_29 (dk_at dksX14_finish_3 3 rfl rfl)
theorem dX14_finish_73 : decode cX14_finish 73 = .ok (.bipush 13, 2) := dk_16 13 (dk_at dksX14_finish_3 4 rfl rfl)
theorem dX14_finish_75 : decode cX14_finish 75 = .ok (.if_icmp .ne 113, 3) := dk_160 0 113 (dk_at dksX14_finish_3 6 rfl rfl)
theorem dX14_finish_78 : decode cX14_finish 78 = .ok (.aload_n 0, 1) := dk_42 (dk_at dksX14_finish_3 9 rfl rfl)
theorem dX14_finish_79 : decode cX14_finish 79 = .ok (.getfield 63, 3) := dk_180 0 63 (dk_at dksX14_finish_3 10 rfl rfl)
theorem dX14_finish_82 : decode cX14_finish 82 = .ok (.iload_n 2, 1) := dk_28 (dk_at dksX14_finish_3 13 rfl rfl)
theorem dX14_finish_83 : decode cX14_finish 83 = .ok (.iaload, 1) := dk_46 (dk_at dksX14_finish_3 14 rfl rfl)
theorem dX14_finish_84 : decode cX14_finish 84 = .ok (.istore 5, 2) := dk_54 5 (dk_at dksX14_finish_3 15 rfl rfl)
theorem dX14_finish_86 : decode cX14_finish 86 = .ok (.iload 5, 2) := dk_21 5 (dk_at dksX14_finish_3 17 rfl rfl)
theorem dX14_finish_88 : decode cX14_finish 88 = .ok (.ifCond .lt 97, 3) := dk_155 0 97 (dk_at dksX14_finish_3 19 rfl rfl)
theorem dX14_finish_91 : decode cX14_finish 91 = .ok (.aload_n 0, 1) := dk_42 (dk_at dksX14_finish_3 22 rfl rfl)
theorem dX14_finish_92 : decode cX14_finish 92 = .ok (.getfield 106, 3) := dk_180 0 106 (dk_at dksX14_finish_4 0 rfl rfl)
theorem dX14_finish_95 : decode cX14_finish 95 = .ok (.iload 5, 2) := dk_21 5 (dk_at dksX14_finish_4 3 rfl rfl)
theorem dX14_finish_97 : decode cX14_finish 97 = .ok (.iaload, 1) := dk_46 (dk_at dksX14_finish_4 5 rfl rfl)
theorem dX14_finish_98 : decode cX14_finish 98 = .ok (.ifCond .le 7, 3) := dk_158 0 7 (dk_at dksX14_finish_4 6 rfl rfl)
theorem dX14_finish_101 : decode cX14_finish 101 = .ok (.iconst 1, 1) := dk_4 (dk_at dksX14_finish_4 9 rfl rfl)
theorem dX14_finish_102 : decode cX14_finish 102 = .ok (.goto 4, 3) := dk_167 0 4 (dk_at dksX14_finish_4 10 rfl rfl)
theorem dX14_finish_105 : decode cX14_finish 105 = .ok (.iconst 0, 1) := dk_3 (dk_at dksX14_finish_4 13 rfl rfl)
theorem dX14_finish_106 : decode cX14_finish 106 = .ok (.istore 6, 2) := dk_54 6 (dk_at dksX14_finish_4 14 rfl rfl)
theorem dX14_finish_108 : decode cX14_finish 108 = .ok (.aload_n 0, 1) := dk_42 (dk_at dksX14_finish_4 16 rfl rfl)
theorem dX14_finish_109 : decode cX14_finish 109 = .ok (.getfield 335, 3) := dk_180 1 79 (dk_at dksX14_finish_4 17 rfl rfl)
theorem dX14_finish_112 : decode cX14_finish 112 = .ok (.iload_n 1, 1) := dk_27 (dk_at dksX14_finish_4 20 rfl rfl)
theorem dX14_finish_113 : decode cX14_finish 113 = .ok (.iaload, 1) := dk_46 (dk_at dksX14_finish_4 21 rfl rfl)
theorem dX14_finish_114 : decode cX14_finish 114 = .ok (.istore 7, 2) := dk_54 7 (dk_at dksX14_finish_4 22 rfl rfl)
theorem dX14_finish_116 : decode cX14_finish 116 = .ok (.iload 7, 2) := dk_21 7 (dk_at dksX14_finish_5 0 rfl rfl)
theorem dX14_finish_118 : decode cX14_finish 118 = .ok (.aload_n 0, 1) := dk_42 (dk_at dksX14_finish_5 2 rfl rfl)
theorem dX14_finish_119 : decode cX14_finish 119 = .ok (.getfield 908, 3) := dk_180 3 140 (dk_at dksX14_finish_5 3 rfl rfl)
theorem dX14_finish_122 : decode cX14_finish 122 = .ok (.if_icmp .ge 33, 3) := dk_162 0 33 (dk_at dksX14_finish_5 6 rfl rfl)
theorem dX14_finish_125 : decode cX14_finish 125 = .ok (.iload 6, 2) := dk_21 6 (dk_at dksX14_finish_5 9 rfl rfl)
theorem dX14_finish_127 : decode cX14_finish 127 = .ok (.ifCond .ne 15, 3) := dk_154 0 15 (dk_at dksX14_finish_5 11 rfl rfl)
theorem dX14_finish_130 : decode cX14_finish 130 = .ok (.aload_n 0, 1) := dk_42 (dk_at dksX14_finish_5 14 rfl rfl)
theorem dX14_finish_131 : decode cX14_finish 131 = .ok (.getfield 341, 3) := dk_180 1 85 (dk_at dksX14_finish_5 15 rfl rfl)
theorem dX14_finish_134 : decode cX14_finish 134 = .ok (.iload 7, 2) := dk_21 7 (dk_at dksX14_finish_5 18 rfl rfl)
theorem dX14_finish_136 : decode cX14_finish 136 = .ok (.iaload, 1) := dk_46 (dk_at dksX14_finish_5 20 rfl rfl)
theorem dX14_finish_137 : decode cX14_finish 137 = .ok (.iload 5, 2) := dk_21 5 (dk_at dksX14_finish_5 21 rfl rfl)
theorem dX14_finish_139 : decode cX14_finish 139 = .ok (.if_icmp .ne 7, 3) := dk_160 0 7 (dk_at dksX14_finish_6 0 rfl rfl)
theorem dX14_finish_142 : decode cX14_finish 142 = .ok (.iconst 1, 1) := dk_4 (dk_at dksX14_finish_6 3 rfl rfl)
theorem dX14_finish_143 : decode cX14_finish 143 = .ok (.goto 4, 3) := dk_167 0 4 (dk_at dksX14_finish_6 4 rfl rfl)
theorem dX14_finish_146 : decode cX14_finish 146 = .ok (.iconst 0, 1) := dk_3 (dk_at dksX14_finish_6 7 rfl rfl)
theorem dX14_finish_147 : decode cX14_finish 147 = .ok (.istore 6, 2) := dk_54 6 (dk_at dksX14_finish_6 8 rfl rfl)
theorem dX14_finish_149 : decode cX14_finish 149 = .ok (.iinc 7 1, 3) := dk_132 7 1 (dk_at dksX14_finish_6 10 rfl rfl)
theorem dX14_finish_152 : decode cX14_finish 152 = .ok (.goto (-36), 3) := dk_167 255 220 (dk_at dksX14_finish_6 13 rfl rfl)
theorem dX14_finish_155 : decode cX14_finish 155 = .ok (.iload 6, 2) := dk_21 6 (dk_at dksX14_finish_6 16 rfl rfl)
theorem dX14_finish_157 : decode cX14_finish 157 = .ok (.ifCond .ne 16, 3) := dk_154 0 16 (dk_at dksX14_finish_6 18 rfl rfl)
theorem dX14_finish_160 : decode cX14_finish 160 = .ok (.aload_n 0, 1) := dk_42 (dk_at dksX14_finish_6 21 rfl rfl)
theorem dX14_finish_161 : decode cX14_finish 161 = .ok (.bipush 12, 2) := dk_16 12 (dk_at dksX14_finish_6 22 rfl rfl)
theorem dX14_finish_163 : decode cX14_finish 163 = .ok (.aload_n 0, 1) := dk_42 (dk_at dksX14_finish_7 0 rfl rfl)
theorem dX14_finish_164 : decode cX14_finish 164 = .ok (.getfield 272, 3) := dk_180 1 16 (dk_at dksX14_finish_7 1 rfl rfl)
theorem dX14_finish_167 : decode cX14_finish 167 = .ok (.iload 4, 2) := dk_21 4 (dk_at dksX14_finish_7 4 rfl rfl)
theorem dX14_finish_169 : decode cX14_finish 169 = .ok (.iaload, 1) := dk_46 (dk_at dksX14_finish_7 6 rfl rfl)
theorem dX14_finish_170 : decode cX14_finish 170 = .ok (.invokevirtual 414, 3) := dk_182 1 158 (dk_at dksX14_finish_7 7 rfl rfl)
theorem dX14_finish_173 : decode cX14_finish 173 = .ok (.aload_n 0, 1) := dk_42 (dk_at dksX14_finish_7 10 rfl rfl)
theorem dX14_finish_174 : decode cX14_finish 174 = .ok (.getfield 112, 3) := dk_180 0 112 (dk_at dksX14_finish_7 11 rfl rfl)
theorem dX14_finish_177 : decode cX14_finish 177 = .ok (.iload 5, 2) := dk_21 5 (dk_at dksX14_finish_7 14 rfl rfl)
theorem dX14_finish_179 : decode cX14_finish 179 = .ok (.iaload, 1) := dk_46 (dk_at dksX14_finish_7 16 rfl rfl)
theorem dX14_finish_180 : decode cX14_finish 180 = .ok (.istore 5, 2) := dk_54 5 (dk_at dksX14_finish_7 17 rfl rfl)
theorem dX14_finish_182 : decode cX14_finish 182 = .ok (.goto (-96), 3) := dk_167 255 160 (dk_at dksX14_finish_7 19 rfl rfl)
theorem dX14_finish_185 : decode cX14_finish 185 = .ok (.goto 40, 3) := dk_167 0 40 (dk_at dksX14_finish_8 0 rfl rfl)
theorem dX14_finish_188 : decode cX14_finish 188 = .ok (.aload_n 0, 1) := dk_42 (dk_at dksX14_finish_8 3 rfl rfl)
theorem dX14_finish_189 : decode cX14_finish 189 = .ok (.aload_n 0, 1) := dk_42 (dk_at dksX14_finish_8 4 rfl rfl)
theorem dX14_finish_190 : decode cX14_finish 190 = .ok (.getfield 314, 3) := dk_180 1 58 (dk_at dksX14_finish_8 5 rfl rfl)
theorem dX14_finish_193 : decode cX14_finish 193 = .ok (.iload_n 1, 1) := dk_27 (dk_at dksX14_finish_8 8 rfl rfl)
theorem dX14_finish_194 : decode cX14_finish 194 = .ok (.iaload, 1) := dk_46 (dk_at dksX14_finish_8 9 rfl rfl)
theorem dX14_finish_195 : decode cX14_finish 195 = .ok (.aload_n 0, 1) := dk_42 (dk_at dksX14_finish_8 10 rfl rfl)
theorem dX14_finish_196 : decode cX14_finish 196 = .ok (.getfield 908, 3) := dk_180 3 140 (dk_at dksX14_finish_8 11 rfl rfl)
theorem dX14_finish_199 : decode cX14_finish 199 = .ok (.aload_n 0, 1) := dk_42 (dk_at dksX14_finish_8 14 rfl rfl)
theorem dX14_finish_200 : decode cX14_finish 200 = .ok (.getfield 335, 3) := dk_180 1 79 (dk_at dksX14_finish_8 15 rfl rfl)
theorem dX14_finish_203 : decode cX14_finish 203 = .ok (.iload_n 1, 1) := dk_27 (dk_at dksX14_finish_8 18 rfl rfl)
theorem dX14_finish_204 : decode cX14_finish 204 = .ok (.iaload, 1) := dk_46 (dk_at dksX14_finish_8 19 rfl rfl)
theorem dX14_finish_205 : decode cX14_finish 205 = .ok (.isub, 1) := dk_100 (dk_at dksX14_finish_8 20 rfl rfl)
theorem dX14_finish_206 : decode cX14_finish 206 = .ok (.invokevirtual 694, 3) := dk_182 2 182 (dk_at dksX14_finish_8 21 rfl rfl)
theorem dX14_finish_209 : decode cX14_finish 209 = .ok (.ifCond .ne 16, 3) := dk_154 0 16 (dk_at dksX14_finish_9 0 rfl rfl)
theorem dX14_finish_212 : decode cX14_finish 212 = .ok (.aload_n 0, 1) := dk_42 (dk_at dksX14_finish_9 3 rfl rfl)
theorem dX14_finish_213 : decode cX14_finish 213 = .ok (.bipush 22, 2) := dk_16 22 (dk_at dksX14_finish_9 4 rfl rfl)
theorem dX14_finish_215 : decode cX14_finish 215 = .ok (.aload_n 0, 1) := dk_42 (dk_at dksX14_finish_9 6 rfl rfl)
theorem dX14_finish_216 : decode cX14_finish 216 = .ok (.getfield 272, 3) := dk_180 1 16 (dk_at dksX14_finish_9 7 rfl rfl)
theorem dX14_finish_219 : decode cX14_finish 219 = .ok (.iload 4, 2) := dk_21 4 (dk_at dksX14_finish_9 10 rfl rfl)
theorem dX14_finish_221 : decode cX14_finish 221 = .ok (.iaload, 1) := dk_46 (dk_at dksX14_finish_9 12 rfl rfl)
theorem dX14_finish_222 : decode cX14_finish 222 = .ok (.invokevirtual 414, 3) := dk_182 1 158 (dk_at dksX14_finish_9 13 rfl rfl)
theorem dX14_finish_225 : decode cX14_finish 225 = .ok (.aload_n 0, 1) := dk_42 (dk_at dksX14_finish_9 16 rfl rfl)
theorem dX14_finish_226 : decode cX14_finish 226 = .ok (.getfield 353, 3) := dk_180 1 97 (dk_at dksX14_finish_9 17 rfl rfl)
theorem dX14_finish_229 : decode cX14_finish 229 = .ok (.ifCond .le 4, 3) := dk_158 0 4 (dk_at dksX14_finish_9 20 rfl rfl)
theorem dX14_finish_232 : decode cX14_finish 232 = .ok (.return_, 1) := dk_177 (dk_at dksX14_finish_9 23 rfl rfl)
theorem dX14_finish_233 : decode cX14_finish 233 = .ok (.iload_n 3, 1) := dk_29 (dk_at dksX14_finish_10 0 rfl rfl)
theorem dX14_finish_234 : decode cX14_finish 234 = .ok (.bipush 13, 2) := dk_16 13 (dk_at dksX14_finish_10 1 rfl rfl)
theorem dX14_finish_236 : decode cX14_finish 236 = .ok (.if_icmp .eq 9, 3) := dk_159 0 9 (dk_at dksX14_finish_10 3 rfl rfl)
theorem dX14_finish_239 : decode cX14_finish 239 = .ok (.iload_n 3, 1) := dk_29 (dk_at dksX14_finish_10 6 rfl rfl)
theorem dX14_finish_240 : decode cX14_finish 240 = .ok (.bipush 15, 2) := dk_16 15 (dk_at dksX14_finish_10 7 rfl rfl)
theorem dX14_finish_242 : decode cX14_finish 242 = .ok (.if_icmp .ne 24, 3) := dk_160 0 24 (dk_at dksX14_finish_10 9 rfl rfl)
theorem dX14_finish_245 : decode cX14_finish 245 = .ok (.aload_n 0, 1) := dk_42 (dk_at dksX14_finish_10 12 rfl rfl)
theorem dX14_finish_246 : decode cX14_finish 246 = .ok (.aload_n 0, 1) := dk_42 (dk_at dksX14_finish_10 13 rfl rfl)
theorem dX14_finish_247 : decode cX14_finish 247 = .ok (.getfield 335, 3) := dk_180 1 79 (dk_at dksX14_finish_10 14 rfl rfl)
theorem dX14_finish_250 : decode cX14_finish 250 = .ok (.iload_n 1, 1) := dk_27 (dk_at dksX14_finish_10 17 rfl rfl)
theorem dX14_finish_251 : decode cX14_finish 251 = .ok (.iaload, 1) := dk_46 (dk_at dksX14_finish_10 18 rfl rfl)
theorem dX14_finish_252 : decode cX14_finish 252 = .ok (.iload_n 3, 1) := dk_29 (dk_at dksX14_finish_10 19 rfl rfl)
theorem dX14_finish_253 : decode cX14_finish 253 = .ok (.bipush 13, 2) := dk_16 13 (dk_at dksX14_finish_10 20 rfl rfl)
theorem dX14_finish_255 : decode cX14_finish 255 = .ok (.if_icmp .ne 7, 3) := dk_160 0 7 (dk_at dksX14_finish_11 0 rfl rfl)
theorem dX14_finish_258 : decode cX14_finish 258 = .ok (.iconst 1, 1) := dk_4 (dk_at dksX14_finish_11 3 rfl rfl)
theorem dX14_finish_259 : decode cX14_finish 259 = .ok (.goto 4, 3) := dk_167 0 4 (dk_at dksX14_finish_11 4 rfl rfl)
theorem dX14_finish_262 : decode cX14_finish 262 = .ok (.iconst 0, 1) := dk_3 (dk_at dksX14_finish_11 7 rfl rfl)
theorem dX14_finish_263 : decode cX14_finish 263 = .ok (.invokevirtual 943, 3) := dk_182 3 175 (dk_at dksX14_finish_11 8 rfl rfl)
theorem dX14_finish_266 : decode cX14_finish 266 = .ok (.aload_n 0, 1) := dk_42 (dk_at dksX14_finish_11 11 rfl rfl)
theorem dX14_finish_267 : decode cX14_finish 267 = .ok (.aload_n 0, 1) := dk_42 (dk_at dksX14_finish_11 12 rfl rfl)
theorem dX14_finish_268 : decode cX14_finish 268 = .ok (.getfield 335, 3) := dk_180 1 79 (dk_at dksX14_finish_11 13 rfl rfl)
theorem dX14_finish_271 : decode cX14_finish 271 = .ok (.iload_n 1, 1) := dk_27 (dk_at dksX14_finish_11 16 rfl rfl)
theorem dX14_finish_272 : decode cX14_finish 272 = .ok (.iaload, 1) := dk_46 (dk_at dksX14_finish_11 17 rfl rfl)
theorem dX14_finish_273 : decode cX14_finish 273 = .ok (.putfield 908, 3) := dk_181 3 140 (dk_at dksX14_finish_11 18 rfl rfl)
theorem dX14_finish_276 : decode cX14_finish 276 = .ok (.aload_n 0, 1) := dk_42 (dk_at dksX14_finish_11 21 rfl rfl)
theorem dX14_finish_277 : decode cX14_finish 277 = .ok (.invokevirtual 915, 3) := dk_182 3 147 (dk_at dksX14_finish_12 0 rfl rfl)
theorem dX14_finish_280 : decode cX14_finish 280 = .ok (.return_, 1) := dk_177 (dk_at dksX14_finish_12 3 rfl rfl)
abbrev cX14_sort : ByteArray := prog_15_method_154_code
def yX14_sort : MethodName := ⟨RX14, "sort", "(IZ)V"⟩
def dkwX14_sort_17 : List UInt8 := [180, 1, 52, 21, 5, 46, 79, 132, 5, 1, 167, 255, 230, 177]
abbrev dktX14_sort_17 : List UInt8 := dkwX14_sort_17 ++ []
def dkwX14_sort_16 : List UInt8 := [167, 255, 191, 3, 54, 5, 21, 5, 21, 4, 162, 0, 25, 42, 180, 1, 49, 29, 21, 5, 96, 42]
abbrev dktX14_sort_16 : List UInt8 := dkwX14_sort_16 ++ dktX14_sort_17
def dkwX14_sort_15 : List UInt8 := [21, 4, 42, 180, 1, 49, 21, 6, 46, 79, 132, 4, 1, 132, 6, 1, 167, 255, 220, 132, 5, 1]
abbrev dktX14_sort_15 : List UInt8 := dkwX14_sort_15 ++ dktX14_sort_16
def dkwX14_sort_14 : List UInt8 := [46, 46, 54, 6, 21, 6, 42, 42, 180, 1, 88, 21, 5, 46, 182, 3, 179, 162, 0, 26, 42, 180, 1, 52]
abbrev dktX14_sort_14 : List UInt8 := dkwX14_sort_14 ++ dktX14_sort_15
def dkwX14_sort_13 : List UInt8 := [54, 4, 27, 54, 5, 21, 5, 42, 180, 3, 140, 162, 0, 62, 42, 180, 1, 82, 42, 180, 1, 88, 21, 5]
abbrev dktX14_sort_13 : List UInt8 := dkwX14_sort_13 ++ dktX14_sort_14
def dkwX14_sort_12 : List UInt8 := [180, 1, 52, 190, 42, 180, 1, 49, 190, 162, 0, 14, 42, 42, 180, 1, 49, 190, 188, 10, 181, 1, 52, 3]
abbrev dktX14_sort_12 : List UInt8 := dkwX14_sort_12 ++ dktX14_sort_13
def dkwX14_sort_11 : List UInt8 := [180, 3, 140, 27, 164, 0, 12, 42, 180, 1, 82, 27, 46, 167, 0, 7, 42, 180, 3, 120, 62, 42]
abbrev dktX14_sort_11 : List UInt8 := dkwX14_sort_11 ++ dktX14_sort_12
def dkwX14_sort_10 : List UInt8 := [21, 4, 42, 180, 1, 91, 21, 4, 46, 79, 132, 4, 1, 167, 255, 230, 5, 29, 104, 62, 167, 255, 24, 42]
abbrev dktX14_sort_10 : List UInt8 := dkwX14_sort_10 ++ dktX14_sort_11
def dkwX14_sort_9 : List UInt8 := [29, 104, 96, 54, 4, 167, 255, 76, 27, 54, 4, 21, 4, 42, 180, 3, 140, 162, 0, 23, 42, 180, 1, 88]
abbrev dktX14_sort_9 : List UInt8 := dkwX14_sort_9 ++ dktX14_sort_10
def dkwX14_sort_8 : List UInt8 := [79, 21, 10, 153, 0, 9, 132, 8, 1, 167, 0, 6, 132, 7, 1, 132, 9, 1, 167, 255, 160, 21, 4, 5]
abbrev dktX14_sort_8 : List UInt8 := dkwX14_sort_8 ++ dktX14_sort_9
def dkwX14_sort_7 : List UInt8 := [21, 9, 21, 10, 153, 0, 13, 42, 180, 1, 88, 21, 8, 46, 167, 0, 10, 42, 180, 1, 88, 21, 7, 46]
abbrev dktX14_sort_7 : List UInt8 := dkwX14_sort_7 ++ dktX14_sort_8
def dkwX14_sort_6 : List UInt8 := [180, 1, 88, 21, 8, 46, 28, 182, 3, 186, 153, 0, 7, 4, 167, 0, 4, 3, 54, 10, 42, 180, 1, 91]
abbrev dktX14_sort_6 : List UInt8 := dkwX14_sort_6 ++ dktX14_sort_7
def dkwX14_sort_5 : List UInt8 := [21, 7, 21, 5, 159, 0, 32, 21, 8, 21, 6, 162, 0, 29, 42, 42, 180, 1, 88, 21, 7, 46, 42]
abbrev dktX14_sort_5 : List UInt8 := dkwX14_sort_5 ++ dktX14_sort_6
def dkwX14_sort_4 : List UInt8 := [180, 3, 140, 54, 6, 21, 4, 54, 7, 21, 5, 54, 8, 21, 4, 54, 9, 21, 9, 21, 6, 162, 0, 95]
abbrev dktX14_sort_4 : List UInt8 := dkwX14_sort_4 ++ dktX14_sort_5
def dkwX14_sort_3 : List UInt8 := [21, 4, 5, 29, 104, 96, 42, 180, 3, 140, 162, 0, 12, 21, 4, 5, 29, 104, 96, 167, 0, 7, 42]
abbrev dktX14_sort_3 : List UInt8 := dkwX14_sort_3 ++ dktX14_sort_4
def dkwX14_sort_2 : List UInt8 := [21, 4, 29, 96, 42, 180, 3, 140, 162, 0, 10, 21, 4, 29, 96, 167, 0, 7, 42, 180, 3, 140, 54, 5]
abbrev dktX14_sort_2 : List UInt8 := dkwX14_sort_2 ++ dktX14_sort_3
def dkwX14_sort_1 : List UInt8 := [62, 29, 42, 180, 3, 140, 27, 100, 162, 0, 228, 27, 54, 4, 21, 4, 42, 180, 3, 140, 162, 0, 177]
abbrev dktX14_sort_1 : List UInt8 := dkwX14_sort_1 ++ dktX14_sort_2
def dkwX14_sort_0 : List UInt8 := [27, 62, 29, 42, 180, 3, 140, 162, 0, 16, 42, 180, 1, 88, 29, 29, 79, 132, 3, 1, 167, 255, 238, 4]
abbrev dktX14_sort_0 : List UInt8 := dkwX14_sort_0 ++ dktX14_sort_1
theorem dksX14_sort_0 : cX14_sort.data.toList.drop 0 = dktX14_sort_0 := by decide +kernel
theorem dksX14_sort_1 : cX14_sort.data.toList.drop 24 = dktX14_sort_1 := dk_seg dksX14_sort_0 24 rfl rfl
theorem dksX14_sort_2 : cX14_sort.data.toList.drop 47 = dktX14_sort_2 := dk_seg dksX14_sort_1 23 rfl rfl
theorem dksX14_sort_3 : cX14_sort.data.toList.drop 71 = dktX14_sort_3 := dk_seg dksX14_sort_2 24 rfl rfl
theorem dksX14_sort_4 : cX14_sort.data.toList.drop 94 = dktX14_sort_4 := dk_seg dksX14_sort_3 23 rfl rfl
theorem dksX14_sort_5 : cX14_sort.data.toList.drop 118 = dktX14_sort_5 := dk_seg dksX14_sort_4 24 rfl rfl
theorem dksX14_sort_6 : cX14_sort.data.toList.drop 141 = dktX14_sort_6 := dk_seg dksX14_sort_5 23 rfl rfl
theorem dksX14_sort_7 : cX14_sort.data.toList.drop 165 = dktX14_sort_7 := dk_seg dksX14_sort_6 24 rfl rfl
theorem dksX14_sort_8 : cX14_sort.data.toList.drop 189 = dktX14_sort_8 := dk_seg dksX14_sort_7 24 rfl rfl
theorem dksX14_sort_9 : cX14_sort.data.toList.drop 213 = dktX14_sort_9 := dk_seg dksX14_sort_8 24 rfl rfl
theorem dksX14_sort_10 : cX14_sort.data.toList.drop 237 = dktX14_sort_10 := dk_seg dksX14_sort_9 24 rfl rfl
theorem dksX14_sort_11 : cX14_sort.data.toList.drop 261 = dktX14_sort_11 := dk_seg dksX14_sort_10 24 rfl rfl
theorem dksX14_sort_12 : cX14_sort.data.toList.drop 283 = dktX14_sort_12 := dk_seg dksX14_sort_11 22 rfl rfl
theorem dksX14_sort_13 : cX14_sort.data.toList.drop 307 = dktX14_sort_13 := dk_seg dksX14_sort_12 24 rfl rfl
theorem dksX14_sort_14 : cX14_sort.data.toList.drop 331 = dktX14_sort_14 := dk_seg dksX14_sort_13 24 rfl rfl
theorem dksX14_sort_15 : cX14_sort.data.toList.drop 355 = dktX14_sort_15 := dk_seg dksX14_sort_14 24 rfl rfl
theorem dksX14_sort_16 : cX14_sort.data.toList.drop 377 = dktX14_sort_16 := dk_seg dksX14_sort_15 22 rfl rfl
theorem dksX14_sort_17 : cX14_sort.data.toList.drop 399 = dktX14_sort_17 := dk_seg dksX14_sort_16 22 rfl rfl
theorem dX14_sort_0 : decode cX14_sort 0 = .ok (.iload_n 1, 1) := dk_27 (dk_at dksX14_sort_0 0 rfl rfl)
theorem dX14_sort_1 : decode cX14_sort 1 = .ok (.istore_n 3, 1) := dk_62 (dk_at dksX14_sort_0 1 rfl rfl)
theorem dX14_sort_2 : decode cX14_sort 2 = .ok (.iload_n 3, 1) := dk_29 (dk_at dksX14_sort_0 2 rfl rfl)
theorem dX14_sort_3 : decode cX14_sort 3 = .ok (.aload_n 0, 1) := dk_42 (dk_at dksX14_sort_0 3 rfl rfl)
theorem dX14_sort_4 : decode cX14_sort 4 = .ok (.getfield 908, 3) := dk_180 3 140 (dk_at dksX14_sort_0 4 rfl rfl)
theorem dX14_sort_7 : decode cX14_sort 7 = .ok (.if_icmp .ge 16, 3) := dk_162 0 16 (dk_at dksX14_sort_0 7 rfl rfl)
theorem dX14_sort_10 : decode cX14_sort 10 = .ok (.aload_n 0, 1) := dk_42 (dk_at dksX14_sort_0 10 rfl rfl)
theorem dX14_sort_11 : decode cX14_sort 11 = .ok (.getfield 344, 3) := dk_180 1 88 (dk_at dksX14_sort_0 11 rfl rfl)
theorem dX14_sort_14 : decode cX14_sort 14 = .ok (.iload_n 3, 1) := dk_29 (dk_at dksX14_sort_0 14 rfl rfl)
theorem dX14_sort_15 : decode cX14_sort 15 = .ok (.iload_n 3, 1) := dk_29 (dk_at dksX14_sort_0 15 rfl rfl)
theorem dX14_sort_16 : decode cX14_sort 16 = .ok (.iastore, 1) := dk_79 (dk_at dksX14_sort_0 16 rfl rfl)
theorem dX14_sort_17 : decode cX14_sort 17 = .ok (.iinc 3 1, 3) := dk_132 3 1 (dk_at dksX14_sort_0 17 rfl rfl)
theorem dX14_sort_20 : decode cX14_sort 20 = .ok (.goto (-18), 3) := dk_167 255 238 (dk_at dksX14_sort_0 20 rfl rfl)
theorem dX14_sort_23 : decode cX14_sort 23 = .ok (.iconst 1, 1) := dk_4 (dk_at dksX14_sort_0 23 rfl rfl)
theorem dX14_sort_24 : decode cX14_sort 24 = .ok (.istore_n 3, 1) := dk_62 (dk_at dksX14_sort_1 0 rfl rfl)
theorem dX14_sort_25 : decode cX14_sort 25 = .ok (.iload_n 3, 1) := dk_29 (dk_at dksX14_sort_1 1 rfl rfl)
theorem dX14_sort_26 : decode cX14_sort 26 = .ok (.aload_n 0, 1) := dk_42 (dk_at dksX14_sort_1 2 rfl rfl)
theorem dX14_sort_27 : decode cX14_sort 27 = .ok (.getfield 908, 3) := dk_180 3 140 (dk_at dksX14_sort_1 3 rfl rfl)
theorem dX14_sort_30 : decode cX14_sort 30 = .ok (.iload_n 1, 1) := dk_27 (dk_at dksX14_sort_1 6 rfl rfl)
theorem dX14_sort_31 : decode cX14_sort 31 = .ok (.isub, 1) := dk_100 (dk_at dksX14_sort_1 7 rfl rfl)
theorem dX14_sort_32 : decode cX14_sort 32 = .ok (.if_icmp .ge 228, 3) := dk_162 0 228 (dk_at dksX14_sort_1 8 rfl rfl)
theorem dX14_sort_35 : decode cX14_sort 35 = .ok (.iload_n 1, 1) := dk_27 (dk_at dksX14_sort_1 11 rfl rfl)
theorem dX14_sort_36 : decode cX14_sort 36 = .ok (.istore 4, 2) := dk_54 4 (dk_at dksX14_sort_1 12 rfl rfl)
theorem dX14_sort_38 : decode cX14_sort 38 = .ok (.iload 4, 2) := dk_21 4 (dk_at dksX14_sort_1 14 rfl rfl)
theorem dX14_sort_40 : decode cX14_sort 40 = .ok (.aload_n 0, 1) := dk_42 (dk_at dksX14_sort_1 16 rfl rfl)
theorem dX14_sort_41 : decode cX14_sort 41 = .ok (.getfield 908, 3) := dk_180 3 140 (dk_at dksX14_sort_1 17 rfl rfl)
theorem dX14_sort_44 : decode cX14_sort 44 = .ok (.if_icmp .ge 177, 3) := dk_162 0 177 (dk_at dksX14_sort_1 20 rfl rfl)
theorem dX14_sort_47 : decode cX14_sort 47 = .ok (.iload 4, 2) := dk_21 4 (dk_at dksX14_sort_2 0 rfl rfl)
theorem dX14_sort_49 : decode cX14_sort 49 = .ok (.iload_n 3, 1) := dk_29 (dk_at dksX14_sort_2 2 rfl rfl)
theorem dX14_sort_50 : decode cX14_sort 50 = .ok (.iadd, 1) := dk_96 (dk_at dksX14_sort_2 3 rfl rfl)
theorem dX14_sort_51 : decode cX14_sort 51 = .ok (.aload_n 0, 1) := dk_42 (dk_at dksX14_sort_2 4 rfl rfl)
theorem dX14_sort_52 : decode cX14_sort 52 = .ok (.getfield 908, 3) := dk_180 3 140 (dk_at dksX14_sort_2 5 rfl rfl)
theorem dX14_sort_55 : decode cX14_sort 55 = .ok (.if_icmp .ge 10, 3) := dk_162 0 10 (dk_at dksX14_sort_2 8 rfl rfl)
theorem dX14_sort_58 : decode cX14_sort 58 = .ok (.iload 4, 2) := dk_21 4 (dk_at dksX14_sort_2 11 rfl rfl)
theorem dX14_sort_60 : decode cX14_sort 60 = .ok (.iload_n 3, 1) := dk_29 (dk_at dksX14_sort_2 13 rfl rfl)
theorem dX14_sort_61 : decode cX14_sort 61 = .ok (.iadd, 1) := dk_96 (dk_at dksX14_sort_2 14 rfl rfl)
theorem dX14_sort_62 : decode cX14_sort 62 = .ok (.goto 7, 3) := dk_167 0 7 (dk_at dksX14_sort_2 15 rfl rfl)
theorem dX14_sort_65 : decode cX14_sort 65 = .ok (.aload_n 0, 1) := dk_42 (dk_at dksX14_sort_2 18 rfl rfl)
theorem dX14_sort_66 : decode cX14_sort 66 = .ok (.getfield 908, 3) := dk_180 3 140 (dk_at dksX14_sort_2 19 rfl rfl)
theorem dX14_sort_69 : decode cX14_sort 69 = .ok (.istore 5, 2) := dk_54 5 (dk_at dksX14_sort_2 22 rfl rfl)
theorem dX14_sort_71 : decode cX14_sort 71 = .ok (.iload 4, 2) := dk_21 4 (dk_at dksX14_sort_3 0 rfl rfl)
theorem dX14_sort_73 : decode cX14_sort 73 = .ok (.iconst 2, 1) := dk_5 (dk_at dksX14_sort_3 2 rfl rfl)
theorem dX14_sort_74 : decode cX14_sort 74 = .ok (.iload_n 3, 1) := dk_29 (dk_at dksX14_sort_3 3 rfl rfl)
theorem dX14_sort_75 : decode cX14_sort 75 = .ok (.imul, 1) := dk_104 (dk_at dksX14_sort_3 4 rfl rfl)
theorem dX14_sort_76 : decode cX14_sort 76 = .ok (.iadd, 1) := dk_96 (dk_at dksX14_sort_3 5 rfl rfl)
theorem dX14_sort_77 : decode cX14_sort 77 = .ok (.aload_n 0, 1) := dk_42 (dk_at dksX14_sort_3 6 rfl rfl)
theorem dX14_sort_78 : decode cX14_sort 78 = .ok (.getfield 908, 3) := dk_180 3 140 (dk_at dksX14_sort_3 7 rfl rfl)
theorem dX14_sort_81 : decode cX14_sort 81 = .ok (.if_icmp .ge 12, 3) := dk_162 0 12 (dk_at dksX14_sort_3 10 rfl rfl)
theorem dX14_sort_84 : decode cX14_sort 84 = .ok (.iload 4, 2) := dk_21 4 (dk_at dksX14_sort_3 13 rfl rfl)
theorem dX14_sort_86 : decode cX14_sort 86 = .ok (.iconst 2, 1) := dk_5 (dk_at dksX14_sort_3 15 rfl rfl)
theorem dX14_sort_87 : decode cX14_sort 87 = .ok (.iload_n 3, 1) := dk_29 (dk_at dksX14_sort_3 16 rfl rfl)
theorem dX14_sort_88 : decode cX14_sort 88 = .ok (.imul, 1) := dk_104 (dk_at dksX14_sort_3 17 rfl rfl)
theorem dX14_sort_89 : decode cX14_sort 89 = .ok (.iadd, 1) := dk_96 (dk_at dksX14_sort_3 18 rfl rfl)
theorem dX14_sort_90 : decode cX14_sort 90 = .ok (.goto 7, 3) := dk_167 0 7 (dk_at dksX14_sort_3 19 rfl rfl)
theorem dX14_sort_93 : decode cX14_sort 93 = .ok (.aload_n 0, 1) := dk_42 (dk_at dksX14_sort_3 22 rfl rfl)
theorem dX14_sort_94 : decode cX14_sort 94 = .ok (.getfield 908, 3) := dk_180 3 140 (dk_at dksX14_sort_4 0 rfl rfl)
theorem dX14_sort_97 : decode cX14_sort 97 = .ok (.istore 6, 2) := dk_54 6 (dk_at dksX14_sort_4 3 rfl rfl)
theorem dX14_sort_99 : decode cX14_sort 99 = .ok (.iload 4, 2) := dk_21 4 (dk_at dksX14_sort_4 5 rfl rfl)
theorem dX14_sort_101 : decode cX14_sort 101 = .ok (.istore 7, 2) := dk_54 7 (dk_at dksX14_sort_4 7 rfl rfl)
theorem dX14_sort_103 : decode cX14_sort 103 = .ok (.iload 5, 2) := dk_21 5 (dk_at dksX14_sort_4 9 rfl rfl)
theorem dX14_sort_105 : decode cX14_sort 105 = .ok (.istore 8, 2) := dk_54 8 (dk_at dksX14_sort_4 11 rfl rfl)
theorem dX14_sort_107 : decode cX14_sort 107 = .ok (.iload 4, 2) := dk_21 4 (dk_at dksX14_sort_4 13 rfl rfl)
theorem dX14_sort_109 : decode cX14_sort 109 = .ok (.istore 9, 2) := dk_54 9 (dk_at dksX14_sort_4 15 rfl rfl)
theorem dX14_sort_111 : decode cX14_sort 111 = .ok (.iload 9, 2) := dk_21 9 (dk_at dksX14_sort_4 17 rfl rfl)
theorem dX14_sort_113 : decode cX14_sort 113 = .ok (.iload 6, 2) := dk_21 6 (dk_at dksX14_sort_4 19 rfl rfl)
theorem dX14_sort_115 : decode cX14_sort 115 = .ok (.if_icmp .ge 95, 3) := dk_162 0 95 (dk_at dksX14_sort_4 21 rfl rfl)
theorem dX14_sort_118 : decode cX14_sort 118 = .ok (.iload 7, 2) := dk_21 7 (dk_at dksX14_sort_5 0 rfl rfl)
theorem dX14_sort_120 : decode cX14_sort 120 = .ok (.iload 5, 2) := dk_21 5 (dk_at dksX14_sort_5 2 rfl rfl)
theorem dX14_sort_122 : decode cX14_sort 122 = .ok (.if_icmp .eq 32, 3) := dk_159 0 32 (dk_at dksX14_sort_5 4 rfl rfl)
theorem dX14_sort_125 : decode cX14_sort 125 = .ok (.iload 8, 2) := dk_21 8 (dk_at dksX14_sort_5 7 rfl rfl)
theorem dX14_sort_127 : decode cX14_sort 127 = .ok (.iload 6, 2) := dk_21 6 (dk_at dksX14_sort_5 9 rfl rfl)
theorem dX14_sort_129 : decode cX14_sort 129 = .ok (.if_icmp .ge 29, 3) := dk_162 0 29 (dk_at dksX14_sort_5 11 rfl rfl)
theorem dX14_sort_132 : decode cX14_sort 132 = .ok (.aload_n 0, 1) := dk_42 (dk_at dksX14_sort_5 14 rfl rfl)
theorem dX14_sort_133 : decode cX14_sort 133 = .ok (.aload_n 0, 1) := dk_42 (dk_at dksX14_sort_5 15 rfl rfl)
theorem dX14_sort_134 : decode cX14_sort 134 = .ok (.getfield 344, 3) := dk_180 1 88 (dk_at dksX14_sort_5 16 rfl rfl)
theorem dX14_sort_137 : decode cX14_sort 137 = .ok (.iload 7, 2) := dk_21 7 (dk_at dksX14_sort_5 19 rfl rfl)
theorem dX14_sort_139 : decode cX14_sort 139 = .ok (.iaload, 1) := dk_46 (dk_at dksX14_sort_5 21 rfl rfl)
theorem dX14_sort_140 : decode cX14_sort 140 = .ok (.aload_n 0, 1) := dk_42 (dk_at dksX14_sort_5 22 rfl rfl)
theorem dX14_sort_141 : decode cX14_sort 141 = .ok (.getfield 344, 3) := dk_180 1 88 (dk_at dksX14_sort_6 0 rfl rfl)
theorem dX14_sort_144 : decode cX14_sort 144 = .ok (.iload 8, 2) := dk_21 8 (dk_at dksX14_sort_6 3 rfl rfl)
theorem dX14_sort_146 : decode cX14_sort 146 = .ok (.iaload, 1) := dk_46 (dk_at dksX14_sort_6 5 rfl rfl)
theorem dX14_sort_147 : decode cX14_sort 147 = .ok (.iload_n 2, 1) := dk_28 (dk_at dksX14_sort_6 6 rfl rfl)
theorem dX14_sort_148 : decode cX14_sort 148 = .ok (.invokevirtual 954, 3) := dk_182 3 186 (dk_at dksX14_sort_6 7 rfl rfl)
theorem dX14_sort_151 : decode cX14_sort 151 = .ok (.ifCond .eq 7, 3) := dk_153 0 7 (dk_at dksX14_sort_6 10 rfl rfl)
theorem dX14_sort_154 : decode cX14_sort 154 = .ok (.iconst 1, 1) := dk_4 (dk_at dksX14_sort_6 13 rfl rfl)
theorem dX14_sort_155 : decode cX14_sort 155 = .ok (.goto 4, 3) := dk_167 0 4 (dk_at dksX14_sort_6 14 rfl rfl)
theorem dX14_sort_158 : decode cX14_sort 158 = .ok (.iconst 0, 1) := dk_3 (dk_at dksX14_sort_6 17 rfl rfl)
theorem dX14_sort_159 : decode cX14_sort 159 = .ok (.istore 10, 2) := dk_54 10 (dk_at dksX14_sort_6 18 rfl rfl)
theorem dX14_sort_161 : decode cX14_sort 161 = .ok (.aload_n 0, 1) := dk_42 (dk_at dksX14_sort_6 20 rfl rfl)
theorem dX14_sort_162 : decode cX14_sort 162 = .ok (.getfield 347, 3) := dk_180 1 91 (dk_at dksX14_sort_6 21 rfl rfl)
theorem dX14_sort_165 : decode cX14_sort 165 = .ok (.iload 9, 2) := dk_21 9 (dk_at dksX14_sort_7 0 rfl rfl)
theorem dX14_sort_167 : decode cX14_sort 167 = .ok (.iload 10, 2) := dk_21 10 (dk_at dksX14_sort_7 2 rfl rfl)
theorem dX14_sort_169 : decode cX14_sort 169 = .ok (.ifCond .eq 13, 3) := dk_153 0 13 (dk_at dksX14_sort_7 4 rfl rfl)
theorem dX14_sort_172 : decode cX14_sort 172 = .ok (.aload_n 0, 1) := dk_42 (dk_at dksX14_sort_7 7 rfl rfl)
theorem dX14_sort_173 : decode cX14_sort 173 = .ok (.getfield 344, 3) := dk_180 1 88 (dk_at dksX14_sort_7 8 rfl rfl)
theorem dX14_sort_176 : decode cX14_sort 176 = .ok (.iload 8, 2) := dk_21 8 (dk_at dksX14_sort_7 11 rfl rfl)
theorem dX14_sort_178 : decode cX14_sort 178 = .ok (.iaload, 1) := dk_46 (dk_at dksX14_sort_7 13 rfl rfl)
theorem dX14_sort_179 : decode cX14_sort 179 = .ok (.goto 10, 3) := dk_167 0 10 (dk_at dksX14_sort_7 14 rfl rfl)
theorem dX14_sort_182 : decode cX14_sort 182 = .ok (.aload_n 0, 1) := dk_42 (dk_at dksX14_sort_7 17 rfl rfl)
theorem dX14_sort_183 : decode cX14_sort 183 = .ok (.getfield 344, 3) := dk_180 1 88 (dk_at dksX14_sort_7 18 rfl rfl)
theorem dX14_sort_186 : decode cX14_sort 186 = .ok (.iload 7, 2) := dk_21 7 (dk_at dksX14_sort_7 21 rfl rfl)
theorem dX14_sort_188 : decode cX14_sort 188 = .ok (.iaload, 1) := dk_46 (dk_at dksX14_sort_7 23 rfl rfl)
theorem dX14_sort_189 : decode cX14_sort 189 = .ok (.iastore, 1) := dk_79 (dk_at dksX14_sort_8 0 rfl rfl)
theorem dX14_sort_190 : decode cX14_sort 190 = .ok (.iload 10, 2) := dk_21 10 (dk_at dksX14_sort_8 1 rfl rfl)
theorem dX14_sort_192 : decode cX14_sort 192 = .ok (.ifCond .eq 9, 3) := dk_153 0 9 (dk_at dksX14_sort_8 3 rfl rfl)
theorem dX14_sort_195 : decode cX14_sort 195 = .ok (.iinc 8 1, 3) := dk_132 8 1 (dk_at dksX14_sort_8 6 rfl rfl)
theorem dX14_sort_198 : decode cX14_sort 198 = .ok (.goto 6, 3) := dk_167 0 6 (dk_at dksX14_sort_8 9 rfl rfl)
theorem dX14_sort_201 : decode cX14_sort 201 = .ok (.iinc 7 1, 3) := dk_132 7 1 (dk_at dksX14_sort_8 12 rfl rfl)
theorem dX14_sort_204 : decode cX14_sort 204 = .ok (.iinc 9 1, 3) := dk_132 9 1 (dk_at dksX14_sort_8 15 rfl rfl)
theorem dX14_sort_207 : decode cX14_sort 207 = .ok (.goto (-96), 3) := dk_167 255 160 (dk_at dksX14_sort_8 18 rfl rfl)
theorem dX14_sort_210 : decode cX14_sort 210 = .ok (.iload 4, 2) := dk_21 4 (dk_at dksX14_sort_8 21 rfl rfl)
theorem dX14_sort_212 : decode cX14_sort 212 = .ok (.iconst 2, 1) := dk_5 (dk_at dksX14_sort_8 23 rfl rfl)
theorem dX14_sort_213 : decode cX14_sort 213 = .ok (.iload_n 3, 1) := dk_29 (dk_at dksX14_sort_9 0 rfl rfl)
theorem dX14_sort_214 : decode cX14_sort 214 = .ok (.imul, 1) := dk_104 (dk_at dksX14_sort_9 1 rfl rfl)
theorem dX14_sort_215 : decode cX14_sort 215 = .ok (.iadd, 1) := dk_96 (dk_at dksX14_sort_9 2 rfl rfl)
theorem dX14_sort_216 : decode cX14_sort 216 = .ok (.istore 4, 2) := dk_54 4 (dk_at dksX14_sort_9 3 rfl rfl)
theorem dX14_sort_218 : decode cX14_sort 218 = .ok (.goto (-180), 3) := dk_167 255 76 (dk_at dksX14_sort_9 5 rfl rfl)
theorem dX14_sort_221 : decode cX14_sort 221 = .ok (.iload_n 1, 1) := dk_27 (dk_at dksX14_sort_9 8 rfl rfl)
theorem dX14_sort_222 : decode cX14_sort 222 = .ok (.istore 4, 2) := dk_54 4 (dk_at dksX14_sort_9 9 rfl rfl)
theorem dX14_sort_224 : decode cX14_sort 224 = .ok (.iload 4, 2) := dk_21 4 (dk_at dksX14_sort_9 11 rfl rfl)
theorem dX14_sort_226 : decode cX14_sort 226 = .ok (.aload_n 0, 1) := dk_42 (dk_at dksX14_sort_9 13 rfl rfl)
theorem dX14_sort_227 : decode cX14_sort 227 = .ok (.getfield 908, 3) := dk_180 3 140 (dk_at dksX14_sort_9 14 rfl rfl)
theorem dX14_sort_230 : decode cX14_sort 230 = .ok (.if_icmp .ge 23, 3) := dk_162 0 23 (dk_at dksX14_sort_9 17 rfl rfl)
theorem dX14_sort_233 : decode cX14_sort 233 = .ok (.aload_n 0, 1) := dk_42 (dk_at dksX14_sort_9 20 rfl rfl)
theorem dX14_sort_234 : decode cX14_sort 234 = .ok (.getfield 344, 3) := dk_180 1 88 (dk_at dksX14_sort_9 21 rfl rfl)
theorem dX14_sort_237 : decode cX14_sort 237 = .ok (.iload 4, 2) := dk_21 4 (dk_at dksX14_sort_10 0 rfl rfl)
theorem dX14_sort_239 : decode cX14_sort 239 = .ok (.aload_n 0, 1) := dk_42 (dk_at dksX14_sort_10 2 rfl rfl)
theorem dX14_sort_240 : decode cX14_sort 240 = .ok (.getfield 347, 3) := dk_180 1 91 (dk_at dksX14_sort_10 3 rfl rfl)
theorem dX14_sort_243 : decode cX14_sort 243 = .ok (.iload 4, 2) := dk_21 4 (dk_at dksX14_sort_10 6 rfl rfl)
theorem dX14_sort_245 : decode cX14_sort 245 = .ok (.iaload, 1) := dk_46 (dk_at dksX14_sort_10 8 rfl rfl)
theorem dX14_sort_246 : decode cX14_sort 246 = .ok (.iastore, 1) := dk_79 (dk_at dksX14_sort_10 9 rfl rfl)
theorem dX14_sort_247 : decode cX14_sort 247 = .ok (.iinc 4 1, 3) := dk_132 4 1 (dk_at dksX14_sort_10 10 rfl rfl)
theorem dX14_sort_250 : decode cX14_sort 250 = .ok (.goto (-26), 3) := dk_167 255 230 (dk_at dksX14_sort_10 13 rfl rfl)
theorem dX14_sort_253 : decode cX14_sort 253 = .ok (.iconst 2, 1) := dk_5 (dk_at dksX14_sort_10 16 rfl rfl)
theorem dX14_sort_254 : decode cX14_sort 254 = .ok (.iload_n 3, 1) := dk_29 (dk_at dksX14_sort_10 17 rfl rfl)
theorem dX14_sort_255 : decode cX14_sort 255 = .ok (.imul, 1) := dk_104 (dk_at dksX14_sort_10 18 rfl rfl)
theorem dX14_sort_256 : decode cX14_sort 256 = .ok (.istore_n 3, 1) := dk_62 (dk_at dksX14_sort_10 19 rfl rfl)
theorem dX14_sort_257 : decode cX14_sort 257 = .ok (.goto (-232), 3) := dk_167 255 24 (dk_at dksX14_sort_10 20 rfl rfl)
theorem dX14_sort_260 : decode cX14_sort 260 = .ok (.aload_n 0, 1) := dk_42 (dk_at dksX14_sort_10 23 rfl rfl)
theorem dX14_sort_261 : decode cX14_sort 261 = .ok (.getfield 908, 3) := dk_180 3 140 (dk_at dksX14_sort_11 0 rfl rfl)
theorem dX14_sort_264 : decode cX14_sort 264 = .ok (.iload_n 1, 1) := dk_27 (dk_at dksX14_sort_11 3 rfl rfl)
theorem dX14_sort_265 : decode cX14_sort 265 = .ok (.if_icmp .le 12, 3) := dk_164 0 12 (dk_at dksX14_sort_11 4 rfl rfl)
theorem dX14_sort_268 : decode cX14_sort 268 = .ok (.aload_n 0, 1) := dk_42 (dk_at dksX14_sort_11 7 rfl rfl)
theorem dX14_sort_269 : decode cX14_sort 269 = .ok (.getfield 338, 3) := dk_180 1 82 (dk_at dksX14_sort_11 8 rfl rfl)
theorem dX14_sort_272 : decode cX14_sort 272 = .ok (.iload_n 1, 1) := dk_27 (dk_at dksX14_sort_11 11 rfl rfl)
theorem dX14_sort_273 : decode cX14_sort 273 = .ok (.iaload, 1) := dk_46 (dk_at dksX14_sort_11 12 rfl rfl)
theorem dX14_sort_274 : decode cX14_sort 274 = .ok (.goto 7, 3) := dk_167 0 7 (dk_at dksX14_sort_11 13 rfl rfl)
theorem dX14_sort_277 : decode cX14_sort 277 = .ok (.aload_n 0, 1) := dk_42 (dk_at dksX14_sort_11 16 rfl rfl)
theorem dX14_sort_278 : decode cX14_sort 278 = .ok (.getfield 888, 3) := dk_180 3 120 (dk_at dksX14_sort_11 17 rfl rfl)
theorem dX14_sort_281 : decode cX14_sort 281 = .ok (.istore_n 3, 1) := dk_62 (dk_at dksX14_sort_11 20 rfl rfl)
theorem dX14_sort_282 : decode cX14_sort 282 = .ok (.aload_n 0, 1) := dk_42 (dk_at dksX14_sort_11 21 rfl rfl)
theorem dX14_sort_283 : decode cX14_sort 283 = .ok (.getfield 308, 3) := dk_180 1 52 (dk_at dksX14_sort_12 0 rfl rfl)
theorem dX14_sort_286 : decode cX14_sort 286 = .ok (.arraylength, 1) := dk_190 (dk_at dksX14_sort_12 3 rfl rfl)
theorem dX14_sort_287 : decode cX14_sort 287 = .ok (.aload_n 0, 1) := dk_42 (dk_at dksX14_sort_12 4 rfl rfl)
theorem dX14_sort_288 : decode cX14_sort 288 = .ok (.getfield 305, 3) := dk_180 1 49 (dk_at dksX14_sort_12 5 rfl rfl)
theorem dX14_sort_291 : decode cX14_sort 291 = .ok (.arraylength, 1) := dk_190 (dk_at dksX14_sort_12 8 rfl rfl)
theorem dX14_sort_292 : decode cX14_sort 292 = .ok (.if_icmp .ge 14, 3) := dk_162 0 14 (dk_at dksX14_sort_12 9 rfl rfl)
theorem dX14_sort_295 : decode cX14_sort 295 = .ok (.aload_n 0, 1) := dk_42 (dk_at dksX14_sort_12 12 rfl rfl)
theorem dX14_sort_296 : decode cX14_sort 296 = .ok (.aload_n 0, 1) := dk_42 (dk_at dksX14_sort_12 13 rfl rfl)
theorem dX14_sort_297 : decode cX14_sort 297 = .ok (.getfield 305, 3) := dk_180 1 49 (dk_at dksX14_sort_12 14 rfl rfl)
theorem dX14_sort_300 : decode cX14_sort 300 = .ok (.arraylength, 1) := dk_190 (dk_at dksX14_sort_12 17 rfl rfl)
theorem dX14_sort_301 : decode cX14_sort 301 = .ok (.newarray .int, 2) := dk_188_10 (dk_at dksX14_sort_12 18 rfl rfl)
theorem dX14_sort_303 : decode cX14_sort 303 = .ok (.putfield 308, 3) := dk_181 1 52 (dk_at dksX14_sort_12 20 rfl rfl)
theorem dX14_sort_306 : decode cX14_sort 306 = .ok (.iconst 0, 1) := dk_3 (dk_at dksX14_sort_12 23 rfl rfl)
theorem dX14_sort_307 : decode cX14_sort 307 = .ok (.istore 4, 2) := dk_54 4 (dk_at dksX14_sort_13 0 rfl rfl)
theorem dX14_sort_309 : decode cX14_sort 309 = .ok (.iload_n 1, 1) := dk_27 (dk_at dksX14_sort_13 2 rfl rfl)
theorem dX14_sort_310 : decode cX14_sort 310 = .ok (.istore 5, 2) := dk_54 5 (dk_at dksX14_sort_13 3 rfl rfl)
theorem dX14_sort_312 : decode cX14_sort 312 = .ok (.iload 5, 2) := dk_21 5 (dk_at dksX14_sort_13 5 rfl rfl)
theorem dX14_sort_314 : decode cX14_sort 314 = .ok (.aload_n 0, 1) := dk_42 (dk_at dksX14_sort_13 7 rfl rfl)
theorem dX14_sort_315 : decode cX14_sort 315 = .ok (.getfield 908, 3) := dk_180 3 140 (dk_at dksX14_sort_13 8 rfl rfl)
theorem dX14_sort_318 : decode cX14_sort 318 = .ok (.if_icmp .ge 62, 3) := dk_162 0 62 (dk_at dksX14_sort_13 11 rfl rfl)
theorem dX14_sort_321 : decode cX14_sort 321 = .ok (.aload_n 0, 1) := dk_42 (dk_at dksX14_sort_13 14 rfl rfl)
theorem dX14_sort_322 : decode cX14_sort 322 = .ok (.getfield 338, 3) := dk_180 1 82 (dk_at dksX14_sort_13 15 rfl rfl)
theorem dX14_sort_325 : decode cX14_sort 325 = .ok (.aload_n 0, 1) := dk_42 (dk_at dksX14_sort_13 18 rfl rfl)
theorem dX14_sort_326 : decode cX14_sort 326 = .ok (.getfield 344, 3) := dk_180 1 88 (dk_at dksX14_sort_13 19 rfl rfl)
theorem dX14_sort_329 : decode cX14_sort 329 = .ok (.iload 5, 2) := dk_21 5 (dk_at dksX14_sort_13 22 rfl rfl)
theorem dX14_sort_331 : decode cX14_sort 331 = .ok (.iaload, 1) := dk_46 (dk_at dksX14_sort_14 0 rfl rfl)
theorem dX14_sort_332 : decode cX14_sort 332 = .ok (.iaload, 1) := dk_46 (dk_at dksX14_sort_14 1 rfl rfl)
theorem dX14_sort_333 : decode cX14_sort 333 = .ok (.istore 6, 2) := dk_54 6 (dk_at dksX14_sort_14 2 rfl rfl)
theorem dX14_sort_335 : decode cX14_sort 335 = .ok (.iload 6, 2) := dk_21 6 (dk_at dksX14_sort_14 4 rfl rfl)
theorem dX14_sort_337 : decode cX14_sort 337 = .ok (.aload_n 0, 1) := dk_42 (dk_at dksX14_sort_14 6 rfl rfl)
theorem dX14_sort_338 : decode cX14_sort 338 = .ok (.aload_n 0, 1) := dk_42 (dk_at dksX14_sort_14 7 rfl rfl)
theorem dX14_sort_339 : decode cX14_sort 339 = .ok (.getfield 344, 3) := dk_180 1 88 (dk_at dksX14_sort_14 8 rfl rfl)
theorem dX14_sort_342 : decode cX14_sort 342 = .ok (.iload 5, 2) := dk_21 5 (dk_at dksX14_sort_14 11 rfl rfl)
theorem dX14_sort_344 : decode cX14_sort 344 = .ok (.iaload, 1) := dk_46 (dk_at dksX14_sort_14 13 rfl rfl)
theorem dX14_sort_345 : decode cX14_sort 345 = .ok (.invokevirtual 947, 3) := dk_182 3 179 (dk_at dksX14_sort_14 14 rfl rfl)
theorem dX14_sort_348 : decode cX14_sort 348 = .ok (.if_icmp .ge 26, 3) := dk_162 0 26 (dk_at dksX14_sort_14 17 rfl rfl)
theorem dX14_sort_351 : decode cX14_sort 351 = .ok (.aload_n 0, 1) := dk_42 (dk_at dksX14_sort_14 20 rfl rfl)
theorem dX14_sort_352 : decode cX14_sort 352 = .ok (.getfield 308, 3) := dk_180 1 52 (dk_at dksX14_sort_14 21 rfl rfl)
theorem dX14_sort_355 : decode cX14_sort 355 = .ok (.iload 4, 2) := dk_21 4 (dk_at dksX14_sort_15 0 rfl rfl)
theorem dX14_sort_357 : decode cX14_sort 357 = .ok (.aload_n 0, 1) := dk_42 (dk_at dksX14_sort_15 2 rfl rfl)
theorem dX14_sort_358 : decode cX14_sort 358 = .ok (.getfield 305, 3) := dk_180 1 49 (dk_at dksX14_sort_15 3 rfl rfl)
theorem dX14_sort_361 : decode cX14_sort 361 = .ok (.iload 6, 2) := dk_21 6 (dk_at dksX14_sort_15 6 rfl rfl)
theorem dX14_sort_363 : decode cX14_sort 363 = .ok (.iaload, 1) := dk_46 (dk_at dksX14_sort_15 8 rfl rfl)
theorem dX14_sort_364 : decode cX14_sort 364 = .ok (.iastore, 1) := dk_79 (dk_at dksX14_sort_15 9 rfl rfl)
theorem dX14_sort_365 : decode cX14_sort 365 = .ok (.iinc 4 1, 3) := dk_132 4 1 (dk_at dksX14_sort_15 10 rfl rfl)
theorem dX14_sort_368 : decode cX14_sort 368 = .ok (.iinc 6 1, 3) := dk_132 6 1 (dk_at dksX14_sort_15 13 rfl rfl)
theorem dX14_sort_371 : decode cX14_sort 371 = .ok (.goto (-36), 3) := dk_167 255 220 (dk_at dksX14_sort_15 16 rfl rfl)
theorem dX14_sort_374 : decode cX14_sort 374 = .ok (.iinc 5 1, 3) := dk_132 5 1 (dk_at dksX14_sort_15 19 rfl rfl)
theorem dX14_sort_377 : decode cX14_sort 377 = .ok (.goto (-65), 3) := dk_167 255 191 (dk_at dksX14_sort_16 0 rfl rfl)
theorem dX14_sort_380 : decode cX14_sort 380 = .ok (.iconst 0, 1) := dk_3 (dk_at dksX14_sort_16 3 rfl rfl)
theorem dX14_sort_381 : decode cX14_sort 381 = .ok (.istore 5, 2) := dk_54 5 (dk_at dksX14_sort_16 4 rfl rfl)
theorem dX14_sort_383 : decode cX14_sort 383 = .ok (.iload 5, 2) := dk_21 5 (dk_at dksX14_sort_16 6 rfl rfl)
theorem dX14_sort_385 : decode cX14_sort 385 = .ok (.iload 4, 2) := dk_21 4 (dk_at dksX14_sort_16 8 rfl rfl)
theorem dX14_sort_387 : decode cX14_sort 387 = .ok (.if_icmp .ge 25, 3) := dk_162 0 25 (dk_at dksX14_sort_16 10 rfl rfl)
theorem dX14_sort_390 : decode cX14_sort 390 = .ok (.aload_n 0, 1) := dk_42 (dk_at dksX14_sort_16 13 rfl rfl)
theorem dX14_sort_391 : decode cX14_sort 391 = .ok (.getfield 305, 3) := dk_180 1 49 (dk_at dksX14_sort_16 14 rfl rfl)
theorem dX14_sort_394 : decode cX14_sort 394 = .ok (.iload_n 3, 1) := dk_29 (dk_at dksX14_sort_16 17 rfl rfl)
theorem dX14_sort_395 : decode cX14_sort 395 = .ok (.iload 5, 2) := dk_21 5 (dk_at dksX14_sort_16 18 rfl rfl)
theorem dX14_sort_397 : decode cX14_sort 397 = .ok (.iadd, 1) := dk_96 (dk_at dksX14_sort_16 20 rfl rfl)
theorem dX14_sort_398 : decode cX14_sort 398 = .ok (.aload_n 0, 1) := dk_42 (dk_at dksX14_sort_16 21 rfl rfl)
theorem dX14_sort_399 : decode cX14_sort 399 = .ok (.getfield 308, 3) := dk_180 1 52 (dk_at dksX14_sort_17 0 rfl rfl)
theorem dX14_sort_402 : decode cX14_sort 402 = .ok (.iload 5, 2) := dk_21 5 (dk_at dksX14_sort_17 3 rfl rfl)
theorem dX14_sort_404 : decode cX14_sort 404 = .ok (.iaload, 1) := dk_46 (dk_at dksX14_sort_17 5 rfl rfl)
theorem dX14_sort_405 : decode cX14_sort 405 = .ok (.iastore, 1) := dk_79 (dk_at dksX14_sort_17 6 rfl rfl)
theorem dX14_sort_406 : decode cX14_sort 406 = .ok (.iinc 5 1, 3) := dk_132 5 1 (dk_at dksX14_sort_17 7 rfl rfl)
theorem dX14_sort_409 : decode cX14_sort 409 = .ok (.goto (-26), 3) := dk_167 255 230 (dk_at dksX14_sort_17 10 rfl rfl)
theorem dX14_sort_412 : decode cX14_sort 412 = .ok (.return_, 1) := dk_177 (dk_at dksX14_sort_17 13 rfl rfl)
abbrev cX14_isAfter : ByteArray := prog_15_method_153_code
def yX14_isAfter : MethodName := ⟨RX14, "isAfter", "(IIZ)Z"⟩
def dkwX14_isAfter_7 : List UInt8 := [46, 42, 180, 1, 49, 21, 5, 46, 164, 0, 7, 4, 167, 0, 4, 3, 172]
abbrev dktX14_isAfter_7 : List UInt8 := dkwX14_isAfter_7 ++ []
def dkwX14_isAfter_6 : List UInt8 := [162, 0, 7, 4, 167, 0, 36, 3, 167, 0, 32, 21, 4, 21, 6, 162, 0, 24, 42, 180, 1, 49, 21, 4]
abbrev dktX14_isAfter_6 : List UInt8 := dkwX14_isAfter_6 ++ dktX14_isAfter_7
def dkwX14_isAfter_5 : List UInt8 := [160, 0, 12, 132, 4, 1, 132, 5, 1, 167, 255, 219, 21, 5, 21, 7, 160, 0, 18, 21, 4, 21, 6]
abbrev dktX14_isAfter_5 : List UInt8 := dkwX14_isAfter_5 ++ dktX14_isAfter_6
def dkwX14_isAfter_4 : List UInt8 := [162, 0, 36, 21, 5, 21, 7, 162, 0, 29, 42, 180, 1, 49, 21, 4, 46, 42, 180, 1, 49, 21, 5, 46]
abbrev dktX14_isAfter_4 : List UInt8 := dkwX14_isAfter_4 ++ dktX14_isAfter_5
def dkwX14_isAfter_3 : List UInt8 := [182, 3, 182, 42, 21, 5, 182, 3, 182, 148, 158, 0, 7, 4, 167, 0, 4, 3, 172, 21, 4, 21, 6]
abbrev dktX14_isAfter_3 : List UInt8 := dkwX14_isAfter_3 ++ dktX14_isAfter_4
def dkwX14_isAfter_2 : List UInt8 := [160, 0, 14, 21, 4, 21, 6, 162, 0, 7, 4, 167, 0, 4, 3, 172, 29, 153, 0, 25, 42, 21, 4]
abbrev dktX14_isAfter_2 : List UInt8 := dkwX14_isAfter_2 ++ dktX14_isAfter_3
def dkwX14_isAfter_1 : List UInt8 := [28, 182, 3, 179, 54, 7, 21, 4, 21, 6, 159, 0, 10, 21, 5, 21, 7, 160, 0, 23, 21, 5, 21, 7]
abbrev dktX14_isAfter_1 : List UInt8 := dkwX14_isAfter_1 ++ dktX14_isAfter_2
def dkwX14_isAfter_0 : List UInt8 := [42, 180, 1, 82, 27, 46, 54, 4, 42, 180, 1, 82, 28, 46, 54, 5, 42, 27, 182, 3, 179, 54, 6, 42]
abbrev dktX14_isAfter_0 : List UInt8 := dkwX14_isAfter_0 ++ dktX14_isAfter_1
theorem dksX14_isAfter_0 : cX14_isAfter.data.toList.drop 0 = dktX14_isAfter_0 := by decide +kernel
theorem dksX14_isAfter_1 : cX14_isAfter.data.toList.drop 24 = dktX14_isAfter_1 := dk_seg dksX14_isAfter_0 24 rfl rfl
theorem dksX14_isAfter_2 : cX14_isAfter.data.toList.drop 48 = dktX14_isAfter_2 := dk_seg dksX14_isAfter_1 24 rfl rfl
theorem dksX14_isAfter_3 : cX14_isAfter.data.toList.drop 71 = dktX14_isAfter_3 := dk_seg dksX14_isAfter_2 23 rfl rfl
theorem dksX14_isAfter_4 : cX14_isAfter.data.toList.drop 94 = dktX14_isAfter_4 := dk_seg dksX14_isAfter_3 23 rfl rfl
theorem dksX14_isAfter_5 : cX14_isAfter.data.toList.drop 118 = dktX14_isAfter_5 := dk_seg dksX14_isAfter_4 24 rfl rfl
theorem dksX14_isAfter_6 : cX14_isAfter.data.toList.drop 141 = dktX14_isAfter_6 := dk_seg dksX14_isAfter_5 23 rfl rfl
theorem dksX14_isAfter_7 : cX14_isAfter.data.toList.drop 165 = dktX14_isAfter_7 := dk_seg dksX14_isAfter_6 24 rfl rfl
theorem dX14_isAfter_0 : decode cX14_isAfter 0 = .ok (.aload_n 0, 1) := dk_42 (dk_at dksX14_isAfter_0 0 rfl rfl)
theorem dX14_isAfter_1 : decode cX14_isAfter 1 = .ok (.getfield 338, 3) := dk_180 1 82 (dk_at dksX14_isAfter_0 1 rfl rfl)
theorem dX14_isAfter_4 : decode cX14_isAfter 4 = .ok (.iload_n 1, 1) := dk_27 (dk_at dksX14_isAfter_0 4 rfl rfl)
theorem dX14_isAfter_5 : decode cX14_isAfter 5 = .ok (.iaload, 1) := dk_46 (dk_at dksX14_isAfter_0 5 rfl rfl)
theorem dX14_isAfter_6 : decode cX14_isAfter 6 = .ok (.istore 4, 2) := dk_54 4 (dk_at dksX14_isAfter_0 6 rfl rfl)
theorem dX14_isAfter_8 : decode cX14_isAfter 8 = .ok (.aload_n 0, 1) := dk_42 (dk_at dksX14_isAfter_0 8 rfl rfl)
theorem dX14_isAfter_9 : decode cX14_isAfter 9 = .ok (.getfield 338, 3) := dk_180 1 82 (dk_at dksX14_isAfter_0 9 rfl rfl)
theorem dX14_isAfter_12 : decode cX14_isAfter 12 = .ok (.iload_n 2, 1) := dk_28 (dk_at dksX14_isAfter_0 12 rfl rfl)
theorem dX14_isAfter_13 : decode cX14_isAfter 13 = .ok (.iaload, 1) := dk_46 (dk_at dksX14_isAfter_0 13 rfl rfl)
theorem dX14_isAfter_14 : decode cX14_isAfter 14 = .ok (.istore 5, 2) := dk_54 5 (dk_at dksX14_isAfter_0 14 rfl rfl)
theorem dX14_isAfter_16 : decode cX14_isAfter 16 = .ok (.aload_n 0, 1) := dk_42 (dk_at dksX14_isAfter_0 16 rfl rfl)
theorem dX14_isAfter_17 : decode cX14_isAfter 17 = .ok (.iload_n 1, 1) := dk_27 (dk_at dksX14_isAfter_0 17 rfl rfl)
theorem dX14_isAfter_18 : decode cX14_isAfter 18 = .ok (.invokevirtual 947, 3) := dk_182 3 179 (dk_at dksX14_isAfter_0 18 rfl rfl)
theorem dX14_isAfter_21 : decode cX14_isAfter 21 = .ok (.istore 6, 2) := dk_54 6 (dk_at dksX14_isAfter_0 21 rfl rfl)
theorem dX14_isAfter_23 : decode cX14_isAfter 23 = .ok (.aload_n 0, 1) := dk_42 (dk_at dksX14_isAfter_0 23 rfl rfl)
theorem dX14_isAfter_24 : decode cX14_isAfter 24 = .ok (.iload_n 2, 1) := dk_28 (dk_at dksX14_isAfter_1 0 rfl rfl)
theorem dX14_isAfter_25 : decode cX14_isAfter 25 = .ok (.invokevirtual 947, 3) := dk_182 3 179 (dk_at dksX14_isAfter_1 1 rfl rfl)
theorem dX14_isAfter_28 : decode cX14_isAfter 28 = .ok (.istore 7, 2) := dk_54 7 (dk_at dksX14_isAfter_1 4 rfl rfl)
theorem dX14_isAfter_30 : decode cX14_isAfter 30 = .ok (.iload 4, 2) := dk_21 4 (dk_at dksX14_isAfter_1 6 rfl rfl)
theorem dX14_isAfter_32 : decode cX14_isAfter 32 = .ok (.iload 6, 2) := dk_21 6 (dk_at dksX14_isAfter_1 8 rfl rfl)
theorem dX14_isAfter_34 : decode cX14_isAfter 34 = .ok (.if_icmp .eq 10, 3) := dk_159 0 10 (dk_at dksX14_isAfter_1 10 rfl rfl)
theorem dX14_isAfter_37 : decode cX14_isAfter 37 = .ok (.iload 5, 2) := dk_21 5 (dk_at dksX14_isAfter_1 13 rfl rfl)
theorem dX14_isAfter_39 : decode cX14_isAfter 39 = .ok (.iload 7, 2) := dk_21 7 (dk_at dksX14_isAfter_1 15 rfl rfl)
theorem dX14_isAfter_41 : decode cX14_isAfter 41 = .ok (.if_icmp .ne 23, 3) := dk_160 0 23 (dk_at dksX14_isAfter_1 17 rfl rfl)
theorem dX14_isAfter_44 : decode cX14_isAfter 44 = .ok (.iload 5, 2) := dk_21 5 (dk_at dksX14_isAfter_1 20 rfl rfl)
theorem dX14_isAfter_46 : decode cX14_isAfter 46 = .ok (.iload 7, 2) := dk_21 7 (dk_at dksX14_isAfter_1 22 rfl rfl)
theorem dX14_isAfter_48 : decode cX14_isAfter 48 = .ok (.if_icmp .ne 14, 3) := dk_160 0 14 (dk_at dksX14_isAfter_2 0 rfl rfl)
theorem dX14_isAfter_51 : decode cX14_isAfter 51 = .ok (.iload 4, 2) := dk_21 4 (dk_at dksX14_isAfter_2 3 rfl rfl)
theorem dX14_isAfter_53 : decode cX14_isAfter 53 = .ok (.iload 6, 2) := dk_21 6 (dk_at dksX14_isAfter_2 5 rfl rfl)
theorem dX14_isAfter_55 : decode cX14_isAfter 55 = .ok (.if_icmp .ge 7, 3) := dk_162 0 7 (dk_at dksX14_isAfter_2 7 rfl rfl)
theorem dX14_isAfter_58 : decode cX14_isAfter 58 = .ok (.iconst 1, 1) := dk_4 (dk_at dksX14_isAfter_2 10 rfl rfl)
theorem dX14_isAfter_59 : decode cX14_isAfter 59 = .ok (.goto 4, 3) := dk_167 0 4 (dk_at dksX14_isAfter_2 11 rfl rfl)
theorem dX14_isAfter_62 : decode cX14_isAfter 62 = .ok (.iconst 0, 1) := dk_3 (dk_at dksX14_isAfter_2 14 rfl rfl)
theorem dX14_isAfter_63 : decode cX14_isAfter 63 = .ok (.ireturn, 1) := dk_172 (dk_at dksX14_isAfter_2 15 rfl rfl)
theorem dX14_isAfter_64 : decode cX14_isAfter 64 = .ok (.iload_n 3, 1) := dk_29 (dk_at dksX14_isAfter_2 16 rfl rfl)
theorem dX14_isAfter_65 : decode cX14_isAfter 65 = .ok (.ifCond .eq 25, 3) := dk_153 0 25 (dk_at dksX14_isAfter_2 17 rfl rfl)
theorem dX14_isAfter_68 : decode cX14_isAfter 68 = .ok (.aload_n 0, 1) := dk_42 (dk_at dksX14_isAfter_2 20 rfl rfl)
theorem dX14_isAfter_69 : decode cX14_isAfter 69 = .ok (.iload 4, 2) := dk_21 4 (dk_at dksX14_isAfter_2 21 rfl rfl)
theorem dX14_isAfter_71 : decode cX14_isAfter 71 = .ok (.invokevirtual 950, 3) := dk_182 3 182 (dk_at dksX14_isAfter_3 0 rfl rfl)
theorem dX14_isAfter_74 : decode cX14_isAfter 74 = .ok (.aload_n 0, 1) := dk_42 (dk_at dksX14_isAfter_3 3 rfl rfl)
theorem dX14_isAfter_75 : decode cX14_isAfter 75 = .ok (.iload 5, 2) := dk_21 5 (dk_at dksX14_isAfter_3 4 rfl rfl)
theorem dX14_isAfter_77 : decode cX14_isAfter 77 = .ok (.invokevirtual 950, 3) := dk_182 3 182 (dk_at dksX14_isAfter_3 6 rfl rfl)
theorem dX14_isAfter_80 : decode cX14_isAfter 80 = .ok (.lcmp, 1) := dk_148 (dk_at dksX14_isAfter_3 9 rfl rfl)
theorem dX14_isAfter_81 : decode cX14_isAfter 81 = .ok (.ifCond .le 7, 3) := dk_158 0 7 (dk_at dksX14_isAfter_3 10 rfl rfl)
theorem dX14_isAfter_84 : decode cX14_isAfter 84 = .ok (.iconst 1, 1) := dk_4 (dk_at dksX14_isAfter_3 13 rfl rfl)
theorem dX14_isAfter_85 : decode cX14_isAfter 85 = .ok (.goto 4, 3) := dk_167 0 4 (dk_at dksX14_isAfter_3 14 rfl rfl)
theorem dX14_isAfter_88 : decode cX14_isAfter 88 = .ok (.iconst 0, 1) := dk_3 (dk_at dksX14_isAfter_3 17 rfl rfl)
theorem dX14_isAfter_89 : decode cX14_isAfter 89 = .ok (.ireturn, 1) := dk_172 (dk_at dksX14_isAfter_3 18 rfl rfl)
theorem dX14_isAfter_90 : decode cX14_isAfter 90 = .ok (.iload 4, 2) := dk_21 4 (dk_at dksX14_isAfter_3 19 rfl rfl)
theorem dX14_isAfter_92 : decode cX14_isAfter 92 = .ok (.iload 6, 2) := dk_21 6 (dk_at dksX14_isAfter_3 21 rfl rfl)
theorem dX14_isAfter_94 : decode cX14_isAfter 94 = .ok (.if_icmp .ge 36, 3) := dk_162 0 36 (dk_at dksX14_isAfter_4 0 rfl rfl)
theorem dX14_isAfter_97 : decode cX14_isAfter 97 = .ok (.iload 5, 2) := dk_21 5 (dk_at dksX14_isAfter_4 3 rfl rfl)
theorem dX14_isAfter_99 : decode cX14_isAfter 99 = .ok (.iload 7, 2) := dk_21 7 (dk_at dksX14_isAfter_4 5 rfl rfl)
theorem dX14_isAfter_101 : decode cX14_isAfter 101 = .ok (.if_icmp .ge 29, 3) := dk_162 0 29 (dk_at dksX14_isAfter_4 7 rfl rfl)
theorem dX14_isAfter_104 : decode cX14_isAfter 104 = .ok (.aload_n 0, 1) := dk_42 (dk_at dksX14_isAfter_4 10 rfl rfl)
theorem dX14_isAfter_105 : decode cX14_isAfter 105 = .ok (.getfield 305, 3) := dk_180 1 49 (dk_at dksX14_isAfter_4 11 rfl rfl)
theorem dX14_isAfter_108 : decode cX14_isAfter 108 = .ok (.iload 4, 2) := dk_21 4 (dk_at dksX14_isAfter_4 14 rfl rfl)
theorem dX14_isAfter_110 : decode cX14_isAfter 110 = .ok (.iaload, 1) := dk_46 (dk_at dksX14_isAfter_4 16 rfl rfl)
theorem dX14_isAfter_111 : decode cX14_isAfter 111 = .ok (.aload_n 0, 1) := dk_42 (dk_at dksX14_isAfter_4 17 rfl rfl)
theorem dX14_isAfter_112 : decode cX14_isAfter 112 = .ok (.getfield 305, 3) := dk_180 1 49 (dk_at dksX14_isAfter_4 18 rfl rfl)
theorem dX14_isAfter_115 : decode cX14_isAfter 115 = .ok (.iload 5, 2) := dk_21 5 (dk_at dksX14_isAfter_4 21 rfl rfl)
theorem dX14_isAfter_117 : decode cX14_isAfter 117 = .ok (.iaload, 1) := dk_46 (dk_at dksX14_isAfter_4 23 rfl rfl)
theorem dX14_isAfter_118 : decode cX14_isAfter 118 = .ok (.if_icmp .ne 12, 3) := dk_160 0 12 (dk_at dksX14_isAfter_5 0 rfl rfl)
theorem dX14_isAfter_121 : decode cX14_isAfter 121 = .ok (.iinc 4 1, 3) := dk_132 4 1 (dk_at dksX14_isAfter_5 3 rfl rfl)
theorem dX14_isAfter_124 : decode cX14_isAfter 124 = .ok (.iinc 5 1, 3) := dk_132 5 1 (dk_at dksX14_isAfter_5 6 rfl rfl)
theorem dX14_isAfter_127 : decode cX14_isAfter 127 = .ok (.goto (-37), 3) := dk_167 255 219 (dk_at dksX14_isAfter_5 9 rfl rfl)
theorem dX14_isAfter_130 : decode cX14_isAfter 130 = .ok (.iload 5, 2) := dk_21 5 (dk_at dksX14_isAfter_5 12 rfl rfl)
theorem dX14_isAfter_132 : decode cX14_isAfter 132 = .ok (.iload 7, 2) := dk_21 7 (dk_at dksX14_isAfter_5 14 rfl rfl)
theorem dX14_isAfter_134 : decode cX14_isAfter 134 = .ok (.if_icmp .ne 18, 3) := dk_160 0 18 (dk_at dksX14_isAfter_5 16 rfl rfl)
theorem dX14_isAfter_137 : decode cX14_isAfter 137 = .ok (.iload 4, 2) := dk_21 4 (dk_at dksX14_isAfter_5 19 rfl rfl)
theorem dX14_isAfter_139 : decode cX14_isAfter 139 = .ok (.iload 6, 2) := dk_21 6 (dk_at dksX14_isAfter_5 21 rfl rfl)
theorem dX14_isAfter_141 : decode cX14_isAfter 141 = .ok (.if_icmp .ge 7, 3) := dk_162 0 7 (dk_at dksX14_isAfter_6 0 rfl rfl)
theorem dX14_isAfter_144 : decode cX14_isAfter 144 = .ok (.iconst 1, 1) := dk_4 (dk_at dksX14_isAfter_6 3 rfl rfl)
theorem dX14_isAfter_145 : decode cX14_isAfter 145 = .ok (.goto 36, 3) := dk_167 0 36 (dk_at dksX14_isAfter_6 4 rfl rfl)
theorem dX14_isAfter_148 : decode cX14_isAfter 148 = .ok (.iconst 0, 1) := dk_3 (dk_at dksX14_isAfter_6 7 rfl rfl)
theorem dX14_isAfter_149 : decode cX14_isAfter 149 = .ok (.goto 32, 3) := dk_167 0 32 (dk_at dksX14_isAfter_6 8 rfl rfl)
theorem dX14_isAfter_152 : decode cX14_isAfter 152 = .ok (.iload 4, 2) := dk_21 4 (dk_at dksX14_isAfter_6 11 rfl rfl)
theorem dX14_isAfter_154 : decode cX14_isAfter 154 = .ok (.iload 6, 2) := dk_21 6 (dk_at dksX14_isAfter_6 13 rfl rfl)
theorem dX14_isAfter_156 : decode cX14_isAfter 156 = .ok (.if_icmp .ge 24, 3) := dk_162 0 24 (dk_at dksX14_isAfter_6 15 rfl rfl)
theorem dX14_isAfter_159 : decode cX14_isAfter 159 = .ok (.aload_n 0, 1) := dk_42 (dk_at dksX14_isAfter_6 18 rfl rfl)
theorem dX14_isAfter_160 : decode cX14_isAfter 160 = .ok (.getfield 305, 3) := dk_180 1 49 (dk_at dksX14_isAfter_6 19 rfl rfl)
theorem dX14_isAfter_163 : decode cX14_isAfter 163 = .ok (.iload 4, 2) := dk_21 4 (dk_at dksX14_isAfter_6 22 rfl rfl)
theorem dX14_isAfter_165 : decode cX14_isAfter 165 = .ok (.iaload, 1) := dk_46 (dk_at dksX14_isAfter_7 0 rfl rfl)
theorem dX14_isAfter_166 : decode cX14_isAfter 166 = .ok (.aload_n 0, 1) := dk_42 (dk_at dksX14_isAfter_7 1 rfl rfl)
theorem dX14_isAfter_167 : decode cX14_isAfter 167 = .ok (.getfield 305, 3) := dk_180 1 49 (dk_at dksX14_isAfter_7 2 rfl rfl)
theorem dX14_isAfter_170 : decode cX14_isAfter 170 = .ok (.iload 5, 2) := dk_21 5 (dk_at dksX14_isAfter_7 5 rfl rfl)
theorem dX14_isAfter_172 : decode cX14_isAfter 172 = .ok (.iaload, 1) := dk_46 (dk_at dksX14_isAfter_7 7 rfl rfl)
theorem dX14_isAfter_173 : decode cX14_isAfter 173 = .ok (.if_icmp .le 7, 3) := dk_164 0 7 (dk_at dksX14_isAfter_7 8 rfl rfl)
theorem dX14_isAfter_176 : decode cX14_isAfter 176 = .ok (.iconst 1, 1) := dk_4 (dk_at dksX14_isAfter_7 11 rfl rfl)
theorem dX14_isAfter_177 : decode cX14_isAfter 177 = .ok (.goto 4, 3) := dk_167 0 4 (dk_at dksX14_isAfter_7 12 rfl rfl)
theorem dX14_isAfter_180 : decode cX14_isAfter 180 = .ok (.iconst 0, 1) := dk_3 (dk_at dksX14_isAfter_7 15 rfl rfl)
theorem dX14_isAfter_181 : decode cX14_isAfter 181 = .ok (.ireturn, 1) := dk_172 (dk_at dksX14_isAfter_7 16 rfl rfl)
abbrev cX14_segmentEnd : ByteArray := prog_15_method_151_code
def yX14_segmentEnd : MethodName := ⟨RX14, "segmentEnd", "(I)I"⟩
def dkwX14_segmentEnd_1 : List UInt8 := [180, 3, 120, 172]
abbrev dktX14_segmentEnd_1 : List UInt8 := dkwX14_segmentEnd_1 ++ []
def dkwX14_segmentEnd_0 : List UInt8 := [27, 4, 96, 42, 180, 3, 140, 162, 0, 14, 42, 180, 1, 82, 27, 4, 96, 46, 167, 0, 7, 42]
abbrev dktX14_segmentEnd_0 : List UInt8 := dkwX14_segmentEnd_0 ++ dktX14_segmentEnd_1
theorem dksX14_segmentEnd_0 : cX14_segmentEnd.data.toList.drop 0 = dktX14_segmentEnd_0 := by decide +kernel
theorem dksX14_segmentEnd_1 : cX14_segmentEnd.data.toList.drop 22 = dktX14_segmentEnd_1 := dk_seg dksX14_segmentEnd_0 22 rfl rfl
theorem dX14_segmentEnd_0 : decode cX14_segmentEnd 0 = .ok (.iload_n 1, 1) := dk_27 (dk_at dksX14_segmentEnd_0 0 rfl rfl)
theorem dX14_segmentEnd_1 : decode cX14_segmentEnd 1 = .ok (.iconst 1, 1) := dk_4 (dk_at dksX14_segmentEnd_0 1 rfl rfl)
theorem dX14_segmentEnd_2 : decode cX14_segmentEnd 2 = .ok (.iadd, 1) := dk_96 (dk_at dksX14_segmentEnd_0 2 rfl rfl)
theorem dX14_segmentEnd_3 : decode cX14_segmentEnd 3 = .ok (.aload_n 0, 1) := dk_42 (dk_at dksX14_segmentEnd_0 3 rfl rfl)
theorem dX14_segmentEnd_4 : decode cX14_segmentEnd 4 = .ok (.getfield 908, 3) := dk_180 3 140 (dk_at dksX14_segmentEnd_0 4 rfl rfl)
theorem dX14_segmentEnd_7 : decode cX14_segmentEnd 7 = .ok (.if_icmp .ge 14, 3) := dk_162 0 14 (dk_at dksX14_segmentEnd_0 7 rfl rfl)
theorem dX14_segmentEnd_10 : decode cX14_segmentEnd 10 = .ok (.aload_n 0, 1) := dk_42 (dk_at dksX14_segmentEnd_0 10 rfl rfl)
theorem dX14_segmentEnd_11 : decode cX14_segmentEnd 11 = .ok (.getfield 338, 3) := dk_180 1 82 (dk_at dksX14_segmentEnd_0 11 rfl rfl)
theorem dX14_segmentEnd_14 : decode cX14_segmentEnd 14 = .ok (.iload_n 1, 1) := dk_27 (dk_at dksX14_segmentEnd_0 14 rfl rfl)
theorem dX14_segmentEnd_15 : decode cX14_segmentEnd 15 = .ok (.iconst 1, 1) := dk_4 (dk_at dksX14_segmentEnd_0 15 rfl rfl)
theorem dX14_segmentEnd_16 : decode cX14_segmentEnd 16 = .ok (.iadd, 1) := dk_96 (dk_at dksX14_segmentEnd_0 16 rfl rfl)
theorem dX14_segmentEnd_17 : decode cX14_segmentEnd 17 = .ok (.iaload, 1) := dk_46 (dk_at dksX14_segmentEnd_0 17 rfl rfl)
theorem dX14_segmentEnd_18 : decode cX14_segmentEnd 18 = .ok (.goto 7, 3) := dk_167 0 7 (dk_at dksX14_segmentEnd_0 18 rfl rfl)
theorem dX14_segmentEnd_21 : decode cX14_segmentEnd 21 = .ok (.aload_n 0, 1) := dk_42 (dk_at dksX14_segmentEnd_0 21 rfl rfl)
theorem dX14_segmentEnd_22 : decode cX14_segmentEnd 22 = .ok (.getfield 888, 3) := dk_180 3 120 (dk_at dksX14_segmentEnd_1 0 rfl rfl)
theorem dX14_segmentEnd_25 : decode cX14_segmentEnd 25 = .ok (.ireturn, 1) := dk_172 (dk_at dksX14_segmentEnd_1 3 rfl rfl)
abbrev cX14_tagAt : ByteArray := prog_15_method_152_code
def yX14_tagAt : MethodName := ⟨RX14, "tagAt", "(I)J"⟩
def dkwX14_tagAt_3 : List UInt8 := [122, 29, 16, 7, 120, 42, 180, 1, 49, 21, 4, 46, 128, 184, 2, 121, 173]
abbrev dktX14_tagAt_3 : List UInt8 := dkwX14_tagAt_3 ++ []
def dkwX14_tagAt_2 : List UInt8 := [16, 7, 120, 42, 180, 1, 49, 21, 4, 46, 16, 127, 126, 128, 62, 132, 4, 1, 167, 255, 225, 28, 16, 6]
abbrev dktX14_tagAt_2 : List UInt8 := dkwX14_tagAt_2 ++ dktX14_tagAt_3
def dkwX14_tagAt_1 : List UInt8 := [184, 2, 121, 173, 3, 62, 27, 4, 96, 54, 4, 42, 180, 1, 49, 21, 4, 46, 16, 127, 164, 0, 25, 29]
abbrev dktX14_tagAt_1 : List UInt8 := dkwX14_tagAt_1 ++ dktX14_tagAt_2
def dkwX14_tagAt_0 : List UInt8 := [42, 180, 1, 49, 27, 46, 61, 28, 16, 31, 126, 16, 31, 162, 0, 15, 28, 16, 6, 122, 28, 16, 31, 126]
abbrev dktX14_tagAt_0 : List UInt8 := dkwX14_tagAt_0 ++ dktX14_tagAt_1
theorem dksX14_tagAt_0 : cX14_tagAt.data.toList.drop 0 = dktX14_tagAt_0 := by decide +kernel
theorem dksX14_tagAt_1 : cX14_tagAt.data.toList.drop 24 = dktX14_tagAt_1 := dk_seg dksX14_tagAt_0 24 rfl rfl
theorem dksX14_tagAt_2 : cX14_tagAt.data.toList.drop 48 = dktX14_tagAt_2 := dk_seg dksX14_tagAt_1 24 rfl rfl
theorem dksX14_tagAt_3 : cX14_tagAt.data.toList.drop 72 = dktX14_tagAt_3 := dk_seg dksX14_tagAt_2 24 rfl rfl
theorem dX14_tagAt_0 : decode cX14_tagAt 0 = .ok (.aload_n 0, 1) := dk_42 (dk_at dksX14_tagAt_0 0 rfl rfl)
theorem dX14_tagAt_1 : decode cX14_tagAt 1 = .ok (.getfield 305, 3) := dk_180 1 49 (dk_at dksX14_tagAt_0 1 rfl rfl)
theorem dX14_tagAt_4 : decode cX14_tagAt 4 = .ok (.iload_n 1, 1) := dk_27 (dk_at dksX14_tagAt_0 4 rfl rfl)
theorem dX14_tagAt_5 : decode cX14_tagAt 5 = .ok (.iaload, 1) := dk_46 (dk_at dksX14_tagAt_0 5 rfl rfl)
theorem dX14_tagAt_6 : decode cX14_tagAt 6 = .ok (.istore_n 2, 1) := dk_61 (dk_at dksX14_tagAt_0 6 rfl rfl)
theorem dX14_tagAt_7 : decode cX14_tagAt 7 = .ok (.iload_n 2, 1) := dk_28 (dk_at dksX14_tagAt_0 7 rfl rfl)
theorem dX14_tagAt_8 : decode cX14_tagAt 8 = .ok (.bipush 31, 2) := dk_16 31 (dk_at dksX14_tagAt_0 8 rfl rfl)
theorem dX14_tagAt_10 : decode cX14_tagAt 10 = .ok (.iand, 1) := dk_126 (dk_at dksX14_tagAt_0 10 rfl rfl)
theorem dX14_tagAt_11 : decode cX14_tagAt 11 = .ok (.bipush 31, 2) := dk_16 31 (dk_at dksX14_tagAt_0 11 rfl rfl)
theorem dX14_tagAt_13 : decode cX14_tagAt 13 = .ok (.if_icmp .ge 15, 3) := dk_162 0 15 (dk_at dksX14_tagAt_0 13 rfl rfl)
theorem dX14_tagAt_16 : decode cX14_tagAt 16 = .ok (.iload_n 2, 1) := dk_28 (dk_at dksX14_tagAt_0 16 rfl rfl)
theorem dX14_tagAt_17 : decode cX14_tagAt 17 = .ok (.bipush 6, 2) := dk_16 6 (dk_at dksX14_tagAt_0 17 rfl rfl)
theorem dX14_tagAt_19 : decode cX14_tagAt 19 = .ok (.ishr, 1) := dk_122 (dk_at dksX14_tagAt_0 19 rfl rfl)
theorem dX14_tagAt_20 : decode cX14_tagAt 20 = .ok (.iload_n 2, 1) := dk_28 (dk_at dksX14_tagAt_0 20 rfl rfl)
theorem dX14_tagAt_21 : decode cX14_tagAt 21 = .ok (.bipush 31, 2) := dk_16 31 (dk_at dksX14_tagAt_0 21 rfl rfl)
theorem dX14_tagAt_23 : decode cX14_tagAt 23 = .ok (.iand, 1) := dk_126 (dk_at dksX14_tagAt_0 23 rfl rfl)
theorem dX14_tagAt_24 : decode cX14_tagAt 24 = .ok (.invokestatic 633, 3) := dk_184 2 121 (dk_at dksX14_tagAt_1 0 rfl rfl)
theorem dX14_tagAt_27 : decode cX14_tagAt 27 = .ok (.lreturn, 1) := dk_173 (dk_at dksX14_tagAt_1 3 rfl rfl)
theorem dX14_tagAt_28 : decode cX14_tagAt 28 = .ok (.iconst 0, 1) := dk_3 (dk_at dksX14_tagAt_1 4 rfl rfl)
theorem dX14_tagAt_29 : decode cX14_tagAt 29 = .ok (.istore_n 3, 1) := dk_62 (dk_at dksX14_tagAt_1 5 rfl rfl)
theorem dX14_tagAt_30 : decode cX14_tagAt 30 = .ok (.iload_n 1, 1) := dk_27 (dk_at dksX14_tagAt_1 6 rfl rfl)
theorem dX14_tagAt_31 : decode cX14_tagAt 31 = .ok (.iconst 1, 1) := dk_4 (dk_at dksX14_tagAt_1 7 rfl rfl)
theorem dX14_tagAt_32 : decode cX14_tagAt 32 = .ok (.iadd, 1) := dk_96 (dk_at dksX14_tagAt_1 8 rfl rfl)
theorem dX14_tagAt_33 : decode cX14_tagAt 33 = .ok (.istore 4, 2) := dk_54 4 (dk_at dksX14_tagAt_1 9 rfl rfl)
theorem dX14_tagAt_35 : decode cX14_tagAt 35 = .ok (.aload_n 0, 1) := dk_42 (dk_at dksX14_tagAt_1 11 rfl rfl)
theorem dX14_tagAt_36 : decode cX14_tagAt 36 = .ok (.getfield 305, 3) := dk_180 1 49 (dk_at dksX14_tagAt_1 12 rfl rfl)
theorem dX14_tagAt_39 : decode cX14_tagAt 39 = .ok (.iload 4, 2) := dk_21 4 (dk_at dksX14_tagAt_1 15 rfl rfl)
theorem dX14_tagAt_41 : decode cX14_tagAt 41 = .ok (.iaload, 1) := dk_46 (dk_at dksX14_tagAt_1 17 rfl rfl)
theorem dX14_tagAt_42 : decode cX14_tagAt 42 = .ok (.bipush 127, 2) := dk_16 127 (dk_at dksX14_tagAt_1 18 rfl rfl)
theorem dX14_tagAt_44 : decode cX14_tagAt 44 = .ok (.if_icmp .le 25, 3) := dk_164 0 25 (dk_at dksX14_tagAt_1 20 rfl rfl)
theorem dX14_tagAt_47 : decode cX14_tagAt 47 = .ok (.iload_n 3, 1) := dk_29 (dk_at dksX14_tagAt_1 23 rfl rfl)
theorem dX14_tagAt_48 : decode cX14_tagAt 48 = .ok (.bipush 7, 2) := dk_16 7 (dk_at dksX14_tagAt_2 0 rfl rfl)
theorem dX14_tagAt_50 : decode cX14_tagAt 50 = .ok (.ishl, 1) := dk_120 (dk_at dksX14_tagAt_2 2 rfl rfl)
theorem dX14_tagAt_51 : decode cX14_tagAt 51 = .ok (.aload_n 0, 1) := dk_42 (dk_at dksX14_tagAt_2 3 rfl rfl)
theorem dX14_tagAt_52 : decode cX14_tagAt 52 = .ok (.getfield 305, 3) := dk_180 1 49 (dk_at dksX14_tagAt_2 4 rfl rfl)
theorem dX14_tagAt_55 : decode cX14_tagAt 55 = .ok (.iload 4, 2) := dk_21 4 (dk_at dksX14_tagAt_2 7 rfl rfl)
theorem dX14_tagAt_57 : decode cX14_tagAt 57 = .ok (.iaload, 1) := dk_46 (dk_at dksX14_tagAt_2 9 rfl rfl)
theorem dX14_tagAt_58 : decode cX14_tagAt 58 = .ok (.bipush 127, 2) := dk_16 127 (dk_at dksX14_tagAt_2 10 rfl rfl)
theorem dX14_tagAt_60 : decode cX14_tagAt 60 = .ok (.iand, 1) := dk_126 (dk_at dksX14_tagAt_2 12 rfl rfl)
theorem dX14_tagAt_61 : decode cX14_tagAt 61 = .ok (.ior, 1) := dk_128 (dk_at dksX14_tagAt_2 13 rfl rfl)
theorem dX14_tagAt_62 : decode cX14_tagAt 62 = .ok (.istore_n 3, 1) := dk_62 (dk_at dksX14_tagAt_2 14 rfl rfl)
theorem dX14_tagAt_63 : decode cX14_tagAt 63 = .ok (.iinc 4 1, 3) := dk_132 4 1 (dk_at dksX14_tagAt_2 15 rfl rfl)
theorem dX14_tagAt_66 : decode cX14_tagAt 66 = .ok (.goto (-31), 3) := dk_167 255 225 (dk_at dksX14_tagAt_2 18 rfl rfl)
theorem dX14_tagAt_69 : decode cX14_tagAt 69 = .ok (.iload_n 2, 1) := dk_28 (dk_at dksX14_tagAt_2 21 rfl rfl)
theorem dX14_tagAt_70 : decode cX14_tagAt 70 = .ok (.bipush 6, 2) := dk_16 6 (dk_at dksX14_tagAt_2 22 rfl rfl)
theorem dX14_tagAt_72 : decode cX14_tagAt 72 = .ok (.ishr, 1) := dk_122 (dk_at dksX14_tagAt_3 0 rfl rfl)
theorem dX14_tagAt_73 : decode cX14_tagAt 73 = .ok (.iload_n 3, 1) := dk_29 (dk_at dksX14_tagAt_3 1 rfl rfl)
theorem dX14_tagAt_74 : decode cX14_tagAt 74 = .ok (.bipush 7, 2) := dk_16 7 (dk_at dksX14_tagAt_3 2 rfl rfl)
theorem dX14_tagAt_76 : decode cX14_tagAt 76 = .ok (.ishl, 1) := dk_120 (dk_at dksX14_tagAt_3 4 rfl rfl)
theorem dX14_tagAt_77 : decode cX14_tagAt 77 = .ok (.aload_n 0, 1) := dk_42 (dk_at dksX14_tagAt_3 5 rfl rfl)
theorem dX14_tagAt_78 : decode cX14_tagAt 78 = .ok (.getfield 305, 3) := dk_180 1 49 (dk_at dksX14_tagAt_3 6 rfl rfl)
theorem dX14_tagAt_81 : decode cX14_tagAt 81 = .ok (.iload 4, 2) := dk_21 4 (dk_at dksX14_tagAt_3 9 rfl rfl)
theorem dX14_tagAt_83 : decode cX14_tagAt 83 = .ok (.iaload, 1) := dk_46 (dk_at dksX14_tagAt_3 11 rfl rfl)
theorem dX14_tagAt_84 : decode cX14_tagAt 84 = .ok (.ior, 1) := dk_128 (dk_at dksX14_tagAt_3 12 rfl rfl)
theorem dX14_tagAt_85 : decode cX14_tagAt 85 = .ok (.invokestatic 633, 3) := dk_184 2 121 (dk_at dksX14_tagAt_3 13 rfl rfl)
theorem dX14_tagAt_88 : decode cX14_tagAt 88 = .ok (.lreturn, 1) := dk_173 (dk_at dksX14_tagAt_3 16 rfl rfl)
abbrev cX14_nextOfSequence : ByteArray := prog_15_method_148_code
def yX14_nextOfSequence : MethodName := ⟨RX14, "nextOfSequence", "(III)V"⟩
def dkwX14_nextOfSequence_5 : List UInt8 := [182, 3, 169, 177]
abbrev dktX14_nextOfSequence_5 : List UInt8 := dkwX14_nextOfSequence_5 ++ []
def dkwX14_nextOfSequence_4 : List UInt8 := [79, 42, 180, 1, 73, 27, 42, 180, 1, 46, 29, 46, 79, 42, 42, 180, 0, 103, 21, 4, 46, 29, 21, 4]
abbrev dktX14_nextOfSequence_4 : List UInt8 := dkwX14_nextOfSequence_4 ++ dktX14_nextOfSequence_5
def dkwX14_nextOfSequence_3 : List UInt8 := [16, 11, 42, 180, 1, 16, 29, 46, 182, 1, 158, 177, 42, 180, 1, 76, 27, 42, 180, 0, 112, 21, 4, 46]
abbrev dktX14_nextOfSequence_3 : List UInt8 := dkwX14_nextOfSequence_3 ++ dktX14_nextOfSequence_4
def dkwX14_nextOfSequence_2 : List UInt8 := [167, 255, 217, 21, 4, 155, 0, 18, 42, 29, 42, 180, 0, 103, 21, 4, 46, 182, 3, 172, 154, 0, 16, 42]
abbrev dktX14_nextOfSequence_2 : List UInt8 := dkwX14_nextOfSequence_2 ++ dktX14_nextOfSequence_3
def dkwX14_nextOfSequence_1 : List UInt8 := [29, 42, 180, 0, 103, 21, 4, 46, 182, 3, 172, 154, 0, 15, 42, 180, 0, 112, 21, 4, 46, 54, 4]
abbrev dktX14_nextOfSequence_1 : List UInt8 := dkwX14_nextOfSequence_1 ++ dktX14_nextOfSequence_2
def dkwX14_nextOfSequence_0 : List UInt8 := [42, 180, 1, 76, 27, 46, 54, 4, 21, 4, 155, 0, 40, 42, 180, 0, 106, 21, 4, 46, 158, 0, 30, 42]
abbrev dktX14_nextOfSequence_0 : List UInt8 := dkwX14_nextOfSequence_0 ++ dktX14_nextOfSequence_1
theorem dksX14_nextOfSequence_0 : cX14_nextOfSequence.data.toList.drop 0 = dktX14_nextOfSequence_0 := by decide +kernel
theorem dksX14_nextOfSequence_1 : cX14_nextOfSequence.data.toList.drop 24 = dktX14_nextOfSequence_1 := dk_seg dksX14_nextOfSequence_0 24 rfl rfl
theorem dksX14_nextOfSequence_2 : cX14_nextOfSequence.data.toList.drop 47 = dktX14_nextOfSequence_2 := dk_seg dksX14_nextOfSequence_1 23 rfl rfl
theorem dksX14_nextOfSequence_3 : cX14_nextOfSequence.data.toList.drop 71 = dktX14_nextOfSequence_3 := dk_seg dksX14_nextOfSequence_2 24 rfl rfl
theorem dksX14_nextOfSequence_4 : cX14_nextOfSequence.data.toList.drop 95 = dktX14_nextOfSequence_4 := dk_seg dksX14_nextOfSequence_3 24 rfl rfl
theorem dksX14_nextOfSequence_5 : cX14_nextOfSequence.data.toList.drop 119 = dktX14_nextOfSequence_5 := dk_seg dksX14_nextOfSequence_4 24 rfl rfl
theorem dX14_nextOfSequence_0 : decode cX14_nextOfSequence 0 = .ok (.aload_n 0, 1) := dk_42 (dk_at dksX14_nextOfSequence_0 0 rfl rfl)
theorem dX14_nextOfSequence_1 : decode cX14_nextOfSequence 1 = .ok (.getfield 332, 3) := dk_180 1 76 (dk_at dksX14_nextOfSequence_0 1 rfl rfl)
theorem dX14_nextOfSequence_4 : decode cX14_nextOfSequence 4 = .ok (.iload_n 1, 1) := dk_27 (dk_at dksX14_nextOfSequence_0 4 rfl rfl)
theorem dX14_nextOfSequence_5 : decode cX14_nextOfSequence 5 = .ok (.iaload, 1) := dk_46 (dk_at dksX14_nextOfSequence_0 5 rfl rfl)
theorem dX14_nextOfSequence_6 : decode cX14_nextOfSequence 6 = .ok (.istore 4, 2) := dk_54 4 (dk_at dksX14_nextOfSequence_0 6 rfl rfl)
theorem dX14_nextOfSequence_8 : decode cX14_nextOfSequence 8 = .ok (.iload 4, 2) := dk_21 4 (dk_at dksX14_nextOfSequence_0 8 rfl rfl)
theorem dX14_nextOfSequence_10 : decode cX14_nextOfSequence 10 = .ok (.ifCond .lt 40, 3) := dk_155 0 40 (dk_at dksX14_nextOfSequence_0 10 rfl rfl)
theorem dX14_nextOfSequence_13 : decode cX14_nextOfSequence 13 = .ok (.aload_n 0, 1) := dk_42 (dk_at dksX14_nextOfSequence_0 13 rfl rfl)
theorem dX14_nextOfSequence_14 : decode cX14_nextOfSequence 14 = .ok (.getfield 106, 3) := dk_180 0 106 (dk_at dksX14_nextOfSequence_0 14 rfl rfl)
theorem dX14_nextOfSequence_17 : decode cX14_nextOfSequence 17 = .ok (.iload 4, 2) := dk_21 4 (dk_at dksX14_nextOfSequence_0 17 rfl rfl)
theorem dX14_nextOfSequence_19 : decode cX14_nextOfSequence 19 = .ok (.iaload, 1) := dk_46 (dk_at dksX14_nextOfSequence_0 19 rfl rfl)
theorem dX14_nextOfSequence_20 : decode cX14_nextOfSequence 20 = .ok (.ifCond .le 30, 3) := dk_158 0 30 (dk_at dksX14_nextOfSequence_0 20 rfl rfl)
theorem dX14_nextOfSequence_23 : decode cX14_nextOfSequence 23 = .ok (.aload_n 0, 1) := dk_42 (dk_at dksX14_nextOfSequence_0 23 rfl rfl)
theorem dX14_nextOfSequence_24 : decode cX14_nextOfSequence 24 = .ok (.iload_n 3, 1) := dk_29 (dk_at dksX14_nextOfSequence_1 0 rfl rfl)
theorem dX14_nextOfSequence_25 : decode cX14_nextOfSequence 25 = .ok (.aload_n 0, 1) := dk_42 (dk_at dksX14_nextOfSequence_1 1 rfl rfl)
theorem dX14_nextOfSequence_26 : decode cX14_nextOfSequence 26 = .ok (.getfield 103, 3) := dk_180 0 103 (dk_at dksX14_nextOfSequence_1 2 rfl rfl)
theorem dX14_nextOfSequence_29 : decode cX14_nextOfSequence 29 = .ok (.iload 4, 2) := dk_21 4 (dk_at dksX14_nextOfSequence_1 5 rfl rfl)
theorem dX14_nextOfSequence_31 : decode cX14_nextOfSequence 31 = .ok (.iaload, 1) := dk_46 (dk_at dksX14_nextOfSequence_1 7 rfl rfl)
theorem dX14_nextOfSequence_32 : decode cX14_nextOfSequence 32 = .ok (.invokevirtual 940, 3) := dk_182 3 172 (dk_at dksX14_nextOfSequence_1 8 rfl rfl)
theorem dX14_nextOfSequence_35 : decode cX14_nextOfSequence 35 = .ok (.ifCond .ne 15, 3) := dk_154 0 15 (dk_at dksX14_nextOfSequence_1 11 rfl rfl)
theorem dX14_nextOfSequence_38 : decode cX14_nextOfSequence 38 = .ok (.aload_n 0, 1) := dk_42 (dk_at dksX14_nextOfSequence_1 14 rfl rfl)
theorem dX14_nextOfSequence_39 : decode cX14_nextOfSequence 39 = .ok (.getfield 112, 3) := dk_180 0 112 (dk_at dksX14_nextOfSequence_1 15 rfl rfl)
theorem dX14_nextOfSequence_42 : decode cX14_nextOfSequence 42 = .ok (.iload 4, 2) := dk_21 4 (dk_at dksX14_nextOfSequence_1 18 rfl rfl)
theorem dX14_nextOfSequence_44 : decode cX14_nextOfSequence 44 = .ok (.iaload, 1) := dk_46 (dk_at dksX14_nextOfSequence_1 20 rfl rfl)
theorem dX14_nextOfSequence_45 : decode cX14_nextOfSequence 45 = .ok (.istore 4, 2) := dk_54 4 (dk_at dksX14_nextOfSequence_1 21 rfl rfl)
theorem dX14_nextOfSequence_47 : decode cX14_nextOfSequence 47 = .ok (.goto (-39), 3) := dk_167 255 217 (dk_at dksX14_nextOfSequence_2 0 rfl rfl)
theorem dX14_nextOfSequence_50 : decode cX14_nextOfSequence 50 = .ok (.iload 4, 2) := dk_21 4 (dk_at dksX14_nextOfSequence_2 3 rfl rfl)
theorem dX14_nextOfSequence_52 : decode cX14_nextOfSequence 52 = .ok (.ifCond .lt 18, 3) := dk_155 0 18 (dk_at dksX14_nextOfSequence_2 5 rfl rfl)
theorem dX14_nextOfSequence_55 : decode cX14_nextOfSequence 55 = .ok (.aload_n 0, 1) := dk_42 (dk_at dksX14_nextOfSequence_2 8 rfl rfl)
theorem dX14_nextOfSequence_56 : decode cX14_nextOfSequence 56 = .ok (.iload_n 3, 1) := dk_29 (dk_at dksX14_nextOfSequence_2 9 rfl rfl)
theorem dX14_nextOfSequence_57 : decode cX14_nextOfSequence 57 = .ok (.aload_n 0, 1) := dk_42 (dk_at dksX14_nextOfSequence_2 10 rfl rfl)
theorem dX14_nextOfSequence_58 : decode cX14_nextOfSequence 58 = .ok (.getfield 103, 3) := dk_180 0 103 (dk_at dksX14_nextOfSequence_2 11 rfl rfl)
theorem dX14_nextOfSequence_61 : decode cX14_nextOfSequence 61 = .ok (.iload 4, 2) := dk_21 4 (dk_at dksX14_nextOfSequence_2 14 rfl rfl)
theorem dX14_nextOfSequence_63 : decode cX14_nextOfSequence 63 = .ok (.iaload, 1) := dk_46 (dk_at dksX14_nextOfSequence_2 16 rfl rfl)
theorem dX14_nextOfSequence_64 : decode cX14_nextOfSequence 64 = .ok (.invokevirtual 940, 3) := dk_182 3 172 (dk_at dksX14_nextOfSequence_2 17 rfl rfl)
theorem dX14_nextOfSequence_67 : decode cX14_nextOfSequence 67 = .ok (.ifCond .ne 16, 3) := dk_154 0 16 (dk_at dksX14_nextOfSequence_2 20 rfl rfl)
theorem dX14_nextOfSequence_70 : decode cX14_nextOfSequence 70 = .ok (.aload_n 0, 1) := dk_42 (dk_at dksX14_nextOfSequence_2 23 rfl rfl)
theorem dX14_nextOfSequence_71 : decode cX14_nextOfSequence 71 = .ok (.bipush 11, 2) := dk_16 11 (dk_at dksX14_nextOfSequence_3 0 rfl rfl)
theorem dX14_nextOfSequence_73 : decode cX14_nextOfSequence 73 = .ok (.aload_n 0, 1) := dk_42 (dk_at dksX14_nextOfSequence_3 2 rfl rfl)
theorem dX14_nextOfSequence_74 : decode cX14_nextOfSequence 74 = .ok (.getfield 272, 3) := dk_180 1 16 (dk_at dksX14_nextOfSequence_3 3 rfl rfl)
theorem dX14_nextOfSequence_77 : decode cX14_nextOfSequence 77 = .ok (.iload_n 3, 1) := dk_29 (dk_at dksX14_nextOfSequence_3 6 rfl rfl)
theorem dX14_nextOfSequence_78 : decode cX14_nextOfSequence 78 = .ok (.iaload, 1) := dk_46 (dk_at dksX14_nextOfSequence_3 7 rfl rfl)
theorem dX14_nextOfSequence_79 : decode cX14_nextOfSequence 79 = .ok (.invokevirtual 414, 3) := dk_182 1 158 (dk_at dksX14_nextOfSequence_3 8 rfl rfl)
theorem dX14_nextOfSequence_82 : decode cX14_nextOfSequence 82 = .ok (.return_, 1) := dk_177 (dk_at dksX14_nextOfSequence_3 11 rfl rfl)
theorem dX14_nextOfSequence_83 : decode cX14_nextOfSequence 83 = .ok (.aload_n 0, 1) := dk_42 (dk_at dksX14_nextOfSequence_3 12 rfl rfl)
theorem dX14_nextOfSequence_84 : decode cX14_nextOfSequence 84 = .ok (.getfield 332, 3) := dk_180 1 76 (dk_at dksX14_nextOfSequence_3 13 rfl rfl)
theorem dX14_nextOfSequence_87 : decode cX14_nextOfSequence 87 = .ok (.iload_n 1, 1) := dk_27 (dk_at dksX14_nextOfSequence_3 16 rfl rfl)
theorem dX14_nextOfSequence_88 : decode cX14_nextOfSequence 88 = .ok (.aload_n 0, 1) := dk_42 (dk_at dksX14_nextOfSequence_3 17 rfl rfl)
theorem dX14_nextOfSequence_89 : decode cX14_nextOfSequence 89 = .ok (.getfield 112, 3) := dk_180 0 112 (dk_at dksX14_nextOfSequence_3 18 rfl rfl)
theorem dX14_nextOfSequence_92 : decode cX14_nextOfSequence 92 = .ok (.iload 4, 2) := dk_21 4 (dk_at dksX14_nextOfSequence_3 21 rfl rfl)
theorem dX14_nextOfSequence_94 : decode cX14_nextOfSequence 94 = .ok (.iaload, 1) := dk_46 (dk_at dksX14_nextOfSequence_3 23 rfl rfl)
theorem dX14_nextOfSequence_95 : decode cX14_nextOfSequence 95 = .ok (.iastore, 1) := dk_79 (dk_at dksX14_nextOfSequence_4 0 rfl rfl)
theorem dX14_nextOfSequence_96 : decode cX14_nextOfSequence 96 = .ok (.aload_n 0, 1) := dk_42 (dk_at dksX14_nextOfSequence_4 1 rfl rfl)
theorem dX14_nextOfSequence_97 : decode cX14_nextOfSequence 97 = .ok (.getfield 329, 3) := dk_180 1 73 (dk_at dksX14_nextOfSequence_4 2 rfl rfl)
theorem dX14_nextOfSequence_100 : decode cX14_nextOfSequence 100 = .ok (.iload_n 1, 1) := dk_27 (dk_at dksX14_nextOfSequence_4 5 rfl rfl)
theorem dX14_nextOfSequence_101 : decode cX14_nextOfSequence 101 = .ok (.aload_n 0, 1) := dk_42 (dk_at dksX14_nextOfSequence_4 6 rfl rfl)
theorem dX14_nextOfSequence_102 : decode cX14_nextOfSequence 102 = .ok (.getfield 302, 3) := dk_180 1 46 (dk_at dksX14_nextOfSequence_4 7 rfl rfl)
theorem dX14_nextOfSequence_105 : decode cX14_nextOfSequence 105 = .ok (.iload_n 3, 1) := dk_29 (dk_at dksX14_nextOfSequence_4 10 rfl rfl)
theorem dX14_nextOfSequence_106 : decode cX14_nextOfSequence 106 = .ok (.iaload, 1) := dk_46 (dk_at dksX14_nextOfSequence_4 11 rfl rfl)
theorem dX14_nextOfSequence_107 : decode cX14_nextOfSequence 107 = .ok (.iastore, 1) := dk_79 (dk_at dksX14_nextOfSequence_4 12 rfl rfl)
theorem dX14_nextOfSequence_108 : decode cX14_nextOfSequence 108 = .ok (.aload_n 0, 1) := dk_42 (dk_at dksX14_nextOfSequence_4 13 rfl rfl)
theorem dX14_nextOfSequence_109 : decode cX14_nextOfSequence 109 = .ok (.aload_n 0, 1) := dk_42 (dk_at dksX14_nextOfSequence_4 14 rfl rfl)
theorem dX14_nextOfSequence_110 : decode cX14_nextOfSequence 110 = .ok (.getfield 103, 3) := dk_180 0 103 (dk_at dksX14_nextOfSequence_4 15 rfl rfl)
theorem dX14_nextOfSequence_113 : decode cX14_nextOfSequence 113 = .ok (.iload 4, 2) := dk_21 4 (dk_at dksX14_nextOfSequence_4 18 rfl rfl)
theorem dX14_nextOfSequence_115 : decode cX14_nextOfSequence 115 = .ok (.iaload, 1) := dk_46 (dk_at dksX14_nextOfSequence_4 20 rfl rfl)
theorem dX14_nextOfSequence_116 : decode cX14_nextOfSequence 116 = .ok (.iload_n 3, 1) := dk_29 (dk_at dksX14_nextOfSequence_4 21 rfl rfl)
theorem dX14_nextOfSequence_117 : decode cX14_nextOfSequence 117 = .ok (.iload 4, 2) := dk_21 4 (dk_at dksX14_nextOfSequence_4 22 rfl rfl)
theorem dX14_nextOfSequence_119 : decode cX14_nextOfSequence 119 = .ok (.invokevirtual 937, 3) := dk_182 3 169 (dk_at dksX14_nextOfSequence_5 0 rfl rfl)
theorem dX14_nextOfSequence_122 : decode cX14_nextOfSequence 122 = .ok (.return_, 1) := dk_177 (dk_at dksX14_nextOfSequence_5 3 rfl rfl)
abbrev cX14_nextOfSet : ByteArray := prog_15_method_149_code
def yX14_nextOfSet : MethodName := ⟨RX14, "nextOfSet", "(III)V"⟩
def dkwX14_nextOfSet_7 : List UInt8 := [180, 0, 103, 21, 4, 46, 29, 21, 4, 182, 3, 169, 177]
abbrev dktX14_nextOfSet_7 : List UInt8 := dkwX14_nextOfSet_7 ++ []
def dkwX14_nextOfSet_6 : List UInt8 := [42, 180, 1, 85, 42, 180, 3, 140, 21, 4, 79, 42, 89, 180, 3, 140, 4, 96, 181, 3, 140, 42, 42]
abbrev dktX14_nextOfSet_6 : List UInt8 := dkwX14_nextOfSet_6 ++ dktX14_nextOfSet_7
def dkwX14_nextOfSet_5 : List UInt8 := [180, 1, 73, 27, 42, 180, 1, 46, 29, 46, 79, 42, 180, 1, 82, 42, 180, 3, 140, 42, 180, 3, 120, 79]
abbrev dktX14_nextOfSet_5 : List UInt8 := dkwX14_nextOfSet_5 ++ dktX14_nextOfSet_6
def dkwX14_nextOfSet_4 : List UInt8 := [180, 1, 16, 29, 46, 182, 1, 158, 132, 5, 1, 167, 255, 220, 42, 180, 1, 97, 158, 0, 4, 177, 42]
abbrev dktX14_nextOfSet_4 : List UInt8 := dkwX14_nextOfSet_4 ++ dktX14_nextOfSet_5
def dkwX14_nextOfSet_3 : List UInt8 := [180, 3, 140, 162, 0, 33, 42, 180, 1, 85, 21, 5, 46, 21, 4, 160, 0, 15, 42, 16, 13, 42]
abbrev dktX14_nextOfSet_3 : List UInt8 := dkwX14_nextOfSet_3 ++ dktX14_nextOfSet_4
def dkwX14_nextOfSet_2 : List UInt8 := [16, 11, 42, 180, 1, 16, 29, 46, 182, 1, 158, 177, 42, 180, 1, 79, 27, 46, 54, 5, 21, 5, 42]
abbrev dktX14_nextOfSet_2 : List UInt8 := dkwX14_nextOfSet_2 ++ dktX14_nextOfSet_3
def dkwX14_nextOfSet_1 : List UInt8 := [182, 3, 172, 154, 0, 15, 42, 180, 0, 112, 21, 4, 46, 54, 4, 167, 255, 227, 21, 4, 156, 0, 16, 42]
abbrev dktX14_nextOfSet_1 : List UInt8 := dkwX14_nextOfSet_1 ++ dktX14_nextOfSet_2
def dkwX14_nextOfSet_0 : List UInt8 := [42, 180, 0, 63, 28, 46, 54, 4, 21, 4, 155, 0, 30, 42, 29, 42, 180, 0, 103, 21, 4, 46]
abbrev dktX14_nextOfSet_0 : List UInt8 := dkwX14_nextOfSet_0 ++ dktX14_nextOfSet_1
theorem dksX14_nextOfSet_0 : cX14_nextOfSet.data.toList.drop 0 = dktX14_nextOfSet_0 := by decide +kernel
theorem dksX14_nextOfSet_1 : cX14_nextOfSet.data.toList.drop 22 = dktX14_nextOfSet_1 := dk_seg dksX14_nextOfSet_0 22 rfl rfl
theorem dksX14_nextOfSet_2 : cX14_nextOfSet.data.toList.drop 46 = dktX14_nextOfSet_2 := dk_seg dksX14_nextOfSet_1 24 rfl rfl
theorem dksX14_nextOfSet_3 : cX14_nextOfSet.data.toList.drop 69 = dktX14_nextOfSet_3 := dk_seg dksX14_nextOfSet_2 23 rfl rfl
theorem dksX14_nextOfSet_4 : cX14_nextOfSet.data.toList.drop 91 = dktX14_nextOfSet_4 := dk_seg dksX14_nextOfSet_3 22 rfl rfl
theorem dksX14_nextOfSet_5 : cX14_nextOfSet.data.toList.drop 114 = dktX14_nextOfSet_5 := dk_seg dksX14_nextOfSet_4 23 rfl rfl
theorem dksX14_nextOfSet_6 : cX14_nextOfSet.data.toList.drop 138 = dktX14_nextOfSet_6 := dk_seg dksX14_nextOfSet_5 24 rfl rfl
theorem dksX14_nextOfSet_7 : cX14_nextOfSet.data.toList.drop 161 = dktX14_nextOfSet_7 := dk_seg dksX14_nextOfSet_6 23 rfl rfl
theorem dX14_nextOfSet_0 : decode cX14_nextOfSet 0 = .ok (.aload_n 0, 1) := dk_42 (dk_at dksX14_nextOfSet_0 0 rfl rfl)
theorem dX14_nextOfSet_1 : decode cX14_nextOfSet 1 = .ok (.getfield 63, 3) := dk_180 0 63 (dk_at dksX14_nextOfSet_0 1 rfl rfl)
theorem dX14_nextOfSet_4 : decode cX14_nextOfSet 4 = .ok (.iload_n 2, 1) := dk_28 (dk_at dksX14_nextOfSet_0 4 rfl rfl)
theorem dX14_nextOfSet_5 : decode cX14_nextOfSet 5 = .ok (.iaload, 1) := dk_46 (dk_at dksX14_nextOfSet_0 5 rfl rfl)
theorem dX14_nextOfSet_6 : decode cX14_nextOfSet 6 = .ok (.istore 4, 2) := dk_54 4 (dk_at dksX14_nextOfSet_0 6 rfl rfl)
theorem dX14_nextOfSet_8 : decode cX14_nextOfSet 8 = .ok (.iload 4, 2) := dk_21 4 (dk_at dksX14_nextOfSet_0 8 rfl rfl)
theorem dX14_nextOfSet_10 : decode cX14_nextOfSet 10 = .ok (.ifCond .lt 30, 3) := dk_155 0 30 (dk_at dksX14_nextOfSet_0 10 rfl rfl)
theorem dX14_nextOfSet_13 : decode cX14_nextOfSet 13 = .ok (.aload_n 0, 1) := dk_42 (dk_at dksX14_nextOfSet_0 13 rfl rfl)
theorem dX14_nextOfSet_14 : decode cX14_nextOfSet 14 = .ok (.iload_n 3, 1) := dk_29 (dk_at dksX14_nextOfSet_0 14 rfl rfl)
theorem dX14_nextOfSet_15 : decode cX14_nextOfSet 15 = .ok (.aload_n 0, 1) := dk_42 (dk_at dksX14_nextOfSet_0 15 rfl rfl)
theorem dX14_nextOfSet_16 : decode cX14_nextOfSet 16 = .ok (.getfield 103, 3) := dk_180 0 103 (dk_at dksX14_nextOfSet_0 16 rfl rfl)
theorem dX14_nextOfSet_19 : decode cX14_nextOfSet 19 = .ok (.iload 4, 2) := dk_21 4 (dk_at dksX14_nextOfSet_0 19 rfl rfl)
theorem dX14_nextOfSet_21 : decode cX14_nextOfSet 21 = .ok (.iaload, 1) := dk_46 (dk_at dksX14_nextOfSet_0 21 rfl rfl)
theorem dX14_nextOfSet_22 : decode cX14_nextOfSet 22 = .ok (.invokevirtual 940, 3) := dk_182 3 172 (dk_at dksX14_nextOfSet_1 0 rfl rfl)
theorem dX14_nextOfSet_25 : decode cX14_nextOfSet 25 = .ok (.ifCond .ne 15, 3) := dk_154 0 15 (dk_at dksX14_nextOfSet_1 3 rfl rfl)
theorem dX14_nextOfSet_28 : decode cX14_nextOfSet 28 = .ok (.aload_n 0, 1) := dk_42 (dk_at dksX14_nextOfSet_1 6 rfl rfl)
theorem dX14_nextOfSet_29 : decode cX14_nextOfSet 29 = .ok (.getfield 112, 3) := dk_180 0 112 (dk_at dksX14_nextOfSet_1 7 rfl rfl)
theorem dX14_nextOfSet_32 : decode cX14_nextOfSet 32 = .ok (.iload 4, 2) := dk_21 4 (dk_at dksX14_nextOfSet_1 10 rfl rfl)
theorem dX14_nextOfSet_34 : decode cX14_nextOfSet 34 = .ok (.iaload, 1) := dk_46 (dk_at dksX14_nextOfSet_1 12 rfl rfl)
theorem dX14_nextOfSet_35 : decode cX14_nextOfSet 35 = .ok (.istore 4, 2) := dk_54 4 (dk_at dksX14_nextOfSet_1 13 rfl rfl)
theorem dX14_nextOfSet_37 : decode cX14_nextOfSet 37 = .ok (.goto (-29), 3) := dk_167 255 227 (dk_at dksX14_nextOfSet_1 15 rfl rfl)
theorem dX14_nextOfSet_40 : decode cX14_nextOfSet 40 = .ok (.iload 4, 2) := dk_21 4 (dk_at dksX14_nextOfSet_1 18 rfl rfl)
theorem dX14_nextOfSet_42 : decode cX14_nextOfSet 42 = .ok (.ifCond .ge 16, 3) := dk_156 0 16 (dk_at dksX14_nextOfSet_1 20 rfl rfl)
theorem dX14_nextOfSet_45 : decode cX14_nextOfSet 45 = .ok (.aload_n 0, 1) := dk_42 (dk_at dksX14_nextOfSet_1 23 rfl rfl)
theorem dX14_nextOfSet_46 : decode cX14_nextOfSet 46 = .ok (.bipush 11, 2) := dk_16 11 (dk_at dksX14_nextOfSet_2 0 rfl rfl)
theorem dX14_nextOfSet_48 : decode cX14_nextOfSet 48 = .ok (.aload_n 0, 1) := dk_42 (dk_at dksX14_nextOfSet_2 2 rfl rfl)
theorem dX14_nextOfSet_49 : decode cX14_nextOfSet 49 = .ok (.getfield 272, 3) := dk_180 1 16 (dk_at dksX14_nextOfSet_2 3 rfl rfl)
theorem dX14_nextOfSet_52 : decode cX14_nextOfSet 52 = .ok (.iload_n 3, 1) := dk_29 (dk_at dksX14_nextOfSet_2 6 rfl rfl)
theorem dX14_nextOfSet_53 : decode cX14_nextOfSet 53 = .ok (.iaload, 1) := dk_46 (dk_at dksX14_nextOfSet_2 7 rfl rfl)
theorem dX14_nextOfSet_54 : decode cX14_nextOfSet 54 = .ok (.invokevirtual 414, 3) := dk_182 1 158 (dk_at dksX14_nextOfSet_2 8 rfl rfl)
theorem dX14_nextOfSet_57 : decode cX14_nextOfSet 57 = .ok (.return_, 1) := dk_177 (dk_at dksX14_nextOfSet_2 11 rfl rfl)
theorem dX14_nextOfSet_58 : decode cX14_nextOfSet 58 = .ok (.aload_n 0, 1) := dk_42 (dk_at dksX14_nextOfSet_2 12 rfl rfl)
theorem dX14_nextOfSet_59 : decode cX14_nextOfSet 59 = .ok (.getfield 335, 3) := dk_180 1 79 (dk_at dksX14_nextOfSet_2 13 rfl rfl)
theorem dX14_nextOfSet_62 : decode cX14_nextOfSet 62 = .ok (.iload_n 1, 1) := dk_27 (dk_at dksX14_nextOfSet_2 16 rfl rfl)
theorem dX14_nextOfSet_63 : decode cX14_nextOfSet 63 = .ok (.iaload, 1) := dk_46 (dk_at dksX14_nextOfSet_2 17 rfl rfl)
theorem dX14_nextOfSet_64 : decode cX14_nextOfSet 64 = .ok (.istore 5, 2) := dk_54 5 (dk_at dksX14_nextOfSet_2 18 rfl rfl)
theorem dX14_nextOfSet_66 : decode cX14_nextOfSet 66 = .ok (.iload 5, 2) := dk_21 5 (dk_at dksX14_nextOfSet_2 20 rfl rfl)
theorem dX14_nextOfSet_68 : decode cX14_nextOfSet 68 = .ok (.aload_n 0, 1) := dk_42 (dk_at dksX14_nextOfSet_2 22 rfl rfl)
theorem dX14_nextOfSet_69 : decode cX14_nextOfSet 69 = .ok (.getfield 908, 3) := dk_180 3 140 (dk_at dksX14_nextOfSet_3 0 rfl rfl)
theorem dX14_nextOfSet_72 : decode cX14_nextOfSet 72 = .ok (.if_icmp .ge 33, 3) := dk_162 0 33 (dk_at dksX14_nextOfSet_3 3 rfl rfl)
theorem dX14_nextOfSet_75 : decode cX14_nextOfSet 75 = .ok (.aload_n 0, 1) := dk_42 (dk_at dksX14_nextOfSet_3 6 rfl rfl)
theorem dX14_nextOfSet_76 : decode cX14_nextOfSet 76 = .ok (.getfield 341, 3) := dk_180 1 85 (dk_at dksX14_nextOfSet_3 7 rfl rfl)
theorem dX14_nextOfSet_79 : decode cX14_nextOfSet 79 = .ok (.iload 5, 2) := dk_21 5 (dk_at dksX14_nextOfSet_3 10 rfl rfl)
theorem dX14_nextOfSet_81 : decode cX14_nextOfSet 81 = .ok (.iaload, 1) := dk_46 (dk_at dksX14_nextOfSet_3 12 rfl rfl)
theorem dX14_nextOfSet_82 : decode cX14_nextOfSet 82 = .ok (.iload 4, 2) := dk_21 4 (dk_at dksX14_nextOfSet_3 13 rfl rfl)
theorem dX14_nextOfSet_84 : decode cX14_nextOfSet 84 = .ok (.if_icmp .ne 15, 3) := dk_160 0 15 (dk_at dksX14_nextOfSet_3 15 rfl rfl)
theorem dX14_nextOfSet_87 : decode cX14_nextOfSet 87 = .ok (.aload_n 0, 1) := dk_42 (dk_at dksX14_nextOfSet_3 18 rfl rfl)
theorem dX14_nextOfSet_88 : decode cX14_nextOfSet 88 = .ok (.bipush 13, 2) := dk_16 13 (dk_at dksX14_nextOfSet_3 19 rfl rfl)
theorem dX14_nextOfSet_90 : decode cX14_nextOfSet 90 = .ok (.aload_n 0, 1) := dk_42 (dk_at dksX14_nextOfSet_3 21 rfl rfl)
theorem dX14_nextOfSet_91 : decode cX14_nextOfSet 91 = .ok (.getfield 272, 3) := dk_180 1 16 (dk_at dksX14_nextOfSet_4 0 rfl rfl)
theorem dX14_nextOfSet_94 : decode cX14_nextOfSet 94 = .ok (.iload_n 3, 1) := dk_29 (dk_at dksX14_nextOfSet_4 3 rfl rfl)
theorem dX14_nextOfSet_95 : decode cX14_nextOfSet 95 = .ok (.iaload, 1) := dk_46 (dk_at dksX14_nextOfSet_4 4 rfl rfl)
theorem dX14_nextOfSet_96 : decode cX14_nextOfSet 96 = .ok (.invokevirtual 414, 3) := dk_182 1 158 (dk_at dksX14_nextOfSet_4 5 rfl rfl)
theorem dX14_nextOfSet_99 : decode cX14_nextOfSet 99 = .ok (.iinc 5 1, 3) := dk_132 5 1 (dk_at dksX14_nextOfSet_4 8 rfl rfl)
theorem dX14_nextOfSet_102 : decode cX14_nextOfSet 102 = .ok (.goto (-36), 3) := dk_167 255 220 (dk_at dksX14_nextOfSet_4 11 rfl rfl)
theorem dX14_nextOfSet_105 : decode cX14_nextOfSet 105 = .ok (.aload_n 0, 1) := dk_42 (dk_at dksX14_nextOfSet_4 14 rfl rfl)
theorem dX14_nextOfSet_106 : decode cX14_nextOfSet 106 = .ok (.getfield 353, 3) := dk_180 1 97 (dk_at dksX14_nextOfSet_4 15 rfl rfl)
theorem dX14_nextOfSet_109 : decode cX14_nextOfSet 109 = .ok (.ifCond .le 4, 3) := dk_158 0 4 (dk_at dksX14_nextOfSet_4 18 rfl rfl)
theorem dX14_nextOfSet_112 : decode cX14_nextOfSet 112 = .ok (.return_, 1) := dk_177 (dk_at dksX14_nextOfSet_4 21 rfl rfl)
theorem dX14_nextOfSet_113 : decode cX14_nextOfSet 113 = .ok (.aload_n 0, 1) := dk_42 (dk_at dksX14_nextOfSet_4 22 rfl rfl)
theorem dX14_nextOfSet_114 : decode cX14_nextOfSet 114 = .ok (.getfield 329, 3) := dk_180 1 73 (dk_at dksX14_nextOfSet_5 0 rfl rfl)
theorem dX14_nextOfSet_117 : decode cX14_nextOfSet 117 = .ok (.iload_n 1, 1) := dk_27 (dk_at dksX14_nextOfSet_5 3 rfl rfl)
theorem dX14_nextOfSet_118 : decode cX14_nextOfSet 118 = .ok (.aload_n 0, 1) := dk_42 (dk_at dksX14_nextOfSet_5 4 rfl rfl)
theorem dX14_nextOfSet_119 : decode cX14_nextOfSet 119 = .ok (.getfield 302, 3) := dk_180 1 46 (dk_at dksX14_nextOfSet_5 5 rfl rfl)
theorem dX14_nextOfSet_122 : decode cX14_nextOfSet 122 = .ok (.iload_n 3, 1) := dk_29 (dk_at dksX14_nextOfSet_5 8 rfl rfl)
theorem dX14_nextOfSet_123 : decode cX14_nextOfSet 123 = .ok (.iaload, 1) := dk_46 (dk_at dksX14_nextOfSet_5 9 rfl rfl)
theorem dX14_nextOfSet_124 : decode cX14_nextOfSet 124 = .ok (.iastore, 1) := dk_79 (dk_at dksX14_nextOfSet_5 10 rfl rfl)
theorem dX14_nextOfSet_125 : decode cX14_nextOfSet 125 = .ok (.aload_n 0, 1) := dk_42 (dk_at dksX14_nextOfSet_5 11 rfl rfl)
theorem dX14_nextOfSet_126 : decode cX14_nextOfSet 126 = .ok (.getfield 338, 3) := dk_180 1 82 (dk_at dksX14_nextOfSet_5 12 rfl rfl)
theorem dX14_nextOfSet_129 : decode cX14_nextOfSet 129 = .ok (.aload_n 0, 1) := dk_42 (dk_at dksX14_nextOfSet_5 15 rfl rfl)
theorem dX14_nextOfSet_130 : decode cX14_nextOfSet 130 = .ok (.getfield 908, 3) := dk_180 3 140 (dk_at dksX14_nextOfSet_5 16 rfl rfl)
theorem dX14_nextOfSet_133 : decode cX14_nextOfSet 133 = .ok (.aload_n 0, 1) := dk_42 (dk_at dksX14_nextOfSet_5 19 rfl rfl)
theorem dX14_nextOfSet_134 : decode cX14_nextOfSet 134 = .ok (.getfield 888, 3) := dk_180 3 120 (dk_at dksX14_nextOfSet_5 20 rfl rfl)
theorem dX14_nextOfSet_137 : decode cX14_nextOfSet 137 = .ok (.iastore, 1) := dk_79 (dk_at dksX14_nextOfSet_5 23 rfl rfl)
theorem dX14_nextOfSet_138 : decode cX14_nextOfSet 138 = .ok (.aload_n 0, 1) := dk_42 (dk_at dksX14_nextOfSet_6 0 rfl rfl)
theorem dX14_nextOfSet_139 : decode cX14_nextOfSet 139 = .ok (.getfield 341, 3) := dk_180 1 85 (dk_at dksX14_nextOfSet_6 1 rfl rfl)
theorem dX14_nextOfSet_142 : decode cX14_nextOfSet 142 = .ok (.aload_n 0, 1) := dk_42 (dk_at dksX14_nextOfSet_6 4 rfl rfl)
theorem dX14_nextOfSet_143 : decode cX14_nextOfSet 143 = .ok (.getfield 908, 3) := dk_180 3 140 (dk_at dksX14_nextOfSet_6 5 rfl rfl)
theorem dX14_nextOfSet_146 : decode cX14_nextOfSet 146 = .ok (.iload 4, 2) := dk_21 4 (dk_at dksX14_nextOfSet_6 8 rfl rfl)
theorem dX14_nextOfSet_148 : decode cX14_nextOfSet 148 = .ok (.iastore, 1) := dk_79 (dk_at dksX14_nextOfSet_6 10 rfl rfl)
theorem dX14_nextOfSet_149 : decode cX14_nextOfSet 149 = .ok (.aload_n 0, 1) := dk_42 (dk_at dksX14_nextOfSet_6 11 rfl rfl)
theorem dX14_nextOfSet_150 : decode cX14_nextOfSet 150 = .ok (.dup, 1) := dk_89 (dk_at dksX14_nextOfSet_6 12 rfl rfl)
theorem dX14_nextOfSet_151 : decode cX14_nextOfSet 151 = .ok (.getfield 908, 3) := dk_180 3 140 (dk_at dksX14_nextOfSet_6 13 rfl rfl)
theorem dX14_nextOfSet_154 : decode cX14_nextOfSet 154 = .ok (.iconst 1, 1) := dk_4 (dk_at dksX14_nextOfSet_6 16 rfl rfl)
theorem dX14_nextOfSet_155 : decode cX14_nextOfSet 155 = .ok (.iadd, 1) := dk_96 (dk_at dksX14_nextOfSet_6 17 rfl rfl)
theorem dX14_nextOfSet_156 : decode cX14_nextOfSet 156 = .ok (.putfield 908, 3) := dk_181 3 140 (dk_at dksX14_nextOfSet_6 18 rfl rfl)
theorem dX14_nextOfSet_159 : decode cX14_nextOfSet 159 = .ok (.aload_n 0, 1) := dk_42 (dk_at dksX14_nextOfSet_6 21 rfl rfl)
theorem dX14_nextOfSet_160 : decode cX14_nextOfSet 160 = .ok (.aload_n 0, 1) := dk_42 (dk_at dksX14_nextOfSet_6 22 rfl rfl)
theorem dX14_nextOfSet_161 : decode cX14_nextOfSet 161 = .ok (.getfield 103, 3) := dk_180 0 103 (dk_at dksX14_nextOfSet_7 0 rfl rfl)
theorem dX14_nextOfSet_164 : decode cX14_nextOfSet 164 = .ok (.iload 4, 2) := dk_21 4 (dk_at dksX14_nextOfSet_7 3 rfl rfl)
theorem dX14_nextOfSet_166 : decode cX14_nextOfSet 166 = .ok (.iaload, 1) := dk_46 (dk_at dksX14_nextOfSet_7 5 rfl rfl)
theorem dX14_nextOfSet_167 : decode cX14_nextOfSet 167 = .ok (.iload_n 3, 1) := dk_29 (dk_at dksX14_nextOfSet_7 6 rfl rfl)
theorem dX14_nextOfSet_168 : decode cX14_nextOfSet 168 = .ok (.iload 4, 2) := dk_21 4 (dk_at dksX14_nextOfSet_7 7 rfl rfl)
theorem dX14_nextOfSet_170 : decode cX14_nextOfSet 170 = .ok (.invokevirtual 937, 3) := dk_182 3 169 (dk_at dksX14_nextOfSet_7 9 rfl rfl)
theorem dX14_nextOfSet_173 : decode cX14_nextOfSet 173 = .ok (.return_, 1) := dk_177 (dk_at dksX14_nextOfSet_7 12 rfl rfl)
abbrev cX14_out : ByteArray := prog_15_method_165_code
def yX14_out : MethodName := ⟨RX14, "out", "(I)I"⟩
def dkwX14_out_1 : List UInt8 := [46, 167, 0, 8, 42, 4, 182, 1, 128, 172]
abbrev dktX14_out_1 : List UInt8 := dkwX14_out_1 ++ []
def dkwX14_out_0 : List UInt8 := [42, 3, 181, 1, 94, 27, 3, 42, 180, 3, 232, 4, 100, 184, 1, 132, 153, 0, 12, 42, 180, 0, 27, 27]
abbrev dktX14_out_0 : List UInt8 := dkwX14_out_0 ++ dktX14_out_1
theorem dksX14_out_0 : cX14_out.data.toList.drop 0 = dktX14_out_0 := by decide +kernel
theorem dksX14_out_1 : cX14_out.data.toList.drop 24 = dktX14_out_1 := dk_seg dksX14_out_0 24 rfl rfl
theorem dX14_out_0 : decode cX14_out 0 = .ok (.aload_n 0, 1) := dk_42 (dk_at dksX14_out_0 0 rfl rfl)
theorem dX14_out_1 : decode cX14_out 1 = .ok (.iconst 0, 1) := dk_3 (dk_at dksX14_out_0 1 rfl rfl)
theorem dX14_out_2 : decode cX14_out 2 = .ok (.putfield 350, 3) := dk_181 1 94 (dk_at dksX14_out_0 2 rfl rfl)
theorem dX14_out_5 : decode cX14_out 5 = .ok (.iload_n 1, 1) := dk_27 (dk_at dksX14_out_0 5 rfl rfl)
theorem dX14_out_6 : decode cX14_out 6 = .ok (.iconst 0, 1) := dk_3 (dk_at dksX14_out_0 6 rfl rfl)
theorem dX14_out_7 : decode cX14_out 7 = .ok (.aload_n 0, 1) := dk_42 (dk_at dksX14_out_0 7 rfl rfl)
theorem dX14_out_8 : decode cX14_out 8 = .ok (.getfield 1000, 3) := dk_180 3 232 (dk_at dksX14_out_0 8 rfl rfl)
theorem dX14_out_11 : decode cX14_out 11 = .ok (.iconst 1, 1) := dk_4 (dk_at dksX14_out_0 11 rfl rfl)
theorem dX14_out_12 : decode cX14_out 12 = .ok (.isub, 1) := dk_100 (dk_at dksX14_out_0 12 rfl rfl)
theorem dX14_out_13 : decode cX14_out 13 = .ok (.invokestatic 388, 3) := dk_184 1 132 (dk_at dksX14_out_0 13 rfl rfl)
theorem dX14_out_16 : decode cX14_out 16 = .ok (.ifCond .eq 12, 3) := dk_153 0 12 (dk_at dksX14_out_0 16 rfl rfl)
theorem dX14_out_19 : decode cX14_out 19 = .ok (.aload_n 0, 1) := dk_42 (dk_at dksX14_out_0 19 rfl rfl)
theorem dX14_out_20 : decode cX14_out 20 = .ok (.getfield 27, 3) := dk_180 0 27 (dk_at dksX14_out_0 20 rfl rfl)
theorem dX14_out_23 : decode cX14_out 23 = .ok (.iload_n 1, 1) := dk_27 (dk_at dksX14_out_0 23 rfl rfl)
theorem dX14_out_24 : decode cX14_out 24 = .ok (.iaload, 1) := dk_46 (dk_at dksX14_out_1 0 rfl rfl)
theorem dX14_out_25 : decode cX14_out 25 = .ok (.goto 8, 3) := dk_167 0 8 (dk_at dksX14_out_1 1 rfl rfl)
theorem dX14_out_28 : decode cX14_out 28 = .ok (.aload_n 0, 1) := dk_42 (dk_at dksX14_out_1 4 rfl rfl)
theorem dX14_out_29 : decode cX14_out 29 = .ok (.iconst 1, 1) := dk_4 (dk_at dksX14_out_1 5 rfl rfl)
theorem dX14_out_30 : decode cX14_out 30 = .ok (.invokevirtual 384, 3) := dk_182 1 128 (dk_at dksX14_out_1 6 rfl rfl)
theorem dX14_out_33 : decode cX14_out 33 = .ok (.ireturn, 1) := dk_172 (dk_at dksX14_out_1 9 rfl rfl)
abbrev cX14_again : ByteArray := prog_15_method_166_code
def yX14_again : MethodName := ⟨RX14, "again", "()I"⟩
def dkwX14_again_2 : List UInt8 := [167, 255, 233, 42, 42, 180, 3, 232, 181, 1, 124, 42, 180, 1, 124, 172]
abbrev dktX14_again_2 : List UInt8 := dkwX14_again_2 ++ []
def dkwX14_again_1 : List UInt8 := [42, 180, 3, 232, 162, 0, 21, 42, 180, 0, 20, 27, 42, 180, 0, 27, 27, 46, 79, 132, 1, 1]
abbrev dktX14_again_1 : List UInt8 := dkwX14_again_1 ++ dktX14_again_2
def dkwX14_again_0 : List UInt8 := [42, 3, 181, 1, 94, 42, 180, 3, 232, 19, 1, 127, 164, 0, 9, 42, 4, 182, 1, 128, 172, 3, 60, 27]
abbrev dktX14_again_0 : List UInt8 := dkwX14_again_0 ++ dktX14_again_1
theorem dksX14_again_0 : cX14_again.data.toList.drop 0 = dktX14_again_0 := by decide +kernel
theorem dksX14_again_1 : cX14_again.data.toList.drop 24 = dktX14_again_1 := dk_seg dksX14_again_0 24 rfl rfl
theorem dksX14_again_2 : cX14_again.data.toList.drop 46 = dktX14_again_2 := dk_seg dksX14_again_1 22 rfl rfl
theorem dX14_again_0 : decode cX14_again 0 = .ok (.aload_n 0, 1) := dk_42 (dk_at dksX14_again_0 0 rfl rfl)
theorem dX14_again_1 : decode cX14_again 1 = .ok (.iconst 0, 1) := dk_3 (dk_at dksX14_again_0 1 rfl rfl)
theorem dX14_again_2 : decode cX14_again 2 = .ok (.putfield 350, 3) := dk_181 1 94 (dk_at dksX14_again_0 2 rfl rfl)
theorem dX14_again_5 : decode cX14_again 5 = .ok (.aload_n 0, 1) := dk_42 (dk_at dksX14_again_0 5 rfl rfl)
theorem dX14_again_6 : decode cX14_again 6 = .ok (.getfield 1000, 3) := dk_180 3 232 (dk_at dksX14_again_0 6 rfl rfl)
theorem dX14_again_9 : decode cX14_again 9 = .ok (.ldc_w 383, 3) := dk_19 1 127 (dk_at dksX14_again_0 9 rfl rfl)
theorem dX14_again_12 : decode cX14_again 12 = .ok (.if_icmp .le 9, 3) := dk_164 0 9 (dk_at dksX14_again_0 12 rfl rfl)
theorem dX14_again_15 : decode cX14_again 15 = .ok (.aload_n 0, 1) := dk_42 (dk_at dksX14_again_0 15 rfl rfl)
theorem dX14_again_16 : decode cX14_again 16 = .ok (.iconst 1, 1) := dk_4 (dk_at dksX14_again_0 16 rfl rfl)
theorem dX14_again_17 : decode cX14_again 17 = .ok (.invokevirtual 384, 3) := dk_182 1 128 (dk_at dksX14_again_0 17 rfl rfl)
theorem dX14_again_20 : decode cX14_again 20 = .ok (.ireturn, 1) := dk_172 (dk_at dksX14_again_0 20 rfl rfl)
theorem dX14_again_21 : decode cX14_again 21 = .ok (.iconst 0, 1) := dk_3 (dk_at dksX14_again_0 21 rfl rfl)
theorem dX14_again_22 : decode cX14_again 22 = .ok (.istore_n 1, 1) := dk_60 (dk_at dksX14_again_0 22 rfl rfl)
theorem dX14_again_23 : decode cX14_again 23 = .ok (.iload_n 1, 1) := dk_27 (dk_at dksX14_again_0 23 rfl rfl)
theorem dX14_again_24 : decode cX14_again 24 = .ok (.aload_n 0, 1) := dk_42 (dk_at dksX14_again_1 0 rfl rfl)
theorem dX14_again_25 : decode cX14_again 25 = .ok (.getfield 1000, 3) := dk_180 3 232 (dk_at dksX14_again_1 1 rfl rfl)
theorem dX14_again_28 : decode cX14_again 28 = .ok (.if_icmp .ge 21, 3) := dk_162 0 21 (dk_at dksX14_again_1 4 rfl rfl)
theorem dX14_again_31 : decode cX14_again 31 = .ok (.aload_n 0, 1) := dk_42 (dk_at dksX14_again_1 7 rfl rfl)
theorem dX14_again_32 : decode cX14_again 32 = .ok (.getfield 20, 3) := dk_180 0 20 (dk_at dksX14_again_1 8 rfl rfl)
theorem dX14_again_35 : decode cX14_again 35 = .ok (.iload_n 1, 1) := dk_27 (dk_at dksX14_again_1 11 rfl rfl)
theorem dX14_again_36 : decode cX14_again 36 = .ok (.aload_n 0, 1) := dk_42 (dk_at dksX14_again_1 12 rfl rfl)
theorem dX14_again_37 : decode cX14_again 37 = .ok (.getfield 27, 3) := dk_180 0 27 (dk_at dksX14_again_1 13 rfl rfl)
theorem dX14_again_40 : decode cX14_again 40 = .ok (.iload_n 1, 1) := dk_27 (dk_at dksX14_again_1 16 rfl rfl)
theorem dX14_again_41 : decode cX14_again 41 = .ok (.iaload, 1) := dk_46 (dk_at dksX14_again_1 17 rfl rfl)
theorem dX14_again_42 : decode cX14_again 42 = .ok (.iastore, 1) := dk_79 (dk_at dksX14_again_1 18 rfl rfl)
theorem dX14_again_43 : decode cX14_again 43 = .ok (.iinc 1 1, 3) := dk_132 1 1 (dk_at dksX14_again_1 19 rfl rfl)
theorem dX14_again_46 : decode cX14_again 46 = .ok (.goto (-23), 3) := dk_167 255 233 (dk_at dksX14_again_2 0 rfl rfl)
theorem dX14_again_49 : decode cX14_again 49 = .ok (.aload_n 0, 1) := dk_42 (dk_at dksX14_again_2 3 rfl rfl)
theorem dX14_again_50 : decode cX14_again 50 = .ok (.aload_n 0, 1) := dk_42 (dk_at dksX14_again_2 4 rfl rfl)
theorem dX14_again_51 : decode cX14_again 51 = .ok (.getfield 1000, 3) := dk_180 3 232 (dk_at dksX14_again_2 5 rfl rfl)
theorem dX14_again_54 : decode cX14_again 54 = .ok (.putfield 380, 3) := dk_181 1 124 (dk_at dksX14_again_2 8 rfl rfl)
theorem dX14_again_57 : decode cX14_again 57 = .ok (.aload_n 0, 1) := dk_42 (dk_at dksX14_again_2 11 rfl rfl)
theorem dX14_again_58 : decode cX14_again 58 = .ok (.getfield 380, 3) := dk_180 1 124 (dk_at dksX14_again_2 12 rfl rfl)
theorem dX14_again_61 : decode cX14_again 61 = .ok (.ireturn, 1) := dk_172 (dk_at dksX14_again_2 15 rfl rfl)
abbrev cX14_count : ByteArray := prog_15_method_167_code
def yX14_count : MethodName := ⟨RX14, "count", "(I)I"⟩
def dkwX14_count_4 : List UInt8 := [160, 0, 10, 42, 180, 3, 232, 167, 0, 7, 42, 180, 3, 229, 172]
abbrev dktX14_count_4 : List UInt8 := dkwX14_count_4 ++ []
def dkwX14_count_3 : List UInt8 := [42, 180, 3, 49, 153, 0, 15, 42, 180, 1, 230, 42, 180, 1, 237, 100, 167, 0, 4, 3, 172, 27, 7]
abbrev dktX14_count_3 : List UInt8 := dkwX14_count_3 ++ dktX14_count_4
def dkwX14_count_2 : List UInt8 := [160, 0, 19, 42, 180, 3, 49, 153, 0, 10, 42, 180, 1, 237, 167, 0, 4, 3, 172, 27, 6, 160, 0, 24]
abbrev dktX14_count_2 : List UInt8 := dkwX14_count_2 ++ dktX14_count_3
def dkwX14_count_1 : List UInt8 := [172, 27, 4, 160, 0, 19, 42, 180, 3, 49, 153, 0, 10, 42, 180, 1, 111, 167, 0, 4, 3, 172, 27, 5]
abbrev dktX14_count_1 : List UInt8 := dkwX14_count_1 ++ dktX14_count_2
def dkwX14_count_0 : List UInt8 := [42, 3, 181, 1, 94, 27, 3, 8, 184, 1, 132, 154, 0, 5, 2, 172, 27, 154, 0, 8, 42, 180, 1, 124]
abbrev dktX14_count_0 : List UInt8 := dkwX14_count_0 ++ dktX14_count_1
theorem dksX14_count_0 : cX14_count.data.toList.drop 0 = dktX14_count_0 := by decide +kernel
theorem dksX14_count_1 : cX14_count.data.toList.drop 24 = dktX14_count_1 := dk_seg dksX14_count_0 24 rfl rfl
theorem dksX14_count_2 : cX14_count.data.toList.drop 48 = dktX14_count_2 := dk_seg dksX14_count_1 24 rfl rfl
theorem dksX14_count_3 : cX14_count.data.toList.drop 72 = dktX14_count_3 := dk_seg dksX14_count_2 24 rfl rfl
theorem dksX14_count_4 : cX14_count.data.toList.drop 95 = dktX14_count_4 := dk_seg dksX14_count_3 23 rfl rfl
theorem dX14_count_0 : decode cX14_count 0 = .ok (.aload_n 0, 1) := dk_42 (dk_at dksX14_count_0 0 rfl rfl)
theorem dX14_count_1 : decode cX14_count 1 = .ok (.iconst 0, 1) := dk_3 (dk_at dksX14_count_0 1 rfl rfl)
theorem dX14_count_2 : decode cX14_count 2 = .ok (.putfield 350, 3) := dk_181 1 94 (dk_at dksX14_count_0 2 rfl rfl)
theorem dX14_count_5 : decode cX14_count 5 = .ok (.iload_n 1, 1) := dk_27 (dk_at dksX14_count_0 5 rfl rfl)
theorem dX14_count_6 : decode cX14_count 6 = .ok (.iconst 0, 1) := dk_3 (dk_at dksX14_count_0 6 rfl rfl)
theorem dX14_count_7 : decode cX14_count 7 = .ok (.iconst 5, 1) := dk_8 (dk_at dksX14_count_0 7 rfl rfl)
theorem dX14_count_8 : decode cX14_count 8 = .ok (.invokestatic 388, 3) := dk_184 1 132 (dk_at dksX14_count_0 8 rfl rfl)
theorem dX14_count_11 : decode cX14_count 11 = .ok (.ifCond .ne 5, 3) := dk_154 0 5 (dk_at dksX14_count_0 11 rfl rfl)
theorem dX14_count_14 : decode cX14_count 14 = .ok (.iconst (-1), 1) := dk_2 (dk_at dksX14_count_0 14 rfl rfl)
theorem dX14_count_15 : decode cX14_count 15 = .ok (.ireturn, 1) := dk_172 (dk_at dksX14_count_0 15 rfl rfl)
theorem dX14_count_16 : decode cX14_count 16 = .ok (.iload_n 1, 1) := dk_27 (dk_at dksX14_count_0 16 rfl rfl)
theorem dX14_count_17 : decode cX14_count 17 = .ok (.ifCond .ne 8, 3) := dk_154 0 8 (dk_at dksX14_count_0 17 rfl rfl)
theorem dX14_count_20 : decode cX14_count 20 = .ok (.aload_n 0, 1) := dk_42 (dk_at dksX14_count_0 20 rfl rfl)
theorem dX14_count_21 : decode cX14_count 21 = .ok (.getfield 380, 3) := dk_180 1 124 (dk_at dksX14_count_0 21 rfl rfl)
theorem dX14_count_24 : decode cX14_count 24 = .ok (.ireturn, 1) := dk_172 (dk_at dksX14_count_1 0 rfl rfl)
theorem dX14_count_25 : decode cX14_count 25 = .ok (.iload_n 1, 1) := dk_27 (dk_at dksX14_count_1 1 rfl rfl)
theorem dX14_count_26 : decode cX14_count 26 = .ok (.iconst 1, 1) := dk_4 (dk_at dksX14_count_1 2 rfl rfl)
theorem dX14_count_27 : decode cX14_count 27 = .ok (.if_icmp .ne 19, 3) := dk_160 0 19 (dk_at dksX14_count_1 3 rfl rfl)
theorem dX14_count_30 : decode cX14_count 30 = .ok (.aload_n 0, 1) := dk_42 (dk_at dksX14_count_1 6 rfl rfl)
theorem dX14_count_31 : decode cX14_count 31 = .ok (.getfield 817, 3) := dk_180 3 49 (dk_at dksX14_count_1 7 rfl rfl)
theorem dX14_count_34 : decode cX14_count 34 = .ok (.ifCond .eq 10, 3) := dk_153 0 10 (dk_at dksX14_count_1 10 rfl rfl)
theorem dX14_count_37 : decode cX14_count 37 = .ok (.aload_n 0, 1) := dk_42 (dk_at dksX14_count_1 13 rfl rfl)
theorem dX14_count_38 : decode cX14_count 38 = .ok (.getfield 367, 3) := dk_180 1 111 (dk_at dksX14_count_1 14 rfl rfl)
theorem dX14_count_41 : decode cX14_count 41 = .ok (.goto 4, 3) := dk_167 0 4 (dk_at dksX14_count_1 17 rfl rfl)
theorem dX14_count_44 : decode cX14_count 44 = .ok (.iconst 0, 1) := dk_3 (dk_at dksX14_count_1 20 rfl rfl)
theorem dX14_count_45 : decode cX14_count 45 = .ok (.ireturn, 1) := dk_172 (dk_at dksX14_count_1 21 rfl rfl)
theorem dX14_count_46 : decode cX14_count 46 = .ok (.iload_n 1, 1) := dk_27 (dk_at dksX14_count_1 22 rfl rfl)
theorem dX14_count_47 : decode cX14_count 47 = .ok (.iconst 2, 1) := dk_5 (dk_at dksX14_count_1 23 rfl rfl)
theorem dX14_count_48 : decode cX14_count 48 = .ok (.if_icmp .ne 19, 3) := dk_160 0 19 (dk_at dksX14_count_2 0 rfl rfl)
theorem dX14_count_51 : decode cX14_count 51 = .ok (.aload_n 0, 1) := dk_42 (dk_at dksX14_count_2 3 rfl rfl)
theorem dX14_count_52 : decode cX14_count 52 = .ok (.getfield 817, 3) := dk_180 3 49 (dk_at dksX14_count_2 4 rfl rfl)
theorem dX14_count_55 : decode cX14_count 55 = .ok (.ifCond .eq 10, 3) := dk_153 0 10 (dk_at dksX14_count_2 7 rfl rfl)
theorem dX14_count_58 : decode cX14_count 58 = .ok (.aload_n 0, 1) := dk_42 (dk_at dksX14_count_2 10 rfl rfl)
theorem dX14_count_59 : decode cX14_count 59 = .ok (.getfield 493, 3) := dk_180 1 237 (dk_at dksX14_count_2 11 rfl rfl)
theorem dX14_count_62 : decode cX14_count 62 = .ok (.goto 4, 3) := dk_167 0 4 (dk_at dksX14_count_2 14 rfl rfl)
theorem dX14_count_65 : decode cX14_count 65 = .ok (.iconst 0, 1) := dk_3 (dk_at dksX14_count_2 17 rfl rfl)
theorem dX14_count_66 : decode cX14_count 66 = .ok (.ireturn, 1) := dk_172 (dk_at dksX14_count_2 18 rfl rfl)
theorem dX14_count_67 : decode cX14_count 67 = .ok (.iload_n 1, 1) := dk_27 (dk_at dksX14_count_2 19 rfl rfl)
theorem dX14_count_68 : decode cX14_count 68 = .ok (.iconst 3, 1) := dk_6 (dk_at dksX14_count_2 20 rfl rfl)
theorem dX14_count_69 : decode cX14_count 69 = .ok (.if_icmp .ne 24, 3) := dk_160 0 24 (dk_at dksX14_count_2 21 rfl rfl)
theorem dX14_count_72 : decode cX14_count 72 = .ok (.aload_n 0, 1) := dk_42 (dk_at dksX14_count_3 0 rfl rfl)
theorem dX14_count_73 : decode cX14_count 73 = .ok (.getfield 817, 3) := dk_180 3 49 (dk_at dksX14_count_3 1 rfl rfl)
theorem dX14_count_76 : decode cX14_count 76 = .ok (.ifCond .eq 15, 3) := dk_153 0 15 (dk_at dksX14_count_3 4 rfl rfl)
theorem dX14_count_79 : decode cX14_count 79 = .ok (.aload_n 0, 1) := dk_42 (dk_at dksX14_count_3 7 rfl rfl)
theorem dX14_count_80 : decode cX14_count 80 = .ok (.getfield 486, 3) := dk_180 1 230 (dk_at dksX14_count_3 8 rfl rfl)
theorem dX14_count_83 : decode cX14_count 83 = .ok (.aload_n 0, 1) := dk_42 (dk_at dksX14_count_3 11 rfl rfl)
theorem dX14_count_84 : decode cX14_count 84 = .ok (.getfield 493, 3) := dk_180 1 237 (dk_at dksX14_count_3 12 rfl rfl)
theorem dX14_count_87 : decode cX14_count 87 = .ok (.isub, 1) := dk_100 (dk_at dksX14_count_3 15 rfl rfl)
theorem dX14_count_88 : decode cX14_count 88 = .ok (.goto 4, 3) := dk_167 0 4 (dk_at dksX14_count_3 16 rfl rfl)
theorem dX14_count_91 : decode cX14_count 91 = .ok (.iconst 0, 1) := dk_3 (dk_at dksX14_count_3 19 rfl rfl)
theorem dX14_count_92 : decode cX14_count 92 = .ok (.ireturn, 1) := dk_172 (dk_at dksX14_count_3 20 rfl rfl)
theorem dX14_count_93 : decode cX14_count 93 = .ok (.iload_n 1, 1) := dk_27 (dk_at dksX14_count_3 21 rfl rfl)
theorem dX14_count_94 : decode cX14_count 94 = .ok (.iconst 4, 1) := dk_7 (dk_at dksX14_count_3 22 rfl rfl)
theorem dX14_count_95 : decode cX14_count 95 = .ok (.if_icmp .ne 10, 3) := dk_160 0 10 (dk_at dksX14_count_4 0 rfl rfl)
theorem dX14_count_98 : decode cX14_count 98 = .ok (.aload_n 0, 1) := dk_42 (dk_at dksX14_count_4 3 rfl rfl)
theorem dX14_count_99 : decode cX14_count 99 = .ok (.getfield 1000, 3) := dk_180 3 232 (dk_at dksX14_count_4 4 rfl rfl)
theorem dX14_count_102 : decode cX14_count 102 = .ok (.goto 7, 3) := dk_167 0 7 (dk_at dksX14_count_4 7 rfl rfl)
theorem dX14_count_105 : decode cX14_count 105 = .ok (.aload_n 0, 1) := dk_42 (dk_at dksX14_count_4 10 rfl rfl)
theorem dX14_count_106 : decode cX14_count 106 = .ok (.getfield 997, 3) := dk_180 3 229 (dk_at dksX14_count_4 11 rfl rfl)
theorem dX14_count_109 : decode cX14_count 109 = .ok (.ireturn, 1) := dk_172 (dk_at dksX14_count_4 14 rfl rfl)
