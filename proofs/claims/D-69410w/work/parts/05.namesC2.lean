/-! SchemaWorkshop$Grammar -/
set_option maxRecDepth 100000
def RX5 : String := "SchemaWorkshop$Grammar"
def TX5 : u_T := fun k => match k with
  | 0 => ("SchemaWorkshop$Grammar", "row", "LSchemaWorkshop$Lexemes;", false)
  | 1 => ("SchemaWorkshop$Grammar", "tree", "LSchemaWorkshop$Tree;", true)
  | 2 => ("SchemaWorkshop$Grammar", "at", "I", false)
  | 3 => ("SchemaWorkshop$Grammar", "fault", "I", false)
  | _ => ("SchemaWorkshop$Grammar", "place", "I", false)
def tyX5 : Nat → FieldType := fun k => match k with
  | 0 => .object "SchemaWorkshop$Lexemes"
  | 1 => .object "SchemaWorkshop$Tree"
  | 2 => .int
  | 3 => .int
  | _ => .int
abbrev wsX50 : List Cond := u_ws RX5 TX5 5
theorem nmX5 : ∀ a, a < 5 → ∀ b, b < 5 → a ≠ b → (TX5 a).2.1 ≠ (TX5 b).2.1 := by decide +kernel
theorem tyX5_ok : ∀ k, k < 5 → parseFieldDescriptor (TX5 k).2.2.1 = some (tyX5 k) := by decide +kernel
abbrev cX5_init : ByteArray := prog_5_method_1_code
def yX5_init : MethodName := ⟨RX5, "<init>", "(LSchemaWorkshop$Tree;)V"⟩
def dkwX5_init_0 : List UInt8 := [42, 183, 0, 3, 42, 43, 181, 0, 9, 177]
abbrev dktX5_init_0 : List UInt8 := dkwX5_init_0 ++ []
theorem dksX5_init_0 : cX5_init.data.toList.drop 0 = dktX5_init_0 := by decide +kernel
theorem dX5_init_0 : decode cX5_init 0 = .ok (.aload_n 0, 1) := dk_42 (dk_at dksX5_init_0 0 rfl rfl)
theorem dX5_init_1 : decode cX5_init 1 = .ok (.invokespecial 3, 3) := dk_183 0 3 (dk_at dksX5_init_0 1 rfl rfl)
theorem dX5_init_4 : decode cX5_init 4 = .ok (.aload_n 0, 1) := dk_42 (dk_at dksX5_init_0 4 rfl rfl)
theorem dX5_init_5 : decode cX5_init 5 = .ok (.aload_n 1, 1) := dk_43 (dk_at dksX5_init_0 5 rfl rfl)
theorem dX5_init_6 : decode cX5_init 6 = .ok (.putfield 9, 3) := dk_181 0 9 (dk_at dksX5_init_0 6 rfl rfl)
theorem dX5_init_9 : decode cX5_init 9 = .ok (.return_, 1) := dk_177 (dk_at dksX5_init_0 9 rfl rfl)
abbrev cX5_read : ByteArray := prog_5_method_11_code
def yX5_read : MethodName := ⟨RX5, "read", "(LSchemaWorkshop$Lexemes;)Z"⟩
def dkwX5_read_3 : List UInt8 := [4, 167, 0, 4, 3, 172]
abbrev dktX5_read_3 : List UInt8 := dkwX5_read_3 ++ []
def dkwX5_read_2 : List UInt8 := [153, 0, 28, 42, 180, 0, 26, 42, 180, 0, 22, 182, 0, 70, 159, 0, 10, 42, 182, 0, 52, 153, 0, 7]
abbrev dktX5_read_2 : List UInt8 := dkwX5_read_2 ++ dktX5_read_3
def dkwX5_read_1 : List UInt8 := [181, 0, 19, 42, 182, 0, 61, 153, 0, 44, 42, 182, 0, 64, 153, 0, 37, 42, 16, 120, 182, 0, 67]
abbrev dktX5_read_1 : List UInt8 := dkwX5_read_1 ++ dktX5_read_2
def dkwX5_read_0 : List UInt8 := [42, 43, 181, 0, 22, 42, 180, 0, 9, 182, 0, 56, 42, 3, 181, 0, 26, 42, 3, 181, 0, 15, 42, 3]
abbrev dktX5_read_0 : List UInt8 := dkwX5_read_0 ++ dktX5_read_1
theorem dksX5_read_0 : cX5_read.data.toList.drop 0 = dktX5_read_0 := by decide +kernel
theorem dksX5_read_1 : cX5_read.data.toList.drop 24 = dktX5_read_1 := dk_seg dksX5_read_0 24 rfl rfl
theorem dksX5_read_2 : cX5_read.data.toList.drop 47 = dktX5_read_2 := dk_seg dksX5_read_1 23 rfl rfl
theorem dksX5_read_3 : cX5_read.data.toList.drop 71 = dktX5_read_3 := dk_seg dksX5_read_2 24 rfl rfl
theorem dX5_read_0 : decode cX5_read 0 = .ok (.aload_n 0, 1) := dk_42 (dk_at dksX5_read_0 0 rfl rfl)
theorem dX5_read_1 : decode cX5_read 1 = .ok (.aload_n 1, 1) := dk_43 (dk_at dksX5_read_0 1 rfl rfl)
theorem dX5_read_2 : decode cX5_read 2 = .ok (.putfield 22, 3) := dk_181 0 22 (dk_at dksX5_read_0 2 rfl rfl)
theorem dX5_read_5 : decode cX5_read 5 = .ok (.aload_n 0, 1) := dk_42 (dk_at dksX5_read_0 5 rfl rfl)
theorem dX5_read_6 : decode cX5_read 6 = .ok (.getfield 9, 3) := dk_180 0 9 (dk_at dksX5_read_0 6 rfl rfl)
theorem dX5_read_9 : decode cX5_read 9 = .ok (.invokevirtual 56, 3) := dk_182 0 56 (dk_at dksX5_read_0 9 rfl rfl)
theorem dX5_read_12 : decode cX5_read 12 = .ok (.aload_n 0, 1) := dk_42 (dk_at dksX5_read_0 12 rfl rfl)
theorem dX5_read_13 : decode cX5_read 13 = .ok (.iconst 0, 1) := dk_3 (dk_at dksX5_read_0 13 rfl rfl)
theorem dX5_read_14 : decode cX5_read 14 = .ok (.putfield 26, 3) := dk_181 0 26 (dk_at dksX5_read_0 14 rfl rfl)
theorem dX5_read_17 : decode cX5_read 17 = .ok (.aload_n 0, 1) := dk_42 (dk_at dksX5_read_0 17 rfl rfl)
theorem dX5_read_18 : decode cX5_read 18 = .ok (.iconst 0, 1) := dk_3 (dk_at dksX5_read_0 18 rfl rfl)
theorem dX5_read_19 : decode cX5_read 19 = .ok (.putfield 15, 3) := dk_181 0 15 (dk_at dksX5_read_0 19 rfl rfl)
theorem dX5_read_22 : decode cX5_read 22 = .ok (.aload_n 0, 1) := dk_42 (dk_at dksX5_read_0 22 rfl rfl)
theorem dX5_read_23 : decode cX5_read 23 = .ok (.iconst 0, 1) := dk_3 (dk_at dksX5_read_0 23 rfl rfl)
theorem dX5_read_24 : decode cX5_read 24 = .ok (.putfield 19, 3) := dk_181 0 19 (dk_at dksX5_read_1 0 rfl rfl)
theorem dX5_read_27 : decode cX5_read 27 = .ok (.aload_n 0, 1) := dk_42 (dk_at dksX5_read_1 3 rfl rfl)
theorem dX5_read_28 : decode cX5_read 28 = .ok (.invokevirtual 61, 3) := dk_182 0 61 (dk_at dksX5_read_1 4 rfl rfl)
theorem dX5_read_31 : decode cX5_read 31 = .ok (.ifCond .eq 44, 3) := dk_153 0 44 (dk_at dksX5_read_1 7 rfl rfl)
theorem dX5_read_34 : decode cX5_read 34 = .ok (.aload_n 0, 1) := dk_42 (dk_at dksX5_read_1 10 rfl rfl)
theorem dX5_read_35 : decode cX5_read 35 = .ok (.invokevirtual 64, 3) := dk_182 0 64 (dk_at dksX5_read_1 11 rfl rfl)
theorem dX5_read_38 : decode cX5_read 38 = .ok (.ifCond .eq 37, 3) := dk_153 0 37 (dk_at dksX5_read_1 14 rfl rfl)
theorem dX5_read_41 : decode cX5_read 41 = .ok (.aload_n 0, 1) := dk_42 (dk_at dksX5_read_1 17 rfl rfl)
theorem dX5_read_42 : decode cX5_read 42 = .ok (.bipush 120, 2) := dk_16 120 (dk_at dksX5_read_1 18 rfl rfl)
theorem dX5_read_44 : decode cX5_read 44 = .ok (.invokevirtual 67, 3) := dk_182 0 67 (dk_at dksX5_read_1 20 rfl rfl)
theorem dX5_read_47 : decode cX5_read 47 = .ok (.ifCond .eq 28, 3) := dk_153 0 28 (dk_at dksX5_read_2 0 rfl rfl)
theorem dX5_read_50 : decode cX5_read 50 = .ok (.aload_n 0, 1) := dk_42 (dk_at dksX5_read_2 3 rfl rfl)
theorem dX5_read_51 : decode cX5_read 51 = .ok (.getfield 26, 3) := dk_180 0 26 (dk_at dksX5_read_2 4 rfl rfl)
theorem dX5_read_54 : decode cX5_read 54 = .ok (.aload_n 0, 1) := dk_42 (dk_at dksX5_read_2 7 rfl rfl)
theorem dX5_read_55 : decode cX5_read 55 = .ok (.getfield 22, 3) := dk_180 0 22 (dk_at dksX5_read_2 8 rfl rfl)
theorem dX5_read_58 : decode cX5_read 58 = .ok (.invokevirtual 70, 3) := dk_182 0 70 (dk_at dksX5_read_2 11 rfl rfl)
theorem dX5_read_61 : decode cX5_read 61 = .ok (.if_icmp .eq 10, 3) := dk_159 0 10 (dk_at dksX5_read_2 14 rfl rfl)
theorem dX5_read_64 : decode cX5_read 64 = .ok (.aload_n 0, 1) := dk_42 (dk_at dksX5_read_2 17 rfl rfl)
theorem dX5_read_65 : decode cX5_read 65 = .ok (.invokevirtual 52, 3) := dk_182 0 52 (dk_at dksX5_read_2 18 rfl rfl)
theorem dX5_read_68 : decode cX5_read 68 = .ok (.ifCond .eq 7, 3) := dk_153 0 7 (dk_at dksX5_read_2 21 rfl rfl)
theorem dX5_read_71 : decode cX5_read 71 = .ok (.iconst 1, 1) := dk_4 (dk_at dksX5_read_3 0 rfl rfl)
theorem dX5_read_72 : decode cX5_read 72 = .ok (.goto 4, 3) := dk_167 0 4 (dk_at dksX5_read_3 1 rfl rfl)
theorem dX5_read_75 : decode cX5_read 75 = .ok (.iconst 0, 1) := dk_3 (dk_at dksX5_read_3 4 rfl rfl)
theorem dX5_read_76 : decode cX5_read 76 = .ok (.ireturn, 1) := dk_172 (dk_at dksX5_read_3 5 rfl rfl)
abbrev cX5_heading : ByteArray := prog_5_method_12_code
def yX5_heading : MethodName := ⟨RX5, "heading", "()Z"⟩
def dkwX5_heading_6 : List UInt8 := [182, 0, 67, 153, 0, 16, 42, 16, 105, 182, 0, 67, 153, 0, 7, 4, 167, 0, 4, 3, 172]
abbrev dktX5_heading_6 : List UInt8 := dkwX5_heading_6 ++ []
def dkwX5_heading_5 : List UInt8 := [180, 0, 26, 4, 96, 181, 0, 26, 42, 17, 0, 165, 182, 0, 67, 154, 0, 5, 3, 172, 42, 16, 10]
abbrev dktX5_heading_5 : List UInt8 := dkwX5_heading_5 ++ dktX5_heading_6
def dkwX5_heading_4 : List UInt8 := [182, 0, 49, 153, 0, 39, 42, 180, 0, 9, 42, 17, 0, 134, 182, 0, 49, 181, 0, 76, 42, 89]
abbrev dktX5_heading_4 : List UInt8 := dkwX5_heading_4 ++ dktX5_heading_5
def dkwX5_heading_3 : List UInt8 := [16, 118, 182, 0, 67, 154, 0, 5, 3, 172, 42, 16, 123, 182, 0, 49, 154, 0, 13, 42, 17, 0, 134]
abbrev dktX5_heading_3 : List UInt8 := dkwX5_heading_3 ++ dktX5_heading_4
def dkwX5_heading_2 : List UInt8 := [180, 0, 26, 4, 96, 181, 0, 26, 167, 255, 220, 42, 16, 16, 182, 0, 67, 154, 0, 5, 3, 172, 42]
abbrev dktX5_heading_2 : List UInt8 := dkwX5_heading_2 ++ dktX5_heading_3
def dkwX5_heading_1 : List UInt8 := [159, 0, 34, 42, 16, 15, 182, 0, 49, 154, 0, 25, 42, 16, 16, 182, 0, 49, 154, 0, 16, 42, 89]
abbrev dktX5_heading_1 : List UInt8 := dkwX5_heading_1 ++ dktX5_heading_2
def dkwX5_heading_0 : List UInt8 := [42, 4, 182, 0, 67, 154, 0, 5, 3, 172, 42, 16, 15, 182, 0, 73, 153, 0, 53, 42, 182, 0, 38, 2]
abbrev dktX5_heading_0 : List UInt8 := dkwX5_heading_0 ++ dktX5_heading_1
theorem dksX5_heading_0 : cX5_heading.data.toList.drop 0 = dktX5_heading_0 := by decide +kernel
theorem dksX5_heading_1 : cX5_heading.data.toList.drop 24 = dktX5_heading_1 := dk_seg dksX5_heading_0 24 rfl rfl
theorem dksX5_heading_2 : cX5_heading.data.toList.drop 47 = dktX5_heading_2 := dk_seg dksX5_heading_1 23 rfl rfl
theorem dksX5_heading_3 : cX5_heading.data.toList.drop 70 = dktX5_heading_3 := dk_seg dksX5_heading_2 23 rfl rfl
theorem dksX5_heading_4 : cX5_heading.data.toList.drop 93 = dktX5_heading_4 := dk_seg dksX5_heading_3 23 rfl rfl
theorem dksX5_heading_5 : cX5_heading.data.toList.drop 115 = dktX5_heading_5 := dk_seg dksX5_heading_4 22 rfl rfl
theorem dksX5_heading_6 : cX5_heading.data.toList.drop 138 = dktX5_heading_6 := dk_seg dksX5_heading_5 23 rfl rfl
theorem dX5_heading_0 : decode cX5_heading 0 = .ok (.aload_n 0, 1) := dk_42 (dk_at dksX5_heading_0 0 rfl rfl)
theorem dX5_heading_1 : decode cX5_heading 1 = .ok (.iconst 1, 1) := dk_4 (dk_at dksX5_heading_0 1 rfl rfl)
theorem dX5_heading_2 : decode cX5_heading 2 = .ok (.invokevirtual 67, 3) := dk_182 0 67 (dk_at dksX5_heading_0 2 rfl rfl)
theorem dX5_heading_5 : decode cX5_heading 5 = .ok (.ifCond .ne 5, 3) := dk_154 0 5 (dk_at dksX5_heading_0 5 rfl rfl)
theorem dX5_heading_8 : decode cX5_heading 8 = .ok (.iconst 0, 1) := dk_3 (dk_at dksX5_heading_0 8 rfl rfl)
theorem dX5_heading_9 : decode cX5_heading 9 = .ok (.ireturn, 1) := dk_172 (dk_at dksX5_heading_0 9 rfl rfl)
theorem dX5_heading_10 : decode cX5_heading 10 = .ok (.aload_n 0, 1) := dk_42 (dk_at dksX5_heading_0 10 rfl rfl)
theorem dX5_heading_11 : decode cX5_heading 11 = .ok (.bipush 15, 2) := dk_16 15 (dk_at dksX5_heading_0 11 rfl rfl)
theorem dX5_heading_13 : decode cX5_heading 13 = .ok (.invokevirtual 73, 3) := dk_182 0 73 (dk_at dksX5_heading_0 13 rfl rfl)
theorem dX5_heading_16 : decode cX5_heading 16 = .ok (.ifCond .eq 53, 3) := dk_153 0 53 (dk_at dksX5_heading_0 16 rfl rfl)
theorem dX5_heading_19 : decode cX5_heading 19 = .ok (.aload_n 0, 1) := dk_42 (dk_at dksX5_heading_0 19 rfl rfl)
theorem dX5_heading_20 : decode cX5_heading 20 = .ok (.invokevirtual 38, 3) := dk_182 0 38 (dk_at dksX5_heading_0 20 rfl rfl)
theorem dX5_heading_23 : decode cX5_heading 23 = .ok (.iconst (-1), 1) := dk_2 (dk_at dksX5_heading_0 23 rfl rfl)
theorem dX5_heading_24 : decode cX5_heading 24 = .ok (.if_icmp .eq 34, 3) := dk_159 0 34 (dk_at dksX5_heading_1 0 rfl rfl)
theorem dX5_heading_27 : decode cX5_heading 27 = .ok (.aload_n 0, 1) := dk_42 (dk_at dksX5_heading_1 3 rfl rfl)
theorem dX5_heading_28 : decode cX5_heading 28 = .ok (.bipush 15, 2) := dk_16 15 (dk_at dksX5_heading_1 4 rfl rfl)
theorem dX5_heading_30 : decode cX5_heading 30 = .ok (.invokevirtual 49, 3) := dk_182 0 49 (dk_at dksX5_heading_1 6 rfl rfl)
theorem dX5_heading_33 : decode cX5_heading 33 = .ok (.ifCond .ne 25, 3) := dk_154 0 25 (dk_at dksX5_heading_1 9 rfl rfl)
theorem dX5_heading_36 : decode cX5_heading 36 = .ok (.aload_n 0, 1) := dk_42 (dk_at dksX5_heading_1 12 rfl rfl)
theorem dX5_heading_37 : decode cX5_heading 37 = .ok (.bipush 16, 2) := dk_16 16 (dk_at dksX5_heading_1 13 rfl rfl)
theorem dX5_heading_39 : decode cX5_heading 39 = .ok (.invokevirtual 49, 3) := dk_182 0 49 (dk_at dksX5_heading_1 15 rfl rfl)
theorem dX5_heading_42 : decode cX5_heading 42 = .ok (.ifCond .ne 16, 3) := dk_154 0 16 (dk_at dksX5_heading_1 18 rfl rfl)
theorem dX5_heading_45 : decode cX5_heading 45 = .ok (.aload_n 0, 1) := dk_42 (dk_at dksX5_heading_1 21 rfl rfl)
theorem dX5_heading_46 : decode cX5_heading 46 = .ok (.dup, 1) := dk_89 (dk_at dksX5_heading_1 22 rfl rfl)
theorem dX5_heading_47 : decode cX5_heading 47 = .ok (.getfield 26, 3) := dk_180 0 26 (dk_at dksX5_heading_2 0 rfl rfl)
theorem dX5_heading_50 : decode cX5_heading 50 = .ok (.iconst 1, 1) := dk_4 (dk_at dksX5_heading_2 3 rfl rfl)
theorem dX5_heading_51 : decode cX5_heading 51 = .ok (.iadd, 1) := dk_96 (dk_at dksX5_heading_2 4 rfl rfl)
theorem dX5_heading_52 : decode cX5_heading 52 = .ok (.putfield 26, 3) := dk_181 0 26 (dk_at dksX5_heading_2 5 rfl rfl)
theorem dX5_heading_55 : decode cX5_heading 55 = .ok (.goto (-36), 3) := dk_167 255 220 (dk_at dksX5_heading_2 8 rfl rfl)
theorem dX5_heading_58 : decode cX5_heading 58 = .ok (.aload_n 0, 1) := dk_42 (dk_at dksX5_heading_2 11 rfl rfl)
theorem dX5_heading_59 : decode cX5_heading 59 = .ok (.bipush 16, 2) := dk_16 16 (dk_at dksX5_heading_2 12 rfl rfl)
theorem dX5_heading_61 : decode cX5_heading 61 = .ok (.invokevirtual 67, 3) := dk_182 0 67 (dk_at dksX5_heading_2 14 rfl rfl)
theorem dX5_heading_64 : decode cX5_heading 64 = .ok (.ifCond .ne 5, 3) := dk_154 0 5 (dk_at dksX5_heading_2 17 rfl rfl)
theorem dX5_heading_67 : decode cX5_heading 67 = .ok (.iconst 0, 1) := dk_3 (dk_at dksX5_heading_2 20 rfl rfl)
theorem dX5_heading_68 : decode cX5_heading 68 = .ok (.ireturn, 1) := dk_172 (dk_at dksX5_heading_2 21 rfl rfl)
theorem dX5_heading_69 : decode cX5_heading 69 = .ok (.aload_n 0, 1) := dk_42 (dk_at dksX5_heading_2 22 rfl rfl)
theorem dX5_heading_70 : decode cX5_heading 70 = .ok (.bipush 118, 2) := dk_16 118 (dk_at dksX5_heading_3 0 rfl rfl)
theorem dX5_heading_72 : decode cX5_heading 72 = .ok (.invokevirtual 67, 3) := dk_182 0 67 (dk_at dksX5_heading_3 2 rfl rfl)
theorem dX5_heading_75 : decode cX5_heading 75 = .ok (.ifCond .ne 5, 3) := dk_154 0 5 (dk_at dksX5_heading_3 5 rfl rfl)
theorem dX5_heading_78 : decode cX5_heading 78 = .ok (.iconst 0, 1) := dk_3 (dk_at dksX5_heading_3 8 rfl rfl)
theorem dX5_heading_79 : decode cX5_heading 79 = .ok (.ireturn, 1) := dk_172 (dk_at dksX5_heading_3 9 rfl rfl)
theorem dX5_heading_80 : decode cX5_heading 80 = .ok (.aload_n 0, 1) := dk_42 (dk_at dksX5_heading_3 10 rfl rfl)
theorem dX5_heading_81 : decode cX5_heading 81 = .ok (.bipush 123, 2) := dk_16 123 (dk_at dksX5_heading_3 11 rfl rfl)
theorem dX5_heading_83 : decode cX5_heading 83 = .ok (.invokevirtual 49, 3) := dk_182 0 49 (dk_at dksX5_heading_3 13 rfl rfl)
theorem dX5_heading_86 : decode cX5_heading 86 = .ok (.ifCond .ne 13, 3) := dk_154 0 13 (dk_at dksX5_heading_3 16 rfl rfl)
theorem dX5_heading_89 : decode cX5_heading 89 = .ok (.aload_n 0, 1) := dk_42 (dk_at dksX5_heading_3 19 rfl rfl)
theorem dX5_heading_90 : decode cX5_heading 90 = .ok (.sipush 134, 3) := dk_17 0 134 (dk_at dksX5_heading_3 20 rfl rfl)
theorem dX5_heading_93 : decode cX5_heading 93 = .ok (.invokevirtual 49, 3) := dk_182 0 49 (dk_at dksX5_heading_4 0 rfl rfl)
theorem dX5_heading_96 : decode cX5_heading 96 = .ok (.ifCond .eq 39, 3) := dk_153 0 39 (dk_at dksX5_heading_4 3 rfl rfl)
theorem dX5_heading_99 : decode cX5_heading 99 = .ok (.aload_n 0, 1) := dk_42 (dk_at dksX5_heading_4 6 rfl rfl)
theorem dX5_heading_100 : decode cX5_heading 100 = .ok (.getfield 9, 3) := dk_180 0 9 (dk_at dksX5_heading_4 7 rfl rfl)
theorem dX5_heading_103 : decode cX5_heading 103 = .ok (.aload_n 0, 1) := dk_42 (dk_at dksX5_heading_4 10 rfl rfl)
theorem dX5_heading_104 : decode cX5_heading 104 = .ok (.sipush 134, 3) := dk_17 0 134 (dk_at dksX5_heading_4 11 rfl rfl)
theorem dX5_heading_107 : decode cX5_heading 107 = .ok (.invokevirtual 49, 3) := dk_182 0 49 (dk_at dksX5_heading_4 14 rfl rfl)
theorem dX5_heading_110 : decode cX5_heading 110 = .ok (.putfield 76, 3) := dk_181 0 76 (dk_at dksX5_heading_4 17 rfl rfl)
theorem dX5_heading_113 : decode cX5_heading 113 = .ok (.aload_n 0, 1) := dk_42 (dk_at dksX5_heading_4 20 rfl rfl)
theorem dX5_heading_114 : decode cX5_heading 114 = .ok (.dup, 1) := dk_89 (dk_at dksX5_heading_4 21 rfl rfl)
theorem dX5_heading_115 : decode cX5_heading 115 = .ok (.getfield 26, 3) := dk_180 0 26 (dk_at dksX5_heading_5 0 rfl rfl)
theorem dX5_heading_118 : decode cX5_heading 118 = .ok (.iconst 1, 1) := dk_4 (dk_at dksX5_heading_5 3 rfl rfl)
theorem dX5_heading_119 : decode cX5_heading 119 = .ok (.iadd, 1) := dk_96 (dk_at dksX5_heading_5 4 rfl rfl)
theorem dX5_heading_120 : decode cX5_heading 120 = .ok (.putfield 26, 3) := dk_181 0 26 (dk_at dksX5_heading_5 5 rfl rfl)
theorem dX5_heading_123 : decode cX5_heading 123 = .ok (.aload_n 0, 1) := dk_42 (dk_at dksX5_heading_5 8 rfl rfl)
theorem dX5_heading_124 : decode cX5_heading 124 = .ok (.sipush 165, 3) := dk_17 0 165 (dk_at dksX5_heading_5 9 rfl rfl)
theorem dX5_heading_127 : decode cX5_heading 127 = .ok (.invokevirtual 67, 3) := dk_182 0 67 (dk_at dksX5_heading_5 12 rfl rfl)
theorem dX5_heading_130 : decode cX5_heading 130 = .ok (.ifCond .ne 5, 3) := dk_154 0 5 (dk_at dksX5_heading_5 15 rfl rfl)
theorem dX5_heading_133 : decode cX5_heading 133 = .ok (.iconst 0, 1) := dk_3 (dk_at dksX5_heading_5 18 rfl rfl)
theorem dX5_heading_134 : decode cX5_heading 134 = .ok (.ireturn, 1) := dk_172 (dk_at dksX5_heading_5 19 rfl rfl)
theorem dX5_heading_135 : decode cX5_heading 135 = .ok (.aload_n 0, 1) := dk_42 (dk_at dksX5_heading_5 20 rfl rfl)
theorem dX5_heading_136 : decode cX5_heading 136 = .ok (.bipush 10, 2) := dk_16 10 (dk_at dksX5_heading_5 21 rfl rfl)
theorem dX5_heading_138 : decode cX5_heading 138 = .ok (.invokevirtual 67, 3) := dk_182 0 67 (dk_at dksX5_heading_6 0 rfl rfl)
theorem dX5_heading_141 : decode cX5_heading 141 = .ok (.ifCond .eq 16, 3) := dk_153 0 16 (dk_at dksX5_heading_6 3 rfl rfl)
theorem dX5_heading_144 : decode cX5_heading 144 = .ok (.aload_n 0, 1) := dk_42 (dk_at dksX5_heading_6 6 rfl rfl)
theorem dX5_heading_145 : decode cX5_heading 145 = .ok (.bipush 105, 2) := dk_16 105 (dk_at dksX5_heading_6 7 rfl rfl)
theorem dX5_heading_147 : decode cX5_heading 147 = .ok (.invokevirtual 67, 3) := dk_182 0 67 (dk_at dksX5_heading_6 9 rfl rfl)
theorem dX5_heading_150 : decode cX5_heading 150 = .ok (.ifCond .eq 7, 3) := dk_153 0 7 (dk_at dksX5_heading_6 12 rfl rfl)
theorem dX5_heading_153 : decode cX5_heading 153 = .ok (.iconst 1, 1) := dk_4 (dk_at dksX5_heading_6 15 rfl rfl)
theorem dX5_heading_154 : decode cX5_heading 154 = .ok (.goto 4, 3) := dk_167 0 4 (dk_at dksX5_heading_6 16 rfl rfl)
theorem dX5_heading_157 : decode cX5_heading 157 = .ok (.iconst 0, 1) := dk_3 (dk_at dksX5_heading_6 19 rfl rfl)
theorem dX5_heading_158 : decode cX5_heading 158 = .ok (.ireturn, 1) := dk_172 (dk_at dksX5_heading_6 20 rfl rfl)
abbrev cX5_take : ByteArray := prog_5_method_9_code
def yX5_take : MethodName := ⟨RX5, "take", "(I)Z"⟩
def dkwX5_take_1 : List UInt8 := [180, 0, 26, 4, 96, 181, 0, 26, 4, 172]
abbrev dktX5_take_1 : List UInt8 := dkwX5_take_1 ++ []
def dkwX5_take_0 : List UInt8 := [42, 180, 0, 15, 154, 0, 11, 42, 27, 182, 0, 49, 154, 0, 8, 42, 182, 0, 52, 172, 42, 89]
abbrev dktX5_take_0 : List UInt8 := dkwX5_take_0 ++ dktX5_take_1
theorem dksX5_take_0 : cX5_take.data.toList.drop 0 = dktX5_take_0 := by decide +kernel
theorem dksX5_take_1 : cX5_take.data.toList.drop 22 = dktX5_take_1 := dk_seg dksX5_take_0 22 rfl rfl
theorem dX5_take_0 : decode cX5_take 0 = .ok (.aload_n 0, 1) := dk_42 (dk_at dksX5_take_0 0 rfl rfl)
theorem dX5_take_1 : decode cX5_take 1 = .ok (.getfield 15, 3) := dk_180 0 15 (dk_at dksX5_take_0 1 rfl rfl)
theorem dX5_take_4 : decode cX5_take 4 = .ok (.ifCond .ne 11, 3) := dk_154 0 11 (dk_at dksX5_take_0 4 rfl rfl)
theorem dX5_take_7 : decode cX5_take 7 = .ok (.aload_n 0, 1) := dk_42 (dk_at dksX5_take_0 7 rfl rfl)
theorem dX5_take_8 : decode cX5_take 8 = .ok (.iload_n 1, 1) := dk_27 (dk_at dksX5_take_0 8 rfl rfl)
theorem dX5_take_9 : decode cX5_take 9 = .ok (.invokevirtual 49, 3) := dk_182 0 49 (dk_at dksX5_take_0 9 rfl rfl)
theorem dX5_take_12 : decode cX5_take 12 = .ok (.ifCond .ne 8, 3) := dk_154 0 8 (dk_at dksX5_take_0 12 rfl rfl)
theorem dX5_take_15 : decode cX5_take 15 = .ok (.aload_n 0, 1) := dk_42 (dk_at dksX5_take_0 15 rfl rfl)
theorem dX5_take_16 : decode cX5_take 16 = .ok (.invokevirtual 52, 3) := dk_182 0 52 (dk_at dksX5_take_0 16 rfl rfl)
theorem dX5_take_19 : decode cX5_take 19 = .ok (.ireturn, 1) := dk_172 (dk_at dksX5_take_0 19 rfl rfl)
theorem dX5_take_20 : decode cX5_take 20 = .ok (.aload_n 0, 1) := dk_42 (dk_at dksX5_take_0 20 rfl rfl)
theorem dX5_take_21 : decode cX5_take 21 = .ok (.dup, 1) := dk_89 (dk_at dksX5_take_0 21 rfl rfl)
theorem dX5_take_22 : decode cX5_take 22 = .ok (.getfield 26, 3) := dk_180 0 26 (dk_at dksX5_take_1 0 rfl rfl)
theorem dX5_take_25 : decode cX5_take 25 = .ok (.iconst 1, 1) := dk_4 (dk_at dksX5_take_1 3 rfl rfl)
theorem dX5_take_26 : decode cX5_take 26 = .ok (.iadd, 1) := dk_96 (dk_at dksX5_take_1 4 rfl rfl)
theorem dX5_take_27 : decode cX5_take 27 = .ok (.putfield 26, 3) := dk_181 0 26 (dk_at dksX5_take_1 5 rfl rfl)
theorem dX5_take_30 : decode cX5_take 30 = .ok (.iconst 1, 1) := dk_4 (dk_at dksX5_take_1 8 rfl rfl)
theorem dX5_take_31 : decode cX5_take 31 = .ok (.ireturn, 1) := dk_172 (dk_at dksX5_take_1 9 rfl rfl)
abbrev cX5_is : ByteArray := prog_5_method_5_code
def yX5_is : MethodName := ⟨RX5, "is", "(I)Z"⟩
def dkwX5_is_0 : List UInt8 := [42, 180, 0, 22, 42, 180, 0, 26, 182, 0, 29, 27, 160, 0, 7, 4, 167, 0, 4, 3, 172]
abbrev dktX5_is_0 : List UInt8 := dkwX5_is_0 ++ []
theorem dksX5_is_0 : cX5_is.data.toList.drop 0 = dktX5_is_0 := by decide +kernel
theorem dX5_is_0 : decode cX5_is 0 = .ok (.aload_n 0, 1) := dk_42 (dk_at dksX5_is_0 0 rfl rfl)
theorem dX5_is_1 : decode cX5_is 1 = .ok (.getfield 22, 3) := dk_180 0 22 (dk_at dksX5_is_0 1 rfl rfl)
theorem dX5_is_4 : decode cX5_is 4 = .ok (.aload_n 0, 1) := dk_42 (dk_at dksX5_is_0 4 rfl rfl)
theorem dX5_is_5 : decode cX5_is 5 = .ok (.getfield 26, 3) := dk_180 0 26 (dk_at dksX5_is_0 5 rfl rfl)
theorem dX5_is_8 : decode cX5_is 8 = .ok (.invokevirtual 29, 3) := dk_182 0 29 (dk_at dksX5_is_0 8 rfl rfl)
theorem dX5_is_11 : decode cX5_is 11 = .ok (.iload_n 1, 1) := dk_27 (dk_at dksX5_is_0 11 rfl rfl)
theorem dX5_is_12 : decode cX5_is 12 = .ok (.if_icmp .ne 7, 3) := dk_160 0 7 (dk_at dksX5_is_0 12 rfl rfl)
theorem dX5_is_15 : decode cX5_is 15 = .ok (.iconst 1, 1) := dk_4 (dk_at dksX5_is_0 15 rfl rfl)
theorem dX5_is_16 : decode cX5_is 16 = .ok (.goto 4, 3) := dk_167 0 4 (dk_at dksX5_is_0 16 rfl rfl)
theorem dX5_is_19 : decode cX5_is 19 = .ok (.iconst 0, 1) := dk_3 (dk_at dksX5_is_0 19 rfl rfl)
theorem dX5_is_20 : decode cX5_is 20 = .ok (.ireturn, 1) := dk_172 (dk_at dksX5_is_0 20 rfl rfl)
abbrev cX5_unfit : ByteArray := prog_5_method_8_code
def yX5_unfit : MethodName := ⟨RX5, "unfit", "()Z"⟩
def dkwX5_unfit_0 : List UInt8 := [42, 42, 182, 0, 38, 184, 0, 41, 153, 0, 7, 6, 167, 0, 4, 5, 42, 180, 0, 26, 182, 0, 45, 172]
abbrev dktX5_unfit_0 : List UInt8 := dkwX5_unfit_0 ++ []
theorem dksX5_unfit_0 : cX5_unfit.data.toList.drop 0 = dktX5_unfit_0 := by decide +kernel
theorem dX5_unfit_0 : decode cX5_unfit 0 = .ok (.aload_n 0, 1) := dk_42 (dk_at dksX5_unfit_0 0 rfl rfl)
theorem dX5_unfit_1 : decode cX5_unfit 1 = .ok (.aload_n 0, 1) := dk_42 (dk_at dksX5_unfit_0 1 rfl rfl)
theorem dX5_unfit_2 : decode cX5_unfit 2 = .ok (.invokevirtual 38, 3) := dk_182 0 38 (dk_at dksX5_unfit_0 2 rfl rfl)
theorem dX5_unfit_5 : decode cX5_unfit 5 = .ok (.invokestatic 41, 3) := dk_184 0 41 (dk_at dksX5_unfit_0 5 rfl rfl)
theorem dX5_unfit_8 : decode cX5_unfit 8 = .ok (.ifCond .eq 7, 3) := dk_153 0 7 (dk_at dksX5_unfit_0 8 rfl rfl)
theorem dX5_unfit_11 : decode cX5_unfit 11 = .ok (.iconst 3, 1) := dk_6 (dk_at dksX5_unfit_0 11 rfl rfl)
theorem dX5_unfit_12 : decode cX5_unfit 12 = .ok (.goto 4, 3) := dk_167 0 4 (dk_at dksX5_unfit_0 12 rfl rfl)
theorem dX5_unfit_15 : decode cX5_unfit 15 = .ok (.iconst 2, 1) := dk_5 (dk_at dksX5_unfit_0 15 rfl rfl)
theorem dX5_unfit_16 : decode cX5_unfit 16 = .ok (.aload_n 0, 1) := dk_42 (dk_at dksX5_unfit_0 16 rfl rfl)
theorem dX5_unfit_17 : decode cX5_unfit 17 = .ok (.getfield 26, 3) := dk_180 0 26 (dk_at dksX5_unfit_0 17 rfl rfl)
theorem dX5_unfit_20 : decode cX5_unfit 20 = .ok (.invokevirtual 45, 3) := dk_182 0 45 (dk_at dksX5_unfit_0 20 rfl rfl)
theorem dX5_unfit_23 : decode cX5_unfit 23 = .ok (.ireturn, 1) := dk_172 (dk_at dksX5_unfit_0 23 rfl rfl)
abbrev cX5_kind : ByteArray := prog_5_method_4_code
def yX5_kind : MethodName := ⟨RX5, "kind", "()I"⟩
def dkwX5_kind_0 : List UInt8 := [42, 180, 0, 22, 42, 180, 0, 26, 182, 0, 29, 172]
abbrev dktX5_kind_0 : List UInt8 := dkwX5_kind_0 ++ []
theorem dksX5_kind_0 : cX5_kind.data.toList.drop 0 = dktX5_kind_0 := by decide +kernel
theorem dX5_kind_0 : decode cX5_kind 0 = .ok (.aload_n 0, 1) := dk_42 (dk_at dksX5_kind_0 0 rfl rfl)
theorem dX5_kind_1 : decode cX5_kind 1 = .ok (.getfield 22, 3) := dk_180 0 22 (dk_at dksX5_kind_0 1 rfl rfl)
theorem dX5_kind_4 : decode cX5_kind 4 = .ok (.aload_n 0, 1) := dk_42 (dk_at dksX5_kind_0 4 rfl rfl)
theorem dX5_kind_5 : decode cX5_kind 5 = .ok (.getfield 26, 3) := dk_180 0 26 (dk_at dksX5_kind_0 5 rfl rfl)
theorem dX5_kind_8 : decode cX5_kind 8 = .ok (.invokevirtual 29, 3) := dk_182 0 29 (dk_at dksX5_kind_0 8 rfl rfl)
theorem dX5_kind_11 : decode cX5_kind 11 = .ok (.ireturn, 1) := dk_172 (dk_at dksX5_kind_0 11 rfl rfl)
abbrev cX5_isUnsupported : ByteArray := prog_5_method_6_code
def yX5_isUnsupported : MethodName := ⟨RX5, "isUnsupported", "(I)Z"⟩
def dkwX5_isUnsupported_2 : List UInt8 := [4, 172, 3, 172]
abbrev dktX5_isUnsupported_2 : List UInt8 := dkwX5_isUnsupported_2 ++ []
def dkwX5_isUnsupported_1 : List UInt8 := [171, 0, 0, 0, 0, 1, 29, 0, 0, 0, 34, 0, 0, 0, 11, 0, 0, 1, 27, 0, 0, 0, 13, 0, 0, 1, 27, 0, 0, 0, 14, 0, 0, 1, 27, 0, 0, 0, 26, 0, 0, 1, 27, 0, 0, 0, 101, 0, 0, 1, 27, 0, 0, 0, 102, 0, 0, 1, 27, 0, 0, 0, 104, 0, 0, 1, 27, 0, 0, 0, 107, 0, 0, 1, 27, 0, 0, 0, 110, 0, 0, 1, 27, 0, 0, 0, 112, 0, 0, 1, 27, 0, 0, 0, 114, 0, 0, 1, 27, 0, 0, 0, 119, 0, 0, 1, 27, 0, 0, 0, 122, 0, 0, 1, 27, 0, 0, 0, 124, 0, 0, 1, 27, 0, 0, 0, 126, 0, 0, 1, 27, 0, 0, 0, 128, 0, 0, 1, 27, 0, 0, 0, 129, 0, 0, 1, 27, 0, 0, 0, 131, 0, 0, 1, 27, 0, 0, 0, 136, 0, 0, 1, 27, 0, 0, 0, 137, 0, 0, 1, 27, 0, 0, 0, 138, 0, 0, 1, 27, 0, 0, 0, 140, 0, 0, 1, 27, 0, 0, 0, 141, 0, 0, 1, 27, 0, 0, 0, 146, 0, 0, 1, 27, 0, 0, 0, 151, 0, 0, 1, 27, 0, 0, 0, 157, 0, 0, 1, 27, 0, 0, 0, 158, 0, 0, 1, 27, 0, 0, 0, 164, 0, 0, 1, 27, 0, 0, 0, 167, 0, 0, 1, 27, 0, 0, 0, 168, 0, 0, 1, 27, 0, 0, 0, 173, 0, 0, 1, 27, 0, 0, 0, 174, 0, 0, 1, 27, 0, 0, 0, 175, 0, 0, 1, 27, 0, 0, 0, 176, 0, 0, 1, 27]
abbrev dktX5_isUnsupported_1 : List UInt8 := dkwX5_isUnsupported_1 ++ dktX5_isUnsupported_2
def dkwX5_isUnsupported_0 : List UInt8 := [26]
abbrev dktX5_isUnsupported_0 : List UInt8 := dkwX5_isUnsupported_0 ++ dktX5_isUnsupported_1
theorem dksX5_isUnsupported_0 : cX5_isUnsupported.data.toList.drop 0 = dktX5_isUnsupported_0 := by decide +kernel
theorem dksX5_isUnsupported_1 : cX5_isUnsupported.data.toList.drop 1 = dktX5_isUnsupported_1 := dk_seg dksX5_isUnsupported_0 1 rfl rfl
theorem dksX5_isUnsupported_2 : cX5_isUnsupported.data.toList.drop 284 = dktX5_isUnsupported_2 := dk_seg dksX5_isUnsupported_1 283 rfl rfl
theorem dX5_isUnsupported_0 : decode cX5_isUnsupported 0 = .ok (.iload_n 0, 1) := dk_26 (dk_at dksX5_isUnsupported_0 0 rfl rfl)
theorem dX5_isUnsupported_1 : decode cX5_isUnsupported 1 = .ok (.lookupswitch 285 #[(11, 283), (13, 283), (14, 283), (26, 283), (101, 283), (102, 283), (104, 283), (107, 283), (110, 283), (112, 283), (114, 283), (119, 283), (122, 283), (124, 283), (126, 283), (128, 283), (129, 283), (131, 283), (136, 283), (137, 283), (138, 283), (140, 283), (141, 283), (146, 283), (151, 283), (157, 283), (158, 283), (164, 283), (167, 283), (168, 283), (173, 283), (174, 283), (175, 283), (176, 283)], 283) := by decide +kernel
theorem dX5_isUnsupported_284 : decode cX5_isUnsupported 284 = .ok (.iconst 1, 1) := dk_4 (dk_at dksX5_isUnsupported_2 0 rfl rfl)
theorem dX5_isUnsupported_285 : decode cX5_isUnsupported 285 = .ok (.ireturn, 1) := dk_172 (dk_at dksX5_isUnsupported_2 1 rfl rfl)
theorem dX5_isUnsupported_286 : decode cX5_isUnsupported 286 = .ok (.iconst 0, 1) := dk_3 (dk_at dksX5_isUnsupported_2 2 rfl rfl)
theorem dX5_isUnsupported_287 : decode cX5_isUnsupported 287 = .ok (.ireturn, 1) := dk_172 (dk_at dksX5_isUnsupported_2 3 rfl rfl)
abbrev cX5_wrong : ByteArray := prog_5_method_7_code
def yX5_wrong : MethodName := ⟨RX5, "wrong", "(II)Z"⟩
def dkwX5_wrong_1 : List UInt8 := [3, 172]
abbrev dktX5_wrong_1 : List UInt8 := dkwX5_wrong_1 ++ []
def dkwX5_wrong_0 : List UInt8 := [42, 180, 0, 15, 154, 0, 20, 42, 27, 181, 0, 15, 42, 42, 180, 0, 22, 28, 182, 0, 35, 181, 0, 19]
abbrev dktX5_wrong_0 : List UInt8 := dkwX5_wrong_0 ++ dktX5_wrong_1
theorem dksX5_wrong_0 : cX5_wrong.data.toList.drop 0 = dktX5_wrong_0 := by decide +kernel
theorem dksX5_wrong_1 : cX5_wrong.data.toList.drop 24 = dktX5_wrong_1 := dk_seg dksX5_wrong_0 24 rfl rfl
theorem dX5_wrong_0 : decode cX5_wrong 0 = .ok (.aload_n 0, 1) := dk_42 (dk_at dksX5_wrong_0 0 rfl rfl)
theorem dX5_wrong_1 : decode cX5_wrong 1 = .ok (.getfield 15, 3) := dk_180 0 15 (dk_at dksX5_wrong_0 1 rfl rfl)
theorem dX5_wrong_4 : decode cX5_wrong 4 = .ok (.ifCond .ne 20, 3) := dk_154 0 20 (dk_at dksX5_wrong_0 4 rfl rfl)
theorem dX5_wrong_7 : decode cX5_wrong 7 = .ok (.aload_n 0, 1) := dk_42 (dk_at dksX5_wrong_0 7 rfl rfl)
theorem dX5_wrong_8 : decode cX5_wrong 8 = .ok (.iload_n 1, 1) := dk_27 (dk_at dksX5_wrong_0 8 rfl rfl)
theorem dX5_wrong_9 : decode cX5_wrong 9 = .ok (.putfield 15, 3) := dk_181 0 15 (dk_at dksX5_wrong_0 9 rfl rfl)
theorem dX5_wrong_12 : decode cX5_wrong 12 = .ok (.aload_n 0, 1) := dk_42 (dk_at dksX5_wrong_0 12 rfl rfl)
theorem dX5_wrong_13 : decode cX5_wrong 13 = .ok (.aload_n 0, 1) := dk_42 (dk_at dksX5_wrong_0 13 rfl rfl)
theorem dX5_wrong_14 : decode cX5_wrong 14 = .ok (.getfield 22, 3) := dk_180 0 22 (dk_at dksX5_wrong_0 14 rfl rfl)
theorem dX5_wrong_17 : decode cX5_wrong 17 = .ok (.iload_n 2, 1) := dk_28 (dk_at dksX5_wrong_0 17 rfl rfl)
theorem dX5_wrong_18 : decode cX5_wrong 18 = .ok (.invokevirtual 35, 3) := dk_182 0 35 (dk_at dksX5_wrong_0 18 rfl rfl)
theorem dX5_wrong_21 : decode cX5_wrong 21 = .ok (.putfield 19, 3) := dk_181 0 19 (dk_at dksX5_wrong_0 21 rfl rfl)
theorem dX5_wrong_24 : decode cX5_wrong 24 = .ok (.iconst 0, 1) := dk_3 (dk_at dksX5_wrong_1 0 rfl rfl)
theorem dX5_wrong_25 : decode cX5_wrong 25 = .ok (.ireturn, 1) := dk_172 (dk_at dksX5_wrong_1 1 rfl rfl)
abbrev cX5_may : ByteArray := prog_5_method_10_code
def yX5_may : MethodName := ⟨RX5, "may", "(I)Z"⟩
def dkwX5_may_1 : List UInt8 := [153, 0, 13, 42, 89, 180, 0, 26, 4, 96, 181, 0, 26, 28, 172]
abbrev dktX5_may_1 : List UInt8 := dkwX5_may_1 ++ []
def dkwX5_may_0 : List UInt8 := [42, 180, 0, 15, 154, 0, 15, 42, 27, 182, 0, 49, 153, 0, 7, 4, 167, 0, 4, 3, 61, 28]
abbrev dktX5_may_0 : List UInt8 := dkwX5_may_0 ++ dktX5_may_1
theorem dksX5_may_0 : cX5_may.data.toList.drop 0 = dktX5_may_0 := by decide +kernel
theorem dksX5_may_1 : cX5_may.data.toList.drop 22 = dktX5_may_1 := dk_seg dksX5_may_0 22 rfl rfl
theorem dX5_may_0 : decode cX5_may 0 = .ok (.aload_n 0, 1) := dk_42 (dk_at dksX5_may_0 0 rfl rfl)
theorem dX5_may_1 : decode cX5_may 1 = .ok (.getfield 15, 3) := dk_180 0 15 (dk_at dksX5_may_0 1 rfl rfl)
theorem dX5_may_4 : decode cX5_may 4 = .ok (.ifCond .ne 15, 3) := dk_154 0 15 (dk_at dksX5_may_0 4 rfl rfl)
theorem dX5_may_7 : decode cX5_may 7 = .ok (.aload_n 0, 1) := dk_42 (dk_at dksX5_may_0 7 rfl rfl)
theorem dX5_may_8 : decode cX5_may 8 = .ok (.iload_n 1, 1) := dk_27 (dk_at dksX5_may_0 8 rfl rfl)
theorem dX5_may_9 : decode cX5_may 9 = .ok (.invokevirtual 49, 3) := dk_182 0 49 (dk_at dksX5_may_0 9 rfl rfl)
theorem dX5_may_12 : decode cX5_may 12 = .ok (.ifCond .eq 7, 3) := dk_153 0 7 (dk_at dksX5_may_0 12 rfl rfl)
theorem dX5_may_15 : decode cX5_may 15 = .ok (.iconst 1, 1) := dk_4 (dk_at dksX5_may_0 15 rfl rfl)
theorem dX5_may_16 : decode cX5_may 16 = .ok (.goto 4, 3) := dk_167 0 4 (dk_at dksX5_may_0 16 rfl rfl)
theorem dX5_may_19 : decode cX5_may 19 = .ok (.iconst 0, 1) := dk_3 (dk_at dksX5_may_0 19 rfl rfl)
theorem dX5_may_20 : decode cX5_may 20 = .ok (.istore_n 2, 1) := dk_61 (dk_at dksX5_may_0 20 rfl rfl)
theorem dX5_may_21 : decode cX5_may 21 = .ok (.iload_n 2, 1) := dk_28 (dk_at dksX5_may_0 21 rfl rfl)
theorem dX5_may_22 : decode cX5_may 22 = .ok (.ifCond .eq 13, 3) := dk_153 0 13 (dk_at dksX5_may_1 0 rfl rfl)
theorem dX5_may_25 : decode cX5_may 25 = .ok (.aload_n 0, 1) := dk_42 (dk_at dksX5_may_1 3 rfl rfl)
theorem dX5_may_26 : decode cX5_may 26 = .ok (.dup, 1) := dk_89 (dk_at dksX5_may_1 4 rfl rfl)
theorem dX5_may_27 : decode cX5_may 27 = .ok (.getfield 26, 3) := dk_180 0 26 (dk_at dksX5_may_1 5 rfl rfl)
theorem dX5_may_30 : decode cX5_may 30 = .ok (.iconst 1, 1) := dk_4 (dk_at dksX5_may_1 8 rfl rfl)
theorem dX5_may_31 : decode cX5_may 31 = .ok (.iadd, 1) := dk_96 (dk_at dksX5_may_1 9 rfl rfl)
theorem dX5_may_32 : decode cX5_may 32 = .ok (.putfield 26, 3) := dk_181 0 26 (dk_at dksX5_may_1 10 rfl rfl)
theorem dX5_may_35 : decode cX5_may 35 = .ok (.iload_n 2, 1) := dk_28 (dk_at dksX5_may_1 13 rfl rfl)
theorem dX5_may_36 : decode cX5_may 36 = .ok (.ireturn, 1) := dk_172 (dk_at dksX5_may_1 14 rfl rfl)
abbrev cX5_assignments : ByteArray := prog_5_method_13_code
def yX5_assignments : MethodName := ⟨RX5, "assignments", "()Z"⟩
def dkwX5_assignments_9 : List UInt8 := [180, 0, 15, 154, 0, 7, 4, 167, 0, 4, 3, 172]
abbrev dktX5_assignments_9 : List UInt8 := dkwX5_assignments_9 ++ []
def dkwX5_assignments_8 : List UInt8 := [181, 0, 100, 167, 0, 14, 42, 180, 0, 9, 27, 16, 8, 29, 182, 0, 90, 29, 60, 167, 255, 54, 42]
abbrev dktX5_assignments_8 : List UInt8 := dkwX5_assignments_8 ++ dktX5_assignments_9
def dkwX5_assignments_7 : List UInt8 := [180, 0, 9, 29, 7, 42, 182, 0, 97, 182, 0, 90, 27, 2, 160, 0, 14, 42, 180, 0, 9, 29]
abbrev dktX5_assignments_7 : List UInt8 := dkwX5_assignments_7 ++ dktX5_assignments_8
def dkwX5_assignments_6 : List UInt8 := [180, 0, 9, 29, 6, 42, 3, 182, 0, 87, 182, 0, 90, 42, 16, 10, 182, 0, 67, 153, 0, 16, 42]
abbrev dktX5_assignments_6 : List UInt8 := dkwX5_assignments_6 ++ dktX5_assignments_7
def dkwX5_assignments_5 : List UInt8 := [3, 182, 0, 87, 182, 0, 90, 167, 0, 52, 42, 180, 0, 9, 89, 180, 0, 94, 4, 96, 181, 0, 94, 42]
abbrev dktX5_assignments_5 : List UInt8 := dkwX5_assignments_5 ++ dktX5_assignments_6
def dkwX5_assignments_4 : List UInt8 := [180, 0, 84, 4, 96, 181, 0, 84, 42, 16, 10, 182, 0, 67, 153, 0, 69, 42, 180, 0, 9, 29, 6, 42]
abbrev dktX5_assignments_4 : List UInt8 := dkwX5_assignments_4 ++ dktX5_assignments_5
def dkwX5_assignments_3 : List UInt8 := [16, 15, 182, 0, 49, 153, 0, 13, 42, 6, 42, 180, 0, 26, 182, 0, 45, 172, 42, 180, 0, 9, 89]
abbrev dktX5_assignments_3 : List UInt8 := dkwX5_assignments_3 ++ dktX5_assignments_4
def dkwX5_assignments_2 : List UInt8 := [42, 180, 0, 26, 182, 0, 80, 62, 42, 89, 180, 0, 26, 4, 96, 181, 0, 26, 28, 153, 0, 61, 42]
abbrev dktX5_assignments_2 : List UInt8 := dkwX5_assignments_2 ++ dktX5_assignments_3
def dkwX5_assignments_1 : List UInt8 := [153, 0, 185, 42, 4, 182, 0, 49, 61, 42, 180, 0, 9, 28, 153, 0, 8, 16, 28, 167, 0, 5, 16, 29]
abbrev dktX5_assignments_1 : List UInt8 := dkwX5_assignments_1 ++ dktX5_assignments_2
def dkwX5_assignments_0 : List UInt8 := [2, 60, 42, 180, 0, 15, 154, 0, 201, 42, 4, 182, 0, 49, 154, 0, 11, 42, 3, 182, 0, 49]
abbrev dktX5_assignments_0 : List UInt8 := dkwX5_assignments_0 ++ dktX5_assignments_1
theorem dksX5_assignments_0 : cX5_assignments.data.toList.drop 0 = dktX5_assignments_0 := by decide +kernel
theorem dksX5_assignments_1 : cX5_assignments.data.toList.drop 22 = dktX5_assignments_1 := dk_seg dksX5_assignments_0 22 rfl rfl
theorem dksX5_assignments_2 : cX5_assignments.data.toList.drop 46 = dktX5_assignments_2 := dk_seg dksX5_assignments_1 24 rfl rfl
theorem dksX5_assignments_3 : cX5_assignments.data.toList.drop 69 = dktX5_assignments_3 := dk_seg dksX5_assignments_2 23 rfl rfl
theorem dksX5_assignments_4 : cX5_assignments.data.toList.drop 92 = dktX5_assignments_4 := dk_seg dksX5_assignments_3 23 rfl rfl
theorem dksX5_assignments_5 : cX5_assignments.data.toList.drop 116 = dktX5_assignments_5 := dk_seg dksX5_assignments_4 24 rfl rfl
theorem dksX5_assignments_6 : cX5_assignments.data.toList.drop 140 = dktX5_assignments_6 := dk_seg dksX5_assignments_5 24 rfl rfl
theorem dksX5_assignments_7 : cX5_assignments.data.toList.drop 163 = dktX5_assignments_7 := dk_seg dksX5_assignments_6 23 rfl rfl
theorem dksX5_assignments_8 : cX5_assignments.data.toList.drop 185 = dktX5_assignments_8 := dk_seg dksX5_assignments_7 22 rfl rfl
theorem dksX5_assignments_9 : cX5_assignments.data.toList.drop 208 = dktX5_assignments_9 := dk_seg dksX5_assignments_8 23 rfl rfl
theorem dX5_assignments_0 : decode cX5_assignments 0 = .ok (.iconst (-1), 1) := dk_2 (dk_at dksX5_assignments_0 0 rfl rfl)
theorem dX5_assignments_1 : decode cX5_assignments 1 = .ok (.istore_n 1, 1) := dk_60 (dk_at dksX5_assignments_0 1 rfl rfl)
theorem dX5_assignments_2 : decode cX5_assignments 2 = .ok (.aload_n 0, 1) := dk_42 (dk_at dksX5_assignments_0 2 rfl rfl)
theorem dX5_assignments_3 : decode cX5_assignments 3 = .ok (.getfield 15, 3) := dk_180 0 15 (dk_at dksX5_assignments_0 3 rfl rfl)
theorem dX5_assignments_6 : decode cX5_assignments 6 = .ok (.ifCond .ne 201, 3) := dk_154 0 201 (dk_at dksX5_assignments_0 6 rfl rfl)
theorem dX5_assignments_9 : decode cX5_assignments 9 = .ok (.aload_n 0, 1) := dk_42 (dk_at dksX5_assignments_0 9 rfl rfl)
theorem dX5_assignments_10 : decode cX5_assignments 10 = .ok (.iconst 1, 1) := dk_4 (dk_at dksX5_assignments_0 10 rfl rfl)
theorem dX5_assignments_11 : decode cX5_assignments 11 = .ok (.invokevirtual 49, 3) := dk_182 0 49 (dk_at dksX5_assignments_0 11 rfl rfl)
theorem dX5_assignments_14 : decode cX5_assignments 14 = .ok (.ifCond .ne 11, 3) := dk_154 0 11 (dk_at dksX5_assignments_0 14 rfl rfl)
theorem dX5_assignments_17 : decode cX5_assignments 17 = .ok (.aload_n 0, 1) := dk_42 (dk_at dksX5_assignments_0 17 rfl rfl)
theorem dX5_assignments_18 : decode cX5_assignments 18 = .ok (.iconst 0, 1) := dk_3 (dk_at dksX5_assignments_0 18 rfl rfl)
theorem dX5_assignments_19 : decode cX5_assignments 19 = .ok (.invokevirtual 49, 3) := dk_182 0 49 (dk_at dksX5_assignments_0 19 rfl rfl)
theorem dX5_assignments_22 : decode cX5_assignments 22 = .ok (.ifCond .eq 185, 3) := dk_153 0 185 (dk_at dksX5_assignments_1 0 rfl rfl)
theorem dX5_assignments_25 : decode cX5_assignments 25 = .ok (.aload_n 0, 1) := dk_42 (dk_at dksX5_assignments_1 3 rfl rfl)
theorem dX5_assignments_26 : decode cX5_assignments 26 = .ok (.iconst 1, 1) := dk_4 (dk_at dksX5_assignments_1 4 rfl rfl)
theorem dX5_assignments_27 : decode cX5_assignments 27 = .ok (.invokevirtual 49, 3) := dk_182 0 49 (dk_at dksX5_assignments_1 5 rfl rfl)
theorem dX5_assignments_30 : decode cX5_assignments 30 = .ok (.istore_n 2, 1) := dk_61 (dk_at dksX5_assignments_1 8 rfl rfl)
theorem dX5_assignments_31 : decode cX5_assignments 31 = .ok (.aload_n 0, 1) := dk_42 (dk_at dksX5_assignments_1 9 rfl rfl)
theorem dX5_assignments_32 : decode cX5_assignments 32 = .ok (.getfield 9, 3) := dk_180 0 9 (dk_at dksX5_assignments_1 10 rfl rfl)
theorem dX5_assignments_35 : decode cX5_assignments 35 = .ok (.iload_n 2, 1) := dk_28 (dk_at dksX5_assignments_1 13 rfl rfl)
theorem dX5_assignments_36 : decode cX5_assignments 36 = .ok (.ifCond .eq 8, 3) := dk_153 0 8 (dk_at dksX5_assignments_1 14 rfl rfl)
theorem dX5_assignments_39 : decode cX5_assignments 39 = .ok (.bipush 28, 2) := dk_16 28 (dk_at dksX5_assignments_1 17 rfl rfl)
theorem dX5_assignments_41 : decode cX5_assignments 41 = .ok (.goto 5, 3) := dk_167 0 5 (dk_at dksX5_assignments_1 19 rfl rfl)
theorem dX5_assignments_44 : decode cX5_assignments 44 = .ok (.bipush 29, 2) := dk_16 29 (dk_at dksX5_assignments_1 22 rfl rfl)
theorem dX5_assignments_46 : decode cX5_assignments 46 = .ok (.aload_n 0, 1) := dk_42 (dk_at dksX5_assignments_2 0 rfl rfl)
theorem dX5_assignments_47 : decode cX5_assignments 47 = .ok (.getfield 26, 3) := dk_180 0 26 (dk_at dksX5_assignments_2 1 rfl rfl)
theorem dX5_assignments_50 : decode cX5_assignments 50 = .ok (.invokevirtual 80, 3) := dk_182 0 80 (dk_at dksX5_assignments_2 4 rfl rfl)
theorem dX5_assignments_53 : decode cX5_assignments 53 = .ok (.istore_n 3, 1) := dk_62 (dk_at dksX5_assignments_2 7 rfl rfl)
theorem dX5_assignments_54 : decode cX5_assignments 54 = .ok (.aload_n 0, 1) := dk_42 (dk_at dksX5_assignments_2 8 rfl rfl)
theorem dX5_assignments_55 : decode cX5_assignments 55 = .ok (.dup, 1) := dk_89 (dk_at dksX5_assignments_2 9 rfl rfl)
theorem dX5_assignments_56 : decode cX5_assignments 56 = .ok (.getfield 26, 3) := dk_180 0 26 (dk_at dksX5_assignments_2 10 rfl rfl)
theorem dX5_assignments_59 : decode cX5_assignments 59 = .ok (.iconst 1, 1) := dk_4 (dk_at dksX5_assignments_2 13 rfl rfl)
theorem dX5_assignments_60 : decode cX5_assignments 60 = .ok (.iadd, 1) := dk_96 (dk_at dksX5_assignments_2 14 rfl rfl)
theorem dX5_assignments_61 : decode cX5_assignments 61 = .ok (.putfield 26, 3) := dk_181 0 26 (dk_at dksX5_assignments_2 15 rfl rfl)
theorem dX5_assignments_64 : decode cX5_assignments 64 = .ok (.iload_n 2, 1) := dk_28 (dk_at dksX5_assignments_2 18 rfl rfl)
theorem dX5_assignments_65 : decode cX5_assignments 65 = .ok (.ifCond .eq 61, 3) := dk_153 0 61 (dk_at dksX5_assignments_2 19 rfl rfl)
theorem dX5_assignments_68 : decode cX5_assignments 68 = .ok (.aload_n 0, 1) := dk_42 (dk_at dksX5_assignments_2 22 rfl rfl)
theorem dX5_assignments_69 : decode cX5_assignments 69 = .ok (.bipush 15, 2) := dk_16 15 (dk_at dksX5_assignments_3 0 rfl rfl)
theorem dX5_assignments_71 : decode cX5_assignments 71 = .ok (.invokevirtual 49, 3) := dk_182 0 49 (dk_at dksX5_assignments_3 2 rfl rfl)
theorem dX5_assignments_74 : decode cX5_assignments 74 = .ok (.ifCond .eq 13, 3) := dk_153 0 13 (dk_at dksX5_assignments_3 5 rfl rfl)
theorem dX5_assignments_77 : decode cX5_assignments 77 = .ok (.aload_n 0, 1) := dk_42 (dk_at dksX5_assignments_3 8 rfl rfl)
theorem dX5_assignments_78 : decode cX5_assignments 78 = .ok (.iconst 3, 1) := dk_6 (dk_at dksX5_assignments_3 9 rfl rfl)
theorem dX5_assignments_79 : decode cX5_assignments 79 = .ok (.aload_n 0, 1) := dk_42 (dk_at dksX5_assignments_3 10 rfl rfl)
theorem dX5_assignments_80 : decode cX5_assignments 80 = .ok (.getfield 26, 3) := dk_180 0 26 (dk_at dksX5_assignments_3 11 rfl rfl)
theorem dX5_assignments_83 : decode cX5_assignments 83 = .ok (.invokevirtual 45, 3) := dk_182 0 45 (dk_at dksX5_assignments_3 14 rfl rfl)
theorem dX5_assignments_86 : decode cX5_assignments 86 = .ok (.ireturn, 1) := dk_172 (dk_at dksX5_assignments_3 17 rfl rfl)
theorem dX5_assignments_87 : decode cX5_assignments 87 = .ok (.aload_n 0, 1) := dk_42 (dk_at dksX5_assignments_3 18 rfl rfl)
theorem dX5_assignments_88 : decode cX5_assignments 88 = .ok (.getfield 9, 3) := dk_180 0 9 (dk_at dksX5_assignments_3 19 rfl rfl)
theorem dX5_assignments_91 : decode cX5_assignments 91 = .ok (.dup, 1) := dk_89 (dk_at dksX5_assignments_3 22 rfl rfl)
theorem dX5_assignments_92 : decode cX5_assignments 92 = .ok (.getfield 84, 3) := dk_180 0 84 (dk_at dksX5_assignments_4 0 rfl rfl)
theorem dX5_assignments_95 : decode cX5_assignments 95 = .ok (.iconst 1, 1) := dk_4 (dk_at dksX5_assignments_4 3 rfl rfl)
theorem dX5_assignments_96 : decode cX5_assignments 96 = .ok (.iadd, 1) := dk_96 (dk_at dksX5_assignments_4 4 rfl rfl)
theorem dX5_assignments_97 : decode cX5_assignments 97 = .ok (.putfield 84, 3) := dk_181 0 84 (dk_at dksX5_assignments_4 5 rfl rfl)
theorem dX5_assignments_100 : decode cX5_assignments 100 = .ok (.aload_n 0, 1) := dk_42 (dk_at dksX5_assignments_4 8 rfl rfl)
theorem dX5_assignments_101 : decode cX5_assignments 101 = .ok (.bipush 10, 2) := dk_16 10 (dk_at dksX5_assignments_4 9 rfl rfl)
theorem dX5_assignments_103 : decode cX5_assignments 103 = .ok (.invokevirtual 67, 3) := dk_182 0 67 (dk_at dksX5_assignments_4 11 rfl rfl)
theorem dX5_assignments_106 : decode cX5_assignments 106 = .ok (.ifCond .eq 69, 3) := dk_153 0 69 (dk_at dksX5_assignments_4 14 rfl rfl)
theorem dX5_assignments_109 : decode cX5_assignments 109 = .ok (.aload_n 0, 1) := dk_42 (dk_at dksX5_assignments_4 17 rfl rfl)
theorem dX5_assignments_110 : decode cX5_assignments 110 = .ok (.getfield 9, 3) := dk_180 0 9 (dk_at dksX5_assignments_4 18 rfl rfl)
theorem dX5_assignments_113 : decode cX5_assignments 113 = .ok (.iload_n 3, 1) := dk_29 (dk_at dksX5_assignments_4 21 rfl rfl)
theorem dX5_assignments_114 : decode cX5_assignments 114 = .ok (.iconst 3, 1) := dk_6 (dk_at dksX5_assignments_4 22 rfl rfl)
theorem dX5_assignments_115 : decode cX5_assignments 115 = .ok (.aload_n 0, 1) := dk_42 (dk_at dksX5_assignments_4 23 rfl rfl)
theorem dX5_assignments_116 : decode cX5_assignments 116 = .ok (.iconst 0, 1) := dk_3 (dk_at dksX5_assignments_5 0 rfl rfl)
theorem dX5_assignments_117 : decode cX5_assignments 117 = .ok (.invokevirtual 87, 3) := dk_182 0 87 (dk_at dksX5_assignments_5 1 rfl rfl)
theorem dX5_assignments_120 : decode cX5_assignments 120 = .ok (.invokevirtual 90, 3) := dk_182 0 90 (dk_at dksX5_assignments_5 4 rfl rfl)
theorem dX5_assignments_123 : decode cX5_assignments 123 = .ok (.goto 52, 3) := dk_167 0 52 (dk_at dksX5_assignments_5 7 rfl rfl)
theorem dX5_assignments_126 : decode cX5_assignments 126 = .ok (.aload_n 0, 1) := dk_42 (dk_at dksX5_assignments_5 10 rfl rfl)
theorem dX5_assignments_127 : decode cX5_assignments 127 = .ok (.getfield 9, 3) := dk_180 0 9 (dk_at dksX5_assignments_5 11 rfl rfl)
theorem dX5_assignments_130 : decode cX5_assignments 130 = .ok (.dup, 1) := dk_89 (dk_at dksX5_assignments_5 14 rfl rfl)
theorem dX5_assignments_131 : decode cX5_assignments 131 = .ok (.getfield 94, 3) := dk_180 0 94 (dk_at dksX5_assignments_5 15 rfl rfl)
theorem dX5_assignments_134 : decode cX5_assignments 134 = .ok (.iconst 1, 1) := dk_4 (dk_at dksX5_assignments_5 18 rfl rfl)
theorem dX5_assignments_135 : decode cX5_assignments 135 = .ok (.iadd, 1) := dk_96 (dk_at dksX5_assignments_5 19 rfl rfl)
theorem dX5_assignments_136 : decode cX5_assignments 136 = .ok (.putfield 94, 3) := dk_181 0 94 (dk_at dksX5_assignments_5 20 rfl rfl)
theorem dX5_assignments_139 : decode cX5_assignments 139 = .ok (.aload_n 0, 1) := dk_42 (dk_at dksX5_assignments_5 23 rfl rfl)
theorem dX5_assignments_140 : decode cX5_assignments 140 = .ok (.getfield 9, 3) := dk_180 0 9 (dk_at dksX5_assignments_6 0 rfl rfl)
theorem dX5_assignments_143 : decode cX5_assignments 143 = .ok (.iload_n 3, 1) := dk_29 (dk_at dksX5_assignments_6 3 rfl rfl)
theorem dX5_assignments_144 : decode cX5_assignments 144 = .ok (.iconst 3, 1) := dk_6 (dk_at dksX5_assignments_6 4 rfl rfl)
theorem dX5_assignments_145 : decode cX5_assignments 145 = .ok (.aload_n 0, 1) := dk_42 (dk_at dksX5_assignments_6 5 rfl rfl)
theorem dX5_assignments_146 : decode cX5_assignments 146 = .ok (.iconst 0, 1) := dk_3 (dk_at dksX5_assignments_6 6 rfl rfl)
theorem dX5_assignments_147 : decode cX5_assignments 147 = .ok (.invokevirtual 87, 3) := dk_182 0 87 (dk_at dksX5_assignments_6 7 rfl rfl)
theorem dX5_assignments_150 : decode cX5_assignments 150 = .ok (.invokevirtual 90, 3) := dk_182 0 90 (dk_at dksX5_assignments_6 10 rfl rfl)
theorem dX5_assignments_153 : decode cX5_assignments 153 = .ok (.aload_n 0, 1) := dk_42 (dk_at dksX5_assignments_6 13 rfl rfl)
theorem dX5_assignments_154 : decode cX5_assignments 154 = .ok (.bipush 10, 2) := dk_16 10 (dk_at dksX5_assignments_6 14 rfl rfl)
theorem dX5_assignments_156 : decode cX5_assignments 156 = .ok (.invokevirtual 67, 3) := dk_182 0 67 (dk_at dksX5_assignments_6 16 rfl rfl)
theorem dX5_assignments_159 : decode cX5_assignments 159 = .ok (.ifCond .eq 16, 3) := dk_153 0 16 (dk_at dksX5_assignments_6 19 rfl rfl)
theorem dX5_assignments_162 : decode cX5_assignments 162 = .ok (.aload_n 0, 1) := dk_42 (dk_at dksX5_assignments_6 22 rfl rfl)
theorem dX5_assignments_163 : decode cX5_assignments 163 = .ok (.getfield 9, 3) := dk_180 0 9 (dk_at dksX5_assignments_7 0 rfl rfl)
theorem dX5_assignments_166 : decode cX5_assignments 166 = .ok (.iload_n 3, 1) := dk_29 (dk_at dksX5_assignments_7 3 rfl rfl)
theorem dX5_assignments_167 : decode cX5_assignments 167 = .ok (.iconst 4, 1) := dk_7 (dk_at dksX5_assignments_7 4 rfl rfl)
theorem dX5_assignments_168 : decode cX5_assignments 168 = .ok (.aload_n 0, 1) := dk_42 (dk_at dksX5_assignments_7 5 rfl rfl)
theorem dX5_assignments_169 : decode cX5_assignments 169 = .ok (.invokevirtual 97, 3) := dk_182 0 97 (dk_at dksX5_assignments_7 6 rfl rfl)
theorem dX5_assignments_172 : decode cX5_assignments 172 = .ok (.invokevirtual 90, 3) := dk_182 0 90 (dk_at dksX5_assignments_7 9 rfl rfl)
theorem dX5_assignments_175 : decode cX5_assignments 175 = .ok (.iload_n 1, 1) := dk_27 (dk_at dksX5_assignments_7 12 rfl rfl)
theorem dX5_assignments_176 : decode cX5_assignments 176 = .ok (.iconst (-1), 1) := dk_2 (dk_at dksX5_assignments_7 13 rfl rfl)
theorem dX5_assignments_177 : decode cX5_assignments 177 = .ok (.if_icmp .ne 14, 3) := dk_160 0 14 (dk_at dksX5_assignments_7 14 rfl rfl)
theorem dX5_assignments_180 : decode cX5_assignments 180 = .ok (.aload_n 0, 1) := dk_42 (dk_at dksX5_assignments_7 17 rfl rfl)
theorem dX5_assignments_181 : decode cX5_assignments 181 = .ok (.getfield 9, 3) := dk_180 0 9 (dk_at dksX5_assignments_7 18 rfl rfl)
theorem dX5_assignments_184 : decode cX5_assignments 184 = .ok (.iload_n 3, 1) := dk_29 (dk_at dksX5_assignments_7 21 rfl rfl)
theorem dX5_assignments_185 : decode cX5_assignments 185 = .ok (.putfield 100, 3) := dk_181 0 100 (dk_at dksX5_assignments_8 0 rfl rfl)
theorem dX5_assignments_188 : decode cX5_assignments 188 = .ok (.goto 14, 3) := dk_167 0 14 (dk_at dksX5_assignments_8 3 rfl rfl)
theorem dX5_assignments_191 : decode cX5_assignments 191 = .ok (.aload_n 0, 1) := dk_42 (dk_at dksX5_assignments_8 6 rfl rfl)
theorem dX5_assignments_192 : decode cX5_assignments 192 = .ok (.getfield 9, 3) := dk_180 0 9 (dk_at dksX5_assignments_8 7 rfl rfl)
theorem dX5_assignments_195 : decode cX5_assignments 195 = .ok (.iload_n 1, 1) := dk_27 (dk_at dksX5_assignments_8 10 rfl rfl)
theorem dX5_assignments_196 : decode cX5_assignments 196 = .ok (.bipush 8, 2) := dk_16 8 (dk_at dksX5_assignments_8 11 rfl rfl)
theorem dX5_assignments_198 : decode cX5_assignments 198 = .ok (.iload_n 3, 1) := dk_29 (dk_at dksX5_assignments_8 13 rfl rfl)
theorem dX5_assignments_199 : decode cX5_assignments 199 = .ok (.invokevirtual 90, 3) := dk_182 0 90 (dk_at dksX5_assignments_8 14 rfl rfl)
theorem dX5_assignments_202 : decode cX5_assignments 202 = .ok (.iload_n 3, 1) := dk_29 (dk_at dksX5_assignments_8 17 rfl rfl)
theorem dX5_assignments_203 : decode cX5_assignments 203 = .ok (.istore_n 1, 1) := dk_60 (dk_at dksX5_assignments_8 18 rfl rfl)
theorem dX5_assignments_204 : decode cX5_assignments 204 = .ok (.goto (-202), 3) := dk_167 255 54 (dk_at dksX5_assignments_8 19 rfl rfl)
theorem dX5_assignments_207 : decode cX5_assignments 207 = .ok (.aload_n 0, 1) := dk_42 (dk_at dksX5_assignments_8 22 rfl rfl)
theorem dX5_assignments_208 : decode cX5_assignments 208 = .ok (.getfield 15, 3) := dk_180 0 15 (dk_at dksX5_assignments_9 0 rfl rfl)
theorem dX5_assignments_211 : decode cX5_assignments 211 = .ok (.ifCond .ne 7, 3) := dk_154 0 7 (dk_at dksX5_assignments_9 3 rfl rfl)
theorem dX5_assignments_214 : decode cX5_assignments 214 = .ok (.iconst 1, 1) := dk_4 (dk_at dksX5_assignments_9 6 rfl rfl)
theorem dX5_assignments_215 : decode cX5_assignments 215 = .ok (.goto 4, 3) := dk_167 0 4 (dk_at dksX5_assignments_9 7 rfl rfl)
theorem dX5_assignments_218 : decode cX5_assignments 218 = .ok (.iconst 0, 1) := dk_3 (dk_at dksX5_assignments_9 10 rfl rfl)
theorem dX5_assignments_219 : decode cX5_assignments 219 = .ok (.ireturn, 1) := dk_172 (dk_at dksX5_assignments_9 11 rfl rfl)
abbrev cX5_type : ByteArray := prog_5_method_14_code
def yX5_type : MethodName := ⟨RX5, "type", "(I)I"⟩
def dkwX5_type_6 : List UInt8 := [180, 0, 9, 28, 7, 29, 42, 182, 0, 120, 182, 0, 106, 62, 167, 255, 225, 28, 172]
abbrev dktX5_type_6 : List UInt8 := dkwX5_type_6 ++ []
def dkwX5_type_5 : List UInt8 := [182, 0, 117, 62, 167, 255, 230, 42, 180, 0, 15, 154, 0, 30, 42, 16, 19, 182, 0, 49, 153, 0, 21, 42]
abbrev dktX5_type_5 : List UInt8 := dkwX5_type_5 ++ dktX5_type_6
def dkwX5_type_4 : List UInt8 := [62, 29, 2, 159, 0, 27, 42, 180, 0, 9, 29, 182, 0, 117, 2, 159, 0, 15, 42, 180, 0, 9, 29]
abbrev dktX5_type_4 : List UInt8 := dkwX5_type_4 ++ dktX5_type_5
def dkwX5_type_3 : List UInt8 := [167, 255, 225, 42, 180, 0, 15, 154, 0, 9, 42, 28, 27, 182, 0, 110, 42, 180, 0, 9, 28, 182, 0, 114]
abbrev dktX5_type_3 : List UInt8 := dkwX5_type_3 ++ dktX5_type_4
def dkwX5_type_2 : List UInt8 := [42, 16, 17, 182, 0, 49, 153, 0, 21, 42, 180, 0, 9, 28, 5, 29, 42, 182, 0, 103, 182, 0, 106, 62]
abbrev dktX5_type_2 : List UInt8 := dkwX5_type_2 ++ dktX5_type_3
def dkwX5_type_1 : List UInt8 := [16, 100, 160, 0, 13, 42, 7, 42, 180, 0, 26, 182, 0, 45, 87, 2, 62, 42, 180, 0, 15, 154, 0, 30]
abbrev dktX5_type_1 : List UInt8 := dkwX5_type_1 ++ dktX5_type_2
def dkwX5_type_0 : List UInt8 := [42, 180, 0, 9, 16, 17, 42, 180, 0, 26, 182, 0, 80, 61, 42, 180, 0, 15, 153, 0, 5, 28, 172, 27]
abbrev dktX5_type_0 : List UInt8 := dkwX5_type_0 ++ dktX5_type_1
theorem dksX5_type_0 : cX5_type.data.toList.drop 0 = dktX5_type_0 := by decide +kernel
theorem dksX5_type_1 : cX5_type.data.toList.drop 24 = dktX5_type_1 := dk_seg dksX5_type_0 24 rfl rfl
theorem dksX5_type_2 : cX5_type.data.toList.drop 48 = dktX5_type_2 := dk_seg dksX5_type_1 24 rfl rfl
theorem dksX5_type_3 : cX5_type.data.toList.drop 72 = dktX5_type_3 := dk_seg dksX5_type_2 24 rfl rfl
theorem dksX5_type_4 : cX5_type.data.toList.drop 96 = dktX5_type_4 := dk_seg dksX5_type_3 24 rfl rfl
theorem dksX5_type_5 : cX5_type.data.toList.drop 119 = dktX5_type_5 := dk_seg dksX5_type_4 23 rfl rfl
theorem dksX5_type_6 : cX5_type.data.toList.drop 143 = dktX5_type_6 := dk_seg dksX5_type_5 24 rfl rfl
theorem dX5_type_0 : decode cX5_type 0 = .ok (.aload_n 0, 1) := dk_42 (dk_at dksX5_type_0 0 rfl rfl)
theorem dX5_type_1 : decode cX5_type 1 = .ok (.getfield 9, 3) := dk_180 0 9 (dk_at dksX5_type_0 1 rfl rfl)
theorem dX5_type_4 : decode cX5_type 4 = .ok (.bipush 17, 2) := dk_16 17 (dk_at dksX5_type_0 4 rfl rfl)
theorem dX5_type_6 : decode cX5_type 6 = .ok (.aload_n 0, 1) := dk_42 (dk_at dksX5_type_0 6 rfl rfl)
theorem dX5_type_7 : decode cX5_type 7 = .ok (.getfield 26, 3) := dk_180 0 26 (dk_at dksX5_type_0 7 rfl rfl)
theorem dX5_type_10 : decode cX5_type 10 = .ok (.invokevirtual 80, 3) := dk_182 0 80 (dk_at dksX5_type_0 10 rfl rfl)
theorem dX5_type_13 : decode cX5_type 13 = .ok (.istore_n 2, 1) := dk_61 (dk_at dksX5_type_0 13 rfl rfl)
theorem dX5_type_14 : decode cX5_type 14 = .ok (.aload_n 0, 1) := dk_42 (dk_at dksX5_type_0 14 rfl rfl)
theorem dX5_type_15 : decode cX5_type 15 = .ok (.getfield 15, 3) := dk_180 0 15 (dk_at dksX5_type_0 15 rfl rfl)
theorem dX5_type_18 : decode cX5_type 18 = .ok (.ifCond .eq 5, 3) := dk_153 0 5 (dk_at dksX5_type_0 18 rfl rfl)
theorem dX5_type_21 : decode cX5_type 21 = .ok (.iload_n 2, 1) := dk_28 (dk_at dksX5_type_0 21 rfl rfl)
theorem dX5_type_22 : decode cX5_type 22 = .ok (.ireturn, 1) := dk_172 (dk_at dksX5_type_0 22 rfl rfl)
theorem dX5_type_23 : decode cX5_type 23 = .ok (.iload_n 1, 1) := dk_27 (dk_at dksX5_type_0 23 rfl rfl)
theorem dX5_type_24 : decode cX5_type 24 = .ok (.bipush 100, 2) := dk_16 100 (dk_at dksX5_type_1 0 rfl rfl)
theorem dX5_type_26 : decode cX5_type 26 = .ok (.if_icmp .ne 13, 3) := dk_160 0 13 (dk_at dksX5_type_1 2 rfl rfl)
theorem dX5_type_29 : decode cX5_type 29 = .ok (.aload_n 0, 1) := dk_42 (dk_at dksX5_type_1 5 rfl rfl)
theorem dX5_type_30 : decode cX5_type 30 = .ok (.iconst 4, 1) := dk_7 (dk_at dksX5_type_1 6 rfl rfl)
theorem dX5_type_31 : decode cX5_type 31 = .ok (.aload_n 0, 1) := dk_42 (dk_at dksX5_type_1 7 rfl rfl)
theorem dX5_type_32 : decode cX5_type 32 = .ok (.getfield 26, 3) := dk_180 0 26 (dk_at dksX5_type_1 8 rfl rfl)
theorem dX5_type_35 : decode cX5_type 35 = .ok (.invokevirtual 45, 3) := dk_182 0 45 (dk_at dksX5_type_1 11 rfl rfl)
theorem dX5_type_38 : decode cX5_type 38 = .ok (.pop, 1) := dk_87 (dk_at dksX5_type_1 14 rfl rfl)
theorem dX5_type_39 : decode cX5_type 39 = .ok (.iconst (-1), 1) := dk_2 (dk_at dksX5_type_1 15 rfl rfl)
theorem dX5_type_40 : decode cX5_type 40 = .ok (.istore_n 3, 1) := dk_62 (dk_at dksX5_type_1 16 rfl rfl)
theorem dX5_type_41 : decode cX5_type 41 = .ok (.aload_n 0, 1) := dk_42 (dk_at dksX5_type_1 17 rfl rfl)
theorem dX5_type_42 : decode cX5_type 42 = .ok (.getfield 15, 3) := dk_180 0 15 (dk_at dksX5_type_1 18 rfl rfl)
theorem dX5_type_45 : decode cX5_type 45 = .ok (.ifCond .ne 30, 3) := dk_154 0 30 (dk_at dksX5_type_1 21 rfl rfl)
theorem dX5_type_48 : decode cX5_type 48 = .ok (.aload_n 0, 1) := dk_42 (dk_at dksX5_type_2 0 rfl rfl)
theorem dX5_type_49 : decode cX5_type 49 = .ok (.bipush 17, 2) := dk_16 17 (dk_at dksX5_type_2 1 rfl rfl)
theorem dX5_type_51 : decode cX5_type 51 = .ok (.invokevirtual 49, 3) := dk_182 0 49 (dk_at dksX5_type_2 3 rfl rfl)
theorem dX5_type_54 : decode cX5_type 54 = .ok (.ifCond .eq 21, 3) := dk_153 0 21 (dk_at dksX5_type_2 6 rfl rfl)
theorem dX5_type_57 : decode cX5_type 57 = .ok (.aload_n 0, 1) := dk_42 (dk_at dksX5_type_2 9 rfl rfl)
theorem dX5_type_58 : decode cX5_type 58 = .ok (.getfield 9, 3) := dk_180 0 9 (dk_at dksX5_type_2 10 rfl rfl)
theorem dX5_type_61 : decode cX5_type 61 = .ok (.iload_n 2, 1) := dk_28 (dk_at dksX5_type_2 13 rfl rfl)
theorem dX5_type_62 : decode cX5_type 62 = .ok (.iconst 2, 1) := dk_5 (dk_at dksX5_type_2 14 rfl rfl)
theorem dX5_type_63 : decode cX5_type 63 = .ok (.iload_n 3, 1) := dk_29 (dk_at dksX5_type_2 15 rfl rfl)
theorem dX5_type_64 : decode cX5_type 64 = .ok (.aload_n 0, 1) := dk_42 (dk_at dksX5_type_2 16 rfl rfl)
theorem dX5_type_65 : decode cX5_type 65 = .ok (.invokevirtual 103, 3) := dk_182 0 103 (dk_at dksX5_type_2 17 rfl rfl)
theorem dX5_type_68 : decode cX5_type 68 = .ok (.invokevirtual 106, 3) := dk_182 0 106 (dk_at dksX5_type_2 20 rfl rfl)
theorem dX5_type_71 : decode cX5_type 71 = .ok (.istore_n 3, 1) := dk_62 (dk_at dksX5_type_2 23 rfl rfl)
theorem dX5_type_72 : decode cX5_type 72 = .ok (.goto (-31), 3) := dk_167 255 225 (dk_at dksX5_type_3 0 rfl rfl)
theorem dX5_type_75 : decode cX5_type 75 = .ok (.aload_n 0, 1) := dk_42 (dk_at dksX5_type_3 3 rfl rfl)
theorem dX5_type_76 : decode cX5_type 76 = .ok (.getfield 15, 3) := dk_180 0 15 (dk_at dksX5_type_3 4 rfl rfl)
theorem dX5_type_79 : decode cX5_type 79 = .ok (.ifCond .ne 9, 3) := dk_154 0 9 (dk_at dksX5_type_3 7 rfl rfl)
theorem dX5_type_82 : decode cX5_type 82 = .ok (.aload_n 0, 1) := dk_42 (dk_at dksX5_type_3 10 rfl rfl)
theorem dX5_type_83 : decode cX5_type 83 = .ok (.iload_n 2, 1) := dk_28 (dk_at dksX5_type_3 11 rfl rfl)
theorem dX5_type_84 : decode cX5_type 84 = .ok (.iload_n 1, 1) := dk_27 (dk_at dksX5_type_3 12 rfl rfl)
theorem dX5_type_85 : decode cX5_type 85 = .ok (.invokevirtual 110, 3) := dk_182 0 110 (dk_at dksX5_type_3 13 rfl rfl)
theorem dX5_type_88 : decode cX5_type 88 = .ok (.aload_n 0, 1) := dk_42 (dk_at dksX5_type_3 16 rfl rfl)
theorem dX5_type_89 : decode cX5_type 89 = .ok (.getfield 9, 3) := dk_180 0 9 (dk_at dksX5_type_3 17 rfl rfl)
theorem dX5_type_92 : decode cX5_type 92 = .ok (.iload_n 2, 1) := dk_28 (dk_at dksX5_type_3 20 rfl rfl)
theorem dX5_type_93 : decode cX5_type 93 = .ok (.invokevirtual 114, 3) := dk_182 0 114 (dk_at dksX5_type_3 21 rfl rfl)
theorem dX5_type_96 : decode cX5_type 96 = .ok (.istore_n 3, 1) := dk_62 (dk_at dksX5_type_4 0 rfl rfl)
theorem dX5_type_97 : decode cX5_type 97 = .ok (.iload_n 3, 1) := dk_29 (dk_at dksX5_type_4 1 rfl rfl)
theorem dX5_type_98 : decode cX5_type 98 = .ok (.iconst (-1), 1) := dk_2 (dk_at dksX5_type_4 2 rfl rfl)
theorem dX5_type_99 : decode cX5_type 99 = .ok (.if_icmp .eq 27, 3) := dk_159 0 27 (dk_at dksX5_type_4 3 rfl rfl)
theorem dX5_type_102 : decode cX5_type 102 = .ok (.aload_n 0, 1) := dk_42 (dk_at dksX5_type_4 6 rfl rfl)
theorem dX5_type_103 : decode cX5_type 103 = .ok (.getfield 9, 3) := dk_180 0 9 (dk_at dksX5_type_4 7 rfl rfl)
theorem dX5_type_106 : decode cX5_type 106 = .ok (.iload_n 3, 1) := dk_29 (dk_at dksX5_type_4 10 rfl rfl)
theorem dX5_type_107 : decode cX5_type 107 = .ok (.invokevirtual 117, 3) := dk_182 0 117 (dk_at dksX5_type_4 11 rfl rfl)
theorem dX5_type_110 : decode cX5_type 110 = .ok (.iconst (-1), 1) := dk_2 (dk_at dksX5_type_4 14 rfl rfl)
theorem dX5_type_111 : decode cX5_type 111 = .ok (.if_icmp .eq 15, 3) := dk_159 0 15 (dk_at dksX5_type_4 15 rfl rfl)
theorem dX5_type_114 : decode cX5_type 114 = .ok (.aload_n 0, 1) := dk_42 (dk_at dksX5_type_4 18 rfl rfl)
theorem dX5_type_115 : decode cX5_type 115 = .ok (.getfield 9, 3) := dk_180 0 9 (dk_at dksX5_type_4 19 rfl rfl)
theorem dX5_type_118 : decode cX5_type 118 = .ok (.iload_n 3, 1) := dk_29 (dk_at dksX5_type_4 22 rfl rfl)
theorem dX5_type_119 : decode cX5_type 119 = .ok (.invokevirtual 117, 3) := dk_182 0 117 (dk_at dksX5_type_5 0 rfl rfl)
theorem dX5_type_122 : decode cX5_type 122 = .ok (.istore_n 3, 1) := dk_62 (dk_at dksX5_type_5 3 rfl rfl)
theorem dX5_type_123 : decode cX5_type 123 = .ok (.goto (-26), 3) := dk_167 255 230 (dk_at dksX5_type_5 4 rfl rfl)
theorem dX5_type_126 : decode cX5_type 126 = .ok (.aload_n 0, 1) := dk_42 (dk_at dksX5_type_5 7 rfl rfl)
theorem dX5_type_127 : decode cX5_type 127 = .ok (.getfield 15, 3) := dk_180 0 15 (dk_at dksX5_type_5 8 rfl rfl)
theorem dX5_type_130 : decode cX5_type 130 = .ok (.ifCond .ne 30, 3) := dk_154 0 30 (dk_at dksX5_type_5 11 rfl rfl)
theorem dX5_type_133 : decode cX5_type 133 = .ok (.aload_n 0, 1) := dk_42 (dk_at dksX5_type_5 14 rfl rfl)
theorem dX5_type_134 : decode cX5_type 134 = .ok (.bipush 19, 2) := dk_16 19 (dk_at dksX5_type_5 15 rfl rfl)
theorem dX5_type_136 : decode cX5_type 136 = .ok (.invokevirtual 49, 3) := dk_182 0 49 (dk_at dksX5_type_5 17 rfl rfl)
theorem dX5_type_139 : decode cX5_type 139 = .ok (.ifCond .eq 21, 3) := dk_153 0 21 (dk_at dksX5_type_5 20 rfl rfl)
theorem dX5_type_142 : decode cX5_type 142 = .ok (.aload_n 0, 1) := dk_42 (dk_at dksX5_type_5 23 rfl rfl)
theorem dX5_type_143 : decode cX5_type 143 = .ok (.getfield 9, 3) := dk_180 0 9 (dk_at dksX5_type_6 0 rfl rfl)
theorem dX5_type_146 : decode cX5_type 146 = .ok (.iload_n 2, 1) := dk_28 (dk_at dksX5_type_6 3 rfl rfl)
theorem dX5_type_147 : decode cX5_type 147 = .ok (.iconst 4, 1) := dk_7 (dk_at dksX5_type_6 4 rfl rfl)
theorem dX5_type_148 : decode cX5_type 148 = .ok (.iload_n 3, 1) := dk_29 (dk_at dksX5_type_6 5 rfl rfl)
theorem dX5_type_149 : decode cX5_type 149 = .ok (.aload_n 0, 1) := dk_42 (dk_at dksX5_type_6 6 rfl rfl)
theorem dX5_type_150 : decode cX5_type 150 = .ok (.invokevirtual 120, 3) := dk_182 0 120 (dk_at dksX5_type_6 7 rfl rfl)
theorem dX5_type_153 : decode cX5_type 153 = .ok (.invokevirtual 106, 3) := dk_182 0 106 (dk_at dksX5_type_6 10 rfl rfl)
theorem dX5_type_156 : decode cX5_type 156 = .ok (.istore_n 3, 1) := dk_62 (dk_at dksX5_type_6 13 rfl rfl)
theorem dX5_type_157 : decode cX5_type 157 = .ok (.goto (-31), 3) := dk_167 255 225 (dk_at dksX5_type_6 14 rfl rfl)
theorem dX5_type_160 : decode cX5_type 160 = .ok (.iload_n 2, 1) := dk_28 (dk_at dksX5_type_6 17 rfl rfl)
theorem dX5_type_161 : decode cX5_type 161 = .ok (.ireturn, 1) := dk_172 (dk_at dksX5_type_6 18 rfl rfl)
abbrev cX5_tag : ByteArray := prog_5_method_15_code
def yX5_tag : MethodName := ⟨RX5, "tag", "()I"⟩
def dkwX5_tag_8 : List UInt8 := [180, 0, 9, 27, 16, 7, 5, 182, 0, 90, 27, 172]
abbrev dktX5_tag_8 : List UInt8 := dkwX5_tag_8 ++ []
def dkwX5_tag_7 : List UInt8 := [180, 0, 9, 27, 16, 7, 4, 182, 0, 90, 167, 0, 23, 42, 16, 123, 182, 0, 73, 153, 0, 14, 42]
abbrev dktX5_tag_7 : List UInt8 := dkwX5_tag_7 ++ dktX5_tag_8
def dkwX5_tag_6 : List UInt8 := [96, 181, 0, 26, 42, 16, 18, 182, 0, 67, 87, 42, 17, 0, 134, 182, 0, 73, 153, 0, 17, 42]
abbrev dktX5_tag_6 : List UInt8 := dkwX5_tag_6 ++ dktX5_tag_7
def dkwX5_tag_5 : List UInt8 := [182, 0, 52, 87, 27, 172, 42, 180, 0, 9, 27, 16, 6, 33, 136, 182, 0, 90, 42, 89, 180, 0, 26, 4]
abbrev dktX5_tag_5 : List UInt8 := dkwX5_tag_5 ++ dktX5_tag_6
def dkwX5_tag_4 : List UInt8 := [167, 0, 4, 9, 66, 42, 5, 182, 0, 49, 153, 0, 11, 33, 20, 0, 127, 148, 158, 0, 10, 42]
abbrev dktX5_tag_4 : List UInt8 := dkwX5_tag_4 ++ dktX5_tag_5
def dkwX5_tag_3 : List UInt8 := [27, 8, 28, 182, 0, 90, 42, 5, 182, 0, 49, 153, 0, 14, 42, 42, 180, 0, 26, 182, 0, 123]
abbrev dktX5_tag_3 : List UInt8 := dkwX5_tag_3 ++ dktX5_tag_4
def dkwX5_tag_2 : List UInt8 := [153, 0, 8, 4, 61, 167, 0, 15, 42, 17, 0, 155, 182, 0, 73, 153, 0, 5, 6, 61, 42, 180, 0, 9]
abbrev dktX5_tag_2 : List UInt8 := dkwX5_tag_2 ++ dktX5_tag_3
def dkwX5_tag_1 : List UInt8 := [5, 61, 42, 17, 0, 170, 182, 0, 73, 153, 0, 8, 3, 61, 167, 0, 29, 42, 16, 103, 182, 0, 73]
abbrev dktX5_tag_1 : List UInt8 := dkwX5_tag_1 ++ dktX5_tag_2
def dkwX5_tag_0 : List UInt8 := [42, 180, 0, 9, 16, 20, 42, 180, 0, 26, 182, 0, 80, 60, 42, 89, 180, 0, 26, 4, 96, 181, 0, 26]
abbrev dktX5_tag_0 : List UInt8 := dkwX5_tag_0 ++ dktX5_tag_1
theorem dksX5_tag_0 : cX5_tag.data.toList.drop 0 = dktX5_tag_0 := by decide +kernel
theorem dksX5_tag_1 : cX5_tag.data.toList.drop 24 = dktX5_tag_1 := dk_seg dksX5_tag_0 24 rfl rfl
theorem dksX5_tag_2 : cX5_tag.data.toList.drop 47 = dktX5_tag_2 := dk_seg dksX5_tag_1 23 rfl rfl
theorem dksX5_tag_3 : cX5_tag.data.toList.drop 71 = dktX5_tag_3 := dk_seg dksX5_tag_2 24 rfl rfl
theorem dksX5_tag_4 : cX5_tag.data.toList.drop 93 = dktX5_tag_4 := dk_seg dksX5_tag_3 22 rfl rfl
theorem dksX5_tag_5 : cX5_tag.data.toList.drop 115 = dktX5_tag_5 := dk_seg dksX5_tag_4 22 rfl rfl
theorem dksX5_tag_6 : cX5_tag.data.toList.drop 139 = dktX5_tag_6 := dk_seg dksX5_tag_5 24 rfl rfl
theorem dksX5_tag_7 : cX5_tag.data.toList.drop 161 = dktX5_tag_7 := dk_seg dksX5_tag_6 22 rfl rfl
theorem dksX5_tag_8 : cX5_tag.data.toList.drop 184 = dktX5_tag_8 := dk_seg dksX5_tag_7 23 rfl rfl
theorem dX5_tag_0 : decode cX5_tag 0 = .ok (.aload_n 0, 1) := dk_42 (dk_at dksX5_tag_0 0 rfl rfl)
theorem dX5_tag_1 : decode cX5_tag 1 = .ok (.getfield 9, 3) := dk_180 0 9 (dk_at dksX5_tag_0 1 rfl rfl)
theorem dX5_tag_4 : decode cX5_tag 4 = .ok (.bipush 20, 2) := dk_16 20 (dk_at dksX5_tag_0 4 rfl rfl)
theorem dX5_tag_6 : decode cX5_tag 6 = .ok (.aload_n 0, 1) := dk_42 (dk_at dksX5_tag_0 6 rfl rfl)
theorem dX5_tag_7 : decode cX5_tag 7 = .ok (.getfield 26, 3) := dk_180 0 26 (dk_at dksX5_tag_0 7 rfl rfl)
theorem dX5_tag_10 : decode cX5_tag 10 = .ok (.invokevirtual 80, 3) := dk_182 0 80 (dk_at dksX5_tag_0 10 rfl rfl)
theorem dX5_tag_13 : decode cX5_tag 13 = .ok (.istore_n 1, 1) := dk_60 (dk_at dksX5_tag_0 13 rfl rfl)
theorem dX5_tag_14 : decode cX5_tag 14 = .ok (.aload_n 0, 1) := dk_42 (dk_at dksX5_tag_0 14 rfl rfl)
theorem dX5_tag_15 : decode cX5_tag 15 = .ok (.dup, 1) := dk_89 (dk_at dksX5_tag_0 15 rfl rfl)
theorem dX5_tag_16 : decode cX5_tag 16 = .ok (.getfield 26, 3) := dk_180 0 26 (dk_at dksX5_tag_0 16 rfl rfl)
theorem dX5_tag_19 : decode cX5_tag 19 = .ok (.iconst 1, 1) := dk_4 (dk_at dksX5_tag_0 19 rfl rfl)
theorem dX5_tag_20 : decode cX5_tag 20 = .ok (.iadd, 1) := dk_96 (dk_at dksX5_tag_0 20 rfl rfl)
theorem dX5_tag_21 : decode cX5_tag 21 = .ok (.putfield 26, 3) := dk_181 0 26 (dk_at dksX5_tag_0 21 rfl rfl)
theorem dX5_tag_24 : decode cX5_tag 24 = .ok (.iconst 2, 1) := dk_5 (dk_at dksX5_tag_1 0 rfl rfl)
theorem dX5_tag_25 : decode cX5_tag 25 = .ok (.istore_n 2, 1) := dk_61 (dk_at dksX5_tag_1 1 rfl rfl)
theorem dX5_tag_26 : decode cX5_tag 26 = .ok (.aload_n 0, 1) := dk_42 (dk_at dksX5_tag_1 2 rfl rfl)
theorem dX5_tag_27 : decode cX5_tag 27 = .ok (.sipush 170, 3) := dk_17 0 170 (dk_at dksX5_tag_1 3 rfl rfl)
theorem dX5_tag_30 : decode cX5_tag 30 = .ok (.invokevirtual 73, 3) := dk_182 0 73 (dk_at dksX5_tag_1 6 rfl rfl)
theorem dX5_tag_33 : decode cX5_tag 33 = .ok (.ifCond .eq 8, 3) := dk_153 0 8 (dk_at dksX5_tag_1 9 rfl rfl)
theorem dX5_tag_36 : decode cX5_tag 36 = .ok (.iconst 0, 1) := dk_3 (dk_at dksX5_tag_1 12 rfl rfl)
theorem dX5_tag_37 : decode cX5_tag 37 = .ok (.istore_n 2, 1) := dk_61 (dk_at dksX5_tag_1 13 rfl rfl)
theorem dX5_tag_38 : decode cX5_tag 38 = .ok (.goto 29, 3) := dk_167 0 29 (dk_at dksX5_tag_1 14 rfl rfl)
theorem dX5_tag_41 : decode cX5_tag 41 = .ok (.aload_n 0, 1) := dk_42 (dk_at dksX5_tag_1 17 rfl rfl)
theorem dX5_tag_42 : decode cX5_tag 42 = .ok (.bipush 103, 2) := dk_16 103 (dk_at dksX5_tag_1 18 rfl rfl)
theorem dX5_tag_44 : decode cX5_tag 44 = .ok (.invokevirtual 73, 3) := dk_182 0 73 (dk_at dksX5_tag_1 20 rfl rfl)
theorem dX5_tag_47 : decode cX5_tag 47 = .ok (.ifCond .eq 8, 3) := dk_153 0 8 (dk_at dksX5_tag_2 0 rfl rfl)
theorem dX5_tag_50 : decode cX5_tag 50 = .ok (.iconst 1, 1) := dk_4 (dk_at dksX5_tag_2 3 rfl rfl)
theorem dX5_tag_51 : decode cX5_tag 51 = .ok (.istore_n 2, 1) := dk_61 (dk_at dksX5_tag_2 4 rfl rfl)
theorem dX5_tag_52 : decode cX5_tag 52 = .ok (.goto 15, 3) := dk_167 0 15 (dk_at dksX5_tag_2 5 rfl rfl)
theorem dX5_tag_55 : decode cX5_tag 55 = .ok (.aload_n 0, 1) := dk_42 (dk_at dksX5_tag_2 8 rfl rfl)
theorem dX5_tag_56 : decode cX5_tag 56 = .ok (.sipush 155, 3) := dk_17 0 155 (dk_at dksX5_tag_2 9 rfl rfl)
theorem dX5_tag_59 : decode cX5_tag 59 = .ok (.invokevirtual 73, 3) := dk_182 0 73 (dk_at dksX5_tag_2 12 rfl rfl)
theorem dX5_tag_62 : decode cX5_tag 62 = .ok (.ifCond .eq 5, 3) := dk_153 0 5 (dk_at dksX5_tag_2 15 rfl rfl)
theorem dX5_tag_65 : decode cX5_tag 65 = .ok (.iconst 3, 1) := dk_6 (dk_at dksX5_tag_2 18 rfl rfl)
theorem dX5_tag_66 : decode cX5_tag 66 = .ok (.istore_n 2, 1) := dk_61 (dk_at dksX5_tag_2 19 rfl rfl)
theorem dX5_tag_67 : decode cX5_tag 67 = .ok (.aload_n 0, 1) := dk_42 (dk_at dksX5_tag_2 20 rfl rfl)
theorem dX5_tag_68 : decode cX5_tag 68 = .ok (.getfield 9, 3) := dk_180 0 9 (dk_at dksX5_tag_2 21 rfl rfl)
theorem dX5_tag_71 : decode cX5_tag 71 = .ok (.iload_n 1, 1) := dk_27 (dk_at dksX5_tag_3 0 rfl rfl)
theorem dX5_tag_72 : decode cX5_tag 72 = .ok (.iconst 5, 1) := dk_8 (dk_at dksX5_tag_3 1 rfl rfl)
theorem dX5_tag_73 : decode cX5_tag 73 = .ok (.iload_n 2, 1) := dk_28 (dk_at dksX5_tag_3 2 rfl rfl)
theorem dX5_tag_74 : decode cX5_tag 74 = .ok (.invokevirtual 90, 3) := dk_182 0 90 (dk_at dksX5_tag_3 3 rfl rfl)
theorem dX5_tag_77 : decode cX5_tag 77 = .ok (.aload_n 0, 1) := dk_42 (dk_at dksX5_tag_3 6 rfl rfl)
theorem dX5_tag_78 : decode cX5_tag 78 = .ok (.iconst 2, 1) := dk_5 (dk_at dksX5_tag_3 7 rfl rfl)
theorem dX5_tag_79 : decode cX5_tag 79 = .ok (.invokevirtual 49, 3) := dk_182 0 49 (dk_at dksX5_tag_3 8 rfl rfl)
theorem dX5_tag_82 : decode cX5_tag 82 = .ok (.ifCond .eq 14, 3) := dk_153 0 14 (dk_at dksX5_tag_3 11 rfl rfl)
theorem dX5_tag_85 : decode cX5_tag 85 = .ok (.aload_n 0, 1) := dk_42 (dk_at dksX5_tag_3 14 rfl rfl)
theorem dX5_tag_86 : decode cX5_tag 86 = .ok (.aload_n 0, 1) := dk_42 (dk_at dksX5_tag_3 15 rfl rfl)
theorem dX5_tag_87 : decode cX5_tag 87 = .ok (.getfield 26, 3) := dk_180 0 26 (dk_at dksX5_tag_3 16 rfl rfl)
theorem dX5_tag_90 : decode cX5_tag 90 = .ok (.invokevirtual 123, 3) := dk_182 0 123 (dk_at dksX5_tag_3 19 rfl rfl)
theorem dX5_tag_93 : decode cX5_tag 93 = .ok (.goto 4, 3) := dk_167 0 4 (dk_at dksX5_tag_4 0 rfl rfl)
theorem dX5_tag_96 : decode cX5_tag 96 = .ok (.lconst 0, 1) := dk_9 (dk_at dksX5_tag_4 3 rfl rfl)
theorem dX5_tag_97 : decode cX5_tag 97 = .ok (.lstore_n 3, 1) := dk_66 (dk_at dksX5_tag_4 4 rfl rfl)
theorem dX5_tag_98 : decode cX5_tag 98 = .ok (.aload_n 0, 1) := dk_42 (dk_at dksX5_tag_4 5 rfl rfl)
theorem dX5_tag_99 : decode cX5_tag 99 = .ok (.iconst 2, 1) := dk_5 (dk_at dksX5_tag_4 6 rfl rfl)
theorem dX5_tag_100 : decode cX5_tag 100 = .ok (.invokevirtual 49, 3) := dk_182 0 49 (dk_at dksX5_tag_4 7 rfl rfl)
theorem dX5_tag_103 : decode cX5_tag 103 = .ok (.ifCond .eq 11, 3) := dk_153 0 11 (dk_at dksX5_tag_4 10 rfl rfl)
theorem dX5_tag_106 : decode cX5_tag 106 = .ok (.lload_n 3, 1) := dk_33 (dk_at dksX5_tag_4 13 rfl rfl)
theorem dX5_tag_107 : decode cX5_tag 107 = .ok (.ldc2_w 127, 3) := dk_20 0 127 (dk_at dksX5_tag_4 14 rfl rfl)
theorem dX5_tag_110 : decode cX5_tag 110 = .ok (.lcmp, 1) := dk_148 (dk_at dksX5_tag_4 17 rfl rfl)
theorem dX5_tag_111 : decode cX5_tag 111 = .ok (.ifCond .le 10, 3) := dk_158 0 10 (dk_at dksX5_tag_4 18 rfl rfl)
theorem dX5_tag_114 : decode cX5_tag 114 = .ok (.aload_n 0, 1) := dk_42 (dk_at dksX5_tag_4 21 rfl rfl)
theorem dX5_tag_115 : decode cX5_tag 115 = .ok (.invokevirtual 52, 3) := dk_182 0 52 (dk_at dksX5_tag_5 0 rfl rfl)
theorem dX5_tag_118 : decode cX5_tag 118 = .ok (.pop, 1) := dk_87 (dk_at dksX5_tag_5 3 rfl rfl)
theorem dX5_tag_119 : decode cX5_tag 119 = .ok (.iload_n 1, 1) := dk_27 (dk_at dksX5_tag_5 4 rfl rfl)
theorem dX5_tag_120 : decode cX5_tag 120 = .ok (.ireturn, 1) := dk_172 (dk_at dksX5_tag_5 5 rfl rfl)
theorem dX5_tag_121 : decode cX5_tag 121 = .ok (.aload_n 0, 1) := dk_42 (dk_at dksX5_tag_5 6 rfl rfl)
theorem dX5_tag_122 : decode cX5_tag 122 = .ok (.getfield 9, 3) := dk_180 0 9 (dk_at dksX5_tag_5 7 rfl rfl)
theorem dX5_tag_125 : decode cX5_tag 125 = .ok (.iload_n 1, 1) := dk_27 (dk_at dksX5_tag_5 10 rfl rfl)
theorem dX5_tag_126 : decode cX5_tag 126 = .ok (.bipush 6, 2) := dk_16 6 (dk_at dksX5_tag_5 11 rfl rfl)
theorem dX5_tag_128 : decode cX5_tag 128 = .ok (.lload_n 3, 1) := dk_33 (dk_at dksX5_tag_5 13 rfl rfl)
theorem dX5_tag_129 : decode cX5_tag 129 = .ok (.l2i, 1) := dk_136 (dk_at dksX5_tag_5 14 rfl rfl)
theorem dX5_tag_130 : decode cX5_tag 130 = .ok (.invokevirtual 90, 3) := dk_182 0 90 (dk_at dksX5_tag_5 15 rfl rfl)
theorem dX5_tag_133 : decode cX5_tag 133 = .ok (.aload_n 0, 1) := dk_42 (dk_at dksX5_tag_5 18 rfl rfl)
theorem dX5_tag_134 : decode cX5_tag 134 = .ok (.dup, 1) := dk_89 (dk_at dksX5_tag_5 19 rfl rfl)
theorem dX5_tag_135 : decode cX5_tag 135 = .ok (.getfield 26, 3) := dk_180 0 26 (dk_at dksX5_tag_5 20 rfl rfl)
theorem dX5_tag_138 : decode cX5_tag 138 = .ok (.iconst 1, 1) := dk_4 (dk_at dksX5_tag_5 23 rfl rfl)
theorem dX5_tag_139 : decode cX5_tag 139 = .ok (.iadd, 1) := dk_96 (dk_at dksX5_tag_6 0 rfl rfl)
theorem dX5_tag_140 : decode cX5_tag 140 = .ok (.putfield 26, 3) := dk_181 0 26 (dk_at dksX5_tag_6 1 rfl rfl)
theorem dX5_tag_143 : decode cX5_tag 143 = .ok (.aload_n 0, 1) := dk_42 (dk_at dksX5_tag_6 4 rfl rfl)
theorem dX5_tag_144 : decode cX5_tag 144 = .ok (.bipush 18, 2) := dk_16 18 (dk_at dksX5_tag_6 5 rfl rfl)
theorem dX5_tag_146 : decode cX5_tag 146 = .ok (.invokevirtual 67, 3) := dk_182 0 67 (dk_at dksX5_tag_6 7 rfl rfl)
theorem dX5_tag_149 : decode cX5_tag 149 = .ok (.pop, 1) := dk_87 (dk_at dksX5_tag_6 10 rfl rfl)
theorem dX5_tag_150 : decode cX5_tag 150 = .ok (.aload_n 0, 1) := dk_42 (dk_at dksX5_tag_6 11 rfl rfl)
theorem dX5_tag_151 : decode cX5_tag 151 = .ok (.sipush 134, 3) := dk_17 0 134 (dk_at dksX5_tag_6 12 rfl rfl)
theorem dX5_tag_154 : decode cX5_tag 154 = .ok (.invokevirtual 73, 3) := dk_182 0 73 (dk_at dksX5_tag_6 15 rfl rfl)
theorem dX5_tag_157 : decode cX5_tag 157 = .ok (.ifCond .eq 17, 3) := dk_153 0 17 (dk_at dksX5_tag_6 18 rfl rfl)
theorem dX5_tag_160 : decode cX5_tag 160 = .ok (.aload_n 0, 1) := dk_42 (dk_at dksX5_tag_6 21 rfl rfl)
theorem dX5_tag_161 : decode cX5_tag 161 = .ok (.getfield 9, 3) := dk_180 0 9 (dk_at dksX5_tag_7 0 rfl rfl)
theorem dX5_tag_164 : decode cX5_tag 164 = .ok (.iload_n 1, 1) := dk_27 (dk_at dksX5_tag_7 3 rfl rfl)
theorem dX5_tag_165 : decode cX5_tag 165 = .ok (.bipush 7, 2) := dk_16 7 (dk_at dksX5_tag_7 4 rfl rfl)
theorem dX5_tag_167 : decode cX5_tag 167 = .ok (.iconst 1, 1) := dk_4 (dk_at dksX5_tag_7 6 rfl rfl)
theorem dX5_tag_168 : decode cX5_tag 168 = .ok (.invokevirtual 90, 3) := dk_182 0 90 (dk_at dksX5_tag_7 7 rfl rfl)
theorem dX5_tag_171 : decode cX5_tag 171 = .ok (.goto 23, 3) := dk_167 0 23 (dk_at dksX5_tag_7 10 rfl rfl)
theorem dX5_tag_174 : decode cX5_tag 174 = .ok (.aload_n 0, 1) := dk_42 (dk_at dksX5_tag_7 13 rfl rfl)
theorem dX5_tag_175 : decode cX5_tag 175 = .ok (.bipush 123, 2) := dk_16 123 (dk_at dksX5_tag_7 14 rfl rfl)
theorem dX5_tag_177 : decode cX5_tag 177 = .ok (.invokevirtual 73, 3) := dk_182 0 73 (dk_at dksX5_tag_7 16 rfl rfl)
theorem dX5_tag_180 : decode cX5_tag 180 = .ok (.ifCond .eq 14, 3) := dk_153 0 14 (dk_at dksX5_tag_7 19 rfl rfl)
theorem dX5_tag_183 : decode cX5_tag 183 = .ok (.aload_n 0, 1) := dk_42 (dk_at dksX5_tag_7 22 rfl rfl)
theorem dX5_tag_184 : decode cX5_tag 184 = .ok (.getfield 9, 3) := dk_180 0 9 (dk_at dksX5_tag_8 0 rfl rfl)
theorem dX5_tag_187 : decode cX5_tag 187 = .ok (.iload_n 1, 1) := dk_27 (dk_at dksX5_tag_8 3 rfl rfl)
theorem dX5_tag_188 : decode cX5_tag 188 = .ok (.bipush 7, 2) := dk_16 7 (dk_at dksX5_tag_8 4 rfl rfl)
theorem dX5_tag_190 : decode cX5_tag 190 = .ok (.iconst 2, 1) := dk_5 (dk_at dksX5_tag_8 6 rfl rfl)
theorem dX5_tag_191 : decode cX5_tag 191 = .ok (.invokevirtual 90, 3) := dk_182 0 90 (dk_at dksX5_tag_8 7 rfl rfl)
theorem dX5_tag_194 : decode cX5_tag 194 = .ok (.iload_n 1, 1) := dk_27 (dk_at dksX5_tag_8 10 rfl rfl)
theorem dX5_tag_195 : decode cX5_tag 195 = .ok (.ireturn, 1) := dk_172 (dk_at dksX5_tag_8 11 rfl rfl)
abbrev cX5_small : ByteArray := prog_5_method_16_code
def yX5_small : MethodName := ⟨RX5, "small", "(I)J"⟩
def dkwX5_small_2 : List UInt8 := [21, 4, 182, 0, 140, 133, 97, 20, 0, 144, 101, 65, 132, 4, 1, 167, 255, 208, 32, 173]
abbrev dktX5_small_2 : List UInt8 := dkwX5_small_2 ++ []
def dkwX5_small_1 : List UInt8 := [162, 0, 41, 32, 20, 0, 132, 148, 156, 0, 33, 20, 0, 134, 32, 105, 42, 180, 0, 22, 182, 0, 136]
abbrev dktX5_small_1 : List UInt8 := dkwX5_small_1 ++ dktX5_small_2
def dkwX5_small_0 : List UInt8 := [9, 65, 42, 180, 0, 22, 27, 182, 0, 35, 54, 4, 21, 4, 42, 180, 0, 22, 27, 182, 0, 129]
abbrev dktX5_small_0 : List UInt8 := dkwX5_small_0 ++ dktX5_small_1
theorem dksX5_small_0 : cX5_small.data.toList.drop 0 = dktX5_small_0 := by decide +kernel
theorem dksX5_small_1 : cX5_small.data.toList.drop 22 = dktX5_small_1 := dk_seg dksX5_small_0 22 rfl rfl
theorem dksX5_small_2 : cX5_small.data.toList.drop 45 = dktX5_small_2 := dk_seg dksX5_small_1 23 rfl rfl
theorem dX5_small_0 : decode cX5_small 0 = .ok (.lconst 0, 1) := dk_9 (dk_at dksX5_small_0 0 rfl rfl)
theorem dX5_small_1 : decode cX5_small 1 = .ok (.lstore_n 2, 1) := dk_65 (dk_at dksX5_small_0 1 rfl rfl)
theorem dX5_small_2 : decode cX5_small 2 = .ok (.aload_n 0, 1) := dk_42 (dk_at dksX5_small_0 2 rfl rfl)
theorem dX5_small_3 : decode cX5_small 3 = .ok (.getfield 22, 3) := dk_180 0 22 (dk_at dksX5_small_0 3 rfl rfl)
theorem dX5_small_6 : decode cX5_small 6 = .ok (.iload_n 1, 1) := dk_27 (dk_at dksX5_small_0 6 rfl rfl)
theorem dX5_small_7 : decode cX5_small 7 = .ok (.invokevirtual 35, 3) := dk_182 0 35 (dk_at dksX5_small_0 7 rfl rfl)
theorem dX5_small_10 : decode cX5_small 10 = .ok (.istore 4, 2) := dk_54 4 (dk_at dksX5_small_0 10 rfl rfl)
theorem dX5_small_12 : decode cX5_small 12 = .ok (.iload 4, 2) := dk_21 4 (dk_at dksX5_small_0 12 rfl rfl)
theorem dX5_small_14 : decode cX5_small 14 = .ok (.aload_n 0, 1) := dk_42 (dk_at dksX5_small_0 14 rfl rfl)
theorem dX5_small_15 : decode cX5_small 15 = .ok (.getfield 22, 3) := dk_180 0 22 (dk_at dksX5_small_0 15 rfl rfl)
theorem dX5_small_18 : decode cX5_small 18 = .ok (.iload_n 1, 1) := dk_27 (dk_at dksX5_small_0 18 rfl rfl)
theorem dX5_small_19 : decode cX5_small 19 = .ok (.invokevirtual 129, 3) := dk_182 0 129 (dk_at dksX5_small_0 19 rfl rfl)
theorem dX5_small_22 : decode cX5_small 22 = .ok (.if_icmp .ge 41, 3) := dk_162 0 41 (dk_at dksX5_small_1 0 rfl rfl)
theorem dX5_small_25 : decode cX5_small 25 = .ok (.lload_n 2, 1) := dk_32 (dk_at dksX5_small_1 3 rfl rfl)
theorem dX5_small_26 : decode cX5_small 26 = .ok (.ldc2_w 132, 3) := dk_20 0 132 (dk_at dksX5_small_1 4 rfl rfl)
theorem dX5_small_29 : decode cX5_small 29 = .ok (.lcmp, 1) := dk_148 (dk_at dksX5_small_1 7 rfl rfl)
theorem dX5_small_30 : decode cX5_small 30 = .ok (.ifCond .ge 33, 3) := dk_156 0 33 (dk_at dksX5_small_1 8 rfl rfl)
theorem dX5_small_33 : decode cX5_small 33 = .ok (.ldc2_w 134, 3) := dk_20 0 134 (dk_at dksX5_small_1 11 rfl rfl)
theorem dX5_small_36 : decode cX5_small 36 = .ok (.lload_n 2, 1) := dk_32 (dk_at dksX5_small_1 14 rfl rfl)
theorem dX5_small_37 : decode cX5_small 37 = .ok (.lmul, 1) := dk_105 (dk_at dksX5_small_1 15 rfl rfl)
theorem dX5_small_38 : decode cX5_small 38 = .ok (.aload_n 0, 1) := dk_42 (dk_at dksX5_small_1 16 rfl rfl)
theorem dX5_small_39 : decode cX5_small 39 = .ok (.getfield 22, 3) := dk_180 0 22 (dk_at dksX5_small_1 17 rfl rfl)
theorem dX5_small_42 : decode cX5_small 42 = .ok (.invokevirtual 136, 3) := dk_182 0 136 (dk_at dksX5_small_1 20 rfl rfl)
theorem dX5_small_45 : decode cX5_small 45 = .ok (.iload 4, 2) := dk_21 4 (dk_at dksX5_small_2 0 rfl rfl)
theorem dX5_small_47 : decode cX5_small 47 = .ok (.invokevirtual 140, 3) := dk_182 0 140 (dk_at dksX5_small_2 2 rfl rfl)
theorem dX5_small_50 : decode cX5_small 50 = .ok (.i2l, 1) := dk_133 (dk_at dksX5_small_2 5 rfl rfl)
theorem dX5_small_51 : decode cX5_small 51 = .ok (.ladd, 1) := dk_97 (dk_at dksX5_small_2 6 rfl rfl)
theorem dX5_small_52 : decode cX5_small 52 = .ok (.ldc2_w 144, 3) := dk_20 0 144 (dk_at dksX5_small_2 7 rfl rfl)
theorem dX5_small_55 : decode cX5_small 55 = .ok (.lsub, 1) := dk_101 (dk_at dksX5_small_2 10 rfl rfl)
theorem dX5_small_56 : decode cX5_small 56 = .ok (.lstore_n 2, 1) := dk_65 (dk_at dksX5_small_2 11 rfl rfl)
theorem dX5_small_57 : decode cX5_small 57 = .ok (.iinc 4 1, 3) := dk_132 4 1 (dk_at dksX5_small_2 12 rfl rfl)
theorem dX5_small_60 : decode cX5_small 60 = .ok (.goto (-48), 3) := dk_167 255 208 (dk_at dksX5_small_2 15 rfl rfl)
theorem dX5_small_63 : decode cX5_small 63 = .ok (.lload_n 2, 1) := dk_32 (dk_at dksX5_small_2 18 rfl rfl)
theorem dX5_small_64 : decode cX5_small 64 = .ok (.lreturn, 1) := dk_173 (dk_at dksX5_small_2 19 rfl rfl)
abbrev cX5_base : ByteArray := prog_5_method_17_code
def yX5_base : MethodName := ⟨RX5, "base", "(II)V"⟩
def dkwX5_base_13 : List UInt8 := [182, 0, 52, 87, 177]
abbrev dktX5_base_13 : List UInt8 := dkwX5_base_13 ++ []
def dkwX5_base_12 : List UInt8 := [42, 6, 42, 180, 0, 26, 182, 0, 45, 87, 167, 0, 18, 42, 89, 180, 0, 26, 4, 100, 181, 0, 26, 42]
abbrev dktX5_base_12 : List UInt8 := dkwX5_base_12 ++ dktX5_base_13
def dkwX5_base_11 : List UInt8 := [180, 0, 9, 27, 16, 7, 42, 180, 0, 26, 4, 100, 182, 0, 90, 42, 16, 15, 182, 0, 49, 153, 0, 31]
abbrev dktX5_base_11 : List UInt8 := dkwX5_base_11 ++ dktX5_base_12
def dkwX5_base_10 : List UInt8 := [182, 0, 90, 42, 16, 15, 182, 0, 67, 153, 0, 66, 42, 27, 28, 3, 182, 0, 160, 167, 0, 56, 42]
abbrev dktX5_base_10 : List UInt8 := dkwX5_base_10 ++ dktX5_base_11
def dkwX5_base_9 : List UInt8 := [167, 0, 99, 42, 27, 16, 13, 16, 15, 28, 182, 0, 156, 167, 0, 86, 42, 180, 0, 9, 27, 3, 16, 16]
abbrev dktX5_base_9 : List UInt8 := dkwX5_base_9 ++ dktX5_base_10
def dkwX5_base_8 : List UInt8 := [42, 180, 0, 9, 27, 3, 16, 11, 182, 0, 90, 167, 0, 112, 42, 27, 16, 12, 16, 14, 28, 182, 0, 156]
abbrev dktX5_base_8 : List UInt8 := dkwX5_base_8 ++ dktX5_base_9
def dkwX5_base_7 : List UInt8 := [27, 3, 16, 9, 182, 0, 90, 167, 0, 140, 42, 180, 0, 9, 27, 3, 16, 10, 182, 0, 90, 167, 0, 126]
abbrev dktX5_base_7 : List UInt8 := dkwX5_base_7 ++ dktX5_base_8
def dkwX5_base_6 : List UInt8 := [182, 0, 90, 167, 0, 168, 42, 180, 0, 9, 27, 3, 16, 8, 182, 0, 90, 167, 0, 154, 42, 180, 0, 9]
abbrev dktX5_base_6 : List UInt8 := dkwX5_base_6 ++ dktX5_base_7
def dkwX5_base_5 : List UInt8 := [182, 0, 90, 42, 17, 0, 133, 182, 0, 67, 87, 167, 0, 182, 42, 180, 0, 9, 27, 3, 16, 7]
abbrev dktX5_base_5 : List UInt8 := dkwX5_base_5 ++ dktX5_base_6
def dkwX5_base_4 : List UInt8 := [182, 0, 149, 167, 0, 213, 42, 27, 8, 182, 0, 153, 167, 0, 204, 42, 180, 0, 9, 27, 3, 16, 6]
abbrev dktX5_base_4 : List UInt8 := dkwX5_base_4 ++ dktX5_base_5
def dkwX5_base_3 : List UInt8 := [167, 0, 239, 42, 27, 5, 182, 0, 146, 167, 0, 230, 42, 27, 6, 182, 0, 146, 167, 0, 221, 42, 27]
abbrev dktX5_base_3 : List UInt8 := dkwX5_base_3 ++ dktX5_base_4
def dkwX5_base_2 : List UInt8 := [42, 180, 0, 9, 27, 3, 3, 182, 0, 90, 167, 0, 252, 42, 180, 0, 9, 27, 3, 4, 182, 0, 90]
abbrev dktX5_base_2 : List UInt8 := dkwX5_base_2 ++ dktX5_base_3
def dkwX5_base_1 : List UInt8 := [171, 0, 0, 0, 0, 0, 1, 131, 0, 0, 0, 16, 0, 0, 0, 1, 0, 0, 1, 93, 0, 0, 0, 106, 0, 0, 0, 184, 0, 0, 0, 108, 0, 0, 0, 140, 0, 0, 0, 111, 0, 0, 1, 63, 0, 0, 0, 121, 0, 0, 0, 175, 0, 0, 0, 130, 0, 0, 1, 23, 0, 0, 0, 132, 0, 0, 0, 251, 0, 0, 0, 139, 0, 0, 0, 166, 0, 0, 0, 145, 0, 0, 0, 153, 0, 0, 0, 147, 0, 0, 0, 201, 0, 0, 0, 148, 0, 0, 0, 192, 0, 0, 0, 156, 0, 0, 0, 237, 0, 0, 0, 159, 0, 0, 1, 37, 0, 0, 0, 160, 0, 0, 1, 50, 0, 0, 0, 171, 0, 0, 1, 9, 0, 0, 0, 172, 0, 0, 0, 223]
abbrev dktX5_base_1 : List UInt8 := dkwX5_base_1 ++ dktX5_base_2
def dkwX5_base_0 : List UInt8 := [42, 182, 0, 38, 62, 42, 89, 180, 0, 26, 4, 96, 181, 0, 26, 29]
abbrev dktX5_base_0 : List UInt8 := dkwX5_base_0 ++ dktX5_base_1
theorem dksX5_base_0 : cX5_base.data.toList.drop 0 = dktX5_base_0 := by decide +kernel
theorem dksX5_base_1 : cX5_base.data.toList.drop 16 = dktX5_base_1 := dk_seg dksX5_base_0 16 rfl rfl
theorem dksX5_base_2 : cX5_base.data.toList.drop 156 = dktX5_base_2 := dk_seg dksX5_base_1 140 rfl rfl
theorem dksX5_base_3 : cX5_base.data.toList.drop 179 = dktX5_base_3 := dk_seg dksX5_base_2 23 rfl rfl
theorem dksX5_base_4 : cX5_base.data.toList.drop 202 = dktX5_base_4 := dk_seg dksX5_base_3 23 rfl rfl
theorem dksX5_base_5 : cX5_base.data.toList.drop 225 = dktX5_base_5 := dk_seg dksX5_base_4 23 rfl rfl
theorem dksX5_base_6 : cX5_base.data.toList.drop 247 = dktX5_base_6 := dk_seg dksX5_base_5 22 rfl rfl
theorem dksX5_base_7 : cX5_base.data.toList.drop 271 = dktX5_base_7 := dk_seg dksX5_base_6 24 rfl rfl
theorem dksX5_base_8 : cX5_base.data.toList.drop 295 = dktX5_base_8 := dk_seg dksX5_base_7 24 rfl rfl
theorem dksX5_base_9 : cX5_base.data.toList.drop 319 = dktX5_base_9 := dk_seg dksX5_base_8 24 rfl rfl
theorem dksX5_base_10 : cX5_base.data.toList.drop 343 = dktX5_base_10 := dk_seg dksX5_base_9 24 rfl rfl
theorem dksX5_base_11 : cX5_base.data.toList.drop 366 = dktX5_base_11 := dk_seg dksX5_base_10 23 rfl rfl
theorem dksX5_base_12 : cX5_base.data.toList.drop 390 = dktX5_base_12 := dk_seg dksX5_base_11 24 rfl rfl
theorem dksX5_base_13 : cX5_base.data.toList.drop 414 = dktX5_base_13 := dk_seg dksX5_base_12 24 rfl rfl
theorem dX5_base_0 : decode cX5_base 0 = .ok (.aload_n 0, 1) := dk_42 (dk_at dksX5_base_0 0 rfl rfl)
theorem dX5_base_1 : decode cX5_base 1 = .ok (.invokevirtual 38, 3) := dk_182 0 38 (dk_at dksX5_base_0 1 rfl rfl)
theorem dX5_base_4 : decode cX5_base 4 = .ok (.istore_n 3, 1) := dk_62 (dk_at dksX5_base_0 4 rfl rfl)
theorem dX5_base_5 : decode cX5_base 5 = .ok (.aload_n 0, 1) := dk_42 (dk_at dksX5_base_0 5 rfl rfl)
theorem dX5_base_6 : decode cX5_base 6 = .ok (.dup, 1) := dk_89 (dk_at dksX5_base_0 6 rfl rfl)
theorem dX5_base_7 : decode cX5_base 7 = .ok (.getfield 26, 3) := dk_180 0 26 (dk_at dksX5_base_0 7 rfl rfl)
theorem dX5_base_10 : decode cX5_base 10 = .ok (.iconst 1, 1) := dk_4 (dk_at dksX5_base_0 10 rfl rfl)
theorem dX5_base_11 : decode cX5_base 11 = .ok (.iadd, 1) := dk_96 (dk_at dksX5_base_0 11 rfl rfl)
theorem dX5_base_12 : decode cX5_base 12 = .ok (.putfield 26, 3) := dk_181 0 26 (dk_at dksX5_base_0 12 rfl rfl)
theorem dX5_base_15 : decode cX5_base 15 = .ok (.iload_n 3, 1) := dk_29 (dk_at dksX5_base_0 15 rfl rfl)
theorem dX5_base_16 : decode cX5_base 16 = .ok (.lookupswitch 387 #[(1, 349), (106, 184), (108, 140), (111, 319), (121, 175), (130, 279), (132, 251), (139, 166), (145, 153), (147, 201), (148, 192), (156, 237), (159, 293), (160, 306), (171, 265), (172, 223)], 140) := by decide +kernel
theorem dX5_base_156 : decode cX5_base 156 = .ok (.aload_n 0, 1) := dk_42 (dk_at dksX5_base_2 0 rfl rfl)
theorem dX5_base_157 : decode cX5_base 157 = .ok (.getfield 9, 3) := dk_180 0 9 (dk_at dksX5_base_2 1 rfl rfl)
theorem dX5_base_160 : decode cX5_base 160 = .ok (.iload_n 1, 1) := dk_27 (dk_at dksX5_base_2 4 rfl rfl)
theorem dX5_base_161 : decode cX5_base 161 = .ok (.iconst 0, 1) := dk_3 (dk_at dksX5_base_2 5 rfl rfl)
theorem dX5_base_162 : decode cX5_base 162 = .ok (.iconst 0, 1) := dk_3 (dk_at dksX5_base_2 6 rfl rfl)
theorem dX5_base_163 : decode cX5_base 163 = .ok (.invokevirtual 90, 3) := dk_182 0 90 (dk_at dksX5_base_2 7 rfl rfl)
theorem dX5_base_166 : decode cX5_base 166 = .ok (.goto 252, 3) := dk_167 0 252 (dk_at dksX5_base_2 10 rfl rfl)
theorem dX5_base_169 : decode cX5_base 169 = .ok (.aload_n 0, 1) := dk_42 (dk_at dksX5_base_2 13 rfl rfl)
theorem dX5_base_170 : decode cX5_base 170 = .ok (.getfield 9, 3) := dk_180 0 9 (dk_at dksX5_base_2 14 rfl rfl)
theorem dX5_base_173 : decode cX5_base 173 = .ok (.iload_n 1, 1) := dk_27 (dk_at dksX5_base_2 17 rfl rfl)
theorem dX5_base_174 : decode cX5_base 174 = .ok (.iconst 0, 1) := dk_3 (dk_at dksX5_base_2 18 rfl rfl)
theorem dX5_base_175 : decode cX5_base 175 = .ok (.iconst 1, 1) := dk_4 (dk_at dksX5_base_2 19 rfl rfl)
theorem dX5_base_176 : decode cX5_base 176 = .ok (.invokevirtual 90, 3) := dk_182 0 90 (dk_at dksX5_base_2 20 rfl rfl)
theorem dX5_base_179 : decode cX5_base 179 = .ok (.goto 239, 3) := dk_167 0 239 (dk_at dksX5_base_3 0 rfl rfl)
theorem dX5_base_182 : decode cX5_base 182 = .ok (.aload_n 0, 1) := dk_42 (dk_at dksX5_base_3 3 rfl rfl)
theorem dX5_base_183 : decode cX5_base 183 = .ok (.iload_n 1, 1) := dk_27 (dk_at dksX5_base_3 4 rfl rfl)
theorem dX5_base_184 : decode cX5_base 184 = .ok (.iconst 2, 1) := dk_5 (dk_at dksX5_base_3 5 rfl rfl)
theorem dX5_base_185 : decode cX5_base 185 = .ok (.invokevirtual 146, 3) := dk_182 0 146 (dk_at dksX5_base_3 6 rfl rfl)
theorem dX5_base_188 : decode cX5_base 188 = .ok (.goto 230, 3) := dk_167 0 230 (dk_at dksX5_base_3 9 rfl rfl)
theorem dX5_base_191 : decode cX5_base 191 = .ok (.aload_n 0, 1) := dk_42 (dk_at dksX5_base_3 12 rfl rfl)
theorem dX5_base_192 : decode cX5_base 192 = .ok (.iload_n 1, 1) := dk_27 (dk_at dksX5_base_3 13 rfl rfl)
theorem dX5_base_193 : decode cX5_base 193 = .ok (.iconst 3, 1) := dk_6 (dk_at dksX5_base_3 14 rfl rfl)
theorem dX5_base_194 : decode cX5_base 194 = .ok (.invokevirtual 146, 3) := dk_182 0 146 (dk_at dksX5_base_3 15 rfl rfl)
theorem dX5_base_197 : decode cX5_base 197 = .ok (.goto 221, 3) := dk_167 0 221 (dk_at dksX5_base_3 18 rfl rfl)
theorem dX5_base_200 : decode cX5_base 200 = .ok (.aload_n 0, 1) := dk_42 (dk_at dksX5_base_3 21 rfl rfl)
theorem dX5_base_201 : decode cX5_base 201 = .ok (.iload_n 1, 1) := dk_27 (dk_at dksX5_base_3 22 rfl rfl)
theorem dX5_base_202 : decode cX5_base 202 = .ok (.invokevirtual 149, 3) := dk_182 0 149 (dk_at dksX5_base_4 0 rfl rfl)
theorem dX5_base_205 : decode cX5_base 205 = .ok (.goto 213, 3) := dk_167 0 213 (dk_at dksX5_base_4 3 rfl rfl)
theorem dX5_base_208 : decode cX5_base 208 = .ok (.aload_n 0, 1) := dk_42 (dk_at dksX5_base_4 6 rfl rfl)
theorem dX5_base_209 : decode cX5_base 209 = .ok (.iload_n 1, 1) := dk_27 (dk_at dksX5_base_4 7 rfl rfl)
theorem dX5_base_210 : decode cX5_base 210 = .ok (.iconst 5, 1) := dk_8 (dk_at dksX5_base_4 8 rfl rfl)
theorem dX5_base_211 : decode cX5_base 211 = .ok (.invokevirtual 153, 3) := dk_182 0 153 (dk_at dksX5_base_4 9 rfl rfl)
theorem dX5_base_214 : decode cX5_base 214 = .ok (.goto 204, 3) := dk_167 0 204 (dk_at dksX5_base_4 12 rfl rfl)
theorem dX5_base_217 : decode cX5_base 217 = .ok (.aload_n 0, 1) := dk_42 (dk_at dksX5_base_4 15 rfl rfl)
theorem dX5_base_218 : decode cX5_base 218 = .ok (.getfield 9, 3) := dk_180 0 9 (dk_at dksX5_base_4 16 rfl rfl)
theorem dX5_base_221 : decode cX5_base 221 = .ok (.iload_n 1, 1) := dk_27 (dk_at dksX5_base_4 19 rfl rfl)
theorem dX5_base_222 : decode cX5_base 222 = .ok (.iconst 0, 1) := dk_3 (dk_at dksX5_base_4 20 rfl rfl)
theorem dX5_base_223 : decode cX5_base 223 = .ok (.bipush 6, 2) := dk_16 6 (dk_at dksX5_base_4 21 rfl rfl)
theorem dX5_base_225 : decode cX5_base 225 = .ok (.invokevirtual 90, 3) := dk_182 0 90 (dk_at dksX5_base_5 0 rfl rfl)
theorem dX5_base_228 : decode cX5_base 228 = .ok (.aload_n 0, 1) := dk_42 (dk_at dksX5_base_5 3 rfl rfl)
theorem dX5_base_229 : decode cX5_base 229 = .ok (.sipush 133, 3) := dk_17 0 133 (dk_at dksX5_base_5 4 rfl rfl)
theorem dX5_base_232 : decode cX5_base 232 = .ok (.invokevirtual 67, 3) := dk_182 0 67 (dk_at dksX5_base_5 7 rfl rfl)
theorem dX5_base_235 : decode cX5_base 235 = .ok (.pop, 1) := dk_87 (dk_at dksX5_base_5 10 rfl rfl)
theorem dX5_base_236 : decode cX5_base 236 = .ok (.goto 182, 3) := dk_167 0 182 (dk_at dksX5_base_5 11 rfl rfl)
theorem dX5_base_239 : decode cX5_base 239 = .ok (.aload_n 0, 1) := dk_42 (dk_at dksX5_base_5 14 rfl rfl)
theorem dX5_base_240 : decode cX5_base 240 = .ok (.getfield 9, 3) := dk_180 0 9 (dk_at dksX5_base_5 15 rfl rfl)
theorem dX5_base_243 : decode cX5_base 243 = .ok (.iload_n 1, 1) := dk_27 (dk_at dksX5_base_5 18 rfl rfl)
theorem dX5_base_244 : decode cX5_base 244 = .ok (.iconst 0, 1) := dk_3 (dk_at dksX5_base_5 19 rfl rfl)
theorem dX5_base_245 : decode cX5_base 245 = .ok (.bipush 7, 2) := dk_16 7 (dk_at dksX5_base_5 20 rfl rfl)
theorem dX5_base_247 : decode cX5_base 247 = .ok (.invokevirtual 90, 3) := dk_182 0 90 (dk_at dksX5_base_6 0 rfl rfl)
theorem dX5_base_250 : decode cX5_base 250 = .ok (.goto 168, 3) := dk_167 0 168 (dk_at dksX5_base_6 3 rfl rfl)
theorem dX5_base_253 : decode cX5_base 253 = .ok (.aload_n 0, 1) := dk_42 (dk_at dksX5_base_6 6 rfl rfl)
theorem dX5_base_254 : decode cX5_base 254 = .ok (.getfield 9, 3) := dk_180 0 9 (dk_at dksX5_base_6 7 rfl rfl)
theorem dX5_base_257 : decode cX5_base 257 = .ok (.iload_n 1, 1) := dk_27 (dk_at dksX5_base_6 10 rfl rfl)
theorem dX5_base_258 : decode cX5_base 258 = .ok (.iconst 0, 1) := dk_3 (dk_at dksX5_base_6 11 rfl rfl)
theorem dX5_base_259 : decode cX5_base 259 = .ok (.bipush 8, 2) := dk_16 8 (dk_at dksX5_base_6 12 rfl rfl)
theorem dX5_base_261 : decode cX5_base 261 = .ok (.invokevirtual 90, 3) := dk_182 0 90 (dk_at dksX5_base_6 14 rfl rfl)
theorem dX5_base_264 : decode cX5_base 264 = .ok (.goto 154, 3) := dk_167 0 154 (dk_at dksX5_base_6 17 rfl rfl)
theorem dX5_base_267 : decode cX5_base 267 = .ok (.aload_n 0, 1) := dk_42 (dk_at dksX5_base_6 20 rfl rfl)
theorem dX5_base_268 : decode cX5_base 268 = .ok (.getfield 9, 3) := dk_180 0 9 (dk_at dksX5_base_6 21 rfl rfl)
theorem dX5_base_271 : decode cX5_base 271 = .ok (.iload_n 1, 1) := dk_27 (dk_at dksX5_base_7 0 rfl rfl)
theorem dX5_base_272 : decode cX5_base 272 = .ok (.iconst 0, 1) := dk_3 (dk_at dksX5_base_7 1 rfl rfl)
theorem dX5_base_273 : decode cX5_base 273 = .ok (.bipush 9, 2) := dk_16 9 (dk_at dksX5_base_7 2 rfl rfl)
theorem dX5_base_275 : decode cX5_base 275 = .ok (.invokevirtual 90, 3) := dk_182 0 90 (dk_at dksX5_base_7 4 rfl rfl)
theorem dX5_base_278 : decode cX5_base 278 = .ok (.goto 140, 3) := dk_167 0 140 (dk_at dksX5_base_7 7 rfl rfl)
theorem dX5_base_281 : decode cX5_base 281 = .ok (.aload_n 0, 1) := dk_42 (dk_at dksX5_base_7 10 rfl rfl)
theorem dX5_base_282 : decode cX5_base 282 = .ok (.getfield 9, 3) := dk_180 0 9 (dk_at dksX5_base_7 11 rfl rfl)
theorem dX5_base_285 : decode cX5_base 285 = .ok (.iload_n 1, 1) := dk_27 (dk_at dksX5_base_7 14 rfl rfl)
theorem dX5_base_286 : decode cX5_base 286 = .ok (.iconst 0, 1) := dk_3 (dk_at dksX5_base_7 15 rfl rfl)
theorem dX5_base_287 : decode cX5_base 287 = .ok (.bipush 10, 2) := dk_16 10 (dk_at dksX5_base_7 16 rfl rfl)
theorem dX5_base_289 : decode cX5_base 289 = .ok (.invokevirtual 90, 3) := dk_182 0 90 (dk_at dksX5_base_7 18 rfl rfl)
theorem dX5_base_292 : decode cX5_base 292 = .ok (.goto 126, 3) := dk_167 0 126 (dk_at dksX5_base_7 21 rfl rfl)
theorem dX5_base_295 : decode cX5_base 295 = .ok (.aload_n 0, 1) := dk_42 (dk_at dksX5_base_8 0 rfl rfl)
theorem dX5_base_296 : decode cX5_base 296 = .ok (.getfield 9, 3) := dk_180 0 9 (dk_at dksX5_base_8 1 rfl rfl)
theorem dX5_base_299 : decode cX5_base 299 = .ok (.iload_n 1, 1) := dk_27 (dk_at dksX5_base_8 4 rfl rfl)
theorem dX5_base_300 : decode cX5_base 300 = .ok (.iconst 0, 1) := dk_3 (dk_at dksX5_base_8 5 rfl rfl)
theorem dX5_base_301 : decode cX5_base 301 = .ok (.bipush 11, 2) := dk_16 11 (dk_at dksX5_base_8 6 rfl rfl)
theorem dX5_base_303 : decode cX5_base 303 = .ok (.invokevirtual 90, 3) := dk_182 0 90 (dk_at dksX5_base_8 8 rfl rfl)
theorem dX5_base_306 : decode cX5_base 306 = .ok (.goto 112, 3) := dk_167 0 112 (dk_at dksX5_base_8 11 rfl rfl)
theorem dX5_base_309 : decode cX5_base 309 = .ok (.aload_n 0, 1) := dk_42 (dk_at dksX5_base_8 14 rfl rfl)
theorem dX5_base_310 : decode cX5_base 310 = .ok (.iload_n 1, 1) := dk_27 (dk_at dksX5_base_8 15 rfl rfl)
theorem dX5_base_311 : decode cX5_base 311 = .ok (.bipush 12, 2) := dk_16 12 (dk_at dksX5_base_8 16 rfl rfl)
theorem dX5_base_313 : decode cX5_base 313 = .ok (.bipush 14, 2) := dk_16 14 (dk_at dksX5_base_8 18 rfl rfl)
theorem dX5_base_315 : decode cX5_base 315 = .ok (.iload_n 2, 1) := dk_28 (dk_at dksX5_base_8 20 rfl rfl)
theorem dX5_base_316 : decode cX5_base 316 = .ok (.invokevirtual 156, 3) := dk_182 0 156 (dk_at dksX5_base_8 21 rfl rfl)
theorem dX5_base_319 : decode cX5_base 319 = .ok (.goto 99, 3) := dk_167 0 99 (dk_at dksX5_base_9 0 rfl rfl)
theorem dX5_base_322 : decode cX5_base 322 = .ok (.aload_n 0, 1) := dk_42 (dk_at dksX5_base_9 3 rfl rfl)
theorem dX5_base_323 : decode cX5_base 323 = .ok (.iload_n 1, 1) := dk_27 (dk_at dksX5_base_9 4 rfl rfl)
theorem dX5_base_324 : decode cX5_base 324 = .ok (.bipush 13, 2) := dk_16 13 (dk_at dksX5_base_9 5 rfl rfl)
theorem dX5_base_326 : decode cX5_base 326 = .ok (.bipush 15, 2) := dk_16 15 (dk_at dksX5_base_9 7 rfl rfl)
theorem dX5_base_328 : decode cX5_base 328 = .ok (.iload_n 2, 1) := dk_28 (dk_at dksX5_base_9 9 rfl rfl)
theorem dX5_base_329 : decode cX5_base 329 = .ok (.invokevirtual 156, 3) := dk_182 0 156 (dk_at dksX5_base_9 10 rfl rfl)
theorem dX5_base_332 : decode cX5_base 332 = .ok (.goto 86, 3) := dk_167 0 86 (dk_at dksX5_base_9 13 rfl rfl)
theorem dX5_base_335 : decode cX5_base 335 = .ok (.aload_n 0, 1) := dk_42 (dk_at dksX5_base_9 16 rfl rfl)
theorem dX5_base_336 : decode cX5_base 336 = .ok (.getfield 9, 3) := dk_180 0 9 (dk_at dksX5_base_9 17 rfl rfl)
theorem dX5_base_339 : decode cX5_base 339 = .ok (.iload_n 1, 1) := dk_27 (dk_at dksX5_base_9 20 rfl rfl)
theorem dX5_base_340 : decode cX5_base 340 = .ok (.iconst 0, 1) := dk_3 (dk_at dksX5_base_9 21 rfl rfl)
theorem dX5_base_341 : decode cX5_base 341 = .ok (.bipush 16, 2) := dk_16 16 (dk_at dksX5_base_9 22 rfl rfl)
theorem dX5_base_343 : decode cX5_base 343 = .ok (.invokevirtual 90, 3) := dk_182 0 90 (dk_at dksX5_base_10 0 rfl rfl)
theorem dX5_base_346 : decode cX5_base 346 = .ok (.aload_n 0, 1) := dk_42 (dk_at dksX5_base_10 3 rfl rfl)
theorem dX5_base_347 : decode cX5_base 347 = .ok (.bipush 15, 2) := dk_16 15 (dk_at dksX5_base_10 4 rfl rfl)
theorem dX5_base_349 : decode cX5_base 349 = .ok (.invokevirtual 67, 3) := dk_182 0 67 (dk_at dksX5_base_10 6 rfl rfl)
theorem dX5_base_352 : decode cX5_base 352 = .ok (.ifCond .eq 66, 3) := dk_153 0 66 (dk_at dksX5_base_10 9 rfl rfl)
theorem dX5_base_355 : decode cX5_base 355 = .ok (.aload_n 0, 1) := dk_42 (dk_at dksX5_base_10 12 rfl rfl)
theorem dX5_base_356 : decode cX5_base 356 = .ok (.iload_n 1, 1) := dk_27 (dk_at dksX5_base_10 13 rfl rfl)
theorem dX5_base_357 : decode cX5_base 357 = .ok (.iload_n 2, 1) := dk_28 (dk_at dksX5_base_10 14 rfl rfl)
theorem dX5_base_358 : decode cX5_base 358 = .ok (.iconst 0, 1) := dk_3 (dk_at dksX5_base_10 15 rfl rfl)
theorem dX5_base_359 : decode cX5_base 359 = .ok (.invokevirtual 160, 3) := dk_182 0 160 (dk_at dksX5_base_10 16 rfl rfl)
theorem dX5_base_362 : decode cX5_base 362 = .ok (.goto 56, 3) := dk_167 0 56 (dk_at dksX5_base_10 19 rfl rfl)
theorem dX5_base_365 : decode cX5_base 365 = .ok (.aload_n 0, 1) := dk_42 (dk_at dksX5_base_10 22 rfl rfl)
theorem dX5_base_366 : decode cX5_base 366 = .ok (.getfield 9, 3) := dk_180 0 9 (dk_at dksX5_base_11 0 rfl rfl)
theorem dX5_base_369 : decode cX5_base 369 = .ok (.iload_n 1, 1) := dk_27 (dk_at dksX5_base_11 3 rfl rfl)
theorem dX5_base_370 : decode cX5_base 370 = .ok (.bipush 7, 2) := dk_16 7 (dk_at dksX5_base_11 4 rfl rfl)
theorem dX5_base_372 : decode cX5_base 372 = .ok (.aload_n 0, 1) := dk_42 (dk_at dksX5_base_11 6 rfl rfl)
theorem dX5_base_373 : decode cX5_base 373 = .ok (.getfield 26, 3) := dk_180 0 26 (dk_at dksX5_base_11 7 rfl rfl)
theorem dX5_base_376 : decode cX5_base 376 = .ok (.iconst 1, 1) := dk_4 (dk_at dksX5_base_11 10 rfl rfl)
theorem dX5_base_377 : decode cX5_base 377 = .ok (.isub, 1) := dk_100 (dk_at dksX5_base_11 11 rfl rfl)
theorem dX5_base_378 : decode cX5_base 378 = .ok (.invokevirtual 90, 3) := dk_182 0 90 (dk_at dksX5_base_11 12 rfl rfl)
theorem dX5_base_381 : decode cX5_base 381 = .ok (.aload_n 0, 1) := dk_42 (dk_at dksX5_base_11 15 rfl rfl)
theorem dX5_base_382 : decode cX5_base 382 = .ok (.bipush 15, 2) := dk_16 15 (dk_at dksX5_base_11 16 rfl rfl)
theorem dX5_base_384 : decode cX5_base 384 = .ok (.invokevirtual 49, 3) := dk_182 0 49 (dk_at dksX5_base_11 18 rfl rfl)
theorem dX5_base_387 : decode cX5_base 387 = .ok (.ifCond .eq 31, 3) := dk_153 0 31 (dk_at dksX5_base_11 21 rfl rfl)
theorem dX5_base_390 : decode cX5_base 390 = .ok (.aload_n 0, 1) := dk_42 (dk_at dksX5_base_12 0 rfl rfl)
theorem dX5_base_391 : decode cX5_base 391 = .ok (.iconst 3, 1) := dk_6 (dk_at dksX5_base_12 1 rfl rfl)
theorem dX5_base_392 : decode cX5_base 392 = .ok (.aload_n 0, 1) := dk_42 (dk_at dksX5_base_12 2 rfl rfl)
theorem dX5_base_393 : decode cX5_base 393 = .ok (.getfield 26, 3) := dk_180 0 26 (dk_at dksX5_base_12 3 rfl rfl)
theorem dX5_base_396 : decode cX5_base 396 = .ok (.invokevirtual 45, 3) := dk_182 0 45 (dk_at dksX5_base_12 6 rfl rfl)
theorem dX5_base_399 : decode cX5_base 399 = .ok (.pop, 1) := dk_87 (dk_at dksX5_base_12 9 rfl rfl)
theorem dX5_base_400 : decode cX5_base 400 = .ok (.goto 18, 3) := dk_167 0 18 (dk_at dksX5_base_12 10 rfl rfl)
theorem dX5_base_403 : decode cX5_base 403 = .ok (.aload_n 0, 1) := dk_42 (dk_at dksX5_base_12 13 rfl rfl)
theorem dX5_base_404 : decode cX5_base 404 = .ok (.dup, 1) := dk_89 (dk_at dksX5_base_12 14 rfl rfl)
theorem dX5_base_405 : decode cX5_base 405 = .ok (.getfield 26, 3) := dk_180 0 26 (dk_at dksX5_base_12 15 rfl rfl)
theorem dX5_base_408 : decode cX5_base 408 = .ok (.iconst 1, 1) := dk_4 (dk_at dksX5_base_12 18 rfl rfl)
theorem dX5_base_409 : decode cX5_base 409 = .ok (.isub, 1) := dk_100 (dk_at dksX5_base_12 19 rfl rfl)
theorem dX5_base_410 : decode cX5_base 410 = .ok (.putfield 26, 3) := dk_181 0 26 (dk_at dksX5_base_12 20 rfl rfl)
theorem dX5_base_413 : decode cX5_base 413 = .ok (.aload_n 0, 1) := dk_42 (dk_at dksX5_base_12 23 rfl rfl)
theorem dX5_base_414 : decode cX5_base 414 = .ok (.invokevirtual 52, 3) := dk_182 0 52 (dk_at dksX5_base_13 0 rfl rfl)
theorem dX5_base_417 : decode cX5_base 417 = .ok (.pop, 1) := dk_87 (dk_at dksX5_base_13 3 rfl rfl)
theorem dX5_base_418 : decode cX5_base 418 = .ok (.return_, 1) := dk_177 (dk_at dksX5_base_13 4 rfl rfl)
abbrev cX5_itemsOf : ByteArray := prog_5_method_20_code
def yX5_itemsOf : MethodName := ⟨RX5, "itemsOf", "(II)V"⟩
def dkwX5_itemsOf_1 : List UInt8 := [167, 0, 12, 42, 16, 15, 182, 0, 67, 153, 0, 9, 42, 27, 28, 182, 0, 164, 177]
abbrev dktX5_itemsOf_1 : List UInt8 := dkwX5_itemsOf_1 ++ []
def dkwX5_itemsOf_0 : List UInt8 := [42, 180, 0, 9, 27, 3, 28, 182, 0, 90, 28, 5, 160, 0, 15, 42, 16, 15, 182, 0, 73, 153, 0, 21]
abbrev dktX5_itemsOf_0 : List UInt8 := dkwX5_itemsOf_0 ++ dktX5_itemsOf_1
theorem dksX5_itemsOf_0 : cX5_itemsOf.data.toList.drop 0 = dktX5_itemsOf_0 := by decide +kernel
theorem dksX5_itemsOf_1 : cX5_itemsOf.data.toList.drop 24 = dktX5_itemsOf_1 := dk_seg dksX5_itemsOf_0 24 rfl rfl
theorem dX5_itemsOf_0 : decode cX5_itemsOf 0 = .ok (.aload_n 0, 1) := dk_42 (dk_at dksX5_itemsOf_0 0 rfl rfl)
theorem dX5_itemsOf_1 : decode cX5_itemsOf 1 = .ok (.getfield 9, 3) := dk_180 0 9 (dk_at dksX5_itemsOf_0 1 rfl rfl)
theorem dX5_itemsOf_4 : decode cX5_itemsOf 4 = .ok (.iload_n 1, 1) := dk_27 (dk_at dksX5_itemsOf_0 4 rfl rfl)
theorem dX5_itemsOf_5 : decode cX5_itemsOf 5 = .ok (.iconst 0, 1) := dk_3 (dk_at dksX5_itemsOf_0 5 rfl rfl)
theorem dX5_itemsOf_6 : decode cX5_itemsOf 6 = .ok (.iload_n 2, 1) := dk_28 (dk_at dksX5_itemsOf_0 6 rfl rfl)
theorem dX5_itemsOf_7 : decode cX5_itemsOf 7 = .ok (.invokevirtual 90, 3) := dk_182 0 90 (dk_at dksX5_itemsOf_0 7 rfl rfl)
theorem dX5_itemsOf_10 : decode cX5_itemsOf 10 = .ok (.iload_n 2, 1) := dk_28 (dk_at dksX5_itemsOf_0 10 rfl rfl)
theorem dX5_itemsOf_11 : decode cX5_itemsOf 11 = .ok (.iconst 2, 1) := dk_5 (dk_at dksX5_itemsOf_0 11 rfl rfl)
theorem dX5_itemsOf_12 : decode cX5_itemsOf 12 = .ok (.if_icmp .ne 15, 3) := dk_160 0 15 (dk_at dksX5_itemsOf_0 12 rfl rfl)
theorem dX5_itemsOf_15 : decode cX5_itemsOf 15 = .ok (.aload_n 0, 1) := dk_42 (dk_at dksX5_itemsOf_0 15 rfl rfl)
theorem dX5_itemsOf_16 : decode cX5_itemsOf 16 = .ok (.bipush 15, 2) := dk_16 15 (dk_at dksX5_itemsOf_0 16 rfl rfl)
theorem dX5_itemsOf_18 : decode cX5_itemsOf 18 = .ok (.invokevirtual 73, 3) := dk_182 0 73 (dk_at dksX5_itemsOf_0 18 rfl rfl)
theorem dX5_itemsOf_21 : decode cX5_itemsOf 21 = .ok (.ifCond .eq 21, 3) := dk_153 0 21 (dk_at dksX5_itemsOf_0 21 rfl rfl)
theorem dX5_itemsOf_24 : decode cX5_itemsOf 24 = .ok (.goto 12, 3) := dk_167 0 12 (dk_at dksX5_itemsOf_1 0 rfl rfl)
theorem dX5_itemsOf_27 : decode cX5_itemsOf 27 = .ok (.aload_n 0, 1) := dk_42 (dk_at dksX5_itemsOf_1 3 rfl rfl)
theorem dX5_itemsOf_28 : decode cX5_itemsOf 28 = .ok (.bipush 15, 2) := dk_16 15 (dk_at dksX5_itemsOf_1 4 rfl rfl)
theorem dX5_itemsOf_30 : decode cX5_itemsOf 30 = .ok (.invokevirtual 67, 3) := dk_182 0 67 (dk_at dksX5_itemsOf_1 6 rfl rfl)
theorem dX5_itemsOf_33 : decode cX5_itemsOf 33 = .ok (.ifCond .eq 9, 3) := dk_153 0 9 (dk_at dksX5_itemsOf_1 9 rfl rfl)
theorem dX5_itemsOf_36 : decode cX5_itemsOf 36 = .ok (.aload_n 0, 1) := dk_42 (dk_at dksX5_itemsOf_1 12 rfl rfl)
theorem dX5_itemsOf_37 : decode cX5_itemsOf 37 = .ok (.iload_n 1, 1) := dk_27 (dk_at dksX5_itemsOf_1 13 rfl rfl)
theorem dX5_itemsOf_38 : decode cX5_itemsOf 38 = .ok (.iload_n 2, 1) := dk_28 (dk_at dksX5_itemsOf_1 14 rfl rfl)
theorem dX5_itemsOf_39 : decode cX5_itemsOf 39 = .ok (.invokevirtual 164, 3) := dk_182 0 164 (dk_at dksX5_itemsOf_1 15 rfl rfl)
theorem dX5_itemsOf_42 : decode cX5_itemsOf 42 = .ok (.return_, 1) := dk_177 (dk_at dksX5_itemsOf_1 18 rfl rfl)
abbrev cX5_items : ByteArray := prog_5_method_21_code
def yX5_items : MethodName := ⟨RX5, "items", "(II)V"⟩
def dkwX5_items_1 : List UInt8 := [154, 255, 234, 42, 16, 16, 182, 0, 67, 87, 177]
abbrev dktX5_items_1 : List UInt8 := dkwX5_items_1 ++ []
def dkwX5_items_0 : List UInt8 := [2, 62, 42, 180, 0, 9, 27, 6, 29, 42, 28, 182, 0, 167, 182, 0, 106, 62, 42, 16, 21, 182, 0, 73]
abbrev dktX5_items_0 : List UInt8 := dkwX5_items_0 ++ dktX5_items_1
theorem dksX5_items_0 : cX5_items.data.toList.drop 0 = dktX5_items_0 := by decide +kernel
theorem dksX5_items_1 : cX5_items.data.toList.drop 24 = dktX5_items_1 := dk_seg dksX5_items_0 24 rfl rfl
theorem dX5_items_0 : decode cX5_items 0 = .ok (.iconst (-1), 1) := dk_2 (dk_at dksX5_items_0 0 rfl rfl)
theorem dX5_items_1 : decode cX5_items 1 = .ok (.istore_n 3, 1) := dk_62 (dk_at dksX5_items_0 1 rfl rfl)
theorem dX5_items_2 : decode cX5_items 2 = .ok (.aload_n 0, 1) := dk_42 (dk_at dksX5_items_0 2 rfl rfl)
theorem dX5_items_3 : decode cX5_items 3 = .ok (.getfield 9, 3) := dk_180 0 9 (dk_at dksX5_items_0 3 rfl rfl)
theorem dX5_items_6 : decode cX5_items 6 = .ok (.iload_n 1, 1) := dk_27 (dk_at dksX5_items_0 6 rfl rfl)
theorem dX5_items_7 : decode cX5_items 7 = .ok (.iconst 3, 1) := dk_6 (dk_at dksX5_items_0 7 rfl rfl)
theorem dX5_items_8 : decode cX5_items 8 = .ok (.iload_n 3, 1) := dk_29 (dk_at dksX5_items_0 8 rfl rfl)
theorem dX5_items_9 : decode cX5_items 9 = .ok (.aload_n 0, 1) := dk_42 (dk_at dksX5_items_0 9 rfl rfl)
theorem dX5_items_10 : decode cX5_items 10 = .ok (.iload_n 2, 1) := dk_28 (dk_at dksX5_items_0 10 rfl rfl)
theorem dX5_items_11 : decode cX5_items 11 = .ok (.invokevirtual 167, 3) := dk_182 0 167 (dk_at dksX5_items_0 11 rfl rfl)
theorem dX5_items_14 : decode cX5_items 14 = .ok (.invokevirtual 106, 3) := dk_182 0 106 (dk_at dksX5_items_0 14 rfl rfl)
theorem dX5_items_17 : decode cX5_items 17 = .ok (.istore_n 3, 1) := dk_62 (dk_at dksX5_items_0 17 rfl rfl)
theorem dX5_items_18 : decode cX5_items 18 = .ok (.aload_n 0, 1) := dk_42 (dk_at dksX5_items_0 18 rfl rfl)
theorem dX5_items_19 : decode cX5_items 19 = .ok (.bipush 21, 2) := dk_16 21 (dk_at dksX5_items_0 19 rfl rfl)
theorem dX5_items_21 : decode cX5_items 21 = .ok (.invokevirtual 73, 3) := dk_182 0 73 (dk_at dksX5_items_0 21 rfl rfl)
theorem dX5_items_24 : decode cX5_items 24 = .ok (.ifCond .ne (-22), 3) := dk_154 255 234 (dk_at dksX5_items_1 0 rfl rfl)
theorem dX5_items_27 : decode cX5_items 27 = .ok (.aload_n 0, 1) := dk_42 (dk_at dksX5_items_1 3 rfl rfl)
theorem dX5_items_28 : decode cX5_items 28 = .ok (.bipush 16, 2) := dk_16 16 (dk_at dksX5_items_1 4 rfl rfl)
theorem dX5_items_30 : decode cX5_items 30 = .ok (.invokevirtual 67, 3) := dk_182 0 67 (dk_at dksX5_items_1 6 rfl rfl)
theorem dX5_items_33 : decode cX5_items 33 = .ok (.pop, 1) := dk_87 (dk_at dksX5_items_1 9 rfl rfl)
theorem dX5_items_34 : decode cX5_items 34 = .ok (.return_, 1) := dk_177 (dk_at dksX5_items_1 10 rfl rfl)
abbrev cX5_item : ByteArray := prog_5_method_22_code
def yX5_item : MethodName := ⟨RX5, "item", "(I)I"⟩
def dkwX5_item_5 : List UInt8 := [182, 0, 90, 42, 5, 182, 0, 67, 153, 0, 10, 42, 16, 20, 182, 0, 67, 87, 28, 172]
abbrev dktX5_item_5 : List UInt8 := dkwX5_item_5 ++ []
def dkwX5_item_4 : List UInt8 := [20, 0, 170, 148, 158, 0, 8, 42, 182, 0, 52, 87, 42, 180, 0, 9, 28, 8, 42, 180, 0, 26]
abbrev dktX5_item_4 : List UInt8 := dkwX5_item_4 ++ dktX5_item_5
def dkwX5_item_3 : List UInt8 := [182, 0, 90, 42, 5, 182, 0, 49, 153, 0, 28, 27, 7, 160, 0, 23, 42, 42, 180, 0, 26, 182, 0, 123]
abbrev dktX5_item_3 : List UInt8 := dkwX5_item_3 ++ dktX5_item_4
def dkwX5_item_2 : List UInt8 := [172, 27, 7, 159, 0, 23, 42, 16, 25, 182, 0, 73, 153, 0, 14, 42, 180, 0, 9, 28, 16, 6, 4]
abbrev dktX5_item_2 : List UInt8 := dkwX5_item_2 ++ dktX5_item_3
def dkwX5_item_1 : List UInt8 := [160, 0, 14, 42, 16, 19, 182, 0, 49, 154, 0, 5, 28, 172, 42, 16, 19, 182, 0, 67, 154, 0, 5, 28]
abbrev dktX5_item_1 : List UInt8 := dkwX5_item_1 ++ dktX5_item_2
def dkwX5_item_0 : List UInt8 := [42, 180, 0, 9, 16, 21, 42, 180, 0, 26, 182, 0, 80, 61, 42, 3, 182, 0, 67, 153, 0, 17, 27, 6]
abbrev dktX5_item_0 : List UInt8 := dkwX5_item_0 ++ dktX5_item_1
theorem dksX5_item_0 : cX5_item.data.toList.drop 0 = dktX5_item_0 := by decide +kernel
theorem dksX5_item_1 : cX5_item.data.toList.drop 24 = dktX5_item_1 := dk_seg dksX5_item_0 24 rfl rfl
theorem dksX5_item_2 : cX5_item.data.toList.drop 48 = dktX5_item_2 := dk_seg dksX5_item_1 24 rfl rfl
theorem dksX5_item_3 : cX5_item.data.toList.drop 71 = dktX5_item_3 := dk_seg dksX5_item_2 23 rfl rfl
theorem dksX5_item_4 : cX5_item.data.toList.drop 95 = dktX5_item_4 := dk_seg dksX5_item_3 24 rfl rfl
theorem dksX5_item_5 : cX5_item.data.toList.drop 117 = dktX5_item_5 := dk_seg dksX5_item_4 22 rfl rfl
theorem dX5_item_0 : decode cX5_item 0 = .ok (.aload_n 0, 1) := dk_42 (dk_at dksX5_item_0 0 rfl rfl)
theorem dX5_item_1 : decode cX5_item 1 = .ok (.getfield 9, 3) := dk_180 0 9 (dk_at dksX5_item_0 1 rfl rfl)
theorem dX5_item_4 : decode cX5_item 4 = .ok (.bipush 21, 2) := dk_16 21 (dk_at dksX5_item_0 4 rfl rfl)
theorem dX5_item_6 : decode cX5_item 6 = .ok (.aload_n 0, 1) := dk_42 (dk_at dksX5_item_0 6 rfl rfl)
theorem dX5_item_7 : decode cX5_item 7 = .ok (.getfield 26, 3) := dk_180 0 26 (dk_at dksX5_item_0 7 rfl rfl)
theorem dX5_item_10 : decode cX5_item 10 = .ok (.invokevirtual 80, 3) := dk_182 0 80 (dk_at dksX5_item_0 10 rfl rfl)
theorem dX5_item_13 : decode cX5_item 13 = .ok (.istore_n 2, 1) := dk_61 (dk_at dksX5_item_0 13 rfl rfl)
theorem dX5_item_14 : decode cX5_item 14 = .ok (.aload_n 0, 1) := dk_42 (dk_at dksX5_item_0 14 rfl rfl)
theorem dX5_item_15 : decode cX5_item 15 = .ok (.iconst 0, 1) := dk_3 (dk_at dksX5_item_0 15 rfl rfl)
theorem dX5_item_16 : decode cX5_item 16 = .ok (.invokevirtual 67, 3) := dk_182 0 67 (dk_at dksX5_item_0 16 rfl rfl)
theorem dX5_item_19 : decode cX5_item 19 = .ok (.ifCond .eq 17, 3) := dk_153 0 17 (dk_at dksX5_item_0 19 rfl rfl)
theorem dX5_item_22 : decode cX5_item 22 = .ok (.iload_n 1, 1) := dk_27 (dk_at dksX5_item_0 22 rfl rfl)
theorem dX5_item_23 : decode cX5_item 23 = .ok (.iconst 3, 1) := dk_6 (dk_at dksX5_item_0 23 rfl rfl)
theorem dX5_item_24 : decode cX5_item 24 = .ok (.if_icmp .ne 14, 3) := dk_160 0 14 (dk_at dksX5_item_1 0 rfl rfl)
theorem dX5_item_27 : decode cX5_item 27 = .ok (.aload_n 0, 1) := dk_42 (dk_at dksX5_item_1 3 rfl rfl)
theorem dX5_item_28 : decode cX5_item 28 = .ok (.bipush 19, 2) := dk_16 19 (dk_at dksX5_item_1 4 rfl rfl)
theorem dX5_item_30 : decode cX5_item 30 = .ok (.invokevirtual 49, 3) := dk_182 0 49 (dk_at dksX5_item_1 6 rfl rfl)
theorem dX5_item_33 : decode cX5_item 33 = .ok (.ifCond .ne 5, 3) := dk_154 0 5 (dk_at dksX5_item_1 9 rfl rfl)
theorem dX5_item_36 : decode cX5_item 36 = .ok (.iload_n 2, 1) := dk_28 (dk_at dksX5_item_1 12 rfl rfl)
theorem dX5_item_37 : decode cX5_item 37 = .ok (.ireturn, 1) := dk_172 (dk_at dksX5_item_1 13 rfl rfl)
theorem dX5_item_38 : decode cX5_item 38 = .ok (.aload_n 0, 1) := dk_42 (dk_at dksX5_item_1 14 rfl rfl)
theorem dX5_item_39 : decode cX5_item 39 = .ok (.bipush 19, 2) := dk_16 19 (dk_at dksX5_item_1 15 rfl rfl)
theorem dX5_item_41 : decode cX5_item 41 = .ok (.invokevirtual 67, 3) := dk_182 0 67 (dk_at dksX5_item_1 17 rfl rfl)
theorem dX5_item_44 : decode cX5_item 44 = .ok (.ifCond .ne 5, 3) := dk_154 0 5 (dk_at dksX5_item_1 20 rfl rfl)
theorem dX5_item_47 : decode cX5_item 47 = .ok (.iload_n 2, 1) := dk_28 (dk_at dksX5_item_1 23 rfl rfl)
theorem dX5_item_48 : decode cX5_item 48 = .ok (.ireturn, 1) := dk_172 (dk_at dksX5_item_2 0 rfl rfl)
theorem dX5_item_49 : decode cX5_item 49 = .ok (.iload_n 1, 1) := dk_27 (dk_at dksX5_item_2 1 rfl rfl)
theorem dX5_item_50 : decode cX5_item 50 = .ok (.iconst 4, 1) := dk_7 (dk_at dksX5_item_2 2 rfl rfl)
theorem dX5_item_51 : decode cX5_item 51 = .ok (.if_icmp .eq 23, 3) := dk_159 0 23 (dk_at dksX5_item_2 3 rfl rfl)
theorem dX5_item_54 : decode cX5_item 54 = .ok (.aload_n 0, 1) := dk_42 (dk_at dksX5_item_2 6 rfl rfl)
theorem dX5_item_55 : decode cX5_item 55 = .ok (.bipush 25, 2) := dk_16 25 (dk_at dksX5_item_2 7 rfl rfl)
theorem dX5_item_57 : decode cX5_item 57 = .ok (.invokevirtual 73, 3) := dk_182 0 73 (dk_at dksX5_item_2 9 rfl rfl)
theorem dX5_item_60 : decode cX5_item 60 = .ok (.ifCond .eq 14, 3) := dk_153 0 14 (dk_at dksX5_item_2 12 rfl rfl)
theorem dX5_item_63 : decode cX5_item 63 = .ok (.aload_n 0, 1) := dk_42 (dk_at dksX5_item_2 15 rfl rfl)
theorem dX5_item_64 : decode cX5_item 64 = .ok (.getfield 9, 3) := dk_180 0 9 (dk_at dksX5_item_2 16 rfl rfl)
theorem dX5_item_67 : decode cX5_item 67 = .ok (.iload_n 2, 1) := dk_28 (dk_at dksX5_item_2 19 rfl rfl)
theorem dX5_item_68 : decode cX5_item 68 = .ok (.bipush 6, 2) := dk_16 6 (dk_at dksX5_item_2 20 rfl rfl)
theorem dX5_item_70 : decode cX5_item 70 = .ok (.iconst 1, 1) := dk_4 (dk_at dksX5_item_2 22 rfl rfl)
theorem dX5_item_71 : decode cX5_item 71 = .ok (.invokevirtual 90, 3) := dk_182 0 90 (dk_at dksX5_item_3 0 rfl rfl)
theorem dX5_item_74 : decode cX5_item 74 = .ok (.aload_n 0, 1) := dk_42 (dk_at dksX5_item_3 3 rfl rfl)
theorem dX5_item_75 : decode cX5_item 75 = .ok (.iconst 2, 1) := dk_5 (dk_at dksX5_item_3 4 rfl rfl)
theorem dX5_item_76 : decode cX5_item 76 = .ok (.invokevirtual 49, 3) := dk_182 0 49 (dk_at dksX5_item_3 5 rfl rfl)
theorem dX5_item_79 : decode cX5_item 79 = .ok (.ifCond .eq 28, 3) := dk_153 0 28 (dk_at dksX5_item_3 8 rfl rfl)
theorem dX5_item_82 : decode cX5_item 82 = .ok (.iload_n 1, 1) := dk_27 (dk_at dksX5_item_3 11 rfl rfl)
theorem dX5_item_83 : decode cX5_item 83 = .ok (.iconst 4, 1) := dk_7 (dk_at dksX5_item_3 12 rfl rfl)
theorem dX5_item_84 : decode cX5_item 84 = .ok (.if_icmp .ne 23, 3) := dk_160 0 23 (dk_at dksX5_item_3 13 rfl rfl)
theorem dX5_item_87 : decode cX5_item 87 = .ok (.aload_n 0, 1) := dk_42 (dk_at dksX5_item_3 16 rfl rfl)
theorem dX5_item_88 : decode cX5_item 88 = .ok (.aload_n 0, 1) := dk_42 (dk_at dksX5_item_3 17 rfl rfl)
theorem dX5_item_89 : decode cX5_item 89 = .ok (.getfield 26, 3) := dk_180 0 26 (dk_at dksX5_item_3 18 rfl rfl)
theorem dX5_item_92 : decode cX5_item 92 = .ok (.invokevirtual 123, 3) := dk_182 0 123 (dk_at dksX5_item_3 21 rfl rfl)
theorem dX5_item_95 : decode cX5_item 95 = .ok (.ldc2_w 170, 3) := dk_20 0 170 (dk_at dksX5_item_4 0 rfl rfl)
theorem dX5_item_98 : decode cX5_item 98 = .ok (.lcmp, 1) := dk_148 (dk_at dksX5_item_4 3 rfl rfl)
theorem dX5_item_99 : decode cX5_item 99 = .ok (.ifCond .le 8, 3) := dk_158 0 8 (dk_at dksX5_item_4 4 rfl rfl)
theorem dX5_item_102 : decode cX5_item 102 = .ok (.aload_n 0, 1) := dk_42 (dk_at dksX5_item_4 7 rfl rfl)
theorem dX5_item_103 : decode cX5_item 103 = .ok (.invokevirtual 52, 3) := dk_182 0 52 (dk_at dksX5_item_4 8 rfl rfl)
theorem dX5_item_106 : decode cX5_item 106 = .ok (.pop, 1) := dk_87 (dk_at dksX5_item_4 11 rfl rfl)
theorem dX5_item_107 : decode cX5_item 107 = .ok (.aload_n 0, 1) := dk_42 (dk_at dksX5_item_4 12 rfl rfl)
theorem dX5_item_108 : decode cX5_item 108 = .ok (.getfield 9, 3) := dk_180 0 9 (dk_at dksX5_item_4 13 rfl rfl)
theorem dX5_item_111 : decode cX5_item 111 = .ok (.iload_n 2, 1) := dk_28 (dk_at dksX5_item_4 16 rfl rfl)
theorem dX5_item_112 : decode cX5_item 112 = .ok (.iconst 5, 1) := dk_8 (dk_at dksX5_item_4 17 rfl rfl)
theorem dX5_item_113 : decode cX5_item 113 = .ok (.aload_n 0, 1) := dk_42 (dk_at dksX5_item_4 18 rfl rfl)
theorem dX5_item_114 : decode cX5_item 114 = .ok (.getfield 26, 3) := dk_180 0 26 (dk_at dksX5_item_4 19 rfl rfl)
theorem dX5_item_117 : decode cX5_item 117 = .ok (.invokevirtual 90, 3) := dk_182 0 90 (dk_at dksX5_item_5 0 rfl rfl)
theorem dX5_item_120 : decode cX5_item 120 = .ok (.aload_n 0, 1) := dk_42 (dk_at dksX5_item_5 3 rfl rfl)
theorem dX5_item_121 : decode cX5_item 121 = .ok (.iconst 2, 1) := dk_5 (dk_at dksX5_item_5 4 rfl rfl)
theorem dX5_item_122 : decode cX5_item 122 = .ok (.invokevirtual 67, 3) := dk_182 0 67 (dk_at dksX5_item_5 5 rfl rfl)
theorem dX5_item_125 : decode cX5_item 125 = .ok (.ifCond .eq 10, 3) := dk_153 0 10 (dk_at dksX5_item_5 8 rfl rfl)
theorem dX5_item_128 : decode cX5_item 128 = .ok (.aload_n 0, 1) := dk_42 (dk_at dksX5_item_5 11 rfl rfl)
theorem dX5_item_129 : decode cX5_item 129 = .ok (.bipush 20, 2) := dk_16 20 (dk_at dksX5_item_5 12 rfl rfl)
theorem dX5_item_131 : decode cX5_item 131 = .ok (.invokevirtual 67, 3) := dk_182 0 67 (dk_at dksX5_item_5 14 rfl rfl)
theorem dX5_item_134 : decode cX5_item 134 = .ok (.pop, 1) := dk_87 (dk_at dksX5_item_5 17 rfl rfl)
theorem dX5_item_135 : decode cX5_item 135 = .ok (.iload_n 2, 1) := dk_28 (dk_at dksX5_item_5 18 rfl rfl)
theorem dX5_item_136 : decode cX5_item 136 = .ok (.ireturn, 1) := dk_172 (dk_at dksX5_item_5 19 rfl rfl)
abbrev cX5_bits : ByteArray := prog_5_method_19_code
def yX5_bits : MethodName := ⟨RX5, "bits", "(I)V"⟩
def dkwX5_bits_1 : List UInt8 := [7, 182, 0, 164, 177]
abbrev dktX5_bits_1 : List UInt8 := dkwX5_bits_1 ++ []
def dkwX5_bits_0 : List UInt8 := [42, 27, 7, 182, 0, 153, 42, 180, 0, 15, 154, 0, 18, 42, 16, 15, 182, 0, 73, 153, 0, 9, 42, 27]
abbrev dktX5_bits_0 : List UInt8 := dkwX5_bits_0 ++ dktX5_bits_1
theorem dksX5_bits_0 : cX5_bits.data.toList.drop 0 = dktX5_bits_0 := by decide +kernel
theorem dksX5_bits_1 : cX5_bits.data.toList.drop 24 = dktX5_bits_1 := dk_seg dksX5_bits_0 24 rfl rfl
theorem dX5_bits_0 : decode cX5_bits 0 = .ok (.aload_n 0, 1) := dk_42 (dk_at dksX5_bits_0 0 rfl rfl)
theorem dX5_bits_1 : decode cX5_bits 1 = .ok (.iload_n 1, 1) := dk_27 (dk_at dksX5_bits_0 1 rfl rfl)
theorem dX5_bits_2 : decode cX5_bits 2 = .ok (.iconst 4, 1) := dk_7 (dk_at dksX5_bits_0 2 rfl rfl)
theorem dX5_bits_3 : decode cX5_bits 3 = .ok (.invokevirtual 153, 3) := dk_182 0 153 (dk_at dksX5_bits_0 3 rfl rfl)
theorem dX5_bits_6 : decode cX5_bits 6 = .ok (.aload_n 0, 1) := dk_42 (dk_at dksX5_bits_0 6 rfl rfl)
theorem dX5_bits_7 : decode cX5_bits 7 = .ok (.getfield 15, 3) := dk_180 0 15 (dk_at dksX5_bits_0 7 rfl rfl)
theorem dX5_bits_10 : decode cX5_bits 10 = .ok (.ifCond .ne 18, 3) := dk_154 0 18 (dk_at dksX5_bits_0 10 rfl rfl)
theorem dX5_bits_13 : decode cX5_bits 13 = .ok (.aload_n 0, 1) := dk_42 (dk_at dksX5_bits_0 13 rfl rfl)
theorem dX5_bits_14 : decode cX5_bits 14 = .ok (.bipush 15, 2) := dk_16 15 (dk_at dksX5_bits_0 14 rfl rfl)
theorem dX5_bits_16 : decode cX5_bits 16 = .ok (.invokevirtual 73, 3) := dk_182 0 73 (dk_at dksX5_bits_0 16 rfl rfl)
theorem dX5_bits_19 : decode cX5_bits 19 = .ok (.ifCond .eq 9, 3) := dk_153 0 9 (dk_at dksX5_bits_0 19 rfl rfl)
theorem dX5_bits_22 : decode cX5_bits 22 = .ok (.aload_n 0, 1) := dk_42 (dk_at dksX5_bits_0 22 rfl rfl)
theorem dX5_bits_23 : decode cX5_bits 23 = .ok (.iload_n 1, 1) := dk_27 (dk_at dksX5_bits_0 23 rfl rfl)
theorem dX5_bits_24 : decode cX5_bits 24 = .ok (.iconst 4, 1) := dk_7 (dk_at dksX5_bits_1 0 rfl rfl)
theorem dX5_bits_25 : decode cX5_bits 25 = .ok (.invokevirtual 164, 3) := dk_182 0 164 (dk_at dksX5_bits_1 1 rfl rfl)
theorem dX5_bits_28 : decode cX5_bits 28 = .ok (.return_, 1) := dk_177 (dk_at dksX5_bits_1 4 rfl rfl)
abbrev cX5_string : ByteArray := prog_5_method_18_code
def yX5_string : MethodName := ⟨RX5, "string", "(II)V"⟩
def dkwX5_string_0 : List UInt8 := [42, 180, 0, 9, 27, 3, 28, 182, 0, 90, 42, 17, 0, 162, 182, 0, 67, 87, 177]
abbrev dktX5_string_0 : List UInt8 := dkwX5_string_0 ++ []
theorem dksX5_string_0 : cX5_string.data.toList.drop 0 = dktX5_string_0 := by decide +kernel
theorem dX5_string_0 : decode cX5_string 0 = .ok (.aload_n 0, 1) := dk_42 (dk_at dksX5_string_0 0 rfl rfl)
theorem dX5_string_1 : decode cX5_string 1 = .ok (.getfield 9, 3) := dk_180 0 9 (dk_at dksX5_string_0 1 rfl rfl)
theorem dX5_string_4 : decode cX5_string 4 = .ok (.iload_n 1, 1) := dk_27 (dk_at dksX5_string_0 4 rfl rfl)
theorem dX5_string_5 : decode cX5_string 5 = .ok (.iconst 0, 1) := dk_3 (dk_at dksX5_string_0 5 rfl rfl)
theorem dX5_string_6 : decode cX5_string 6 = .ok (.iload_n 2, 1) := dk_28 (dk_at dksX5_string_0 6 rfl rfl)
theorem dX5_string_7 : decode cX5_string 7 = .ok (.invokevirtual 90, 3) := dk_182 0 90 (dk_at dksX5_string_0 7 rfl rfl)
theorem dX5_string_10 : decode cX5_string 10 = .ok (.aload_n 0, 1) := dk_42 (dk_at dksX5_string_0 10 rfl rfl)
theorem dX5_string_11 : decode cX5_string 11 = .ok (.sipush 162, 3) := dk_17 0 162 (dk_at dksX5_string_0 11 rfl rfl)
theorem dX5_string_14 : decode cX5_string 14 = .ok (.invokevirtual 67, 3) := dk_182 0 67 (dk_at dksX5_string_0 14 rfl rfl)
theorem dX5_string_17 : decode cX5_string 17 = .ok (.pop, 1) := dk_87 (dk_at dksX5_string_0 17 rfl rfl)
theorem dX5_string_18 : decode cX5_string 18 = .ok (.return_, 1) := dk_177 (dk_at dksX5_string_0 18 rfl rfl)
abbrev cX5_many : ByteArray := prog_5_method_23_code
def yX5_many : MethodName := ⟨RX5, "many", "(IIII)V"⟩
def dkwX5_many_8 : List UInt8 := [180, 0, 9, 27, 6, 42, 21, 4, 4, 96, 182, 0, 87, 182, 0, 90, 177]
abbrev dktX5_many_8 : List UInt8 := dkwX5_many_8 ++ []
def dkwX5_many_7 : List UInt8 := [182, 0, 172, 153, 0, 10, 42, 16, 20, 182, 0, 67, 87, 42, 17, 0, 149, 182, 0, 67, 153, 0, 20, 42]
abbrev dktX5_many_7 : List UInt8 := dkwX5_many_7 ++ dktX5_many_8
def dkwX5_many_6 : List UInt8 := [181, 0, 26, 42, 17, 0, 161, 182, 0, 49, 154, 0, 11, 42, 182, 0, 52, 87, 167, 0, 19, 42, 21, 5]
abbrev dktX5_many_6 : List UInt8 := dkwX5_many_6 ++ dktX5_many_7
def dkwX5_many_5 : List UInt8 := [182, 0, 80, 54, 5, 42, 180, 0, 9, 27, 7, 21, 5, 182, 0, 90, 42, 89, 180, 0, 26, 4, 96]
abbrev dktX5_many_5 : List UInt8 := dkwX5_many_5 ++ dktX5_many_6
def dkwX5_many_4 : List UInt8 := [167, 0, 82, 42, 16, 19, 182, 0, 49, 153, 0, 73, 42, 180, 0, 9, 16, 23, 42, 180, 0, 26]
abbrev dktX5_many_4 : List UInt8 := dkwX5_many_4 ++ dktX5_many_5
def dkwX5_many_3 : List UInt8 := [182, 0, 80, 54, 5, 42, 180, 0, 9, 27, 7, 21, 5, 182, 0, 90, 42, 21, 5, 182, 0, 172, 87]
abbrev dktX5_many_3 : List UInt8 := dkwX5_many_3 ++ dktX5_many_4
def dkwX5_many_2 : List UInt8 := [182, 0, 90, 42, 17, 0, 161, 182, 0, 49, 153, 0, 39, 42, 180, 0, 9, 16, 23, 42, 180, 0, 26]
abbrev dktX5_many_2 : List UInt8 := dkwX5_many_2 ++ dktX5_many_3
def dkwX5_many_1 : List UInt8 := [182, 0, 73, 154, 0, 11, 42, 27, 21, 4, 4, 182, 0, 160, 177, 42, 180, 0, 9, 27, 3, 29]
abbrev dktX5_many_1 : List UInt8 := dkwX5_many_1 ++ dktX5_many_2
def dkwX5_many_0 : List UInt8 := [42, 16, 15, 182, 0, 73, 153, 0, 31, 42, 180, 0, 9, 27, 3, 28, 182, 0, 90, 42, 16, 16]
abbrev dktX5_many_0 : List UInt8 := dkwX5_many_0 ++ dktX5_many_1
theorem dksX5_many_0 : cX5_many.data.toList.drop 0 = dktX5_many_0 := by decide +kernel
theorem dksX5_many_1 : cX5_many.data.toList.drop 22 = dktX5_many_1 := dk_seg dksX5_many_0 22 rfl rfl
theorem dksX5_many_2 : cX5_many.data.toList.drop 44 = dktX5_many_2 := dk_seg dksX5_many_1 22 rfl rfl
theorem dksX5_many_3 : cX5_many.data.toList.drop 67 = dktX5_many_3 := dk_seg dksX5_many_2 23 rfl rfl
theorem dksX5_many_4 : cX5_many.data.toList.drop 90 = dktX5_many_4 := dk_seg dksX5_many_3 23 rfl rfl
theorem dksX5_many_5 : cX5_many.data.toList.drop 112 = dktX5_many_5 := dk_seg dksX5_many_4 22 rfl rfl
theorem dksX5_many_6 : cX5_many.data.toList.drop 135 = dktX5_many_6 := dk_seg dksX5_many_5 23 rfl rfl
theorem dksX5_many_7 : cX5_many.data.toList.drop 159 = dktX5_many_7 := dk_seg dksX5_many_6 24 rfl rfl
theorem dksX5_many_8 : cX5_many.data.toList.drop 183 = dktX5_many_8 := dk_seg dksX5_many_7 24 rfl rfl
theorem dX5_many_0 : decode cX5_many 0 = .ok (.aload_n 0, 1) := dk_42 (dk_at dksX5_many_0 0 rfl rfl)
theorem dX5_many_1 : decode cX5_many 1 = .ok (.bipush 15, 2) := dk_16 15 (dk_at dksX5_many_0 1 rfl rfl)
theorem dX5_many_3 : decode cX5_many 3 = .ok (.invokevirtual 73, 3) := dk_182 0 73 (dk_at dksX5_many_0 3 rfl rfl)
theorem dX5_many_6 : decode cX5_many 6 = .ok (.ifCond .eq 31, 3) := dk_153 0 31 (dk_at dksX5_many_0 6 rfl rfl)
theorem dX5_many_9 : decode cX5_many 9 = .ok (.aload_n 0, 1) := dk_42 (dk_at dksX5_many_0 9 rfl rfl)
theorem dX5_many_10 : decode cX5_many 10 = .ok (.getfield 9, 3) := dk_180 0 9 (dk_at dksX5_many_0 10 rfl rfl)
theorem dX5_many_13 : decode cX5_many 13 = .ok (.iload_n 1, 1) := dk_27 (dk_at dksX5_many_0 13 rfl rfl)
theorem dX5_many_14 : decode cX5_many 14 = .ok (.iconst 0, 1) := dk_3 (dk_at dksX5_many_0 14 rfl rfl)
theorem dX5_many_15 : decode cX5_many 15 = .ok (.iload_n 2, 1) := dk_28 (dk_at dksX5_many_0 15 rfl rfl)
theorem dX5_many_16 : decode cX5_many 16 = .ok (.invokevirtual 90, 3) := dk_182 0 90 (dk_at dksX5_many_0 16 rfl rfl)
theorem dX5_many_19 : decode cX5_many 19 = .ok (.aload_n 0, 1) := dk_42 (dk_at dksX5_many_0 19 rfl rfl)
theorem dX5_many_20 : decode cX5_many 20 = .ok (.bipush 16, 2) := dk_16 16 (dk_at dksX5_many_0 20 rfl rfl)
theorem dX5_many_22 : decode cX5_many 22 = .ok (.invokevirtual 73, 3) := dk_182 0 73 (dk_at dksX5_many_1 0 rfl rfl)
theorem dX5_many_25 : decode cX5_many 25 = .ok (.ifCond .ne 11, 3) := dk_154 0 11 (dk_at dksX5_many_1 3 rfl rfl)
theorem dX5_many_28 : decode cX5_many 28 = .ok (.aload_n 0, 1) := dk_42 (dk_at dksX5_many_1 6 rfl rfl)
theorem dX5_many_29 : decode cX5_many 29 = .ok (.iload_n 1, 1) := dk_27 (dk_at dksX5_many_1 7 rfl rfl)
theorem dX5_many_30 : decode cX5_many 30 = .ok (.iload 4, 2) := dk_21 4 (dk_at dksX5_many_1 8 rfl rfl)
theorem dX5_many_32 : decode cX5_many 32 = .ok (.iconst 1, 1) := dk_4 (dk_at dksX5_many_1 10 rfl rfl)
theorem dX5_many_33 : decode cX5_many 33 = .ok (.invokevirtual 160, 3) := dk_182 0 160 (dk_at dksX5_many_1 11 rfl rfl)
theorem dX5_many_36 : decode cX5_many 36 = .ok (.return_, 1) := dk_177 (dk_at dksX5_many_1 14 rfl rfl)
theorem dX5_many_37 : decode cX5_many 37 = .ok (.aload_n 0, 1) := dk_42 (dk_at dksX5_many_1 15 rfl rfl)
theorem dX5_many_38 : decode cX5_many 38 = .ok (.getfield 9, 3) := dk_180 0 9 (dk_at dksX5_many_1 16 rfl rfl)
theorem dX5_many_41 : decode cX5_many 41 = .ok (.iload_n 1, 1) := dk_27 (dk_at dksX5_many_1 19 rfl rfl)
theorem dX5_many_42 : decode cX5_many 42 = .ok (.iconst 0, 1) := dk_3 (dk_at dksX5_many_1 20 rfl rfl)
theorem dX5_many_43 : decode cX5_many 43 = .ok (.iload_n 3, 1) := dk_29 (dk_at dksX5_many_1 21 rfl rfl)
theorem dX5_many_44 : decode cX5_many 44 = .ok (.invokevirtual 90, 3) := dk_182 0 90 (dk_at dksX5_many_2 0 rfl rfl)
theorem dX5_many_47 : decode cX5_many 47 = .ok (.aload_n 0, 1) := dk_42 (dk_at dksX5_many_2 3 rfl rfl)
theorem dX5_many_48 : decode cX5_many 48 = .ok (.sipush 161, 3) := dk_17 0 161 (dk_at dksX5_many_2 4 rfl rfl)
theorem dX5_many_51 : decode cX5_many 51 = .ok (.invokevirtual 49, 3) := dk_182 0 49 (dk_at dksX5_many_2 7 rfl rfl)
theorem dX5_many_54 : decode cX5_many 54 = .ok (.ifCond .eq 39, 3) := dk_153 0 39 (dk_at dksX5_many_2 10 rfl rfl)
theorem dX5_many_57 : decode cX5_many 57 = .ok (.aload_n 0, 1) := dk_42 (dk_at dksX5_many_2 13 rfl rfl)
theorem dX5_many_58 : decode cX5_many 58 = .ok (.getfield 9, 3) := dk_180 0 9 (dk_at dksX5_many_2 14 rfl rfl)
theorem dX5_many_61 : decode cX5_many 61 = .ok (.bipush 23, 2) := dk_16 23 (dk_at dksX5_many_2 17 rfl rfl)
theorem dX5_many_63 : decode cX5_many 63 = .ok (.aload_n 0, 1) := dk_42 (dk_at dksX5_many_2 19 rfl rfl)
theorem dX5_many_64 : decode cX5_many 64 = .ok (.getfield 26, 3) := dk_180 0 26 (dk_at dksX5_many_2 20 rfl rfl)
theorem dX5_many_67 : decode cX5_many 67 = .ok (.invokevirtual 80, 3) := dk_182 0 80 (dk_at dksX5_many_3 0 rfl rfl)
theorem dX5_many_70 : decode cX5_many 70 = .ok (.istore 5, 2) := dk_54 5 (dk_at dksX5_many_3 3 rfl rfl)
theorem dX5_many_72 : decode cX5_many 72 = .ok (.aload_n 0, 1) := dk_42 (dk_at dksX5_many_3 5 rfl rfl)
theorem dX5_many_73 : decode cX5_many 73 = .ok (.getfield 9, 3) := dk_180 0 9 (dk_at dksX5_many_3 6 rfl rfl)
theorem dX5_many_76 : decode cX5_many 76 = .ok (.iload_n 1, 1) := dk_27 (dk_at dksX5_many_3 9 rfl rfl)
theorem dX5_many_77 : decode cX5_many 77 = .ok (.iconst 4, 1) := dk_7 (dk_at dksX5_many_3 10 rfl rfl)
theorem dX5_many_78 : decode cX5_many 78 = .ok (.iload 5, 2) := dk_21 5 (dk_at dksX5_many_3 11 rfl rfl)
theorem dX5_many_80 : decode cX5_many 80 = .ok (.invokevirtual 90, 3) := dk_182 0 90 (dk_at dksX5_many_3 13 rfl rfl)
theorem dX5_many_83 : decode cX5_many 83 = .ok (.aload_n 0, 1) := dk_42 (dk_at dksX5_many_3 16 rfl rfl)
theorem dX5_many_84 : decode cX5_many 84 = .ok (.iload 5, 2) := dk_21 5 (dk_at dksX5_many_3 17 rfl rfl)
theorem dX5_many_86 : decode cX5_many 86 = .ok (.invokevirtual 172, 3) := dk_182 0 172 (dk_at dksX5_many_3 19 rfl rfl)
theorem dX5_many_89 : decode cX5_many 89 = .ok (.pop, 1) := dk_87 (dk_at dksX5_many_3 22 rfl rfl)
theorem dX5_many_90 : decode cX5_many 90 = .ok (.goto 82, 3) := dk_167 0 82 (dk_at dksX5_many_4 0 rfl rfl)
theorem dX5_many_93 : decode cX5_many 93 = .ok (.aload_n 0, 1) := dk_42 (dk_at dksX5_many_4 3 rfl rfl)
theorem dX5_many_94 : decode cX5_many 94 = .ok (.bipush 19, 2) := dk_16 19 (dk_at dksX5_many_4 4 rfl rfl)
theorem dX5_many_96 : decode cX5_many 96 = .ok (.invokevirtual 49, 3) := dk_182 0 49 (dk_at dksX5_many_4 6 rfl rfl)
theorem dX5_many_99 : decode cX5_many 99 = .ok (.ifCond .eq 73, 3) := dk_153 0 73 (dk_at dksX5_many_4 9 rfl rfl)
theorem dX5_many_102 : decode cX5_many 102 = .ok (.aload_n 0, 1) := dk_42 (dk_at dksX5_many_4 12 rfl rfl)
theorem dX5_many_103 : decode cX5_many 103 = .ok (.getfield 9, 3) := dk_180 0 9 (dk_at dksX5_many_4 13 rfl rfl)
theorem dX5_many_106 : decode cX5_many 106 = .ok (.bipush 23, 2) := dk_16 23 (dk_at dksX5_many_4 16 rfl rfl)
theorem dX5_many_108 : decode cX5_many 108 = .ok (.aload_n 0, 1) := dk_42 (dk_at dksX5_many_4 18 rfl rfl)
theorem dX5_many_109 : decode cX5_many 109 = .ok (.getfield 26, 3) := dk_180 0 26 (dk_at dksX5_many_4 19 rfl rfl)
theorem dX5_many_112 : decode cX5_many 112 = .ok (.invokevirtual 80, 3) := dk_182 0 80 (dk_at dksX5_many_5 0 rfl rfl)
theorem dX5_many_115 : decode cX5_many 115 = .ok (.istore 5, 2) := dk_54 5 (dk_at dksX5_many_5 3 rfl rfl)
theorem dX5_many_117 : decode cX5_many 117 = .ok (.aload_n 0, 1) := dk_42 (dk_at dksX5_many_5 5 rfl rfl)
theorem dX5_many_118 : decode cX5_many 118 = .ok (.getfield 9, 3) := dk_180 0 9 (dk_at dksX5_many_5 6 rfl rfl)
theorem dX5_many_121 : decode cX5_many 121 = .ok (.iload_n 1, 1) := dk_27 (dk_at dksX5_many_5 9 rfl rfl)
theorem dX5_many_122 : decode cX5_many 122 = .ok (.iconst 4, 1) := dk_7 (dk_at dksX5_many_5 10 rfl rfl)
theorem dX5_many_123 : decode cX5_many 123 = .ok (.iload 5, 2) := dk_21 5 (dk_at dksX5_many_5 11 rfl rfl)
theorem dX5_many_125 : decode cX5_many 125 = .ok (.invokevirtual 90, 3) := dk_182 0 90 (dk_at dksX5_many_5 13 rfl rfl)
theorem dX5_many_128 : decode cX5_many 128 = .ok (.aload_n 0, 1) := dk_42 (dk_at dksX5_many_5 16 rfl rfl)
theorem dX5_many_129 : decode cX5_many 129 = .ok (.dup, 1) := dk_89 (dk_at dksX5_many_5 17 rfl rfl)
theorem dX5_many_130 : decode cX5_many 130 = .ok (.getfield 26, 3) := dk_180 0 26 (dk_at dksX5_many_5 18 rfl rfl)
theorem dX5_many_133 : decode cX5_many 133 = .ok (.iconst 1, 1) := dk_4 (dk_at dksX5_many_5 21 rfl rfl)
theorem dX5_many_134 : decode cX5_many 134 = .ok (.iadd, 1) := dk_96 (dk_at dksX5_many_5 22 rfl rfl)
theorem dX5_many_135 : decode cX5_many 135 = .ok (.putfield 26, 3) := dk_181 0 26 (dk_at dksX5_many_6 0 rfl rfl)
theorem dX5_many_138 : decode cX5_many 138 = .ok (.aload_n 0, 1) := dk_42 (dk_at dksX5_many_6 3 rfl rfl)
theorem dX5_many_139 : decode cX5_many 139 = .ok (.sipush 161, 3) := dk_17 0 161 (dk_at dksX5_many_6 4 rfl rfl)
theorem dX5_many_142 : decode cX5_many 142 = .ok (.invokevirtual 49, 3) := dk_182 0 49 (dk_at dksX5_many_6 7 rfl rfl)
theorem dX5_many_145 : decode cX5_many 145 = .ok (.ifCond .ne 11, 3) := dk_154 0 11 (dk_at dksX5_many_6 10 rfl rfl)
theorem dX5_many_148 : decode cX5_many 148 = .ok (.aload_n 0, 1) := dk_42 (dk_at dksX5_many_6 13 rfl rfl)
theorem dX5_many_149 : decode cX5_many 149 = .ok (.invokevirtual 52, 3) := dk_182 0 52 (dk_at dksX5_many_6 14 rfl rfl)
theorem dX5_many_152 : decode cX5_many 152 = .ok (.pop, 1) := dk_87 (dk_at dksX5_many_6 17 rfl rfl)
theorem dX5_many_153 : decode cX5_many 153 = .ok (.goto 19, 3) := dk_167 0 19 (dk_at dksX5_many_6 18 rfl rfl)
theorem dX5_many_156 : decode cX5_many 156 = .ok (.aload_n 0, 1) := dk_42 (dk_at dksX5_many_6 21 rfl rfl)
theorem dX5_many_157 : decode cX5_many 157 = .ok (.iload 5, 2) := dk_21 5 (dk_at dksX5_many_6 22 rfl rfl)
theorem dX5_many_159 : decode cX5_many 159 = .ok (.invokevirtual 172, 3) := dk_182 0 172 (dk_at dksX5_many_7 0 rfl rfl)
theorem dX5_many_162 : decode cX5_many 162 = .ok (.ifCond .eq 10, 3) := dk_153 0 10 (dk_at dksX5_many_7 3 rfl rfl)
theorem dX5_many_165 : decode cX5_many 165 = .ok (.aload_n 0, 1) := dk_42 (dk_at dksX5_many_7 6 rfl rfl)
theorem dX5_many_166 : decode cX5_many 166 = .ok (.bipush 20, 2) := dk_16 20 (dk_at dksX5_many_7 7 rfl rfl)
theorem dX5_many_168 : decode cX5_many 168 = .ok (.invokevirtual 67, 3) := dk_182 0 67 (dk_at dksX5_many_7 9 rfl rfl)
theorem dX5_many_171 : decode cX5_many 171 = .ok (.pop, 1) := dk_87 (dk_at dksX5_many_7 12 rfl rfl)
theorem dX5_many_172 : decode cX5_many 172 = .ok (.aload_n 0, 1) := dk_42 (dk_at dksX5_many_7 13 rfl rfl)
theorem dX5_many_173 : decode cX5_many 173 = .ok (.sipush 149, 3) := dk_17 0 149 (dk_at dksX5_many_7 14 rfl rfl)
theorem dX5_many_176 : decode cX5_many 176 = .ok (.invokevirtual 67, 3) := dk_182 0 67 (dk_at dksX5_many_7 17 rfl rfl)
theorem dX5_many_179 : decode cX5_many 179 = .ok (.ifCond .eq 20, 3) := dk_153 0 20 (dk_at dksX5_many_7 20 rfl rfl)
theorem dX5_many_182 : decode cX5_many 182 = .ok (.aload_n 0, 1) := dk_42 (dk_at dksX5_many_7 23 rfl rfl)
theorem dX5_many_183 : decode cX5_many 183 = .ok (.getfield 9, 3) := dk_180 0 9 (dk_at dksX5_many_8 0 rfl rfl)
theorem dX5_many_186 : decode cX5_many 186 = .ok (.iload_n 1, 1) := dk_27 (dk_at dksX5_many_8 3 rfl rfl)
theorem dX5_many_187 : decode cX5_many 187 = .ok (.iconst 3, 1) := dk_6 (dk_at dksX5_many_8 4 rfl rfl)
theorem dX5_many_188 : decode cX5_many 188 = .ok (.aload_n 0, 1) := dk_42 (dk_at dksX5_many_8 5 rfl rfl)
theorem dX5_many_189 : decode cX5_many 189 = .ok (.iload 4, 2) := dk_21 4 (dk_at dksX5_many_8 6 rfl rfl)
theorem dX5_many_191 : decode cX5_many 191 = .ok (.iconst 1, 1) := dk_4 (dk_at dksX5_many_8 8 rfl rfl)
theorem dX5_many_192 : decode cX5_many 192 = .ok (.iadd, 1) := dk_96 (dk_at dksX5_many_8 9 rfl rfl)
theorem dX5_many_193 : decode cX5_many 193 = .ok (.invokevirtual 87, 3) := dk_182 0 87 (dk_at dksX5_many_8 10 rfl rfl)
theorem dX5_many_196 : decode cX5_many 196 = .ok (.invokevirtual 90, 3) := dk_182 0 90 (dk_at dksX5_many_8 13 rfl rfl)
theorem dX5_many_199 : decode cX5_many 199 = .ok (.return_, 1) := dk_177 (dk_at dksX5_many_8 16 rfl rfl)
abbrev cX5_components : ByteArray := prog_5_method_24_code
def yX5_components : MethodName := ⟨RX5, "components", "(IIZ)V"⟩
def dkwX5_components_6 : List UInt8 := [182, 0, 73, 154, 255, 117, 42, 16, 16, 182, 0, 67, 87, 177]
abbrev dktX5_components_6 : List UInt8 := dkwX5_components_6 ++ []
def dkwX5_components_5 : List UInt8 := [182, 0, 97, 182, 0, 90, 42, 180, 0, 9, 27, 6, 21, 4, 21, 5, 182, 0, 106, 54, 4, 42, 16, 21]
abbrev dktX5_components_5 : List UInt8 := dkwX5_components_5 ++ dktX5_components_6
def dkwX5_components_4 : List UInt8 := [153, 0, 28, 42, 180, 0, 9, 21, 5, 8, 5, 182, 0, 90, 42, 180, 0, 9, 21, 5, 7, 42]
abbrev dktX5_components_4 : List UInt8 := dkwX5_components_4 ++ dktX5_components_5
def dkwX5_components_3 : List UInt8 := [180, 0, 9, 21, 5, 8, 4, 182, 0, 90, 167, 0, 41, 29, 153, 0, 37, 42, 16, 116, 182, 0, 73]
abbrev dktX5_components_3 : List UInt8 := dkwX5_components_3 ++ dktX5_components_4
def dkwX5_components_2 : List UInt8 := [4, 96, 182, 0, 87, 182, 0, 90, 29, 153, 0, 27, 42, 17, 0, 150, 182, 0, 73, 153, 0, 17, 42]
abbrev dktX5_components_2 : List UInt8 := dkwX5_components_2 ++ dktX5_components_3
def dkwX5_components_1 : List UInt8 := [154, 0, 4, 177, 42, 180, 0, 9, 21, 5, 8, 3, 182, 0, 90, 42, 180, 0, 9, 21, 5, 6, 42, 28]
abbrev dktX5_components_1 : List UInt8 := dkwX5_components_1 ++ dktX5_components_2
def dkwX5_components_0 : List UInt8 := [2, 54, 4, 42, 180, 0, 9, 16, 22, 42, 180, 0, 26, 182, 0, 80, 54, 5, 42, 3, 182, 0, 67]
abbrev dktX5_components_0 : List UInt8 := dkwX5_components_0 ++ dktX5_components_1
theorem dksX5_components_0 : cX5_components.data.toList.drop 0 = dktX5_components_0 := by decide +kernel
theorem dksX5_components_1 : cX5_components.data.toList.drop 23 = dktX5_components_1 := dk_seg dksX5_components_0 23 rfl rfl
theorem dksX5_components_2 : cX5_components.data.toList.drop 47 = dktX5_components_2 := dk_seg dksX5_components_1 24 rfl rfl
theorem dksX5_components_3 : cX5_components.data.toList.drop 70 = dktX5_components_3 := dk_seg dksX5_components_2 23 rfl rfl
theorem dksX5_components_4 : cX5_components.data.toList.drop 93 = dktX5_components_4 := dk_seg dksX5_components_3 23 rfl rfl
theorem dksX5_components_5 : cX5_components.data.toList.drop 115 = dktX5_components_5 := dk_seg dksX5_components_4 22 rfl rfl
theorem dksX5_components_6 : cX5_components.data.toList.drop 139 = dktX5_components_6 := dk_seg dksX5_components_5 24 rfl rfl
theorem dX5_components_0 : decode cX5_components 0 = .ok (.iconst (-1), 1) := dk_2 (dk_at dksX5_components_0 0 rfl rfl)
theorem dX5_components_1 : decode cX5_components 1 = .ok (.istore 4, 2) := dk_54 4 (dk_at dksX5_components_0 1 rfl rfl)
theorem dX5_components_3 : decode cX5_components 3 = .ok (.aload_n 0, 1) := dk_42 (dk_at dksX5_components_0 3 rfl rfl)
theorem dX5_components_4 : decode cX5_components 4 = .ok (.getfield 9, 3) := dk_180 0 9 (dk_at dksX5_components_0 4 rfl rfl)
theorem dX5_components_7 : decode cX5_components 7 = .ok (.bipush 22, 2) := dk_16 22 (dk_at dksX5_components_0 7 rfl rfl)
theorem dX5_components_9 : decode cX5_components 9 = .ok (.aload_n 0, 1) := dk_42 (dk_at dksX5_components_0 9 rfl rfl)
theorem dX5_components_10 : decode cX5_components 10 = .ok (.getfield 26, 3) := dk_180 0 26 (dk_at dksX5_components_0 10 rfl rfl)
theorem dX5_components_13 : decode cX5_components 13 = .ok (.invokevirtual 80, 3) := dk_182 0 80 (dk_at dksX5_components_0 13 rfl rfl)
theorem dX5_components_16 : decode cX5_components 16 = .ok (.istore 5, 2) := dk_54 5 (dk_at dksX5_components_0 16 rfl rfl)
theorem dX5_components_18 : decode cX5_components 18 = .ok (.aload_n 0, 1) := dk_42 (dk_at dksX5_components_0 18 rfl rfl)
theorem dX5_components_19 : decode cX5_components 19 = .ok (.iconst 0, 1) := dk_3 (dk_at dksX5_components_0 19 rfl rfl)
theorem dX5_components_20 : decode cX5_components 20 = .ok (.invokevirtual 67, 3) := dk_182 0 67 (dk_at dksX5_components_0 20 rfl rfl)
theorem dX5_components_23 : decode cX5_components 23 = .ok (.ifCond .ne 4, 3) := dk_154 0 4 (dk_at dksX5_components_1 0 rfl rfl)
theorem dX5_components_26 : decode cX5_components 26 = .ok (.return_, 1) := dk_177 (dk_at dksX5_components_1 3 rfl rfl)
theorem dX5_components_27 : decode cX5_components 27 = .ok (.aload_n 0, 1) := dk_42 (dk_at dksX5_components_1 4 rfl rfl)
theorem dX5_components_28 : decode cX5_components 28 = .ok (.getfield 9, 3) := dk_180 0 9 (dk_at dksX5_components_1 5 rfl rfl)
theorem dX5_components_31 : decode cX5_components 31 = .ok (.iload 5, 2) := dk_21 5 (dk_at dksX5_components_1 8 rfl rfl)
theorem dX5_components_33 : decode cX5_components 33 = .ok (.iconst 5, 1) := dk_8 (dk_at dksX5_components_1 10 rfl rfl)
theorem dX5_components_34 : decode cX5_components 34 = .ok (.iconst 0, 1) := dk_3 (dk_at dksX5_components_1 11 rfl rfl)
theorem dX5_components_35 : decode cX5_components 35 = .ok (.invokevirtual 90, 3) := dk_182 0 90 (dk_at dksX5_components_1 12 rfl rfl)
theorem dX5_components_38 : decode cX5_components 38 = .ok (.aload_n 0, 1) := dk_42 (dk_at dksX5_components_1 15 rfl rfl)
theorem dX5_components_39 : decode cX5_components 39 = .ok (.getfield 9, 3) := dk_180 0 9 (dk_at dksX5_components_1 16 rfl rfl)
theorem dX5_components_42 : decode cX5_components 42 = .ok (.iload 5, 2) := dk_21 5 (dk_at dksX5_components_1 19 rfl rfl)
theorem dX5_components_44 : decode cX5_components 44 = .ok (.iconst 3, 1) := dk_6 (dk_at dksX5_components_1 21 rfl rfl)
theorem dX5_components_45 : decode cX5_components 45 = .ok (.aload_n 0, 1) := dk_42 (dk_at dksX5_components_1 22 rfl rfl)
theorem dX5_components_46 : decode cX5_components 46 = .ok (.iload_n 2, 1) := dk_28 (dk_at dksX5_components_1 23 rfl rfl)
theorem dX5_components_47 : decode cX5_components 47 = .ok (.iconst 1, 1) := dk_4 (dk_at dksX5_components_2 0 rfl rfl)
theorem dX5_components_48 : decode cX5_components 48 = .ok (.iadd, 1) := dk_96 (dk_at dksX5_components_2 1 rfl rfl)
theorem dX5_components_49 : decode cX5_components 49 = .ok (.invokevirtual 87, 3) := dk_182 0 87 (dk_at dksX5_components_2 2 rfl rfl)
theorem dX5_components_52 : decode cX5_components 52 = .ok (.invokevirtual 90, 3) := dk_182 0 90 (dk_at dksX5_components_2 5 rfl rfl)
theorem dX5_components_55 : decode cX5_components 55 = .ok (.iload_n 3, 1) := dk_29 (dk_at dksX5_components_2 8 rfl rfl)
theorem dX5_components_56 : decode cX5_components 56 = .ok (.ifCond .eq 27, 3) := dk_153 0 27 (dk_at dksX5_components_2 9 rfl rfl)
theorem dX5_components_59 : decode cX5_components 59 = .ok (.aload_n 0, 1) := dk_42 (dk_at dksX5_components_2 12 rfl rfl)
theorem dX5_components_60 : decode cX5_components 60 = .ok (.sipush 150, 3) := dk_17 0 150 (dk_at dksX5_components_2 13 rfl rfl)
theorem dX5_components_63 : decode cX5_components 63 = .ok (.invokevirtual 73, 3) := dk_182 0 73 (dk_at dksX5_components_2 16 rfl rfl)
theorem dX5_components_66 : decode cX5_components 66 = .ok (.ifCond .eq 17, 3) := dk_153 0 17 (dk_at dksX5_components_2 19 rfl rfl)
theorem dX5_components_69 : decode cX5_components 69 = .ok (.aload_n 0, 1) := dk_42 (dk_at dksX5_components_2 22 rfl rfl)
theorem dX5_components_70 : decode cX5_components 70 = .ok (.getfield 9, 3) := dk_180 0 9 (dk_at dksX5_components_3 0 rfl rfl)
theorem dX5_components_73 : decode cX5_components 73 = .ok (.iload 5, 2) := dk_21 5 (dk_at dksX5_components_3 3 rfl rfl)
theorem dX5_components_75 : decode cX5_components 75 = .ok (.iconst 5, 1) := dk_8 (dk_at dksX5_components_3 5 rfl rfl)
theorem dX5_components_76 : decode cX5_components 76 = .ok (.iconst 1, 1) := dk_4 (dk_at dksX5_components_3 6 rfl rfl)
theorem dX5_components_77 : decode cX5_components 77 = .ok (.invokevirtual 90, 3) := dk_182 0 90 (dk_at dksX5_components_3 7 rfl rfl)
theorem dX5_components_80 : decode cX5_components 80 = .ok (.goto 41, 3) := dk_167 0 41 (dk_at dksX5_components_3 10 rfl rfl)
theorem dX5_components_83 : decode cX5_components 83 = .ok (.iload_n 3, 1) := dk_29 (dk_at dksX5_components_3 13 rfl rfl)
theorem dX5_components_84 : decode cX5_components 84 = .ok (.ifCond .eq 37, 3) := dk_153 0 37 (dk_at dksX5_components_3 14 rfl rfl)
theorem dX5_components_87 : decode cX5_components 87 = .ok (.aload_n 0, 1) := dk_42 (dk_at dksX5_components_3 17 rfl rfl)
theorem dX5_components_88 : decode cX5_components 88 = .ok (.bipush 116, 2) := dk_16 116 (dk_at dksX5_components_3 18 rfl rfl)
theorem dX5_components_90 : decode cX5_components 90 = .ok (.invokevirtual 73, 3) := dk_182 0 73 (dk_at dksX5_components_3 20 rfl rfl)
theorem dX5_components_93 : decode cX5_components 93 = .ok (.ifCond .eq 28, 3) := dk_153 0 28 (dk_at dksX5_components_4 0 rfl rfl)
theorem dX5_components_96 : decode cX5_components 96 = .ok (.aload_n 0, 1) := dk_42 (dk_at dksX5_components_4 3 rfl rfl)
theorem dX5_components_97 : decode cX5_components 97 = .ok (.getfield 9, 3) := dk_180 0 9 (dk_at dksX5_components_4 4 rfl rfl)
theorem dX5_components_100 : decode cX5_components 100 = .ok (.iload 5, 2) := dk_21 5 (dk_at dksX5_components_4 7 rfl rfl)
theorem dX5_components_102 : decode cX5_components 102 = .ok (.iconst 5, 1) := dk_8 (dk_at dksX5_components_4 9 rfl rfl)
theorem dX5_components_103 : decode cX5_components 103 = .ok (.iconst 2, 1) := dk_5 (dk_at dksX5_components_4 10 rfl rfl)
theorem dX5_components_104 : decode cX5_components 104 = .ok (.invokevirtual 90, 3) := dk_182 0 90 (dk_at dksX5_components_4 11 rfl rfl)
theorem dX5_components_107 : decode cX5_components 107 = .ok (.aload_n 0, 1) := dk_42 (dk_at dksX5_components_4 14 rfl rfl)
theorem dX5_components_108 : decode cX5_components 108 = .ok (.getfield 9, 3) := dk_180 0 9 (dk_at dksX5_components_4 15 rfl rfl)
theorem dX5_components_111 : decode cX5_components 111 = .ok (.iload 5, 2) := dk_21 5 (dk_at dksX5_components_4 18 rfl rfl)
theorem dX5_components_113 : decode cX5_components 113 = .ok (.iconst 4, 1) := dk_7 (dk_at dksX5_components_4 20 rfl rfl)
theorem dX5_components_114 : decode cX5_components 114 = .ok (.aload_n 0, 1) := dk_42 (dk_at dksX5_components_4 21 rfl rfl)
theorem dX5_components_115 : decode cX5_components 115 = .ok (.invokevirtual 97, 3) := dk_182 0 97 (dk_at dksX5_components_5 0 rfl rfl)
theorem dX5_components_118 : decode cX5_components 118 = .ok (.invokevirtual 90, 3) := dk_182 0 90 (dk_at dksX5_components_5 3 rfl rfl)
theorem dX5_components_121 : decode cX5_components 121 = .ok (.aload_n 0, 1) := dk_42 (dk_at dksX5_components_5 6 rfl rfl)
theorem dX5_components_122 : decode cX5_components 122 = .ok (.getfield 9, 3) := dk_180 0 9 (dk_at dksX5_components_5 7 rfl rfl)
theorem dX5_components_125 : decode cX5_components 125 = .ok (.iload_n 1, 1) := dk_27 (dk_at dksX5_components_5 10 rfl rfl)
theorem dX5_components_126 : decode cX5_components 126 = .ok (.iconst 3, 1) := dk_6 (dk_at dksX5_components_5 11 rfl rfl)
theorem dX5_components_127 : decode cX5_components 127 = .ok (.iload 4, 2) := dk_21 4 (dk_at dksX5_components_5 12 rfl rfl)
theorem dX5_components_129 : decode cX5_components 129 = .ok (.iload 5, 2) := dk_21 5 (dk_at dksX5_components_5 14 rfl rfl)
theorem dX5_components_131 : decode cX5_components 131 = .ok (.invokevirtual 106, 3) := dk_182 0 106 (dk_at dksX5_components_5 16 rfl rfl)
theorem dX5_components_134 : decode cX5_components 134 = .ok (.istore 4, 2) := dk_54 4 (dk_at dksX5_components_5 19 rfl rfl)
theorem dX5_components_136 : decode cX5_components 136 = .ok (.aload_n 0, 1) := dk_42 (dk_at dksX5_components_5 21 rfl rfl)
theorem dX5_components_137 : decode cX5_components 137 = .ok (.bipush 21, 2) := dk_16 21 (dk_at dksX5_components_5 22 rfl rfl)
theorem dX5_components_139 : decode cX5_components 139 = .ok (.invokevirtual 73, 3) := dk_182 0 73 (dk_at dksX5_components_6 0 rfl rfl)
theorem dX5_components_142 : decode cX5_components 142 = .ok (.ifCond .ne (-139), 3) := dk_154 255 117 (dk_at dksX5_components_6 3 rfl rfl)
theorem dX5_components_145 : decode cX5_components 145 = .ok (.aload_n 0, 1) := dk_42 (dk_at dksX5_components_6 6 rfl rfl)
theorem dX5_components_146 : decode cX5_components 146 = .ok (.bipush 16, 2) := dk_16 16 (dk_at dksX5_components_6 7 rfl rfl)
theorem dX5_components_148 : decode cX5_components 148 = .ok (.invokevirtual 67, 3) := dk_182 0 67 (dk_at dksX5_components_6 9 rfl rfl)
theorem dX5_components_151 : decode cX5_components 151 = .ok (.pop, 1) := dk_87 (dk_at dksX5_components_6 12 rfl rfl)
theorem dX5_components_152 : decode cX5_components 152 = .ok (.return_, 1) := dk_177 (dk_at dksX5_components_6 13 rfl rfl)
abbrev cX5_value : ByteArray := prog_5_method_30_code
def yX5_value : MethodName := ⟨RX5, "value", "()I"⟩
def dkwX5_value_7 : List UInt8 := [16, 8, 160, 0, 8, 42, 27, 182, 0, 184, 27, 172]
abbrev dktX5_value_7 : List UInt8 := dkwX5_value_7 ++ []
def dkwX5_value_6 : List UInt8 := [6, 160, 0, 12, 42, 27, 6, 182, 0, 181, 167, 0, 24, 42, 89, 180, 0, 26, 4, 96, 181, 0, 26, 28]
abbrev dktX5_value_6 : List UInt8 := dkwX5_value_6 ++ dktX5_value_7
def dkwX5_value_5 : List UInt8 := [182, 0, 49, 153, 0, 8, 16, 8, 167, 0, 4, 6, 61, 42, 180, 0, 9, 27, 8, 28, 182, 0, 90, 28]
abbrev dktX5_value_5 : List UInt8 := dkwX5_value_5 ++ dktX5_value_6
def dkwX5_value_4 : List UInt8 := [153, 0, 8, 16, 6, 167, 0, 31, 42, 8, 182, 0, 49, 153, 0, 8, 16, 7, 167, 0, 18, 42, 16, 15]
abbrev dktX5_value_4 : List UInt8 := dkwX5_value_4 ++ dktX5_value_5
def dkwX5_value_3 : List UInt8 := [153, 0, 7, 7, 167, 0, 56, 42, 6, 182, 0, 49, 153, 0, 7, 8, 167, 0, 44, 42, 7, 182, 0, 49]
abbrev dktX5_value_3 : List UInt8 := dkwX5_value_3 ++ dktX5_value_4
def dkwX5_value_2 : List UInt8 := [167, 0, 82, 42, 17, 0, 145, 182, 0, 49, 153, 0, 7, 5, 167, 0, 68, 42, 3, 182, 0, 49]
abbrev dktX5_value_2 : List UInt8 := dkwX5_value_2 ++ dktX5_value_3
def dkwX5_value_1 : List UInt8 := [17, 0, 166, 182, 0, 49, 153, 0, 7, 3, 167, 0, 95, 42, 16, 127, 182, 0, 49, 153, 0, 7, 4]
abbrev dktX5_value_1 : List UInt8 := dkwX5_value_1 ++ dktX5_value_2
def dkwX5_value_0 : List UInt8 := [42, 180, 0, 9, 16, 26, 42, 180, 0, 26, 182, 0, 80, 60, 42, 180, 0, 15, 153, 0, 5, 27, 172, 42]
abbrev dktX5_value_0 : List UInt8 := dkwX5_value_0 ++ dktX5_value_1
theorem dksX5_value_0 : cX5_value.data.toList.drop 0 = dktX5_value_0 := by decide +kernel
theorem dksX5_value_1 : cX5_value.data.toList.drop 24 = dktX5_value_1 := dk_seg dksX5_value_0 24 rfl rfl
theorem dksX5_value_2 : cX5_value.data.toList.drop 47 = dktX5_value_2 := dk_seg dksX5_value_1 23 rfl rfl
theorem dksX5_value_3 : cX5_value.data.toList.drop 69 = dktX5_value_3 := dk_seg dksX5_value_2 22 rfl rfl
theorem dksX5_value_4 : cX5_value.data.toList.drop 93 = dktX5_value_4 := dk_seg dksX5_value_3 24 rfl rfl
theorem dksX5_value_5 : cX5_value.data.toList.drop 117 = dktX5_value_5 := dk_seg dksX5_value_4 24 rfl rfl
theorem dksX5_value_6 : cX5_value.data.toList.drop 141 = dktX5_value_6 := dk_seg dksX5_value_5 24 rfl rfl
theorem dksX5_value_7 : cX5_value.data.toList.drop 165 = dktX5_value_7 := dk_seg dksX5_value_6 24 rfl rfl
theorem dX5_value_0 : decode cX5_value 0 = .ok (.aload_n 0, 1) := dk_42 (dk_at dksX5_value_0 0 rfl rfl)
theorem dX5_value_1 : decode cX5_value 1 = .ok (.getfield 9, 3) := dk_180 0 9 (dk_at dksX5_value_0 1 rfl rfl)
theorem dX5_value_4 : decode cX5_value 4 = .ok (.bipush 26, 2) := dk_16 26 (dk_at dksX5_value_0 4 rfl rfl)
theorem dX5_value_6 : decode cX5_value 6 = .ok (.aload_n 0, 1) := dk_42 (dk_at dksX5_value_0 6 rfl rfl)
theorem dX5_value_7 : decode cX5_value 7 = .ok (.getfield 26, 3) := dk_180 0 26 (dk_at dksX5_value_0 7 rfl rfl)
theorem dX5_value_10 : decode cX5_value 10 = .ok (.invokevirtual 80, 3) := dk_182 0 80 (dk_at dksX5_value_0 10 rfl rfl)
theorem dX5_value_13 : decode cX5_value 13 = .ok (.istore_n 1, 1) := dk_60 (dk_at dksX5_value_0 13 rfl rfl)
theorem dX5_value_14 : decode cX5_value 14 = .ok (.aload_n 0, 1) := dk_42 (dk_at dksX5_value_0 14 rfl rfl)
theorem dX5_value_15 : decode cX5_value 15 = .ok (.getfield 15, 3) := dk_180 0 15 (dk_at dksX5_value_0 15 rfl rfl)
theorem dX5_value_18 : decode cX5_value 18 = .ok (.ifCond .eq 5, 3) := dk_153 0 5 (dk_at dksX5_value_0 18 rfl rfl)
theorem dX5_value_21 : decode cX5_value 21 = .ok (.iload_n 1, 1) := dk_27 (dk_at dksX5_value_0 21 rfl rfl)
theorem dX5_value_22 : decode cX5_value 22 = .ok (.ireturn, 1) := dk_172 (dk_at dksX5_value_0 22 rfl rfl)
theorem dX5_value_23 : decode cX5_value 23 = .ok (.aload_n 0, 1) := dk_42 (dk_at dksX5_value_0 23 rfl rfl)
theorem dX5_value_24 : decode cX5_value 24 = .ok (.sipush 166, 3) := dk_17 0 166 (dk_at dksX5_value_1 0 rfl rfl)
theorem dX5_value_27 : decode cX5_value 27 = .ok (.invokevirtual 49, 3) := dk_182 0 49 (dk_at dksX5_value_1 3 rfl rfl)
theorem dX5_value_30 : decode cX5_value 30 = .ok (.ifCond .eq 7, 3) := dk_153 0 7 (dk_at dksX5_value_1 6 rfl rfl)
theorem dX5_value_33 : decode cX5_value 33 = .ok (.iconst 0, 1) := dk_3 (dk_at dksX5_value_1 9 rfl rfl)
theorem dX5_value_34 : decode cX5_value 34 = .ok (.goto 95, 3) := dk_167 0 95 (dk_at dksX5_value_1 10 rfl rfl)
theorem dX5_value_37 : decode cX5_value 37 = .ok (.aload_n 0, 1) := dk_42 (dk_at dksX5_value_1 13 rfl rfl)
theorem dX5_value_38 : decode cX5_value 38 = .ok (.bipush 127, 2) := dk_16 127 (dk_at dksX5_value_1 14 rfl rfl)
theorem dX5_value_40 : decode cX5_value 40 = .ok (.invokevirtual 49, 3) := dk_182 0 49 (dk_at dksX5_value_1 16 rfl rfl)
theorem dX5_value_43 : decode cX5_value 43 = .ok (.ifCond .eq 7, 3) := dk_153 0 7 (dk_at dksX5_value_1 19 rfl rfl)
theorem dX5_value_46 : decode cX5_value 46 = .ok (.iconst 1, 1) := dk_4 (dk_at dksX5_value_1 22 rfl rfl)
theorem dX5_value_47 : decode cX5_value 47 = .ok (.goto 82, 3) := dk_167 0 82 (dk_at dksX5_value_2 0 rfl rfl)
theorem dX5_value_50 : decode cX5_value 50 = .ok (.aload_n 0, 1) := dk_42 (dk_at dksX5_value_2 3 rfl rfl)
theorem dX5_value_51 : decode cX5_value 51 = .ok (.sipush 145, 3) := dk_17 0 145 (dk_at dksX5_value_2 4 rfl rfl)
theorem dX5_value_54 : decode cX5_value 54 = .ok (.invokevirtual 49, 3) := dk_182 0 49 (dk_at dksX5_value_2 7 rfl rfl)
theorem dX5_value_57 : decode cX5_value 57 = .ok (.ifCond .eq 7, 3) := dk_153 0 7 (dk_at dksX5_value_2 10 rfl rfl)
theorem dX5_value_60 : decode cX5_value 60 = .ok (.iconst 2, 1) := dk_5 (dk_at dksX5_value_2 13 rfl rfl)
theorem dX5_value_61 : decode cX5_value 61 = .ok (.goto 68, 3) := dk_167 0 68 (dk_at dksX5_value_2 14 rfl rfl)
theorem dX5_value_64 : decode cX5_value 64 = .ok (.aload_n 0, 1) := dk_42 (dk_at dksX5_value_2 17 rfl rfl)
theorem dX5_value_65 : decode cX5_value 65 = .ok (.iconst 0, 1) := dk_3 (dk_at dksX5_value_2 18 rfl rfl)
theorem dX5_value_66 : decode cX5_value 66 = .ok (.invokevirtual 49, 3) := dk_182 0 49 (dk_at dksX5_value_2 19 rfl rfl)
theorem dX5_value_69 : decode cX5_value 69 = .ok (.ifCond .eq 7, 3) := dk_153 0 7 (dk_at dksX5_value_3 0 rfl rfl)
theorem dX5_value_72 : decode cX5_value 72 = .ok (.iconst 4, 1) := dk_7 (dk_at dksX5_value_3 3 rfl rfl)
theorem dX5_value_73 : decode cX5_value 73 = .ok (.goto 56, 3) := dk_167 0 56 (dk_at dksX5_value_3 4 rfl rfl)
theorem dX5_value_76 : decode cX5_value 76 = .ok (.aload_n 0, 1) := dk_42 (dk_at dksX5_value_3 7 rfl rfl)
theorem dX5_value_77 : decode cX5_value 77 = .ok (.iconst 3, 1) := dk_6 (dk_at dksX5_value_3 8 rfl rfl)
theorem dX5_value_78 : decode cX5_value 78 = .ok (.invokevirtual 49, 3) := dk_182 0 49 (dk_at dksX5_value_3 9 rfl rfl)
theorem dX5_value_81 : decode cX5_value 81 = .ok (.ifCond .eq 7, 3) := dk_153 0 7 (dk_at dksX5_value_3 12 rfl rfl)
theorem dX5_value_84 : decode cX5_value 84 = .ok (.iconst 5, 1) := dk_8 (dk_at dksX5_value_3 15 rfl rfl)
theorem dX5_value_85 : decode cX5_value 85 = .ok (.goto 44, 3) := dk_167 0 44 (dk_at dksX5_value_3 16 rfl rfl)
theorem dX5_value_88 : decode cX5_value 88 = .ok (.aload_n 0, 1) := dk_42 (dk_at dksX5_value_3 19 rfl rfl)
theorem dX5_value_89 : decode cX5_value 89 = .ok (.iconst 4, 1) := dk_7 (dk_at dksX5_value_3 20 rfl rfl)
theorem dX5_value_90 : decode cX5_value 90 = .ok (.invokevirtual 49, 3) := dk_182 0 49 (dk_at dksX5_value_3 21 rfl rfl)
theorem dX5_value_93 : decode cX5_value 93 = .ok (.ifCond .eq 8, 3) := dk_153 0 8 (dk_at dksX5_value_4 0 rfl rfl)
theorem dX5_value_96 : decode cX5_value 96 = .ok (.bipush 6, 2) := dk_16 6 (dk_at dksX5_value_4 3 rfl rfl)
theorem dX5_value_98 : decode cX5_value 98 = .ok (.goto 31, 3) := dk_167 0 31 (dk_at dksX5_value_4 5 rfl rfl)
theorem dX5_value_101 : decode cX5_value 101 = .ok (.aload_n 0, 1) := dk_42 (dk_at dksX5_value_4 8 rfl rfl)
theorem dX5_value_102 : decode cX5_value 102 = .ok (.iconst 5, 1) := dk_8 (dk_at dksX5_value_4 9 rfl rfl)
theorem dX5_value_103 : decode cX5_value 103 = .ok (.invokevirtual 49, 3) := dk_182 0 49 (dk_at dksX5_value_4 10 rfl rfl)
theorem dX5_value_106 : decode cX5_value 106 = .ok (.ifCond .eq 8, 3) := dk_153 0 8 (dk_at dksX5_value_4 13 rfl rfl)
theorem dX5_value_109 : decode cX5_value 109 = .ok (.bipush 7, 2) := dk_16 7 (dk_at dksX5_value_4 16 rfl rfl)
theorem dX5_value_111 : decode cX5_value 111 = .ok (.goto 18, 3) := dk_167 0 18 (dk_at dksX5_value_4 18 rfl rfl)
theorem dX5_value_114 : decode cX5_value 114 = .ok (.aload_n 0, 1) := dk_42 (dk_at dksX5_value_4 21 rfl rfl)
theorem dX5_value_115 : decode cX5_value 115 = .ok (.bipush 15, 2) := dk_16 15 (dk_at dksX5_value_4 22 rfl rfl)
theorem dX5_value_117 : decode cX5_value 117 = .ok (.invokevirtual 49, 3) := dk_182 0 49 (dk_at dksX5_value_5 0 rfl rfl)
theorem dX5_value_120 : decode cX5_value 120 = .ok (.ifCond .eq 8, 3) := dk_153 0 8 (dk_at dksX5_value_5 3 rfl rfl)
theorem dX5_value_123 : decode cX5_value 123 = .ok (.bipush 8, 2) := dk_16 8 (dk_at dksX5_value_5 6 rfl rfl)
theorem dX5_value_125 : decode cX5_value 125 = .ok (.goto 4, 3) := dk_167 0 4 (dk_at dksX5_value_5 8 rfl rfl)
theorem dX5_value_128 : decode cX5_value 128 = .ok (.iconst 3, 1) := dk_6 (dk_at dksX5_value_5 11 rfl rfl)
theorem dX5_value_129 : decode cX5_value 129 = .ok (.istore_n 2, 1) := dk_61 (dk_at dksX5_value_5 12 rfl rfl)
theorem dX5_value_130 : decode cX5_value 130 = .ok (.aload_n 0, 1) := dk_42 (dk_at dksX5_value_5 13 rfl rfl)
theorem dX5_value_131 : decode cX5_value 131 = .ok (.getfield 9, 3) := dk_180 0 9 (dk_at dksX5_value_5 14 rfl rfl)
theorem dX5_value_134 : decode cX5_value 134 = .ok (.iload_n 1, 1) := dk_27 (dk_at dksX5_value_5 17 rfl rfl)
theorem dX5_value_135 : decode cX5_value 135 = .ok (.iconst 5, 1) := dk_8 (dk_at dksX5_value_5 18 rfl rfl)
theorem dX5_value_136 : decode cX5_value 136 = .ok (.iload_n 2, 1) := dk_28 (dk_at dksX5_value_5 19 rfl rfl)
theorem dX5_value_137 : decode cX5_value 137 = .ok (.invokevirtual 90, 3) := dk_182 0 90 (dk_at dksX5_value_5 20 rfl rfl)
theorem dX5_value_140 : decode cX5_value 140 = .ok (.iload_n 2, 1) := dk_28 (dk_at dksX5_value_5 23 rfl rfl)
theorem dX5_value_141 : decode cX5_value 141 = .ok (.iconst 3, 1) := dk_6 (dk_at dksX5_value_6 0 rfl rfl)
theorem dX5_value_142 : decode cX5_value 142 = .ok (.if_icmp .ne 12, 3) := dk_160 0 12 (dk_at dksX5_value_6 1 rfl rfl)
theorem dX5_value_145 : decode cX5_value 145 = .ok (.aload_n 0, 1) := dk_42 (dk_at dksX5_value_6 4 rfl rfl)
theorem dX5_value_146 : decode cX5_value 146 = .ok (.iload_n 1, 1) := dk_27 (dk_at dksX5_value_6 5 rfl rfl)
theorem dX5_value_147 : decode cX5_value 147 = .ok (.iconst 3, 1) := dk_6 (dk_at dksX5_value_6 6 rfl rfl)
theorem dX5_value_148 : decode cX5_value 148 = .ok (.invokevirtual 181, 3) := dk_182 0 181 (dk_at dksX5_value_6 7 rfl rfl)
theorem dX5_value_151 : decode cX5_value 151 = .ok (.goto 24, 3) := dk_167 0 24 (dk_at dksX5_value_6 10 rfl rfl)
theorem dX5_value_154 : decode cX5_value 154 = .ok (.aload_n 0, 1) := dk_42 (dk_at dksX5_value_6 13 rfl rfl)
theorem dX5_value_155 : decode cX5_value 155 = .ok (.dup, 1) := dk_89 (dk_at dksX5_value_6 14 rfl rfl)
theorem dX5_value_156 : decode cX5_value 156 = .ok (.getfield 26, 3) := dk_180 0 26 (dk_at dksX5_value_6 15 rfl rfl)
theorem dX5_value_159 : decode cX5_value 159 = .ok (.iconst 1, 1) := dk_4 (dk_at dksX5_value_6 18 rfl rfl)
theorem dX5_value_160 : decode cX5_value 160 = .ok (.iadd, 1) := dk_96 (dk_at dksX5_value_6 19 rfl rfl)
theorem dX5_value_161 : decode cX5_value 161 = .ok (.putfield 26, 3) := dk_181 0 26 (dk_at dksX5_value_6 20 rfl rfl)
theorem dX5_value_164 : decode cX5_value 164 = .ok (.iload_n 2, 1) := dk_28 (dk_at dksX5_value_6 23 rfl rfl)
theorem dX5_value_165 : decode cX5_value 165 = .ok (.bipush 8, 2) := dk_16 8 (dk_at dksX5_value_7 0 rfl rfl)
theorem dX5_value_167 : decode cX5_value 167 = .ok (.if_icmp .ne 8, 3) := dk_160 0 8 (dk_at dksX5_value_7 2 rfl rfl)
theorem dX5_value_170 : decode cX5_value 170 = .ok (.aload_n 0, 1) := dk_42 (dk_at dksX5_value_7 5 rfl rfl)
theorem dX5_value_171 : decode cX5_value 171 = .ok (.iload_n 1, 1) := dk_27 (dk_at dksX5_value_7 6 rfl rfl)
theorem dX5_value_172 : decode cX5_value 172 = .ok (.invokevirtual 184, 3) := dk_182 0 184 (dk_at dksX5_value_7 7 rfl rfl)
theorem dX5_value_175 : decode cX5_value 175 = .ok (.iload_n 1, 1) := dk_27 (dk_at dksX5_value_7 10 rfl rfl)
theorem dX5_value_176 : decode cX5_value 176 = .ok (.ireturn, 1) := dk_172 (dk_at dksX5_value_7 11 rfl rfl)
abbrev cX5_digits : ByteArray := prog_5_method_29_code
def yX5_digits : MethodName := ⟨RX5, "digits", "(II)V"⟩
def dkwX5_digits_2 : List UInt8 := [182, 0, 67, 87, 177]
abbrev dktX5_digits_2 : List UInt8 := dkwX5_digits_2 ++ []
def dkwX5_digits_1 : List UInt8 := [27, 8, 28, 182, 0, 90, 42, 180, 0, 9, 27, 16, 7, 42, 180, 0, 26, 182, 0, 90, 42, 5]
abbrev dktX5_digits_1 : List UInt8 := dkwX5_digits_1 ++ dktX5_digits_2
def dkwX5_digits_0 : List UInt8 := [42, 16, 25, 182, 0, 73, 153, 0, 14, 42, 180, 0, 9, 27, 16, 6, 4, 182, 0, 90, 42, 180, 0, 9]
abbrev dktX5_digits_0 : List UInt8 := dkwX5_digits_0 ++ dktX5_digits_1
theorem dksX5_digits_0 : cX5_digits.data.toList.drop 0 = dktX5_digits_0 := by decide +kernel
theorem dksX5_digits_1 : cX5_digits.data.toList.drop 24 = dktX5_digits_1 := dk_seg dksX5_digits_0 24 rfl rfl
theorem dksX5_digits_2 : cX5_digits.data.toList.drop 46 = dktX5_digits_2 := dk_seg dksX5_digits_1 22 rfl rfl
theorem dX5_digits_0 : decode cX5_digits 0 = .ok (.aload_n 0, 1) := dk_42 (dk_at dksX5_digits_0 0 rfl rfl)
theorem dX5_digits_1 : decode cX5_digits 1 = .ok (.bipush 25, 2) := dk_16 25 (dk_at dksX5_digits_0 1 rfl rfl)
theorem dX5_digits_3 : decode cX5_digits 3 = .ok (.invokevirtual 73, 3) := dk_182 0 73 (dk_at dksX5_digits_0 3 rfl rfl)
theorem dX5_digits_6 : decode cX5_digits 6 = .ok (.ifCond .eq 14, 3) := dk_153 0 14 (dk_at dksX5_digits_0 6 rfl rfl)
theorem dX5_digits_9 : decode cX5_digits 9 = .ok (.aload_n 0, 1) := dk_42 (dk_at dksX5_digits_0 9 rfl rfl)
theorem dX5_digits_10 : decode cX5_digits 10 = .ok (.getfield 9, 3) := dk_180 0 9 (dk_at dksX5_digits_0 10 rfl rfl)
theorem dX5_digits_13 : decode cX5_digits 13 = .ok (.iload_n 1, 1) := dk_27 (dk_at dksX5_digits_0 13 rfl rfl)
theorem dX5_digits_14 : decode cX5_digits 14 = .ok (.bipush 6, 2) := dk_16 6 (dk_at dksX5_digits_0 14 rfl rfl)
theorem dX5_digits_16 : decode cX5_digits 16 = .ok (.iconst 1, 1) := dk_4 (dk_at dksX5_digits_0 16 rfl rfl)
theorem dX5_digits_17 : decode cX5_digits 17 = .ok (.invokevirtual 90, 3) := dk_182 0 90 (dk_at dksX5_digits_0 17 rfl rfl)
theorem dX5_digits_20 : decode cX5_digits 20 = .ok (.aload_n 0, 1) := dk_42 (dk_at dksX5_digits_0 20 rfl rfl)
theorem dX5_digits_21 : decode cX5_digits 21 = .ok (.getfield 9, 3) := dk_180 0 9 (dk_at dksX5_digits_0 21 rfl rfl)
theorem dX5_digits_24 : decode cX5_digits 24 = .ok (.iload_n 1, 1) := dk_27 (dk_at dksX5_digits_1 0 rfl rfl)
theorem dX5_digits_25 : decode cX5_digits 25 = .ok (.iconst 5, 1) := dk_8 (dk_at dksX5_digits_1 1 rfl rfl)
theorem dX5_digits_26 : decode cX5_digits 26 = .ok (.iload_n 2, 1) := dk_28 (dk_at dksX5_digits_1 2 rfl rfl)
theorem dX5_digits_27 : decode cX5_digits 27 = .ok (.invokevirtual 90, 3) := dk_182 0 90 (dk_at dksX5_digits_1 3 rfl rfl)
theorem dX5_digits_30 : decode cX5_digits 30 = .ok (.aload_n 0, 1) := dk_42 (dk_at dksX5_digits_1 6 rfl rfl)
theorem dX5_digits_31 : decode cX5_digits 31 = .ok (.getfield 9, 3) := dk_180 0 9 (dk_at dksX5_digits_1 7 rfl rfl)
theorem dX5_digits_34 : decode cX5_digits 34 = .ok (.iload_n 1, 1) := dk_27 (dk_at dksX5_digits_1 10 rfl rfl)
theorem dX5_digits_35 : decode cX5_digits 35 = .ok (.bipush 7, 2) := dk_16 7 (dk_at dksX5_digits_1 11 rfl rfl)
theorem dX5_digits_37 : decode cX5_digits 37 = .ok (.aload_n 0, 1) := dk_42 (dk_at dksX5_digits_1 13 rfl rfl)
theorem dX5_digits_38 : decode cX5_digits 38 = .ok (.getfield 26, 3) := dk_180 0 26 (dk_at dksX5_digits_1 14 rfl rfl)
theorem dX5_digits_41 : decode cX5_digits 41 = .ok (.invokevirtual 90, 3) := dk_182 0 90 (dk_at dksX5_digits_1 17 rfl rfl)
theorem dX5_digits_44 : decode cX5_digits 44 = .ok (.aload_n 0, 1) := dk_42 (dk_at dksX5_digits_1 20 rfl rfl)
theorem dX5_digits_45 : decode cX5_digits 45 = .ok (.iconst 2, 1) := dk_5 (dk_at dksX5_digits_1 21 rfl rfl)
theorem dX5_digits_46 : decode cX5_digits 46 = .ok (.invokevirtual 67, 3) := dk_182 0 67 (dk_at dksX5_digits_2 0 rfl rfl)
theorem dX5_digits_49 : decode cX5_digits 49 = .ok (.pop, 1) := dk_87 (dk_at dksX5_digits_2 3 rfl rfl)
theorem dX5_digits_50 : decode cX5_digits 50 = .ok (.return_, 1) := dk_177 (dk_at dksX5_digits_2 4 rfl rfl)
abbrev cX5_list : ByteArray := prog_5_method_31_code
def yX5_list : MethodName := ⟨RX5, "list", "(I)V"⟩
def dkwX5_list_7 : List UInt8 := [182, 0, 67, 87, 177]
abbrev dktX5_list_7 : List UInt8 := dkwX5_list_7 ++ []
def dkwX5_list_6 : List UInt8 := [154, 0, 16, 42, 5, 182, 0, 49, 154, 0, 8, 42, 182, 0, 52, 87, 167, 255, 103, 42, 16, 16]
abbrev dktX5_list_6 : List UInt8 := dkwX5_list_6 ++ dktX5_list_7
def dkwX5_list_5 : List UInt8 := [4, 167, 0, 4, 3, 182, 0, 90, 42, 16, 21, 182, 0, 73, 153, 0, 24, 42, 3, 182, 0, 49]
abbrev dktX5_list_5 : List UInt8 := dkwX5_list_5 ++ dktX5_list_6
def dkwX5_list_4 : List UInt8 := [21, 4, 153, 0, 10, 42, 16, 20, 182, 0, 67, 87, 42, 180, 0, 9, 29, 16, 6, 21, 4, 153, 0, 7]
abbrev dktX5_list_4 : List UInt8 := dkwX5_list_4 ++ dktX5_list_5
def dkwX5_list_3 : List UInt8 := [153, 0, 36, 42, 180, 0, 9, 29, 8, 42, 180, 0, 26, 182, 0, 90, 42, 5, 182, 0, 67, 153, 0, 15]
abbrev dktX5_list_3 : List UInt8 := dkwX5_list_3 ++ dktX5_list_4
def dkwX5_list_2 : List UInt8 := [29, 182, 0, 106, 61, 42, 3, 182, 0, 73, 54, 4, 21, 4, 153, 0, 12, 42, 16, 19, 182, 0, 73]
abbrev dktX5_list_2 : List UInt8 := dkwX5_list_2 ++ dktX5_list_3
def dkwX5_list_1 : List UInt8 := [153, 0, 136, 42, 180, 0, 9, 16, 27, 42, 180, 0, 26, 182, 0, 80, 62, 42, 180, 0, 9, 27, 6, 28]
abbrev dktX5_list_1 : List UInt8 := dkwX5_list_1 ++ dktX5_list_2
def dkwX5_list_0 : List UInt8 := [2, 61, 42, 180, 0, 15, 154, 0, 152, 42, 3, 182, 0, 49, 154, 0, 11, 42, 5, 182, 0, 49]
abbrev dktX5_list_0 : List UInt8 := dkwX5_list_0 ++ dktX5_list_1
theorem dksX5_list_0 : cX5_list.data.toList.drop 0 = dktX5_list_0 := by decide +kernel
theorem dksX5_list_1 : cX5_list.data.toList.drop 22 = dktX5_list_1 := dk_seg dksX5_list_0 22 rfl rfl
theorem dksX5_list_2 : cX5_list.data.toList.drop 46 = dktX5_list_2 := dk_seg dksX5_list_1 24 rfl rfl
theorem dksX5_list_3 : cX5_list.data.toList.drop 69 = dktX5_list_3 := dk_seg dksX5_list_2 23 rfl rfl
theorem dksX5_list_4 : cX5_list.data.toList.drop 93 = dktX5_list_4 := dk_seg dksX5_list_3 24 rfl rfl
theorem dksX5_list_5 : cX5_list.data.toList.drop 117 = dktX5_list_5 := dk_seg dksX5_list_4 24 rfl rfl
theorem dksX5_list_6 : cX5_list.data.toList.drop 139 = dktX5_list_6 := dk_seg dksX5_list_5 22 rfl rfl
theorem dksX5_list_7 : cX5_list.data.toList.drop 161 = dktX5_list_7 := dk_seg dksX5_list_6 22 rfl rfl
theorem dX5_list_0 : decode cX5_list 0 = .ok (.iconst (-1), 1) := dk_2 (dk_at dksX5_list_0 0 rfl rfl)
theorem dX5_list_1 : decode cX5_list 1 = .ok (.istore_n 2, 1) := dk_61 (dk_at dksX5_list_0 1 rfl rfl)
theorem dX5_list_2 : decode cX5_list 2 = .ok (.aload_n 0, 1) := dk_42 (dk_at dksX5_list_0 2 rfl rfl)
theorem dX5_list_3 : decode cX5_list 3 = .ok (.getfield 15, 3) := dk_180 0 15 (dk_at dksX5_list_0 3 rfl rfl)
theorem dX5_list_6 : decode cX5_list 6 = .ok (.ifCond .ne 152, 3) := dk_154 0 152 (dk_at dksX5_list_0 6 rfl rfl)
theorem dX5_list_9 : decode cX5_list 9 = .ok (.aload_n 0, 1) := dk_42 (dk_at dksX5_list_0 9 rfl rfl)
theorem dX5_list_10 : decode cX5_list 10 = .ok (.iconst 0, 1) := dk_3 (dk_at dksX5_list_0 10 rfl rfl)
theorem dX5_list_11 : decode cX5_list 11 = .ok (.invokevirtual 49, 3) := dk_182 0 49 (dk_at dksX5_list_0 11 rfl rfl)
theorem dX5_list_14 : decode cX5_list 14 = .ok (.ifCond .ne 11, 3) := dk_154 0 11 (dk_at dksX5_list_0 14 rfl rfl)
theorem dX5_list_17 : decode cX5_list 17 = .ok (.aload_n 0, 1) := dk_42 (dk_at dksX5_list_0 17 rfl rfl)
theorem dX5_list_18 : decode cX5_list 18 = .ok (.iconst 2, 1) := dk_5 (dk_at dksX5_list_0 18 rfl rfl)
theorem dX5_list_19 : decode cX5_list 19 = .ok (.invokevirtual 49, 3) := dk_182 0 49 (dk_at dksX5_list_0 19 rfl rfl)
theorem dX5_list_22 : decode cX5_list 22 = .ok (.ifCond .eq 136, 3) := dk_153 0 136 (dk_at dksX5_list_1 0 rfl rfl)
theorem dX5_list_25 : decode cX5_list 25 = .ok (.aload_n 0, 1) := dk_42 (dk_at dksX5_list_1 3 rfl rfl)
theorem dX5_list_26 : decode cX5_list 26 = .ok (.getfield 9, 3) := dk_180 0 9 (dk_at dksX5_list_1 4 rfl rfl)
theorem dX5_list_29 : decode cX5_list 29 = .ok (.bipush 27, 2) := dk_16 27 (dk_at dksX5_list_1 7 rfl rfl)
theorem dX5_list_31 : decode cX5_list 31 = .ok (.aload_n 0, 1) := dk_42 (dk_at dksX5_list_1 9 rfl rfl)
theorem dX5_list_32 : decode cX5_list 32 = .ok (.getfield 26, 3) := dk_180 0 26 (dk_at dksX5_list_1 10 rfl rfl)
theorem dX5_list_35 : decode cX5_list 35 = .ok (.invokevirtual 80, 3) := dk_182 0 80 (dk_at dksX5_list_1 13 rfl rfl)
theorem dX5_list_38 : decode cX5_list 38 = .ok (.istore_n 3, 1) := dk_62 (dk_at dksX5_list_1 16 rfl rfl)
theorem dX5_list_39 : decode cX5_list 39 = .ok (.aload_n 0, 1) := dk_42 (dk_at dksX5_list_1 17 rfl rfl)
theorem dX5_list_40 : decode cX5_list 40 = .ok (.getfield 9, 3) := dk_180 0 9 (dk_at dksX5_list_1 18 rfl rfl)
theorem dX5_list_43 : decode cX5_list 43 = .ok (.iload_n 1, 1) := dk_27 (dk_at dksX5_list_1 21 rfl rfl)
theorem dX5_list_44 : decode cX5_list 44 = .ok (.iconst 3, 1) := dk_6 (dk_at dksX5_list_1 22 rfl rfl)
theorem dX5_list_45 : decode cX5_list 45 = .ok (.iload_n 2, 1) := dk_28 (dk_at dksX5_list_1 23 rfl rfl)
theorem dX5_list_46 : decode cX5_list 46 = .ok (.iload_n 3, 1) := dk_29 (dk_at dksX5_list_2 0 rfl rfl)
theorem dX5_list_47 : decode cX5_list 47 = .ok (.invokevirtual 106, 3) := dk_182 0 106 (dk_at dksX5_list_2 1 rfl rfl)
theorem dX5_list_50 : decode cX5_list 50 = .ok (.istore_n 2, 1) := dk_61 (dk_at dksX5_list_2 4 rfl rfl)
theorem dX5_list_51 : decode cX5_list 51 = .ok (.aload_n 0, 1) := dk_42 (dk_at dksX5_list_2 5 rfl rfl)
theorem dX5_list_52 : decode cX5_list 52 = .ok (.iconst 0, 1) := dk_3 (dk_at dksX5_list_2 6 rfl rfl)
theorem dX5_list_53 : decode cX5_list 53 = .ok (.invokevirtual 73, 3) := dk_182 0 73 (dk_at dksX5_list_2 7 rfl rfl)
theorem dX5_list_56 : decode cX5_list 56 = .ok (.istore 4, 2) := dk_54 4 (dk_at dksX5_list_2 10 rfl rfl)
theorem dX5_list_58 : decode cX5_list 58 = .ok (.iload 4, 2) := dk_21 4 (dk_at dksX5_list_2 12 rfl rfl)
theorem dX5_list_60 : decode cX5_list 60 = .ok (.ifCond .eq 12, 3) := dk_153 0 12 (dk_at dksX5_list_2 14 rfl rfl)
theorem dX5_list_63 : decode cX5_list 63 = .ok (.aload_n 0, 1) := dk_42 (dk_at dksX5_list_2 17 rfl rfl)
theorem dX5_list_64 : decode cX5_list 64 = .ok (.bipush 19, 2) := dk_16 19 (dk_at dksX5_list_2 18 rfl rfl)
theorem dX5_list_66 : decode cX5_list 66 = .ok (.invokevirtual 73, 3) := dk_182 0 73 (dk_at dksX5_list_2 20 rfl rfl)
theorem dX5_list_69 : decode cX5_list 69 = .ok (.ifCond .eq 36, 3) := dk_153 0 36 (dk_at dksX5_list_3 0 rfl rfl)
theorem dX5_list_72 : decode cX5_list 72 = .ok (.aload_n 0, 1) := dk_42 (dk_at dksX5_list_3 3 rfl rfl)
theorem dX5_list_73 : decode cX5_list 73 = .ok (.getfield 9, 3) := dk_180 0 9 (dk_at dksX5_list_3 4 rfl rfl)
theorem dX5_list_76 : decode cX5_list 76 = .ok (.iload_n 3, 1) := dk_29 (dk_at dksX5_list_3 7 rfl rfl)
theorem dX5_list_77 : decode cX5_list 77 = .ok (.iconst 5, 1) := dk_8 (dk_at dksX5_list_3 8 rfl rfl)
theorem dX5_list_78 : decode cX5_list 78 = .ok (.aload_n 0, 1) := dk_42 (dk_at dksX5_list_3 9 rfl rfl)
theorem dX5_list_79 : decode cX5_list 79 = .ok (.getfield 26, 3) := dk_180 0 26 (dk_at dksX5_list_3 10 rfl rfl)
theorem dX5_list_82 : decode cX5_list 82 = .ok (.invokevirtual 90, 3) := dk_182 0 90 (dk_at dksX5_list_3 13 rfl rfl)
theorem dX5_list_85 : decode cX5_list 85 = .ok (.aload_n 0, 1) := dk_42 (dk_at dksX5_list_3 16 rfl rfl)
theorem dX5_list_86 : decode cX5_list 86 = .ok (.iconst 2, 1) := dk_5 (dk_at dksX5_list_3 17 rfl rfl)
theorem dX5_list_87 : decode cX5_list 87 = .ok (.invokevirtual 67, 3) := dk_182 0 67 (dk_at dksX5_list_3 18 rfl rfl)
theorem dX5_list_90 : decode cX5_list 90 = .ok (.ifCond .eq 15, 3) := dk_153 0 15 (dk_at dksX5_list_3 21 rfl rfl)
theorem dX5_list_93 : decode cX5_list 93 = .ok (.iload 4, 2) := dk_21 4 (dk_at dksX5_list_4 0 rfl rfl)
theorem dX5_list_95 : decode cX5_list 95 = .ok (.ifCond .eq 10, 3) := dk_153 0 10 (dk_at dksX5_list_4 2 rfl rfl)
theorem dX5_list_98 : decode cX5_list 98 = .ok (.aload_n 0, 1) := dk_42 (dk_at dksX5_list_4 5 rfl rfl)
theorem dX5_list_99 : decode cX5_list 99 = .ok (.bipush 20, 2) := dk_16 20 (dk_at dksX5_list_4 6 rfl rfl)
theorem dX5_list_101 : decode cX5_list 101 = .ok (.invokevirtual 67, 3) := dk_182 0 67 (dk_at dksX5_list_4 8 rfl rfl)
theorem dX5_list_104 : decode cX5_list 104 = .ok (.pop, 1) := dk_87 (dk_at dksX5_list_4 11 rfl rfl)
theorem dX5_list_105 : decode cX5_list 105 = .ok (.aload_n 0, 1) := dk_42 (dk_at dksX5_list_4 12 rfl rfl)
theorem dX5_list_106 : decode cX5_list 106 = .ok (.getfield 9, 3) := dk_180 0 9 (dk_at dksX5_list_4 13 rfl rfl)
theorem dX5_list_109 : decode cX5_list 109 = .ok (.iload_n 3, 1) := dk_29 (dk_at dksX5_list_4 16 rfl rfl)
theorem dX5_list_110 : decode cX5_list 110 = .ok (.bipush 6, 2) := dk_16 6 (dk_at dksX5_list_4 17 rfl rfl)
theorem dX5_list_112 : decode cX5_list 112 = .ok (.iload 4, 2) := dk_21 4 (dk_at dksX5_list_4 19 rfl rfl)
theorem dX5_list_114 : decode cX5_list 114 = .ok (.ifCond .eq 7, 3) := dk_153 0 7 (dk_at dksX5_list_4 21 rfl rfl)
theorem dX5_list_117 : decode cX5_list 117 = .ok (.iconst 1, 1) := dk_4 (dk_at dksX5_list_5 0 rfl rfl)
theorem dX5_list_118 : decode cX5_list 118 = .ok (.goto 4, 3) := dk_167 0 4 (dk_at dksX5_list_5 1 rfl rfl)
theorem dX5_list_121 : decode cX5_list 121 = .ok (.iconst 0, 1) := dk_3 (dk_at dksX5_list_5 4 rfl rfl)
theorem dX5_list_122 : decode cX5_list 122 = .ok (.invokevirtual 90, 3) := dk_182 0 90 (dk_at dksX5_list_5 5 rfl rfl)
theorem dX5_list_125 : decode cX5_list 125 = .ok (.aload_n 0, 1) := dk_42 (dk_at dksX5_list_5 8 rfl rfl)
theorem dX5_list_126 : decode cX5_list 126 = .ok (.bipush 21, 2) := dk_16 21 (dk_at dksX5_list_5 9 rfl rfl)
theorem dX5_list_128 : decode cX5_list 128 = .ok (.invokevirtual 73, 3) := dk_182 0 73 (dk_at dksX5_list_5 11 rfl rfl)
theorem dX5_list_131 : decode cX5_list 131 = .ok (.ifCond .eq 24, 3) := dk_153 0 24 (dk_at dksX5_list_5 14 rfl rfl)
theorem dX5_list_134 : decode cX5_list 134 = .ok (.aload_n 0, 1) := dk_42 (dk_at dksX5_list_5 17 rfl rfl)
theorem dX5_list_135 : decode cX5_list 135 = .ok (.iconst 0, 1) := dk_3 (dk_at dksX5_list_5 18 rfl rfl)
theorem dX5_list_136 : decode cX5_list 136 = .ok (.invokevirtual 49, 3) := dk_182 0 49 (dk_at dksX5_list_5 19 rfl rfl)
theorem dX5_list_139 : decode cX5_list 139 = .ok (.ifCond .ne 16, 3) := dk_154 0 16 (dk_at dksX5_list_6 0 rfl rfl)
theorem dX5_list_142 : decode cX5_list 142 = .ok (.aload_n 0, 1) := dk_42 (dk_at dksX5_list_6 3 rfl rfl)
theorem dX5_list_143 : decode cX5_list 143 = .ok (.iconst 2, 1) := dk_5 (dk_at dksX5_list_6 4 rfl rfl)
theorem dX5_list_144 : decode cX5_list 144 = .ok (.invokevirtual 49, 3) := dk_182 0 49 (dk_at dksX5_list_6 5 rfl rfl)
theorem dX5_list_147 : decode cX5_list 147 = .ok (.ifCond .ne 8, 3) := dk_154 0 8 (dk_at dksX5_list_6 8 rfl rfl)
theorem dX5_list_150 : decode cX5_list 150 = .ok (.aload_n 0, 1) := dk_42 (dk_at dksX5_list_6 11 rfl rfl)
theorem dX5_list_151 : decode cX5_list 151 = .ok (.invokevirtual 52, 3) := dk_182 0 52 (dk_at dksX5_list_6 12 rfl rfl)
theorem dX5_list_154 : decode cX5_list 154 = .ok (.pop, 1) := dk_87 (dk_at dksX5_list_6 15 rfl rfl)
theorem dX5_list_155 : decode cX5_list 155 = .ok (.goto (-153), 3) := dk_167 255 103 (dk_at dksX5_list_6 16 rfl rfl)
theorem dX5_list_158 : decode cX5_list 158 = .ok (.aload_n 0, 1) := dk_42 (dk_at dksX5_list_6 19 rfl rfl)
theorem dX5_list_159 : decode cX5_list 159 = .ok (.bipush 16, 2) := dk_16 16 (dk_at dksX5_list_6 20 rfl rfl)
theorem dX5_list_161 : decode cX5_list 161 = .ok (.invokevirtual 67, 3) := dk_182 0 67 (dk_at dksX5_list_7 0 rfl rfl)
theorem dX5_list_164 : decode cX5_list 164 = .ok (.pop, 1) := dk_87 (dk_at dksX5_list_7 3 rfl rfl)
theorem dX5_list_165 : decode cX5_list 165 = .ok (.return_, 1) := dk_177 (dk_at dksX5_list_7 4 rfl rfl)
abbrev cX5_sizes : ByteArray := prog_5_method_26_code
def yX5_sizes : MethodName := ⟨RX5, "sizes", "(I)Z"⟩
def dkwX5_sizes_1 : List UInt8 := [182, 0, 175, 42, 16, 20, 182, 0, 67, 172]
abbrev dktX5_sizes_1 : List UInt8 := dkwX5_sizes_1 ++ []
def dkwX5_sizes_0 : List UInt8 := [42, 89, 180, 0, 26, 4, 96, 181, 0, 26, 42, 16, 19, 182, 0, 67, 154, 0, 5, 3, 172, 42, 27, 4]
abbrev dktX5_sizes_0 : List UInt8 := dkwX5_sizes_0 ++ dktX5_sizes_1
theorem dksX5_sizes_0 : cX5_sizes.data.toList.drop 0 = dktX5_sizes_0 := by decide +kernel
theorem dksX5_sizes_1 : cX5_sizes.data.toList.drop 24 = dktX5_sizes_1 := dk_seg dksX5_sizes_0 24 rfl rfl
theorem dX5_sizes_0 : decode cX5_sizes 0 = .ok (.aload_n 0, 1) := dk_42 (dk_at dksX5_sizes_0 0 rfl rfl)
theorem dX5_sizes_1 : decode cX5_sizes 1 = .ok (.dup, 1) := dk_89 (dk_at dksX5_sizes_0 1 rfl rfl)
theorem dX5_sizes_2 : decode cX5_sizes 2 = .ok (.getfield 26, 3) := dk_180 0 26 (dk_at dksX5_sizes_0 2 rfl rfl)
theorem dX5_sizes_5 : decode cX5_sizes 5 = .ok (.iconst 1, 1) := dk_4 (dk_at dksX5_sizes_0 5 rfl rfl)
theorem dX5_sizes_6 : decode cX5_sizes 6 = .ok (.iadd, 1) := dk_96 (dk_at dksX5_sizes_0 6 rfl rfl)
theorem dX5_sizes_7 : decode cX5_sizes 7 = .ok (.putfield 26, 3) := dk_181 0 26 (dk_at dksX5_sizes_0 7 rfl rfl)
theorem dX5_sizes_10 : decode cX5_sizes 10 = .ok (.aload_n 0, 1) := dk_42 (dk_at dksX5_sizes_0 10 rfl rfl)
theorem dX5_sizes_11 : decode cX5_sizes 11 = .ok (.bipush 19, 2) := dk_16 19 (dk_at dksX5_sizes_0 11 rfl rfl)
theorem dX5_sizes_13 : decode cX5_sizes 13 = .ok (.invokevirtual 67, 3) := dk_182 0 67 (dk_at dksX5_sizes_0 13 rfl rfl)
theorem dX5_sizes_16 : decode cX5_sizes 16 = .ok (.ifCond .ne 5, 3) := dk_154 0 5 (dk_at dksX5_sizes_0 16 rfl rfl)
theorem dX5_sizes_19 : decode cX5_sizes 19 = .ok (.iconst 0, 1) := dk_3 (dk_at dksX5_sizes_0 19 rfl rfl)
theorem dX5_sizes_20 : decode cX5_sizes 20 = .ok (.ireturn, 1) := dk_172 (dk_at dksX5_sizes_0 20 rfl rfl)
theorem dX5_sizes_21 : decode cX5_sizes 21 = .ok (.aload_n 0, 1) := dk_42 (dk_at dksX5_sizes_0 21 rfl rfl)
theorem dX5_sizes_22 : decode cX5_sizes 22 = .ok (.iload_n 1, 1) := dk_27 (dk_at dksX5_sizes_0 22 rfl rfl)
theorem dX5_sizes_23 : decode cX5_sizes 23 = .ok (.iconst 1, 1) := dk_4 (dk_at dksX5_sizes_0 23 rfl rfl)
theorem dX5_sizes_24 : decode cX5_sizes 24 = .ok (.invokevirtual 175, 3) := dk_182 0 175 (dk_at dksX5_sizes_1 0 rfl rfl)
theorem dX5_sizes_27 : decode cX5_sizes 27 = .ok (.aload_n 0, 1) := dk_42 (dk_at dksX5_sizes_1 3 rfl rfl)
theorem dX5_sizes_28 : decode cX5_sizes 28 = .ok (.bipush 20, 2) := dk_16 20 (dk_at dksX5_sizes_1 4 rfl rfl)
theorem dX5_sizes_30 : decode cX5_sizes 30 = .ok (.invokevirtual 67, 3) := dk_182 0 67 (dk_at dksX5_sizes_1 6 rfl rfl)
theorem dX5_sizes_33 : decode cX5_sizes 33 = .ok (.ireturn, 1) := dk_172 (dk_at dksX5_sizes_1 9 rfl rfl)
abbrev cX5_ranges : ByteArray := prog_5_method_27_code
def yX5_ranges : MethodName := ⟨RX5, "ranges", "(II)V"⟩
def dkwX5_ranges_3 : List UInt8 := [180, 0, 9, 21, 5, 16, 8, 42, 182, 0, 178, 182, 0, 90, 42, 16, 24, 182, 0, 73, 154, 255, 180, 177]
abbrev dktX5_ranges_3 : List UInt8 := dkwX5_ranges_3 ++ []
def dkwX5_ranges_2 : List UInt8 := [42, 180, 0, 9, 21, 4, 6, 21, 5, 182, 0, 90, 42, 16, 12, 182, 0, 73, 153, 0, 18, 42]
abbrev dktX5_ranges_2 : List UInt8 := dkwX5_ranges_2 ++ dktX5_ranges_3
def dkwX5_ranges_1 : List UInt8 := [182, 0, 80, 54, 4, 42, 180, 0, 9, 27, 6, 29, 21, 4, 182, 0, 106, 62, 42, 182, 0, 178, 54, 5]
abbrev dktX5_ranges_1 : List UInt8 := dkwX5_ranges_1 ++ dktX5_ranges_2
def dkwX5_ranges_0 : List UInt8 := [42, 180, 0, 9, 27, 8, 28, 182, 0, 90, 2, 62, 42, 180, 0, 9, 16, 24, 42, 180, 0, 26]
abbrev dktX5_ranges_0 : List UInt8 := dkwX5_ranges_0 ++ dktX5_ranges_1
theorem dksX5_ranges_0 : cX5_ranges.data.toList.drop 0 = dktX5_ranges_0 := by decide +kernel
theorem dksX5_ranges_1 : cX5_ranges.data.toList.drop 22 = dktX5_ranges_1 := dk_seg dksX5_ranges_0 22 rfl rfl
theorem dksX5_ranges_2 : cX5_ranges.data.toList.drop 46 = dktX5_ranges_2 := dk_seg dksX5_ranges_1 24 rfl rfl
theorem dksX5_ranges_3 : cX5_ranges.data.toList.drop 68 = dktX5_ranges_3 := dk_seg dksX5_ranges_2 22 rfl rfl
theorem dX5_ranges_0 : decode cX5_ranges 0 = .ok (.aload_n 0, 1) := dk_42 (dk_at dksX5_ranges_0 0 rfl rfl)
theorem dX5_ranges_1 : decode cX5_ranges 1 = .ok (.getfield 9, 3) := dk_180 0 9 (dk_at dksX5_ranges_0 1 rfl rfl)
theorem dX5_ranges_4 : decode cX5_ranges 4 = .ok (.iload_n 1, 1) := dk_27 (dk_at dksX5_ranges_0 4 rfl rfl)
theorem dX5_ranges_5 : decode cX5_ranges 5 = .ok (.iconst 5, 1) := dk_8 (dk_at dksX5_ranges_0 5 rfl rfl)
theorem dX5_ranges_6 : decode cX5_ranges 6 = .ok (.iload_n 2, 1) := dk_28 (dk_at dksX5_ranges_0 6 rfl rfl)
theorem dX5_ranges_7 : decode cX5_ranges 7 = .ok (.invokevirtual 90, 3) := dk_182 0 90 (dk_at dksX5_ranges_0 7 rfl rfl)
theorem dX5_ranges_10 : decode cX5_ranges 10 = .ok (.iconst (-1), 1) := dk_2 (dk_at dksX5_ranges_0 10 rfl rfl)
theorem dX5_ranges_11 : decode cX5_ranges 11 = .ok (.istore_n 3, 1) := dk_62 (dk_at dksX5_ranges_0 11 rfl rfl)
theorem dX5_ranges_12 : decode cX5_ranges 12 = .ok (.aload_n 0, 1) := dk_42 (dk_at dksX5_ranges_0 12 rfl rfl)
theorem dX5_ranges_13 : decode cX5_ranges 13 = .ok (.getfield 9, 3) := dk_180 0 9 (dk_at dksX5_ranges_0 13 rfl rfl)
theorem dX5_ranges_16 : decode cX5_ranges 16 = .ok (.bipush 24, 2) := dk_16 24 (dk_at dksX5_ranges_0 16 rfl rfl)
theorem dX5_ranges_18 : decode cX5_ranges 18 = .ok (.aload_n 0, 1) := dk_42 (dk_at dksX5_ranges_0 18 rfl rfl)
theorem dX5_ranges_19 : decode cX5_ranges 19 = .ok (.getfield 26, 3) := dk_180 0 26 (dk_at dksX5_ranges_0 19 rfl rfl)
theorem dX5_ranges_22 : decode cX5_ranges 22 = .ok (.invokevirtual 80, 3) := dk_182 0 80 (dk_at dksX5_ranges_1 0 rfl rfl)
theorem dX5_ranges_25 : decode cX5_ranges 25 = .ok (.istore 4, 2) := dk_54 4 (dk_at dksX5_ranges_1 3 rfl rfl)
theorem dX5_ranges_27 : decode cX5_ranges 27 = .ok (.aload_n 0, 1) := dk_42 (dk_at dksX5_ranges_1 5 rfl rfl)
theorem dX5_ranges_28 : decode cX5_ranges 28 = .ok (.getfield 9, 3) := dk_180 0 9 (dk_at dksX5_ranges_1 6 rfl rfl)
theorem dX5_ranges_31 : decode cX5_ranges 31 = .ok (.iload_n 1, 1) := dk_27 (dk_at dksX5_ranges_1 9 rfl rfl)
theorem dX5_ranges_32 : decode cX5_ranges 32 = .ok (.iconst 3, 1) := dk_6 (dk_at dksX5_ranges_1 10 rfl rfl)
theorem dX5_ranges_33 : decode cX5_ranges 33 = .ok (.iload_n 3, 1) := dk_29 (dk_at dksX5_ranges_1 11 rfl rfl)
theorem dX5_ranges_34 : decode cX5_ranges 34 = .ok (.iload 4, 2) := dk_21 4 (dk_at dksX5_ranges_1 12 rfl rfl)
theorem dX5_ranges_36 : decode cX5_ranges 36 = .ok (.invokevirtual 106, 3) := dk_182 0 106 (dk_at dksX5_ranges_1 14 rfl rfl)
theorem dX5_ranges_39 : decode cX5_ranges 39 = .ok (.istore_n 3, 1) := dk_62 (dk_at dksX5_ranges_1 17 rfl rfl)
theorem dX5_ranges_40 : decode cX5_ranges 40 = .ok (.aload_n 0, 1) := dk_42 (dk_at dksX5_ranges_1 18 rfl rfl)
theorem dX5_ranges_41 : decode cX5_ranges 41 = .ok (.invokevirtual 178, 3) := dk_182 0 178 (dk_at dksX5_ranges_1 19 rfl rfl)
theorem dX5_ranges_44 : decode cX5_ranges 44 = .ok (.istore 5, 2) := dk_54 5 (dk_at dksX5_ranges_1 22 rfl rfl)
theorem dX5_ranges_46 : decode cX5_ranges 46 = .ok (.aload_n 0, 1) := dk_42 (dk_at dksX5_ranges_2 0 rfl rfl)
theorem dX5_ranges_47 : decode cX5_ranges 47 = .ok (.getfield 9, 3) := dk_180 0 9 (dk_at dksX5_ranges_2 1 rfl rfl)
theorem dX5_ranges_50 : decode cX5_ranges 50 = .ok (.iload 4, 2) := dk_21 4 (dk_at dksX5_ranges_2 4 rfl rfl)
theorem dX5_ranges_52 : decode cX5_ranges 52 = .ok (.iconst 3, 1) := dk_6 (dk_at dksX5_ranges_2 6 rfl rfl)
theorem dX5_ranges_53 : decode cX5_ranges 53 = .ok (.iload 5, 2) := dk_21 5 (dk_at dksX5_ranges_2 7 rfl rfl)
theorem dX5_ranges_55 : decode cX5_ranges 55 = .ok (.invokevirtual 90, 3) := dk_182 0 90 (dk_at dksX5_ranges_2 9 rfl rfl)
theorem dX5_ranges_58 : decode cX5_ranges 58 = .ok (.aload_n 0, 1) := dk_42 (dk_at dksX5_ranges_2 12 rfl rfl)
theorem dX5_ranges_59 : decode cX5_ranges 59 = .ok (.bipush 12, 2) := dk_16 12 (dk_at dksX5_ranges_2 13 rfl rfl)
theorem dX5_ranges_61 : decode cX5_ranges 61 = .ok (.invokevirtual 73, 3) := dk_182 0 73 (dk_at dksX5_ranges_2 15 rfl rfl)
theorem dX5_ranges_64 : decode cX5_ranges 64 = .ok (.ifCond .eq 18, 3) := dk_153 0 18 (dk_at dksX5_ranges_2 18 rfl rfl)
theorem dX5_ranges_67 : decode cX5_ranges 67 = .ok (.aload_n 0, 1) := dk_42 (dk_at dksX5_ranges_2 21 rfl rfl)
theorem dX5_ranges_68 : decode cX5_ranges 68 = .ok (.getfield 9, 3) := dk_180 0 9 (dk_at dksX5_ranges_3 0 rfl rfl)
theorem dX5_ranges_71 : decode cX5_ranges 71 = .ok (.iload 5, 2) := dk_21 5 (dk_at dksX5_ranges_3 3 rfl rfl)
theorem dX5_ranges_73 : decode cX5_ranges 73 = .ok (.bipush 8, 2) := dk_16 8 (dk_at dksX5_ranges_3 5 rfl rfl)
theorem dX5_ranges_75 : decode cX5_ranges 75 = .ok (.aload_n 0, 1) := dk_42 (dk_at dksX5_ranges_3 7 rfl rfl)
theorem dX5_ranges_76 : decode cX5_ranges 76 = .ok (.invokevirtual 178, 3) := dk_182 0 178 (dk_at dksX5_ranges_3 8 rfl rfl)
theorem dX5_ranges_79 : decode cX5_ranges 79 = .ok (.invokevirtual 90, 3) := dk_182 0 90 (dk_at dksX5_ranges_3 11 rfl rfl)
theorem dX5_ranges_82 : decode cX5_ranges 82 = .ok (.aload_n 0, 1) := dk_42 (dk_at dksX5_ranges_3 14 rfl rfl)
theorem dX5_ranges_83 : decode cX5_ranges 83 = .ok (.bipush 24, 2) := dk_16 24 (dk_at dksX5_ranges_3 15 rfl rfl)
theorem dX5_ranges_85 : decode cX5_ranges 85 = .ok (.invokevirtual 73, 3) := dk_182 0 73 (dk_at dksX5_ranges_3 17 rfl rfl)
theorem dX5_ranges_88 : decode cX5_ranges 88 = .ok (.ifCond .ne (-76), 3) := dk_154 255 180 (dk_at dksX5_ranges_3 20 rfl rfl)
theorem dX5_ranges_91 : decode cX5_ranges 91 = .ok (.return_, 1) := dk_177 (dk_at dksX5_ranges_3 23 rfl rfl)
abbrev cX5_bound : ByteArray := prog_5_method_28_code
def yX5_bound : MethodName := ⟨RX5, "bound", "()I"⟩
def dkwX5_bound_4 : List UInt8 := [182, 0, 181, 27, 172]
abbrev dktX5_bound_4 : List UInt8 := dkwX5_bound_4 ++ []
def dkwX5_bound_3 : List UInt8 := [182, 0, 73, 153, 0, 16, 42, 180, 0, 9, 27, 8, 6, 182, 0, 90, 167, 0, 9, 42, 27, 5]
abbrev dktX5_bound_3 : List UInt8 := dkwX5_bound_3 ++ dktX5_bound_4
def dkwX5_bound_2 : List UInt8 := [17, 0, 142, 182, 0, 73, 153, 0, 16, 42, 180, 0, 9, 27, 8, 4, 182, 0, 90, 167, 0, 30, 42, 3]
abbrev dktX5_bound_2 : List UInt8 := dkwX5_bound_2 ++ dktX5_bound_3
def dkwX5_bound_1 : List UInt8 := [17, 0, 143, 182, 0, 73, 153, 0, 16, 42, 180, 0, 9, 27, 8, 3, 182, 0, 90, 167, 0, 53, 42]
abbrev dktX5_bound_1 : List UInt8 := dkwX5_bound_1 ++ dktX5_bound_2
def dkwX5_bound_0 : List UInt8 := [42, 180, 0, 9, 16, 25, 42, 180, 0, 26, 182, 0, 80, 60, 42, 180, 0, 15, 153, 0, 5, 27, 172, 42]
abbrev dktX5_bound_0 : List UInt8 := dkwX5_bound_0 ++ dktX5_bound_1
theorem dksX5_bound_0 : cX5_bound.data.toList.drop 0 = dktX5_bound_0 := by decide +kernel
theorem dksX5_bound_1 : cX5_bound.data.toList.drop 24 = dktX5_bound_1 := dk_seg dksX5_bound_0 24 rfl rfl
theorem dksX5_bound_2 : cX5_bound.data.toList.drop 47 = dktX5_bound_2 := dk_seg dksX5_bound_1 23 rfl rfl
theorem dksX5_bound_3 : cX5_bound.data.toList.drop 71 = dktX5_bound_3 := dk_seg dksX5_bound_2 24 rfl rfl
theorem dksX5_bound_4 : cX5_bound.data.toList.drop 93 = dktX5_bound_4 := dk_seg dksX5_bound_3 22 rfl rfl
theorem dX5_bound_0 : decode cX5_bound 0 = .ok (.aload_n 0, 1) := dk_42 (dk_at dksX5_bound_0 0 rfl rfl)
theorem dX5_bound_1 : decode cX5_bound 1 = .ok (.getfield 9, 3) := dk_180 0 9 (dk_at dksX5_bound_0 1 rfl rfl)
theorem dX5_bound_4 : decode cX5_bound 4 = .ok (.bipush 25, 2) := dk_16 25 (dk_at dksX5_bound_0 4 rfl rfl)
theorem dX5_bound_6 : decode cX5_bound 6 = .ok (.aload_n 0, 1) := dk_42 (dk_at dksX5_bound_0 6 rfl rfl)
theorem dX5_bound_7 : decode cX5_bound 7 = .ok (.getfield 26, 3) := dk_180 0 26 (dk_at dksX5_bound_0 7 rfl rfl)
theorem dX5_bound_10 : decode cX5_bound 10 = .ok (.invokevirtual 80, 3) := dk_182 0 80 (dk_at dksX5_bound_0 10 rfl rfl)
theorem dX5_bound_13 : decode cX5_bound 13 = .ok (.istore_n 1, 1) := dk_60 (dk_at dksX5_bound_0 13 rfl rfl)
theorem dX5_bound_14 : decode cX5_bound 14 = .ok (.aload_n 0, 1) := dk_42 (dk_at dksX5_bound_0 14 rfl rfl)
theorem dX5_bound_15 : decode cX5_bound 15 = .ok (.getfield 15, 3) := dk_180 0 15 (dk_at dksX5_bound_0 15 rfl rfl)
theorem dX5_bound_18 : decode cX5_bound 18 = .ok (.ifCond .eq 5, 3) := dk_153 0 5 (dk_at dksX5_bound_0 18 rfl rfl)
theorem dX5_bound_21 : decode cX5_bound 21 = .ok (.iload_n 1, 1) := dk_27 (dk_at dksX5_bound_0 21 rfl rfl)
theorem dX5_bound_22 : decode cX5_bound 22 = .ok (.ireturn, 1) := dk_172 (dk_at dksX5_bound_0 22 rfl rfl)
theorem dX5_bound_23 : decode cX5_bound 23 = .ok (.aload_n 0, 1) := dk_42 (dk_at dksX5_bound_0 23 rfl rfl)
theorem dX5_bound_24 : decode cX5_bound 24 = .ok (.sipush 143, 3) := dk_17 0 143 (dk_at dksX5_bound_1 0 rfl rfl)
theorem dX5_bound_27 : decode cX5_bound 27 = .ok (.invokevirtual 73, 3) := dk_182 0 73 (dk_at dksX5_bound_1 3 rfl rfl)
theorem dX5_bound_30 : decode cX5_bound 30 = .ok (.ifCond .eq 16, 3) := dk_153 0 16 (dk_at dksX5_bound_1 6 rfl rfl)
theorem dX5_bound_33 : decode cX5_bound 33 = .ok (.aload_n 0, 1) := dk_42 (dk_at dksX5_bound_1 9 rfl rfl)
theorem dX5_bound_34 : decode cX5_bound 34 = .ok (.getfield 9, 3) := dk_180 0 9 (dk_at dksX5_bound_1 10 rfl rfl)
theorem dX5_bound_37 : decode cX5_bound 37 = .ok (.iload_n 1, 1) := dk_27 (dk_at dksX5_bound_1 13 rfl rfl)
theorem dX5_bound_38 : decode cX5_bound 38 = .ok (.iconst 5, 1) := dk_8 (dk_at dksX5_bound_1 14 rfl rfl)
theorem dX5_bound_39 : decode cX5_bound 39 = .ok (.iconst 0, 1) := dk_3 (dk_at dksX5_bound_1 15 rfl rfl)
theorem dX5_bound_40 : decode cX5_bound 40 = .ok (.invokevirtual 90, 3) := dk_182 0 90 (dk_at dksX5_bound_1 16 rfl rfl)
theorem dX5_bound_43 : decode cX5_bound 43 = .ok (.goto 53, 3) := dk_167 0 53 (dk_at dksX5_bound_1 19 rfl rfl)
theorem dX5_bound_46 : decode cX5_bound 46 = .ok (.aload_n 0, 1) := dk_42 (dk_at dksX5_bound_1 22 rfl rfl)
theorem dX5_bound_47 : decode cX5_bound 47 = .ok (.sipush 142, 3) := dk_17 0 142 (dk_at dksX5_bound_2 0 rfl rfl)
theorem dX5_bound_50 : decode cX5_bound 50 = .ok (.invokevirtual 73, 3) := dk_182 0 73 (dk_at dksX5_bound_2 3 rfl rfl)
theorem dX5_bound_53 : decode cX5_bound 53 = .ok (.ifCond .eq 16, 3) := dk_153 0 16 (dk_at dksX5_bound_2 6 rfl rfl)
theorem dX5_bound_56 : decode cX5_bound 56 = .ok (.aload_n 0, 1) := dk_42 (dk_at dksX5_bound_2 9 rfl rfl)
theorem dX5_bound_57 : decode cX5_bound 57 = .ok (.getfield 9, 3) := dk_180 0 9 (dk_at dksX5_bound_2 10 rfl rfl)
theorem dX5_bound_60 : decode cX5_bound 60 = .ok (.iload_n 1, 1) := dk_27 (dk_at dksX5_bound_2 13 rfl rfl)
theorem dX5_bound_61 : decode cX5_bound 61 = .ok (.iconst 5, 1) := dk_8 (dk_at dksX5_bound_2 14 rfl rfl)
theorem dX5_bound_62 : decode cX5_bound 62 = .ok (.iconst 1, 1) := dk_4 (dk_at dksX5_bound_2 15 rfl rfl)
theorem dX5_bound_63 : decode cX5_bound 63 = .ok (.invokevirtual 90, 3) := dk_182 0 90 (dk_at dksX5_bound_2 16 rfl rfl)
theorem dX5_bound_66 : decode cX5_bound 66 = .ok (.goto 30, 3) := dk_167 0 30 (dk_at dksX5_bound_2 19 rfl rfl)
theorem dX5_bound_69 : decode cX5_bound 69 = .ok (.aload_n 0, 1) := dk_42 (dk_at dksX5_bound_2 22 rfl rfl)
theorem dX5_bound_70 : decode cX5_bound 70 = .ok (.iconst 0, 1) := dk_3 (dk_at dksX5_bound_2 23 rfl rfl)
theorem dX5_bound_71 : decode cX5_bound 71 = .ok (.invokevirtual 73, 3) := dk_182 0 73 (dk_at dksX5_bound_3 0 rfl rfl)
theorem dX5_bound_74 : decode cX5_bound 74 = .ok (.ifCond .eq 16, 3) := dk_153 0 16 (dk_at dksX5_bound_3 3 rfl rfl)
theorem dX5_bound_77 : decode cX5_bound 77 = .ok (.aload_n 0, 1) := dk_42 (dk_at dksX5_bound_3 6 rfl rfl)
theorem dX5_bound_78 : decode cX5_bound 78 = .ok (.getfield 9, 3) := dk_180 0 9 (dk_at dksX5_bound_3 7 rfl rfl)
theorem dX5_bound_81 : decode cX5_bound 81 = .ok (.iload_n 1, 1) := dk_27 (dk_at dksX5_bound_3 10 rfl rfl)
theorem dX5_bound_82 : decode cX5_bound 82 = .ok (.iconst 5, 1) := dk_8 (dk_at dksX5_bound_3 11 rfl rfl)
theorem dX5_bound_83 : decode cX5_bound 83 = .ok (.iconst 3, 1) := dk_6 (dk_at dksX5_bound_3 12 rfl rfl)
theorem dX5_bound_84 : decode cX5_bound 84 = .ok (.invokevirtual 90, 3) := dk_182 0 90 (dk_at dksX5_bound_3 13 rfl rfl)
theorem dX5_bound_87 : decode cX5_bound 87 = .ok (.goto 9, 3) := dk_167 0 9 (dk_at dksX5_bound_3 16 rfl rfl)
theorem dX5_bound_90 : decode cX5_bound 90 = .ok (.aload_n 0, 1) := dk_42 (dk_at dksX5_bound_3 19 rfl rfl)
theorem dX5_bound_91 : decode cX5_bound 91 = .ok (.iload_n 1, 1) := dk_27 (dk_at dksX5_bound_3 20 rfl rfl)
theorem dX5_bound_92 : decode cX5_bound 92 = .ok (.iconst 2, 1) := dk_5 (dk_at dksX5_bound_3 21 rfl rfl)
theorem dX5_bound_93 : decode cX5_bound 93 = .ok (.invokevirtual 181, 3) := dk_182 0 181 (dk_at dksX5_bound_4 0 rfl rfl)
theorem dX5_bound_96 : decode cX5_bound 96 = .ok (.iload_n 1, 1) := dk_27 (dk_at dksX5_bound_4 3 rfl rfl)
theorem dX5_bound_97 : decode cX5_bound 97 = .ok (.ireturn, 1) := dk_172 (dk_at dksX5_bound_4 4 rfl rfl)
abbrev cX5_limit : ByteArray := prog_5_method_25_code
def yX5_limit : MethodName := ⟨RX5, "limit", "()I"⟩
def dkwX5_limit_2 : List UInt8 := [182, 0, 175, 42, 16, 20, 182, 0, 67, 87, 27, 172]
abbrev dktX5_limit_2 : List UInt8 := dkwX5_limit_2 ++ []
def dkwX5_limit_1 : List UInt8 := [42, 17, 0, 161, 182, 0, 49, 153, 0, 12, 42, 27, 182, 0, 172, 87, 167, 0, 9, 42, 27, 3]
abbrev dktX5_limit_1 : List UInt8 := dkwX5_limit_1 ++ dktX5_limit_2
def dkwX5_limit_0 : List UInt8 := [42, 180, 0, 9, 16, 23, 42, 180, 0, 26, 182, 0, 80, 60, 42, 89, 180, 0, 26, 4, 96, 181, 0, 26]
abbrev dktX5_limit_0 : List UInt8 := dkwX5_limit_0 ++ dktX5_limit_1
theorem dksX5_limit_0 : cX5_limit.data.toList.drop 0 = dktX5_limit_0 := by decide +kernel
theorem dksX5_limit_1 : cX5_limit.data.toList.drop 24 = dktX5_limit_1 := dk_seg dksX5_limit_0 24 rfl rfl
theorem dksX5_limit_2 : cX5_limit.data.toList.drop 46 = dktX5_limit_2 := dk_seg dksX5_limit_1 22 rfl rfl
theorem dX5_limit_0 : decode cX5_limit 0 = .ok (.aload_n 0, 1) := dk_42 (dk_at dksX5_limit_0 0 rfl rfl)
theorem dX5_limit_1 : decode cX5_limit 1 = .ok (.getfield 9, 3) := dk_180 0 9 (dk_at dksX5_limit_0 1 rfl rfl)
theorem dX5_limit_4 : decode cX5_limit 4 = .ok (.bipush 23, 2) := dk_16 23 (dk_at dksX5_limit_0 4 rfl rfl)
theorem dX5_limit_6 : decode cX5_limit 6 = .ok (.aload_n 0, 1) := dk_42 (dk_at dksX5_limit_0 6 rfl rfl)
theorem dX5_limit_7 : decode cX5_limit 7 = .ok (.getfield 26, 3) := dk_180 0 26 (dk_at dksX5_limit_0 7 rfl rfl)
theorem dX5_limit_10 : decode cX5_limit 10 = .ok (.invokevirtual 80, 3) := dk_182 0 80 (dk_at dksX5_limit_0 10 rfl rfl)
theorem dX5_limit_13 : decode cX5_limit 13 = .ok (.istore_n 1, 1) := dk_60 (dk_at dksX5_limit_0 13 rfl rfl)
theorem dX5_limit_14 : decode cX5_limit 14 = .ok (.aload_n 0, 1) := dk_42 (dk_at dksX5_limit_0 14 rfl rfl)
theorem dX5_limit_15 : decode cX5_limit 15 = .ok (.dup, 1) := dk_89 (dk_at dksX5_limit_0 15 rfl rfl)
theorem dX5_limit_16 : decode cX5_limit 16 = .ok (.getfield 26, 3) := dk_180 0 26 (dk_at dksX5_limit_0 16 rfl rfl)
theorem dX5_limit_19 : decode cX5_limit 19 = .ok (.iconst 1, 1) := dk_4 (dk_at dksX5_limit_0 19 rfl rfl)
theorem dX5_limit_20 : decode cX5_limit 20 = .ok (.iadd, 1) := dk_96 (dk_at dksX5_limit_0 20 rfl rfl)
theorem dX5_limit_21 : decode cX5_limit 21 = .ok (.putfield 26, 3) := dk_181 0 26 (dk_at dksX5_limit_0 21 rfl rfl)
theorem dX5_limit_24 : decode cX5_limit 24 = .ok (.aload_n 0, 1) := dk_42 (dk_at dksX5_limit_1 0 rfl rfl)
theorem dX5_limit_25 : decode cX5_limit 25 = .ok (.sipush 161, 3) := dk_17 0 161 (dk_at dksX5_limit_1 1 rfl rfl)
theorem dX5_limit_28 : decode cX5_limit 28 = .ok (.invokevirtual 49, 3) := dk_182 0 49 (dk_at dksX5_limit_1 4 rfl rfl)
theorem dX5_limit_31 : decode cX5_limit 31 = .ok (.ifCond .eq 12, 3) := dk_153 0 12 (dk_at dksX5_limit_1 7 rfl rfl)
theorem dX5_limit_34 : decode cX5_limit 34 = .ok (.aload_n 0, 1) := dk_42 (dk_at dksX5_limit_1 10 rfl rfl)
theorem dX5_limit_35 : decode cX5_limit 35 = .ok (.iload_n 1, 1) := dk_27 (dk_at dksX5_limit_1 11 rfl rfl)
theorem dX5_limit_36 : decode cX5_limit 36 = .ok (.invokevirtual 172, 3) := dk_182 0 172 (dk_at dksX5_limit_1 12 rfl rfl)
theorem dX5_limit_39 : decode cX5_limit 39 = .ok (.pop, 1) := dk_87 (dk_at dksX5_limit_1 15 rfl rfl)
theorem dX5_limit_40 : decode cX5_limit 40 = .ok (.goto 9, 3) := dk_167 0 9 (dk_at dksX5_limit_1 16 rfl rfl)
theorem dX5_limit_43 : decode cX5_limit 43 = .ok (.aload_n 0, 1) := dk_42 (dk_at dksX5_limit_1 19 rfl rfl)
theorem dX5_limit_44 : decode cX5_limit 44 = .ok (.iload_n 1, 1) := dk_27 (dk_at dksX5_limit_1 20 rfl rfl)
theorem dX5_limit_45 : decode cX5_limit 45 = .ok (.iconst 0, 1) := dk_3 (dk_at dksX5_limit_1 21 rfl rfl)
theorem dX5_limit_46 : decode cX5_limit 46 = .ok (.invokevirtual 175, 3) := dk_182 0 175 (dk_at dksX5_limit_2 0 rfl rfl)
theorem dX5_limit_49 : decode cX5_limit 49 = .ok (.aload_n 0, 1) := dk_42 (dk_at dksX5_limit_2 3 rfl rfl)
theorem dX5_limit_50 : decode cX5_limit 50 = .ok (.bipush 20, 2) := dk_16 20 (dk_at dksX5_limit_2 4 rfl rfl)
theorem dX5_limit_52 : decode cX5_limit 52 = .ok (.invokevirtual 67, 3) := dk_182 0 67 (dk_at dksX5_limit_2 6 rfl rfl)
theorem dX5_limit_55 : decode cX5_limit 55 = .ok (.pop, 1) := dk_87 (dk_at dksX5_limit_2 9 rfl rfl)
theorem dX5_limit_56 : decode cX5_limit 56 = .ok (.iload_n 1, 1) := dk_27 (dk_at dksX5_limit_2 10 rfl rfl)
theorem dX5_limit_57 : decode cX5_limit 57 = .ok (.ireturn, 1) := dk_172 (dk_at dksX5_limit_2 11 rfl rfl)
abbrev cX5_fault : ByteArray := prog_5_method_2_code
def yX5_fault : MethodName := ⟨RX5, "fault", "()I"⟩
theorem dX5_fault_0 : decode cX5_fault 0 = .ok (.aload_n 0, 1) := by decide +kernel
theorem dX5_fault_1 : decode cX5_fault 1 = .ok (.getfield 15, 3) := by decide +kernel
theorem dX5_fault_4 : decode cX5_fault 4 = .ok (.ireturn, 1) := by decide +kernel
abbrev cX5_place : ByteArray := prog_5_method_3_code
def yX5_place : MethodName := ⟨RX5, "place", "()I"⟩
theorem dX5_place_0 : decode cX5_place 0 = .ok (.aload_n 0, 1) := by decide +kernel
theorem dX5_place_1 : decode cX5_place 1 = .ok (.getfield 19, 3) := by decide +kernel
theorem dX5_place_4 : decode cX5_place 4 = .ok (.ireturn, 1) := by decide +kernel
theorem q302 : (Jvm.Cond.initialized "SchemaWorkshop$Grammar") ∈ lw_all := lw_g (lw_at lw_m1 5 rfl) rfl
theorem q471 : (Jvm.Cond.fieldLinkNest "SchemaWorkshop$Grammar" (100 : Nat) "SchemaWorkshop$Tree" "first" "I" "SchemaWorkshop") ∈ lw_tbl := lw_at lw_m1 174 rfl
theorem q473 : (Jvm.Cond.fieldLinkNest "SchemaWorkshop$Grammar" (84 : Nat) "SchemaWorkshop$Tree" "types" "I" "SchemaWorkshop") ∈ lw_tbl := lw_at lw_m1 176 rfl
theorem q477 : (Jvm.Cond.fieldLinkNest "SchemaWorkshop$Grammar" (94 : Nat) "SchemaWorkshop$Tree" "constants" "I" "SchemaWorkshop") ∈ lw_tbl := lw_at lw_m1 180 rfl
theorem q479 : (Jvm.Cond.fieldLinkNest "SchemaWorkshop$Grammar" (76 : Nat) "SchemaWorkshop$Tree" "isImplicit" "Z" "SchemaWorkshop") ∈ lw_tbl := lw_at lw_m1 182 rfl
theorem q495 : (Jvm.Cond.instantiable "SchemaWorkshop$Grammar" (5 : Nat)) ∈ lw_all := lw_g (lw_at lw_m1 198 rfl) rfl
theorem q497 : (Jvm.Cond.instanceMethod ({ cls := "SchemaWorkshop$Grammar", name := "<init>", desc := "(LSchemaWorkshop$Tree;)V" } : Jvm.MethodName)) ∈ lw_all := lw_g (lw_at lw_m1 200 rfl) rfl
theorem q498 : (Jvm.Cond.code ({ cls := "SchemaWorkshop$Grammar", name := "<init>", desc := "(LSchemaWorkshop$Tree;)V" } : Jvm.MethodName) prog_5_method_1_code (2 : Nat) (Option.none : Option Jvm.ClassFile.FieldType)) ∈ lw_all := lw_g (lw_at lw_m1 201 rfl) rfl
theorem q499 : (Jvm.Cond.methodLink "SchemaWorkshop$Grammar" (3 : Nat) ({ cls := "java/lang/Object", name := "<init>", desc := "()V" } : Jvm.MethodName)) ∈ lw_all := lw_g (lw_at lw_m1 202 rfl) rfl
theorem q500 : (Jvm.Cond.fieldLink "SchemaWorkshop$Grammar" (22 : Nat) "SchemaWorkshop$Grammar" "row" "LSchemaWorkshop$Lexemes;") ∈ lw_all := lw_g (lw_at lw_m1 203 rfl) rfl
theorem q501 : (Jvm.Cond.fieldLink "SchemaWorkshop$Grammar" (9 : Nat) "SchemaWorkshop$Grammar" "tree" "LSchemaWorkshop$Tree;") ∈ lw_all := lw_g (lw_at lw_m1 204 rfl) rfl
theorem q502 : (Jvm.Cond.fieldLink "SchemaWorkshop$Grammar" (26 : Nat) "SchemaWorkshop$Grammar" "at" "I") ∈ lw_all := lw_g (lw_at lw_m1 205 rfl) rfl
theorem q503 : (Jvm.Cond.fieldLink "SchemaWorkshop$Grammar" (15 : Nat) "SchemaWorkshop$Grammar" "fault" "I") ∈ lw_all := lw_g (lw_at lw_m1 206 rfl) rfl
theorem q504 : (Jvm.Cond.fieldLink "SchemaWorkshop$Grammar" (19 : Nat) "SchemaWorkshop$Grammar" "place" "I") ∈ lw_all := lw_g (lw_at lw_m1 207 rfl) rfl
theorem q505 : (Jvm.Cond.lays "SchemaWorkshop$Grammar" "SchemaWorkshop$Grammar" "row" "LSchemaWorkshop$Lexemes;") ∈ lw_all := lw_g (lw_at lw_m1 208 rfl) rfl
theorem q506 : (Jvm.Cond.soleField "SchemaWorkshop$Grammar" "row") ∈ lw_all := lw_g (lw_at lw_m1 209 rfl) rfl
theorem q507 : (Jvm.Cond.laysFinal "SchemaWorkshop$Grammar" "SchemaWorkshop$Grammar" "tree" "LSchemaWorkshop$Tree;") ∈ lw_all := lw_g (lw_at lw_m1 210 rfl) rfl
theorem q508 : (Jvm.Cond.soleField "SchemaWorkshop$Grammar" "tree") ∈ lw_all := lw_g (lw_at lw_m1 211 rfl) rfl
theorem q509 : (Jvm.Cond.lays "SchemaWorkshop$Grammar" "SchemaWorkshop$Grammar" "at" "I") ∈ lw_all := lw_g (lw_at lw_m1 212 rfl) rfl
theorem q510 : (Jvm.Cond.soleField "SchemaWorkshop$Grammar" "at") ∈ lw_all := lw_g (lw_at lw_m1 213 rfl) rfl
theorem q511 : (Jvm.Cond.lays "SchemaWorkshop$Grammar" "SchemaWorkshop$Grammar" "fault" "I") ∈ lw_all := lw_g (lw_at lw_m1 214 rfl) rfl
theorem q512 : (Jvm.Cond.soleField "SchemaWorkshop$Grammar" "fault") ∈ lw_all := lw_g (lw_at lw_m1 215 rfl) rfl
theorem q513 : (Jvm.Cond.lays "SchemaWorkshop$Grammar" "SchemaWorkshop$Grammar" "place" "I") ∈ lw_all := lw_g (lw_at lw_m1 216 rfl) rfl
theorem q514 : (Jvm.Cond.soleField "SchemaWorkshop$Grammar" "place") ∈ lw_all := lw_g (lw_at lw_m1 217 rfl) rfl
theorem q515 : (Jvm.Cond.superclass "SchemaWorkshop$Grammar" "java/lang/Object") ∈ lw_all := lw_g (lw_at lw_m1 218 rfl) rfl
theorem q1249 : (Jvm.Cond.instanceMethod ({ cls := "SchemaWorkshop$Grammar", name := "read", desc := "(LSchemaWorkshop$Lexemes;)Z" } : Jvm.MethodName)) ∈ lw_all := lw_g (lw_at lw_m4 232 rfl) rfl
theorem q1250 : (Jvm.Cond.selects "SchemaWorkshop$Grammar" ({ cls := "SchemaWorkshop$Grammar", name := "read", desc := "(LSchemaWorkshop$Lexemes;)Z" } : Jvm.MethodName) ({ cls := "SchemaWorkshop$Grammar", name := "read", desc := "(LSchemaWorkshop$Lexemes;)Z" } : Jvm.MethodName)) ∈ lw_all := lw_g (lw_at lw_m4 233 rfl) rfl
theorem q1251 : (Jvm.Cond.code ({ cls := "SchemaWorkshop$Grammar", name := "read", desc := "(LSchemaWorkshop$Lexemes;)Z" } : Jvm.MethodName) prog_5_method_11_code (2 : Nat) (Option.some Jvm.ClassFile.FieldType.boolean)) ∈ lw_all := lw_g (lw_at lw_m4 234 rfl) rfl
theorem q1252 : (Jvm.Cond.methodLink "SchemaWorkshop$Grammar" (56 : Nat) ({ cls := "SchemaWorkshop$Tree", name := "clear", desc := "()V" } : Jvm.MethodName)) ∈ lw_all := lw_g (lw_at lw_m4 235 rfl) rfl
theorem q1256 : (Jvm.Cond.methodLink "SchemaWorkshop$Grammar" (61 : Nat) ({ cls := "SchemaWorkshop$Grammar", name := "heading", desc := "()Z" } : Jvm.MethodName)) ∈ lw_all := lw_g (lw_at lw_m4 239 rfl) rfl
theorem q1257 : (Jvm.Cond.privateMethod ({ cls := "SchemaWorkshop$Grammar", name := "heading", desc := "()Z" } : Jvm.MethodName)) ∈ lw_tbl := lw_at lw_m5 0 rfl
theorem q1258 : (Jvm.Cond.instanceMethod ({ cls := "SchemaWorkshop$Grammar", name := "heading", desc := "()Z" } : Jvm.MethodName)) ∈ lw_all := lw_g (lw_at lw_m5 1 rfl) rfl
theorem q1259 : (Jvm.Cond.code ({ cls := "SchemaWorkshop$Grammar", name := "heading", desc := "()Z" } : Jvm.MethodName) prog_5_method_12_code (1 : Nat) (Option.some Jvm.ClassFile.FieldType.boolean)) ∈ lw_all := lw_g (lw_at lw_m5 2 rfl) rfl
theorem q1260 : (Jvm.Cond.methodLink "SchemaWorkshop$Grammar" (67 : Nat) ({ cls := "SchemaWorkshop$Grammar", name := "take", desc := "(I)Z" } : Jvm.MethodName)) ∈ lw_all := lw_g (lw_at lw_m5 3 rfl) rfl
theorem q1261 : (Jvm.Cond.privateMethod ({ cls := "SchemaWorkshop$Grammar", name := "take", desc := "(I)Z" } : Jvm.MethodName)) ∈ lw_tbl := lw_at lw_m5 4 rfl
theorem q1262 : (Jvm.Cond.instanceMethod ({ cls := "SchemaWorkshop$Grammar", name := "take", desc := "(I)Z" } : Jvm.MethodName)) ∈ lw_all := lw_g (lw_at lw_m5 5 rfl) rfl
theorem q1263 : (Jvm.Cond.code ({ cls := "SchemaWorkshop$Grammar", name := "take", desc := "(I)Z" } : Jvm.MethodName) prog_5_method_9_code (2 : Nat) (Option.some Jvm.ClassFile.FieldType.boolean)) ∈ lw_all := lw_g (lw_at lw_m5 6 rfl) rfl
theorem q1264 : (Jvm.Cond.methodLink "SchemaWorkshop$Grammar" (49 : Nat) ({ cls := "SchemaWorkshop$Grammar", name := "is", desc := "(I)Z" } : Jvm.MethodName)) ∈ lw_all := lw_g (lw_at lw_m5 7 rfl) rfl
theorem q1265 : (Jvm.Cond.privateMethod ({ cls := "SchemaWorkshop$Grammar", name := "is", desc := "(I)Z" } : Jvm.MethodName)) ∈ lw_tbl := lw_at lw_m5 8 rfl
theorem q1266 : (Jvm.Cond.instanceMethod ({ cls := "SchemaWorkshop$Grammar", name := "is", desc := "(I)Z" } : Jvm.MethodName)) ∈ lw_all := lw_g (lw_at lw_m5 9 rfl) rfl
theorem q1267 : (Jvm.Cond.code ({ cls := "SchemaWorkshop$Grammar", name := "is", desc := "(I)Z" } : Jvm.MethodName) prog_5_method_5_code (2 : Nat) (Option.some Jvm.ClassFile.FieldType.boolean)) ∈ lw_all := lw_g (lw_at lw_m5 10 rfl) rfl
theorem q1268 : (Jvm.Cond.methodLink "SchemaWorkshop$Grammar" (29 : Nat) ({ cls := "SchemaWorkshop$Lexemes", name := "kind", desc := "(I)I" } : Jvm.MethodName)) ∈ lw_all := lw_g (lw_at lw_m5 11 rfl) rfl
theorem q1272 : (Jvm.Cond.methodLink "SchemaWorkshop$Grammar" (52 : Nat) ({ cls := "SchemaWorkshop$Grammar", name := "unfit", desc := "()Z" } : Jvm.MethodName)) ∈ lw_all := lw_g (lw_at lw_m5 15 rfl) rfl
theorem q1273 : (Jvm.Cond.privateMethod ({ cls := "SchemaWorkshop$Grammar", name := "unfit", desc := "()Z" } : Jvm.MethodName)) ∈ lw_tbl := lw_at lw_m5 16 rfl
theorem q1274 : (Jvm.Cond.instanceMethod ({ cls := "SchemaWorkshop$Grammar", name := "unfit", desc := "()Z" } : Jvm.MethodName)) ∈ lw_all := lw_g (lw_at lw_m5 17 rfl) rfl
theorem q1275 : (Jvm.Cond.code ({ cls := "SchemaWorkshop$Grammar", name := "unfit", desc := "()Z" } : Jvm.MethodName) prog_5_method_8_code (1 : Nat) (Option.some Jvm.ClassFile.FieldType.boolean)) ∈ lw_all := lw_g (lw_at lw_m5 18 rfl) rfl
theorem q1276 : (Jvm.Cond.methodLink "SchemaWorkshop$Grammar" (38 : Nat) ({ cls := "SchemaWorkshop$Grammar", name := "kind", desc := "()I" } : Jvm.MethodName)) ∈ lw_all := lw_g (lw_at lw_m5 19 rfl) rfl
theorem q1277 : (Jvm.Cond.privateMethod ({ cls := "SchemaWorkshop$Grammar", name := "kind", desc := "()I" } : Jvm.MethodName)) ∈ lw_tbl := lw_at lw_m5 20 rfl
theorem q1278 : (Jvm.Cond.instanceMethod ({ cls := "SchemaWorkshop$Grammar", name := "kind", desc := "()I" } : Jvm.MethodName)) ∈ lw_all := lw_g (lw_at lw_m5 21 rfl) rfl
theorem q1279 : (Jvm.Cond.code ({ cls := "SchemaWorkshop$Grammar", name := "kind", desc := "()I" } : Jvm.MethodName) prog_5_method_4_code (1 : Nat) (Option.some Jvm.ClassFile.FieldType.int)) ∈ lw_all := lw_g (lw_at lw_m5 22 rfl) rfl
theorem q1280 : (Jvm.Cond.methodLink "SchemaWorkshop$Grammar" (41 : Nat) ({ cls := "SchemaWorkshop$Grammar", name := "isUnsupported", desc := "(I)Z" } : Jvm.MethodName)) ∈ lw_all := lw_g (lw_at lw_m5 23 rfl) rfl
theorem q1281 : (Jvm.Cond.static ({ cls := "SchemaWorkshop$Grammar", name := "isUnsupported", desc := "(I)Z" } : Jvm.MethodName)) ∈ lw_all := lw_g (lw_at lw_m5 24 rfl) rfl
theorem q1282 : (Jvm.Cond.code ({ cls := "SchemaWorkshop$Grammar", name := "isUnsupported", desc := "(I)Z" } : Jvm.MethodName) prog_5_method_6_code (1 : Nat) (Option.some Jvm.ClassFile.FieldType.boolean)) ∈ lw_all := lw_g (lw_at lw_m5 25 rfl) rfl
theorem q1283 : (Jvm.Cond.methodLink "SchemaWorkshop$Grammar" (45 : Nat) ({ cls := "SchemaWorkshop$Grammar", name := "wrong", desc := "(II)Z" } : Jvm.MethodName)) ∈ lw_all := lw_g (lw_at lw_m5 26 rfl) rfl
theorem q1284 : (Jvm.Cond.privateMethod ({ cls := "SchemaWorkshop$Grammar", name := "wrong", desc := "(II)Z" } : Jvm.MethodName)) ∈ lw_tbl := lw_at lw_m5 27 rfl
theorem q1285 : (Jvm.Cond.instanceMethod ({ cls := "SchemaWorkshop$Grammar", name := "wrong", desc := "(II)Z" } : Jvm.MethodName)) ∈ lw_all := lw_g (lw_at lw_m5 28 rfl) rfl
theorem q1286 : (Jvm.Cond.code ({ cls := "SchemaWorkshop$Grammar", name := "wrong", desc := "(II)Z" } : Jvm.MethodName) prog_5_method_7_code (3 : Nat) (Option.some Jvm.ClassFile.FieldType.boolean)) ∈ lw_all := lw_g (lw_at lw_m5 29 rfl) rfl
theorem q1287 : (Jvm.Cond.methodLink "SchemaWorkshop$Grammar" (35 : Nat) ({ cls := "SchemaWorkshop$Lexemes", name := "start", desc := "(I)I" } : Jvm.MethodName)) ∈ lw_all := lw_g (lw_at lw_m5 30 rfl) rfl
theorem q1291 : (Jvm.Cond.methodLink "SchemaWorkshop$Grammar" (73 : Nat) ({ cls := "SchemaWorkshop$Grammar", name := "may", desc := "(I)Z" } : Jvm.MethodName)) ∈ lw_all := lw_g (lw_at lw_m5 34 rfl) rfl
theorem q1292 : (Jvm.Cond.privateMethod ({ cls := "SchemaWorkshop$Grammar", name := "may", desc := "(I)Z" } : Jvm.MethodName)) ∈ lw_tbl := lw_at lw_m5 35 rfl
theorem q1293 : (Jvm.Cond.instanceMethod ({ cls := "SchemaWorkshop$Grammar", name := "may", desc := "(I)Z" } : Jvm.MethodName)) ∈ lw_all := lw_g (lw_at lw_m5 36 rfl) rfl
theorem q1294 : (Jvm.Cond.code ({ cls := "SchemaWorkshop$Grammar", name := "may", desc := "(I)Z" } : Jvm.MethodName) prog_5_method_10_code (3 : Nat) (Option.some Jvm.ClassFile.FieldType.boolean)) ∈ lw_all := lw_g (lw_at lw_m5 37 rfl) rfl
theorem q1295 : (Jvm.Cond.methodLink "SchemaWorkshop$Grammar" (64 : Nat) ({ cls := "SchemaWorkshop$Grammar", name := "assignments", desc := "()Z" } : Jvm.MethodName)) ∈ lw_all := lw_g (lw_at lw_m5 38 rfl) rfl
theorem q1296 : (Jvm.Cond.privateMethod ({ cls := "SchemaWorkshop$Grammar", name := "assignments", desc := "()Z" } : Jvm.MethodName)) ∈ lw_tbl := lw_at lw_m5 39 rfl
theorem q1297 : (Jvm.Cond.instanceMethod ({ cls := "SchemaWorkshop$Grammar", name := "assignments", desc := "()Z" } : Jvm.MethodName)) ∈ lw_all := lw_g (lw_at lw_m5 40 rfl) rfl
theorem q1298 : (Jvm.Cond.code ({ cls := "SchemaWorkshop$Grammar", name := "assignments", desc := "()Z" } : Jvm.MethodName) prog_5_method_13_code (4 : Nat) (Option.some Jvm.ClassFile.FieldType.boolean)) ∈ lw_all := lw_g (lw_at lw_m5 41 rfl) rfl
theorem q1299 : (Jvm.Cond.methodLink "SchemaWorkshop$Grammar" (80 : Nat) ({ cls := "SchemaWorkshop$Tree", name := "add", desc := "(II)I" } : Jvm.MethodName)) ∈ lw_all := lw_g (lw_at lw_m5 42 rfl) rfl
theorem q1308 : (Jvm.Cond.methodLink "SchemaWorkshop$Grammar" (87 : Nat) ({ cls := "SchemaWorkshop$Grammar", name := "type", desc := "(I)I" } : Jvm.MethodName)) ∈ lw_all := lw_g (lw_at lw_m5 51 rfl) rfl
theorem q1309 : (Jvm.Cond.privateMethod ({ cls := "SchemaWorkshop$Grammar", name := "type", desc := "(I)I" } : Jvm.MethodName)) ∈ lw_tbl := lw_at lw_m5 52 rfl
theorem q1310 : (Jvm.Cond.instanceMethod ({ cls := "SchemaWorkshop$Grammar", name := "type", desc := "(I)I" } : Jvm.MethodName)) ∈ lw_all := lw_g (lw_at lw_m5 53 rfl) rfl
theorem q1311 : (Jvm.Cond.code ({ cls := "SchemaWorkshop$Grammar", name := "type", desc := "(I)I" } : Jvm.MethodName) prog_5_method_14_code (4 : Nat) (Option.some Jvm.ClassFile.FieldType.int)) ∈ lw_all := lw_g (lw_at lw_m5 54 rfl) rfl
theorem q1312 : (Jvm.Cond.methodLink "SchemaWorkshop$Grammar" (103 : Nat) ({ cls := "SchemaWorkshop$Grammar", name := "tag", desc := "()I" } : Jvm.MethodName)) ∈ lw_all := lw_g (lw_at lw_m5 55 rfl) rfl
theorem q1313 : (Jvm.Cond.privateMethod ({ cls := "SchemaWorkshop$Grammar", name := "tag", desc := "()I" } : Jvm.MethodName)) ∈ lw_tbl := lw_at lw_m5 56 rfl
theorem q1314 : (Jvm.Cond.instanceMethod ({ cls := "SchemaWorkshop$Grammar", name := "tag", desc := "()I" } : Jvm.MethodName)) ∈ lw_all := lw_g (lw_at lw_m5 57 rfl) rfl
theorem q1315 : (Jvm.Cond.code ({ cls := "SchemaWorkshop$Grammar", name := "tag", desc := "()I" } : Jvm.MethodName) prog_5_method_15_code (5 : Nat) (Option.some Jvm.ClassFile.FieldType.int)) ∈ lw_all := lw_g (lw_at lw_m5 58 rfl) rfl
theorem q1316 : (Jvm.Cond.methodLink "SchemaWorkshop$Grammar" (90 : Nat) ({ cls := "SchemaWorkshop$Tree", name := "set", desc := "(III)V" } : Jvm.MethodName)) ∈ lw_all := lw_g (lw_at lw_m5 59 rfl) rfl
theorem q1317 : (Jvm.Cond.methodLink "SchemaWorkshop$Grammar" (123 : Nat) ({ cls := "SchemaWorkshop$Grammar", name := "small", desc := "(I)J" } : Jvm.MethodName)) ∈ lw_all := lw_g (lw_at lw_m5 60 rfl) rfl
theorem q1318 : (Jvm.Cond.privateMethod ({ cls := "SchemaWorkshop$Grammar", name := "small", desc := "(I)J" } : Jvm.MethodName)) ∈ lw_tbl := lw_at lw_m5 61 rfl
theorem q1319 : (Jvm.Cond.instanceMethod ({ cls := "SchemaWorkshop$Grammar", name := "small", desc := "(I)J" } : Jvm.MethodName)) ∈ lw_all := lw_g (lw_at lw_m5 62 rfl) rfl
theorem q1320 : (Jvm.Cond.code ({ cls := "SchemaWorkshop$Grammar", name := "small", desc := "(I)J" } : Jvm.MethodName) prog_5_method_16_code (5 : Nat) (Option.some Jvm.ClassFile.FieldType.long)) ∈ lw_all := lw_g (lw_at lw_m5 63 rfl) rfl
theorem q1321 : (Jvm.Cond.methodLink "SchemaWorkshop$Grammar" (129 : Nat) ({ cls := "SchemaWorkshop$Lexemes", name := "end", desc := "(I)I" } : Jvm.MethodName)) ∈ lw_all := lw_g (lw_at lw_m5 64 rfl) rfl
theorem q1325 : (Jvm.Cond.constantLong "SchemaWorkshop$Grammar" (132 : Nat) (10000000000 : Int64)) ∈ lw_all := lw_g (lw_at lw_m5 68 rfl) rfl
theorem q1326 : (Jvm.Cond.constantLong "SchemaWorkshop$Grammar" (134 : Nat) (10 : Int64)) ∈ lw_all := lw_g (lw_at lw_m5 69 rfl) rfl
theorem q1327 : (Jvm.Cond.methodLink "SchemaWorkshop$Grammar" (136 : Nat) ({ cls := "SchemaWorkshop$Lexemes", name := "text", desc := "()LSchemaWorkshop$Bytes;" } : Jvm.MethodName)) ∈ lw_all := lw_g (lw_at lw_m5 70 rfl) rfl
theorem q1331 : (Jvm.Cond.methodLink "SchemaWorkshop$Grammar" (140 : Nat) ({ cls := "SchemaWorkshop$Bytes", name := "at", desc := "(I)I" } : Jvm.MethodName)) ∈ lw_all := lw_g (lw_at lw_m5 74 rfl) rfl
theorem q1332 : (Jvm.Cond.constantLong "SchemaWorkshop$Grammar" (144 : Nat) (48 : Int64)) ∈ lw_all := lw_g (lw_at lw_m5 75 rfl) rfl
theorem q1333 : (Jvm.Cond.constantLong "SchemaWorkshop$Grammar" (127 : Nat) (268435455 : Int64)) ∈ lw_all := lw_g (lw_at lw_m5 76 rfl) rfl
theorem q1334 : (Jvm.Cond.methodLink "SchemaWorkshop$Grammar" (106 : Nat) ({ cls := "SchemaWorkshop$Tree", name := "chain", desc := "(IIII)I" } : Jvm.MethodName)) ∈ lw_all := lw_g (lw_at lw_m5 77 rfl) rfl
theorem q1338 : (Jvm.Cond.methodLink "SchemaWorkshop$Grammar" (110 : Nat) ({ cls := "SchemaWorkshop$Grammar", name := "base", desc := "(II)V" } : Jvm.MethodName)) ∈ lw_all := lw_g (lw_at lw_m5 81 rfl) rfl
theorem q1339 : (Jvm.Cond.privateMethod ({ cls := "SchemaWorkshop$Grammar", name := "base", desc := "(II)V" } : Jvm.MethodName)) ∈ lw_tbl := lw_at lw_m5 82 rfl
theorem q1340 : (Jvm.Cond.instanceMethod ({ cls := "SchemaWorkshop$Grammar", name := "base", desc := "(II)V" } : Jvm.MethodName)) ∈ lw_all := lw_g (lw_at lw_m5 83 rfl) rfl
theorem q1341 : (Jvm.Cond.code ({ cls := "SchemaWorkshop$Grammar", name := "base", desc := "(II)V" } : Jvm.MethodName) prog_5_method_17_code (4 : Nat) (Option.none : Option Jvm.ClassFile.FieldType)) ∈ lw_all := lw_g (lw_at lw_m5 84 rfl) rfl
theorem q1342 : (Jvm.Cond.methodLink "SchemaWorkshop$Grammar" (146 : Nat) ({ cls := "SchemaWorkshop$Grammar", name := "itemsOf", desc := "(II)V" } : Jvm.MethodName)) ∈ lw_all := lw_g (lw_at lw_m5 85 rfl) rfl
theorem q1343 : (Jvm.Cond.privateMethod ({ cls := "SchemaWorkshop$Grammar", name := "itemsOf", desc := "(II)V" } : Jvm.MethodName)) ∈ lw_tbl := lw_at lw_m5 86 rfl
theorem q1344 : (Jvm.Cond.instanceMethod ({ cls := "SchemaWorkshop$Grammar", name := "itemsOf", desc := "(II)V" } : Jvm.MethodName)) ∈ lw_all := lw_g (lw_at lw_m5 87 rfl) rfl
theorem q1345 : (Jvm.Cond.code ({ cls := "SchemaWorkshop$Grammar", name := "itemsOf", desc := "(II)V" } : Jvm.MethodName) prog_5_method_20_code (3 : Nat) (Option.none : Option Jvm.ClassFile.FieldType)) ∈ lw_all := lw_g (lw_at lw_m5 88 rfl) rfl
theorem q1346 : (Jvm.Cond.methodLink "SchemaWorkshop$Grammar" (164 : Nat) ({ cls := "SchemaWorkshop$Grammar", name := "items", desc := "(II)V" } : Jvm.MethodName)) ∈ lw_all := lw_g (lw_at lw_m5 89 rfl) rfl
theorem q1347 : (Jvm.Cond.privateMethod ({ cls := "SchemaWorkshop$Grammar", name := "items", desc := "(II)V" } : Jvm.MethodName)) ∈ lw_tbl := lw_at lw_m5 90 rfl
theorem q1348 : (Jvm.Cond.instanceMethod ({ cls := "SchemaWorkshop$Grammar", name := "items", desc := "(II)V" } : Jvm.MethodName)) ∈ lw_all := lw_g (lw_at lw_m5 91 rfl) rfl
theorem q1349 : (Jvm.Cond.code ({ cls := "SchemaWorkshop$Grammar", name := "items", desc := "(II)V" } : Jvm.MethodName) prog_5_method_21_code (4 : Nat) (Option.none : Option Jvm.ClassFile.FieldType)) ∈ lw_all := lw_g (lw_at lw_m5 92 rfl) rfl
theorem q1350 : (Jvm.Cond.methodLink "SchemaWorkshop$Grammar" (167 : Nat) ({ cls := "SchemaWorkshop$Grammar", name := "item", desc := "(I)I" } : Jvm.MethodName)) ∈ lw_all := lw_g (lw_at lw_m5 93 rfl) rfl
theorem q1351 : (Jvm.Cond.privateMethod ({ cls := "SchemaWorkshop$Grammar", name := "item", desc := "(I)I" } : Jvm.MethodName)) ∈ lw_tbl := lw_at lw_m5 94 rfl
theorem q1352 : (Jvm.Cond.instanceMethod ({ cls := "SchemaWorkshop$Grammar", name := "item", desc := "(I)I" } : Jvm.MethodName)) ∈ lw_all := lw_g (lw_at lw_m5 95 rfl) rfl
theorem q1353 : (Jvm.Cond.code ({ cls := "SchemaWorkshop$Grammar", name := "item", desc := "(I)I" } : Jvm.MethodName) prog_5_method_22_code (3 : Nat) (Option.some Jvm.ClassFile.FieldType.int)) ∈ lw_all := lw_g (lw_at lw_m5 96 rfl) rfl
theorem q1354 : (Jvm.Cond.constantLong "SchemaWorkshop$Grammar" (170 : Nat) (63 : Int64)) ∈ lw_all := lw_g (lw_at lw_m5 97 rfl) rfl
theorem q1355 : (Jvm.Cond.methodLink "SchemaWorkshop$Grammar" (149 : Nat) ({ cls := "SchemaWorkshop$Grammar", name := "bits", desc := "(I)V" } : Jvm.MethodName)) ∈ lw_all := lw_g (lw_at lw_m5 98 rfl) rfl
theorem q1356 : (Jvm.Cond.privateMethod ({ cls := "SchemaWorkshop$Grammar", name := "bits", desc := "(I)V" } : Jvm.MethodName)) ∈ lw_tbl := lw_at lw_m5 99 rfl
theorem q1357 : (Jvm.Cond.instanceMethod ({ cls := "SchemaWorkshop$Grammar", name := "bits", desc := "(I)V" } : Jvm.MethodName)) ∈ lw_all := lw_g (lw_at lw_m5 100 rfl) rfl
theorem q1358 : (Jvm.Cond.code ({ cls := "SchemaWorkshop$Grammar", name := "bits", desc := "(I)V" } : Jvm.MethodName) prog_5_method_19_code (2 : Nat) (Option.none : Option Jvm.ClassFile.FieldType)) ∈ lw_all := lw_g (lw_at lw_m5 101 rfl) rfl
theorem q1359 : (Jvm.Cond.methodLink "SchemaWorkshop$Grammar" (153 : Nat) ({ cls := "SchemaWorkshop$Grammar", name := "string", desc := "(II)V" } : Jvm.MethodName)) ∈ lw_all := lw_g (lw_at lw_m5 102 rfl) rfl
theorem q1360 : (Jvm.Cond.privateMethod ({ cls := "SchemaWorkshop$Grammar", name := "string", desc := "(II)V" } : Jvm.MethodName)) ∈ lw_tbl := lw_at lw_m5 103 rfl
theorem q1361 : (Jvm.Cond.instanceMethod ({ cls := "SchemaWorkshop$Grammar", name := "string", desc := "(II)V" } : Jvm.MethodName)) ∈ lw_all := lw_g (lw_at lw_m5 104 rfl) rfl
theorem q1362 : (Jvm.Cond.code ({ cls := "SchemaWorkshop$Grammar", name := "string", desc := "(II)V" } : Jvm.MethodName) prog_5_method_18_code (3 : Nat) (Option.none : Option Jvm.ClassFile.FieldType)) ∈ lw_all := lw_g (lw_at lw_m5 105 rfl) rfl
theorem q1363 : (Jvm.Cond.methodLink "SchemaWorkshop$Grammar" (156 : Nat) ({ cls := "SchemaWorkshop$Grammar", name := "many", desc := "(IIII)V" } : Jvm.MethodName)) ∈ lw_all := lw_g (lw_at lw_m5 106 rfl) rfl
theorem q1364 : (Jvm.Cond.privateMethod ({ cls := "SchemaWorkshop$Grammar", name := "many", desc := "(IIII)V" } : Jvm.MethodName)) ∈ lw_tbl := lw_at lw_m5 107 rfl
theorem q1365 : (Jvm.Cond.instanceMethod ({ cls := "SchemaWorkshop$Grammar", name := "many", desc := "(IIII)V" } : Jvm.MethodName)) ∈ lw_all := lw_g (lw_at lw_m5 108 rfl) rfl
theorem q1366 : (Jvm.Cond.code ({ cls := "SchemaWorkshop$Grammar", name := "many", desc := "(IIII)V" } : Jvm.MethodName) prog_5_method_23_code (6 : Nat) (Option.none : Option Jvm.ClassFile.FieldType)) ∈ lw_all := lw_g (lw_at lw_m5 109 rfl) rfl
theorem q1367 : (Jvm.Cond.methodLink "SchemaWorkshop$Grammar" (160 : Nat) ({ cls := "SchemaWorkshop$Grammar", name := "components", desc := "(IIZ)V" } : Jvm.MethodName)) ∈ lw_all := lw_g (lw_at lw_m5 110 rfl) rfl
theorem q1368 : (Jvm.Cond.privateMethod ({ cls := "SchemaWorkshop$Grammar", name := "components", desc := "(IIZ)V" } : Jvm.MethodName)) ∈ lw_tbl := lw_at lw_m5 111 rfl
theorem q1369 : (Jvm.Cond.instanceMethod ({ cls := "SchemaWorkshop$Grammar", name := "components", desc := "(IIZ)V" } : Jvm.MethodName)) ∈ lw_all := lw_g (lw_at lw_m5 112 rfl) rfl
theorem q1370 : (Jvm.Cond.code ({ cls := "SchemaWorkshop$Grammar", name := "components", desc := "(IIZ)V" } : Jvm.MethodName) prog_5_method_24_code (6 : Nat) (Option.none : Option Jvm.ClassFile.FieldType)) ∈ lw_all := lw_g (lw_at lw_m5 113 rfl) rfl
theorem q1371 : (Jvm.Cond.methodLink "SchemaWorkshop$Grammar" (97 : Nat) ({ cls := "SchemaWorkshop$Grammar", name := "value", desc := "()I" } : Jvm.MethodName)) ∈ lw_all := lw_g (lw_at lw_m5 114 rfl) rfl
theorem q1372 : (Jvm.Cond.privateMethod ({ cls := "SchemaWorkshop$Grammar", name := "value", desc := "()I" } : Jvm.MethodName)) ∈ lw_tbl := lw_at lw_m5 115 rfl
theorem q1373 : (Jvm.Cond.instanceMethod ({ cls := "SchemaWorkshop$Grammar", name := "value", desc := "()I" } : Jvm.MethodName)) ∈ lw_all := lw_g (lw_at lw_m5 116 rfl) rfl
theorem q1374 : (Jvm.Cond.code ({ cls := "SchemaWorkshop$Grammar", name := "value", desc := "()I" } : Jvm.MethodName) prog_5_method_30_code (3 : Nat) (Option.some Jvm.ClassFile.FieldType.int)) ∈ lw_all := lw_g (lw_at lw_m5 117 rfl) rfl
theorem q1375 : (Jvm.Cond.methodLink "SchemaWorkshop$Grammar" (181 : Nat) ({ cls := "SchemaWorkshop$Grammar", name := "digits", desc := "(II)V" } : Jvm.MethodName)) ∈ lw_all := lw_g (lw_at lw_m5 118 rfl) rfl
theorem q1376 : (Jvm.Cond.privateMethod ({ cls := "SchemaWorkshop$Grammar", name := "digits", desc := "(II)V" } : Jvm.MethodName)) ∈ lw_tbl := lw_at lw_m5 119 rfl
theorem q1377 : (Jvm.Cond.instanceMethod ({ cls := "SchemaWorkshop$Grammar", name := "digits", desc := "(II)V" } : Jvm.MethodName)) ∈ lw_all := lw_g (lw_at lw_m5 120 rfl) rfl
theorem q1378 : (Jvm.Cond.code ({ cls := "SchemaWorkshop$Grammar", name := "digits", desc := "(II)V" } : Jvm.MethodName) prog_5_method_29_code (3 : Nat) (Option.none : Option Jvm.ClassFile.FieldType)) ∈ lw_all := lw_g (lw_at lw_m5 121 rfl) rfl
theorem q1379 : (Jvm.Cond.methodLink "SchemaWorkshop$Grammar" (184 : Nat) ({ cls := "SchemaWorkshop$Grammar", name := "list", desc := "(I)V" } : Jvm.MethodName)) ∈ lw_all := lw_g (lw_at lw_m5 122 rfl) rfl
theorem q1380 : (Jvm.Cond.privateMethod ({ cls := "SchemaWorkshop$Grammar", name := "list", desc := "(I)V" } : Jvm.MethodName)) ∈ lw_tbl := lw_at lw_m5 123 rfl
theorem q1381 : (Jvm.Cond.instanceMethod ({ cls := "SchemaWorkshop$Grammar", name := "list", desc := "(I)V" } : Jvm.MethodName)) ∈ lw_all := lw_g (lw_at lw_m5 124 rfl) rfl
theorem q1382 : (Jvm.Cond.code ({ cls := "SchemaWorkshop$Grammar", name := "list", desc := "(I)V" } : Jvm.MethodName) prog_5_method_31_code (5 : Nat) (Option.none : Option Jvm.ClassFile.FieldType)) ∈ lw_all := lw_g (lw_at lw_m5 125 rfl) rfl
theorem q1383 : (Jvm.Cond.methodLink "SchemaWorkshop$Grammar" (172 : Nat) ({ cls := "SchemaWorkshop$Grammar", name := "sizes", desc := "(I)Z" } : Jvm.MethodName)) ∈ lw_all := lw_g (lw_at lw_m5 126 rfl) rfl
theorem q1384 : (Jvm.Cond.privateMethod ({ cls := "SchemaWorkshop$Grammar", name := "sizes", desc := "(I)Z" } : Jvm.MethodName)) ∈ lw_tbl := lw_at lw_m5 127 rfl
theorem q1385 : (Jvm.Cond.instanceMethod ({ cls := "SchemaWorkshop$Grammar", name := "sizes", desc := "(I)Z" } : Jvm.MethodName)) ∈ lw_all := lw_g (lw_at lw_m5 128 rfl) rfl
theorem q1386 : (Jvm.Cond.code ({ cls := "SchemaWorkshop$Grammar", name := "sizes", desc := "(I)Z" } : Jvm.MethodName) prog_5_method_26_code (2 : Nat) (Option.some Jvm.ClassFile.FieldType.boolean)) ∈ lw_all := lw_g (lw_at lw_m5 129 rfl) rfl
theorem q1387 : (Jvm.Cond.methodLink "SchemaWorkshop$Grammar" (175 : Nat) ({ cls := "SchemaWorkshop$Grammar", name := "ranges", desc := "(II)V" } : Jvm.MethodName)) ∈ lw_all := lw_g (lw_at lw_m5 130 rfl) rfl
theorem q1388 : (Jvm.Cond.privateMethod ({ cls := "SchemaWorkshop$Grammar", name := "ranges", desc := "(II)V" } : Jvm.MethodName)) ∈ lw_tbl := lw_at lw_m5 131 rfl
theorem q1389 : (Jvm.Cond.instanceMethod ({ cls := "SchemaWorkshop$Grammar", name := "ranges", desc := "(II)V" } : Jvm.MethodName)) ∈ lw_all := lw_g (lw_at lw_m5 132 rfl) rfl
theorem q1390 : (Jvm.Cond.code ({ cls := "SchemaWorkshop$Grammar", name := "ranges", desc := "(II)V" } : Jvm.MethodName) prog_5_method_27_code (6 : Nat) (Option.none : Option Jvm.ClassFile.FieldType)) ∈ lw_all := lw_g (lw_at lw_m5 133 rfl) rfl
theorem q1391 : (Jvm.Cond.methodLink "SchemaWorkshop$Grammar" (178 : Nat) ({ cls := "SchemaWorkshop$Grammar", name := "bound", desc := "()I" } : Jvm.MethodName)) ∈ lw_all := lw_g (lw_at lw_m5 134 rfl) rfl
theorem q1392 : (Jvm.Cond.privateMethod ({ cls := "SchemaWorkshop$Grammar", name := "bound", desc := "()I" } : Jvm.MethodName)) ∈ lw_tbl := lw_at lw_m5 135 rfl
theorem q1393 : (Jvm.Cond.instanceMethod ({ cls := "SchemaWorkshop$Grammar", name := "bound", desc := "()I" } : Jvm.MethodName)) ∈ lw_all := lw_g (lw_at lw_m5 136 rfl) rfl
theorem q1394 : (Jvm.Cond.code ({ cls := "SchemaWorkshop$Grammar", name := "bound", desc := "()I" } : Jvm.MethodName) prog_5_method_28_code (2 : Nat) (Option.some Jvm.ClassFile.FieldType.int)) ∈ lw_all := lw_g (lw_at lw_m5 137 rfl) rfl
theorem q1395 : (Jvm.Cond.methodLink "SchemaWorkshop$Grammar" (114 : Nat) ({ cls := "SchemaWorkshop$Tree", name := "limits", desc := "(I)I" } : Jvm.MethodName)) ∈ lw_all := lw_g (lw_at lw_m5 138 rfl) rfl
theorem q1403 : (Jvm.Cond.methodLink "SchemaWorkshop$Grammar" (117 : Nat) ({ cls := "SchemaWorkshop$Tree", name := "next", desc := "(I)I" } : Jvm.MethodName)) ∈ lw_all := lw_g (lw_at lw_m5 146 rfl) rfl
theorem q1407 : (Jvm.Cond.methodLink "SchemaWorkshop$Grammar" (120 : Nat) ({ cls := "SchemaWorkshop$Grammar", name := "limit", desc := "()I" } : Jvm.MethodName)) ∈ lw_all := lw_g (lw_at lw_m5 150 rfl) rfl
theorem q1408 : (Jvm.Cond.privateMethod ({ cls := "SchemaWorkshop$Grammar", name := "limit", desc := "()I" } : Jvm.MethodName)) ∈ lw_tbl := lw_at lw_m5 151 rfl
theorem q1409 : (Jvm.Cond.instanceMethod ({ cls := "SchemaWorkshop$Grammar", name := "limit", desc := "()I" } : Jvm.MethodName)) ∈ lw_all := lw_g (lw_at lw_m5 152 rfl) rfl
theorem q1410 : (Jvm.Cond.code ({ cls := "SchemaWorkshop$Grammar", name := "limit", desc := "()I" } : Jvm.MethodName) prog_5_method_25_code (2 : Nat) (Option.some Jvm.ClassFile.FieldType.int)) ∈ lw_all := lw_g (lw_at lw_m5 153 rfl) rfl
theorem q1411 : (Jvm.Cond.methodLink "SchemaWorkshop$Grammar" (70 : Nat) ({ cls := "SchemaWorkshop$Lexemes", name := "size", desc := "()I" } : Jvm.MethodName)) ∈ lw_all := lw_g (lw_at lw_m5 154 rfl) rfl
theorem q1416 : (Jvm.Cond.instanceMethod ({ cls := "SchemaWorkshop$Grammar", name := "fault", desc := "()I" } : Jvm.MethodName)) ∈ lw_all := lw_g (lw_at lw_m5 159 rfl) rfl
theorem q1417 : (Jvm.Cond.selects "SchemaWorkshop$Grammar" ({ cls := "SchemaWorkshop$Grammar", name := "fault", desc := "()I" } : Jvm.MethodName) ({ cls := "SchemaWorkshop$Grammar", name := "fault", desc := "()I" } : Jvm.MethodName)) ∈ lw_all := lw_g (lw_at lw_m5 160 rfl) rfl
theorem q1418 : (Jvm.Cond.code ({ cls := "SchemaWorkshop$Grammar", name := "fault", desc := "()I" } : Jvm.MethodName) prog_5_method_2_code (1 : Nat) (Option.some Jvm.ClassFile.FieldType.int)) ∈ lw_all := lw_g (lw_at lw_m5 161 rfl) rfl
theorem q1420 : (Jvm.Cond.instanceMethod ({ cls := "SchemaWorkshop$Grammar", name := "place", desc := "()I" } : Jvm.MethodName)) ∈ lw_all := lw_g (lw_at lw_m5 163 rfl) rfl
theorem q1421 : (Jvm.Cond.selects "SchemaWorkshop$Grammar" ({ cls := "SchemaWorkshop$Grammar", name := "place", desc := "()I" } : Jvm.MethodName) ({ cls := "SchemaWorkshop$Grammar", name := "place", desc := "()I" } : Jvm.MethodName)) ∈ lw_all := lw_g (lw_at lw_m5 164 rfl) rfl
theorem q1422 : (Jvm.Cond.code ({ cls := "SchemaWorkshop$Grammar", name := "place", desc := "()I" } : Jvm.MethodName) prog_5_method_3_code (1 : Nat) (Option.some Jvm.ClassFile.FieldType.int)) ∈ lw_all := lw_g (lw_at lw_m5 165 rfl) rfl
theorem in_X5 : ∀ w ∈ wsX50, w ∈ lw_all := lw_in wsX50 [505, 507, 509, 511, 513] (by decide +kernel) (by decide +kernel)

/-! SchemaWorkshop$Meaning -/
set_option maxRecDepth 100000
def RX6 : String := "SchemaWorkshop$Meaning"
def TX6 : u_T := fun k => match k with
  | 0 => ("SchemaWorkshop$Meaning", "row", "LSchemaWorkshop$Lexemes;", false)
  | 1 => ("SchemaWorkshop$Meaning", "tree", "LSchemaWorkshop$Tree;", true)
  | 2 => ("SchemaWorkshop$Meaning", "numbers", "LSchemaWorkshop$Numbers;", true)
  | 3 => ("SchemaWorkshop$Meaning", "times", "LSchemaWorkshop$Times;", true)
  | 4 => ("SchemaWorkshop$Meaning", "forms", "LSchemaWorkshop$Forms;", true)
  | 5 => ("SchemaWorkshop$Meaning", "types", "LSchemaWorkshop$Names;", true)
  | 6 => ("SchemaWorkshop$Meaning", "constants", "LSchemaWorkshop$Names;", true)
  | 7 => ("SchemaWorkshop$Meaning", "local", "LSchemaWorkshop$Names;", true)
  | 8 => ("SchemaWorkshop$Meaning", "marks", "LSchemaWorkshop$Marks;", true)
  | 9 => ("SchemaWorkshop$Meaning", "pool", "LSchemaWorkshop$Bytes;", true)
  | 10 => ("SchemaWorkshop$Meaning", "spare", "LSchemaWorkshop$Bytes;", true)
  | 11 => ("SchemaWorkshop$Meaning", "from", "[I", false)
  | 12 => ("SchemaWorkshop$Meaning", "to", "[I", false)
  | 13 => ("SchemaWorkshop$Meaning", "tagFrom", "[I", false)
  | 14 => ("SchemaWorkshop$Meaning", "tagCount", "[I", false)
  | 15 => ("SchemaWorkshop$Meaning", "state", "[I", false)
  | 16 => ("SchemaWorkshop$Meaning", "bases", "[I", false)
  | 17 => ("SchemaWorkshop$Meaning", "tags", "[I", false)
  | 18 => ("SchemaWorkshop$Meaning", "tagSize", "I", false)
  | 19 => ("SchemaWorkshop$Meaning", "stack", "[I", false)
  | 20 => ("SchemaWorkshop$Meaning", "fault", "I", false)
  | 21 => ("SchemaWorkshop$Meaning", "place", "I", false)
  | 22 => ("SchemaWorkshop$Meaning", "found", "[I", false)
  | 23 => ("SchemaWorkshop$Meaning", "founds", "I", false)
  | _ => ("SchemaWorkshop$Meaning", "turn", "I", false)
def tyX6 : Nat → FieldType := fun k => match k with
  | 0 => .object "SchemaWorkshop$Lexemes"
  | 1 => .object "SchemaWorkshop$Tree"
  | 2 => .object "SchemaWorkshop$Numbers"
  | 3 => .object "SchemaWorkshop$Times"
  | 4 => .object "SchemaWorkshop$Forms"
  | 5 => .object "SchemaWorkshop$Names"
  | 6 => .object "SchemaWorkshop$Names"
  | 7 => .object "SchemaWorkshop$Names"
  | 8 => .object "SchemaWorkshop$Marks"
  | 9 => .object "SchemaWorkshop$Bytes"
  | 10 => .object "SchemaWorkshop$Bytes"
  | 11 => .array .int
  | 12 => .array .int
  | 13 => .array .int
  | 14 => .array .int
  | 15 => .array .int
  | 16 => .array .int
  | 17 => .array .int
  | 18 => .int
  | 19 => .array .int
  | 20 => .int
  | 21 => .int
  | 22 => .array .int
  | 23 => .int
  | _ => .int
abbrev wsX60 : List Cond := u_ws RX6 TX6 25
set_option maxRecDepth 100000 in
theorem nmX6 : ∀ a, a < 25 → ∀ b, b < 25 → a ≠ b → (TX6 a).2.1 ≠ (TX6 b).2.1 := by decide +kernel
set_option maxRecDepth 100000 in
theorem tyX6_ok : ∀ k, k < 25 → parseFieldDescriptor (TX6 k).2.2.1 = some (tyX6 k) := by decide +kernel
abbrev cX6_init : ByteArray := prog_9_method_1_code
def yX6_init : MethodName := ⟨RX6, "<init>", "(LSchemaWorkshop$Tree;)V"⟩
def dkwX6_init_7 : List UInt8 := [181, 0, 80, 42, 43, 181, 0, 83, 42, 187, 0, 87, 89, 42, 180, 0, 12, 183, 0, 89, 181, 0, 92, 177]
abbrev dktX6_init_7 : List UInt8 := dkwX6_init_7 ++ []
def dkwX6_init_6 : List UInt8 := [181, 0, 71, 42, 16, 64, 188, 10, 181, 0, 74, 42, 16, 64, 188, 10, 181, 0, 77, 42, 16, 64, 188, 10]
abbrev dktX6_init_6 : List UInt8 := dkwX6_init_6 ++ dktX6_init_7
def dkwX6_init_5 : List UInt8 := [181, 0, 62, 42, 16, 64, 188, 10, 181, 0, 65, 42, 16, 64, 188, 10, 181, 0, 68, 42, 16, 64, 188, 10]
abbrev dktX6_init_5 : List UInt8 := dkwX6_init_5 ++ dktX6_init_6
def dkwX6_init_4 : List UInt8 := [181, 0, 52, 42, 16, 64, 188, 10, 181, 0, 55, 42, 16, 64, 188, 10, 181, 0, 59, 42, 16, 64, 188, 10]
abbrev dktX6_init_4 : List UInt8 := dkwX6_init_4 ++ dktX6_init_5
def dkwX6_init_3 : List UInt8 := [181, 0, 41, 42, 187, 0, 45, 89, 183, 0, 47, 181, 0, 48, 42, 187, 0, 45, 89, 183, 0, 47]
abbrev dktX6_init_3 : List UInt8 := dkwX6_init_3 ++ dktX6_init_4
def dkwX6_init_2 : List UInt8 := [181, 0, 32, 42, 187, 0, 25, 89, 183, 0, 27, 181, 0, 35, 42, 187, 0, 38, 89, 183, 0, 40]
abbrev dktX6_init_2 : List UInt8 := dkwX6_init_2 ++ dktX6_init_3
def dkwX6_init_1 : List UInt8 := [181, 0, 21, 42, 187, 0, 25, 89, 183, 0, 27, 181, 0, 28, 42, 187, 0, 25, 89, 183, 0, 27]
abbrev dktX6_init_1 : List UInt8 := dkwX6_init_1 ++ dktX6_init_2
def dkwX6_init_0 : List UInt8 := [42, 183, 0, 3, 42, 187, 0, 9, 89, 183, 0, 11, 181, 0, 12, 42, 187, 0, 18, 89, 183, 0, 20]
abbrev dktX6_init_0 : List UInt8 := dkwX6_init_0 ++ dktX6_init_1
theorem dksX6_init_0 : cX6_init.data.toList.drop 0 = dktX6_init_0 := by decide +kernel
theorem dksX6_init_1 : cX6_init.data.toList.drop 23 = dktX6_init_1 := dk_seg dksX6_init_0 23 rfl rfl
theorem dksX6_init_2 : cX6_init.data.toList.drop 45 = dktX6_init_2 := dk_seg dksX6_init_1 22 rfl rfl
theorem dksX6_init_3 : cX6_init.data.toList.drop 67 = dktX6_init_3 := dk_seg dksX6_init_2 22 rfl rfl
theorem dksX6_init_4 : cX6_init.data.toList.drop 89 = dktX6_init_4 := dk_seg dksX6_init_3 22 rfl rfl
theorem dksX6_init_5 : cX6_init.data.toList.drop 113 = dktX6_init_5 := dk_seg dksX6_init_4 24 rfl rfl
theorem dksX6_init_6 : cX6_init.data.toList.drop 137 = dktX6_init_6 := dk_seg dksX6_init_5 24 rfl rfl
theorem dksX6_init_7 : cX6_init.data.toList.drop 161 = dktX6_init_7 := dk_seg dksX6_init_6 24 rfl rfl
theorem dX6_init_0 : decode cX6_init 0 = .ok (.aload_n 0, 1) := dk_42 (dk_at dksX6_init_0 0 rfl rfl)
theorem dX6_init_1 : decode cX6_init 1 = .ok (.invokespecial 3, 3) := dk_183 0 3 (dk_at dksX6_init_0 1 rfl rfl)
theorem dX6_init_4 : decode cX6_init 4 = .ok (.aload_n 0, 1) := dk_42 (dk_at dksX6_init_0 4 rfl rfl)
theorem dX6_init_5 : decode cX6_init 5 = .ok (.new 9, 3) := dk_187 0 9 (dk_at dksX6_init_0 5 rfl rfl)
theorem dX6_init_8 : decode cX6_init 8 = .ok (.dup, 1) := dk_89 (dk_at dksX6_init_0 8 rfl rfl)
theorem dX6_init_9 : decode cX6_init 9 = .ok (.invokespecial 11, 3) := dk_183 0 11 (dk_at dksX6_init_0 9 rfl rfl)
theorem dX6_init_12 : decode cX6_init 12 = .ok (.putfield 12, 3) := dk_181 0 12 (dk_at dksX6_init_0 12 rfl rfl)
theorem dX6_init_15 : decode cX6_init 15 = .ok (.aload_n 0, 1) := dk_42 (dk_at dksX6_init_0 15 rfl rfl)
theorem dX6_init_16 : decode cX6_init 16 = .ok (.new 18, 3) := dk_187 0 18 (dk_at dksX6_init_0 16 rfl rfl)
theorem dX6_init_19 : decode cX6_init 19 = .ok (.dup, 1) := dk_89 (dk_at dksX6_init_0 19 rfl rfl)
theorem dX6_init_20 : decode cX6_init 20 = .ok (.invokespecial 20, 3) := dk_183 0 20 (dk_at dksX6_init_0 20 rfl rfl)
theorem dX6_init_23 : decode cX6_init 23 = .ok (.putfield 21, 3) := dk_181 0 21 (dk_at dksX6_init_1 0 rfl rfl)
theorem dX6_init_26 : decode cX6_init 26 = .ok (.aload_n 0, 1) := dk_42 (dk_at dksX6_init_1 3 rfl rfl)
theorem dX6_init_27 : decode cX6_init 27 = .ok (.new 25, 3) := dk_187 0 25 (dk_at dksX6_init_1 4 rfl rfl)
theorem dX6_init_30 : decode cX6_init 30 = .ok (.dup, 1) := dk_89 (dk_at dksX6_init_1 7 rfl rfl)
theorem dX6_init_31 : decode cX6_init 31 = .ok (.invokespecial 27, 3) := dk_183 0 27 (dk_at dksX6_init_1 8 rfl rfl)
theorem dX6_init_34 : decode cX6_init 34 = .ok (.putfield 28, 3) := dk_181 0 28 (dk_at dksX6_init_1 11 rfl rfl)
theorem dX6_init_37 : decode cX6_init 37 = .ok (.aload_n 0, 1) := dk_42 (dk_at dksX6_init_1 14 rfl rfl)
theorem dX6_init_38 : decode cX6_init 38 = .ok (.new 25, 3) := dk_187 0 25 (dk_at dksX6_init_1 15 rfl rfl)
theorem dX6_init_41 : decode cX6_init 41 = .ok (.dup, 1) := dk_89 (dk_at dksX6_init_1 18 rfl rfl)
theorem dX6_init_42 : decode cX6_init 42 = .ok (.invokespecial 27, 3) := dk_183 0 27 (dk_at dksX6_init_1 19 rfl rfl)
theorem dX6_init_45 : decode cX6_init 45 = .ok (.putfield 32, 3) := dk_181 0 32 (dk_at dksX6_init_2 0 rfl rfl)
theorem dX6_init_48 : decode cX6_init 48 = .ok (.aload_n 0, 1) := dk_42 (dk_at dksX6_init_2 3 rfl rfl)
theorem dX6_init_49 : decode cX6_init 49 = .ok (.new 25, 3) := dk_187 0 25 (dk_at dksX6_init_2 4 rfl rfl)
theorem dX6_init_52 : decode cX6_init 52 = .ok (.dup, 1) := dk_89 (dk_at dksX6_init_2 7 rfl rfl)
theorem dX6_init_53 : decode cX6_init 53 = .ok (.invokespecial 27, 3) := dk_183 0 27 (dk_at dksX6_init_2 8 rfl rfl)
theorem dX6_init_56 : decode cX6_init 56 = .ok (.putfield 35, 3) := dk_181 0 35 (dk_at dksX6_init_2 11 rfl rfl)
theorem dX6_init_59 : decode cX6_init 59 = .ok (.aload_n 0, 1) := dk_42 (dk_at dksX6_init_2 14 rfl rfl)
theorem dX6_init_60 : decode cX6_init 60 = .ok (.new 38, 3) := dk_187 0 38 (dk_at dksX6_init_2 15 rfl rfl)
theorem dX6_init_63 : decode cX6_init 63 = .ok (.dup, 1) := dk_89 (dk_at dksX6_init_2 18 rfl rfl)
theorem dX6_init_64 : decode cX6_init 64 = .ok (.invokespecial 40, 3) := dk_183 0 40 (dk_at dksX6_init_2 19 rfl rfl)
theorem dX6_init_67 : decode cX6_init 67 = .ok (.putfield 41, 3) := dk_181 0 41 (dk_at dksX6_init_3 0 rfl rfl)
theorem dX6_init_70 : decode cX6_init 70 = .ok (.aload_n 0, 1) := dk_42 (dk_at dksX6_init_3 3 rfl rfl)
theorem dX6_init_71 : decode cX6_init 71 = .ok (.new 45, 3) := dk_187 0 45 (dk_at dksX6_init_3 4 rfl rfl)
theorem dX6_init_74 : decode cX6_init 74 = .ok (.dup, 1) := dk_89 (dk_at dksX6_init_3 7 rfl rfl)
theorem dX6_init_75 : decode cX6_init 75 = .ok (.invokespecial 47, 3) := dk_183 0 47 (dk_at dksX6_init_3 8 rfl rfl)
theorem dX6_init_78 : decode cX6_init 78 = .ok (.putfield 48, 3) := dk_181 0 48 (dk_at dksX6_init_3 11 rfl rfl)
theorem dX6_init_81 : decode cX6_init 81 = .ok (.aload_n 0, 1) := dk_42 (dk_at dksX6_init_3 14 rfl rfl)
theorem dX6_init_82 : decode cX6_init 82 = .ok (.new 45, 3) := dk_187 0 45 (dk_at dksX6_init_3 15 rfl rfl)
theorem dX6_init_85 : decode cX6_init 85 = .ok (.dup, 1) := dk_89 (dk_at dksX6_init_3 18 rfl rfl)
theorem dX6_init_86 : decode cX6_init 86 = .ok (.invokespecial 47, 3) := dk_183 0 47 (dk_at dksX6_init_3 19 rfl rfl)
theorem dX6_init_89 : decode cX6_init 89 = .ok (.putfield 52, 3) := dk_181 0 52 (dk_at dksX6_init_4 0 rfl rfl)
theorem dX6_init_92 : decode cX6_init 92 = .ok (.aload_n 0, 1) := dk_42 (dk_at dksX6_init_4 3 rfl rfl)
theorem dX6_init_93 : decode cX6_init 93 = .ok (.bipush 64, 2) := dk_16 64 (dk_at dksX6_init_4 4 rfl rfl)
theorem dX6_init_95 : decode cX6_init 95 = .ok (.newarray .int, 2) := dk_188_10 (dk_at dksX6_init_4 6 rfl rfl)
theorem dX6_init_97 : decode cX6_init 97 = .ok (.putfield 55, 3) := dk_181 0 55 (dk_at dksX6_init_4 8 rfl rfl)
theorem dX6_init_100 : decode cX6_init 100 = .ok (.aload_n 0, 1) := dk_42 (dk_at dksX6_init_4 11 rfl rfl)
theorem dX6_init_101 : decode cX6_init 101 = .ok (.bipush 64, 2) := dk_16 64 (dk_at dksX6_init_4 12 rfl rfl)
theorem dX6_init_103 : decode cX6_init 103 = .ok (.newarray .int, 2) := dk_188_10 (dk_at dksX6_init_4 14 rfl rfl)
theorem dX6_init_105 : decode cX6_init 105 = .ok (.putfield 59, 3) := dk_181 0 59 (dk_at dksX6_init_4 16 rfl rfl)
theorem dX6_init_108 : decode cX6_init 108 = .ok (.aload_n 0, 1) := dk_42 (dk_at dksX6_init_4 19 rfl rfl)
theorem dX6_init_109 : decode cX6_init 109 = .ok (.bipush 64, 2) := dk_16 64 (dk_at dksX6_init_4 20 rfl rfl)
theorem dX6_init_111 : decode cX6_init 111 = .ok (.newarray .int, 2) := dk_188_10 (dk_at dksX6_init_4 22 rfl rfl)
theorem dX6_init_113 : decode cX6_init 113 = .ok (.putfield 62, 3) := dk_181 0 62 (dk_at dksX6_init_5 0 rfl rfl)
theorem dX6_init_116 : decode cX6_init 116 = .ok (.aload_n 0, 1) := dk_42 (dk_at dksX6_init_5 3 rfl rfl)
theorem dX6_init_117 : decode cX6_init 117 = .ok (.bipush 64, 2) := dk_16 64 (dk_at dksX6_init_5 4 rfl rfl)
theorem dX6_init_119 : decode cX6_init 119 = .ok (.newarray .int, 2) := dk_188_10 (dk_at dksX6_init_5 6 rfl rfl)
theorem dX6_init_121 : decode cX6_init 121 = .ok (.putfield 65, 3) := dk_181 0 65 (dk_at dksX6_init_5 8 rfl rfl)
theorem dX6_init_124 : decode cX6_init 124 = .ok (.aload_n 0, 1) := dk_42 (dk_at dksX6_init_5 11 rfl rfl)
theorem dX6_init_125 : decode cX6_init 125 = .ok (.bipush 64, 2) := dk_16 64 (dk_at dksX6_init_5 12 rfl rfl)
theorem dX6_init_127 : decode cX6_init 127 = .ok (.newarray .int, 2) := dk_188_10 (dk_at dksX6_init_5 14 rfl rfl)
theorem dX6_init_129 : decode cX6_init 129 = .ok (.putfield 68, 3) := dk_181 0 68 (dk_at dksX6_init_5 16 rfl rfl)
theorem dX6_init_132 : decode cX6_init 132 = .ok (.aload_n 0, 1) := dk_42 (dk_at dksX6_init_5 19 rfl rfl)
theorem dX6_init_133 : decode cX6_init 133 = .ok (.bipush 64, 2) := dk_16 64 (dk_at dksX6_init_5 20 rfl rfl)
theorem dX6_init_135 : decode cX6_init 135 = .ok (.newarray .int, 2) := dk_188_10 (dk_at dksX6_init_5 22 rfl rfl)
theorem dX6_init_137 : decode cX6_init 137 = .ok (.putfield 71, 3) := dk_181 0 71 (dk_at dksX6_init_6 0 rfl rfl)
theorem dX6_init_140 : decode cX6_init 140 = .ok (.aload_n 0, 1) := dk_42 (dk_at dksX6_init_6 3 rfl rfl)
theorem dX6_init_141 : decode cX6_init 141 = .ok (.bipush 64, 2) := dk_16 64 (dk_at dksX6_init_6 4 rfl rfl)
theorem dX6_init_143 : decode cX6_init 143 = .ok (.newarray .int, 2) := dk_188_10 (dk_at dksX6_init_6 6 rfl rfl)
theorem dX6_init_145 : decode cX6_init 145 = .ok (.putfield 74, 3) := dk_181 0 74 (dk_at dksX6_init_6 8 rfl rfl)
theorem dX6_init_148 : decode cX6_init 148 = .ok (.aload_n 0, 1) := dk_42 (dk_at dksX6_init_6 11 rfl rfl)
theorem dX6_init_149 : decode cX6_init 149 = .ok (.bipush 64, 2) := dk_16 64 (dk_at dksX6_init_6 12 rfl rfl)
theorem dX6_init_151 : decode cX6_init 151 = .ok (.newarray .int, 2) := dk_188_10 (dk_at dksX6_init_6 14 rfl rfl)
theorem dX6_init_153 : decode cX6_init 153 = .ok (.putfield 77, 3) := dk_181 0 77 (dk_at dksX6_init_6 16 rfl rfl)
theorem dX6_init_156 : decode cX6_init 156 = .ok (.aload_n 0, 1) := dk_42 (dk_at dksX6_init_6 19 rfl rfl)
theorem dX6_init_157 : decode cX6_init 157 = .ok (.bipush 64, 2) := dk_16 64 (dk_at dksX6_init_6 20 rfl rfl)
theorem dX6_init_159 : decode cX6_init 159 = .ok (.newarray .int, 2) := dk_188_10 (dk_at dksX6_init_6 22 rfl rfl)
theorem dX6_init_161 : decode cX6_init 161 = .ok (.putfield 80, 3) := dk_181 0 80 (dk_at dksX6_init_7 0 rfl rfl)
theorem dX6_init_164 : decode cX6_init 164 = .ok (.aload_n 0, 1) := dk_42 (dk_at dksX6_init_7 3 rfl rfl)
theorem dX6_init_165 : decode cX6_init 165 = .ok (.aload_n 1, 1) := dk_43 (dk_at dksX6_init_7 4 rfl rfl)
theorem dX6_init_166 : decode cX6_init 166 = .ok (.putfield 83, 3) := dk_181 0 83 (dk_at dksX6_init_7 5 rfl rfl)
theorem dX6_init_169 : decode cX6_init 169 = .ok (.aload_n 0, 1) := dk_42 (dk_at dksX6_init_7 8 rfl rfl)
theorem dX6_init_170 : decode cX6_init 170 = .ok (.new 87, 3) := dk_187 0 87 (dk_at dksX6_init_7 9 rfl rfl)
theorem dX6_init_173 : decode cX6_init 173 = .ok (.dup, 1) := dk_89 (dk_at dksX6_init_7 12 rfl rfl)
theorem dX6_init_174 : decode cX6_init 174 = .ok (.aload_n 0, 1) := dk_42 (dk_at dksX6_init_7 13 rfl rfl)
theorem dX6_init_175 : decode cX6_init 175 = .ok (.getfield 12, 3) := dk_180 0 12 (dk_at dksX6_init_7 14 rfl rfl)
theorem dX6_init_178 : decode cX6_init 178 = .ok (.invokespecial 89, 3) := dk_183 0 89 (dk_at dksX6_init_7 17 rfl rfl)
theorem dX6_init_181 : decode cX6_init 181 = .ok (.putfield 92, 3) := dk_181 0 92 (dk_at dksX6_init_7 20 rfl rfl)
theorem dX6_init_184 : decode cX6_init 184 = .ok (.return_, 1) := dk_177 (dk_at dksX6_init_7 23 rfl rfl)
abbrev cX6_check : ByteArray := prog_9_method_7_code
def yX6_check : MethodName := ⟨RX6, "check", "(LSchemaWorkshop$Lexemes;)Z"⟩
def dkwX6_check_10 : List UInt8 := [42, 182, 0, 169, 153, 0, 14, 42, 182, 0, 172, 153, 0, 7, 4, 167, 0, 4, 3, 172]
abbrev dktX6_check_10 : List UInt8 := dkwX6_check_10 ++ []
def dkwX6_check_9 : List UInt8 := [153, 0, 42, 42, 182, 0, 160, 153, 0, 35, 42, 182, 0, 163, 153, 0, 28, 42, 182, 0, 166, 153, 0, 21]
abbrev dktX6_check_9 : List UInt8 := dkwX6_check_9 ++ dktX6_check_10
def dkwX6_check_8 : List UInt8 := [182, 0, 147, 153, 0, 63, 42, 182, 0, 151, 153, 0, 56, 42, 182, 0, 154, 153, 0, 49, 42, 182, 0, 157]
abbrev dktX6_check_8 : List UInt8 := dkwX6_check_8 ++ dktX6_check_9
def dkwX6_check_7 : List UInt8 := [180, 0, 28, 42, 180, 0, 103, 182, 0, 144, 42, 180, 0, 32, 42, 180, 0, 103, 182, 0, 144, 42]
abbrev dktX6_check_7 : List UInt8 := dkwX6_check_7 ++ dktX6_check_8
def dkwX6_check_6 : List UInt8 := [42, 180, 0, 48, 182, 0, 138, 42, 3, 181, 0, 141, 42, 3, 181, 0, 96, 42, 3, 181, 0, 100, 42]
abbrev dktX6_check_6 : List UInt8 := dkwX6_check_6 ++ dktX6_check_7
def dkwX6_check_5 : List UInt8 := [29, 16, 254, 79, 42, 180, 0, 62, 29, 2, 79, 42, 180, 0, 68, 29, 3, 79, 132, 3, 1, 167, 255, 219]
abbrev dktX6_check_5 : List UInt8 := dkwX6_check_5 ++ dktX6_check_6
def dkwX6_check_4 : List UInt8 := [184, 0, 134, 181, 0, 77, 3, 62, 29, 28, 162, 0, 38, 42, 180, 0, 55, 29, 2, 79, 42, 180, 0, 71]
abbrev dktX6_check_4 : List UInt8 := dkwX6_check_4 ++ dktX6_check_5
def dkwX6_check_3 : List UInt8 := [181, 0, 68, 42, 42, 180, 0, 71, 28, 184, 0, 134, 181, 0, 71, 42, 42, 180, 0, 77, 28, 4, 96]
abbrev dktX6_check_3 : List UInt8 := dkwX6_check_3 ++ dktX6_check_4
def dkwX6_check_2 : List UInt8 := [181, 0, 62, 42, 42, 180, 0, 65, 28, 184, 0, 134, 181, 0, 65, 42, 42, 180, 0, 68, 28, 184, 0, 134]
abbrev dktX6_check_2 : List UInt8 := dkwX6_check_2 ++ dktX6_check_3
def dkwX6_check_1 : List UInt8 := [181, 0, 55, 42, 42, 180, 0, 59, 28, 184, 0, 134, 181, 0, 59, 42, 42, 180, 0, 62, 28, 184, 0, 134]
abbrev dktX6_check_1 : List UInt8 := dkwX6_check_1 ++ dktX6_check_2
def dkwX6_check_0 : List UInt8 := [42, 43, 181, 0, 103, 42, 180, 0, 83, 182, 0, 130, 61, 42, 42, 180, 0, 55, 28, 184, 0, 134]
abbrev dktX6_check_0 : List UInt8 := dkwX6_check_0 ++ dktX6_check_1
theorem dksX6_check_0 : cX6_check.data.toList.drop 0 = dktX6_check_0 := by decide +kernel
theorem dksX6_check_1 : cX6_check.data.toList.drop 22 = dktX6_check_1 := dk_seg dksX6_check_0 22 rfl rfl
theorem dksX6_check_2 : cX6_check.data.toList.drop 46 = dktX6_check_2 := dk_seg dksX6_check_1 24 rfl rfl
theorem dksX6_check_3 : cX6_check.data.toList.drop 70 = dktX6_check_3 := dk_seg dksX6_check_2 24 rfl rfl
theorem dksX6_check_4 : cX6_check.data.toList.drop 93 = dktX6_check_4 := dk_seg dksX6_check_3 23 rfl rfl
theorem dksX6_check_5 : cX6_check.data.toList.drop 117 = dktX6_check_5 := dk_seg dksX6_check_4 24 rfl rfl
theorem dksX6_check_6 : cX6_check.data.toList.drop 141 = dktX6_check_6 := dk_seg dksX6_check_5 24 rfl rfl
theorem dksX6_check_7 : cX6_check.data.toList.drop 164 = dktX6_check_7 := dk_seg dksX6_check_6 23 rfl rfl
theorem dksX6_check_8 : cX6_check.data.toList.drop 186 = dktX6_check_8 := dk_seg dksX6_check_7 22 rfl rfl
theorem dksX6_check_9 : cX6_check.data.toList.drop 210 = dktX6_check_9 := dk_seg dksX6_check_8 24 rfl rfl
theorem dksX6_check_10 : cX6_check.data.toList.drop 234 = dktX6_check_10 := dk_seg dksX6_check_9 24 rfl rfl
theorem dX6_check_0 : decode cX6_check 0 = .ok (.aload_n 0, 1) := dk_42 (dk_at dksX6_check_0 0 rfl rfl)
theorem dX6_check_1 : decode cX6_check 1 = .ok (.aload_n 1, 1) := dk_43 (dk_at dksX6_check_0 1 rfl rfl)
theorem dX6_check_2 : decode cX6_check 2 = .ok (.putfield 103, 3) := dk_181 0 103 (dk_at dksX6_check_0 2 rfl rfl)
theorem dX6_check_5 : decode cX6_check 5 = .ok (.aload_n 0, 1) := dk_42 (dk_at dksX6_check_0 5 rfl rfl)
theorem dX6_check_6 : decode cX6_check 6 = .ok (.getfield 83, 3) := dk_180 0 83 (dk_at dksX6_check_0 6 rfl rfl)
theorem dX6_check_9 : decode cX6_check 9 = .ok (.invokevirtual 130, 3) := dk_182 0 130 (dk_at dksX6_check_0 9 rfl rfl)
theorem dX6_check_12 : decode cX6_check 12 = .ok (.istore_n 2, 1) := dk_61 (dk_at dksX6_check_0 12 rfl rfl)
theorem dX6_check_13 : decode cX6_check 13 = .ok (.aload_n 0, 1) := dk_42 (dk_at dksX6_check_0 13 rfl rfl)
theorem dX6_check_14 : decode cX6_check 14 = .ok (.aload_n 0, 1) := dk_42 (dk_at dksX6_check_0 14 rfl rfl)
theorem dX6_check_15 : decode cX6_check 15 = .ok (.getfield 55, 3) := dk_180 0 55 (dk_at dksX6_check_0 15 rfl rfl)
theorem dX6_check_18 : decode cX6_check 18 = .ok (.iload_n 2, 1) := dk_28 (dk_at dksX6_check_0 18 rfl rfl)
theorem dX6_check_19 : decode cX6_check 19 = .ok (.invokestatic 134, 3) := dk_184 0 134 (dk_at dksX6_check_0 19 rfl rfl)
theorem dX6_check_22 : decode cX6_check 22 = .ok (.putfield 55, 3) := dk_181 0 55 (dk_at dksX6_check_1 0 rfl rfl)
theorem dX6_check_25 : decode cX6_check 25 = .ok (.aload_n 0, 1) := dk_42 (dk_at dksX6_check_1 3 rfl rfl)
theorem dX6_check_26 : decode cX6_check 26 = .ok (.aload_n 0, 1) := dk_42 (dk_at dksX6_check_1 4 rfl rfl)
theorem dX6_check_27 : decode cX6_check 27 = .ok (.getfield 59, 3) := dk_180 0 59 (dk_at dksX6_check_1 5 rfl rfl)
theorem dX6_check_30 : decode cX6_check 30 = .ok (.iload_n 2, 1) := dk_28 (dk_at dksX6_check_1 8 rfl rfl)
theorem dX6_check_31 : decode cX6_check 31 = .ok (.invokestatic 134, 3) := dk_184 0 134 (dk_at dksX6_check_1 9 rfl rfl)
theorem dX6_check_34 : decode cX6_check 34 = .ok (.putfield 59, 3) := dk_181 0 59 (dk_at dksX6_check_1 12 rfl rfl)
theorem dX6_check_37 : decode cX6_check 37 = .ok (.aload_n 0, 1) := dk_42 (dk_at dksX6_check_1 15 rfl rfl)
theorem dX6_check_38 : decode cX6_check 38 = .ok (.aload_n 0, 1) := dk_42 (dk_at dksX6_check_1 16 rfl rfl)
theorem dX6_check_39 : decode cX6_check 39 = .ok (.getfield 62, 3) := dk_180 0 62 (dk_at dksX6_check_1 17 rfl rfl)
theorem dX6_check_42 : decode cX6_check 42 = .ok (.iload_n 2, 1) := dk_28 (dk_at dksX6_check_1 20 rfl rfl)
theorem dX6_check_43 : decode cX6_check 43 = .ok (.invokestatic 134, 3) := dk_184 0 134 (dk_at dksX6_check_1 21 rfl rfl)
theorem dX6_check_46 : decode cX6_check 46 = .ok (.putfield 62, 3) := dk_181 0 62 (dk_at dksX6_check_2 0 rfl rfl)
theorem dX6_check_49 : decode cX6_check 49 = .ok (.aload_n 0, 1) := dk_42 (dk_at dksX6_check_2 3 rfl rfl)
theorem dX6_check_50 : decode cX6_check 50 = .ok (.aload_n 0, 1) := dk_42 (dk_at dksX6_check_2 4 rfl rfl)
theorem dX6_check_51 : decode cX6_check 51 = .ok (.getfield 65, 3) := dk_180 0 65 (dk_at dksX6_check_2 5 rfl rfl)
theorem dX6_check_54 : decode cX6_check 54 = .ok (.iload_n 2, 1) := dk_28 (dk_at dksX6_check_2 8 rfl rfl)
theorem dX6_check_55 : decode cX6_check 55 = .ok (.invokestatic 134, 3) := dk_184 0 134 (dk_at dksX6_check_2 9 rfl rfl)
theorem dX6_check_58 : decode cX6_check 58 = .ok (.putfield 65, 3) := dk_181 0 65 (dk_at dksX6_check_2 12 rfl rfl)
theorem dX6_check_61 : decode cX6_check 61 = .ok (.aload_n 0, 1) := dk_42 (dk_at dksX6_check_2 15 rfl rfl)
theorem dX6_check_62 : decode cX6_check 62 = .ok (.aload_n 0, 1) := dk_42 (dk_at dksX6_check_2 16 rfl rfl)
theorem dX6_check_63 : decode cX6_check 63 = .ok (.getfield 68, 3) := dk_180 0 68 (dk_at dksX6_check_2 17 rfl rfl)
theorem dX6_check_66 : decode cX6_check 66 = .ok (.iload_n 2, 1) := dk_28 (dk_at dksX6_check_2 20 rfl rfl)
theorem dX6_check_67 : decode cX6_check 67 = .ok (.invokestatic 134, 3) := dk_184 0 134 (dk_at dksX6_check_2 21 rfl rfl)
theorem dX6_check_70 : decode cX6_check 70 = .ok (.putfield 68, 3) := dk_181 0 68 (dk_at dksX6_check_3 0 rfl rfl)
theorem dX6_check_73 : decode cX6_check 73 = .ok (.aload_n 0, 1) := dk_42 (dk_at dksX6_check_3 3 rfl rfl)
theorem dX6_check_74 : decode cX6_check 74 = .ok (.aload_n 0, 1) := dk_42 (dk_at dksX6_check_3 4 rfl rfl)
theorem dX6_check_75 : decode cX6_check 75 = .ok (.getfield 71, 3) := dk_180 0 71 (dk_at dksX6_check_3 5 rfl rfl)
theorem dX6_check_78 : decode cX6_check 78 = .ok (.iload_n 2, 1) := dk_28 (dk_at dksX6_check_3 8 rfl rfl)
theorem dX6_check_79 : decode cX6_check 79 = .ok (.invokestatic 134, 3) := dk_184 0 134 (dk_at dksX6_check_3 9 rfl rfl)
theorem dX6_check_82 : decode cX6_check 82 = .ok (.putfield 71, 3) := dk_181 0 71 (dk_at dksX6_check_3 12 rfl rfl)
theorem dX6_check_85 : decode cX6_check 85 = .ok (.aload_n 0, 1) := dk_42 (dk_at dksX6_check_3 15 rfl rfl)
theorem dX6_check_86 : decode cX6_check 86 = .ok (.aload_n 0, 1) := dk_42 (dk_at dksX6_check_3 16 rfl rfl)
theorem dX6_check_87 : decode cX6_check 87 = .ok (.getfield 77, 3) := dk_180 0 77 (dk_at dksX6_check_3 17 rfl rfl)
theorem dX6_check_90 : decode cX6_check 90 = .ok (.iload_n 2, 1) := dk_28 (dk_at dksX6_check_3 20 rfl rfl)
theorem dX6_check_91 : decode cX6_check 91 = .ok (.iconst 1, 1) := dk_4 (dk_at dksX6_check_3 21 rfl rfl)
theorem dX6_check_92 : decode cX6_check 92 = .ok (.iadd, 1) := dk_96 (dk_at dksX6_check_3 22 rfl rfl)
theorem dX6_check_93 : decode cX6_check 93 = .ok (.invokestatic 134, 3) := dk_184 0 134 (dk_at dksX6_check_4 0 rfl rfl)
theorem dX6_check_96 : decode cX6_check 96 = .ok (.putfield 77, 3) := dk_181 0 77 (dk_at dksX6_check_4 3 rfl rfl)
theorem dX6_check_99 : decode cX6_check 99 = .ok (.iconst 0, 1) := dk_3 (dk_at dksX6_check_4 6 rfl rfl)
theorem dX6_check_100 : decode cX6_check 100 = .ok (.istore_n 3, 1) := dk_62 (dk_at dksX6_check_4 7 rfl rfl)
theorem dX6_check_101 : decode cX6_check 101 = .ok (.iload_n 3, 1) := dk_29 (dk_at dksX6_check_4 8 rfl rfl)
theorem dX6_check_102 : decode cX6_check 102 = .ok (.iload_n 2, 1) := dk_28 (dk_at dksX6_check_4 9 rfl rfl)
theorem dX6_check_103 : decode cX6_check 103 = .ok (.if_icmp .ge 38, 3) := dk_162 0 38 (dk_at dksX6_check_4 10 rfl rfl)
theorem dX6_check_106 : decode cX6_check 106 = .ok (.aload_n 0, 1) := dk_42 (dk_at dksX6_check_4 13 rfl rfl)
theorem dX6_check_107 : decode cX6_check 107 = .ok (.getfield 55, 3) := dk_180 0 55 (dk_at dksX6_check_4 14 rfl rfl)
theorem dX6_check_110 : decode cX6_check 110 = .ok (.iload_n 3, 1) := dk_29 (dk_at dksX6_check_4 17 rfl rfl)
theorem dX6_check_111 : decode cX6_check 111 = .ok (.iconst (-1), 1) := dk_2 (dk_at dksX6_check_4 18 rfl rfl)
theorem dX6_check_112 : decode cX6_check 112 = .ok (.iastore, 1) := dk_79 (dk_at dksX6_check_4 19 rfl rfl)
theorem dX6_check_113 : decode cX6_check 113 = .ok (.aload_n 0, 1) := dk_42 (dk_at dksX6_check_4 20 rfl rfl)
theorem dX6_check_114 : decode cX6_check 114 = .ok (.getfield 71, 3) := dk_180 0 71 (dk_at dksX6_check_4 21 rfl rfl)
theorem dX6_check_117 : decode cX6_check 117 = .ok (.iload_n 3, 1) := dk_29 (dk_at dksX6_check_5 0 rfl rfl)
theorem dX6_check_118 : decode cX6_check 118 = .ok (.bipush (-2), 2) := dk_16 254 (dk_at dksX6_check_5 1 rfl rfl)
theorem dX6_check_120 : decode cX6_check 120 = .ok (.iastore, 1) := dk_79 (dk_at dksX6_check_5 3 rfl rfl)
theorem dX6_check_121 : decode cX6_check 121 = .ok (.aload_n 0, 1) := dk_42 (dk_at dksX6_check_5 4 rfl rfl)
theorem dX6_check_122 : decode cX6_check 122 = .ok (.getfield 62, 3) := dk_180 0 62 (dk_at dksX6_check_5 5 rfl rfl)
theorem dX6_check_125 : decode cX6_check 125 = .ok (.iload_n 3, 1) := dk_29 (dk_at dksX6_check_5 8 rfl rfl)
theorem dX6_check_126 : decode cX6_check 126 = .ok (.iconst (-1), 1) := dk_2 (dk_at dksX6_check_5 9 rfl rfl)
theorem dX6_check_127 : decode cX6_check 127 = .ok (.iastore, 1) := dk_79 (dk_at dksX6_check_5 10 rfl rfl)
theorem dX6_check_128 : decode cX6_check 128 = .ok (.aload_n 0, 1) := dk_42 (dk_at dksX6_check_5 11 rfl rfl)
theorem dX6_check_129 : decode cX6_check 129 = .ok (.getfield 68, 3) := dk_180 0 68 (dk_at dksX6_check_5 12 rfl rfl)
theorem dX6_check_132 : decode cX6_check 132 = .ok (.iload_n 3, 1) := dk_29 (dk_at dksX6_check_5 15 rfl rfl)
theorem dX6_check_133 : decode cX6_check 133 = .ok (.iconst 0, 1) := dk_3 (dk_at dksX6_check_5 16 rfl rfl)
theorem dX6_check_134 : decode cX6_check 134 = .ok (.iastore, 1) := dk_79 (dk_at dksX6_check_5 17 rfl rfl)
theorem dX6_check_135 : decode cX6_check 135 = .ok (.iinc 3 1, 3) := dk_132 3 1 (dk_at dksX6_check_5 18 rfl rfl)
theorem dX6_check_138 : decode cX6_check 138 = .ok (.goto (-37), 3) := dk_167 255 219 (dk_at dksX6_check_5 21 rfl rfl)
theorem dX6_check_141 : decode cX6_check 141 = .ok (.aload_n 0, 1) := dk_42 (dk_at dksX6_check_6 0 rfl rfl)
theorem dX6_check_142 : decode cX6_check 142 = .ok (.getfield 48, 3) := dk_180 0 48 (dk_at dksX6_check_6 1 rfl rfl)
theorem dX6_check_145 : decode cX6_check 145 = .ok (.invokevirtual 138, 3) := dk_182 0 138 (dk_at dksX6_check_6 4 rfl rfl)
theorem dX6_check_148 : decode cX6_check 148 = .ok (.aload_n 0, 1) := dk_42 (dk_at dksX6_check_6 7 rfl rfl)
theorem dX6_check_149 : decode cX6_check 149 = .ok (.iconst 0, 1) := dk_3 (dk_at dksX6_check_6 8 rfl rfl)
theorem dX6_check_150 : decode cX6_check 150 = .ok (.putfield 141, 3) := dk_181 0 141 (dk_at dksX6_check_6 9 rfl rfl)
theorem dX6_check_153 : decode cX6_check 153 = .ok (.aload_n 0, 1) := dk_42 (dk_at dksX6_check_6 12 rfl rfl)
theorem dX6_check_154 : decode cX6_check 154 = .ok (.iconst 0, 1) := dk_3 (dk_at dksX6_check_6 13 rfl rfl)
theorem dX6_check_155 : decode cX6_check 155 = .ok (.putfield 96, 3) := dk_181 0 96 (dk_at dksX6_check_6 14 rfl rfl)
theorem dX6_check_158 : decode cX6_check 158 = .ok (.aload_n 0, 1) := dk_42 (dk_at dksX6_check_6 17 rfl rfl)
theorem dX6_check_159 : decode cX6_check 159 = .ok (.iconst 0, 1) := dk_3 (dk_at dksX6_check_6 18 rfl rfl)
theorem dX6_check_160 : decode cX6_check 160 = .ok (.putfield 100, 3) := dk_181 0 100 (dk_at dksX6_check_6 19 rfl rfl)
theorem dX6_check_163 : decode cX6_check 163 = .ok (.aload_n 0, 1) := dk_42 (dk_at dksX6_check_6 22 rfl rfl)
theorem dX6_check_164 : decode cX6_check 164 = .ok (.getfield 28, 3) := dk_180 0 28 (dk_at dksX6_check_7 0 rfl rfl)
theorem dX6_check_167 : decode cX6_check 167 = .ok (.aload_n 0, 1) := dk_42 (dk_at dksX6_check_7 3 rfl rfl)
theorem dX6_check_168 : decode cX6_check 168 = .ok (.getfield 103, 3) := dk_180 0 103 (dk_at dksX6_check_7 4 rfl rfl)
theorem dX6_check_171 : decode cX6_check 171 = .ok (.invokevirtual 144, 3) := dk_182 0 144 (dk_at dksX6_check_7 7 rfl rfl)
theorem dX6_check_174 : decode cX6_check 174 = .ok (.aload_n 0, 1) := dk_42 (dk_at dksX6_check_7 10 rfl rfl)
theorem dX6_check_175 : decode cX6_check 175 = .ok (.getfield 32, 3) := dk_180 0 32 (dk_at dksX6_check_7 11 rfl rfl)
theorem dX6_check_178 : decode cX6_check 178 = .ok (.aload_n 0, 1) := dk_42 (dk_at dksX6_check_7 14 rfl rfl)
theorem dX6_check_179 : decode cX6_check 179 = .ok (.getfield 103, 3) := dk_180 0 103 (dk_at dksX6_check_7 15 rfl rfl)
theorem dX6_check_182 : decode cX6_check 182 = .ok (.invokevirtual 144, 3) := dk_182 0 144 (dk_at dksX6_check_7 18 rfl rfl)
theorem dX6_check_185 : decode cX6_check 185 = .ok (.aload_n 0, 1) := dk_42 (dk_at dksX6_check_7 21 rfl rfl)
theorem dX6_check_186 : decode cX6_check 186 = .ok (.invokevirtual 147, 3) := dk_182 0 147 (dk_at dksX6_check_8 0 rfl rfl)
theorem dX6_check_189 : decode cX6_check 189 = .ok (.ifCond .eq 63, 3) := dk_153 0 63 (dk_at dksX6_check_8 3 rfl rfl)
theorem dX6_check_192 : decode cX6_check 192 = .ok (.aload_n 0, 1) := dk_42 (dk_at dksX6_check_8 6 rfl rfl)
theorem dX6_check_193 : decode cX6_check 193 = .ok (.invokevirtual 151, 3) := dk_182 0 151 (dk_at dksX6_check_8 7 rfl rfl)
theorem dX6_check_196 : decode cX6_check 196 = .ok (.ifCond .eq 56, 3) := dk_153 0 56 (dk_at dksX6_check_8 10 rfl rfl)
theorem dX6_check_199 : decode cX6_check 199 = .ok (.aload_n 0, 1) := dk_42 (dk_at dksX6_check_8 13 rfl rfl)
theorem dX6_check_200 : decode cX6_check 200 = .ok (.invokevirtual 154, 3) := dk_182 0 154 (dk_at dksX6_check_8 14 rfl rfl)
theorem dX6_check_203 : decode cX6_check 203 = .ok (.ifCond .eq 49, 3) := dk_153 0 49 (dk_at dksX6_check_8 17 rfl rfl)
theorem dX6_check_206 : decode cX6_check 206 = .ok (.aload_n 0, 1) := dk_42 (dk_at dksX6_check_8 20 rfl rfl)
theorem dX6_check_207 : decode cX6_check 207 = .ok (.invokevirtual 157, 3) := dk_182 0 157 (dk_at dksX6_check_8 21 rfl rfl)
theorem dX6_check_210 : decode cX6_check 210 = .ok (.ifCond .eq 42, 3) := dk_153 0 42 (dk_at dksX6_check_9 0 rfl rfl)
theorem dX6_check_213 : decode cX6_check 213 = .ok (.aload_n 0, 1) := dk_42 (dk_at dksX6_check_9 3 rfl rfl)
theorem dX6_check_214 : decode cX6_check 214 = .ok (.invokevirtual 160, 3) := dk_182 0 160 (dk_at dksX6_check_9 4 rfl rfl)
theorem dX6_check_217 : decode cX6_check 217 = .ok (.ifCond .eq 35, 3) := dk_153 0 35 (dk_at dksX6_check_9 7 rfl rfl)
theorem dX6_check_220 : decode cX6_check 220 = .ok (.aload_n 0, 1) := dk_42 (dk_at dksX6_check_9 10 rfl rfl)
theorem dX6_check_221 : decode cX6_check 221 = .ok (.invokevirtual 163, 3) := dk_182 0 163 (dk_at dksX6_check_9 11 rfl rfl)
theorem dX6_check_224 : decode cX6_check 224 = .ok (.ifCond .eq 28, 3) := dk_153 0 28 (dk_at dksX6_check_9 14 rfl rfl)
theorem dX6_check_227 : decode cX6_check 227 = .ok (.aload_n 0, 1) := dk_42 (dk_at dksX6_check_9 17 rfl rfl)
theorem dX6_check_228 : decode cX6_check 228 = .ok (.invokevirtual 166, 3) := dk_182 0 166 (dk_at dksX6_check_9 18 rfl rfl)
theorem dX6_check_231 : decode cX6_check 231 = .ok (.ifCond .eq 21, 3) := dk_153 0 21 (dk_at dksX6_check_9 21 rfl rfl)
theorem dX6_check_234 : decode cX6_check 234 = .ok (.aload_n 0, 1) := dk_42 (dk_at dksX6_check_10 0 rfl rfl)
theorem dX6_check_235 : decode cX6_check 235 = .ok (.invokevirtual 169, 3) := dk_182 0 169 (dk_at dksX6_check_10 1 rfl rfl)
theorem dX6_check_238 : decode cX6_check 238 = .ok (.ifCond .eq 14, 3) := dk_153 0 14 (dk_at dksX6_check_10 4 rfl rfl)
theorem dX6_check_241 : decode cX6_check 241 = .ok (.aload_n 0, 1) := dk_42 (dk_at dksX6_check_10 7 rfl rfl)
theorem dX6_check_242 : decode cX6_check 242 = .ok (.invokevirtual 172, 3) := dk_182 0 172 (dk_at dksX6_check_10 8 rfl rfl)
theorem dX6_check_245 : decode cX6_check 245 = .ok (.ifCond .eq 7, 3) := dk_153 0 7 (dk_at dksX6_check_10 11 rfl rfl)
theorem dX6_check_248 : decode cX6_check 248 = .ok (.iconst 1, 1) := dk_4 (dk_at dksX6_check_10 14 rfl rfl)
theorem dX6_check_249 : decode cX6_check 249 = .ok (.goto 4, 3) := dk_167 0 4 (dk_at dksX6_check_10 15 rfl rfl)
theorem dX6_check_252 : decode cX6_check 252 = .ok (.iconst 0, 1) := dk_3 (dk_at dksX6_check_10 18 rfl rfl)
theorem dX6_check_253 : decode cX6_check 253 = .ok (.ireturn, 1) := dk_172 (dk_at dksX6_check_10 19 rfl rfl)
abbrev cX6_grown : ByteArray := prog_9_method_5_code
def yX6_grown : MethodName := ⟨RX6, "grown", "([II)[I"⟩
def dkwX6_grown_1 : List UInt8 := [190, 184, 0, 119, 44, 176]
abbrev dktX6_grown_1 : List UInt8 := dkwX6_grown_1 ++ []
def dkwX6_grown_0 : List UInt8 := [27, 42, 190, 163, 0, 5, 42, 176, 27, 5, 42, 190, 104, 184, 0, 113, 188, 10, 77, 42, 3, 44, 3, 42]
abbrev dktX6_grown_0 : List UInt8 := dkwX6_grown_0 ++ dktX6_grown_1
theorem dksX6_grown_0 : cX6_grown.data.toList.drop 0 = dktX6_grown_0 := by decide +kernel
theorem dksX6_grown_1 : cX6_grown.data.toList.drop 24 = dktX6_grown_1 := dk_seg dksX6_grown_0 24 rfl rfl
theorem dX6_grown_0 : decode cX6_grown 0 = .ok (.iload_n 1, 1) := dk_27 (dk_at dksX6_grown_0 0 rfl rfl)
theorem dX6_grown_1 : decode cX6_grown 1 = .ok (.aload_n 0, 1) := dk_42 (dk_at dksX6_grown_0 1 rfl rfl)
theorem dX6_grown_2 : decode cX6_grown 2 = .ok (.arraylength, 1) := dk_190 (dk_at dksX6_grown_0 2 rfl rfl)
theorem dX6_grown_3 : decode cX6_grown 3 = .ok (.if_icmp .gt 5, 3) := dk_163 0 5 (dk_at dksX6_grown_0 3 rfl rfl)
theorem dX6_grown_6 : decode cX6_grown 6 = .ok (.aload_n 0, 1) := dk_42 (dk_at dksX6_grown_0 6 rfl rfl)
theorem dX6_grown_7 : decode cX6_grown 7 = .ok (.areturn, 1) := dk_176 (dk_at dksX6_grown_0 7 rfl rfl)
theorem dX6_grown_8 : decode cX6_grown 8 = .ok (.iload_n 1, 1) := dk_27 (dk_at dksX6_grown_0 8 rfl rfl)
theorem dX6_grown_9 : decode cX6_grown 9 = .ok (.iconst 2, 1) := dk_5 (dk_at dksX6_grown_0 9 rfl rfl)
theorem dX6_grown_10 : decode cX6_grown 10 = .ok (.aload_n 0, 1) := dk_42 (dk_at dksX6_grown_0 10 rfl rfl)
theorem dX6_grown_11 : decode cX6_grown 11 = .ok (.arraylength, 1) := dk_190 (dk_at dksX6_grown_0 11 rfl rfl)
theorem dX6_grown_12 : decode cX6_grown 12 = .ok (.imul, 1) := dk_104 (dk_at dksX6_grown_0 12 rfl rfl)
theorem dX6_grown_13 : decode cX6_grown 13 = .ok (.invokestatic 113, 3) := dk_184 0 113 (dk_at dksX6_grown_0 13 rfl rfl)
theorem dX6_grown_16 : decode cX6_grown 16 = .ok (.newarray .int, 2) := dk_188_10 (dk_at dksX6_grown_0 16 rfl rfl)
theorem dX6_grown_18 : decode cX6_grown 18 = .ok (.astore_n 2, 1) := dk_77 (dk_at dksX6_grown_0 18 rfl rfl)
theorem dX6_grown_19 : decode cX6_grown 19 = .ok (.aload_n 0, 1) := dk_42 (dk_at dksX6_grown_0 19 rfl rfl)
theorem dX6_grown_20 : decode cX6_grown 20 = .ok (.iconst 0, 1) := dk_3 (dk_at dksX6_grown_0 20 rfl rfl)
theorem dX6_grown_21 : decode cX6_grown 21 = .ok (.aload_n 2, 1) := dk_44 (dk_at dksX6_grown_0 21 rfl rfl)
theorem dX6_grown_22 : decode cX6_grown 22 = .ok (.iconst 0, 1) := dk_3 (dk_at dksX6_grown_0 22 rfl rfl)
theorem dX6_grown_23 : decode cX6_grown 23 = .ok (.aload_n 0, 1) := dk_42 (dk_at dksX6_grown_0 23 rfl rfl)
theorem dX6_grown_24 : decode cX6_grown 24 = .ok (.arraylength, 1) := dk_190 (dk_at dksX6_grown_1 0 rfl rfl)
theorem dX6_grown_25 : decode cX6_grown 25 = .ok (.invokestatic 119, 3) := dk_184 0 119 (dk_at dksX6_grown_1 1 rfl rfl)
theorem dX6_grown_28 : decode cX6_grown 28 = .ok (.aload_n 2, 1) := dk_44 (dk_at dksX6_grown_1 4 rfl rfl)
theorem dX6_grown_29 : decode cX6_grown 29 = .ok (.areturn, 1) := dk_176 (dk_at dksX6_grown_1 5 rfl rfl)
abbrev cX6_assigned : ByteArray := prog_9_method_8_code
def yX6_assigned : MethodName := ⟨RX6, "assigned", "()Z"⟩
def dkwX6_assigned_3 : List UInt8 := [27, 182, 0, 189, 60, 167, 255, 188, 4, 172]
abbrev dktX6_assigned_3 : List UInt8 := dkwX6_assigned_3 ++ []
def dkwX6_assigned_2 : List UInt8 := [27, 182, 0, 181, 154, 0, 16, 42, 8, 42, 180, 0, 83, 27, 182, 0, 178, 182, 0, 185, 42, 180, 0, 83]
abbrev dktX6_assigned_2 : List UInt8 := dkwX6_assigned_2 ++ dktX6_assigned_3
def dkwX6_assigned_1 : List UInt8 := [160, 0, 10, 42, 180, 0, 28, 167, 0, 7, 42, 180, 0, 32, 77, 44, 42, 180, 0, 83, 27, 182, 0, 178]
abbrev dktX6_assigned_1 : List UInt8 := dkwX6_assigned_1 ++ dktX6_assigned_2
def dkwX6_assigned_0 : List UInt8 := [42, 180, 0, 83, 180, 0, 175, 60, 27, 2, 159, 0, 69, 42, 180, 0, 83, 27, 182, 0, 125, 16, 28]
abbrev dktX6_assigned_0 : List UInt8 := dkwX6_assigned_0 ++ dktX6_assigned_1
theorem dksX6_assigned_0 : cX6_assigned.data.toList.drop 0 = dktX6_assigned_0 := by decide +kernel
theorem dksX6_assigned_1 : cX6_assigned.data.toList.drop 23 = dktX6_assigned_1 := dk_seg dksX6_assigned_0 23 rfl rfl
theorem dksX6_assigned_2 : cX6_assigned.data.toList.drop 47 = dktX6_assigned_2 := dk_seg dksX6_assigned_1 24 rfl rfl
theorem dksX6_assigned_3 : cX6_assigned.data.toList.drop 71 = dktX6_assigned_3 := dk_seg dksX6_assigned_2 24 rfl rfl
theorem dX6_assigned_0 : decode cX6_assigned 0 = .ok (.aload_n 0, 1) := dk_42 (dk_at dksX6_assigned_0 0 rfl rfl)
theorem dX6_assigned_1 : decode cX6_assigned 1 = .ok (.getfield 83, 3) := dk_180 0 83 (dk_at dksX6_assigned_0 1 rfl rfl)
theorem dX6_assigned_4 : decode cX6_assigned 4 = .ok (.getfield 175, 3) := dk_180 0 175 (dk_at dksX6_assigned_0 4 rfl rfl)
theorem dX6_assigned_7 : decode cX6_assigned 7 = .ok (.istore_n 1, 1) := dk_60 (dk_at dksX6_assigned_0 7 rfl rfl)
theorem dX6_assigned_8 : decode cX6_assigned 8 = .ok (.iload_n 1, 1) := dk_27 (dk_at dksX6_assigned_0 8 rfl rfl)
theorem dX6_assigned_9 : decode cX6_assigned 9 = .ok (.iconst (-1), 1) := dk_2 (dk_at dksX6_assigned_0 9 rfl rfl)
theorem dX6_assigned_10 : decode cX6_assigned 10 = .ok (.if_icmp .eq 69, 3) := dk_159 0 69 (dk_at dksX6_assigned_0 10 rfl rfl)
theorem dX6_assigned_13 : decode cX6_assigned 13 = .ok (.aload_n 0, 1) := dk_42 (dk_at dksX6_assigned_0 13 rfl rfl)
theorem dX6_assigned_14 : decode cX6_assigned 14 = .ok (.getfield 83, 3) := dk_180 0 83 (dk_at dksX6_assigned_0 14 rfl rfl)
theorem dX6_assigned_17 : decode cX6_assigned 17 = .ok (.iload_n 1, 1) := dk_27 (dk_at dksX6_assigned_0 17 rfl rfl)
theorem dX6_assigned_18 : decode cX6_assigned 18 = .ok (.invokevirtual 125, 3) := dk_182 0 125 (dk_at dksX6_assigned_0 18 rfl rfl)
theorem dX6_assigned_21 : decode cX6_assigned 21 = .ok (.bipush 28, 2) := dk_16 28 (dk_at dksX6_assigned_0 21 rfl rfl)
theorem dX6_assigned_23 : decode cX6_assigned 23 = .ok (.if_icmp .ne 10, 3) := dk_160 0 10 (dk_at dksX6_assigned_1 0 rfl rfl)
theorem dX6_assigned_26 : decode cX6_assigned 26 = .ok (.aload_n 0, 1) := dk_42 (dk_at dksX6_assigned_1 3 rfl rfl)
theorem dX6_assigned_27 : decode cX6_assigned 27 = .ok (.getfield 28, 3) := dk_180 0 28 (dk_at dksX6_assigned_1 4 rfl rfl)
theorem dX6_assigned_30 : decode cX6_assigned 30 = .ok (.goto 7, 3) := dk_167 0 7 (dk_at dksX6_assigned_1 7 rfl rfl)
theorem dX6_assigned_33 : decode cX6_assigned 33 = .ok (.aload_n 0, 1) := dk_42 (dk_at dksX6_assigned_1 10 rfl rfl)
theorem dX6_assigned_34 : decode cX6_assigned 34 = .ok (.getfield 32, 3) := dk_180 0 32 (dk_at dksX6_assigned_1 11 rfl rfl)
theorem dX6_assigned_37 : decode cX6_assigned 37 = .ok (.astore_n 2, 1) := dk_77 (dk_at dksX6_assigned_1 14 rfl rfl)
theorem dX6_assigned_38 : decode cX6_assigned 38 = .ok (.aload_n 2, 1) := dk_44 (dk_at dksX6_assigned_1 15 rfl rfl)
theorem dX6_assigned_39 : decode cX6_assigned 39 = .ok (.aload_n 0, 1) := dk_42 (dk_at dksX6_assigned_1 16 rfl rfl)
theorem dX6_assigned_40 : decode cX6_assigned 40 = .ok (.getfield 83, 3) := dk_180 0 83 (dk_at dksX6_assigned_1 17 rfl rfl)
theorem dX6_assigned_43 : decode cX6_assigned 43 = .ok (.iload_n 1, 1) := dk_27 (dk_at dksX6_assigned_1 20 rfl rfl)
theorem dX6_assigned_44 : decode cX6_assigned 44 = .ok (.invokevirtual 178, 3) := dk_182 0 178 (dk_at dksX6_assigned_1 21 rfl rfl)
theorem dX6_assigned_47 : decode cX6_assigned 47 = .ok (.iload_n 1, 1) := dk_27 (dk_at dksX6_assigned_2 0 rfl rfl)
theorem dX6_assigned_48 : decode cX6_assigned 48 = .ok (.invokevirtual 181, 3) := dk_182 0 181 (dk_at dksX6_assigned_2 1 rfl rfl)
theorem dX6_assigned_51 : decode cX6_assigned 51 = .ok (.ifCond .ne 16, 3) := dk_154 0 16 (dk_at dksX6_assigned_2 4 rfl rfl)
theorem dX6_assigned_54 : decode cX6_assigned 54 = .ok (.aload_n 0, 1) := dk_42 (dk_at dksX6_assigned_2 7 rfl rfl)
theorem dX6_assigned_55 : decode cX6_assigned 55 = .ok (.iconst 5, 1) := dk_8 (dk_at dksX6_assigned_2 8 rfl rfl)
theorem dX6_assigned_56 : decode cX6_assigned 56 = .ok (.aload_n 0, 1) := dk_42 (dk_at dksX6_assigned_2 9 rfl rfl)
theorem dX6_assigned_57 : decode cX6_assigned 57 = .ok (.getfield 83, 3) := dk_180 0 83 (dk_at dksX6_assigned_2 10 rfl rfl)
theorem dX6_assigned_60 : decode cX6_assigned 60 = .ok (.iload_n 1, 1) := dk_27 (dk_at dksX6_assigned_2 13 rfl rfl)
theorem dX6_assigned_61 : decode cX6_assigned 61 = .ok (.invokevirtual 178, 3) := dk_182 0 178 (dk_at dksX6_assigned_2 14 rfl rfl)
theorem dX6_assigned_64 : decode cX6_assigned 64 = .ok (.invokevirtual 185, 3) := dk_182 0 185 (dk_at dksX6_assigned_2 17 rfl rfl)
theorem dX6_assigned_67 : decode cX6_assigned 67 = .ok (.aload_n 0, 1) := dk_42 (dk_at dksX6_assigned_2 20 rfl rfl)
theorem dX6_assigned_68 : decode cX6_assigned 68 = .ok (.getfield 83, 3) := dk_180 0 83 (dk_at dksX6_assigned_2 21 rfl rfl)
theorem dX6_assigned_71 : decode cX6_assigned 71 = .ok (.iload_n 1, 1) := dk_27 (dk_at dksX6_assigned_3 0 rfl rfl)
theorem dX6_assigned_72 : decode cX6_assigned 72 = .ok (.invokevirtual 189, 3) := dk_182 0 189 (dk_at dksX6_assigned_3 1 rfl rfl)
theorem dX6_assigned_75 : decode cX6_assigned 75 = .ok (.istore_n 1, 1) := dk_60 (dk_at dksX6_assigned_3 4 rfl rfl)
theorem dX6_assigned_76 : decode cX6_assigned 76 = .ok (.goto (-68), 3) := dk_167 255 188 (dk_at dksX6_assigned_3 5 rfl rfl)
theorem dX6_assigned_79 : decode cX6_assigned 79 = .ok (.iconst 1, 1) := dk_4 (dk_at dksX6_assigned_3 8 rfl rfl)
theorem dX6_assigned_80 : decode cX6_assigned 80 = .ok (.ireturn, 1) := dk_172 (dk_at dksX6_assigned_3 9 rfl rfl)
abbrev cX6_blame : ByteArray := prog_9_method_4_code
def yX6_blame : MethodName := ⟨RX6, "blame", "(II)V"⟩
def dkwX6_blame_1 : List UInt8 := [180, 0, 103, 28, 182, 0, 107, 181, 0, 100, 42, 27, 181, 0, 96, 177]
abbrev dktX6_blame_1 : List UInt8 := dkwX6_blame_1 ++ []
def dkwX6_blame_0 : List UInt8 := [42, 180, 0, 96, 153, 0, 18, 42, 180, 0, 103, 28, 182, 0, 107, 42, 180, 0, 100, 162, 0, 15, 42, 42]
abbrev dktX6_blame_0 : List UInt8 := dkwX6_blame_0 ++ dktX6_blame_1
theorem dksX6_blame_0 : cX6_blame.data.toList.drop 0 = dktX6_blame_0 := by decide +kernel
theorem dksX6_blame_1 : cX6_blame.data.toList.drop 24 = dktX6_blame_1 := dk_seg dksX6_blame_0 24 rfl rfl
theorem dX6_blame_0 : decode cX6_blame 0 = .ok (.aload_n 0, 1) := dk_42 (dk_at dksX6_blame_0 0 rfl rfl)
theorem dX6_blame_1 : decode cX6_blame 1 = .ok (.getfield 96, 3) := dk_180 0 96 (dk_at dksX6_blame_0 1 rfl rfl)
theorem dX6_blame_4 : decode cX6_blame 4 = .ok (.ifCond .eq 18, 3) := dk_153 0 18 (dk_at dksX6_blame_0 4 rfl rfl)
theorem dX6_blame_7 : decode cX6_blame 7 = .ok (.aload_n 0, 1) := dk_42 (dk_at dksX6_blame_0 7 rfl rfl)
theorem dX6_blame_8 : decode cX6_blame 8 = .ok (.getfield 103, 3) := dk_180 0 103 (dk_at dksX6_blame_0 8 rfl rfl)
theorem dX6_blame_11 : decode cX6_blame 11 = .ok (.iload_n 2, 1) := dk_28 (dk_at dksX6_blame_0 11 rfl rfl)
theorem dX6_blame_12 : decode cX6_blame 12 = .ok (.invokevirtual 107, 3) := dk_182 0 107 (dk_at dksX6_blame_0 12 rfl rfl)
theorem dX6_blame_15 : decode cX6_blame 15 = .ok (.aload_n 0, 1) := dk_42 (dk_at dksX6_blame_0 15 rfl rfl)
theorem dX6_blame_16 : decode cX6_blame 16 = .ok (.getfield 100, 3) := dk_180 0 100 (dk_at dksX6_blame_0 16 rfl rfl)
theorem dX6_blame_19 : decode cX6_blame 19 = .ok (.if_icmp .ge 15, 3) := dk_162 0 15 (dk_at dksX6_blame_0 19 rfl rfl)
theorem dX6_blame_22 : decode cX6_blame 22 = .ok (.aload_n 0, 1) := dk_42 (dk_at dksX6_blame_0 22 rfl rfl)
theorem dX6_blame_23 : decode cX6_blame 23 = .ok (.aload_n 0, 1) := dk_42 (dk_at dksX6_blame_0 23 rfl rfl)
theorem dX6_blame_24 : decode cX6_blame 24 = .ok (.getfield 103, 3) := dk_180 0 103 (dk_at dksX6_blame_1 0 rfl rfl)
theorem dX6_blame_27 : decode cX6_blame 27 = .ok (.iload_n 2, 1) := dk_28 (dk_at dksX6_blame_1 3 rfl rfl)
theorem dX6_blame_28 : decode cX6_blame 28 = .ok (.invokevirtual 107, 3) := dk_182 0 107 (dk_at dksX6_blame_1 4 rfl rfl)
theorem dX6_blame_31 : decode cX6_blame 31 = .ok (.putfield 100, 3) := dk_181 0 100 (dk_at dksX6_blame_1 7 rfl rfl)
theorem dX6_blame_34 : decode cX6_blame 34 = .ok (.aload_n 0, 1) := dk_42 (dk_at dksX6_blame_1 10 rfl rfl)
theorem dX6_blame_35 : decode cX6_blame 35 = .ok (.iload_n 1, 1) := dk_27 (dk_at dksX6_blame_1 11 rfl rfl)
theorem dX6_blame_36 : decode cX6_blame 36 = .ok (.putfield 96, 3) := dk_181 0 96 (dk_at dksX6_blame_1 12 rfl rfl)
theorem dX6_blame_39 : decode cX6_blame 39 = .ok (.return_, 1) := dk_177 (dk_at dksX6_blame_1 15 rfl rfl)
abbrev cX6_lists : ByteArray := prog_9_method_9_code
def yX6_lists : MethodName := ⟨RX6, "lists", "()Z"⟩
def dkwX6_lists_6 : List UInt8 := [182, 0, 199, 132, 1, 1, 167, 255, 113, 42, 180, 0, 96, 154, 0, 7, 4, 167, 0, 4, 3, 172]
abbrev dktX6_lists_6 : List UInt8 := dkwX6_lists_6 ++ []
def dkwX6_lists_5 : List UInt8 := [42, 180, 0, 83, 42, 180, 0, 83, 27, 182, 0, 196, 182, 0, 125, 16, 21, 160, 0, 8, 42, 27]
abbrev dktX6_lists_5 : List UInt8 := dkwX6_lists_5 ++ dktX6_lists_6
def dkwX6_lists_4 : List UInt8 := [8, 42, 180, 0, 83, 28, 182, 0, 178, 182, 0, 185, 42, 180, 0, 83, 28, 182, 0, 189, 61, 167, 255, 210]
abbrev dktX6_lists_4 : List UInt8 := dkwX6_lists_4 ++ dktX6_lists_5
def dkwX6_lists_3 : List UInt8 := [2, 159, 0, 47, 42, 180, 0, 35, 42, 180, 0, 83, 28, 182, 0, 178, 28, 182, 0, 181, 154, 0, 16, 42]
abbrev dktX6_lists_3 : List UInt8 := dkwX6_lists_3 ++ dktX6_lists_4
def dkwX6_lists_2 : List UInt8 := [154, 0, 97, 42, 180, 0, 35, 42, 180, 0, 103, 182, 0, 144, 42, 180, 0, 83, 27, 182, 0, 196, 61, 28]
abbrev dktX6_lists_2 : List UInt8 := dkwX6_lists_2 ++ dktX6_lists_3
def dkwX6_lists_1 : List UInt8 := [180, 0, 83, 27, 182, 0, 196, 2, 159, 0, 112, 42, 42, 180, 0, 83, 27, 182, 0, 196, 182, 0, 192]
abbrev dktX6_lists_1 : List UInt8 := dkwX6_lists_1 ++ dktX6_lists_2
def dkwX6_lists_0 : List UInt8 := [3, 60, 27, 42, 180, 0, 83, 182, 0, 130, 162, 0, 138, 42, 27, 182, 0, 192, 153, 0, 124, 42]
abbrev dktX6_lists_0 : List UInt8 := dkwX6_lists_0 ++ dktX6_lists_1
theorem dksX6_lists_0 : cX6_lists.data.toList.drop 0 = dktX6_lists_0 := by decide +kernel
theorem dksX6_lists_1 : cX6_lists.data.toList.drop 22 = dktX6_lists_1 := dk_seg dksX6_lists_0 22 rfl rfl
theorem dksX6_lists_2 : cX6_lists.data.toList.drop 45 = dktX6_lists_2 := dk_seg dksX6_lists_1 23 rfl rfl
theorem dksX6_lists_3 : cX6_lists.data.toList.drop 69 = dktX6_lists_3 := dk_seg dksX6_lists_2 24 rfl rfl
theorem dksX6_lists_4 : cX6_lists.data.toList.drop 93 = dktX6_lists_4 := dk_seg dksX6_lists_3 24 rfl rfl
theorem dksX6_lists_5 : cX6_lists.data.toList.drop 117 = dktX6_lists_5 := dk_seg dksX6_lists_4 24 rfl rfl
theorem dksX6_lists_6 : cX6_lists.data.toList.drop 139 = dktX6_lists_6 := dk_seg dksX6_lists_5 22 rfl rfl
theorem dX6_lists_0 : decode cX6_lists 0 = .ok (.iconst 0, 1) := dk_3 (dk_at dksX6_lists_0 0 rfl rfl)
theorem dX6_lists_1 : decode cX6_lists 1 = .ok (.istore_n 1, 1) := dk_60 (dk_at dksX6_lists_0 1 rfl rfl)
theorem dX6_lists_2 : decode cX6_lists 2 = .ok (.iload_n 1, 1) := dk_27 (dk_at dksX6_lists_0 2 rfl rfl)
theorem dX6_lists_3 : decode cX6_lists 3 = .ok (.aload_n 0, 1) := dk_42 (dk_at dksX6_lists_0 3 rfl rfl)
theorem dX6_lists_4 : decode cX6_lists 4 = .ok (.getfield 83, 3) := dk_180 0 83 (dk_at dksX6_lists_0 4 rfl rfl)
theorem dX6_lists_7 : decode cX6_lists 7 = .ok (.invokevirtual 130, 3) := dk_182 0 130 (dk_at dksX6_lists_0 7 rfl rfl)
theorem dX6_lists_10 : decode cX6_lists 10 = .ok (.if_icmp .ge 138, 3) := dk_162 0 138 (dk_at dksX6_lists_0 10 rfl rfl)
theorem dX6_lists_13 : decode cX6_lists 13 = .ok (.aload_n 0, 1) := dk_42 (dk_at dksX6_lists_0 13 rfl rfl)
theorem dX6_lists_14 : decode cX6_lists 14 = .ok (.iload_n 1, 1) := dk_27 (dk_at dksX6_lists_0 14 rfl rfl)
theorem dX6_lists_15 : decode cX6_lists 15 = .ok (.invokevirtual 192, 3) := dk_182 0 192 (dk_at dksX6_lists_0 15 rfl rfl)
theorem dX6_lists_18 : decode cX6_lists 18 = .ok (.ifCond .eq 124, 3) := dk_153 0 124 (dk_at dksX6_lists_0 18 rfl rfl)
theorem dX6_lists_21 : decode cX6_lists 21 = .ok (.aload_n 0, 1) := dk_42 (dk_at dksX6_lists_0 21 rfl rfl)
theorem dX6_lists_22 : decode cX6_lists 22 = .ok (.getfield 83, 3) := dk_180 0 83 (dk_at dksX6_lists_1 0 rfl rfl)
theorem dX6_lists_25 : decode cX6_lists 25 = .ok (.iload_n 1, 1) := dk_27 (dk_at dksX6_lists_1 3 rfl rfl)
theorem dX6_lists_26 : decode cX6_lists 26 = .ok (.invokevirtual 196, 3) := dk_182 0 196 (dk_at dksX6_lists_1 4 rfl rfl)
theorem dX6_lists_29 : decode cX6_lists 29 = .ok (.iconst (-1), 1) := dk_2 (dk_at dksX6_lists_1 7 rfl rfl)
theorem dX6_lists_30 : decode cX6_lists 30 = .ok (.if_icmp .eq 112, 3) := dk_159 0 112 (dk_at dksX6_lists_1 8 rfl rfl)
theorem dX6_lists_33 : decode cX6_lists 33 = .ok (.aload_n 0, 1) := dk_42 (dk_at dksX6_lists_1 11 rfl rfl)
theorem dX6_lists_34 : decode cX6_lists 34 = .ok (.aload_n 0, 1) := dk_42 (dk_at dksX6_lists_1 12 rfl rfl)
theorem dX6_lists_35 : decode cX6_lists 35 = .ok (.getfield 83, 3) := dk_180 0 83 (dk_at dksX6_lists_1 13 rfl rfl)
theorem dX6_lists_38 : decode cX6_lists 38 = .ok (.iload_n 1, 1) := dk_27 (dk_at dksX6_lists_1 16 rfl rfl)
theorem dX6_lists_39 : decode cX6_lists 39 = .ok (.invokevirtual 196, 3) := dk_182 0 196 (dk_at dksX6_lists_1 17 rfl rfl)
theorem dX6_lists_42 : decode cX6_lists 42 = .ok (.invokevirtual 192, 3) := dk_182 0 192 (dk_at dksX6_lists_1 20 rfl rfl)
theorem dX6_lists_45 : decode cX6_lists 45 = .ok (.ifCond .ne 97, 3) := dk_154 0 97 (dk_at dksX6_lists_2 0 rfl rfl)
theorem dX6_lists_48 : decode cX6_lists 48 = .ok (.aload_n 0, 1) := dk_42 (dk_at dksX6_lists_2 3 rfl rfl)
theorem dX6_lists_49 : decode cX6_lists 49 = .ok (.getfield 35, 3) := dk_180 0 35 (dk_at dksX6_lists_2 4 rfl rfl)
theorem dX6_lists_52 : decode cX6_lists 52 = .ok (.aload_n 0, 1) := dk_42 (dk_at dksX6_lists_2 7 rfl rfl)
theorem dX6_lists_53 : decode cX6_lists 53 = .ok (.getfield 103, 3) := dk_180 0 103 (dk_at dksX6_lists_2 8 rfl rfl)
theorem dX6_lists_56 : decode cX6_lists 56 = .ok (.invokevirtual 144, 3) := dk_182 0 144 (dk_at dksX6_lists_2 11 rfl rfl)
theorem dX6_lists_59 : decode cX6_lists 59 = .ok (.aload_n 0, 1) := dk_42 (dk_at dksX6_lists_2 14 rfl rfl)
theorem dX6_lists_60 : decode cX6_lists 60 = .ok (.getfield 83, 3) := dk_180 0 83 (dk_at dksX6_lists_2 15 rfl rfl)
theorem dX6_lists_63 : decode cX6_lists 63 = .ok (.iload_n 1, 1) := dk_27 (dk_at dksX6_lists_2 18 rfl rfl)
theorem dX6_lists_64 : decode cX6_lists 64 = .ok (.invokevirtual 196, 3) := dk_182 0 196 (dk_at dksX6_lists_2 19 rfl rfl)
theorem dX6_lists_67 : decode cX6_lists 67 = .ok (.istore_n 2, 1) := dk_61 (dk_at dksX6_lists_2 22 rfl rfl)
theorem dX6_lists_68 : decode cX6_lists 68 = .ok (.iload_n 2, 1) := dk_28 (dk_at dksX6_lists_2 23 rfl rfl)
theorem dX6_lists_69 : decode cX6_lists 69 = .ok (.iconst (-1), 1) := dk_2 (dk_at dksX6_lists_3 0 rfl rfl)
theorem dX6_lists_70 : decode cX6_lists 70 = .ok (.if_icmp .eq 47, 3) := dk_159 0 47 (dk_at dksX6_lists_3 1 rfl rfl)
theorem dX6_lists_73 : decode cX6_lists 73 = .ok (.aload_n 0, 1) := dk_42 (dk_at dksX6_lists_3 4 rfl rfl)
theorem dX6_lists_74 : decode cX6_lists 74 = .ok (.getfield 35, 3) := dk_180 0 35 (dk_at dksX6_lists_3 5 rfl rfl)
theorem dX6_lists_77 : decode cX6_lists 77 = .ok (.aload_n 0, 1) := dk_42 (dk_at dksX6_lists_3 8 rfl rfl)
theorem dX6_lists_78 : decode cX6_lists 78 = .ok (.getfield 83, 3) := dk_180 0 83 (dk_at dksX6_lists_3 9 rfl rfl)
theorem dX6_lists_81 : decode cX6_lists 81 = .ok (.iload_n 2, 1) := dk_28 (dk_at dksX6_lists_3 12 rfl rfl)
theorem dX6_lists_82 : decode cX6_lists 82 = .ok (.invokevirtual 178, 3) := dk_182 0 178 (dk_at dksX6_lists_3 13 rfl rfl)
theorem dX6_lists_85 : decode cX6_lists 85 = .ok (.iload_n 2, 1) := dk_28 (dk_at dksX6_lists_3 16 rfl rfl)
theorem dX6_lists_86 : decode cX6_lists 86 = .ok (.invokevirtual 181, 3) := dk_182 0 181 (dk_at dksX6_lists_3 17 rfl rfl)
theorem dX6_lists_89 : decode cX6_lists 89 = .ok (.ifCond .ne 16, 3) := dk_154 0 16 (dk_at dksX6_lists_3 20 rfl rfl)
theorem dX6_lists_92 : decode cX6_lists 92 = .ok (.aload_n 0, 1) := dk_42 (dk_at dksX6_lists_3 23 rfl rfl)
theorem dX6_lists_93 : decode cX6_lists 93 = .ok (.iconst 5, 1) := dk_8 (dk_at dksX6_lists_4 0 rfl rfl)
theorem dX6_lists_94 : decode cX6_lists 94 = .ok (.aload_n 0, 1) := dk_42 (dk_at dksX6_lists_4 1 rfl rfl)
theorem dX6_lists_95 : decode cX6_lists 95 = .ok (.getfield 83, 3) := dk_180 0 83 (dk_at dksX6_lists_4 2 rfl rfl)
theorem dX6_lists_98 : decode cX6_lists 98 = .ok (.iload_n 2, 1) := dk_28 (dk_at dksX6_lists_4 5 rfl rfl)
theorem dX6_lists_99 : decode cX6_lists 99 = .ok (.invokevirtual 178, 3) := dk_182 0 178 (dk_at dksX6_lists_4 6 rfl rfl)
theorem dX6_lists_102 : decode cX6_lists 102 = .ok (.invokevirtual 185, 3) := dk_182 0 185 (dk_at dksX6_lists_4 9 rfl rfl)
theorem dX6_lists_105 : decode cX6_lists 105 = .ok (.aload_n 0, 1) := dk_42 (dk_at dksX6_lists_4 12 rfl rfl)
theorem dX6_lists_106 : decode cX6_lists 106 = .ok (.getfield 83, 3) := dk_180 0 83 (dk_at dksX6_lists_4 13 rfl rfl)
theorem dX6_lists_109 : decode cX6_lists 109 = .ok (.iload_n 2, 1) := dk_28 (dk_at dksX6_lists_4 16 rfl rfl)
theorem dX6_lists_110 : decode cX6_lists 110 = .ok (.invokevirtual 189, 3) := dk_182 0 189 (dk_at dksX6_lists_4 17 rfl rfl)
theorem dX6_lists_113 : decode cX6_lists 113 = .ok (.istore_n 2, 1) := dk_61 (dk_at dksX6_lists_4 20 rfl rfl)
theorem dX6_lists_114 : decode cX6_lists 114 = .ok (.goto (-46), 3) := dk_167 255 210 (dk_at dksX6_lists_4 21 rfl rfl)
theorem dX6_lists_117 : decode cX6_lists 117 = .ok (.aload_n 0, 1) := dk_42 (dk_at dksX6_lists_5 0 rfl rfl)
theorem dX6_lists_118 : decode cX6_lists 118 = .ok (.getfield 83, 3) := dk_180 0 83 (dk_at dksX6_lists_5 1 rfl rfl)
theorem dX6_lists_121 : decode cX6_lists 121 = .ok (.aload_n 0, 1) := dk_42 (dk_at dksX6_lists_5 4 rfl rfl)
theorem dX6_lists_122 : decode cX6_lists 122 = .ok (.getfield 83, 3) := dk_180 0 83 (dk_at dksX6_lists_5 5 rfl rfl)
theorem dX6_lists_125 : decode cX6_lists 125 = .ok (.iload_n 1, 1) := dk_27 (dk_at dksX6_lists_5 8 rfl rfl)
theorem dX6_lists_126 : decode cX6_lists 126 = .ok (.invokevirtual 196, 3) := dk_182 0 196 (dk_at dksX6_lists_5 9 rfl rfl)
theorem dX6_lists_129 : decode cX6_lists 129 = .ok (.invokevirtual 125, 3) := dk_182 0 125 (dk_at dksX6_lists_5 12 rfl rfl)
theorem dX6_lists_132 : decode cX6_lists 132 = .ok (.bipush 21, 2) := dk_16 21 (dk_at dksX6_lists_5 15 rfl rfl)
theorem dX6_lists_134 : decode cX6_lists 134 = .ok (.if_icmp .ne 8, 3) := dk_160 0 8 (dk_at dksX6_lists_5 17 rfl rfl)
theorem dX6_lists_137 : decode cX6_lists 137 = .ok (.aload_n 0, 1) := dk_42 (dk_at dksX6_lists_5 20 rfl rfl)
theorem dX6_lists_138 : decode cX6_lists 138 = .ok (.iload_n 1, 1) := dk_27 (dk_at dksX6_lists_5 21 rfl rfl)
theorem dX6_lists_139 : decode cX6_lists 139 = .ok (.invokevirtual 199, 3) := dk_182 0 199 (dk_at dksX6_lists_6 0 rfl rfl)
theorem dX6_lists_142 : decode cX6_lists 142 = .ok (.iinc 1 1, 3) := dk_132 1 1 (dk_at dksX6_lists_6 3 rfl rfl)
theorem dX6_lists_145 : decode cX6_lists 145 = .ok (.goto (-143), 3) := dk_167 255 113 (dk_at dksX6_lists_6 6 rfl rfl)
theorem dX6_lists_148 : decode cX6_lists 148 = .ok (.aload_n 0, 1) := dk_42 (dk_at dksX6_lists_6 9 rfl rfl)
theorem dX6_lists_149 : decode cX6_lists 149 = .ok (.getfield 96, 3) := dk_180 0 96 (dk_at dksX6_lists_6 10 rfl rfl)
theorem dX6_lists_152 : decode cX6_lists 152 = .ok (.ifCond .ne 7, 3) := dk_154 0 7 (dk_at dksX6_lists_6 13 rfl rfl)
theorem dX6_lists_155 : decode cX6_lists 155 = .ok (.iconst 1, 1) := dk_4 (dk_at dksX6_lists_6 16 rfl rfl)
theorem dX6_lists_156 : decode cX6_lists 156 = .ok (.goto 4, 3) := dk_167 0 4 (dk_at dksX6_lists_6 17 rfl rfl)
theorem dX6_lists_159 : decode cX6_lists 159 = .ok (.iconst 0, 1) := dk_3 (dk_at dksX6_lists_6 20 rfl rfl)
theorem dX6_lists_160 : decode cX6_lists 160 = .ok (.ireturn, 1) := dk_172 (dk_at dksX6_lists_6 21 rfl rfl)
abbrev cX6_isType : ByteArray := prog_9_method_6_code
def yX6_isType : MethodName := ⟨RX6, "isType", "(I)Z"⟩
def dkwX6_isType_0 : List UInt8 := [42, 180, 0, 83, 27, 182, 0, 125, 16, 17, 163, 0, 7, 4, 167, 0, 4, 3, 172]
abbrev dktX6_isType_0 : List UInt8 := dkwX6_isType_0 ++ []
theorem dksX6_isType_0 : cX6_isType.data.toList.drop 0 = dktX6_isType_0 := by decide +kernel
theorem dX6_isType_0 : decode cX6_isType 0 = .ok (.aload_n 0, 1) := dk_42 (dk_at dksX6_isType_0 0 rfl rfl)
theorem dX6_isType_1 : decode cX6_isType 1 = .ok (.getfield 83, 3) := dk_180 0 83 (dk_at dksX6_isType_0 1 rfl rfl)
theorem dX6_isType_4 : decode cX6_isType 4 = .ok (.iload_n 1, 1) := dk_27 (dk_at dksX6_isType_0 4 rfl rfl)
theorem dX6_isType_5 : decode cX6_isType 5 = .ok (.invokevirtual 125, 3) := dk_182 0 125 (dk_at dksX6_isType_0 5 rfl rfl)
theorem dX6_isType_8 : decode cX6_isType 8 = .ok (.bipush 17, 2) := dk_16 17 (dk_at dksX6_isType_0 8 rfl rfl)
theorem dX6_isType_10 : decode cX6_isType 10 = .ok (.if_icmp .gt 7, 3) := dk_163 0 7 (dk_at dksX6_isType_0 10 rfl rfl)
theorem dX6_isType_13 : decode cX6_isType 13 = .ok (.iconst 1, 1) := dk_4 (dk_at dksX6_isType_0 13 rfl rfl)
theorem dX6_isType_14 : decode cX6_isType 14 = .ok (.goto 4, 3) := dk_167 0 4 (dk_at dksX6_isType_0 14 rfl rfl)
theorem dX6_isType_17 : decode cX6_isType 17 = .ok (.iconst 0, 1) := dk_3 (dk_at dksX6_isType_0 17 rfl rfl)
theorem dX6_isType_18 : decode cX6_isType 18 = .ok (.ireturn, 1) := dk_172 (dk_at dksX6_isType_0 18 rfl rfl)
abbrev cX6_itemNumbers : ByteArray := prog_9_method_12_code
def yX6_itemNumbers : MethodName := ⟨RX6, "itemNumbers", "(I)V"⟩
def dkwX6_itemNumbers_13 : List UInt8 := [182, 0, 214, 79, 42, 180, 0, 83, 29, 182, 0, 189, 62, 167, 255, 169, 177]
abbrev dktX6_itemNumbers_13 : List UInt8 := dkwX6_itemNumbers_13 ++ []
def dkwX6_itemNumbers_12 : List UInt8 := [182, 0, 242, 42, 180, 0, 12, 3, 42, 180, 0, 48, 182, 0, 215, 42, 180, 0, 59, 29, 42, 180, 0, 48]
abbrev dktX6_itemNumbers_12 : List UInt8 := dkwX6_itemNumbers_12 ++ dktX6_itemNumbers_13
def dkwX6_itemNumbers_11 : List UInt8 := [132, 2, 1, 167, 255, 242, 42, 180, 0, 55, 29, 42, 180, 0, 48, 182, 0, 214, 79, 42, 180, 0, 12, 28]
abbrev dktX6_itemNumbers_11 : List UInt8 := dkwX6_itemNumbers_11 ++ dktX6_itemNumbers_12
def dkwX6_itemNumbers_10 : List UInt8 := [159, 0, 88, 42, 180, 0, 55, 29, 46, 2, 160, 0, 66, 42, 180, 0, 41, 28, 182, 0, 239, 154, 0, 9]
abbrev dktX6_itemNumbers_10 : List UInt8 := dkwX6_itemNumbers_10 ++ dktX6_itemNumbers_11
def dkwX6_itemNumbers_9 : List UInt8 := [180, 0, 83, 28, 182, 0, 189, 61, 167, 255, 183, 3, 61, 42, 180, 0, 83, 27, 182, 0, 196, 62, 29, 2]
abbrev dktX6_itemNumbers_9 : List UInt8 := dkwX6_itemNumbers_9 ++ dktX6_itemNumbers_10
def dkwX6_itemNumbers_8 : List UInt8 := [182, 0, 234, 17, 0, 128, 162, 0, 16, 42, 180, 0, 41, 42, 28, 182, 0, 236, 182, 0, 239, 87, 42]
abbrev dktX6_itemNumbers_8 : List UInt8 := dkwX6_itemNumbers_8 ++ dktX6_itemNumbers_9
def dkwX6_itemNumbers_7 : List UInt8 := [46, 42, 180, 0, 55, 28, 46, 100, 7, 162, 0, 35, 42, 180, 0, 48, 42, 180, 0, 55, 28, 46]
abbrev dktX6_itemNumbers_7 : List UInt8 := dkwX6_itemNumbers_7 ++ dktX6_itemNumbers_8
def dkwX6_itemNumbers_6 : List UInt8 := [182, 0, 196, 61, 28, 2, 159, 0, 74, 42, 180, 0, 55, 28, 46, 2, 159, 0, 52, 42, 180, 0, 59, 28]
abbrev dktX6_itemNumbers_6 : List UInt8 := dkwX6_itemNumbers_6 ++ dktX6_itemNumbers_7
def dkwX6_itemNumbers_5 : List UInt8 := [42, 180, 0, 83, 28, 182, 0, 189, 61, 167, 255, 137, 42, 180, 0, 41, 182, 0, 233, 42, 180, 0, 83, 27]
abbrev dktX6_itemNumbers_5 : List UInt8 := dkwX6_itemNumbers_5 ++ dktX6_itemNumbers_6
def dkwX6_itemNumbers_4 : List UInt8 := [42, 180, 0, 83, 28, 8, 182, 0, 223, 182, 0, 185, 42, 180, 0, 83, 29, 182, 0, 189, 62, 167, 255, 209]
abbrev dktX6_itemNumbers_4 : List UInt8 := dkwX6_itemNumbers_4 ++ dktX6_itemNumbers_5
def dkwX6_itemNumbers_3 : List UInt8 := [159, 0, 48, 42, 180, 0, 55, 29, 46, 2, 159, 0, 26, 42, 28, 29, 182, 0, 230, 153, 0, 17, 42, 8]
abbrev dktX6_itemNumbers_3 : List UInt8 := dkwX6_itemNumbers_3 ++ dktX6_itemNumbers_4
def dkwX6_itemNumbers_2 : List UInt8 := [4, 160, 0, 7, 4, 167, 0, 4, 3, 182, 0, 226, 42, 180, 0, 83, 27, 182, 0, 196, 62, 29, 28]
abbrev dktX6_itemNumbers_2 : List UInt8 := dkwX6_itemNumbers_2 ++ dktX6_itemNumbers_3
def dkwX6_itemNumbers_1 : List UInt8 := [159, 0, 95, 42, 28, 42, 180, 0, 83, 28, 8, 182, 0, 223, 42, 180, 0, 83, 28, 16, 6, 182, 0, 223]
abbrev dktX6_itemNumbers_1 : List UInt8 := dkwX6_itemNumbers_1 ++ dktX6_itemNumbers_2
def dkwX6_itemNumbers_0 : List UInt8 := [42, 180, 0, 83, 27, 182, 0, 196, 61, 28, 2, 159, 0, 120, 42, 180, 0, 83, 28, 8, 182, 0, 223, 2]
abbrev dktX6_itemNumbers_0 : List UInt8 := dkwX6_itemNumbers_0 ++ dktX6_itemNumbers_1
theorem dksX6_itemNumbers_0 : cX6_itemNumbers.data.toList.drop 0 = dktX6_itemNumbers_0 := by decide +kernel
theorem dksX6_itemNumbers_1 : cX6_itemNumbers.data.toList.drop 24 = dktX6_itemNumbers_1 := dk_seg dksX6_itemNumbers_0 24 rfl rfl
theorem dksX6_itemNumbers_2 : cX6_itemNumbers.data.toList.drop 48 = dktX6_itemNumbers_2 := dk_seg dksX6_itemNumbers_1 24 rfl rfl
theorem dksX6_itemNumbers_3 : cX6_itemNumbers.data.toList.drop 71 = dktX6_itemNumbers_3 := dk_seg dksX6_itemNumbers_2 23 rfl rfl
theorem dksX6_itemNumbers_4 : cX6_itemNumbers.data.toList.drop 95 = dktX6_itemNumbers_4 := dk_seg dksX6_itemNumbers_3 24 rfl rfl
theorem dksX6_itemNumbers_5 : cX6_itemNumbers.data.toList.drop 119 = dktX6_itemNumbers_5 := dk_seg dksX6_itemNumbers_4 24 rfl rfl
theorem dksX6_itemNumbers_6 : cX6_itemNumbers.data.toList.drop 143 = dktX6_itemNumbers_6 := dk_seg dksX6_itemNumbers_5 24 rfl rfl
theorem dksX6_itemNumbers_7 : cX6_itemNumbers.data.toList.drop 167 = dktX6_itemNumbers_7 := dk_seg dksX6_itemNumbers_6 24 rfl rfl
theorem dksX6_itemNumbers_8 : cX6_itemNumbers.data.toList.drop 189 = dktX6_itemNumbers_8 := dk_seg dksX6_itemNumbers_7 22 rfl rfl
theorem dksX6_itemNumbers_9 : cX6_itemNumbers.data.toList.drop 212 = dktX6_itemNumbers_9 := dk_seg dksX6_itemNumbers_8 23 rfl rfl
theorem dksX6_itemNumbers_10 : cX6_itemNumbers.data.toList.drop 236 = dktX6_itemNumbers_10 := dk_seg dksX6_itemNumbers_9 24 rfl rfl
theorem dksX6_itemNumbers_11 : cX6_itemNumbers.data.toList.drop 260 = dktX6_itemNumbers_11 := dk_seg dksX6_itemNumbers_10 24 rfl rfl
theorem dksX6_itemNumbers_12 : cX6_itemNumbers.data.toList.drop 284 = dktX6_itemNumbers_12 := dk_seg dksX6_itemNumbers_11 24 rfl rfl
theorem dksX6_itemNumbers_13 : cX6_itemNumbers.data.toList.drop 308 = dktX6_itemNumbers_13 := dk_seg dksX6_itemNumbers_12 24 rfl rfl
theorem dX6_itemNumbers_0 : decode cX6_itemNumbers 0 = .ok (.aload_n 0, 1) := dk_42 (dk_at dksX6_itemNumbers_0 0 rfl rfl)
theorem dX6_itemNumbers_1 : decode cX6_itemNumbers 1 = .ok (.getfield 83, 3) := dk_180 0 83 (dk_at dksX6_itemNumbers_0 1 rfl rfl)
theorem dX6_itemNumbers_4 : decode cX6_itemNumbers 4 = .ok (.iload_n 1, 1) := dk_27 (dk_at dksX6_itemNumbers_0 4 rfl rfl)
theorem dX6_itemNumbers_5 : decode cX6_itemNumbers 5 = .ok (.invokevirtual 196, 3) := dk_182 0 196 (dk_at dksX6_itemNumbers_0 5 rfl rfl)
theorem dX6_itemNumbers_8 : decode cX6_itemNumbers 8 = .ok (.istore_n 2, 1) := dk_61 (dk_at dksX6_itemNumbers_0 8 rfl rfl)
theorem dX6_itemNumbers_9 : decode cX6_itemNumbers 9 = .ok (.iload_n 2, 1) := dk_28 (dk_at dksX6_itemNumbers_0 9 rfl rfl)
theorem dX6_itemNumbers_10 : decode cX6_itemNumbers 10 = .ok (.iconst (-1), 1) := dk_2 (dk_at dksX6_itemNumbers_0 10 rfl rfl)
theorem dX6_itemNumbers_11 : decode cX6_itemNumbers 11 = .ok (.if_icmp .eq 120, 3) := dk_159 0 120 (dk_at dksX6_itemNumbers_0 11 rfl rfl)
theorem dX6_itemNumbers_14 : decode cX6_itemNumbers 14 = .ok (.aload_n 0, 1) := dk_42 (dk_at dksX6_itemNumbers_0 14 rfl rfl)
theorem dX6_itemNumbers_15 : decode cX6_itemNumbers 15 = .ok (.getfield 83, 3) := dk_180 0 83 (dk_at dksX6_itemNumbers_0 15 rfl rfl)
theorem dX6_itemNumbers_18 : decode cX6_itemNumbers 18 = .ok (.iload_n 2, 1) := dk_28 (dk_at dksX6_itemNumbers_0 18 rfl rfl)
theorem dX6_itemNumbers_19 : decode cX6_itemNumbers 19 = .ok (.iconst 5, 1) := dk_8 (dk_at dksX6_itemNumbers_0 19 rfl rfl)
theorem dX6_itemNumbers_20 : decode cX6_itemNumbers 20 = .ok (.invokevirtual 223, 3) := dk_182 0 223 (dk_at dksX6_itemNumbers_0 20 rfl rfl)
theorem dX6_itemNumbers_23 : decode cX6_itemNumbers 23 = .ok (.iconst (-1), 1) := dk_2 (dk_at dksX6_itemNumbers_0 23 rfl rfl)
theorem dX6_itemNumbers_24 : decode cX6_itemNumbers 24 = .ok (.if_icmp .eq 95, 3) := dk_159 0 95 (dk_at dksX6_itemNumbers_1 0 rfl rfl)
theorem dX6_itemNumbers_27 : decode cX6_itemNumbers 27 = .ok (.aload_n 0, 1) := dk_42 (dk_at dksX6_itemNumbers_1 3 rfl rfl)
theorem dX6_itemNumbers_28 : decode cX6_itemNumbers 28 = .ok (.iload_n 2, 1) := dk_28 (dk_at dksX6_itemNumbers_1 4 rfl rfl)
theorem dX6_itemNumbers_29 : decode cX6_itemNumbers 29 = .ok (.aload_n 0, 1) := dk_42 (dk_at dksX6_itemNumbers_1 5 rfl rfl)
theorem dX6_itemNumbers_30 : decode cX6_itemNumbers 30 = .ok (.getfield 83, 3) := dk_180 0 83 (dk_at dksX6_itemNumbers_1 6 rfl rfl)
theorem dX6_itemNumbers_33 : decode cX6_itemNumbers 33 = .ok (.iload_n 2, 1) := dk_28 (dk_at dksX6_itemNumbers_1 9 rfl rfl)
theorem dX6_itemNumbers_34 : decode cX6_itemNumbers 34 = .ok (.iconst 5, 1) := dk_8 (dk_at dksX6_itemNumbers_1 10 rfl rfl)
theorem dX6_itemNumbers_35 : decode cX6_itemNumbers 35 = .ok (.invokevirtual 223, 3) := dk_182 0 223 (dk_at dksX6_itemNumbers_1 11 rfl rfl)
theorem dX6_itemNumbers_38 : decode cX6_itemNumbers 38 = .ok (.aload_n 0, 1) := dk_42 (dk_at dksX6_itemNumbers_1 14 rfl rfl)
theorem dX6_itemNumbers_39 : decode cX6_itemNumbers 39 = .ok (.getfield 83, 3) := dk_180 0 83 (dk_at dksX6_itemNumbers_1 15 rfl rfl)
theorem dX6_itemNumbers_42 : decode cX6_itemNumbers 42 = .ok (.iload_n 2, 1) := dk_28 (dk_at dksX6_itemNumbers_1 18 rfl rfl)
theorem dX6_itemNumbers_43 : decode cX6_itemNumbers 43 = .ok (.bipush 6, 2) := dk_16 6 (dk_at dksX6_itemNumbers_1 19 rfl rfl)
theorem dX6_itemNumbers_45 : decode cX6_itemNumbers 45 = .ok (.invokevirtual 223, 3) := dk_182 0 223 (dk_at dksX6_itemNumbers_1 21 rfl rfl)
theorem dX6_itemNumbers_48 : decode cX6_itemNumbers 48 = .ok (.iconst 1, 1) := dk_4 (dk_at dksX6_itemNumbers_2 0 rfl rfl)
theorem dX6_itemNumbers_49 : decode cX6_itemNumbers 49 = .ok (.if_icmp .ne 7, 3) := dk_160 0 7 (dk_at dksX6_itemNumbers_2 1 rfl rfl)
theorem dX6_itemNumbers_52 : decode cX6_itemNumbers 52 = .ok (.iconst 1, 1) := dk_4 (dk_at dksX6_itemNumbers_2 4 rfl rfl)
theorem dX6_itemNumbers_53 : decode cX6_itemNumbers 53 = .ok (.goto 4, 3) := dk_167 0 4 (dk_at dksX6_itemNumbers_2 5 rfl rfl)
theorem dX6_itemNumbers_56 : decode cX6_itemNumbers 56 = .ok (.iconst 0, 1) := dk_3 (dk_at dksX6_itemNumbers_2 8 rfl rfl)
theorem dX6_itemNumbers_57 : decode cX6_itemNumbers 57 = .ok (.invokevirtual 226, 3) := dk_182 0 226 (dk_at dksX6_itemNumbers_2 9 rfl rfl)
theorem dX6_itemNumbers_60 : decode cX6_itemNumbers 60 = .ok (.aload_n 0, 1) := dk_42 (dk_at dksX6_itemNumbers_2 12 rfl rfl)
theorem dX6_itemNumbers_61 : decode cX6_itemNumbers 61 = .ok (.getfield 83, 3) := dk_180 0 83 (dk_at dksX6_itemNumbers_2 13 rfl rfl)
theorem dX6_itemNumbers_64 : decode cX6_itemNumbers 64 = .ok (.iload_n 1, 1) := dk_27 (dk_at dksX6_itemNumbers_2 16 rfl rfl)
theorem dX6_itemNumbers_65 : decode cX6_itemNumbers 65 = .ok (.invokevirtual 196, 3) := dk_182 0 196 (dk_at dksX6_itemNumbers_2 17 rfl rfl)
theorem dX6_itemNumbers_68 : decode cX6_itemNumbers 68 = .ok (.istore_n 3, 1) := dk_62 (dk_at dksX6_itemNumbers_2 20 rfl rfl)
theorem dX6_itemNumbers_69 : decode cX6_itemNumbers 69 = .ok (.iload_n 3, 1) := dk_29 (dk_at dksX6_itemNumbers_2 21 rfl rfl)
theorem dX6_itemNumbers_70 : decode cX6_itemNumbers 70 = .ok (.iload_n 2, 1) := dk_28 (dk_at dksX6_itemNumbers_2 22 rfl rfl)
theorem dX6_itemNumbers_71 : decode cX6_itemNumbers 71 = .ok (.if_icmp .eq 48, 3) := dk_159 0 48 (dk_at dksX6_itemNumbers_3 0 rfl rfl)
theorem dX6_itemNumbers_74 : decode cX6_itemNumbers 74 = .ok (.aload_n 0, 1) := dk_42 (dk_at dksX6_itemNumbers_3 3 rfl rfl)
theorem dX6_itemNumbers_75 : decode cX6_itemNumbers 75 = .ok (.getfield 55, 3) := dk_180 0 55 (dk_at dksX6_itemNumbers_3 4 rfl rfl)
theorem dX6_itemNumbers_78 : decode cX6_itemNumbers 78 = .ok (.iload_n 3, 1) := dk_29 (dk_at dksX6_itemNumbers_3 7 rfl rfl)
theorem dX6_itemNumbers_79 : decode cX6_itemNumbers 79 = .ok (.iaload, 1) := dk_46 (dk_at dksX6_itemNumbers_3 8 rfl rfl)
theorem dX6_itemNumbers_80 : decode cX6_itemNumbers 80 = .ok (.iconst (-1), 1) := dk_2 (dk_at dksX6_itemNumbers_3 9 rfl rfl)
theorem dX6_itemNumbers_81 : decode cX6_itemNumbers 81 = .ok (.if_icmp .eq 26, 3) := dk_159 0 26 (dk_at dksX6_itemNumbers_3 10 rfl rfl)
theorem dX6_itemNumbers_84 : decode cX6_itemNumbers 84 = .ok (.aload_n 0, 1) := dk_42 (dk_at dksX6_itemNumbers_3 13 rfl rfl)
theorem dX6_itemNumbers_85 : decode cX6_itemNumbers 85 = .ok (.iload_n 2, 1) := dk_28 (dk_at dksX6_itemNumbers_3 14 rfl rfl)
theorem dX6_itemNumbers_86 : decode cX6_itemNumbers 86 = .ok (.iload_n 3, 1) := dk_29 (dk_at dksX6_itemNumbers_3 15 rfl rfl)
theorem dX6_itemNumbers_87 : decode cX6_itemNumbers 87 = .ok (.invokevirtual 230, 3) := dk_182 0 230 (dk_at dksX6_itemNumbers_3 16 rfl rfl)
theorem dX6_itemNumbers_90 : decode cX6_itemNumbers 90 = .ok (.ifCond .eq 17, 3) := dk_153 0 17 (dk_at dksX6_itemNumbers_3 19 rfl rfl)
theorem dX6_itemNumbers_93 : decode cX6_itemNumbers 93 = .ok (.aload_n 0, 1) := dk_42 (dk_at dksX6_itemNumbers_3 22 rfl rfl)
theorem dX6_itemNumbers_94 : decode cX6_itemNumbers 94 = .ok (.iconst 5, 1) := dk_8 (dk_at dksX6_itemNumbers_3 23 rfl rfl)
theorem dX6_itemNumbers_95 : decode cX6_itemNumbers 95 = .ok (.aload_n 0, 1) := dk_42 (dk_at dksX6_itemNumbers_4 0 rfl rfl)
theorem dX6_itemNumbers_96 : decode cX6_itemNumbers 96 = .ok (.getfield 83, 3) := dk_180 0 83 (dk_at dksX6_itemNumbers_4 1 rfl rfl)
theorem dX6_itemNumbers_99 : decode cX6_itemNumbers 99 = .ok (.iload_n 2, 1) := dk_28 (dk_at dksX6_itemNumbers_4 4 rfl rfl)
theorem dX6_itemNumbers_100 : decode cX6_itemNumbers 100 = .ok (.iconst 5, 1) := dk_8 (dk_at dksX6_itemNumbers_4 5 rfl rfl)
theorem dX6_itemNumbers_101 : decode cX6_itemNumbers 101 = .ok (.invokevirtual 223, 3) := dk_182 0 223 (dk_at dksX6_itemNumbers_4 6 rfl rfl)
theorem dX6_itemNumbers_104 : decode cX6_itemNumbers 104 = .ok (.invokevirtual 185, 3) := dk_182 0 185 (dk_at dksX6_itemNumbers_4 9 rfl rfl)
theorem dX6_itemNumbers_107 : decode cX6_itemNumbers 107 = .ok (.aload_n 0, 1) := dk_42 (dk_at dksX6_itemNumbers_4 12 rfl rfl)
theorem dX6_itemNumbers_108 : decode cX6_itemNumbers 108 = .ok (.getfield 83, 3) := dk_180 0 83 (dk_at dksX6_itemNumbers_4 13 rfl rfl)
theorem dX6_itemNumbers_111 : decode cX6_itemNumbers 111 = .ok (.iload_n 3, 1) := dk_29 (dk_at dksX6_itemNumbers_4 16 rfl rfl)
theorem dX6_itemNumbers_112 : decode cX6_itemNumbers 112 = .ok (.invokevirtual 189, 3) := dk_182 0 189 (dk_at dksX6_itemNumbers_4 17 rfl rfl)
theorem dX6_itemNumbers_115 : decode cX6_itemNumbers 115 = .ok (.istore_n 3, 1) := dk_62 (dk_at dksX6_itemNumbers_4 20 rfl rfl)
theorem dX6_itemNumbers_116 : decode cX6_itemNumbers 116 = .ok (.goto (-47), 3) := dk_167 255 209 (dk_at dksX6_itemNumbers_4 21 rfl rfl)
theorem dX6_itemNumbers_119 : decode cX6_itemNumbers 119 = .ok (.aload_n 0, 1) := dk_42 (dk_at dksX6_itemNumbers_5 0 rfl rfl)
theorem dX6_itemNumbers_120 : decode cX6_itemNumbers 120 = .ok (.getfield 83, 3) := dk_180 0 83 (dk_at dksX6_itemNumbers_5 1 rfl rfl)
theorem dX6_itemNumbers_123 : decode cX6_itemNumbers 123 = .ok (.iload_n 2, 1) := dk_28 (dk_at dksX6_itemNumbers_5 4 rfl rfl)
theorem dX6_itemNumbers_124 : decode cX6_itemNumbers 124 = .ok (.invokevirtual 189, 3) := dk_182 0 189 (dk_at dksX6_itemNumbers_5 5 rfl rfl)
theorem dX6_itemNumbers_127 : decode cX6_itemNumbers 127 = .ok (.istore_n 2, 1) := dk_61 (dk_at dksX6_itemNumbers_5 8 rfl rfl)
theorem dX6_itemNumbers_128 : decode cX6_itemNumbers 128 = .ok (.goto (-119), 3) := dk_167 255 137 (dk_at dksX6_itemNumbers_5 9 rfl rfl)
theorem dX6_itemNumbers_131 : decode cX6_itemNumbers 131 = .ok (.aload_n 0, 1) := dk_42 (dk_at dksX6_itemNumbers_5 12 rfl rfl)
theorem dX6_itemNumbers_132 : decode cX6_itemNumbers 132 = .ok (.getfield 41, 3) := dk_180 0 41 (dk_at dksX6_itemNumbers_5 13 rfl rfl)
theorem dX6_itemNumbers_135 : decode cX6_itemNumbers 135 = .ok (.invokevirtual 233, 3) := dk_182 0 233 (dk_at dksX6_itemNumbers_5 16 rfl rfl)
theorem dX6_itemNumbers_138 : decode cX6_itemNumbers 138 = .ok (.aload_n 0, 1) := dk_42 (dk_at dksX6_itemNumbers_5 19 rfl rfl)
theorem dX6_itemNumbers_139 : decode cX6_itemNumbers 139 = .ok (.getfield 83, 3) := dk_180 0 83 (dk_at dksX6_itemNumbers_5 20 rfl rfl)
theorem dX6_itemNumbers_142 : decode cX6_itemNumbers 142 = .ok (.iload_n 1, 1) := dk_27 (dk_at dksX6_itemNumbers_5 23 rfl rfl)
theorem dX6_itemNumbers_143 : decode cX6_itemNumbers 143 = .ok (.invokevirtual 196, 3) := dk_182 0 196 (dk_at dksX6_itemNumbers_6 0 rfl rfl)
theorem dX6_itemNumbers_146 : decode cX6_itemNumbers 146 = .ok (.istore_n 2, 1) := dk_61 (dk_at dksX6_itemNumbers_6 3 rfl rfl)
theorem dX6_itemNumbers_147 : decode cX6_itemNumbers 147 = .ok (.iload_n 2, 1) := dk_28 (dk_at dksX6_itemNumbers_6 4 rfl rfl)
theorem dX6_itemNumbers_148 : decode cX6_itemNumbers 148 = .ok (.iconst (-1), 1) := dk_2 (dk_at dksX6_itemNumbers_6 5 rfl rfl)
theorem dX6_itemNumbers_149 : decode cX6_itemNumbers 149 = .ok (.if_icmp .eq 74, 3) := dk_159 0 74 (dk_at dksX6_itemNumbers_6 6 rfl rfl)
theorem dX6_itemNumbers_152 : decode cX6_itemNumbers 152 = .ok (.aload_n 0, 1) := dk_42 (dk_at dksX6_itemNumbers_6 9 rfl rfl)
theorem dX6_itemNumbers_153 : decode cX6_itemNumbers 153 = .ok (.getfield 55, 3) := dk_180 0 55 (dk_at dksX6_itemNumbers_6 10 rfl rfl)
theorem dX6_itemNumbers_156 : decode cX6_itemNumbers 156 = .ok (.iload_n 2, 1) := dk_28 (dk_at dksX6_itemNumbers_6 13 rfl rfl)
theorem dX6_itemNumbers_157 : decode cX6_itemNumbers 157 = .ok (.iaload, 1) := dk_46 (dk_at dksX6_itemNumbers_6 14 rfl rfl)
theorem dX6_itemNumbers_158 : decode cX6_itemNumbers 158 = .ok (.iconst (-1), 1) := dk_2 (dk_at dksX6_itemNumbers_6 15 rfl rfl)
theorem dX6_itemNumbers_159 : decode cX6_itemNumbers 159 = .ok (.if_icmp .eq 52, 3) := dk_159 0 52 (dk_at dksX6_itemNumbers_6 16 rfl rfl)
theorem dX6_itemNumbers_162 : decode cX6_itemNumbers 162 = .ok (.aload_n 0, 1) := dk_42 (dk_at dksX6_itemNumbers_6 19 rfl rfl)
theorem dX6_itemNumbers_163 : decode cX6_itemNumbers 163 = .ok (.getfield 59, 3) := dk_180 0 59 (dk_at dksX6_itemNumbers_6 20 rfl rfl)
theorem dX6_itemNumbers_166 : decode cX6_itemNumbers 166 = .ok (.iload_n 2, 1) := dk_28 (dk_at dksX6_itemNumbers_6 23 rfl rfl)
theorem dX6_itemNumbers_167 : decode cX6_itemNumbers 167 = .ok (.iaload, 1) := dk_46 (dk_at dksX6_itemNumbers_7 0 rfl rfl)
theorem dX6_itemNumbers_168 : decode cX6_itemNumbers 168 = .ok (.aload_n 0, 1) := dk_42 (dk_at dksX6_itemNumbers_7 1 rfl rfl)
theorem dX6_itemNumbers_169 : decode cX6_itemNumbers 169 = .ok (.getfield 55, 3) := dk_180 0 55 (dk_at dksX6_itemNumbers_7 2 rfl rfl)
theorem dX6_itemNumbers_172 : decode cX6_itemNumbers 172 = .ok (.iload_n 2, 1) := dk_28 (dk_at dksX6_itemNumbers_7 5 rfl rfl)
theorem dX6_itemNumbers_173 : decode cX6_itemNumbers 173 = .ok (.iaload, 1) := dk_46 (dk_at dksX6_itemNumbers_7 6 rfl rfl)
theorem dX6_itemNumbers_174 : decode cX6_itemNumbers 174 = .ok (.isub, 1) := dk_100 (dk_at dksX6_itemNumbers_7 7 rfl rfl)
theorem dX6_itemNumbers_175 : decode cX6_itemNumbers 175 = .ok (.iconst 4, 1) := dk_7 (dk_at dksX6_itemNumbers_7 8 rfl rfl)
theorem dX6_itemNumbers_176 : decode cX6_itemNumbers 176 = .ok (.if_icmp .ge 35, 3) := dk_162 0 35 (dk_at dksX6_itemNumbers_7 9 rfl rfl)
theorem dX6_itemNumbers_179 : decode cX6_itemNumbers 179 = .ok (.aload_n 0, 1) := dk_42 (dk_at dksX6_itemNumbers_7 12 rfl rfl)
theorem dX6_itemNumbers_180 : decode cX6_itemNumbers 180 = .ok (.getfield 48, 3) := dk_180 0 48 (dk_at dksX6_itemNumbers_7 13 rfl rfl)
theorem dX6_itemNumbers_183 : decode cX6_itemNumbers 183 = .ok (.aload_n 0, 1) := dk_42 (dk_at dksX6_itemNumbers_7 16 rfl rfl)
theorem dX6_itemNumbers_184 : decode cX6_itemNumbers 184 = .ok (.getfield 55, 3) := dk_180 0 55 (dk_at dksX6_itemNumbers_7 17 rfl rfl)
theorem dX6_itemNumbers_187 : decode cX6_itemNumbers 187 = .ok (.iload_n 2, 1) := dk_28 (dk_at dksX6_itemNumbers_7 20 rfl rfl)
theorem dX6_itemNumbers_188 : decode cX6_itemNumbers 188 = .ok (.iaload, 1) := dk_46 (dk_at dksX6_itemNumbers_7 21 rfl rfl)
theorem dX6_itemNumbers_189 : decode cX6_itemNumbers 189 = .ok (.invokevirtual 234, 3) := dk_182 0 234 (dk_at dksX6_itemNumbers_8 0 rfl rfl)
theorem dX6_itemNumbers_192 : decode cX6_itemNumbers 192 = .ok (.sipush 128, 3) := dk_17 0 128 (dk_at dksX6_itemNumbers_8 3 rfl rfl)
theorem dX6_itemNumbers_195 : decode cX6_itemNumbers 195 = .ok (.if_icmp .ge 16, 3) := dk_162 0 16 (dk_at dksX6_itemNumbers_8 6 rfl rfl)
theorem dX6_itemNumbers_198 : decode cX6_itemNumbers 198 = .ok (.aload_n 0, 1) := dk_42 (dk_at dksX6_itemNumbers_8 9 rfl rfl)
theorem dX6_itemNumbers_199 : decode cX6_itemNumbers 199 = .ok (.getfield 41, 3) := dk_180 0 41 (dk_at dksX6_itemNumbers_8 10 rfl rfl)
theorem dX6_itemNumbers_202 : decode cX6_itemNumbers 202 = .ok (.aload_n 0, 1) := dk_42 (dk_at dksX6_itemNumbers_8 13 rfl rfl)
theorem dX6_itemNumbers_203 : decode cX6_itemNumbers 203 = .ok (.iload_n 2, 1) := dk_28 (dk_at dksX6_itemNumbers_8 14 rfl rfl)
theorem dX6_itemNumbers_204 : decode cX6_itemNumbers 204 = .ok (.invokevirtual 236, 3) := dk_182 0 236 (dk_at dksX6_itemNumbers_8 15 rfl rfl)
theorem dX6_itemNumbers_207 : decode cX6_itemNumbers 207 = .ok (.invokevirtual 239, 3) := dk_182 0 239 (dk_at dksX6_itemNumbers_8 18 rfl rfl)
theorem dX6_itemNumbers_210 : decode cX6_itemNumbers 210 = .ok (.pop, 1) := dk_87 (dk_at dksX6_itemNumbers_8 21 rfl rfl)
theorem dX6_itemNumbers_211 : decode cX6_itemNumbers 211 = .ok (.aload_n 0, 1) := dk_42 (dk_at dksX6_itemNumbers_8 22 rfl rfl)
theorem dX6_itemNumbers_212 : decode cX6_itemNumbers 212 = .ok (.getfield 83, 3) := dk_180 0 83 (dk_at dksX6_itemNumbers_9 0 rfl rfl)
theorem dX6_itemNumbers_215 : decode cX6_itemNumbers 215 = .ok (.iload_n 2, 1) := dk_28 (dk_at dksX6_itemNumbers_9 3 rfl rfl)
theorem dX6_itemNumbers_216 : decode cX6_itemNumbers 216 = .ok (.invokevirtual 189, 3) := dk_182 0 189 (dk_at dksX6_itemNumbers_9 4 rfl rfl)
theorem dX6_itemNumbers_219 : decode cX6_itemNumbers 219 = .ok (.istore_n 2, 1) := dk_61 (dk_at dksX6_itemNumbers_9 7 rfl rfl)
theorem dX6_itemNumbers_220 : decode cX6_itemNumbers 220 = .ok (.goto (-73), 3) := dk_167 255 183 (dk_at dksX6_itemNumbers_9 8 rfl rfl)
theorem dX6_itemNumbers_223 : decode cX6_itemNumbers 223 = .ok (.iconst 0, 1) := dk_3 (dk_at dksX6_itemNumbers_9 11 rfl rfl)
theorem dX6_itemNumbers_224 : decode cX6_itemNumbers 224 = .ok (.istore_n 2, 1) := dk_61 (dk_at dksX6_itemNumbers_9 12 rfl rfl)
theorem dX6_itemNumbers_225 : decode cX6_itemNumbers 225 = .ok (.aload_n 0, 1) := dk_42 (dk_at dksX6_itemNumbers_9 13 rfl rfl)
theorem dX6_itemNumbers_226 : decode cX6_itemNumbers 226 = .ok (.getfield 83, 3) := dk_180 0 83 (dk_at dksX6_itemNumbers_9 14 rfl rfl)
theorem dX6_itemNumbers_229 : decode cX6_itemNumbers 229 = .ok (.iload_n 1, 1) := dk_27 (dk_at dksX6_itemNumbers_9 17 rfl rfl)
theorem dX6_itemNumbers_230 : decode cX6_itemNumbers 230 = .ok (.invokevirtual 196, 3) := dk_182 0 196 (dk_at dksX6_itemNumbers_9 18 rfl rfl)
theorem dX6_itemNumbers_233 : decode cX6_itemNumbers 233 = .ok (.istore_n 3, 1) := dk_62 (dk_at dksX6_itemNumbers_9 21 rfl rfl)
theorem dX6_itemNumbers_234 : decode cX6_itemNumbers 234 = .ok (.iload_n 3, 1) := dk_29 (dk_at dksX6_itemNumbers_9 22 rfl rfl)
theorem dX6_itemNumbers_235 : decode cX6_itemNumbers 235 = .ok (.iconst (-1), 1) := dk_2 (dk_at dksX6_itemNumbers_9 23 rfl rfl)
theorem dX6_itemNumbers_236 : decode cX6_itemNumbers 236 = .ok (.if_icmp .eq 88, 3) := dk_159 0 88 (dk_at dksX6_itemNumbers_10 0 rfl rfl)
theorem dX6_itemNumbers_239 : decode cX6_itemNumbers 239 = .ok (.aload_n 0, 1) := dk_42 (dk_at dksX6_itemNumbers_10 3 rfl rfl)
theorem dX6_itemNumbers_240 : decode cX6_itemNumbers 240 = .ok (.getfield 55, 3) := dk_180 0 55 (dk_at dksX6_itemNumbers_10 4 rfl rfl)
theorem dX6_itemNumbers_243 : decode cX6_itemNumbers 243 = .ok (.iload_n 3, 1) := dk_29 (dk_at dksX6_itemNumbers_10 7 rfl rfl)
theorem dX6_itemNumbers_244 : decode cX6_itemNumbers 244 = .ok (.iaload, 1) := dk_46 (dk_at dksX6_itemNumbers_10 8 rfl rfl)
theorem dX6_itemNumbers_245 : decode cX6_itemNumbers 245 = .ok (.iconst (-1), 1) := dk_2 (dk_at dksX6_itemNumbers_10 9 rfl rfl)
theorem dX6_itemNumbers_246 : decode cX6_itemNumbers 246 = .ok (.if_icmp .ne 66, 3) := dk_160 0 66 (dk_at dksX6_itemNumbers_10 10 rfl rfl)
theorem dX6_itemNumbers_249 : decode cX6_itemNumbers 249 = .ok (.aload_n 0, 1) := dk_42 (dk_at dksX6_itemNumbers_10 13 rfl rfl)
theorem dX6_itemNumbers_250 : decode cX6_itemNumbers 250 = .ok (.getfield 41, 3) := dk_180 0 41 (dk_at dksX6_itemNumbers_10 14 rfl rfl)
theorem dX6_itemNumbers_253 : decode cX6_itemNumbers 253 = .ok (.iload_n 2, 1) := dk_28 (dk_at dksX6_itemNumbers_10 17 rfl rfl)
theorem dX6_itemNumbers_254 : decode cX6_itemNumbers 254 = .ok (.invokevirtual 239, 3) := dk_182 0 239 (dk_at dksX6_itemNumbers_10 18 rfl rfl)
theorem dX6_itemNumbers_257 : decode cX6_itemNumbers 257 = .ok (.ifCond .ne 9, 3) := dk_154 0 9 (dk_at dksX6_itemNumbers_10 21 rfl rfl)
theorem dX6_itemNumbers_260 : decode cX6_itemNumbers 260 = .ok (.iinc 2 1, 3) := dk_132 2 1 (dk_at dksX6_itemNumbers_11 0 rfl rfl)
theorem dX6_itemNumbers_263 : decode cX6_itemNumbers 263 = .ok (.goto (-14), 3) := dk_167 255 242 (dk_at dksX6_itemNumbers_11 3 rfl rfl)
theorem dX6_itemNumbers_266 : decode cX6_itemNumbers 266 = .ok (.aload_n 0, 1) := dk_42 (dk_at dksX6_itemNumbers_11 6 rfl rfl)
theorem dX6_itemNumbers_267 : decode cX6_itemNumbers 267 = .ok (.getfield 55, 3) := dk_180 0 55 (dk_at dksX6_itemNumbers_11 7 rfl rfl)
theorem dX6_itemNumbers_270 : decode cX6_itemNumbers 270 = .ok (.iload_n 3, 1) := dk_29 (dk_at dksX6_itemNumbers_11 10 rfl rfl)
theorem dX6_itemNumbers_271 : decode cX6_itemNumbers 271 = .ok (.aload_n 0, 1) := dk_42 (dk_at dksX6_itemNumbers_11 11 rfl rfl)
theorem dX6_itemNumbers_272 : decode cX6_itemNumbers 272 = .ok (.getfield 48, 3) := dk_180 0 48 (dk_at dksX6_itemNumbers_11 12 rfl rfl)
theorem dX6_itemNumbers_275 : decode cX6_itemNumbers 275 = .ok (.invokevirtual 214, 3) := dk_182 0 214 (dk_at dksX6_itemNumbers_11 15 rfl rfl)
theorem dX6_itemNumbers_278 : decode cX6_itemNumbers 278 = .ok (.iastore, 1) := dk_79 (dk_at dksX6_itemNumbers_11 18 rfl rfl)
theorem dX6_itemNumbers_279 : decode cX6_itemNumbers 279 = .ok (.aload_n 0, 1) := dk_42 (dk_at dksX6_itemNumbers_11 19 rfl rfl)
theorem dX6_itemNumbers_280 : decode cX6_itemNumbers 280 = .ok (.getfield 12, 3) := dk_180 0 12 (dk_at dksX6_itemNumbers_11 20 rfl rfl)
theorem dX6_itemNumbers_283 : decode cX6_itemNumbers 283 = .ok (.iload_n 2, 1) := dk_28 (dk_at dksX6_itemNumbers_11 23 rfl rfl)
theorem dX6_itemNumbers_284 : decode cX6_itemNumbers 284 = .ok (.invokevirtual 242, 3) := dk_182 0 242 (dk_at dksX6_itemNumbers_12 0 rfl rfl)
theorem dX6_itemNumbers_287 : decode cX6_itemNumbers 287 = .ok (.aload_n 0, 1) := dk_42 (dk_at dksX6_itemNumbers_12 3 rfl rfl)
theorem dX6_itemNumbers_288 : decode cX6_itemNumbers 288 = .ok (.getfield 12, 3) := dk_180 0 12 (dk_at dksX6_itemNumbers_12 4 rfl rfl)
theorem dX6_itemNumbers_291 : decode cX6_itemNumbers 291 = .ok (.iconst 0, 1) := dk_3 (dk_at dksX6_itemNumbers_12 7 rfl rfl)
theorem dX6_itemNumbers_292 : decode cX6_itemNumbers 292 = .ok (.aload_n 0, 1) := dk_42 (dk_at dksX6_itemNumbers_12 8 rfl rfl)
theorem dX6_itemNumbers_293 : decode cX6_itemNumbers 293 = .ok (.getfield 48, 3) := dk_180 0 48 (dk_at dksX6_itemNumbers_12 9 rfl rfl)
theorem dX6_itemNumbers_296 : decode cX6_itemNumbers 296 = .ok (.invokevirtual 215, 3) := dk_182 0 215 (dk_at dksX6_itemNumbers_12 12 rfl rfl)
theorem dX6_itemNumbers_299 : decode cX6_itemNumbers 299 = .ok (.aload_n 0, 1) := dk_42 (dk_at dksX6_itemNumbers_12 15 rfl rfl)
theorem dX6_itemNumbers_300 : decode cX6_itemNumbers 300 = .ok (.getfield 59, 3) := dk_180 0 59 (dk_at dksX6_itemNumbers_12 16 rfl rfl)
theorem dX6_itemNumbers_303 : decode cX6_itemNumbers 303 = .ok (.iload_n 3, 1) := dk_29 (dk_at dksX6_itemNumbers_12 19 rfl rfl)
theorem dX6_itemNumbers_304 : decode cX6_itemNumbers 304 = .ok (.aload_n 0, 1) := dk_42 (dk_at dksX6_itemNumbers_12 20 rfl rfl)
theorem dX6_itemNumbers_305 : decode cX6_itemNumbers 305 = .ok (.getfield 48, 3) := dk_180 0 48 (dk_at dksX6_itemNumbers_12 21 rfl rfl)
theorem dX6_itemNumbers_308 : decode cX6_itemNumbers 308 = .ok (.invokevirtual 214, 3) := dk_182 0 214 (dk_at dksX6_itemNumbers_13 0 rfl rfl)
theorem dX6_itemNumbers_311 : decode cX6_itemNumbers 311 = .ok (.iastore, 1) := dk_79 (dk_at dksX6_itemNumbers_13 3 rfl rfl)
theorem dX6_itemNumbers_312 : decode cX6_itemNumbers 312 = .ok (.aload_n 0, 1) := dk_42 (dk_at dksX6_itemNumbers_13 4 rfl rfl)
theorem dX6_itemNumbers_313 : decode cX6_itemNumbers 313 = .ok (.getfield 83, 3) := dk_180 0 83 (dk_at dksX6_itemNumbers_13 5 rfl rfl)
theorem dX6_itemNumbers_316 : decode cX6_itemNumbers 316 = .ok (.iload_n 3, 1) := dk_29 (dk_at dksX6_itemNumbers_13 8 rfl rfl)
theorem dX6_itemNumbers_317 : decode cX6_itemNumbers 317 = .ok (.invokevirtual 189, 3) := dk_182 0 189 (dk_at dksX6_itemNumbers_13 9 rfl rfl)
theorem dX6_itemNumbers_320 : decode cX6_itemNumbers 320 = .ok (.istore_n 3, 1) := dk_62 (dk_at dksX6_itemNumbers_13 12 rfl rfl)
theorem dX6_itemNumbers_321 : decode cX6_itemNumbers 321 = .ok (.goto (-87), 3) := dk_167 255 169 (dk_at dksX6_itemNumbers_13 13 rfl rfl)
theorem dX6_itemNumbers_324 : decode cX6_itemNumbers 324 = .ok (.return_, 1) := dk_177 (dk_at dksX6_itemNumbers_13 16 rfl rfl)
abbrev cX6_number : ByteArray := prog_9_method_10_code
def yX6_number : MethodName := ⟨RX6, "number", "(IIZ)V"⟩
def dkwX6_number_2 : List UInt8 := [42, 180, 0, 48, 182, 0, 215, 42, 180, 0, 59, 27, 42, 180, 0, 48, 182, 0, 214, 79, 177]
abbrev dktX6_number_2 : List UInt8 := dkwX6_number_2 ++ []
def dkwX6_number_1 : List UInt8 := [182, 0, 207, 182, 0, 210, 42, 180, 0, 55, 27, 42, 180, 0, 48, 182, 0, 214, 79, 42, 180, 0, 12, 29]
abbrev dktX6_number_1 : List UInt8 := dkwX6_number_1 ++ dktX6_number_2
def dkwX6_number_0 : List UInt8 := [42, 180, 0, 12, 42, 180, 0, 103, 182, 0, 203, 42, 180, 0, 103, 28, 182, 0, 107, 42, 180, 0, 103, 28]
abbrev dktX6_number_0 : List UInt8 := dkwX6_number_0 ++ dktX6_number_1
theorem dksX6_number_0 : cX6_number.data.toList.drop 0 = dktX6_number_0 := by decide +kernel
theorem dksX6_number_1 : cX6_number.data.toList.drop 24 = dktX6_number_1 := dk_seg dksX6_number_0 24 rfl rfl
theorem dksX6_number_2 : cX6_number.data.toList.drop 48 = dktX6_number_2 := dk_seg dksX6_number_1 24 rfl rfl
theorem dX6_number_0 : decode cX6_number 0 = .ok (.aload_n 0, 1) := dk_42 (dk_at dksX6_number_0 0 rfl rfl)
theorem dX6_number_1 : decode cX6_number 1 = .ok (.getfield 12, 3) := dk_180 0 12 (dk_at dksX6_number_0 1 rfl rfl)
theorem dX6_number_4 : decode cX6_number 4 = .ok (.aload_n 0, 1) := dk_42 (dk_at dksX6_number_0 4 rfl rfl)
theorem dX6_number_5 : decode cX6_number 5 = .ok (.getfield 103, 3) := dk_180 0 103 (dk_at dksX6_number_0 5 rfl rfl)
theorem dX6_number_8 : decode cX6_number 8 = .ok (.invokevirtual 203, 3) := dk_182 0 203 (dk_at dksX6_number_0 8 rfl rfl)
theorem dX6_number_11 : decode cX6_number 11 = .ok (.aload_n 0, 1) := dk_42 (dk_at dksX6_number_0 11 rfl rfl)
theorem dX6_number_12 : decode cX6_number 12 = .ok (.getfield 103, 3) := dk_180 0 103 (dk_at dksX6_number_0 12 rfl rfl)
theorem dX6_number_15 : decode cX6_number 15 = .ok (.iload_n 2, 1) := dk_28 (dk_at dksX6_number_0 15 rfl rfl)
theorem dX6_number_16 : decode cX6_number 16 = .ok (.invokevirtual 107, 3) := dk_182 0 107 (dk_at dksX6_number_0 16 rfl rfl)
theorem dX6_number_19 : decode cX6_number 19 = .ok (.aload_n 0, 1) := dk_42 (dk_at dksX6_number_0 19 rfl rfl)
theorem dX6_number_20 : decode cX6_number 20 = .ok (.getfield 103, 3) := dk_180 0 103 (dk_at dksX6_number_0 20 rfl rfl)
theorem dX6_number_23 : decode cX6_number 23 = .ok (.iload_n 2, 1) := dk_28 (dk_at dksX6_number_0 23 rfl rfl)
theorem dX6_number_24 : decode cX6_number 24 = .ok (.invokevirtual 207, 3) := dk_182 0 207 (dk_at dksX6_number_1 0 rfl rfl)
theorem dX6_number_27 : decode cX6_number 27 = .ok (.invokevirtual 210, 3) := dk_182 0 210 (dk_at dksX6_number_1 3 rfl rfl)
theorem dX6_number_30 : decode cX6_number 30 = .ok (.aload_n 0, 1) := dk_42 (dk_at dksX6_number_1 6 rfl rfl)
theorem dX6_number_31 : decode cX6_number 31 = .ok (.getfield 55, 3) := dk_180 0 55 (dk_at dksX6_number_1 7 rfl rfl)
theorem dX6_number_34 : decode cX6_number 34 = .ok (.iload_n 1, 1) := dk_27 (dk_at dksX6_number_1 10 rfl rfl)
theorem dX6_number_35 : decode cX6_number 35 = .ok (.aload_n 0, 1) := dk_42 (dk_at dksX6_number_1 11 rfl rfl)
theorem dX6_number_36 : decode cX6_number 36 = .ok (.getfield 48, 3) := dk_180 0 48 (dk_at dksX6_number_1 12 rfl rfl)
theorem dX6_number_39 : decode cX6_number 39 = .ok (.invokevirtual 214, 3) := dk_182 0 214 (dk_at dksX6_number_1 15 rfl rfl)
theorem dX6_number_42 : decode cX6_number 42 = .ok (.iastore, 1) := dk_79 (dk_at dksX6_number_1 18 rfl rfl)
theorem dX6_number_43 : decode cX6_number 43 = .ok (.aload_n 0, 1) := dk_42 (dk_at dksX6_number_1 19 rfl rfl)
theorem dX6_number_44 : decode cX6_number 44 = .ok (.getfield 12, 3) := dk_180 0 12 (dk_at dksX6_number_1 20 rfl rfl)
theorem dX6_number_47 : decode cX6_number 47 = .ok (.iload_n 3, 1) := dk_29 (dk_at dksX6_number_1 23 rfl rfl)
theorem dX6_number_48 : decode cX6_number 48 = .ok (.aload_n 0, 1) := dk_42 (dk_at dksX6_number_2 0 rfl rfl)
theorem dX6_number_49 : decode cX6_number 49 = .ok (.getfield 48, 3) := dk_180 0 48 (dk_at dksX6_number_2 1 rfl rfl)
theorem dX6_number_52 : decode cX6_number 52 = .ok (.invokevirtual 215, 3) := dk_182 0 215 (dk_at dksX6_number_2 4 rfl rfl)
theorem dX6_number_55 : decode cX6_number 55 = .ok (.aload_n 0, 1) := dk_42 (dk_at dksX6_number_2 7 rfl rfl)
theorem dX6_number_56 : decode cX6_number 56 = .ok (.getfield 59, 3) := dk_180 0 59 (dk_at dksX6_number_2 8 rfl rfl)
theorem dX6_number_59 : decode cX6_number 59 = .ok (.iload_n 1, 1) := dk_27 (dk_at dksX6_number_2 11 rfl rfl)
theorem dX6_number_60 : decode cX6_number 60 = .ok (.aload_n 0, 1) := dk_42 (dk_at dksX6_number_2 12 rfl rfl)
theorem dX6_number_61 : decode cX6_number 61 = .ok (.getfield 48, 3) := dk_180 0 48 (dk_at dksX6_number_2 13 rfl rfl)
theorem dX6_number_64 : decode cX6_number 64 = .ok (.invokevirtual 214, 3) := dk_182 0 214 (dk_at dksX6_number_2 16 rfl rfl)
theorem dX6_number_67 : decode cX6_number 67 = .ok (.iastore, 1) := dk_79 (dk_at dksX6_number_2 19 rfl rfl)
theorem dX6_number_68 : decode cX6_number 68 = .ok (.return_, 1) := dk_177 (dk_at dksX6_number_2 20 rfl rfl)
abbrev cX6_alike : ByteArray := prog_9_method_11_code
def yX6_alike : MethodName := ⟨RX6, "alike", "(II)Z"⟩
def dkwX6_alike_1 : List UInt8 := [28, 46, 42, 180, 0, 59, 28, 46, 182, 0, 219, 154, 0, 7, 4, 167, 0, 4, 3, 172]
abbrev dktX6_alike_1 : List UInt8 := dkwX6_alike_1 ++ []
def dkwX6_alike_0 : List UInt8 := [42, 180, 0, 48, 42, 180, 0, 55, 27, 46, 42, 180, 0, 59, 27, 46, 42, 180, 0, 48, 42, 180, 0, 55]
abbrev dktX6_alike_0 : List UInt8 := dkwX6_alike_0 ++ dktX6_alike_1
theorem dksX6_alike_0 : cX6_alike.data.toList.drop 0 = dktX6_alike_0 := by decide +kernel
theorem dksX6_alike_1 : cX6_alike.data.toList.drop 24 = dktX6_alike_1 := dk_seg dksX6_alike_0 24 rfl rfl
theorem dX6_alike_0 : decode cX6_alike 0 = .ok (.aload_n 0, 1) := dk_42 (dk_at dksX6_alike_0 0 rfl rfl)
theorem dX6_alike_1 : decode cX6_alike 1 = .ok (.getfield 48, 3) := dk_180 0 48 (dk_at dksX6_alike_0 1 rfl rfl)
theorem dX6_alike_4 : decode cX6_alike 4 = .ok (.aload_n 0, 1) := dk_42 (dk_at dksX6_alike_0 4 rfl rfl)
theorem dX6_alike_5 : decode cX6_alike 5 = .ok (.getfield 55, 3) := dk_180 0 55 (dk_at dksX6_alike_0 5 rfl rfl)
theorem dX6_alike_8 : decode cX6_alike 8 = .ok (.iload_n 1, 1) := dk_27 (dk_at dksX6_alike_0 8 rfl rfl)
theorem dX6_alike_9 : decode cX6_alike 9 = .ok (.iaload, 1) := dk_46 (dk_at dksX6_alike_0 9 rfl rfl)
theorem dX6_alike_10 : decode cX6_alike 10 = .ok (.aload_n 0, 1) := dk_42 (dk_at dksX6_alike_0 10 rfl rfl)
theorem dX6_alike_11 : decode cX6_alike 11 = .ok (.getfield 59, 3) := dk_180 0 59 (dk_at dksX6_alike_0 11 rfl rfl)
theorem dX6_alike_14 : decode cX6_alike 14 = .ok (.iload_n 1, 1) := dk_27 (dk_at dksX6_alike_0 14 rfl rfl)
theorem dX6_alike_15 : decode cX6_alike 15 = .ok (.iaload, 1) := dk_46 (dk_at dksX6_alike_0 15 rfl rfl)
theorem dX6_alike_16 : decode cX6_alike 16 = .ok (.aload_n 0, 1) := dk_42 (dk_at dksX6_alike_0 16 rfl rfl)
theorem dX6_alike_17 : decode cX6_alike 17 = .ok (.getfield 48, 3) := dk_180 0 48 (dk_at dksX6_alike_0 17 rfl rfl)
theorem dX6_alike_20 : decode cX6_alike 20 = .ok (.aload_n 0, 1) := dk_42 (dk_at dksX6_alike_0 20 rfl rfl)
theorem dX6_alike_21 : decode cX6_alike 21 = .ok (.getfield 55, 3) := dk_180 0 55 (dk_at dksX6_alike_0 21 rfl rfl)
theorem dX6_alike_24 : decode cX6_alike 24 = .ok (.iload_n 2, 1) := dk_28 (dk_at dksX6_alike_1 0 rfl rfl)
theorem dX6_alike_25 : decode cX6_alike 25 = .ok (.iaload, 1) := dk_46 (dk_at dksX6_alike_1 1 rfl rfl)
theorem dX6_alike_26 : decode cX6_alike 26 = .ok (.aload_n 0, 1) := dk_42 (dk_at dksX6_alike_1 2 rfl rfl)
theorem dX6_alike_27 : decode cX6_alike 27 = .ok (.getfield 59, 3) := dk_180 0 59 (dk_at dksX6_alike_1 3 rfl rfl)
theorem dX6_alike_30 : decode cX6_alike 30 = .ok (.iload_n 2, 1) := dk_28 (dk_at dksX6_alike_1 6 rfl rfl)
theorem dX6_alike_31 : decode cX6_alike 31 = .ok (.iaload, 1) := dk_46 (dk_at dksX6_alike_1 7 rfl rfl)
theorem dX6_alike_32 : decode cX6_alike 32 = .ok (.invokevirtual 219, 3) := dk_182 0 219 (dk_at dksX6_alike_1 8 rfl rfl)
theorem dX6_alike_35 : decode cX6_alike 35 = .ok (.ifCond .ne 7, 3) := dk_154 0 7 (dk_at dksX6_alike_1 11 rfl rfl)
theorem dX6_alike_38 : decode cX6_alike 38 = .ok (.iconst 1, 1) := dk_4 (dk_at dksX6_alike_1 14 rfl rfl)
theorem dX6_alike_39 : decode cX6_alike 39 = .ok (.goto 4, 3) := dk_167 0 4 (dk_at dksX6_alike_1 15 rfl rfl)
theorem dX6_alike_42 : decode cX6_alike 42 = .ok (.iconst 0, 1) := dk_3 (dk_at dksX6_alike_1 18 rfl rfl)
theorem dX6_alike_43 : decode cX6_alike 43 = .ok (.ireturn, 1) := dk_172 (dk_at dksX6_alike_1 19 rfl rfl)
abbrev cX6_small : ByteArray := prog_9_method_13_code
def yX6_small : MethodName := ⟨RX6, "small", "(I)I"⟩
def dkwX6_small_1 : List UInt8 := [180, 0, 48, 29, 182, 0, 234, 128, 61, 132, 3, 1, 167, 255, 229, 28, 172]
abbrev dktX6_small_1 : List UInt8 := dkwX6_small_1 ++ []
def dkwX6_small_0 : List UInt8 := [3, 61, 42, 180, 0, 55, 27, 46, 62, 29, 42, 180, 0, 59, 27, 46, 162, 0, 23, 28, 16, 8, 120, 42]
abbrev dktX6_small_0 : List UInt8 := dkwX6_small_0 ++ dktX6_small_1
theorem dksX6_small_0 : cX6_small.data.toList.drop 0 = dktX6_small_0 := by decide +kernel
theorem dksX6_small_1 : cX6_small.data.toList.drop 24 = dktX6_small_1 := dk_seg dksX6_small_0 24 rfl rfl
theorem dX6_small_0 : decode cX6_small 0 = .ok (.iconst 0, 1) := dk_3 (dk_at dksX6_small_0 0 rfl rfl)
theorem dX6_small_1 : decode cX6_small 1 = .ok (.istore_n 2, 1) := dk_61 (dk_at dksX6_small_0 1 rfl rfl)
theorem dX6_small_2 : decode cX6_small 2 = .ok (.aload_n 0, 1) := dk_42 (dk_at dksX6_small_0 2 rfl rfl)
theorem dX6_small_3 : decode cX6_small 3 = .ok (.getfield 55, 3) := dk_180 0 55 (dk_at dksX6_small_0 3 rfl rfl)
theorem dX6_small_6 : decode cX6_small 6 = .ok (.iload_n 1, 1) := dk_27 (dk_at dksX6_small_0 6 rfl rfl)
theorem dX6_small_7 : decode cX6_small 7 = .ok (.iaload, 1) := dk_46 (dk_at dksX6_small_0 7 rfl rfl)
theorem dX6_small_8 : decode cX6_small 8 = .ok (.istore_n 3, 1) := dk_62 (dk_at dksX6_small_0 8 rfl rfl)
theorem dX6_small_9 : decode cX6_small 9 = .ok (.iload_n 3, 1) := dk_29 (dk_at dksX6_small_0 9 rfl rfl)
theorem dX6_small_10 : decode cX6_small 10 = .ok (.aload_n 0, 1) := dk_42 (dk_at dksX6_small_0 10 rfl rfl)
theorem dX6_small_11 : decode cX6_small 11 = .ok (.getfield 59, 3) := dk_180 0 59 (dk_at dksX6_small_0 11 rfl rfl)
theorem dX6_small_14 : decode cX6_small 14 = .ok (.iload_n 1, 1) := dk_27 (dk_at dksX6_small_0 14 rfl rfl)
theorem dX6_small_15 : decode cX6_small 15 = .ok (.iaload, 1) := dk_46 (dk_at dksX6_small_0 15 rfl rfl)
theorem dX6_small_16 : decode cX6_small 16 = .ok (.if_icmp .ge 23, 3) := dk_162 0 23 (dk_at dksX6_small_0 16 rfl rfl)
theorem dX6_small_19 : decode cX6_small 19 = .ok (.iload_n 2, 1) := dk_28 (dk_at dksX6_small_0 19 rfl rfl)
theorem dX6_small_20 : decode cX6_small 20 = .ok (.bipush 8, 2) := dk_16 8 (dk_at dksX6_small_0 20 rfl rfl)
theorem dX6_small_22 : decode cX6_small 22 = .ok (.ishl, 1) := dk_120 (dk_at dksX6_small_0 22 rfl rfl)
theorem dX6_small_23 : decode cX6_small 23 = .ok (.aload_n 0, 1) := dk_42 (dk_at dksX6_small_0 23 rfl rfl)
theorem dX6_small_24 : decode cX6_small 24 = .ok (.getfield 48, 3) := dk_180 0 48 (dk_at dksX6_small_1 0 rfl rfl)
theorem dX6_small_27 : decode cX6_small 27 = .ok (.iload_n 3, 1) := dk_29 (dk_at dksX6_small_1 3 rfl rfl)
theorem dX6_small_28 : decode cX6_small 28 = .ok (.invokevirtual 234, 3) := dk_182 0 234 (dk_at dksX6_small_1 4 rfl rfl)
theorem dX6_small_31 : decode cX6_small 31 = .ok (.ior, 1) := dk_128 (dk_at dksX6_small_1 7 rfl rfl)
theorem dX6_small_32 : decode cX6_small 32 = .ok (.istore_n 2, 1) := dk_61 (dk_at dksX6_small_1 8 rfl rfl)
theorem dX6_small_33 : decode cX6_small 33 = .ok (.iinc 3 1, 3) := dk_132 3 1 (dk_at dksX6_small_1 9 rfl rfl)
theorem dX6_small_36 : decode cX6_small 36 = .ok (.goto (-27), 3) := dk_167 255 229 (dk_at dksX6_small_1 12 rfl rfl)
theorem dX6_small_39 : decode cX6_small 39 = .ok (.iload_n 2, 1) := dk_28 (dk_at dksX6_small_1 15 rfl rfl)
theorem dX6_small_40 : decode cX6_small 40 = .ok (.ireturn, 1) := dk_172 (dk_at dksX6_small_1 16 rfl rfl)
abbrev cX6_known : ByteArray := prog_9_method_19_code
def yX6_known : MethodName := ⟨RX6, "known", "()Z"⟩
def dkwX6_known_5 : List UInt8 := [167, 255, 145, 42, 180, 0, 96, 154, 0, 7, 4, 167, 0, 4, 3, 172]
abbrev dktX6_known_5 : List UInt8 := dkwX6_known_5 ++ []
def dkwX6_known_4 : List UInt8 := [182, 0, 196, 182, 1, 13, 42, 27, 182, 0, 192, 153, 0, 8, 42, 27, 182, 1, 16, 132, 1, 1]
abbrev dktX6_known_4 : List UInt8 := dkwX6_known_4 ++ dktX6_known_5
def dkwX6_known_3 : List UInt8 := [182, 0, 125, 16, 29, 160, 0, 23, 42, 42, 180, 0, 83, 27, 182, 1, 10, 42, 180, 0, 83, 27]
abbrev dktX6_known_3 : List UInt8 := dkwX6_known_3 ++ dktX6_known_4
def dkwX6_known_2 : List UInt8 := [182, 0, 223, 182, 0, 185, 42, 180, 0, 83, 27, 182, 0, 125, 16, 22, 159, 0, 16, 42, 180, 0, 83, 27]
abbrev dktX6_known_2 : List UInt8 := dkwX6_known_2 ++ dktX6_known_3
def dkwX6_known_1 : List UInt8 := [160, 0, 28, 42, 27, 182, 0, 250, 2, 160, 0, 19, 42, 16, 6, 42, 180, 0, 83, 27, 16, 7]
abbrev dktX6_known_1 : List UInt8 := dkwX6_known_1 ++ dktX6_known_2
def dkwX6_known_0 : List UInt8 := [3, 60, 27, 42, 180, 0, 83, 182, 0, 130, 162, 0, 106, 42, 180, 0, 83, 27, 182, 0, 125, 16, 17]
abbrev dktX6_known_0 : List UInt8 := dkwX6_known_0 ++ dktX6_known_1
theorem dksX6_known_0 : cX6_known.data.toList.drop 0 = dktX6_known_0 := by decide +kernel
theorem dksX6_known_1 : cX6_known.data.toList.drop 23 = dktX6_known_1 := dk_seg dksX6_known_0 23 rfl rfl
theorem dksX6_known_2 : cX6_known.data.toList.drop 45 = dktX6_known_2 := dk_seg dksX6_known_1 22 rfl rfl
theorem dksX6_known_3 : cX6_known.data.toList.drop 69 = dktX6_known_3 := dk_seg dksX6_known_2 24 rfl rfl
theorem dksX6_known_4 : cX6_known.data.toList.drop 91 = dktX6_known_4 := dk_seg dksX6_known_3 22 rfl rfl
theorem dksX6_known_5 : cX6_known.data.toList.drop 113 = dktX6_known_5 := dk_seg dksX6_known_4 22 rfl rfl
theorem dX6_known_0 : decode cX6_known 0 = .ok (.iconst 0, 1) := dk_3 (dk_at dksX6_known_0 0 rfl rfl)
theorem dX6_known_1 : decode cX6_known 1 = .ok (.istore_n 1, 1) := dk_60 (dk_at dksX6_known_0 1 rfl rfl)
theorem dX6_known_2 : decode cX6_known 2 = .ok (.iload_n 1, 1) := dk_27 (dk_at dksX6_known_0 2 rfl rfl)
theorem dX6_known_3 : decode cX6_known 3 = .ok (.aload_n 0, 1) := dk_42 (dk_at dksX6_known_0 3 rfl rfl)
theorem dX6_known_4 : decode cX6_known 4 = .ok (.getfield 83, 3) := dk_180 0 83 (dk_at dksX6_known_0 4 rfl rfl)
theorem dX6_known_7 : decode cX6_known 7 = .ok (.invokevirtual 130, 3) := dk_182 0 130 (dk_at dksX6_known_0 7 rfl rfl)
theorem dX6_known_10 : decode cX6_known 10 = .ok (.if_icmp .ge 106, 3) := dk_162 0 106 (dk_at dksX6_known_0 10 rfl rfl)
theorem dX6_known_13 : decode cX6_known 13 = .ok (.aload_n 0, 1) := dk_42 (dk_at dksX6_known_0 13 rfl rfl)
theorem dX6_known_14 : decode cX6_known 14 = .ok (.getfield 83, 3) := dk_180 0 83 (dk_at dksX6_known_0 14 rfl rfl)
theorem dX6_known_17 : decode cX6_known 17 = .ok (.iload_n 1, 1) := dk_27 (dk_at dksX6_known_0 17 rfl rfl)
theorem dX6_known_18 : decode cX6_known 18 = .ok (.invokevirtual 125, 3) := dk_182 0 125 (dk_at dksX6_known_0 18 rfl rfl)
theorem dX6_known_21 : decode cX6_known 21 = .ok (.bipush 17, 2) := dk_16 17 (dk_at dksX6_known_0 21 rfl rfl)
theorem dX6_known_23 : decode cX6_known 23 = .ok (.if_icmp .ne 28, 3) := dk_160 0 28 (dk_at dksX6_known_1 0 rfl rfl)
theorem dX6_known_26 : decode cX6_known 26 = .ok (.aload_n 0, 1) := dk_42 (dk_at dksX6_known_1 3 rfl rfl)
theorem dX6_known_27 : decode cX6_known 27 = .ok (.iload_n 1, 1) := dk_27 (dk_at dksX6_known_1 4 rfl rfl)
theorem dX6_known_28 : decode cX6_known 28 = .ok (.invokevirtual 250, 3) := dk_182 0 250 (dk_at dksX6_known_1 5 rfl rfl)
theorem dX6_known_31 : decode cX6_known 31 = .ok (.iconst (-1), 1) := dk_2 (dk_at dksX6_known_1 8 rfl rfl)
theorem dX6_known_32 : decode cX6_known 32 = .ok (.if_icmp .ne 19, 3) := dk_160 0 19 (dk_at dksX6_known_1 9 rfl rfl)
theorem dX6_known_35 : decode cX6_known 35 = .ok (.aload_n 0, 1) := dk_42 (dk_at dksX6_known_1 12 rfl rfl)
theorem dX6_known_36 : decode cX6_known 36 = .ok (.bipush 6, 2) := dk_16 6 (dk_at dksX6_known_1 13 rfl rfl)
theorem dX6_known_38 : decode cX6_known 38 = .ok (.aload_n 0, 1) := dk_42 (dk_at dksX6_known_1 15 rfl rfl)
theorem dX6_known_39 : decode cX6_known 39 = .ok (.getfield 83, 3) := dk_180 0 83 (dk_at dksX6_known_1 16 rfl rfl)
theorem dX6_known_42 : decode cX6_known 42 = .ok (.iload_n 1, 1) := dk_27 (dk_at dksX6_known_1 19 rfl rfl)
theorem dX6_known_43 : decode cX6_known 43 = .ok (.bipush 7, 2) := dk_16 7 (dk_at dksX6_known_1 20 rfl rfl)
theorem dX6_known_45 : decode cX6_known 45 = .ok (.invokevirtual 223, 3) := dk_182 0 223 (dk_at dksX6_known_2 0 rfl rfl)
theorem dX6_known_48 : decode cX6_known 48 = .ok (.invokevirtual 185, 3) := dk_182 0 185 (dk_at dksX6_known_2 3 rfl rfl)
theorem dX6_known_51 : decode cX6_known 51 = .ok (.aload_n 0, 1) := dk_42 (dk_at dksX6_known_2 6 rfl rfl)
theorem dX6_known_52 : decode cX6_known 52 = .ok (.getfield 83, 3) := dk_180 0 83 (dk_at dksX6_known_2 7 rfl rfl)
theorem dX6_known_55 : decode cX6_known 55 = .ok (.iload_n 1, 1) := dk_27 (dk_at dksX6_known_2 10 rfl rfl)
theorem dX6_known_56 : decode cX6_known 56 = .ok (.invokevirtual 125, 3) := dk_182 0 125 (dk_at dksX6_known_2 11 rfl rfl)
theorem dX6_known_59 : decode cX6_known 59 = .ok (.bipush 22, 2) := dk_16 22 (dk_at dksX6_known_2 14 rfl rfl)
theorem dX6_known_61 : decode cX6_known 61 = .ok (.if_icmp .eq 16, 3) := dk_159 0 16 (dk_at dksX6_known_2 16 rfl rfl)
theorem dX6_known_64 : decode cX6_known 64 = .ok (.aload_n 0, 1) := dk_42 (dk_at dksX6_known_2 19 rfl rfl)
theorem dX6_known_65 : decode cX6_known 65 = .ok (.getfield 83, 3) := dk_180 0 83 (dk_at dksX6_known_2 20 rfl rfl)
theorem dX6_known_68 : decode cX6_known 68 = .ok (.iload_n 1, 1) := dk_27 (dk_at dksX6_known_2 23 rfl rfl)
theorem dX6_known_69 : decode cX6_known 69 = .ok (.invokevirtual 125, 3) := dk_182 0 125 (dk_at dksX6_known_3 0 rfl rfl)
theorem dX6_known_72 : decode cX6_known 72 = .ok (.bipush 29, 2) := dk_16 29 (dk_at dksX6_known_3 3 rfl rfl)
theorem dX6_known_74 : decode cX6_known 74 = .ok (.if_icmp .ne 23, 3) := dk_160 0 23 (dk_at dksX6_known_3 5 rfl rfl)
theorem dX6_known_77 : decode cX6_known 77 = .ok (.aload_n 0, 1) := dk_42 (dk_at dksX6_known_3 8 rfl rfl)
theorem dX6_known_78 : decode cX6_known 78 = .ok (.aload_n 0, 1) := dk_42 (dk_at dksX6_known_3 9 rfl rfl)
theorem dX6_known_79 : decode cX6_known 79 = .ok (.getfield 83, 3) := dk_180 0 83 (dk_at dksX6_known_3 10 rfl rfl)
theorem dX6_known_82 : decode cX6_known 82 = .ok (.iload_n 1, 1) := dk_27 (dk_at dksX6_known_3 13 rfl rfl)
theorem dX6_known_83 : decode cX6_known 83 = .ok (.invokevirtual 266, 3) := dk_182 1 10 (dk_at dksX6_known_3 14 rfl rfl)
theorem dX6_known_86 : decode cX6_known 86 = .ok (.aload_n 0, 1) := dk_42 (dk_at dksX6_known_3 17 rfl rfl)
theorem dX6_known_87 : decode cX6_known 87 = .ok (.getfield 83, 3) := dk_180 0 83 (dk_at dksX6_known_3 18 rfl rfl)
theorem dX6_known_90 : decode cX6_known 90 = .ok (.iload_n 1, 1) := dk_27 (dk_at dksX6_known_3 21 rfl rfl)
theorem dX6_known_91 : decode cX6_known 91 = .ok (.invokevirtual 196, 3) := dk_182 0 196 (dk_at dksX6_known_4 0 rfl rfl)
theorem dX6_known_94 : decode cX6_known 94 = .ok (.invokevirtual 269, 3) := dk_182 1 13 (dk_at dksX6_known_4 3 rfl rfl)
theorem dX6_known_97 : decode cX6_known 97 = .ok (.aload_n 0, 1) := dk_42 (dk_at dksX6_known_4 6 rfl rfl)
theorem dX6_known_98 : decode cX6_known 98 = .ok (.iload_n 1, 1) := dk_27 (dk_at dksX6_known_4 7 rfl rfl)
theorem dX6_known_99 : decode cX6_known 99 = .ok (.invokevirtual 192, 3) := dk_182 0 192 (dk_at dksX6_known_4 8 rfl rfl)
theorem dX6_known_102 : decode cX6_known 102 = .ok (.ifCond .eq 8, 3) := dk_153 0 8 (dk_at dksX6_known_4 11 rfl rfl)
theorem dX6_known_105 : decode cX6_known 105 = .ok (.aload_n 0, 1) := dk_42 (dk_at dksX6_known_4 14 rfl rfl)
theorem dX6_known_106 : decode cX6_known 106 = .ok (.iload_n 1, 1) := dk_27 (dk_at dksX6_known_4 15 rfl rfl)
theorem dX6_known_107 : decode cX6_known 107 = .ok (.invokevirtual 272, 3) := dk_182 1 16 (dk_at dksX6_known_4 16 rfl rfl)
theorem dX6_known_110 : decode cX6_known 110 = .ok (.iinc 1 1, 3) := dk_132 1 1 (dk_at dksX6_known_4 19 rfl rfl)
theorem dX6_known_113 : decode cX6_known 113 = .ok (.goto (-111), 3) := dk_167 255 145 (dk_at dksX6_known_5 0 rfl rfl)
theorem dX6_known_116 : decode cX6_known 116 = .ok (.aload_n 0, 1) := dk_42 (dk_at dksX6_known_5 3 rfl rfl)
theorem dX6_known_117 : decode cX6_known 117 = .ok (.getfield 96, 3) := dk_180 0 96 (dk_at dksX6_known_5 4 rfl rfl)
theorem dX6_known_120 : decode cX6_known 120 = .ok (.ifCond .ne 7, 3) := dk_154 0 7 (dk_at dksX6_known_5 7 rfl rfl)
theorem dX6_known_123 : decode cX6_known 123 = .ok (.iconst 1, 1) := dk_4 (dk_at dksX6_known_5 10 rfl rfl)
theorem dX6_known_124 : decode cX6_known 124 = .ok (.goto 4, 3) := dk_167 0 4 (dk_at dksX6_known_5 11 rfl rfl)
theorem dX6_known_127 : decode cX6_known 127 = .ok (.iconst 0, 1) := dk_3 (dk_at dksX6_known_5 14 rfl rfl)
theorem dX6_known_128 : decode cX6_known 128 = .ok (.ireturn, 1) := dk_172 (dk_at dksX6_known_5 15 rfl rfl)
abbrev cX6_assignedType : ByteArray := prog_9_method_14_code
def yX6_assignedType : MethodName := ⟨RX6, "assignedType", "(I)I"⟩
def dkwX6_assignedType_1 : List UInt8 := [167, 0, 11, 42, 180, 0, 83, 28, 182, 0, 196, 172]
abbrev dktX6_assignedType_1 : List UInt8 := dkwX6_assignedType_1 ++ []
def dkwX6_assignedType_0 : List UInt8 := [42, 180, 0, 28, 42, 180, 0, 83, 27, 16, 7, 182, 0, 223, 182, 0, 245, 61, 28, 2, 160, 0, 7, 2]
abbrev dktX6_assignedType_0 : List UInt8 := dkwX6_assignedType_0 ++ dktX6_assignedType_1
theorem dksX6_assignedType_0 : cX6_assignedType.data.toList.drop 0 = dktX6_assignedType_0 := by decide +kernel
theorem dksX6_assignedType_1 : cX6_assignedType.data.toList.drop 24 = dktX6_assignedType_1 := dk_seg dksX6_assignedType_0 24 rfl rfl
theorem dX6_assignedType_0 : decode cX6_assignedType 0 = .ok (.aload_n 0, 1) := dk_42 (dk_at dksX6_assignedType_0 0 rfl rfl)
theorem dX6_assignedType_1 : decode cX6_assignedType 1 = .ok (.getfield 28, 3) := dk_180 0 28 (dk_at dksX6_assignedType_0 1 rfl rfl)
theorem dX6_assignedType_4 : decode cX6_assignedType 4 = .ok (.aload_n 0, 1) := dk_42 (dk_at dksX6_assignedType_0 4 rfl rfl)
theorem dX6_assignedType_5 : decode cX6_assignedType 5 = .ok (.getfield 83, 3) := dk_180 0 83 (dk_at dksX6_assignedType_0 5 rfl rfl)
theorem dX6_assignedType_8 : decode cX6_assignedType 8 = .ok (.iload_n 1, 1) := dk_27 (dk_at dksX6_assignedType_0 8 rfl rfl)
theorem dX6_assignedType_9 : decode cX6_assignedType 9 = .ok (.bipush 7, 2) := dk_16 7 (dk_at dksX6_assignedType_0 9 rfl rfl)
theorem dX6_assignedType_11 : decode cX6_assignedType 11 = .ok (.invokevirtual 223, 3) := dk_182 0 223 (dk_at dksX6_assignedType_0 11 rfl rfl)
theorem dX6_assignedType_14 : decode cX6_assignedType 14 = .ok (.invokevirtual 245, 3) := dk_182 0 245 (dk_at dksX6_assignedType_0 14 rfl rfl)
theorem dX6_assignedType_17 : decode cX6_assignedType 17 = .ok (.istore_n 2, 1) := dk_61 (dk_at dksX6_assignedType_0 17 rfl rfl)
theorem dX6_assignedType_18 : decode cX6_assignedType 18 = .ok (.iload_n 2, 1) := dk_28 (dk_at dksX6_assignedType_0 18 rfl rfl)
theorem dX6_assignedType_19 : decode cX6_assignedType 19 = .ok (.iconst (-1), 1) := dk_2 (dk_at dksX6_assignedType_0 19 rfl rfl)
theorem dX6_assignedType_20 : decode cX6_assignedType 20 = .ok (.if_icmp .ne 7, 3) := dk_160 0 7 (dk_at dksX6_assignedType_0 20 rfl rfl)
theorem dX6_assignedType_23 : decode cX6_assignedType 23 = .ok (.iconst (-1), 1) := dk_2 (dk_at dksX6_assignedType_0 23 rfl rfl)
theorem dX6_assignedType_24 : decode cX6_assignedType 24 = .ok (.goto 11, 3) := dk_167 0 11 (dk_at dksX6_assignedType_1 0 rfl rfl)
theorem dX6_assignedType_27 : decode cX6_assignedType 27 = .ok (.aload_n 0, 1) := dk_42 (dk_at dksX6_assignedType_1 3 rfl rfl)
theorem dX6_assignedType_28 : decode cX6_assignedType 28 = .ok (.getfield 83, 3) := dk_180 0 83 (dk_at dksX6_assignedType_1 4 rfl rfl)
theorem dX6_assignedType_31 : decode cX6_assignedType 31 = .ok (.iload_n 2, 1) := dk_28 (dk_at dksX6_assignedType_1 7 rfl rfl)
theorem dX6_assignedType_32 : decode cX6_assignedType 32 = .ok (.invokevirtual 196, 3) := dk_182 0 196 (dk_at dksX6_assignedType_1 8 rfl rfl)
theorem dX6_assignedType_35 : decode cX6_assignedType 35 = .ok (.ireturn, 1) := dk_172 (dk_at dksX6_assignedType_1 11 rfl rfl)
abbrev cX6_knownValue : ByteArray := prog_9_method_18_code
def yX6_knownValue : MethodName := ⟨RX6, "knownValue", "(II)V"⟩
def dkwX6_knownValue_2 : List UInt8 := [182, 0, 245, 2, 160, 0, 17, 42, 16, 6, 42, 180, 0, 83, 27, 182, 0, 178, 182, 0, 185, 177]
abbrev dktX6_knownValue_2 : List UInt8 := dkwX6_knownValue_2 ++ []
def dkwX6_knownValue_1 : List UInt8 := [27, 182, 0, 178, 4, 182, 1, 6, 2, 160, 0, 36, 42, 180, 0, 32, 42, 180, 0, 83, 27, 182, 0, 178]
abbrev dktX6_knownValue_1 : List UInt8 := dkwX6_knownValue_1 ++ dktX6_knownValue_2
def dkwX6_knownValue_0 : List UInt8 := [27, 2, 159, 0, 67, 42, 180, 0, 83, 27, 8, 182, 0, 223, 7, 160, 0, 54, 42, 28, 42, 180, 0, 83]
abbrev dktX6_knownValue_0 : List UInt8 := dkwX6_knownValue_0 ++ dktX6_knownValue_1
theorem dksX6_knownValue_0 : cX6_knownValue.data.toList.drop 0 = dktX6_knownValue_0 := by decide +kernel
theorem dksX6_knownValue_1 : cX6_knownValue.data.toList.drop 24 = dktX6_knownValue_1 := dk_seg dksX6_knownValue_0 24 rfl rfl
theorem dksX6_knownValue_2 : cX6_knownValue.data.toList.drop 48 = dktX6_knownValue_2 := dk_seg dksX6_knownValue_1 24 rfl rfl
theorem dX6_knownValue_0 : decode cX6_knownValue 0 = .ok (.iload_n 1, 1) := dk_27 (dk_at dksX6_knownValue_0 0 rfl rfl)
theorem dX6_knownValue_1 : decode cX6_knownValue 1 = .ok (.iconst (-1), 1) := dk_2 (dk_at dksX6_knownValue_0 1 rfl rfl)
theorem dX6_knownValue_2 : decode cX6_knownValue 2 = .ok (.if_icmp .eq 67, 3) := dk_159 0 67 (dk_at dksX6_knownValue_0 2 rfl rfl)
theorem dX6_knownValue_5 : decode cX6_knownValue 5 = .ok (.aload_n 0, 1) := dk_42 (dk_at dksX6_knownValue_0 5 rfl rfl)
theorem dX6_knownValue_6 : decode cX6_knownValue 6 = .ok (.getfield 83, 3) := dk_180 0 83 (dk_at dksX6_knownValue_0 6 rfl rfl)
theorem dX6_knownValue_9 : decode cX6_knownValue 9 = .ok (.iload_n 1, 1) := dk_27 (dk_at dksX6_knownValue_0 9 rfl rfl)
theorem dX6_knownValue_10 : decode cX6_knownValue 10 = .ok (.iconst 5, 1) := dk_8 (dk_at dksX6_knownValue_0 10 rfl rfl)
theorem dX6_knownValue_11 : decode cX6_knownValue 11 = .ok (.invokevirtual 223, 3) := dk_182 0 223 (dk_at dksX6_knownValue_0 11 rfl rfl)
theorem dX6_knownValue_14 : decode cX6_knownValue 14 = .ok (.iconst 4, 1) := dk_7 (dk_at dksX6_knownValue_0 14 rfl rfl)
theorem dX6_knownValue_15 : decode cX6_knownValue 15 = .ok (.if_icmp .ne 54, 3) := dk_160 0 54 (dk_at dksX6_knownValue_0 15 rfl rfl)
theorem dX6_knownValue_18 : decode cX6_knownValue 18 = .ok (.aload_n 0, 1) := dk_42 (dk_at dksX6_knownValue_0 18 rfl rfl)
theorem dX6_knownValue_19 : decode cX6_knownValue 19 = .ok (.iload_n 2, 1) := dk_28 (dk_at dksX6_knownValue_0 19 rfl rfl)
theorem dX6_knownValue_20 : decode cX6_knownValue 20 = .ok (.aload_n 0, 1) := dk_42 (dk_at dksX6_knownValue_0 20 rfl rfl)
theorem dX6_knownValue_21 : decode cX6_knownValue 21 = .ok (.getfield 83, 3) := dk_180 0 83 (dk_at dksX6_knownValue_0 21 rfl rfl)
theorem dX6_knownValue_24 : decode cX6_knownValue 24 = .ok (.iload_n 1, 1) := dk_27 (dk_at dksX6_knownValue_1 0 rfl rfl)
theorem dX6_knownValue_25 : decode cX6_knownValue 25 = .ok (.invokevirtual 178, 3) := dk_182 0 178 (dk_at dksX6_knownValue_1 1 rfl rfl)
theorem dX6_knownValue_28 : decode cX6_knownValue 28 = .ok (.iconst 1, 1) := dk_4 (dk_at dksX6_knownValue_1 4 rfl rfl)
theorem dX6_knownValue_29 : decode cX6_knownValue 29 = .ok (.invokevirtual 262, 3) := dk_182 1 6 (dk_at dksX6_knownValue_1 5 rfl rfl)
theorem dX6_knownValue_32 : decode cX6_knownValue 32 = .ok (.iconst (-1), 1) := dk_2 (dk_at dksX6_knownValue_1 8 rfl rfl)
theorem dX6_knownValue_33 : decode cX6_knownValue 33 = .ok (.if_icmp .ne 36, 3) := dk_160 0 36 (dk_at dksX6_knownValue_1 9 rfl rfl)
theorem dX6_knownValue_36 : decode cX6_knownValue 36 = .ok (.aload_n 0, 1) := dk_42 (dk_at dksX6_knownValue_1 12 rfl rfl)
theorem dX6_knownValue_37 : decode cX6_knownValue 37 = .ok (.getfield 32, 3) := dk_180 0 32 (dk_at dksX6_knownValue_1 13 rfl rfl)
theorem dX6_knownValue_40 : decode cX6_knownValue 40 = .ok (.aload_n 0, 1) := dk_42 (dk_at dksX6_knownValue_1 16 rfl rfl)
theorem dX6_knownValue_41 : decode cX6_knownValue 41 = .ok (.getfield 83, 3) := dk_180 0 83 (dk_at dksX6_knownValue_1 17 rfl rfl)
theorem dX6_knownValue_44 : decode cX6_knownValue 44 = .ok (.iload_n 1, 1) := dk_27 (dk_at dksX6_knownValue_1 20 rfl rfl)
theorem dX6_knownValue_45 : decode cX6_knownValue 45 = .ok (.invokevirtual 178, 3) := dk_182 0 178 (dk_at dksX6_knownValue_1 21 rfl rfl)
theorem dX6_knownValue_48 : decode cX6_knownValue 48 = .ok (.invokevirtual 245, 3) := dk_182 0 245 (dk_at dksX6_knownValue_2 0 rfl rfl)
theorem dX6_knownValue_51 : decode cX6_knownValue 51 = .ok (.iconst (-1), 1) := dk_2 (dk_at dksX6_knownValue_2 3 rfl rfl)
theorem dX6_knownValue_52 : decode cX6_knownValue 52 = .ok (.if_icmp .ne 17, 3) := dk_160 0 17 (dk_at dksX6_knownValue_2 4 rfl rfl)
theorem dX6_knownValue_55 : decode cX6_knownValue 55 = .ok (.aload_n 0, 1) := dk_42 (dk_at dksX6_knownValue_2 7 rfl rfl)
theorem dX6_knownValue_56 : decode cX6_knownValue 56 = .ok (.bipush 6, 2) := dk_16 6 (dk_at dksX6_knownValue_2 8 rfl rfl)
theorem dX6_knownValue_58 : decode cX6_knownValue 58 = .ok (.aload_n 0, 1) := dk_42 (dk_at dksX6_knownValue_2 10 rfl rfl)
theorem dX6_knownValue_59 : decode cX6_knownValue 59 = .ok (.getfield 83, 3) := dk_180 0 83 (dk_at dksX6_knownValue_2 11 rfl rfl)
theorem dX6_knownValue_62 : decode cX6_knownValue 62 = .ok (.iload_n 1, 1) := dk_27 (dk_at dksX6_knownValue_2 14 rfl rfl)
theorem dX6_knownValue_63 : decode cX6_knownValue 63 = .ok (.invokevirtual 178, 3) := dk_182 0 178 (dk_at dksX6_knownValue_2 15 rfl rfl)
theorem dX6_knownValue_66 : decode cX6_knownValue 66 = .ok (.invokevirtual 185, 3) := dk_182 0 185 (dk_at dksX6_knownValue_2 18 rfl rfl)
theorem dX6_knownValue_69 : decode cX6_knownValue 69 = .ok (.return_, 1) := dk_177 (dk_at dksX6_knownValue_2 21 rfl rfl)
abbrev cX6_itemOf : ByteArray := prog_9_method_17_code
def yX6_itemOf : MethodName := ⟨RX6, "itemOf", "(IIZ)I"⟩
def dkwX6_itemOf_2 : List UInt8 := [3, 54, 5, 21, 5, 153, 0, 13, 42, 21, 4, 28, 182, 1, 3, 167, 0, 4, 2, 172]
abbrev dktX6_itemOf_2 : List UInt8 := dkwX6_itemOf_2 ++ []
def dkwX6_itemOf_1 : List UInt8 := [159, 0, 20, 29, 153, 0, 20, 42, 180, 0, 83, 21, 4, 182, 0, 125, 6, 160, 0, 7, 4, 167, 0, 4]
abbrev dktX6_itemOf_1 : List UInt8 := dkwX6_itemOf_1 ++ dktX6_itemOf_2
def dkwX6_itemOf_0 : List UInt8 := [42, 27, 182, 1, 0, 54, 4, 21, 4, 2, 159, 0, 37, 42, 180, 0, 83, 21, 4, 182, 0, 125, 5]
abbrev dktX6_itemOf_0 : List UInt8 := dkwX6_itemOf_0 ++ dktX6_itemOf_1
theorem dksX6_itemOf_0 : cX6_itemOf.data.toList.drop 0 = dktX6_itemOf_0 := by decide +kernel
theorem dksX6_itemOf_1 : cX6_itemOf.data.toList.drop 23 = dktX6_itemOf_1 := dk_seg dksX6_itemOf_0 23 rfl rfl
theorem dksX6_itemOf_2 : cX6_itemOf.data.toList.drop 47 = dktX6_itemOf_2 := dk_seg dksX6_itemOf_1 24 rfl rfl
theorem dX6_itemOf_0 : decode cX6_itemOf 0 = .ok (.aload_n 0, 1) := dk_42 (dk_at dksX6_itemOf_0 0 rfl rfl)
theorem dX6_itemOf_1 : decode cX6_itemOf 1 = .ok (.iload_n 1, 1) := dk_27 (dk_at dksX6_itemOf_0 1 rfl rfl)
theorem dX6_itemOf_2 : decode cX6_itemOf 2 = .ok (.invokevirtual 256, 3) := dk_182 1 0 (dk_at dksX6_itemOf_0 2 rfl rfl)
theorem dX6_itemOf_5 : decode cX6_itemOf 5 = .ok (.istore 4, 2) := dk_54 4 (dk_at dksX6_itemOf_0 5 rfl rfl)
theorem dX6_itemOf_7 : decode cX6_itemOf 7 = .ok (.iload 4, 2) := dk_21 4 (dk_at dksX6_itemOf_0 7 rfl rfl)
theorem dX6_itemOf_9 : decode cX6_itemOf 9 = .ok (.iconst (-1), 1) := dk_2 (dk_at dksX6_itemOf_0 9 rfl rfl)
theorem dX6_itemOf_10 : decode cX6_itemOf 10 = .ok (.if_icmp .eq 37, 3) := dk_159 0 37 (dk_at dksX6_itemOf_0 10 rfl rfl)
theorem dX6_itemOf_13 : decode cX6_itemOf 13 = .ok (.aload_n 0, 1) := dk_42 (dk_at dksX6_itemOf_0 13 rfl rfl)
theorem dX6_itemOf_14 : decode cX6_itemOf 14 = .ok (.getfield 83, 3) := dk_180 0 83 (dk_at dksX6_itemOf_0 14 rfl rfl)
theorem dX6_itemOf_17 : decode cX6_itemOf 17 = .ok (.iload 4, 2) := dk_21 4 (dk_at dksX6_itemOf_0 17 rfl rfl)
theorem dX6_itemOf_19 : decode cX6_itemOf 19 = .ok (.invokevirtual 125, 3) := dk_182 0 125 (dk_at dksX6_itemOf_0 19 rfl rfl)
theorem dX6_itemOf_22 : decode cX6_itemOf 22 = .ok (.iconst 2, 1) := dk_5 (dk_at dksX6_itemOf_0 22 rfl rfl)
theorem dX6_itemOf_23 : decode cX6_itemOf 23 = .ok (.if_icmp .eq 20, 3) := dk_159 0 20 (dk_at dksX6_itemOf_1 0 rfl rfl)
theorem dX6_itemOf_26 : decode cX6_itemOf 26 = .ok (.iload_n 3, 1) := dk_29 (dk_at dksX6_itemOf_1 3 rfl rfl)
theorem dX6_itemOf_27 : decode cX6_itemOf 27 = .ok (.ifCond .eq 20, 3) := dk_153 0 20 (dk_at dksX6_itemOf_1 4 rfl rfl)
theorem dX6_itemOf_30 : decode cX6_itemOf 30 = .ok (.aload_n 0, 1) := dk_42 (dk_at dksX6_itemOf_1 7 rfl rfl)
theorem dX6_itemOf_31 : decode cX6_itemOf 31 = .ok (.getfield 83, 3) := dk_180 0 83 (dk_at dksX6_itemOf_1 8 rfl rfl)
theorem dX6_itemOf_34 : decode cX6_itemOf 34 = .ok (.iload 4, 2) := dk_21 4 (dk_at dksX6_itemOf_1 11 rfl rfl)
theorem dX6_itemOf_36 : decode cX6_itemOf 36 = .ok (.invokevirtual 125, 3) := dk_182 0 125 (dk_at dksX6_itemOf_1 13 rfl rfl)
theorem dX6_itemOf_39 : decode cX6_itemOf 39 = .ok (.iconst 3, 1) := dk_6 (dk_at dksX6_itemOf_1 16 rfl rfl)
theorem dX6_itemOf_40 : decode cX6_itemOf 40 = .ok (.if_icmp .ne 7, 3) := dk_160 0 7 (dk_at dksX6_itemOf_1 17 rfl rfl)
theorem dX6_itemOf_43 : decode cX6_itemOf 43 = .ok (.iconst 1, 1) := dk_4 (dk_at dksX6_itemOf_1 20 rfl rfl)
theorem dX6_itemOf_44 : decode cX6_itemOf 44 = .ok (.goto 4, 3) := dk_167 0 4 (dk_at dksX6_itemOf_1 21 rfl rfl)
theorem dX6_itemOf_47 : decode cX6_itemOf 47 = .ok (.iconst 0, 1) := dk_3 (dk_at dksX6_itemOf_2 0 rfl rfl)
theorem dX6_itemOf_48 : decode cX6_itemOf 48 = .ok (.istore 5, 2) := dk_54 5 (dk_at dksX6_itemOf_2 1 rfl rfl)
theorem dX6_itemOf_50 : decode cX6_itemOf 50 = .ok (.iload 5, 2) := dk_21 5 (dk_at dksX6_itemOf_2 3 rfl rfl)
theorem dX6_itemOf_52 : decode cX6_itemOf 52 = .ok (.ifCond .eq 13, 3) := dk_153 0 13 (dk_at dksX6_itemOf_2 5 rfl rfl)
theorem dX6_itemOf_55 : decode cX6_itemOf 55 = .ok (.aload_n 0, 1) := dk_42 (dk_at dksX6_itemOf_2 8 rfl rfl)
theorem dX6_itemOf_56 : decode cX6_itemOf 56 = .ok (.iload 4, 2) := dk_21 4 (dk_at dksX6_itemOf_2 9 rfl rfl)
theorem dX6_itemOf_58 : decode cX6_itemOf 58 = .ok (.iload_n 2, 1) := dk_28 (dk_at dksX6_itemOf_2 11 rfl rfl)
theorem dX6_itemOf_59 : decode cX6_itemOf 59 = .ok (.invokevirtual 259, 3) := dk_182 1 3 (dk_at dksX6_itemOf_2 12 rfl rfl)
theorem dX6_itemOf_62 : decode cX6_itemOf 62 = .ok (.goto 4, 3) := dk_167 0 4 (dk_at dksX6_itemOf_2 15 rfl rfl)
theorem dX6_itemOf_65 : decode cX6_itemOf 65 = .ok (.iconst (-1), 1) := dk_2 (dk_at dksX6_itemOf_2 18 rfl rfl)
theorem dX6_itemOf_66 : decode cX6_itemOf 66 = .ok (.ireturn, 1) := dk_172 (dk_at dksX6_itemOf_2 19 rfl rfl)
abbrev cX6_base : ByteArray := prog_9_method_15_code
def yX6_base : MethodName := ⟨RX6, "base", "(I)I"⟩
def dkwX6_base_3 : List UInt8 := [167, 255, 214, 42, 180, 0, 71, 27, 28, 79, 28, 172]
abbrev dktX6_base_3 : List UInt8 := dkwX6_base_3 ++ []
def dkwX6_base_2 : List UInt8 := [42, 180, 0, 83, 180, 0, 248, 164, 0, 7, 2, 167, 0, 8, 42, 28, 182, 0, 250, 61, 132, 3, 1]
abbrev dktX6_base_2 : List UInt8 := dkwX6_base_2 ++ dktX6_base_3
def dkwX6_base_1 : List UInt8 := [172, 27, 61, 3, 62, 28, 2, 159, 0, 43, 42, 180, 0, 83, 28, 182, 0, 125, 16, 17, 160, 0, 30, 29]
abbrev dktX6_base_1 : List UInt8 := dkwX6_base_1 ++ dktX6_base_2
def dkwX6_base_0 : List UInt8 := [27, 2, 160, 0, 5, 2, 172, 42, 180, 0, 71, 27, 46, 16, 254, 159, 0, 10, 42, 180, 0, 71, 27, 46]
abbrev dktX6_base_0 : List UInt8 := dkwX6_base_0 ++ dktX6_base_1
theorem dksX6_base_0 : cX6_base.data.toList.drop 0 = dktX6_base_0 := by decide +kernel
theorem dksX6_base_1 : cX6_base.data.toList.drop 24 = dktX6_base_1 := dk_seg dksX6_base_0 24 rfl rfl
theorem dksX6_base_2 : cX6_base.data.toList.drop 48 = dktX6_base_2 := dk_seg dksX6_base_1 24 rfl rfl
theorem dksX6_base_3 : cX6_base.data.toList.drop 71 = dktX6_base_3 := dk_seg dksX6_base_2 23 rfl rfl
theorem dX6_base_0 : decode cX6_base 0 = .ok (.iload_n 1, 1) := dk_27 (dk_at dksX6_base_0 0 rfl rfl)
theorem dX6_base_1 : decode cX6_base 1 = .ok (.iconst (-1), 1) := dk_2 (dk_at dksX6_base_0 1 rfl rfl)
theorem dX6_base_2 : decode cX6_base 2 = .ok (.if_icmp .ne 5, 3) := dk_160 0 5 (dk_at dksX6_base_0 2 rfl rfl)
theorem dX6_base_5 : decode cX6_base 5 = .ok (.iconst (-1), 1) := dk_2 (dk_at dksX6_base_0 5 rfl rfl)
theorem dX6_base_6 : decode cX6_base 6 = .ok (.ireturn, 1) := dk_172 (dk_at dksX6_base_0 6 rfl rfl)
theorem dX6_base_7 : decode cX6_base 7 = .ok (.aload_n 0, 1) := dk_42 (dk_at dksX6_base_0 7 rfl rfl)
theorem dX6_base_8 : decode cX6_base 8 = .ok (.getfield 71, 3) := dk_180 0 71 (dk_at dksX6_base_0 8 rfl rfl)
theorem dX6_base_11 : decode cX6_base 11 = .ok (.iload_n 1, 1) := dk_27 (dk_at dksX6_base_0 11 rfl rfl)
theorem dX6_base_12 : decode cX6_base 12 = .ok (.iaload, 1) := dk_46 (dk_at dksX6_base_0 12 rfl rfl)
theorem dX6_base_13 : decode cX6_base 13 = .ok (.bipush (-2), 2) := dk_16 254 (dk_at dksX6_base_0 13 rfl rfl)
theorem dX6_base_15 : decode cX6_base 15 = .ok (.if_icmp .eq 10, 3) := dk_159 0 10 (dk_at dksX6_base_0 15 rfl rfl)
theorem dX6_base_18 : decode cX6_base 18 = .ok (.aload_n 0, 1) := dk_42 (dk_at dksX6_base_0 18 rfl rfl)
theorem dX6_base_19 : decode cX6_base 19 = .ok (.getfield 71, 3) := dk_180 0 71 (dk_at dksX6_base_0 19 rfl rfl)
theorem dX6_base_22 : decode cX6_base 22 = .ok (.iload_n 1, 1) := dk_27 (dk_at dksX6_base_0 22 rfl rfl)
theorem dX6_base_23 : decode cX6_base 23 = .ok (.iaload, 1) := dk_46 (dk_at dksX6_base_0 23 rfl rfl)
theorem dX6_base_24 : decode cX6_base 24 = .ok (.ireturn, 1) := dk_172 (dk_at dksX6_base_1 0 rfl rfl)
theorem dX6_base_25 : decode cX6_base 25 = .ok (.iload_n 1, 1) := dk_27 (dk_at dksX6_base_1 1 rfl rfl)
theorem dX6_base_26 : decode cX6_base 26 = .ok (.istore_n 2, 1) := dk_61 (dk_at dksX6_base_1 2 rfl rfl)
theorem dX6_base_27 : decode cX6_base 27 = .ok (.iconst 0, 1) := dk_3 (dk_at dksX6_base_1 3 rfl rfl)
theorem dX6_base_28 : decode cX6_base 28 = .ok (.istore_n 3, 1) := dk_62 (dk_at dksX6_base_1 4 rfl rfl)
theorem dX6_base_29 : decode cX6_base 29 = .ok (.iload_n 2, 1) := dk_28 (dk_at dksX6_base_1 5 rfl rfl)
theorem dX6_base_30 : decode cX6_base 30 = .ok (.iconst (-1), 1) := dk_2 (dk_at dksX6_base_1 6 rfl rfl)
theorem dX6_base_31 : decode cX6_base 31 = .ok (.if_icmp .eq 43, 3) := dk_159 0 43 (dk_at dksX6_base_1 7 rfl rfl)
theorem dX6_base_34 : decode cX6_base 34 = .ok (.aload_n 0, 1) := dk_42 (dk_at dksX6_base_1 10 rfl rfl)
theorem dX6_base_35 : decode cX6_base 35 = .ok (.getfield 83, 3) := dk_180 0 83 (dk_at dksX6_base_1 11 rfl rfl)
theorem dX6_base_38 : decode cX6_base 38 = .ok (.iload_n 2, 1) := dk_28 (dk_at dksX6_base_1 14 rfl rfl)
theorem dX6_base_39 : decode cX6_base 39 = .ok (.invokevirtual 125, 3) := dk_182 0 125 (dk_at dksX6_base_1 15 rfl rfl)
theorem dX6_base_42 : decode cX6_base 42 = .ok (.bipush 17, 2) := dk_16 17 (dk_at dksX6_base_1 18 rfl rfl)
theorem dX6_base_44 : decode cX6_base 44 = .ok (.if_icmp .ne 30, 3) := dk_160 0 30 (dk_at dksX6_base_1 20 rfl rfl)
theorem dX6_base_47 : decode cX6_base 47 = .ok (.iload_n 3, 1) := dk_29 (dk_at dksX6_base_1 23 rfl rfl)
theorem dX6_base_48 : decode cX6_base 48 = .ok (.aload_n 0, 1) := dk_42 (dk_at dksX6_base_2 0 rfl rfl)
theorem dX6_base_49 : decode cX6_base 49 = .ok (.getfield 83, 3) := dk_180 0 83 (dk_at dksX6_base_2 1 rfl rfl)
theorem dX6_base_52 : decode cX6_base 52 = .ok (.getfield 248, 3) := dk_180 0 248 (dk_at dksX6_base_2 4 rfl rfl)
theorem dX6_base_55 : decode cX6_base 55 = .ok (.if_icmp .le 7, 3) := dk_164 0 7 (dk_at dksX6_base_2 7 rfl rfl)
theorem dX6_base_58 : decode cX6_base 58 = .ok (.iconst (-1), 1) := dk_2 (dk_at dksX6_base_2 10 rfl rfl)
theorem dX6_base_59 : decode cX6_base 59 = .ok (.goto 8, 3) := dk_167 0 8 (dk_at dksX6_base_2 11 rfl rfl)
theorem dX6_base_62 : decode cX6_base 62 = .ok (.aload_n 0, 1) := dk_42 (dk_at dksX6_base_2 14 rfl rfl)
theorem dX6_base_63 : decode cX6_base 63 = .ok (.iload_n 2, 1) := dk_28 (dk_at dksX6_base_2 15 rfl rfl)
theorem dX6_base_64 : decode cX6_base 64 = .ok (.invokevirtual 250, 3) := dk_182 0 250 (dk_at dksX6_base_2 16 rfl rfl)
theorem dX6_base_67 : decode cX6_base 67 = .ok (.istore_n 2, 1) := dk_61 (dk_at dksX6_base_2 19 rfl rfl)
theorem dX6_base_68 : decode cX6_base 68 = .ok (.iinc 3 1, 3) := dk_132 3 1 (dk_at dksX6_base_2 20 rfl rfl)
theorem dX6_base_71 : decode cX6_base 71 = .ok (.goto (-42), 3) := dk_167 255 214 (dk_at dksX6_base_3 0 rfl rfl)
theorem dX6_base_74 : decode cX6_base 74 = .ok (.aload_n 0, 1) := dk_42 (dk_at dksX6_base_3 3 rfl rfl)
theorem dX6_base_75 : decode cX6_base 75 = .ok (.getfield 71, 3) := dk_180 0 71 (dk_at dksX6_base_3 4 rfl rfl)
theorem dX6_base_78 : decode cX6_base 78 = .ok (.iload_n 1, 1) := dk_27 (dk_at dksX6_base_3 7 rfl rfl)
theorem dX6_base_79 : decode cX6_base 79 = .ok (.iload_n 2, 1) := dk_28 (dk_at dksX6_base_3 8 rfl rfl)
theorem dX6_base_80 : decode cX6_base 80 = .ok (.iastore, 1) := dk_79 (dk_at dksX6_base_3 9 rfl rfl)
theorem dX6_base_81 : decode cX6_base 81 = .ok (.iload_n 2, 1) := dk_28 (dk_at dksX6_base_3 10 rfl rfl)
theorem dX6_base_82 : decode cX6_base 82 = .ok (.ireturn, 1) := dk_172 (dk_at dksX6_base_3 11 rfl rfl)
abbrev cX6_item : ByteArray := prog_9_method_16_code
def yX6_item : MethodName := ⟨RX6, "item", "(II)I"⟩
def dkwX6_item_3 : List UInt8 := [182, 0, 253, 154, 0, 15, 42, 180, 0, 83, 29, 182, 0, 189, 62, 167, 255, 223, 29, 172]
abbrev dktX6_item_3 : List UInt8 := dkwX6_item_3 ++ []
def dkwX6_item_2 : List UInt8 := [182, 0, 196, 62, 29, 2, 159, 0, 34, 42, 180, 0, 103, 42, 180, 0, 83, 29, 182, 0, 178, 28]
abbrev dktX6_item_2 : List UInt8 := dkwX6_item_2 ++ dktX6_item_3
def dkwX6_item_1 : List UInt8 := [180, 0, 83, 27, 182, 0, 196, 182, 0, 125, 16, 21, 159, 0, 5, 2, 172, 42, 180, 0, 83, 27]
abbrev dktX6_item_1 : List UInt8 := dkwX6_item_1 ++ dktX6_item_2
def dkwX6_item_0 : List UInt8 := [27, 2, 159, 0, 35, 42, 180, 0, 83, 27, 182, 0, 196, 2, 159, 0, 23, 42, 180, 0, 83, 42]
abbrev dktX6_item_0 : List UInt8 := dkwX6_item_0 ++ dktX6_item_1
theorem dksX6_item_0 : cX6_item.data.toList.drop 0 = dktX6_item_0 := by decide +kernel
theorem dksX6_item_1 : cX6_item.data.toList.drop 22 = dktX6_item_1 := dk_seg dksX6_item_0 22 rfl rfl
theorem dksX6_item_2 : cX6_item.data.toList.drop 44 = dktX6_item_2 := dk_seg dksX6_item_1 22 rfl rfl
theorem dksX6_item_3 : cX6_item.data.toList.drop 66 = dktX6_item_3 := dk_seg dksX6_item_2 22 rfl rfl
theorem dX6_item_0 : decode cX6_item 0 = .ok (.iload_n 1, 1) := dk_27 (dk_at dksX6_item_0 0 rfl rfl)
theorem dX6_item_1 : decode cX6_item 1 = .ok (.iconst (-1), 1) := dk_2 (dk_at dksX6_item_0 1 rfl rfl)
theorem dX6_item_2 : decode cX6_item 2 = .ok (.if_icmp .eq 35, 3) := dk_159 0 35 (dk_at dksX6_item_0 2 rfl rfl)
theorem dX6_item_5 : decode cX6_item 5 = .ok (.aload_n 0, 1) := dk_42 (dk_at dksX6_item_0 5 rfl rfl)
theorem dX6_item_6 : decode cX6_item 6 = .ok (.getfield 83, 3) := dk_180 0 83 (dk_at dksX6_item_0 6 rfl rfl)
theorem dX6_item_9 : decode cX6_item 9 = .ok (.iload_n 1, 1) := dk_27 (dk_at dksX6_item_0 9 rfl rfl)
theorem dX6_item_10 : decode cX6_item 10 = .ok (.invokevirtual 196, 3) := dk_182 0 196 (dk_at dksX6_item_0 10 rfl rfl)
theorem dX6_item_13 : decode cX6_item 13 = .ok (.iconst (-1), 1) := dk_2 (dk_at dksX6_item_0 13 rfl rfl)
theorem dX6_item_14 : decode cX6_item 14 = .ok (.if_icmp .eq 23, 3) := dk_159 0 23 (dk_at dksX6_item_0 14 rfl rfl)
theorem dX6_item_17 : decode cX6_item 17 = .ok (.aload_n 0, 1) := dk_42 (dk_at dksX6_item_0 17 rfl rfl)
theorem dX6_item_18 : decode cX6_item 18 = .ok (.getfield 83, 3) := dk_180 0 83 (dk_at dksX6_item_0 18 rfl rfl)
theorem dX6_item_21 : decode cX6_item 21 = .ok (.aload_n 0, 1) := dk_42 (dk_at dksX6_item_0 21 rfl rfl)
theorem dX6_item_22 : decode cX6_item 22 = .ok (.getfield 83, 3) := dk_180 0 83 (dk_at dksX6_item_1 0 rfl rfl)
theorem dX6_item_25 : decode cX6_item 25 = .ok (.iload_n 1, 1) := dk_27 (dk_at dksX6_item_1 3 rfl rfl)
theorem dX6_item_26 : decode cX6_item 26 = .ok (.invokevirtual 196, 3) := dk_182 0 196 (dk_at dksX6_item_1 4 rfl rfl)
theorem dX6_item_29 : decode cX6_item 29 = .ok (.invokevirtual 125, 3) := dk_182 0 125 (dk_at dksX6_item_1 7 rfl rfl)
theorem dX6_item_32 : decode cX6_item 32 = .ok (.bipush 21, 2) := dk_16 21 (dk_at dksX6_item_1 10 rfl rfl)
theorem dX6_item_34 : decode cX6_item 34 = .ok (.if_icmp .eq 5, 3) := dk_159 0 5 (dk_at dksX6_item_1 12 rfl rfl)
theorem dX6_item_37 : decode cX6_item 37 = .ok (.iconst (-1), 1) := dk_2 (dk_at dksX6_item_1 15 rfl rfl)
theorem dX6_item_38 : decode cX6_item 38 = .ok (.ireturn, 1) := dk_172 (dk_at dksX6_item_1 16 rfl rfl)
theorem dX6_item_39 : decode cX6_item 39 = .ok (.aload_n 0, 1) := dk_42 (dk_at dksX6_item_1 17 rfl rfl)
theorem dX6_item_40 : decode cX6_item 40 = .ok (.getfield 83, 3) := dk_180 0 83 (dk_at dksX6_item_1 18 rfl rfl)
theorem dX6_item_43 : decode cX6_item 43 = .ok (.iload_n 1, 1) := dk_27 (dk_at dksX6_item_1 21 rfl rfl)
theorem dX6_item_44 : decode cX6_item 44 = .ok (.invokevirtual 196, 3) := dk_182 0 196 (dk_at dksX6_item_2 0 rfl rfl)
theorem dX6_item_47 : decode cX6_item 47 = .ok (.istore_n 3, 1) := dk_62 (dk_at dksX6_item_2 3 rfl rfl)
theorem dX6_item_48 : decode cX6_item 48 = .ok (.iload_n 3, 1) := dk_29 (dk_at dksX6_item_2 4 rfl rfl)
theorem dX6_item_49 : decode cX6_item 49 = .ok (.iconst (-1), 1) := dk_2 (dk_at dksX6_item_2 5 rfl rfl)
theorem dX6_item_50 : decode cX6_item 50 = .ok (.if_icmp .eq 34, 3) := dk_159 0 34 (dk_at dksX6_item_2 6 rfl rfl)
theorem dX6_item_53 : decode cX6_item 53 = .ok (.aload_n 0, 1) := dk_42 (dk_at dksX6_item_2 9 rfl rfl)
theorem dX6_item_54 : decode cX6_item 54 = .ok (.getfield 103, 3) := dk_180 0 103 (dk_at dksX6_item_2 10 rfl rfl)
theorem dX6_item_57 : decode cX6_item 57 = .ok (.aload_n 0, 1) := dk_42 (dk_at dksX6_item_2 13 rfl rfl)
theorem dX6_item_58 : decode cX6_item 58 = .ok (.getfield 83, 3) := dk_180 0 83 (dk_at dksX6_item_2 14 rfl rfl)
theorem dX6_item_61 : decode cX6_item 61 = .ok (.iload_n 3, 1) := dk_29 (dk_at dksX6_item_2 17 rfl rfl)
theorem dX6_item_62 : decode cX6_item 62 = .ok (.invokevirtual 178, 3) := dk_182 0 178 (dk_at dksX6_item_2 18 rfl rfl)
theorem dX6_item_65 : decode cX6_item 65 = .ok (.iload_n 2, 1) := dk_28 (dk_at dksX6_item_2 21 rfl rfl)
theorem dX6_item_66 : decode cX6_item 66 = .ok (.invokevirtual 253, 3) := dk_182 0 253 (dk_at dksX6_item_3 0 rfl rfl)
theorem dX6_item_69 : decode cX6_item 69 = .ok (.ifCond .ne 15, 3) := dk_154 0 15 (dk_at dksX6_item_3 3 rfl rfl)
theorem dX6_item_72 : decode cX6_item 72 = .ok (.aload_n 0, 1) := dk_42 (dk_at dksX6_item_3 6 rfl rfl)
theorem dX6_item_73 : decode cX6_item 73 = .ok (.getfield 83, 3) := dk_180 0 83 (dk_at dksX6_item_3 7 rfl rfl)
theorem dX6_item_76 : decode cX6_item 76 = .ok (.iload_n 3, 1) := dk_29 (dk_at dksX6_item_3 10 rfl rfl)
theorem dX6_item_77 : decode cX6_item 77 = .ok (.invokevirtual 189, 3) := dk_182 0 189 (dk_at dksX6_item_3 11 rfl rfl)
theorem dX6_item_80 : decode cX6_item 80 = .ok (.istore_n 3, 1) := dk_62 (dk_at dksX6_item_3 14 rfl rfl)
theorem dX6_item_81 : decode cX6_item 81 = .ok (.goto (-33), 3) := dk_167 255 223 (dk_at dksX6_item_3 15 rfl rfl)
theorem dX6_item_84 : decode cX6_item 84 = .ok (.iload_n 3, 1) := dk_29 (dk_at dksX6_item_3 18 rfl rfl)
theorem dX6_item_85 : decode cX6_item 85 = .ok (.ireturn, 1) := dk_172 (dk_at dksX6_item_3 19 rfl rfl)
abbrev cX6_knownBounds : ByteArray := prog_9_method_20_code
def yX6_knownBounds : MethodName := ⟨RX6, "knownBounds", "(I)V"⟩
def dkwX6_knownBounds_6 : List UInt8 := [29, 182, 0, 189, 62, 167, 255, 132, 42, 180, 0, 83, 28, 182, 0, 189, 61, 167, 255, 106, 177]
abbrev dktX6_knownBounds_6 : List UInt8 := dkwX6_knownBounds_6 ++ []
def dkwX6_knownBounds_5 : List UInt8 := [182, 0, 178, 182, 0, 185, 42, 180, 0, 83, 21, 4, 182, 0, 189, 54, 4, 167, 255, 159, 42, 180, 0, 83]
abbrev dktX6_knownBounds_5 : List UInt8 := dkwX6_knownBounds_5 ++ dktX6_knownBounds_6
def dkwX6_knownBounds_4 : List UInt8 := [180, 0, 83, 21, 4, 182, 0, 178, 182, 0, 245, 2, 160, 0, 18, 42, 16, 6, 42, 180, 0, 83, 21, 4]
abbrev dktX6_knownBounds_4 : List UInt8 := dkwX6_knownBounds_4 ++ dktX6_knownBounds_5
def dkwX6_knownBounds_3 : List UInt8 := [42, 180, 0, 83, 21, 4, 182, 0, 178, 3, 182, 1, 6, 2, 160, 0, 38, 42, 180, 0, 32, 42]
abbrev dktX6_knownBounds_3 : List UInt8 := dkwX6_knownBounds_3 ++ dktX6_knownBounds_4
def dkwX6_knownBounds_2 : List UInt8 := [21, 4, 8, 182, 0, 223, 6, 160, 0, 7, 4, 167, 0, 4, 3, 54, 5, 21, 5, 153, 0, 57, 42, 27]
abbrev dktX6_knownBounds_2 : List UInt8 := dkwX6_knownBounds_2 ++ dktX6_knownBounds_3
def dkwX6_knownBounds_1 : List UInt8 := [2, 159, 0, 125, 42, 180, 0, 83, 29, 182, 0, 196, 54, 4, 21, 4, 2, 159, 0, 97, 42, 180, 0, 83]
abbrev dktX6_knownBounds_1 : List UInt8 := dkwX6_knownBounds_1 ++ dktX6_knownBounds_2
def dkwX6_knownBounds_0 : List UInt8 := [42, 180, 0, 83, 27, 182, 1, 10, 61, 28, 2, 159, 0, 151, 42, 180, 0, 83, 28, 182, 0, 196, 62, 29]
abbrev dktX6_knownBounds_0 : List UInt8 := dkwX6_knownBounds_0 ++ dktX6_knownBounds_1
theorem dksX6_knownBounds_0 : cX6_knownBounds.data.toList.drop 0 = dktX6_knownBounds_0 := by decide +kernel
theorem dksX6_knownBounds_1 : cX6_knownBounds.data.toList.drop 24 = dktX6_knownBounds_1 := dk_seg dksX6_knownBounds_0 24 rfl rfl
theorem dksX6_knownBounds_2 : cX6_knownBounds.data.toList.drop 48 = dktX6_knownBounds_2 := dk_seg dksX6_knownBounds_1 24 rfl rfl
theorem dksX6_knownBounds_3 : cX6_knownBounds.data.toList.drop 72 = dktX6_knownBounds_3 := dk_seg dksX6_knownBounds_2 24 rfl rfl
theorem dksX6_knownBounds_4 : cX6_knownBounds.data.toList.drop 94 = dktX6_knownBounds_4 := dk_seg dksX6_knownBounds_3 22 rfl rfl
theorem dksX6_knownBounds_5 : cX6_knownBounds.data.toList.drop 118 = dktX6_knownBounds_5 := dk_seg dksX6_knownBounds_4 24 rfl rfl
theorem dksX6_knownBounds_6 : cX6_knownBounds.data.toList.drop 142 = dktX6_knownBounds_6 := dk_seg dksX6_knownBounds_5 24 rfl rfl
theorem dX6_knownBounds_0 : decode cX6_knownBounds 0 = .ok (.aload_n 0, 1) := dk_42 (dk_at dksX6_knownBounds_0 0 rfl rfl)
theorem dX6_knownBounds_1 : decode cX6_knownBounds 1 = .ok (.getfield 83, 3) := dk_180 0 83 (dk_at dksX6_knownBounds_0 1 rfl rfl)
theorem dX6_knownBounds_4 : decode cX6_knownBounds 4 = .ok (.iload_n 1, 1) := dk_27 (dk_at dksX6_knownBounds_0 4 rfl rfl)
theorem dX6_knownBounds_5 : decode cX6_knownBounds 5 = .ok (.invokevirtual 266, 3) := dk_182 1 10 (dk_at dksX6_knownBounds_0 5 rfl rfl)
theorem dX6_knownBounds_8 : decode cX6_knownBounds 8 = .ok (.istore_n 2, 1) := dk_61 (dk_at dksX6_knownBounds_0 8 rfl rfl)
theorem dX6_knownBounds_9 : decode cX6_knownBounds 9 = .ok (.iload_n 2, 1) := dk_28 (dk_at dksX6_knownBounds_0 9 rfl rfl)
theorem dX6_knownBounds_10 : decode cX6_knownBounds 10 = .ok (.iconst (-1), 1) := dk_2 (dk_at dksX6_knownBounds_0 10 rfl rfl)
theorem dX6_knownBounds_11 : decode cX6_knownBounds 11 = .ok (.if_icmp .eq 151, 3) := dk_159 0 151 (dk_at dksX6_knownBounds_0 11 rfl rfl)
theorem dX6_knownBounds_14 : decode cX6_knownBounds 14 = .ok (.aload_n 0, 1) := dk_42 (dk_at dksX6_knownBounds_0 14 rfl rfl)
theorem dX6_knownBounds_15 : decode cX6_knownBounds 15 = .ok (.getfield 83, 3) := dk_180 0 83 (dk_at dksX6_knownBounds_0 15 rfl rfl)
theorem dX6_knownBounds_18 : decode cX6_knownBounds 18 = .ok (.iload_n 2, 1) := dk_28 (dk_at dksX6_knownBounds_0 18 rfl rfl)
theorem dX6_knownBounds_19 : decode cX6_knownBounds 19 = .ok (.invokevirtual 196, 3) := dk_182 0 196 (dk_at dksX6_knownBounds_0 19 rfl rfl)
theorem dX6_knownBounds_22 : decode cX6_knownBounds 22 = .ok (.istore_n 3, 1) := dk_62 (dk_at dksX6_knownBounds_0 22 rfl rfl)
theorem dX6_knownBounds_23 : decode cX6_knownBounds 23 = .ok (.iload_n 3, 1) := dk_29 (dk_at dksX6_knownBounds_0 23 rfl rfl)
theorem dX6_knownBounds_24 : decode cX6_knownBounds 24 = .ok (.iconst (-1), 1) := dk_2 (dk_at dksX6_knownBounds_1 0 rfl rfl)
theorem dX6_knownBounds_25 : decode cX6_knownBounds 25 = .ok (.if_icmp .eq 125, 3) := dk_159 0 125 (dk_at dksX6_knownBounds_1 1 rfl rfl)
theorem dX6_knownBounds_28 : decode cX6_knownBounds 28 = .ok (.aload_n 0, 1) := dk_42 (dk_at dksX6_knownBounds_1 4 rfl rfl)
theorem dX6_knownBounds_29 : decode cX6_knownBounds 29 = .ok (.getfield 83, 3) := dk_180 0 83 (dk_at dksX6_knownBounds_1 5 rfl rfl)
theorem dX6_knownBounds_32 : decode cX6_knownBounds 32 = .ok (.iload_n 3, 1) := dk_29 (dk_at dksX6_knownBounds_1 8 rfl rfl)
theorem dX6_knownBounds_33 : decode cX6_knownBounds 33 = .ok (.invokevirtual 196, 3) := dk_182 0 196 (dk_at dksX6_knownBounds_1 9 rfl rfl)
theorem dX6_knownBounds_36 : decode cX6_knownBounds 36 = .ok (.istore 4, 2) := dk_54 4 (dk_at dksX6_knownBounds_1 12 rfl rfl)
theorem dX6_knownBounds_38 : decode cX6_knownBounds 38 = .ok (.iload 4, 2) := dk_21 4 (dk_at dksX6_knownBounds_1 14 rfl rfl)
theorem dX6_knownBounds_40 : decode cX6_knownBounds 40 = .ok (.iconst (-1), 1) := dk_2 (dk_at dksX6_knownBounds_1 16 rfl rfl)
theorem dX6_knownBounds_41 : decode cX6_knownBounds 41 = .ok (.if_icmp .eq 97, 3) := dk_159 0 97 (dk_at dksX6_knownBounds_1 17 rfl rfl)
theorem dX6_knownBounds_44 : decode cX6_knownBounds 44 = .ok (.aload_n 0, 1) := dk_42 (dk_at dksX6_knownBounds_1 20 rfl rfl)
theorem dX6_knownBounds_45 : decode cX6_knownBounds 45 = .ok (.getfield 83, 3) := dk_180 0 83 (dk_at dksX6_knownBounds_1 21 rfl rfl)
theorem dX6_knownBounds_48 : decode cX6_knownBounds 48 = .ok (.iload 4, 2) := dk_21 4 (dk_at dksX6_knownBounds_2 0 rfl rfl)
theorem dX6_knownBounds_50 : decode cX6_knownBounds 50 = .ok (.iconst 5, 1) := dk_8 (dk_at dksX6_knownBounds_2 2 rfl rfl)
theorem dX6_knownBounds_51 : decode cX6_knownBounds 51 = .ok (.invokevirtual 223, 3) := dk_182 0 223 (dk_at dksX6_knownBounds_2 3 rfl rfl)
theorem dX6_knownBounds_54 : decode cX6_knownBounds 54 = .ok (.iconst 3, 1) := dk_6 (dk_at dksX6_knownBounds_2 6 rfl rfl)
theorem dX6_knownBounds_55 : decode cX6_knownBounds 55 = .ok (.if_icmp .ne 7, 3) := dk_160 0 7 (dk_at dksX6_knownBounds_2 7 rfl rfl)
theorem dX6_knownBounds_58 : decode cX6_knownBounds 58 = .ok (.iconst 1, 1) := dk_4 (dk_at dksX6_knownBounds_2 10 rfl rfl)
theorem dX6_knownBounds_59 : decode cX6_knownBounds 59 = .ok (.goto 4, 3) := dk_167 0 4 (dk_at dksX6_knownBounds_2 11 rfl rfl)
theorem dX6_knownBounds_62 : decode cX6_knownBounds 62 = .ok (.iconst 0, 1) := dk_3 (dk_at dksX6_knownBounds_2 14 rfl rfl)
theorem dX6_knownBounds_63 : decode cX6_knownBounds 63 = .ok (.istore 5, 2) := dk_54 5 (dk_at dksX6_knownBounds_2 15 rfl rfl)
theorem dX6_knownBounds_65 : decode cX6_knownBounds 65 = .ok (.iload 5, 2) := dk_21 5 (dk_at dksX6_knownBounds_2 17 rfl rfl)
theorem dX6_knownBounds_67 : decode cX6_knownBounds 67 = .ok (.ifCond .eq 57, 3) := dk_153 0 57 (dk_at dksX6_knownBounds_2 19 rfl rfl)
theorem dX6_knownBounds_70 : decode cX6_knownBounds 70 = .ok (.aload_n 0, 1) := dk_42 (dk_at dksX6_knownBounds_2 22 rfl rfl)
theorem dX6_knownBounds_71 : decode cX6_knownBounds 71 = .ok (.iload_n 1, 1) := dk_27 (dk_at dksX6_knownBounds_2 23 rfl rfl)
theorem dX6_knownBounds_72 : decode cX6_knownBounds 72 = .ok (.aload_n 0, 1) := dk_42 (dk_at dksX6_knownBounds_3 0 rfl rfl)
theorem dX6_knownBounds_73 : decode cX6_knownBounds 73 = .ok (.getfield 83, 3) := dk_180 0 83 (dk_at dksX6_knownBounds_3 1 rfl rfl)
theorem dX6_knownBounds_76 : decode cX6_knownBounds 76 = .ok (.iload 4, 2) := dk_21 4 (dk_at dksX6_knownBounds_3 4 rfl rfl)
theorem dX6_knownBounds_78 : decode cX6_knownBounds 78 = .ok (.invokevirtual 178, 3) := dk_182 0 178 (dk_at dksX6_knownBounds_3 6 rfl rfl)
theorem dX6_knownBounds_81 : decode cX6_knownBounds 81 = .ok (.iconst 0, 1) := dk_3 (dk_at dksX6_knownBounds_3 9 rfl rfl)
theorem dX6_knownBounds_82 : decode cX6_knownBounds 82 = .ok (.invokevirtual 262, 3) := dk_182 1 6 (dk_at dksX6_knownBounds_3 10 rfl rfl)
theorem dX6_knownBounds_85 : decode cX6_knownBounds 85 = .ok (.iconst (-1), 1) := dk_2 (dk_at dksX6_knownBounds_3 13 rfl rfl)
theorem dX6_knownBounds_86 : decode cX6_knownBounds 86 = .ok (.if_icmp .ne 38, 3) := dk_160 0 38 (dk_at dksX6_knownBounds_3 14 rfl rfl)
theorem dX6_knownBounds_89 : decode cX6_knownBounds 89 = .ok (.aload_n 0, 1) := dk_42 (dk_at dksX6_knownBounds_3 17 rfl rfl)
theorem dX6_knownBounds_90 : decode cX6_knownBounds 90 = .ok (.getfield 32, 3) := dk_180 0 32 (dk_at dksX6_knownBounds_3 18 rfl rfl)
theorem dX6_knownBounds_93 : decode cX6_knownBounds 93 = .ok (.aload_n 0, 1) := dk_42 (dk_at dksX6_knownBounds_3 21 rfl rfl)
theorem dX6_knownBounds_94 : decode cX6_knownBounds 94 = .ok (.getfield 83, 3) := dk_180 0 83 (dk_at dksX6_knownBounds_4 0 rfl rfl)
theorem dX6_knownBounds_97 : decode cX6_knownBounds 97 = .ok (.iload 4, 2) := dk_21 4 (dk_at dksX6_knownBounds_4 3 rfl rfl)
theorem dX6_knownBounds_99 : decode cX6_knownBounds 99 = .ok (.invokevirtual 178, 3) := dk_182 0 178 (dk_at dksX6_knownBounds_4 5 rfl rfl)
theorem dX6_knownBounds_102 : decode cX6_knownBounds 102 = .ok (.invokevirtual 245, 3) := dk_182 0 245 (dk_at dksX6_knownBounds_4 8 rfl rfl)
theorem dX6_knownBounds_105 : decode cX6_knownBounds 105 = .ok (.iconst (-1), 1) := dk_2 (dk_at dksX6_knownBounds_4 11 rfl rfl)
theorem dX6_knownBounds_106 : decode cX6_knownBounds 106 = .ok (.if_icmp .ne 18, 3) := dk_160 0 18 (dk_at dksX6_knownBounds_4 12 rfl rfl)
theorem dX6_knownBounds_109 : decode cX6_knownBounds 109 = .ok (.aload_n 0, 1) := dk_42 (dk_at dksX6_knownBounds_4 15 rfl rfl)
theorem dX6_knownBounds_110 : decode cX6_knownBounds 110 = .ok (.bipush 6, 2) := dk_16 6 (dk_at dksX6_knownBounds_4 16 rfl rfl)
theorem dX6_knownBounds_112 : decode cX6_knownBounds 112 = .ok (.aload_n 0, 1) := dk_42 (dk_at dksX6_knownBounds_4 18 rfl rfl)
theorem dX6_knownBounds_113 : decode cX6_knownBounds 113 = .ok (.getfield 83, 3) := dk_180 0 83 (dk_at dksX6_knownBounds_4 19 rfl rfl)
theorem dX6_knownBounds_116 : decode cX6_knownBounds 116 = .ok (.iload 4, 2) := dk_21 4 (dk_at dksX6_knownBounds_4 22 rfl rfl)
theorem dX6_knownBounds_118 : decode cX6_knownBounds 118 = .ok (.invokevirtual 178, 3) := dk_182 0 178 (dk_at dksX6_knownBounds_5 0 rfl rfl)
theorem dX6_knownBounds_121 : decode cX6_knownBounds 121 = .ok (.invokevirtual 185, 3) := dk_182 0 185 (dk_at dksX6_knownBounds_5 3 rfl rfl)
theorem dX6_knownBounds_124 : decode cX6_knownBounds 124 = .ok (.aload_n 0, 1) := dk_42 (dk_at dksX6_knownBounds_5 6 rfl rfl)
theorem dX6_knownBounds_125 : decode cX6_knownBounds 125 = .ok (.getfield 83, 3) := dk_180 0 83 (dk_at dksX6_knownBounds_5 7 rfl rfl)
theorem dX6_knownBounds_128 : decode cX6_knownBounds 128 = .ok (.iload 4, 2) := dk_21 4 (dk_at dksX6_knownBounds_5 10 rfl rfl)
theorem dX6_knownBounds_130 : decode cX6_knownBounds 130 = .ok (.invokevirtual 189, 3) := dk_182 0 189 (dk_at dksX6_knownBounds_5 12 rfl rfl)
theorem dX6_knownBounds_133 : decode cX6_knownBounds 133 = .ok (.istore 4, 2) := dk_54 4 (dk_at dksX6_knownBounds_5 15 rfl rfl)
theorem dX6_knownBounds_135 : decode cX6_knownBounds 135 = .ok (.goto (-97), 3) := dk_167 255 159 (dk_at dksX6_knownBounds_5 17 rfl rfl)
theorem dX6_knownBounds_138 : decode cX6_knownBounds 138 = .ok (.aload_n 0, 1) := dk_42 (dk_at dksX6_knownBounds_5 20 rfl rfl)
theorem dX6_knownBounds_139 : decode cX6_knownBounds 139 = .ok (.getfield 83, 3) := dk_180 0 83 (dk_at dksX6_knownBounds_5 21 rfl rfl)
theorem dX6_knownBounds_142 : decode cX6_knownBounds 142 = .ok (.iload_n 3, 1) := dk_29 (dk_at dksX6_knownBounds_6 0 rfl rfl)
theorem dX6_knownBounds_143 : decode cX6_knownBounds 143 = .ok (.invokevirtual 189, 3) := dk_182 0 189 (dk_at dksX6_knownBounds_6 1 rfl rfl)
theorem dX6_knownBounds_146 : decode cX6_knownBounds 146 = .ok (.istore_n 3, 1) := dk_62 (dk_at dksX6_knownBounds_6 4 rfl rfl)
theorem dX6_knownBounds_147 : decode cX6_knownBounds 147 = .ok (.goto (-124), 3) := dk_167 255 132 (dk_at dksX6_knownBounds_6 5 rfl rfl)
theorem dX6_knownBounds_150 : decode cX6_knownBounds 150 = .ok (.aload_n 0, 1) := dk_42 (dk_at dksX6_knownBounds_6 8 rfl rfl)
theorem dX6_knownBounds_151 : decode cX6_knownBounds 151 = .ok (.getfield 83, 3) := dk_180 0 83 (dk_at dksX6_knownBounds_6 9 rfl rfl)
theorem dX6_knownBounds_154 : decode cX6_knownBounds 154 = .ok (.iload_n 2, 1) := dk_28 (dk_at dksX6_knownBounds_6 12 rfl rfl)
theorem dX6_knownBounds_155 : decode cX6_knownBounds 155 = .ok (.invokevirtual 189, 3) := dk_182 0 189 (dk_at dksX6_knownBounds_6 13 rfl rfl)
theorem dX6_knownBounds_158 : decode cX6_knownBounds 158 = .ok (.istore_n 2, 1) := dk_61 (dk_at dksX6_knownBounds_6 16 rfl rfl)
theorem dX6_knownBounds_159 : decode cX6_knownBounds 159 = .ok (.goto (-150), 3) := dk_167 255 106 (dk_at dksX6_knownBounds_6 17 rfl rfl)
theorem dX6_knownBounds_162 : decode cX6_knownBounds 162 = .ok (.return_, 1) := dk_177 (dk_at dksX6_knownBounds_6 20 rfl rfl)
abbrev cX6_finite : ByteArray := prog_9_method_22_code
def yX6_finite : MethodName := ⟨RX6, "finite", "()Z"⟩
def dkwX6_finite_6 : List UInt8 := [182, 0, 189, 61, 167, 255, 206, 42, 180, 0, 96, 154, 0, 7, 4, 167, 0, 4, 3, 172]
abbrev dktX6_finite_6 : List UInt8 := dkwX6_finite_6 ++ []
def dkwX6_finite_5 : List UInt8 := [154, 0, 17, 42, 16, 7, 42, 180, 0, 83, 28, 182, 0, 178, 182, 0, 185, 42, 180, 0, 83, 28]
abbrev dktX6_finite_5 : List UInt8 := dkwX6_finite_5 ++ dktX6_finite_6
def dkwX6_finite_4 : List UInt8 := [159, 0, 51, 42, 180, 0, 83, 28, 182, 0, 125, 16, 28, 160, 0, 26, 42, 180, 0, 68, 28, 46]
abbrev dktX6_finite_4 : List UInt8 := dkwX6_finite_4 ++ dktX6_finite_5
def dkwX6_finite_3 : List UInt8 := [180, 0, 83, 28, 182, 0, 189, 61, 167, 255, 196, 167, 255, 179, 42, 180, 0, 83, 180, 0, 175, 61, 28, 2]
abbrev dktX6_finite_3 : List UInt8 := dkwX6_finite_3 ++ dktX6_finite_4
def dkwX6_finite_2 : List UInt8 := [180, 0, 83, 28, 182, 0, 196, 182, 1, 19, 153, 0, 12, 42, 180, 0, 68, 28, 4, 79, 4, 60, 42]
abbrev dktX6_finite_2 : List UInt8 := dkwX6_finite_2 ++ dktX6_finite_3
def dkwX6_finite_1 : List UInt8 := [180, 0, 83, 28, 182, 0, 125, 16, 28, 160, 0, 36, 42, 180, 0, 68, 28, 46, 154, 0, 27, 42, 42]
abbrev dktX6_finite_1 : List UInt8 := dkwX6_finite_1 ++ dktX6_finite_2
def dkwX6_finite_0 : List UInt8 := [4, 60, 27, 153, 0, 79, 3, 60, 42, 180, 0, 83, 180, 0, 175, 61, 28, 2, 159, 0, 61, 42]
abbrev dktX6_finite_0 : List UInt8 := dkwX6_finite_0 ++ dktX6_finite_1
theorem dksX6_finite_0 : cX6_finite.data.toList.drop 0 = dktX6_finite_0 := by decide +kernel
theorem dksX6_finite_1 : cX6_finite.data.toList.drop 22 = dktX6_finite_1 := dk_seg dksX6_finite_0 22 rfl rfl
theorem dksX6_finite_2 : cX6_finite.data.toList.drop 45 = dktX6_finite_2 := dk_seg dksX6_finite_1 23 rfl rfl
theorem dksX6_finite_3 : cX6_finite.data.toList.drop 68 = dktX6_finite_3 := dk_seg dksX6_finite_2 23 rfl rfl
theorem dksX6_finite_4 : cX6_finite.data.toList.drop 92 = dktX6_finite_4 := dk_seg dksX6_finite_3 24 rfl rfl
theorem dksX6_finite_5 : cX6_finite.data.toList.drop 114 = dktX6_finite_5 := dk_seg dksX6_finite_4 22 rfl rfl
theorem dksX6_finite_6 : cX6_finite.data.toList.drop 136 = dktX6_finite_6 := dk_seg dksX6_finite_5 22 rfl rfl
theorem dX6_finite_0 : decode cX6_finite 0 = .ok (.iconst 1, 1) := dk_4 (dk_at dksX6_finite_0 0 rfl rfl)
theorem dX6_finite_1 : decode cX6_finite 1 = .ok (.istore_n 1, 1) := dk_60 (dk_at dksX6_finite_0 1 rfl rfl)
theorem dX6_finite_2 : decode cX6_finite 2 = .ok (.iload_n 1, 1) := dk_27 (dk_at dksX6_finite_0 2 rfl rfl)
theorem dX6_finite_3 : decode cX6_finite 3 = .ok (.ifCond .eq 79, 3) := dk_153 0 79 (dk_at dksX6_finite_0 3 rfl rfl)
theorem dX6_finite_6 : decode cX6_finite 6 = .ok (.iconst 0, 1) := dk_3 (dk_at dksX6_finite_0 6 rfl rfl)
theorem dX6_finite_7 : decode cX6_finite 7 = .ok (.istore_n 1, 1) := dk_60 (dk_at dksX6_finite_0 7 rfl rfl)
theorem dX6_finite_8 : decode cX6_finite 8 = .ok (.aload_n 0, 1) := dk_42 (dk_at dksX6_finite_0 8 rfl rfl)
theorem dX6_finite_9 : decode cX6_finite 9 = .ok (.getfield 83, 3) := dk_180 0 83 (dk_at dksX6_finite_0 9 rfl rfl)
theorem dX6_finite_12 : decode cX6_finite 12 = .ok (.getfield 175, 3) := dk_180 0 175 (dk_at dksX6_finite_0 12 rfl rfl)
theorem dX6_finite_15 : decode cX6_finite 15 = .ok (.istore_n 2, 1) := dk_61 (dk_at dksX6_finite_0 15 rfl rfl)
theorem dX6_finite_16 : decode cX6_finite 16 = .ok (.iload_n 2, 1) := dk_28 (dk_at dksX6_finite_0 16 rfl rfl)
theorem dX6_finite_17 : decode cX6_finite 17 = .ok (.iconst (-1), 1) := dk_2 (dk_at dksX6_finite_0 17 rfl rfl)
theorem dX6_finite_18 : decode cX6_finite 18 = .ok (.if_icmp .eq 61, 3) := dk_159 0 61 (dk_at dksX6_finite_0 18 rfl rfl)
theorem dX6_finite_21 : decode cX6_finite 21 = .ok (.aload_n 0, 1) := dk_42 (dk_at dksX6_finite_0 21 rfl rfl)
theorem dX6_finite_22 : decode cX6_finite 22 = .ok (.getfield 83, 3) := dk_180 0 83 (dk_at dksX6_finite_1 0 rfl rfl)
theorem dX6_finite_25 : decode cX6_finite 25 = .ok (.iload_n 2, 1) := dk_28 (dk_at dksX6_finite_1 3 rfl rfl)
theorem dX6_finite_26 : decode cX6_finite 26 = .ok (.invokevirtual 125, 3) := dk_182 0 125 (dk_at dksX6_finite_1 4 rfl rfl)
theorem dX6_finite_29 : decode cX6_finite 29 = .ok (.bipush 28, 2) := dk_16 28 (dk_at dksX6_finite_1 7 rfl rfl)
theorem dX6_finite_31 : decode cX6_finite 31 = .ok (.if_icmp .ne 36, 3) := dk_160 0 36 (dk_at dksX6_finite_1 9 rfl rfl)
theorem dX6_finite_34 : decode cX6_finite 34 = .ok (.aload_n 0, 1) := dk_42 (dk_at dksX6_finite_1 12 rfl rfl)
theorem dX6_finite_35 : decode cX6_finite 35 = .ok (.getfield 68, 3) := dk_180 0 68 (dk_at dksX6_finite_1 13 rfl rfl)
theorem dX6_finite_38 : decode cX6_finite 38 = .ok (.iload_n 2, 1) := dk_28 (dk_at dksX6_finite_1 16 rfl rfl)
theorem dX6_finite_39 : decode cX6_finite 39 = .ok (.iaload, 1) := dk_46 (dk_at dksX6_finite_1 17 rfl rfl)
theorem dX6_finite_40 : decode cX6_finite 40 = .ok (.ifCond .ne 27, 3) := dk_154 0 27 (dk_at dksX6_finite_1 18 rfl rfl)
theorem dX6_finite_43 : decode cX6_finite 43 = .ok (.aload_n 0, 1) := dk_42 (dk_at dksX6_finite_1 21 rfl rfl)
theorem dX6_finite_44 : decode cX6_finite 44 = .ok (.aload_n 0, 1) := dk_42 (dk_at dksX6_finite_1 22 rfl rfl)
theorem dX6_finite_45 : decode cX6_finite 45 = .ok (.getfield 83, 3) := dk_180 0 83 (dk_at dksX6_finite_2 0 rfl rfl)
theorem dX6_finite_48 : decode cX6_finite 48 = .ok (.iload_n 2, 1) := dk_28 (dk_at dksX6_finite_2 3 rfl rfl)
theorem dX6_finite_49 : decode cX6_finite 49 = .ok (.invokevirtual 196, 3) := dk_182 0 196 (dk_at dksX6_finite_2 4 rfl rfl)
theorem dX6_finite_52 : decode cX6_finite 52 = .ok (.invokevirtual 275, 3) := dk_182 1 19 (dk_at dksX6_finite_2 7 rfl rfl)
theorem dX6_finite_55 : decode cX6_finite 55 = .ok (.ifCond .eq 12, 3) := dk_153 0 12 (dk_at dksX6_finite_2 10 rfl rfl)
theorem dX6_finite_58 : decode cX6_finite 58 = .ok (.aload_n 0, 1) := dk_42 (dk_at dksX6_finite_2 13 rfl rfl)
theorem dX6_finite_59 : decode cX6_finite 59 = .ok (.getfield 68, 3) := dk_180 0 68 (dk_at dksX6_finite_2 14 rfl rfl)
theorem dX6_finite_62 : decode cX6_finite 62 = .ok (.iload_n 2, 1) := dk_28 (dk_at dksX6_finite_2 17 rfl rfl)
theorem dX6_finite_63 : decode cX6_finite 63 = .ok (.iconst 1, 1) := dk_4 (dk_at dksX6_finite_2 18 rfl rfl)
theorem dX6_finite_64 : decode cX6_finite 64 = .ok (.iastore, 1) := dk_79 (dk_at dksX6_finite_2 19 rfl rfl)
theorem dX6_finite_65 : decode cX6_finite 65 = .ok (.iconst 1, 1) := dk_4 (dk_at dksX6_finite_2 20 rfl rfl)
theorem dX6_finite_66 : decode cX6_finite 66 = .ok (.istore_n 1, 1) := dk_60 (dk_at dksX6_finite_2 21 rfl rfl)
theorem dX6_finite_67 : decode cX6_finite 67 = .ok (.aload_n 0, 1) := dk_42 (dk_at dksX6_finite_2 22 rfl rfl)
theorem dX6_finite_68 : decode cX6_finite 68 = .ok (.getfield 83, 3) := dk_180 0 83 (dk_at dksX6_finite_3 0 rfl rfl)
theorem dX6_finite_71 : decode cX6_finite 71 = .ok (.iload_n 2, 1) := dk_28 (dk_at dksX6_finite_3 3 rfl rfl)
theorem dX6_finite_72 : decode cX6_finite 72 = .ok (.invokevirtual 189, 3) := dk_182 0 189 (dk_at dksX6_finite_3 4 rfl rfl)
theorem dX6_finite_75 : decode cX6_finite 75 = .ok (.istore_n 2, 1) := dk_61 (dk_at dksX6_finite_3 7 rfl rfl)
theorem dX6_finite_76 : decode cX6_finite 76 = .ok (.goto (-60), 3) := dk_167 255 196 (dk_at dksX6_finite_3 8 rfl rfl)
theorem dX6_finite_79 : decode cX6_finite 79 = .ok (.goto (-77), 3) := dk_167 255 179 (dk_at dksX6_finite_3 11 rfl rfl)
theorem dX6_finite_82 : decode cX6_finite 82 = .ok (.aload_n 0, 1) := dk_42 (dk_at dksX6_finite_3 14 rfl rfl)
theorem dX6_finite_83 : decode cX6_finite 83 = .ok (.getfield 83, 3) := dk_180 0 83 (dk_at dksX6_finite_3 15 rfl rfl)
theorem dX6_finite_86 : decode cX6_finite 86 = .ok (.getfield 175, 3) := dk_180 0 175 (dk_at dksX6_finite_3 18 rfl rfl)
theorem dX6_finite_89 : decode cX6_finite 89 = .ok (.istore_n 2, 1) := dk_61 (dk_at dksX6_finite_3 21 rfl rfl)
theorem dX6_finite_90 : decode cX6_finite 90 = .ok (.iload_n 2, 1) := dk_28 (dk_at dksX6_finite_3 22 rfl rfl)
theorem dX6_finite_91 : decode cX6_finite 91 = .ok (.iconst (-1), 1) := dk_2 (dk_at dksX6_finite_3 23 rfl rfl)
theorem dX6_finite_92 : decode cX6_finite 92 = .ok (.if_icmp .eq 51, 3) := dk_159 0 51 (dk_at dksX6_finite_4 0 rfl rfl)
theorem dX6_finite_95 : decode cX6_finite 95 = .ok (.aload_n 0, 1) := dk_42 (dk_at dksX6_finite_4 3 rfl rfl)
theorem dX6_finite_96 : decode cX6_finite 96 = .ok (.getfield 83, 3) := dk_180 0 83 (dk_at dksX6_finite_4 4 rfl rfl)
theorem dX6_finite_99 : decode cX6_finite 99 = .ok (.iload_n 2, 1) := dk_28 (dk_at dksX6_finite_4 7 rfl rfl)
theorem dX6_finite_100 : decode cX6_finite 100 = .ok (.invokevirtual 125, 3) := dk_182 0 125 (dk_at dksX6_finite_4 8 rfl rfl)
theorem dX6_finite_103 : decode cX6_finite 103 = .ok (.bipush 28, 2) := dk_16 28 (dk_at dksX6_finite_4 11 rfl rfl)
theorem dX6_finite_105 : decode cX6_finite 105 = .ok (.if_icmp .ne 26, 3) := dk_160 0 26 (dk_at dksX6_finite_4 13 rfl rfl)
theorem dX6_finite_108 : decode cX6_finite 108 = .ok (.aload_n 0, 1) := dk_42 (dk_at dksX6_finite_4 16 rfl rfl)
theorem dX6_finite_109 : decode cX6_finite 109 = .ok (.getfield 68, 3) := dk_180 0 68 (dk_at dksX6_finite_4 17 rfl rfl)
theorem dX6_finite_112 : decode cX6_finite 112 = .ok (.iload_n 2, 1) := dk_28 (dk_at dksX6_finite_4 20 rfl rfl)
theorem dX6_finite_113 : decode cX6_finite 113 = .ok (.iaload, 1) := dk_46 (dk_at dksX6_finite_4 21 rfl rfl)
theorem dX6_finite_114 : decode cX6_finite 114 = .ok (.ifCond .ne 17, 3) := dk_154 0 17 (dk_at dksX6_finite_5 0 rfl rfl)
theorem dX6_finite_117 : decode cX6_finite 117 = .ok (.aload_n 0, 1) := dk_42 (dk_at dksX6_finite_5 3 rfl rfl)
theorem dX6_finite_118 : decode cX6_finite 118 = .ok (.bipush 7, 2) := dk_16 7 (dk_at dksX6_finite_5 4 rfl rfl)
theorem dX6_finite_120 : decode cX6_finite 120 = .ok (.aload_n 0, 1) := dk_42 (dk_at dksX6_finite_5 6 rfl rfl)
theorem dX6_finite_121 : decode cX6_finite 121 = .ok (.getfield 83, 3) := dk_180 0 83 (dk_at dksX6_finite_5 7 rfl rfl)
theorem dX6_finite_124 : decode cX6_finite 124 = .ok (.iload_n 2, 1) := dk_28 (dk_at dksX6_finite_5 10 rfl rfl)
theorem dX6_finite_125 : decode cX6_finite 125 = .ok (.invokevirtual 178, 3) := dk_182 0 178 (dk_at dksX6_finite_5 11 rfl rfl)
theorem dX6_finite_128 : decode cX6_finite 128 = .ok (.invokevirtual 185, 3) := dk_182 0 185 (dk_at dksX6_finite_5 14 rfl rfl)
theorem dX6_finite_131 : decode cX6_finite 131 = .ok (.aload_n 0, 1) := dk_42 (dk_at dksX6_finite_5 17 rfl rfl)
theorem dX6_finite_132 : decode cX6_finite 132 = .ok (.getfield 83, 3) := dk_180 0 83 (dk_at dksX6_finite_5 18 rfl rfl)
theorem dX6_finite_135 : decode cX6_finite 135 = .ok (.iload_n 2, 1) := dk_28 (dk_at dksX6_finite_5 21 rfl rfl)
theorem dX6_finite_136 : decode cX6_finite 136 = .ok (.invokevirtual 189, 3) := dk_182 0 189 (dk_at dksX6_finite_6 0 rfl rfl)
theorem dX6_finite_139 : decode cX6_finite 139 = .ok (.istore_n 2, 1) := dk_61 (dk_at dksX6_finite_6 3 rfl rfl)
theorem dX6_finite_140 : decode cX6_finite 140 = .ok (.goto (-50), 3) := dk_167 255 206 (dk_at dksX6_finite_6 4 rfl rfl)
theorem dX6_finite_143 : decode cX6_finite 143 = .ok (.aload_n 0, 1) := dk_42 (dk_at dksX6_finite_6 7 rfl rfl)
theorem dX6_finite_144 : decode cX6_finite 144 = .ok (.getfield 96, 3) := dk_180 0 96 (dk_at dksX6_finite_6 8 rfl rfl)
theorem dX6_finite_147 : decode cX6_finite 147 = .ok (.ifCond .ne 7, 3) := dk_154 0 7 (dk_at dksX6_finite_6 11 rfl rfl)
theorem dX6_finite_150 : decode cX6_finite 150 = .ok (.iconst 1, 1) := dk_4 (dk_at dksX6_finite_6 14 rfl rfl)
theorem dX6_finite_151 : decode cX6_finite 151 = .ok (.goto 4, 3) := dk_167 0 4 (dk_at dksX6_finite_6 15 rfl rfl)
theorem dX6_finite_154 : decode cX6_finite 154 = .ok (.iconst 0, 1) := dk_3 (dk_at dksX6_finite_6 18 rfl rfl)
theorem dX6_finite_155 : decode cX6_finite 155 = .ok (.ireturn, 1) := dk_172 (dk_at dksX6_finite_6 19 rfl rfl)
abbrev cX6_isFinite : ByteArray := prog_9_method_21_code
def yX6_isFinite : MethodName := ⟨RX6, "isFinite", "(I)Z"⟩
def dkwX6_isFinite_7 : List UInt8 := [3, 172, 4, 172]
abbrev dktX6_isFinite_7 : List UInt8 := dkwX6_isFinite_7 ++ []
def dkwX6_isFinite_6 : List UInt8 := [29, 182, 0, 196, 182, 1, 19, 153, 0, 5, 4, 172, 42, 180, 0, 83, 29, 182, 0, 189, 62, 167, 255, 225]
abbrev dktX6_isFinite_6 : List UInt8 := dkwX6_isFinite_6 ++ dktX6_isFinite_7
def dkwX6_isFinite_5 : List UInt8 := [16, 16, 160, 0, 48, 42, 180, 0, 83, 27, 182, 0, 196, 62, 29, 2, 159, 0, 32, 42, 42, 180, 0, 83]
abbrev dktX6_isFinite_5 : List UInt8 := dkwX6_isFinite_5 ++ dktX6_isFinite_6
def dkwX6_isFinite_4 : List UInt8 := [182, 1, 19, 154, 0, 5, 3, 172, 42, 180, 0, 83, 29, 182, 0, 189, 62, 167, 255, 213, 4, 172, 28]
abbrev dktX6_isFinite_4 : List UInt8 := dkwX6_isFinite_4 ++ dktX6_isFinite_5
def dkwX6_isFinite_3 : List UInt8 := [159, 0, 44, 42, 180, 0, 83, 29, 8, 182, 0, 223, 154, 0, 20, 42, 42, 180, 0, 83, 29, 182, 0, 196]
abbrev dktX6_isFinite_3 : List UInt8 := dkwX6_isFinite_3 ++ dktX6_isFinite_4
def dkwX6_isFinite_2 : List UInt8 := [16, 12, 159, 0, 9, 28, 16, 13, 160, 0, 60, 42, 180, 0, 83, 27, 182, 0, 196, 62, 29, 2]
abbrev dktX6_isFinite_2 : List UInt8 := dkwX6_isFinite_2 ++ dktX6_isFinite_3
def dkwX6_isFinite_1 : List UInt8 := [180, 0, 83, 27, 16, 7, 182, 0, 223, 182, 0, 245, 46, 4, 160, 0, 7, 4, 167, 0, 4, 3, 172, 28]
abbrev dktX6_isFinite_1 : List UInt8 := dkwX6_isFinite_1 ++ dktX6_isFinite_2
def dkwX6_isFinite_0 : List UInt8 := [42, 180, 0, 83, 27, 182, 0, 125, 61, 28, 16, 17, 160, 0, 35, 42, 180, 0, 68, 42, 180, 0, 28, 42]
abbrev dktX6_isFinite_0 : List UInt8 := dkwX6_isFinite_0 ++ dktX6_isFinite_1
theorem dksX6_isFinite_0 : cX6_isFinite.data.toList.drop 0 = dktX6_isFinite_0 := by decide +kernel
theorem dksX6_isFinite_1 : cX6_isFinite.data.toList.drop 24 = dktX6_isFinite_1 := dk_seg dksX6_isFinite_0 24 rfl rfl
theorem dksX6_isFinite_2 : cX6_isFinite.data.toList.drop 48 = dktX6_isFinite_2 := dk_seg dksX6_isFinite_1 24 rfl rfl
theorem dksX6_isFinite_3 : cX6_isFinite.data.toList.drop 70 = dktX6_isFinite_3 := dk_seg dksX6_isFinite_2 22 rfl rfl
theorem dksX6_isFinite_4 : cX6_isFinite.data.toList.drop 94 = dktX6_isFinite_4 := dk_seg dksX6_isFinite_3 24 rfl rfl
theorem dksX6_isFinite_5 : cX6_isFinite.data.toList.drop 117 = dktX6_isFinite_5 := dk_seg dksX6_isFinite_4 23 rfl rfl
theorem dksX6_isFinite_6 : cX6_isFinite.data.toList.drop 141 = dktX6_isFinite_6 := dk_seg dksX6_isFinite_5 24 rfl rfl
theorem dksX6_isFinite_7 : cX6_isFinite.data.toList.drop 165 = dktX6_isFinite_7 := dk_seg dksX6_isFinite_6 24 rfl rfl
theorem dX6_isFinite_0 : decode cX6_isFinite 0 = .ok (.aload_n 0, 1) := dk_42 (dk_at dksX6_isFinite_0 0 rfl rfl)
theorem dX6_isFinite_1 : decode cX6_isFinite 1 = .ok (.getfield 83, 3) := dk_180 0 83 (dk_at dksX6_isFinite_0 1 rfl rfl)
theorem dX6_isFinite_4 : decode cX6_isFinite 4 = .ok (.iload_n 1, 1) := dk_27 (dk_at dksX6_isFinite_0 4 rfl rfl)
theorem dX6_isFinite_5 : decode cX6_isFinite 5 = .ok (.invokevirtual 125, 3) := dk_182 0 125 (dk_at dksX6_isFinite_0 5 rfl rfl)
theorem dX6_isFinite_8 : decode cX6_isFinite 8 = .ok (.istore_n 2, 1) := dk_61 (dk_at dksX6_isFinite_0 8 rfl rfl)
theorem dX6_isFinite_9 : decode cX6_isFinite 9 = .ok (.iload_n 2, 1) := dk_28 (dk_at dksX6_isFinite_0 9 rfl rfl)
theorem dX6_isFinite_10 : decode cX6_isFinite 10 = .ok (.bipush 17, 2) := dk_16 17 (dk_at dksX6_isFinite_0 10 rfl rfl)
theorem dX6_isFinite_12 : decode cX6_isFinite 12 = .ok (.if_icmp .ne 35, 3) := dk_160 0 35 (dk_at dksX6_isFinite_0 12 rfl rfl)
theorem dX6_isFinite_15 : decode cX6_isFinite 15 = .ok (.aload_n 0, 1) := dk_42 (dk_at dksX6_isFinite_0 15 rfl rfl)
theorem dX6_isFinite_16 : decode cX6_isFinite 16 = .ok (.getfield 68, 3) := dk_180 0 68 (dk_at dksX6_isFinite_0 16 rfl rfl)
theorem dX6_isFinite_19 : decode cX6_isFinite 19 = .ok (.aload_n 0, 1) := dk_42 (dk_at dksX6_isFinite_0 19 rfl rfl)
theorem dX6_isFinite_20 : decode cX6_isFinite 20 = .ok (.getfield 28, 3) := dk_180 0 28 (dk_at dksX6_isFinite_0 20 rfl rfl)
theorem dX6_isFinite_23 : decode cX6_isFinite 23 = .ok (.aload_n 0, 1) := dk_42 (dk_at dksX6_isFinite_0 23 rfl rfl)
theorem dX6_isFinite_24 : decode cX6_isFinite 24 = .ok (.getfield 83, 3) := dk_180 0 83 (dk_at dksX6_isFinite_1 0 rfl rfl)
theorem dX6_isFinite_27 : decode cX6_isFinite 27 = .ok (.iload_n 1, 1) := dk_27 (dk_at dksX6_isFinite_1 3 rfl rfl)
theorem dX6_isFinite_28 : decode cX6_isFinite 28 = .ok (.bipush 7, 2) := dk_16 7 (dk_at dksX6_isFinite_1 4 rfl rfl)
theorem dX6_isFinite_30 : decode cX6_isFinite 30 = .ok (.invokevirtual 223, 3) := dk_182 0 223 (dk_at dksX6_isFinite_1 6 rfl rfl)
theorem dX6_isFinite_33 : decode cX6_isFinite 33 = .ok (.invokevirtual 245, 3) := dk_182 0 245 (dk_at dksX6_isFinite_1 9 rfl rfl)
theorem dX6_isFinite_36 : decode cX6_isFinite 36 = .ok (.iaload, 1) := dk_46 (dk_at dksX6_isFinite_1 12 rfl rfl)
theorem dX6_isFinite_37 : decode cX6_isFinite 37 = .ok (.iconst 1, 1) := dk_4 (dk_at dksX6_isFinite_1 13 rfl rfl)
theorem dX6_isFinite_38 : decode cX6_isFinite 38 = .ok (.if_icmp .ne 7, 3) := dk_160 0 7 (dk_at dksX6_isFinite_1 14 rfl rfl)
theorem dX6_isFinite_41 : decode cX6_isFinite 41 = .ok (.iconst 1, 1) := dk_4 (dk_at dksX6_isFinite_1 17 rfl rfl)
theorem dX6_isFinite_42 : decode cX6_isFinite 42 = .ok (.goto 4, 3) := dk_167 0 4 (dk_at dksX6_isFinite_1 18 rfl rfl)
theorem dX6_isFinite_45 : decode cX6_isFinite 45 = .ok (.iconst 0, 1) := dk_3 (dk_at dksX6_isFinite_1 21 rfl rfl)
theorem dX6_isFinite_46 : decode cX6_isFinite 46 = .ok (.ireturn, 1) := dk_172 (dk_at dksX6_isFinite_1 22 rfl rfl)
theorem dX6_isFinite_47 : decode cX6_isFinite 47 = .ok (.iload_n 2, 1) := dk_28 (dk_at dksX6_isFinite_1 23 rfl rfl)
theorem dX6_isFinite_48 : decode cX6_isFinite 48 = .ok (.bipush 12, 2) := dk_16 12 (dk_at dksX6_isFinite_2 0 rfl rfl)
theorem dX6_isFinite_50 : decode cX6_isFinite 50 = .ok (.if_icmp .eq 9, 3) := dk_159 0 9 (dk_at dksX6_isFinite_2 2 rfl rfl)
theorem dX6_isFinite_53 : decode cX6_isFinite 53 = .ok (.iload_n 2, 1) := dk_28 (dk_at dksX6_isFinite_2 5 rfl rfl)
theorem dX6_isFinite_54 : decode cX6_isFinite 54 = .ok (.bipush 13, 2) := dk_16 13 (dk_at dksX6_isFinite_2 6 rfl rfl)
theorem dX6_isFinite_56 : decode cX6_isFinite 56 = .ok (.if_icmp .ne 60, 3) := dk_160 0 60 (dk_at dksX6_isFinite_2 8 rfl rfl)
theorem dX6_isFinite_59 : decode cX6_isFinite 59 = .ok (.aload_n 0, 1) := dk_42 (dk_at dksX6_isFinite_2 11 rfl rfl)
theorem dX6_isFinite_60 : decode cX6_isFinite 60 = .ok (.getfield 83, 3) := dk_180 0 83 (dk_at dksX6_isFinite_2 12 rfl rfl)
theorem dX6_isFinite_63 : decode cX6_isFinite 63 = .ok (.iload_n 1, 1) := dk_27 (dk_at dksX6_isFinite_2 15 rfl rfl)
theorem dX6_isFinite_64 : decode cX6_isFinite 64 = .ok (.invokevirtual 196, 3) := dk_182 0 196 (dk_at dksX6_isFinite_2 16 rfl rfl)
theorem dX6_isFinite_67 : decode cX6_isFinite 67 = .ok (.istore_n 3, 1) := dk_62 (dk_at dksX6_isFinite_2 19 rfl rfl)
theorem dX6_isFinite_68 : decode cX6_isFinite 68 = .ok (.iload_n 3, 1) := dk_29 (dk_at dksX6_isFinite_2 20 rfl rfl)
theorem dX6_isFinite_69 : decode cX6_isFinite 69 = .ok (.iconst (-1), 1) := dk_2 (dk_at dksX6_isFinite_2 21 rfl rfl)
theorem dX6_isFinite_70 : decode cX6_isFinite 70 = .ok (.if_icmp .eq 44, 3) := dk_159 0 44 (dk_at dksX6_isFinite_3 0 rfl rfl)
theorem dX6_isFinite_73 : decode cX6_isFinite 73 = .ok (.aload_n 0, 1) := dk_42 (dk_at dksX6_isFinite_3 3 rfl rfl)
theorem dX6_isFinite_74 : decode cX6_isFinite 74 = .ok (.getfield 83, 3) := dk_180 0 83 (dk_at dksX6_isFinite_3 4 rfl rfl)
theorem dX6_isFinite_77 : decode cX6_isFinite 77 = .ok (.iload_n 3, 1) := dk_29 (dk_at dksX6_isFinite_3 7 rfl rfl)
theorem dX6_isFinite_78 : decode cX6_isFinite 78 = .ok (.iconst 5, 1) := dk_8 (dk_at dksX6_isFinite_3 8 rfl rfl)
theorem dX6_isFinite_79 : decode cX6_isFinite 79 = .ok (.invokevirtual 223, 3) := dk_182 0 223 (dk_at dksX6_isFinite_3 9 rfl rfl)
theorem dX6_isFinite_82 : decode cX6_isFinite 82 = .ok (.ifCond .ne 20, 3) := dk_154 0 20 (dk_at dksX6_isFinite_3 12 rfl rfl)
theorem dX6_isFinite_85 : decode cX6_isFinite 85 = .ok (.aload_n 0, 1) := dk_42 (dk_at dksX6_isFinite_3 15 rfl rfl)
theorem dX6_isFinite_86 : decode cX6_isFinite 86 = .ok (.aload_n 0, 1) := dk_42 (dk_at dksX6_isFinite_3 16 rfl rfl)
theorem dX6_isFinite_87 : decode cX6_isFinite 87 = .ok (.getfield 83, 3) := dk_180 0 83 (dk_at dksX6_isFinite_3 17 rfl rfl)
theorem dX6_isFinite_90 : decode cX6_isFinite 90 = .ok (.iload_n 3, 1) := dk_29 (dk_at dksX6_isFinite_3 20 rfl rfl)
theorem dX6_isFinite_91 : decode cX6_isFinite 91 = .ok (.invokevirtual 196, 3) := dk_182 0 196 (dk_at dksX6_isFinite_3 21 rfl rfl)
theorem dX6_isFinite_94 : decode cX6_isFinite 94 = .ok (.invokevirtual 275, 3) := dk_182 1 19 (dk_at dksX6_isFinite_4 0 rfl rfl)
theorem dX6_isFinite_97 : decode cX6_isFinite 97 = .ok (.ifCond .ne 5, 3) := dk_154 0 5 (dk_at dksX6_isFinite_4 3 rfl rfl)
theorem dX6_isFinite_100 : decode cX6_isFinite 100 = .ok (.iconst 0, 1) := dk_3 (dk_at dksX6_isFinite_4 6 rfl rfl)
theorem dX6_isFinite_101 : decode cX6_isFinite 101 = .ok (.ireturn, 1) := dk_172 (dk_at dksX6_isFinite_4 7 rfl rfl)
theorem dX6_isFinite_102 : decode cX6_isFinite 102 = .ok (.aload_n 0, 1) := dk_42 (dk_at dksX6_isFinite_4 8 rfl rfl)
theorem dX6_isFinite_103 : decode cX6_isFinite 103 = .ok (.getfield 83, 3) := dk_180 0 83 (dk_at dksX6_isFinite_4 9 rfl rfl)
theorem dX6_isFinite_106 : decode cX6_isFinite 106 = .ok (.iload_n 3, 1) := dk_29 (dk_at dksX6_isFinite_4 12 rfl rfl)
theorem dX6_isFinite_107 : decode cX6_isFinite 107 = .ok (.invokevirtual 189, 3) := dk_182 0 189 (dk_at dksX6_isFinite_4 13 rfl rfl)
theorem dX6_isFinite_110 : decode cX6_isFinite 110 = .ok (.istore_n 3, 1) := dk_62 (dk_at dksX6_isFinite_4 16 rfl rfl)
theorem dX6_isFinite_111 : decode cX6_isFinite 111 = .ok (.goto (-43), 3) := dk_167 255 213 (dk_at dksX6_isFinite_4 17 rfl rfl)
theorem dX6_isFinite_114 : decode cX6_isFinite 114 = .ok (.iconst 1, 1) := dk_4 (dk_at dksX6_isFinite_4 20 rfl rfl)
theorem dX6_isFinite_115 : decode cX6_isFinite 115 = .ok (.ireturn, 1) := dk_172 (dk_at dksX6_isFinite_4 21 rfl rfl)
theorem dX6_isFinite_116 : decode cX6_isFinite 116 = .ok (.iload_n 2, 1) := dk_28 (dk_at dksX6_isFinite_4 22 rfl rfl)
theorem dX6_isFinite_117 : decode cX6_isFinite 117 = .ok (.bipush 16, 2) := dk_16 16 (dk_at dksX6_isFinite_5 0 rfl rfl)
theorem dX6_isFinite_119 : decode cX6_isFinite 119 = .ok (.if_icmp .ne 48, 3) := dk_160 0 48 (dk_at dksX6_isFinite_5 2 rfl rfl)
theorem dX6_isFinite_122 : decode cX6_isFinite 122 = .ok (.aload_n 0, 1) := dk_42 (dk_at dksX6_isFinite_5 5 rfl rfl)
theorem dX6_isFinite_123 : decode cX6_isFinite 123 = .ok (.getfield 83, 3) := dk_180 0 83 (dk_at dksX6_isFinite_5 6 rfl rfl)
theorem dX6_isFinite_126 : decode cX6_isFinite 126 = .ok (.iload_n 1, 1) := dk_27 (dk_at dksX6_isFinite_5 9 rfl rfl)
theorem dX6_isFinite_127 : decode cX6_isFinite 127 = .ok (.invokevirtual 196, 3) := dk_182 0 196 (dk_at dksX6_isFinite_5 10 rfl rfl)
theorem dX6_isFinite_130 : decode cX6_isFinite 130 = .ok (.istore_n 3, 1) := dk_62 (dk_at dksX6_isFinite_5 13 rfl rfl)
theorem dX6_isFinite_131 : decode cX6_isFinite 131 = .ok (.iload_n 3, 1) := dk_29 (dk_at dksX6_isFinite_5 14 rfl rfl)
theorem dX6_isFinite_132 : decode cX6_isFinite 132 = .ok (.iconst (-1), 1) := dk_2 (dk_at dksX6_isFinite_5 15 rfl rfl)
theorem dX6_isFinite_133 : decode cX6_isFinite 133 = .ok (.if_icmp .eq 32, 3) := dk_159 0 32 (dk_at dksX6_isFinite_5 16 rfl rfl)
theorem dX6_isFinite_136 : decode cX6_isFinite 136 = .ok (.aload_n 0, 1) := dk_42 (dk_at dksX6_isFinite_5 19 rfl rfl)
theorem dX6_isFinite_137 : decode cX6_isFinite 137 = .ok (.aload_n 0, 1) := dk_42 (dk_at dksX6_isFinite_5 20 rfl rfl)
theorem dX6_isFinite_138 : decode cX6_isFinite 138 = .ok (.getfield 83, 3) := dk_180 0 83 (dk_at dksX6_isFinite_5 21 rfl rfl)
theorem dX6_isFinite_141 : decode cX6_isFinite 141 = .ok (.iload_n 3, 1) := dk_29 (dk_at dksX6_isFinite_6 0 rfl rfl)
theorem dX6_isFinite_142 : decode cX6_isFinite 142 = .ok (.invokevirtual 196, 3) := dk_182 0 196 (dk_at dksX6_isFinite_6 1 rfl rfl)
theorem dX6_isFinite_145 : decode cX6_isFinite 145 = .ok (.invokevirtual 275, 3) := dk_182 1 19 (dk_at dksX6_isFinite_6 4 rfl rfl)
theorem dX6_isFinite_148 : decode cX6_isFinite 148 = .ok (.ifCond .eq 5, 3) := dk_153 0 5 (dk_at dksX6_isFinite_6 7 rfl rfl)
theorem dX6_isFinite_151 : decode cX6_isFinite 151 = .ok (.iconst 1, 1) := dk_4 (dk_at dksX6_isFinite_6 10 rfl rfl)
theorem dX6_isFinite_152 : decode cX6_isFinite 152 = .ok (.ireturn, 1) := dk_172 (dk_at dksX6_isFinite_6 11 rfl rfl)
theorem dX6_isFinite_153 : decode cX6_isFinite 153 = .ok (.aload_n 0, 1) := dk_42 (dk_at dksX6_isFinite_6 12 rfl rfl)
theorem dX6_isFinite_154 : decode cX6_isFinite 154 = .ok (.getfield 83, 3) := dk_180 0 83 (dk_at dksX6_isFinite_6 13 rfl rfl)
theorem dX6_isFinite_157 : decode cX6_isFinite 157 = .ok (.iload_n 3, 1) := dk_29 (dk_at dksX6_isFinite_6 16 rfl rfl)
theorem dX6_isFinite_158 : decode cX6_isFinite 158 = .ok (.invokevirtual 189, 3) := dk_182 0 189 (dk_at dksX6_isFinite_6 17 rfl rfl)
theorem dX6_isFinite_161 : decode cX6_isFinite 161 = .ok (.istore_n 3, 1) := dk_62 (dk_at dksX6_isFinite_6 20 rfl rfl)
theorem dX6_isFinite_162 : decode cX6_isFinite 162 = .ok (.goto (-31), 3) := dk_167 255 225 (dk_at dksX6_isFinite_6 21 rfl rfl)
theorem dX6_isFinite_165 : decode cX6_isFinite 165 = .ok (.iconst 0, 1) := dk_3 (dk_at dksX6_isFinite_7 0 rfl rfl)
theorem dX6_isFinite_166 : decode cX6_isFinite 166 = .ok (.ireturn, 1) := dk_172 (dk_at dksX6_isFinite_7 1 rfl rfl)
theorem dX6_isFinite_167 : decode cX6_isFinite 167 = .ok (.iconst 1, 1) := dk_4 (dk_at dksX6_isFinite_7 2 rfl rfl)
theorem dX6_isFinite_168 : decode cX6_isFinite 168 = .ok (.ireturn, 1) := dk_172 (dk_at dksX6_isFinite_7 3 rfl rfl)
abbrev cX6_tagged : ByteArray := prog_9_method_24_code
def yX6_tagged : MethodName := ⟨RX6, "tagged", "()Z"⟩
def dkwX6_tagged_1 : List UInt8 := [182, 1, 22, 132, 1, 1, 167, 255, 229, 42, 180, 0, 96, 154, 0, 7, 4, 167, 0, 4, 3, 172]
abbrev dktX6_tagged_1 : List UInt8 := dkwX6_tagged_1 ++ []
def dkwX6_tagged_0 : List UInt8 := [3, 60, 27, 42, 180, 0, 83, 182, 0, 130, 162, 0, 22, 42, 27, 182, 0, 192, 153, 0, 8, 42, 27]
abbrev dktX6_tagged_0 : List UInt8 := dkwX6_tagged_0 ++ dktX6_tagged_1
theorem dksX6_tagged_0 : cX6_tagged.data.toList.drop 0 = dktX6_tagged_0 := by decide +kernel
theorem dksX6_tagged_1 : cX6_tagged.data.toList.drop 23 = dktX6_tagged_1 := dk_seg dksX6_tagged_0 23 rfl rfl
theorem dX6_tagged_0 : decode cX6_tagged 0 = .ok (.iconst 0, 1) := dk_3 (dk_at dksX6_tagged_0 0 rfl rfl)
theorem dX6_tagged_1 : decode cX6_tagged 1 = .ok (.istore_n 1, 1) := dk_60 (dk_at dksX6_tagged_0 1 rfl rfl)
theorem dX6_tagged_2 : decode cX6_tagged 2 = .ok (.iload_n 1, 1) := dk_27 (dk_at dksX6_tagged_0 2 rfl rfl)
theorem dX6_tagged_3 : decode cX6_tagged 3 = .ok (.aload_n 0, 1) := dk_42 (dk_at dksX6_tagged_0 3 rfl rfl)
theorem dX6_tagged_4 : decode cX6_tagged 4 = .ok (.getfield 83, 3) := dk_180 0 83 (dk_at dksX6_tagged_0 4 rfl rfl)
theorem dX6_tagged_7 : decode cX6_tagged 7 = .ok (.invokevirtual 130, 3) := dk_182 0 130 (dk_at dksX6_tagged_0 7 rfl rfl)
theorem dX6_tagged_10 : decode cX6_tagged 10 = .ok (.if_icmp .ge 22, 3) := dk_162 0 22 (dk_at dksX6_tagged_0 10 rfl rfl)
theorem dX6_tagged_13 : decode cX6_tagged 13 = .ok (.aload_n 0, 1) := dk_42 (dk_at dksX6_tagged_0 13 rfl rfl)
theorem dX6_tagged_14 : decode cX6_tagged 14 = .ok (.iload_n 1, 1) := dk_27 (dk_at dksX6_tagged_0 14 rfl rfl)
theorem dX6_tagged_15 : decode cX6_tagged 15 = .ok (.invokevirtual 192, 3) := dk_182 0 192 (dk_at dksX6_tagged_0 15 rfl rfl)
theorem dX6_tagged_18 : decode cX6_tagged 18 = .ok (.ifCond .eq 8, 3) := dk_153 0 8 (dk_at dksX6_tagged_0 18 rfl rfl)
theorem dX6_tagged_21 : decode cX6_tagged 21 = .ok (.aload_n 0, 1) := dk_42 (dk_at dksX6_tagged_0 21 rfl rfl)
theorem dX6_tagged_22 : decode cX6_tagged 22 = .ok (.iload_n 1, 1) := dk_27 (dk_at dksX6_tagged_0 22 rfl rfl)
theorem dX6_tagged_23 : decode cX6_tagged 23 = .ok (.invokevirtual 278, 3) := dk_182 1 22 (dk_at dksX6_tagged_1 0 rfl rfl)
theorem dX6_tagged_26 : decode cX6_tagged 26 = .ok (.iinc 1 1, 3) := dk_132 1 1 (dk_at dksX6_tagged_1 3 rfl rfl)
theorem dX6_tagged_29 : decode cX6_tagged 29 = .ok (.goto (-27), 3) := dk_167 255 229 (dk_at dksX6_tagged_1 6 rfl rfl)
theorem dX6_tagged_32 : decode cX6_tagged 32 = .ok (.aload_n 0, 1) := dk_42 (dk_at dksX6_tagged_1 9 rfl rfl)
theorem dX6_tagged_33 : decode cX6_tagged 33 = .ok (.getfield 96, 3) := dk_180 0 96 (dk_at dksX6_tagged_1 10 rfl rfl)
theorem dX6_tagged_36 : decode cX6_tagged 36 = .ok (.ifCond .ne 7, 3) := dk_154 0 7 (dk_at dksX6_tagged_1 13 rfl rfl)
theorem dX6_tagged_39 : decode cX6_tagged 39 = .ok (.iconst 1, 1) := dk_4 (dk_at dksX6_tagged_1 16 rfl rfl)
theorem dX6_tagged_40 : decode cX6_tagged 40 = .ok (.goto 4, 3) := dk_167 0 4 (dk_at dksX6_tagged_1 17 rfl rfl)
theorem dX6_tagged_43 : decode cX6_tagged 43 = .ok (.iconst 0, 1) := dk_3 (dk_at dksX6_tagged_1 20 rfl rfl)
theorem dX6_tagged_44 : decode cX6_tagged 44 = .ok (.ireturn, 1) := dk_172 (dk_at dksX6_tagged_1 21 rfl rfl)
abbrev cX6_tagAll : ByteArray := prog_9_method_25_code
def yX6_tagAll : MethodName := ⟨RX6, "tagAll", "(I)V"⟩
def dkwX6_tagAll_2 : List UInt8 := [158, 0, 19, 132, 2, 255, 42, 42, 180, 0, 77, 28, 46, 182, 1, 25, 167, 255, 239, 177]
abbrev dktX6_tagAll_2 : List UInt8 := dkwX6_tagAll_2 ++ []
def dkwX6_tagAll_1 : List UInt8 := [42, 180, 0, 83, 29, 182, 0, 125, 16, 17, 160, 0, 12, 42, 29, 182, 0, 250, 62, 167, 255, 217, 28]
abbrev dktX6_tagAll_1 : List UInt8 := dkwX6_tagAll_1 ++ dktX6_tagAll_2
def dkwX6_tagAll_0 : List UInt8 := [3, 61, 27, 62, 42, 180, 0, 62, 29, 46, 2, 160, 0, 35, 42, 180, 0, 77, 28, 29, 79, 132, 2, 1]
abbrev dktX6_tagAll_0 : List UInt8 := dkwX6_tagAll_0 ++ dktX6_tagAll_1
theorem dksX6_tagAll_0 : cX6_tagAll.data.toList.drop 0 = dktX6_tagAll_0 := by decide +kernel
theorem dksX6_tagAll_1 : cX6_tagAll.data.toList.drop 24 = dktX6_tagAll_1 := dk_seg dksX6_tagAll_0 24 rfl rfl
theorem dksX6_tagAll_2 : cX6_tagAll.data.toList.drop 47 = dktX6_tagAll_2 := dk_seg dksX6_tagAll_1 23 rfl rfl
theorem dX6_tagAll_0 : decode cX6_tagAll 0 = .ok (.iconst 0, 1) := dk_3 (dk_at dksX6_tagAll_0 0 rfl rfl)
theorem dX6_tagAll_1 : decode cX6_tagAll 1 = .ok (.istore_n 2, 1) := dk_61 (dk_at dksX6_tagAll_0 1 rfl rfl)
theorem dX6_tagAll_2 : decode cX6_tagAll 2 = .ok (.iload_n 1, 1) := dk_27 (dk_at dksX6_tagAll_0 2 rfl rfl)
theorem dX6_tagAll_3 : decode cX6_tagAll 3 = .ok (.istore_n 3, 1) := dk_62 (dk_at dksX6_tagAll_0 3 rfl rfl)
theorem dX6_tagAll_4 : decode cX6_tagAll 4 = .ok (.aload_n 0, 1) := dk_42 (dk_at dksX6_tagAll_0 4 rfl rfl)
theorem dX6_tagAll_5 : decode cX6_tagAll 5 = .ok (.getfield 62, 3) := dk_180 0 62 (dk_at dksX6_tagAll_0 5 rfl rfl)
theorem dX6_tagAll_8 : decode cX6_tagAll 8 = .ok (.iload_n 3, 1) := dk_29 (dk_at dksX6_tagAll_0 8 rfl rfl)
theorem dX6_tagAll_9 : decode cX6_tagAll 9 = .ok (.iaload, 1) := dk_46 (dk_at dksX6_tagAll_0 9 rfl rfl)
theorem dX6_tagAll_10 : decode cX6_tagAll 10 = .ok (.iconst (-1), 1) := dk_2 (dk_at dksX6_tagAll_0 10 rfl rfl)
theorem dX6_tagAll_11 : decode cX6_tagAll 11 = .ok (.if_icmp .ne 35, 3) := dk_160 0 35 (dk_at dksX6_tagAll_0 11 rfl rfl)
theorem dX6_tagAll_14 : decode cX6_tagAll 14 = .ok (.aload_n 0, 1) := dk_42 (dk_at dksX6_tagAll_0 14 rfl rfl)
theorem dX6_tagAll_15 : decode cX6_tagAll 15 = .ok (.getfield 77, 3) := dk_180 0 77 (dk_at dksX6_tagAll_0 15 rfl rfl)
theorem dX6_tagAll_18 : decode cX6_tagAll 18 = .ok (.iload_n 2, 1) := dk_28 (dk_at dksX6_tagAll_0 18 rfl rfl)
theorem dX6_tagAll_19 : decode cX6_tagAll 19 = .ok (.iload_n 3, 1) := dk_29 (dk_at dksX6_tagAll_0 19 rfl rfl)
theorem dX6_tagAll_20 : decode cX6_tagAll 20 = .ok (.iastore, 1) := dk_79 (dk_at dksX6_tagAll_0 20 rfl rfl)
theorem dX6_tagAll_21 : decode cX6_tagAll 21 = .ok (.iinc 2 1, 3) := dk_132 2 1 (dk_at dksX6_tagAll_0 21 rfl rfl)
theorem dX6_tagAll_24 : decode cX6_tagAll 24 = .ok (.aload_n 0, 1) := dk_42 (dk_at dksX6_tagAll_1 0 rfl rfl)
theorem dX6_tagAll_25 : decode cX6_tagAll 25 = .ok (.getfield 83, 3) := dk_180 0 83 (dk_at dksX6_tagAll_1 1 rfl rfl)
theorem dX6_tagAll_28 : decode cX6_tagAll 28 = .ok (.iload_n 3, 1) := dk_29 (dk_at dksX6_tagAll_1 4 rfl rfl)
theorem dX6_tagAll_29 : decode cX6_tagAll 29 = .ok (.invokevirtual 125, 3) := dk_182 0 125 (dk_at dksX6_tagAll_1 5 rfl rfl)
theorem dX6_tagAll_32 : decode cX6_tagAll 32 = .ok (.bipush 17, 2) := dk_16 17 (dk_at dksX6_tagAll_1 8 rfl rfl)
theorem dX6_tagAll_34 : decode cX6_tagAll 34 = .ok (.if_icmp .ne 12, 3) := dk_160 0 12 (dk_at dksX6_tagAll_1 10 rfl rfl)
theorem dX6_tagAll_37 : decode cX6_tagAll 37 = .ok (.aload_n 0, 1) := dk_42 (dk_at dksX6_tagAll_1 13 rfl rfl)
theorem dX6_tagAll_38 : decode cX6_tagAll 38 = .ok (.iload_n 3, 1) := dk_29 (dk_at dksX6_tagAll_1 14 rfl rfl)
theorem dX6_tagAll_39 : decode cX6_tagAll 39 = .ok (.invokevirtual 250, 3) := dk_182 0 250 (dk_at dksX6_tagAll_1 15 rfl rfl)
theorem dX6_tagAll_42 : decode cX6_tagAll 42 = .ok (.istore_n 3, 1) := dk_62 (dk_at dksX6_tagAll_1 18 rfl rfl)
theorem dX6_tagAll_43 : decode cX6_tagAll 43 = .ok (.goto (-39), 3) := dk_167 255 217 (dk_at dksX6_tagAll_1 19 rfl rfl)
theorem dX6_tagAll_46 : decode cX6_tagAll 46 = .ok (.iload_n 2, 1) := dk_28 (dk_at dksX6_tagAll_1 22 rfl rfl)
theorem dX6_tagAll_47 : decode cX6_tagAll 47 = .ok (.ifCond .le 19, 3) := dk_158 0 19 (dk_at dksX6_tagAll_2 0 rfl rfl)
theorem dX6_tagAll_50 : decode cX6_tagAll 50 = .ok (.iinc 2 (-1), 3) := dk_132 2 255 (dk_at dksX6_tagAll_2 3 rfl rfl)
theorem dX6_tagAll_53 : decode cX6_tagAll 53 = .ok (.aload_n 0, 1) := dk_42 (dk_at dksX6_tagAll_2 6 rfl rfl)
theorem dX6_tagAll_54 : decode cX6_tagAll 54 = .ok (.aload_n 0, 1) := dk_42 (dk_at dksX6_tagAll_2 7 rfl rfl)
theorem dX6_tagAll_55 : decode cX6_tagAll 55 = .ok (.getfield 77, 3) := dk_180 0 77 (dk_at dksX6_tagAll_2 8 rfl rfl)
theorem dX6_tagAll_58 : decode cX6_tagAll 58 = .ok (.iload_n 2, 1) := dk_28 (dk_at dksX6_tagAll_2 11 rfl rfl)
theorem dX6_tagAll_59 : decode cX6_tagAll 59 = .ok (.iaload, 1) := dk_46 (dk_at dksX6_tagAll_2 12 rfl rfl)
theorem dX6_tagAll_60 : decode cX6_tagAll 60 = .ok (.invokevirtual 281, 3) := dk_182 1 25 (dk_at dksX6_tagAll_2 13 rfl rfl)
theorem dX6_tagAll_63 : decode cX6_tagAll 63 = .ok (.goto (-17), 3) := dk_167 255 239 (dk_at dksX6_tagAll_2 16 rfl rfl)
theorem dX6_tagAll_66 : decode cX6_tagAll 66 = .ok (.return_, 1) := dk_177 (dk_at dksX6_tagAll_2 19 rfl rfl)
abbrev cX6_tagOne : ByteArray := prog_9_method_27_code
def yX6_tagOne : MethodName := ⟨RX6, "tagOne", "(I)V"⟩
def dkwX6_tagOne_12 : List UInt8 := [46, 79, 42, 180, 0, 74, 21, 5, 21, 6, 79, 132, 4, 1, 132, 5, 255, 167, 255, 211, 177]
abbrev dktX6_tagOne_12 : List UInt8 := dkwX6_tagOne_12 ++ []
def dkwX6_tagOne_11 : List UInt8 := [162, 0, 44, 42, 180, 0, 74, 21, 4, 46, 54, 6, 42, 180, 0, 74, 21, 4, 42, 180, 0, 74, 21, 5]
abbrev dktX6_tagOne_11 : List UInt8 := dkwX6_tagOne_11 ++ dktX6_tagOne_12
def dkwX6_tagOne_10 : List UInt8 := [27, 42, 180, 0, 141, 29, 100, 79, 29, 54, 4, 42, 180, 0, 141, 4, 100, 54, 5, 21, 4, 21, 5]
abbrev dktX6_tagOne_10 : List UInt8 := dkwX6_tagOne_10 ++ dktX6_tagOne_11
def dkwX6_tagOne_9 : List UInt8 := [180, 0, 83, 27, 182, 0, 178, 182, 0, 185, 42, 29, 16, 100, 96, 4, 96, 181, 0, 141, 42, 180, 0, 65]
abbrev dktX6_tagOne_9 : List UInt8 := dkwX6_tagOne_9 ++ dktX6_tagOne_10
def dkwX6_tagOne_8 : List UInt8 := [27, 5, 182, 0, 223, 29, 182, 1, 34, 42, 180, 0, 141, 29, 100, 16, 100, 164, 0, 27, 42, 16, 8, 42]
abbrev dktX6_tagOne_8 : List UInt8 := dkwX6_tagOne_8 ++ dktX6_tagOne_9
def dkwX6_tagOne_7 : List UInt8 := [159, 0, 18, 42, 42, 180, 0, 83, 27, 182, 0, 125, 184, 1, 31, 182, 1, 28, 42, 27, 42, 180, 0, 83]
abbrev dktX6_tagOne_7 : List UInt8 := dkwX6_tagOne_7 ++ dktX6_tagOne_8
def dkwX6_tagOne_6 : List UInt8 := [182, 1, 28, 132, 4, 255, 167, 255, 230, 167, 0, 31, 42, 180, 0, 83, 27, 182, 0, 125, 16, 16]
abbrev dktX6_tagOne_6 : List UInt8 := dkwX6_tagOne_6 ++ dktX6_tagOne_7
def dkwX6_tagOne_5 : List UInt8 := [54, 4, 21, 4, 155, 0, 27, 42, 42, 180, 0, 74, 42, 180, 0, 62, 28, 46, 21, 4, 96, 46]
abbrev dktX6_tagOne_5 : List UInt8 := dkwX6_tagOne_5 ++ dktX6_tagOne_6
def dkwX6_tagOne_4 : List UInt8 := [180, 0, 83, 27, 182, 0, 178, 182, 0, 185, 177, 28, 2, 159, 0, 45, 42, 180, 0, 65, 28, 46, 4, 100]
abbrev dktX6_tagOne_4 : List UInt8 := dkwX6_tagOne_4 ++ dktX6_tagOne_5
def dkwX6_tagOne_3 : List UInt8 := [42, 180, 0, 65, 28, 46, 79, 42, 180, 0, 65, 27, 46, 16, 100, 164, 0, 17, 42, 16, 8, 42]
abbrev dktX6_tagOne_3 : List UInt8 := dkwX6_tagOne_3 ++ dktX6_tagOne_4
def dkwX6_tagOne_2 : List UInt8 := [182, 0, 223, 2, 160, 0, 53, 42, 180, 0, 62, 27, 42, 180, 0, 62, 28, 46, 79, 42, 180, 0, 65, 27]
abbrev dktX6_tagOne_2 : List UInt8 := dkwX6_tagOne_2 ++ dktX6_tagOne_3
def dkwX6_tagOne_1 : List UInt8 := [180, 0, 141, 62, 42, 180, 0, 62, 27, 29, 79, 28, 2, 159, 0, 66, 42, 180, 0, 83, 27, 5]
abbrev dktX6_tagOne_1 : List UInt8 := dkwX6_tagOne_1 ++ dktX6_tagOne_2
def dkwX6_tagOne_0 : List UInt8 := [42, 180, 0, 83, 27, 182, 0, 125, 16, 17, 160, 0, 11, 42, 27, 182, 0, 250, 167, 0, 4, 2, 61, 42]
abbrev dktX6_tagOne_0 : List UInt8 := dkwX6_tagOne_0 ++ dktX6_tagOne_1
theorem dksX6_tagOne_0 : cX6_tagOne.data.toList.drop 0 = dktX6_tagOne_0 := by decide +kernel
theorem dksX6_tagOne_1 : cX6_tagOne.data.toList.drop 24 = dktX6_tagOne_1 := dk_seg dksX6_tagOne_0 24 rfl rfl
theorem dksX6_tagOne_2 : cX6_tagOne.data.toList.drop 46 = dktX6_tagOne_2 := dk_seg dksX6_tagOne_1 22 rfl rfl
theorem dksX6_tagOne_3 : cX6_tagOne.data.toList.drop 70 = dktX6_tagOne_3 := dk_seg dksX6_tagOne_2 24 rfl rfl
theorem dksX6_tagOne_4 : cX6_tagOne.data.toList.drop 92 = dktX6_tagOne_4 := dk_seg dksX6_tagOne_3 22 rfl rfl
theorem dksX6_tagOne_5 : cX6_tagOne.data.toList.drop 116 = dktX6_tagOne_5 := dk_seg dksX6_tagOne_4 24 rfl rfl
theorem dksX6_tagOne_6 : cX6_tagOne.data.toList.drop 138 = dktX6_tagOne_6 := dk_seg dksX6_tagOne_5 22 rfl rfl
theorem dksX6_tagOne_7 : cX6_tagOne.data.toList.drop 160 = dktX6_tagOne_7 := dk_seg dksX6_tagOne_6 22 rfl rfl
theorem dksX6_tagOne_8 : cX6_tagOne.data.toList.drop 184 = dktX6_tagOne_8 := dk_seg dksX6_tagOne_7 24 rfl rfl
theorem dksX6_tagOne_9 : cX6_tagOne.data.toList.drop 208 = dktX6_tagOne_9 := dk_seg dksX6_tagOne_8 24 rfl rfl
theorem dksX6_tagOne_10 : cX6_tagOne.data.toList.drop 232 = dktX6_tagOne_10 := dk_seg dksX6_tagOne_9 24 rfl rfl
theorem dksX6_tagOne_11 : cX6_tagOne.data.toList.drop 255 = dktX6_tagOne_11 := dk_seg dksX6_tagOne_10 23 rfl rfl
theorem dksX6_tagOne_12 : cX6_tagOne.data.toList.drop 279 = dktX6_tagOne_12 := dk_seg dksX6_tagOne_11 24 rfl rfl
theorem dX6_tagOne_0 : decode cX6_tagOne 0 = .ok (.aload_n 0, 1) := dk_42 (dk_at dksX6_tagOne_0 0 rfl rfl)
theorem dX6_tagOne_1 : decode cX6_tagOne 1 = .ok (.getfield 83, 3) := dk_180 0 83 (dk_at dksX6_tagOne_0 1 rfl rfl)
theorem dX6_tagOne_4 : decode cX6_tagOne 4 = .ok (.iload_n 1, 1) := dk_27 (dk_at dksX6_tagOne_0 4 rfl rfl)
theorem dX6_tagOne_5 : decode cX6_tagOne 5 = .ok (.invokevirtual 125, 3) := dk_182 0 125 (dk_at dksX6_tagOne_0 5 rfl rfl)
theorem dX6_tagOne_8 : decode cX6_tagOne 8 = .ok (.bipush 17, 2) := dk_16 17 (dk_at dksX6_tagOne_0 8 rfl rfl)
theorem dX6_tagOne_10 : decode cX6_tagOne 10 = .ok (.if_icmp .ne 11, 3) := dk_160 0 11 (dk_at dksX6_tagOne_0 10 rfl rfl)
theorem dX6_tagOne_13 : decode cX6_tagOne 13 = .ok (.aload_n 0, 1) := dk_42 (dk_at dksX6_tagOne_0 13 rfl rfl)
theorem dX6_tagOne_14 : decode cX6_tagOne 14 = .ok (.iload_n 1, 1) := dk_27 (dk_at dksX6_tagOne_0 14 rfl rfl)
theorem dX6_tagOne_15 : decode cX6_tagOne 15 = .ok (.invokevirtual 250, 3) := dk_182 0 250 (dk_at dksX6_tagOne_0 15 rfl rfl)
theorem dX6_tagOne_18 : decode cX6_tagOne 18 = .ok (.goto 4, 3) := dk_167 0 4 (dk_at dksX6_tagOne_0 18 rfl rfl)
theorem dX6_tagOne_21 : decode cX6_tagOne 21 = .ok (.iconst (-1), 1) := dk_2 (dk_at dksX6_tagOne_0 21 rfl rfl)
theorem dX6_tagOne_22 : decode cX6_tagOne 22 = .ok (.istore_n 2, 1) := dk_61 (dk_at dksX6_tagOne_0 22 rfl rfl)
theorem dX6_tagOne_23 : decode cX6_tagOne 23 = .ok (.aload_n 0, 1) := dk_42 (dk_at dksX6_tagOne_0 23 rfl rfl)
theorem dX6_tagOne_24 : decode cX6_tagOne 24 = .ok (.getfield 141, 3) := dk_180 0 141 (dk_at dksX6_tagOne_1 0 rfl rfl)
theorem dX6_tagOne_27 : decode cX6_tagOne 27 = .ok (.istore_n 3, 1) := dk_62 (dk_at dksX6_tagOne_1 3 rfl rfl)
theorem dX6_tagOne_28 : decode cX6_tagOne 28 = .ok (.aload_n 0, 1) := dk_42 (dk_at dksX6_tagOne_1 4 rfl rfl)
theorem dX6_tagOne_29 : decode cX6_tagOne 29 = .ok (.getfield 62, 3) := dk_180 0 62 (dk_at dksX6_tagOne_1 5 rfl rfl)
theorem dX6_tagOne_32 : decode cX6_tagOne 32 = .ok (.iload_n 1, 1) := dk_27 (dk_at dksX6_tagOne_1 8 rfl rfl)
theorem dX6_tagOne_33 : decode cX6_tagOne 33 = .ok (.iload_n 3, 1) := dk_29 (dk_at dksX6_tagOne_1 9 rfl rfl)
theorem dX6_tagOne_34 : decode cX6_tagOne 34 = .ok (.iastore, 1) := dk_79 (dk_at dksX6_tagOne_1 10 rfl rfl)
theorem dX6_tagOne_35 : decode cX6_tagOne 35 = .ok (.iload_n 2, 1) := dk_28 (dk_at dksX6_tagOne_1 11 rfl rfl)
theorem dX6_tagOne_36 : decode cX6_tagOne 36 = .ok (.iconst (-1), 1) := dk_2 (dk_at dksX6_tagOne_1 12 rfl rfl)
theorem dX6_tagOne_37 : decode cX6_tagOne 37 = .ok (.if_icmp .eq 66, 3) := dk_159 0 66 (dk_at dksX6_tagOne_1 13 rfl rfl)
theorem dX6_tagOne_40 : decode cX6_tagOne 40 = .ok (.aload_n 0, 1) := dk_42 (dk_at dksX6_tagOne_1 16 rfl rfl)
theorem dX6_tagOne_41 : decode cX6_tagOne 41 = .ok (.getfield 83, 3) := dk_180 0 83 (dk_at dksX6_tagOne_1 17 rfl rfl)
theorem dX6_tagOne_44 : decode cX6_tagOne 44 = .ok (.iload_n 1, 1) := dk_27 (dk_at dksX6_tagOne_1 20 rfl rfl)
theorem dX6_tagOne_45 : decode cX6_tagOne 45 = .ok (.iconst 2, 1) := dk_5 (dk_at dksX6_tagOne_1 21 rfl rfl)
theorem dX6_tagOne_46 : decode cX6_tagOne 46 = .ok (.invokevirtual 223, 3) := dk_182 0 223 (dk_at dksX6_tagOne_2 0 rfl rfl)
theorem dX6_tagOne_49 : decode cX6_tagOne 49 = .ok (.iconst (-1), 1) := dk_2 (dk_at dksX6_tagOne_2 3 rfl rfl)
theorem dX6_tagOne_50 : decode cX6_tagOne 50 = .ok (.if_icmp .ne 53, 3) := dk_160 0 53 (dk_at dksX6_tagOne_2 4 rfl rfl)
theorem dX6_tagOne_53 : decode cX6_tagOne 53 = .ok (.aload_n 0, 1) := dk_42 (dk_at dksX6_tagOne_2 7 rfl rfl)
theorem dX6_tagOne_54 : decode cX6_tagOne 54 = .ok (.getfield 62, 3) := dk_180 0 62 (dk_at dksX6_tagOne_2 8 rfl rfl)
theorem dX6_tagOne_57 : decode cX6_tagOne 57 = .ok (.iload_n 1, 1) := dk_27 (dk_at dksX6_tagOne_2 11 rfl rfl)
theorem dX6_tagOne_58 : decode cX6_tagOne 58 = .ok (.aload_n 0, 1) := dk_42 (dk_at dksX6_tagOne_2 12 rfl rfl)
theorem dX6_tagOne_59 : decode cX6_tagOne 59 = .ok (.getfield 62, 3) := dk_180 0 62 (dk_at dksX6_tagOne_2 13 rfl rfl)
theorem dX6_tagOne_62 : decode cX6_tagOne 62 = .ok (.iload_n 2, 1) := dk_28 (dk_at dksX6_tagOne_2 16 rfl rfl)
theorem dX6_tagOne_63 : decode cX6_tagOne 63 = .ok (.iaload, 1) := dk_46 (dk_at dksX6_tagOne_2 17 rfl rfl)
theorem dX6_tagOne_64 : decode cX6_tagOne 64 = .ok (.iastore, 1) := dk_79 (dk_at dksX6_tagOne_2 18 rfl rfl)
theorem dX6_tagOne_65 : decode cX6_tagOne 65 = .ok (.aload_n 0, 1) := dk_42 (dk_at dksX6_tagOne_2 19 rfl rfl)
theorem dX6_tagOne_66 : decode cX6_tagOne 66 = .ok (.getfield 65, 3) := dk_180 0 65 (dk_at dksX6_tagOne_2 20 rfl rfl)
theorem dX6_tagOne_69 : decode cX6_tagOne 69 = .ok (.iload_n 1, 1) := dk_27 (dk_at dksX6_tagOne_2 23 rfl rfl)
theorem dX6_tagOne_70 : decode cX6_tagOne 70 = .ok (.aload_n 0, 1) := dk_42 (dk_at dksX6_tagOne_3 0 rfl rfl)
theorem dX6_tagOne_71 : decode cX6_tagOne 71 = .ok (.getfield 65, 3) := dk_180 0 65 (dk_at dksX6_tagOne_3 1 rfl rfl)
theorem dX6_tagOne_74 : decode cX6_tagOne 74 = .ok (.iload_n 2, 1) := dk_28 (dk_at dksX6_tagOne_3 4 rfl rfl)
theorem dX6_tagOne_75 : decode cX6_tagOne 75 = .ok (.iaload, 1) := dk_46 (dk_at dksX6_tagOne_3 5 rfl rfl)
theorem dX6_tagOne_76 : decode cX6_tagOne 76 = .ok (.iastore, 1) := dk_79 (dk_at dksX6_tagOne_3 6 rfl rfl)
theorem dX6_tagOne_77 : decode cX6_tagOne 77 = .ok (.aload_n 0, 1) := dk_42 (dk_at dksX6_tagOne_3 7 rfl rfl)
theorem dX6_tagOne_78 : decode cX6_tagOne 78 = .ok (.getfield 65, 3) := dk_180 0 65 (dk_at dksX6_tagOne_3 8 rfl rfl)
theorem dX6_tagOne_81 : decode cX6_tagOne 81 = .ok (.iload_n 1, 1) := dk_27 (dk_at dksX6_tagOne_3 11 rfl rfl)
theorem dX6_tagOne_82 : decode cX6_tagOne 82 = .ok (.iaload, 1) := dk_46 (dk_at dksX6_tagOne_3 12 rfl rfl)
theorem dX6_tagOne_83 : decode cX6_tagOne 83 = .ok (.bipush 100, 2) := dk_16 100 (dk_at dksX6_tagOne_3 13 rfl rfl)
theorem dX6_tagOne_85 : decode cX6_tagOne 85 = .ok (.if_icmp .le 17, 3) := dk_164 0 17 (dk_at dksX6_tagOne_3 15 rfl rfl)
theorem dX6_tagOne_88 : decode cX6_tagOne 88 = .ok (.aload_n 0, 1) := dk_42 (dk_at dksX6_tagOne_3 18 rfl rfl)
theorem dX6_tagOne_89 : decode cX6_tagOne 89 = .ok (.bipush 8, 2) := dk_16 8 (dk_at dksX6_tagOne_3 19 rfl rfl)
theorem dX6_tagOne_91 : decode cX6_tagOne 91 = .ok (.aload_n 0, 1) := dk_42 (dk_at dksX6_tagOne_3 21 rfl rfl)
theorem dX6_tagOne_92 : decode cX6_tagOne 92 = .ok (.getfield 83, 3) := dk_180 0 83 (dk_at dksX6_tagOne_4 0 rfl rfl)
theorem dX6_tagOne_95 : decode cX6_tagOne 95 = .ok (.iload_n 1, 1) := dk_27 (dk_at dksX6_tagOne_4 3 rfl rfl)
theorem dX6_tagOne_96 : decode cX6_tagOne 96 = .ok (.invokevirtual 178, 3) := dk_182 0 178 (dk_at dksX6_tagOne_4 4 rfl rfl)
theorem dX6_tagOne_99 : decode cX6_tagOne 99 = .ok (.invokevirtual 185, 3) := dk_182 0 185 (dk_at dksX6_tagOne_4 7 rfl rfl)
theorem dX6_tagOne_102 : decode cX6_tagOne 102 = .ok (.return_, 1) := dk_177 (dk_at dksX6_tagOne_4 10 rfl rfl)
theorem dX6_tagOne_103 : decode cX6_tagOne 103 = .ok (.iload_n 2, 1) := dk_28 (dk_at dksX6_tagOne_4 11 rfl rfl)
theorem dX6_tagOne_104 : decode cX6_tagOne 104 = .ok (.iconst (-1), 1) := dk_2 (dk_at dksX6_tagOne_4 12 rfl rfl)
theorem dX6_tagOne_105 : decode cX6_tagOne 105 = .ok (.if_icmp .eq 45, 3) := dk_159 0 45 (dk_at dksX6_tagOne_4 13 rfl rfl)
theorem dX6_tagOne_108 : decode cX6_tagOne 108 = .ok (.aload_n 0, 1) := dk_42 (dk_at dksX6_tagOne_4 16 rfl rfl)
theorem dX6_tagOne_109 : decode cX6_tagOne 109 = .ok (.getfield 65, 3) := dk_180 0 65 (dk_at dksX6_tagOne_4 17 rfl rfl)
theorem dX6_tagOne_112 : decode cX6_tagOne 112 = .ok (.iload_n 2, 1) := dk_28 (dk_at dksX6_tagOne_4 20 rfl rfl)
theorem dX6_tagOne_113 : decode cX6_tagOne 113 = .ok (.iaload, 1) := dk_46 (dk_at dksX6_tagOne_4 21 rfl rfl)
theorem dX6_tagOne_114 : decode cX6_tagOne 114 = .ok (.iconst 1, 1) := dk_4 (dk_at dksX6_tagOne_4 22 rfl rfl)
theorem dX6_tagOne_115 : decode cX6_tagOne 115 = .ok (.isub, 1) := dk_100 (dk_at dksX6_tagOne_4 23 rfl rfl)
theorem dX6_tagOne_116 : decode cX6_tagOne 116 = .ok (.istore 4, 2) := dk_54 4 (dk_at dksX6_tagOne_5 0 rfl rfl)
theorem dX6_tagOne_118 : decode cX6_tagOne 118 = .ok (.iload 4, 2) := dk_21 4 (dk_at dksX6_tagOne_5 2 rfl rfl)
theorem dX6_tagOne_120 : decode cX6_tagOne 120 = .ok (.ifCond .lt 27, 3) := dk_155 0 27 (dk_at dksX6_tagOne_5 4 rfl rfl)
theorem dX6_tagOne_123 : decode cX6_tagOne 123 = .ok (.aload_n 0, 1) := dk_42 (dk_at dksX6_tagOne_5 7 rfl rfl)
theorem dX6_tagOne_124 : decode cX6_tagOne 124 = .ok (.aload_n 0, 1) := dk_42 (dk_at dksX6_tagOne_5 8 rfl rfl)
theorem dX6_tagOne_125 : decode cX6_tagOne 125 = .ok (.getfield 74, 3) := dk_180 0 74 (dk_at dksX6_tagOne_5 9 rfl rfl)
theorem dX6_tagOne_128 : decode cX6_tagOne 128 = .ok (.aload_n 0, 1) := dk_42 (dk_at dksX6_tagOne_5 12 rfl rfl)
theorem dX6_tagOne_129 : decode cX6_tagOne 129 = .ok (.getfield 62, 3) := dk_180 0 62 (dk_at dksX6_tagOne_5 13 rfl rfl)
theorem dX6_tagOne_132 : decode cX6_tagOne 132 = .ok (.iload_n 2, 1) := dk_28 (dk_at dksX6_tagOne_5 16 rfl rfl)
theorem dX6_tagOne_133 : decode cX6_tagOne 133 = .ok (.iaload, 1) := dk_46 (dk_at dksX6_tagOne_5 17 rfl rfl)
theorem dX6_tagOne_134 : decode cX6_tagOne 134 = .ok (.iload 4, 2) := dk_21 4 (dk_at dksX6_tagOne_5 18 rfl rfl)
theorem dX6_tagOne_136 : decode cX6_tagOne 136 = .ok (.iadd, 1) := dk_96 (dk_at dksX6_tagOne_5 20 rfl rfl)
theorem dX6_tagOne_137 : decode cX6_tagOne 137 = .ok (.iaload, 1) := dk_46 (dk_at dksX6_tagOne_5 21 rfl rfl)
theorem dX6_tagOne_138 : decode cX6_tagOne 138 = .ok (.invokevirtual 284, 3) := dk_182 1 28 (dk_at dksX6_tagOne_6 0 rfl rfl)
theorem dX6_tagOne_141 : decode cX6_tagOne 141 = .ok (.iinc 4 (-1), 3) := dk_132 4 255 (dk_at dksX6_tagOne_6 3 rfl rfl)
theorem dX6_tagOne_144 : decode cX6_tagOne 144 = .ok (.goto (-26), 3) := dk_167 255 230 (dk_at dksX6_tagOne_6 6 rfl rfl)
theorem dX6_tagOne_147 : decode cX6_tagOne 147 = .ok (.goto 31, 3) := dk_167 0 31 (dk_at dksX6_tagOne_6 9 rfl rfl)
theorem dX6_tagOne_150 : decode cX6_tagOne 150 = .ok (.aload_n 0, 1) := dk_42 (dk_at dksX6_tagOne_6 12 rfl rfl)
theorem dX6_tagOne_151 : decode cX6_tagOne 151 = .ok (.getfield 83, 3) := dk_180 0 83 (dk_at dksX6_tagOne_6 13 rfl rfl)
theorem dX6_tagOne_154 : decode cX6_tagOne 154 = .ok (.iload_n 1, 1) := dk_27 (dk_at dksX6_tagOne_6 16 rfl rfl)
theorem dX6_tagOne_155 : decode cX6_tagOne 155 = .ok (.invokevirtual 125, 3) := dk_182 0 125 (dk_at dksX6_tagOne_6 17 rfl rfl)
theorem dX6_tagOne_158 : decode cX6_tagOne 158 = .ok (.bipush 16, 2) := dk_16 16 (dk_at dksX6_tagOne_6 20 rfl rfl)
theorem dX6_tagOne_160 : decode cX6_tagOne 160 = .ok (.if_icmp .eq 18, 3) := dk_159 0 18 (dk_at dksX6_tagOne_7 0 rfl rfl)
theorem dX6_tagOne_163 : decode cX6_tagOne 163 = .ok (.aload_n 0, 1) := dk_42 (dk_at dksX6_tagOne_7 3 rfl rfl)
theorem dX6_tagOne_164 : decode cX6_tagOne 164 = .ok (.aload_n 0, 1) := dk_42 (dk_at dksX6_tagOne_7 4 rfl rfl)
theorem dX6_tagOne_165 : decode cX6_tagOne 165 = .ok (.getfield 83, 3) := dk_180 0 83 (dk_at dksX6_tagOne_7 5 rfl rfl)
theorem dX6_tagOne_168 : decode cX6_tagOne 168 = .ok (.iload_n 1, 1) := dk_27 (dk_at dksX6_tagOne_7 8 rfl rfl)
theorem dX6_tagOne_169 : decode cX6_tagOne 169 = .ok (.invokevirtual 125, 3) := dk_182 0 125 (dk_at dksX6_tagOne_7 9 rfl rfl)
theorem dX6_tagOne_172 : decode cX6_tagOne 172 = .ok (.invokestatic 287, 3) := dk_184 1 31 (dk_at dksX6_tagOne_7 12 rfl rfl)
theorem dX6_tagOne_175 : decode cX6_tagOne 175 = .ok (.invokevirtual 284, 3) := dk_182 1 28 (dk_at dksX6_tagOne_7 15 rfl rfl)
theorem dX6_tagOne_178 : decode cX6_tagOne 178 = .ok (.aload_n 0, 1) := dk_42 (dk_at dksX6_tagOne_7 18 rfl rfl)
theorem dX6_tagOne_179 : decode cX6_tagOne 179 = .ok (.iload_n 1, 1) := dk_27 (dk_at dksX6_tagOne_7 19 rfl rfl)
theorem dX6_tagOne_180 : decode cX6_tagOne 180 = .ok (.aload_n 0, 1) := dk_42 (dk_at dksX6_tagOne_7 20 rfl rfl)
theorem dX6_tagOne_181 : decode cX6_tagOne 181 = .ok (.getfield 83, 3) := dk_180 0 83 (dk_at dksX6_tagOne_7 21 rfl rfl)
theorem dX6_tagOne_184 : decode cX6_tagOne 184 = .ok (.iload_n 1, 1) := dk_27 (dk_at dksX6_tagOne_8 0 rfl rfl)
theorem dX6_tagOne_185 : decode cX6_tagOne 185 = .ok (.iconst 2, 1) := dk_5 (dk_at dksX6_tagOne_8 1 rfl rfl)
theorem dX6_tagOne_186 : decode cX6_tagOne 186 = .ok (.invokevirtual 223, 3) := dk_182 0 223 (dk_at dksX6_tagOne_8 2 rfl rfl)
theorem dX6_tagOne_189 : decode cX6_tagOne 189 = .ok (.iload_n 3, 1) := dk_29 (dk_at dksX6_tagOne_8 5 rfl rfl)
theorem dX6_tagOne_190 : decode cX6_tagOne 190 = .ok (.invokevirtual 290, 3) := dk_182 1 34 (dk_at dksX6_tagOne_8 6 rfl rfl)
theorem dX6_tagOne_193 : decode cX6_tagOne 193 = .ok (.aload_n 0, 1) := dk_42 (dk_at dksX6_tagOne_8 9 rfl rfl)
theorem dX6_tagOne_194 : decode cX6_tagOne 194 = .ok (.getfield 141, 3) := dk_180 0 141 (dk_at dksX6_tagOne_8 10 rfl rfl)
theorem dX6_tagOne_197 : decode cX6_tagOne 197 = .ok (.iload_n 3, 1) := dk_29 (dk_at dksX6_tagOne_8 13 rfl rfl)
theorem dX6_tagOne_198 : decode cX6_tagOne 198 = .ok (.isub, 1) := dk_100 (dk_at dksX6_tagOne_8 14 rfl rfl)
theorem dX6_tagOne_199 : decode cX6_tagOne 199 = .ok (.bipush 100, 2) := dk_16 100 (dk_at dksX6_tagOne_8 15 rfl rfl)
theorem dX6_tagOne_201 : decode cX6_tagOne 201 = .ok (.if_icmp .le 27, 3) := dk_164 0 27 (dk_at dksX6_tagOne_8 17 rfl rfl)
theorem dX6_tagOne_204 : decode cX6_tagOne 204 = .ok (.aload_n 0, 1) := dk_42 (dk_at dksX6_tagOne_8 20 rfl rfl)
theorem dX6_tagOne_205 : decode cX6_tagOne 205 = .ok (.bipush 8, 2) := dk_16 8 (dk_at dksX6_tagOne_8 21 rfl rfl)
theorem dX6_tagOne_207 : decode cX6_tagOne 207 = .ok (.aload_n 0, 1) := dk_42 (dk_at dksX6_tagOne_8 23 rfl rfl)
theorem dX6_tagOne_208 : decode cX6_tagOne 208 = .ok (.getfield 83, 3) := dk_180 0 83 (dk_at dksX6_tagOne_9 0 rfl rfl)
theorem dX6_tagOne_211 : decode cX6_tagOne 211 = .ok (.iload_n 1, 1) := dk_27 (dk_at dksX6_tagOne_9 3 rfl rfl)
theorem dX6_tagOne_212 : decode cX6_tagOne 212 = .ok (.invokevirtual 178, 3) := dk_182 0 178 (dk_at dksX6_tagOne_9 4 rfl rfl)
theorem dX6_tagOne_215 : decode cX6_tagOne 215 = .ok (.invokevirtual 185, 3) := dk_182 0 185 (dk_at dksX6_tagOne_9 7 rfl rfl)
theorem dX6_tagOne_218 : decode cX6_tagOne 218 = .ok (.aload_n 0, 1) := dk_42 (dk_at dksX6_tagOne_9 10 rfl rfl)
theorem dX6_tagOne_219 : decode cX6_tagOne 219 = .ok (.iload_n 3, 1) := dk_29 (dk_at dksX6_tagOne_9 11 rfl rfl)
theorem dX6_tagOne_220 : decode cX6_tagOne 220 = .ok (.bipush 100, 2) := dk_16 100 (dk_at dksX6_tagOne_9 12 rfl rfl)
theorem dX6_tagOne_222 : decode cX6_tagOne 222 = .ok (.iadd, 1) := dk_96 (dk_at dksX6_tagOne_9 14 rfl rfl)
theorem dX6_tagOne_223 : decode cX6_tagOne 223 = .ok (.iconst 1, 1) := dk_4 (dk_at dksX6_tagOne_9 15 rfl rfl)
theorem dX6_tagOne_224 : decode cX6_tagOne 224 = .ok (.iadd, 1) := dk_96 (dk_at dksX6_tagOne_9 16 rfl rfl)
theorem dX6_tagOne_225 : decode cX6_tagOne 225 = .ok (.putfield 141, 3) := dk_181 0 141 (dk_at dksX6_tagOne_9 17 rfl rfl)
theorem dX6_tagOne_228 : decode cX6_tagOne 228 = .ok (.aload_n 0, 1) := dk_42 (dk_at dksX6_tagOne_9 20 rfl rfl)
theorem dX6_tagOne_229 : decode cX6_tagOne 229 = .ok (.getfield 65, 3) := dk_180 0 65 (dk_at dksX6_tagOne_9 21 rfl rfl)
theorem dX6_tagOne_232 : decode cX6_tagOne 232 = .ok (.iload_n 1, 1) := dk_27 (dk_at dksX6_tagOne_10 0 rfl rfl)
theorem dX6_tagOne_233 : decode cX6_tagOne 233 = .ok (.aload_n 0, 1) := dk_42 (dk_at dksX6_tagOne_10 1 rfl rfl)
theorem dX6_tagOne_234 : decode cX6_tagOne 234 = .ok (.getfield 141, 3) := dk_180 0 141 (dk_at dksX6_tagOne_10 2 rfl rfl)
theorem dX6_tagOne_237 : decode cX6_tagOne 237 = .ok (.iload_n 3, 1) := dk_29 (dk_at dksX6_tagOne_10 5 rfl rfl)
theorem dX6_tagOne_238 : decode cX6_tagOne 238 = .ok (.isub, 1) := dk_100 (dk_at dksX6_tagOne_10 6 rfl rfl)
theorem dX6_tagOne_239 : decode cX6_tagOne 239 = .ok (.iastore, 1) := dk_79 (dk_at dksX6_tagOne_10 7 rfl rfl)
theorem dX6_tagOne_240 : decode cX6_tagOne 240 = .ok (.iload_n 3, 1) := dk_29 (dk_at dksX6_tagOne_10 8 rfl rfl)
theorem dX6_tagOne_241 : decode cX6_tagOne 241 = .ok (.istore 4, 2) := dk_54 4 (dk_at dksX6_tagOne_10 9 rfl rfl)
theorem dX6_tagOne_243 : decode cX6_tagOne 243 = .ok (.aload_n 0, 1) := dk_42 (dk_at dksX6_tagOne_10 11 rfl rfl)
theorem dX6_tagOne_244 : decode cX6_tagOne 244 = .ok (.getfield 141, 3) := dk_180 0 141 (dk_at dksX6_tagOne_10 12 rfl rfl)
theorem dX6_tagOne_247 : decode cX6_tagOne 247 = .ok (.iconst 1, 1) := dk_4 (dk_at dksX6_tagOne_10 15 rfl rfl)
theorem dX6_tagOne_248 : decode cX6_tagOne 248 = .ok (.isub, 1) := dk_100 (dk_at dksX6_tagOne_10 16 rfl rfl)
theorem dX6_tagOne_249 : decode cX6_tagOne 249 = .ok (.istore 5, 2) := dk_54 5 (dk_at dksX6_tagOne_10 17 rfl rfl)
theorem dX6_tagOne_251 : decode cX6_tagOne 251 = .ok (.iload 4, 2) := dk_21 4 (dk_at dksX6_tagOne_10 19 rfl rfl)
theorem dX6_tagOne_253 : decode cX6_tagOne 253 = .ok (.iload 5, 2) := dk_21 5 (dk_at dksX6_tagOne_10 21 rfl rfl)
theorem dX6_tagOne_255 : decode cX6_tagOne 255 = .ok (.if_icmp .ge 44, 3) := dk_162 0 44 (dk_at dksX6_tagOne_11 0 rfl rfl)
theorem dX6_tagOne_258 : decode cX6_tagOne 258 = .ok (.aload_n 0, 1) := dk_42 (dk_at dksX6_tagOne_11 3 rfl rfl)
theorem dX6_tagOne_259 : decode cX6_tagOne 259 = .ok (.getfield 74, 3) := dk_180 0 74 (dk_at dksX6_tagOne_11 4 rfl rfl)
theorem dX6_tagOne_262 : decode cX6_tagOne 262 = .ok (.iload 4, 2) := dk_21 4 (dk_at dksX6_tagOne_11 7 rfl rfl)
theorem dX6_tagOne_264 : decode cX6_tagOne 264 = .ok (.iaload, 1) := dk_46 (dk_at dksX6_tagOne_11 9 rfl rfl)
theorem dX6_tagOne_265 : decode cX6_tagOne 265 = .ok (.istore 6, 2) := dk_54 6 (dk_at dksX6_tagOne_11 10 rfl rfl)
theorem dX6_tagOne_267 : decode cX6_tagOne 267 = .ok (.aload_n 0, 1) := dk_42 (dk_at dksX6_tagOne_11 12 rfl rfl)
theorem dX6_tagOne_268 : decode cX6_tagOne 268 = .ok (.getfield 74, 3) := dk_180 0 74 (dk_at dksX6_tagOne_11 13 rfl rfl)
theorem dX6_tagOne_271 : decode cX6_tagOne 271 = .ok (.iload 4, 2) := dk_21 4 (dk_at dksX6_tagOne_11 16 rfl rfl)
theorem dX6_tagOne_273 : decode cX6_tagOne 273 = .ok (.aload_n 0, 1) := dk_42 (dk_at dksX6_tagOne_11 18 rfl rfl)
theorem dX6_tagOne_274 : decode cX6_tagOne 274 = .ok (.getfield 74, 3) := dk_180 0 74 (dk_at dksX6_tagOne_11 19 rfl rfl)
theorem dX6_tagOne_277 : decode cX6_tagOne 277 = .ok (.iload 5, 2) := dk_21 5 (dk_at dksX6_tagOne_11 22 rfl rfl)
theorem dX6_tagOne_279 : decode cX6_tagOne 279 = .ok (.iaload, 1) := dk_46 (dk_at dksX6_tagOne_12 0 rfl rfl)
theorem dX6_tagOne_280 : decode cX6_tagOne 280 = .ok (.iastore, 1) := dk_79 (dk_at dksX6_tagOne_12 1 rfl rfl)
theorem dX6_tagOne_281 : decode cX6_tagOne 281 = .ok (.aload_n 0, 1) := dk_42 (dk_at dksX6_tagOne_12 2 rfl rfl)
theorem dX6_tagOne_282 : decode cX6_tagOne 282 = .ok (.getfield 74, 3) := dk_180 0 74 (dk_at dksX6_tagOne_12 3 rfl rfl)
theorem dX6_tagOne_285 : decode cX6_tagOne 285 = .ok (.iload 5, 2) := dk_21 5 (dk_at dksX6_tagOne_12 6 rfl rfl)
theorem dX6_tagOne_287 : decode cX6_tagOne 287 = .ok (.iload 6, 2) := dk_21 6 (dk_at dksX6_tagOne_12 8 rfl rfl)
theorem dX6_tagOne_289 : decode cX6_tagOne 289 = .ok (.iastore, 1) := dk_79 (dk_at dksX6_tagOne_12 10 rfl rfl)
theorem dX6_tagOne_290 : decode cX6_tagOne 290 = .ok (.iinc 4 1, 3) := dk_132 4 1 (dk_at dksX6_tagOne_12 11 rfl rfl)
theorem dX6_tagOne_293 : decode cX6_tagOne 293 = .ok (.iinc 5 (-1), 3) := dk_132 5 255 (dk_at dksX6_tagOne_12 14 rfl rfl)
theorem dX6_tagOne_296 : decode cX6_tagOne 296 = .ok (.goto (-45), 3) := dk_167 255 211 (dk_at dksX6_tagOne_12 17 rfl rfl)
theorem dX6_tagOne_299 : decode cX6_tagOne 299 = .ok (.return_, 1) := dk_177 (dk_at dksX6_tagOne_12 20 rfl rfl)
abbrev cX6_push : ByteArray := prog_9_method_26_code
def yX6_push : MethodName := ⟨RX6, "push", "(I)V"⟩
def dkwX6_push_1 : List UInt8 := [180, 0, 141, 27, 79, 42, 89, 180, 0, 141, 4, 96, 181, 0, 141, 177]
abbrev dktX6_push_1 : List UInt8 := dkwX6_push_1 ++ []
def dkwX6_push_0 : List UInt8 := [42, 42, 180, 0, 74, 42, 180, 0, 141, 4, 96, 184, 0, 134, 181, 0, 74, 42, 180, 0, 74, 42]
abbrev dktX6_push_0 : List UInt8 := dkwX6_push_0 ++ dktX6_push_1
theorem dksX6_push_0 : cX6_push.data.toList.drop 0 = dktX6_push_0 := by decide +kernel
theorem dksX6_push_1 : cX6_push.data.toList.drop 22 = dktX6_push_1 := dk_seg dksX6_push_0 22 rfl rfl
theorem dX6_push_0 : decode cX6_push 0 = .ok (.aload_n 0, 1) := dk_42 (dk_at dksX6_push_0 0 rfl rfl)
theorem dX6_push_1 : decode cX6_push 1 = .ok (.aload_n 0, 1) := dk_42 (dk_at dksX6_push_0 1 rfl rfl)
theorem dX6_push_2 : decode cX6_push 2 = .ok (.getfield 74, 3) := dk_180 0 74 (dk_at dksX6_push_0 2 rfl rfl)
theorem dX6_push_5 : decode cX6_push 5 = .ok (.aload_n 0, 1) := dk_42 (dk_at dksX6_push_0 5 rfl rfl)
theorem dX6_push_6 : decode cX6_push 6 = .ok (.getfield 141, 3) := dk_180 0 141 (dk_at dksX6_push_0 6 rfl rfl)
theorem dX6_push_9 : decode cX6_push 9 = .ok (.iconst 1, 1) := dk_4 (dk_at dksX6_push_0 9 rfl rfl)
theorem dX6_push_10 : decode cX6_push 10 = .ok (.iadd, 1) := dk_96 (dk_at dksX6_push_0 10 rfl rfl)
theorem dX6_push_11 : decode cX6_push 11 = .ok (.invokestatic 134, 3) := dk_184 0 134 (dk_at dksX6_push_0 11 rfl rfl)
theorem dX6_push_14 : decode cX6_push 14 = .ok (.putfield 74, 3) := dk_181 0 74 (dk_at dksX6_push_0 14 rfl rfl)
theorem dX6_push_17 : decode cX6_push 17 = .ok (.aload_n 0, 1) := dk_42 (dk_at dksX6_push_0 17 rfl rfl)
theorem dX6_push_18 : decode cX6_push 18 = .ok (.getfield 74, 3) := dk_180 0 74 (dk_at dksX6_push_0 18 rfl rfl)
theorem dX6_push_21 : decode cX6_push 21 = .ok (.aload_n 0, 1) := dk_42 (dk_at dksX6_push_0 21 rfl rfl)
theorem dX6_push_22 : decode cX6_push 22 = .ok (.getfield 141, 3) := dk_180 0 141 (dk_at dksX6_push_1 0 rfl rfl)
theorem dX6_push_25 : decode cX6_push 25 = .ok (.iload_n 1, 1) := dk_27 (dk_at dksX6_push_1 3 rfl rfl)
theorem dX6_push_26 : decode cX6_push 26 = .ok (.iastore, 1) := dk_79 (dk_at dksX6_push_1 4 rfl rfl)
theorem dX6_push_27 : decode cX6_push 27 = .ok (.aload_n 0, 1) := dk_42 (dk_at dksX6_push_1 5 rfl rfl)
theorem dX6_push_28 : decode cX6_push 28 = .ok (.dup, 1) := dk_89 (dk_at dksX6_push_1 6 rfl rfl)
theorem dX6_push_29 : decode cX6_push 29 = .ok (.getfield 141, 3) := dk_180 0 141 (dk_at dksX6_push_1 7 rfl rfl)
theorem dX6_push_32 : decode cX6_push 32 = .ok (.iconst 1, 1) := dk_4 (dk_at dksX6_push_1 10 rfl rfl)
theorem dX6_push_33 : decode cX6_push 33 = .ok (.iadd, 1) := dk_96 (dk_at dksX6_push_1 11 rfl rfl)
theorem dX6_push_34 : decode cX6_push 34 = .ok (.putfield 141, 3) := dk_181 0 141 (dk_at dksX6_push_1 12 rfl rfl)
theorem dX6_push_37 : decode cX6_push 37 = .ok (.return_, 1) := dk_177 (dk_at dksX6_push_1 15 rfl rfl)
abbrev cX6_universal : ByteArray := prog_9_method_23_code
def yX6_universal : MethodName := ⟨RX6, "universal", "(I)I"⟩
def dkwX6_universal_3 : List UInt8 := [172, 16, 23, 172, 16, 24, 172, 16, 16, 172, 16, 16, 172, 16, 17, 172]
abbrev dktX6_universal_3 : List UInt8 := dkwX6_universal_3 ++ []
def dkwX6_universal_2 : List UInt8 := [4, 172, 8, 172, 5, 172, 16, 10, 172, 6, 172, 7, 172, 16, 6, 172, 16, 12, 172, 16, 19, 172, 16, 22]
abbrev dktX6_universal_2 : List UInt8 := dkwX6_universal_2 ++ dktX6_universal_3
def dkwX6_universal_1 : List UInt8 := [170, 0, 0, 0, 0, 0, 112, 0, 0, 0, 0, 0, 0, 0, 14, 0, 0, 0, 75, 0, 0, 0, 77, 0, 0, 0, 79, 0, 0, 0, 81, 0, 0, 0, 84, 0, 0, 0, 86, 0, 0, 0, 88, 0, 0, 0, 91, 0, 0, 0, 94, 0, 0, 0, 97, 0, 0, 0, 100, 0, 0, 0, 103, 0, 0, 0, 106, 0, 0, 0, 112, 0, 0, 0, 109]
abbrev dktX6_universal_1 : List UInt8 := dkwX6_universal_1 ++ dktX6_universal_2
def dkwX6_universal_0 : List UInt8 := [26]
abbrev dktX6_universal_0 : List UInt8 := dkwX6_universal_0 ++ dktX6_universal_1
theorem dksX6_universal_0 : cX6_universal.data.toList.drop 0 = dktX6_universal_0 := by decide +kernel
theorem dksX6_universal_1 : cX6_universal.data.toList.drop 1 = dktX6_universal_1 := dk_seg dksX6_universal_0 1 rfl rfl
theorem dksX6_universal_2 : cX6_universal.data.toList.drop 76 = dktX6_universal_2 := dk_seg dksX6_universal_1 75 rfl rfl
theorem dksX6_universal_3 : cX6_universal.data.toList.drop 100 = dktX6_universal_3 := dk_seg dksX6_universal_2 24 rfl rfl
theorem dX6_universal_0 : decode cX6_universal 0 = .ok (.iload_n 0, 1) := dk_26 (dk_at dksX6_universal_0 0 rfl rfl)
theorem dX6_universal_1 : decode cX6_universal 1 = .ok (.tableswitch 112 0 14 #[75, 77, 79, 81, 84, 86, 88, 91, 94, 97, 100, 103, 106, 112, 109], 75) := by decide +kernel
theorem dX6_universal_76 : decode cX6_universal 76 = .ok (.iconst 1, 1) := dk_4 (dk_at dksX6_universal_2 0 rfl rfl)
theorem dX6_universal_77 : decode cX6_universal 77 = .ok (.ireturn, 1) := dk_172 (dk_at dksX6_universal_2 1 rfl rfl)
theorem dX6_universal_78 : decode cX6_universal 78 = .ok (.iconst 5, 1) := dk_8 (dk_at dksX6_universal_2 2 rfl rfl)
theorem dX6_universal_79 : decode cX6_universal 79 = .ok (.ireturn, 1) := dk_172 (dk_at dksX6_universal_2 3 rfl rfl)
theorem dX6_universal_80 : decode cX6_universal 80 = .ok (.iconst 2, 1) := dk_5 (dk_at dksX6_universal_2 4 rfl rfl)
theorem dX6_universal_81 : decode cX6_universal 81 = .ok (.ireturn, 1) := dk_172 (dk_at dksX6_universal_2 5 rfl rfl)
theorem dX6_universal_82 : decode cX6_universal 82 = .ok (.bipush 10, 2) := dk_16 10 (dk_at dksX6_universal_2 6 rfl rfl)
theorem dX6_universal_84 : decode cX6_universal 84 = .ok (.ireturn, 1) := dk_172 (dk_at dksX6_universal_2 8 rfl rfl)
theorem dX6_universal_85 : decode cX6_universal 85 = .ok (.iconst 3, 1) := dk_6 (dk_at dksX6_universal_2 9 rfl rfl)
theorem dX6_universal_86 : decode cX6_universal 86 = .ok (.ireturn, 1) := dk_172 (dk_at dksX6_universal_2 10 rfl rfl)
theorem dX6_universal_87 : decode cX6_universal 87 = .ok (.iconst 4, 1) := dk_7 (dk_at dksX6_universal_2 11 rfl rfl)
theorem dX6_universal_88 : decode cX6_universal 88 = .ok (.ireturn, 1) := dk_172 (dk_at dksX6_universal_2 12 rfl rfl)
theorem dX6_universal_89 : decode cX6_universal 89 = .ok (.bipush 6, 2) := dk_16 6 (dk_at dksX6_universal_2 13 rfl rfl)
theorem dX6_universal_91 : decode cX6_universal 91 = .ok (.ireturn, 1) := dk_172 (dk_at dksX6_universal_2 15 rfl rfl)
theorem dX6_universal_92 : decode cX6_universal 92 = .ok (.bipush 12, 2) := dk_16 12 (dk_at dksX6_universal_2 16 rfl rfl)
theorem dX6_universal_94 : decode cX6_universal 94 = .ok (.ireturn, 1) := dk_172 (dk_at dksX6_universal_2 18 rfl rfl)
theorem dX6_universal_95 : decode cX6_universal 95 = .ok (.bipush 19, 2) := dk_16 19 (dk_at dksX6_universal_2 19 rfl rfl)
theorem dX6_universal_97 : decode cX6_universal 97 = .ok (.ireturn, 1) := dk_172 (dk_at dksX6_universal_2 21 rfl rfl)
theorem dX6_universal_98 : decode cX6_universal 98 = .ok (.bipush 22, 2) := dk_16 22 (dk_at dksX6_universal_2 22 rfl rfl)
theorem dX6_universal_100 : decode cX6_universal 100 = .ok (.ireturn, 1) := dk_172 (dk_at dksX6_universal_3 0 rfl rfl)
theorem dX6_universal_101 : decode cX6_universal 101 = .ok (.bipush 23, 2) := dk_16 23 (dk_at dksX6_universal_3 1 rfl rfl)
theorem dX6_universal_103 : decode cX6_universal 103 = .ok (.ireturn, 1) := dk_172 (dk_at dksX6_universal_3 3 rfl rfl)
theorem dX6_universal_104 : decode cX6_universal 104 = .ok (.bipush 24, 2) := dk_16 24 (dk_at dksX6_universal_3 4 rfl rfl)
theorem dX6_universal_106 : decode cX6_universal 106 = .ok (.ireturn, 1) := dk_172 (dk_at dksX6_universal_3 6 rfl rfl)
theorem dX6_universal_107 : decode cX6_universal 107 = .ok (.bipush 16, 2) := dk_16 16 (dk_at dksX6_universal_3 7 rfl rfl)
theorem dX6_universal_109 : decode cX6_universal 109 = .ok (.ireturn, 1) := dk_172 (dk_at dksX6_universal_3 9 rfl rfl)
theorem dX6_universal_110 : decode cX6_universal 110 = .ok (.bipush 16, 2) := dk_16 16 (dk_at dksX6_universal_3 10 rfl rfl)
theorem dX6_universal_112 : decode cX6_universal 112 = .ok (.ireturn, 1) := dk_172 (dk_at dksX6_universal_3 12 rfl rfl)
theorem dX6_universal_113 : decode cX6_universal 113 = .ok (.bipush 17, 2) := dk_16 17 (dk_at dksX6_universal_3 13 rfl rfl)
theorem dX6_universal_115 : decode cX6_universal 115 = .ok (.ireturn, 1) := dk_172 (dk_at dksX6_universal_3 15 rfl rfl)
abbrev cX6_tagOwn : ByteArray := prog_9_method_28_code
def yX6_tagOwn : MethodName := ⟨RX6, "tagOwn", "(III)V"⟩
def dkwX6_tagOwn_11 : List UInt8 := [177]
abbrev dktX6_tagOwn_11 : List UInt8 := dkwX6_tagOwn_11 ++ []
def dkwX6_tagOwn_10 : List UInt8 := [42, 180, 0, 141, 4, 100, 21, 9, 79, 167, 0, 9, 42, 21, 9, 182, 1, 28, 132, 5, 255, 167, 255, 35]
abbrev dktX6_tagOwn_10 : List UInt8 := dkwX6_tagOwn_10 ++ dktX6_tagOwn_11
def dkwX6_tagOwn_9 : List UInt8 := [21, 6, 16, 6, 182, 0, 223, 128, 54, 9, 21, 8, 153, 0, 24, 21, 7, 154, 0, 19, 42, 180, 0, 74]
abbrev dktX6_tagOwn_9 : List UInt8 := dkwX6_tagOwn_9 ++ dktX6_tagOwn_10
def dkwX6_tagOwn_8 : List UInt8 := [182, 0, 178, 182, 0, 185, 42, 180, 0, 83, 21, 6, 8, 182, 0, 223, 16, 28, 120, 42, 180, 0, 83]
abbrev dktX6_tagOwn_8 : List UInt8 := dkwX6_tagOwn_8 ++ dktX6_tagOwn_9
def dkwX6_tagOwn_7 : List UInt8 := [180, 0, 83, 21, 6, 16, 7, 182, 0, 223, 4, 160, 0, 18, 42, 16, 8, 42, 180, 0, 83, 21, 6]
abbrev dktX6_tagOwn_7 : List UInt8 := dkwX6_tagOwn_7 ++ dktX6_tagOwn_8
def dkwX6_tagOwn_6 : List UInt8 := [180, 0, 83, 180, 1, 38, 153, 0, 7, 4, 167, 0, 4, 3, 54, 8, 21, 7, 153, 0, 33, 42]
abbrev dktX6_tagOwn_6 : List UInt8 := dkwX6_tagOwn_6 ++ dktX6_tagOwn_7
def dkwX6_tagOwn_5 : List UInt8 := [16, 7, 182, 0, 223, 4, 159, 0, 27, 42, 180, 0, 83, 21, 6, 16, 7, 182, 0, 223, 154, 0, 17, 42]
abbrev dktX6_tagOwn_5 : List UInt8 := dkwX6_tagOwn_5 ++ dktX6_tagOwn_6
def dkwX6_tagOwn_4 : List UInt8 := [182, 0, 185, 42, 180, 0, 141, 29, 160, 0, 7, 4, 167, 0, 4, 3, 54, 7, 42, 180, 0, 83, 21, 6]
abbrev dktX6_tagOwn_4 : List UInt8 := dkwX6_tagOwn_4 ++ dktX6_tagOwn_5
def dkwX6_tagOwn_3 : List UInt8 := [180, 0, 83, 21, 6, 8, 182, 0, 223, 154, 0, 18, 42, 16, 8, 42, 180, 0, 83, 21, 6, 182, 0, 178]
abbrev dktX6_tagOwn_3 : List UInt8 := dkwX6_tagOwn_3 ++ dktX6_tagOwn_4
def dkwX6_tagOwn_2 : List UInt8 := [21, 5, 162, 0, 20, 42, 180, 0, 83, 21, 6, 182, 0, 189, 54, 6, 132, 7, 1, 167, 255, 235, 42]
abbrev dktX6_tagOwn_2 : List UInt8 := dkwX6_tagOwn_2 ++ dktX6_tagOwn_3
def dkwX6_tagOwn_1 : List UInt8 := [54, 5, 167, 255, 236, 21, 4, 4, 100, 54, 5, 21, 5, 155, 0, 222, 28, 54, 6, 3, 54, 7, 21, 7]
abbrev dktX6_tagOwn_1 : List UInt8 := dkwX6_tagOwn_1 ++ dktX6_tagOwn_2
def dkwX6_tagOwn_0 : List UInt8 := [3, 54, 4, 28, 54, 5, 21, 5, 2, 159, 0, 20, 132, 4, 1, 42, 180, 0, 83, 21, 5, 182, 0, 189]
abbrev dktX6_tagOwn_0 : List UInt8 := dkwX6_tagOwn_0 ++ dktX6_tagOwn_1
theorem dksX6_tagOwn_0 : cX6_tagOwn.data.toList.drop 0 = dktX6_tagOwn_0 := by decide +kernel
theorem dksX6_tagOwn_1 : cX6_tagOwn.data.toList.drop 24 = dktX6_tagOwn_1 := dk_seg dksX6_tagOwn_0 24 rfl rfl
theorem dksX6_tagOwn_2 : cX6_tagOwn.data.toList.drop 48 = dktX6_tagOwn_2 := dk_seg dksX6_tagOwn_1 24 rfl rfl
theorem dksX6_tagOwn_3 : cX6_tagOwn.data.toList.drop 71 = dktX6_tagOwn_3 := dk_seg dksX6_tagOwn_2 23 rfl rfl
theorem dksX6_tagOwn_4 : cX6_tagOwn.data.toList.drop 95 = dktX6_tagOwn_4 := dk_seg dksX6_tagOwn_3 24 rfl rfl
theorem dksX6_tagOwn_5 : cX6_tagOwn.data.toList.drop 119 = dktX6_tagOwn_5 := dk_seg dksX6_tagOwn_4 24 rfl rfl
theorem dksX6_tagOwn_6 : cX6_tagOwn.data.toList.drop 143 = dktX6_tagOwn_6 := dk_seg dksX6_tagOwn_5 24 rfl rfl
theorem dksX6_tagOwn_7 : cX6_tagOwn.data.toList.drop 165 = dktX6_tagOwn_7 := dk_seg dksX6_tagOwn_6 22 rfl rfl
theorem dksX6_tagOwn_8 : cX6_tagOwn.data.toList.drop 188 = dktX6_tagOwn_8 := dk_seg dksX6_tagOwn_7 23 rfl rfl
theorem dksX6_tagOwn_9 : cX6_tagOwn.data.toList.drop 211 = dktX6_tagOwn_9 := dk_seg dksX6_tagOwn_8 23 rfl rfl
theorem dksX6_tagOwn_10 : cX6_tagOwn.data.toList.drop 235 = dktX6_tagOwn_10 := dk_seg dksX6_tagOwn_9 24 rfl rfl
theorem dksX6_tagOwn_11 : cX6_tagOwn.data.toList.drop 259 = dktX6_tagOwn_11 := dk_seg dksX6_tagOwn_10 24 rfl rfl
theorem dX6_tagOwn_0 : decode cX6_tagOwn 0 = .ok (.iconst 0, 1) := dk_3 (dk_at dksX6_tagOwn_0 0 rfl rfl)
theorem dX6_tagOwn_1 : decode cX6_tagOwn 1 = .ok (.istore 4, 2) := dk_54 4 (dk_at dksX6_tagOwn_0 1 rfl rfl)
theorem dX6_tagOwn_3 : decode cX6_tagOwn 3 = .ok (.iload_n 2, 1) := dk_28 (dk_at dksX6_tagOwn_0 3 rfl rfl)
theorem dX6_tagOwn_4 : decode cX6_tagOwn 4 = .ok (.istore 5, 2) := dk_54 5 (dk_at dksX6_tagOwn_0 4 rfl rfl)
theorem dX6_tagOwn_6 : decode cX6_tagOwn 6 = .ok (.iload 5, 2) := dk_21 5 (dk_at dksX6_tagOwn_0 6 rfl rfl)
theorem dX6_tagOwn_8 : decode cX6_tagOwn 8 = .ok (.iconst (-1), 1) := dk_2 (dk_at dksX6_tagOwn_0 8 rfl rfl)
theorem dX6_tagOwn_9 : decode cX6_tagOwn 9 = .ok (.if_icmp .eq 20, 3) := dk_159 0 20 (dk_at dksX6_tagOwn_0 9 rfl rfl)
theorem dX6_tagOwn_12 : decode cX6_tagOwn 12 = .ok (.iinc 4 1, 3) := dk_132 4 1 (dk_at dksX6_tagOwn_0 12 rfl rfl)
theorem dX6_tagOwn_15 : decode cX6_tagOwn 15 = .ok (.aload_n 0, 1) := dk_42 (dk_at dksX6_tagOwn_0 15 rfl rfl)
theorem dX6_tagOwn_16 : decode cX6_tagOwn 16 = .ok (.getfield 83, 3) := dk_180 0 83 (dk_at dksX6_tagOwn_0 16 rfl rfl)
theorem dX6_tagOwn_19 : decode cX6_tagOwn 19 = .ok (.iload 5, 2) := dk_21 5 (dk_at dksX6_tagOwn_0 19 rfl rfl)
theorem dX6_tagOwn_21 : decode cX6_tagOwn 21 = .ok (.invokevirtual 189, 3) := dk_182 0 189 (dk_at dksX6_tagOwn_0 21 rfl rfl)
theorem dX6_tagOwn_24 : decode cX6_tagOwn 24 = .ok (.istore 5, 2) := dk_54 5 (dk_at dksX6_tagOwn_1 0 rfl rfl)
theorem dX6_tagOwn_26 : decode cX6_tagOwn 26 = .ok (.goto (-20), 3) := dk_167 255 236 (dk_at dksX6_tagOwn_1 2 rfl rfl)
theorem dX6_tagOwn_29 : decode cX6_tagOwn 29 = .ok (.iload 4, 2) := dk_21 4 (dk_at dksX6_tagOwn_1 5 rfl rfl)
theorem dX6_tagOwn_31 : decode cX6_tagOwn 31 = .ok (.iconst 1, 1) := dk_4 (dk_at dksX6_tagOwn_1 7 rfl rfl)
theorem dX6_tagOwn_32 : decode cX6_tagOwn 32 = .ok (.isub, 1) := dk_100 (dk_at dksX6_tagOwn_1 8 rfl rfl)
theorem dX6_tagOwn_33 : decode cX6_tagOwn 33 = .ok (.istore 5, 2) := dk_54 5 (dk_at dksX6_tagOwn_1 9 rfl rfl)
theorem dX6_tagOwn_35 : decode cX6_tagOwn 35 = .ok (.iload 5, 2) := dk_21 5 (dk_at dksX6_tagOwn_1 11 rfl rfl)
theorem dX6_tagOwn_37 : decode cX6_tagOwn 37 = .ok (.ifCond .lt 222, 3) := dk_155 0 222 (dk_at dksX6_tagOwn_1 13 rfl rfl)
theorem dX6_tagOwn_40 : decode cX6_tagOwn 40 = .ok (.iload_n 2, 1) := dk_28 (dk_at dksX6_tagOwn_1 16 rfl rfl)
theorem dX6_tagOwn_41 : decode cX6_tagOwn 41 = .ok (.istore 6, 2) := dk_54 6 (dk_at dksX6_tagOwn_1 17 rfl rfl)
theorem dX6_tagOwn_43 : decode cX6_tagOwn 43 = .ok (.iconst 0, 1) := dk_3 (dk_at dksX6_tagOwn_1 19 rfl rfl)
theorem dX6_tagOwn_44 : decode cX6_tagOwn 44 = .ok (.istore 7, 2) := dk_54 7 (dk_at dksX6_tagOwn_1 20 rfl rfl)
theorem dX6_tagOwn_46 : decode cX6_tagOwn 46 = .ok (.iload 7, 2) := dk_21 7 (dk_at dksX6_tagOwn_1 22 rfl rfl)
theorem dX6_tagOwn_48 : decode cX6_tagOwn 48 = .ok (.iload 5, 2) := dk_21 5 (dk_at dksX6_tagOwn_2 0 rfl rfl)
theorem dX6_tagOwn_50 : decode cX6_tagOwn 50 = .ok (.if_icmp .ge 20, 3) := dk_162 0 20 (dk_at dksX6_tagOwn_2 2 rfl rfl)
theorem dX6_tagOwn_53 : decode cX6_tagOwn 53 = .ok (.aload_n 0, 1) := dk_42 (dk_at dksX6_tagOwn_2 5 rfl rfl)
theorem dX6_tagOwn_54 : decode cX6_tagOwn 54 = .ok (.getfield 83, 3) := dk_180 0 83 (dk_at dksX6_tagOwn_2 6 rfl rfl)
theorem dX6_tagOwn_57 : decode cX6_tagOwn 57 = .ok (.iload 6, 2) := dk_21 6 (dk_at dksX6_tagOwn_2 9 rfl rfl)
theorem dX6_tagOwn_59 : decode cX6_tagOwn 59 = .ok (.invokevirtual 189, 3) := dk_182 0 189 (dk_at dksX6_tagOwn_2 11 rfl rfl)
theorem dX6_tagOwn_62 : decode cX6_tagOwn 62 = .ok (.istore 6, 2) := dk_54 6 (dk_at dksX6_tagOwn_2 14 rfl rfl)
theorem dX6_tagOwn_64 : decode cX6_tagOwn 64 = .ok (.iinc 7 1, 3) := dk_132 7 1 (dk_at dksX6_tagOwn_2 16 rfl rfl)
theorem dX6_tagOwn_67 : decode cX6_tagOwn 67 = .ok (.goto (-21), 3) := dk_167 255 235 (dk_at dksX6_tagOwn_2 19 rfl rfl)
theorem dX6_tagOwn_70 : decode cX6_tagOwn 70 = .ok (.aload_n 0, 1) := dk_42 (dk_at dksX6_tagOwn_2 22 rfl rfl)
theorem dX6_tagOwn_71 : decode cX6_tagOwn 71 = .ok (.getfield 83, 3) := dk_180 0 83 (dk_at dksX6_tagOwn_3 0 rfl rfl)
theorem dX6_tagOwn_74 : decode cX6_tagOwn 74 = .ok (.iload 6, 2) := dk_21 6 (dk_at dksX6_tagOwn_3 3 rfl rfl)
theorem dX6_tagOwn_76 : decode cX6_tagOwn 76 = .ok (.iconst 5, 1) := dk_8 (dk_at dksX6_tagOwn_3 5 rfl rfl)
theorem dX6_tagOwn_77 : decode cX6_tagOwn 77 = .ok (.invokevirtual 223, 3) := dk_182 0 223 (dk_at dksX6_tagOwn_3 6 rfl rfl)
theorem dX6_tagOwn_80 : decode cX6_tagOwn 80 = .ok (.ifCond .ne 18, 3) := dk_154 0 18 (dk_at dksX6_tagOwn_3 9 rfl rfl)
theorem dX6_tagOwn_83 : decode cX6_tagOwn 83 = .ok (.aload_n 0, 1) := dk_42 (dk_at dksX6_tagOwn_3 12 rfl rfl)
theorem dX6_tagOwn_84 : decode cX6_tagOwn 84 = .ok (.bipush 8, 2) := dk_16 8 (dk_at dksX6_tagOwn_3 13 rfl rfl)
theorem dX6_tagOwn_86 : decode cX6_tagOwn 86 = .ok (.aload_n 0, 1) := dk_42 (dk_at dksX6_tagOwn_3 15 rfl rfl)
theorem dX6_tagOwn_87 : decode cX6_tagOwn 87 = .ok (.getfield 83, 3) := dk_180 0 83 (dk_at dksX6_tagOwn_3 16 rfl rfl)
theorem dX6_tagOwn_90 : decode cX6_tagOwn 90 = .ok (.iload 6, 2) := dk_21 6 (dk_at dksX6_tagOwn_3 19 rfl rfl)
theorem dX6_tagOwn_92 : decode cX6_tagOwn 92 = .ok (.invokevirtual 178, 3) := dk_182 0 178 (dk_at dksX6_tagOwn_3 21 rfl rfl)
theorem dX6_tagOwn_95 : decode cX6_tagOwn 95 = .ok (.invokevirtual 185, 3) := dk_182 0 185 (dk_at dksX6_tagOwn_4 0 rfl rfl)
theorem dX6_tagOwn_98 : decode cX6_tagOwn 98 = .ok (.aload_n 0, 1) := dk_42 (dk_at dksX6_tagOwn_4 3 rfl rfl)
theorem dX6_tagOwn_99 : decode cX6_tagOwn 99 = .ok (.getfield 141, 3) := dk_180 0 141 (dk_at dksX6_tagOwn_4 4 rfl rfl)
theorem dX6_tagOwn_102 : decode cX6_tagOwn 102 = .ok (.iload_n 3, 1) := dk_29 (dk_at dksX6_tagOwn_4 7 rfl rfl)
theorem dX6_tagOwn_103 : decode cX6_tagOwn 103 = .ok (.if_icmp .ne 7, 3) := dk_160 0 7 (dk_at dksX6_tagOwn_4 8 rfl rfl)
theorem dX6_tagOwn_106 : decode cX6_tagOwn 106 = .ok (.iconst 1, 1) := dk_4 (dk_at dksX6_tagOwn_4 11 rfl rfl)
theorem dX6_tagOwn_107 : decode cX6_tagOwn 107 = .ok (.goto 4, 3) := dk_167 0 4 (dk_at dksX6_tagOwn_4 12 rfl rfl)
theorem dX6_tagOwn_110 : decode cX6_tagOwn 110 = .ok (.iconst 0, 1) := dk_3 (dk_at dksX6_tagOwn_4 15 rfl rfl)
theorem dX6_tagOwn_111 : decode cX6_tagOwn 111 = .ok (.istore 7, 2) := dk_54 7 (dk_at dksX6_tagOwn_4 16 rfl rfl)
theorem dX6_tagOwn_113 : decode cX6_tagOwn 113 = .ok (.aload_n 0, 1) := dk_42 (dk_at dksX6_tagOwn_4 18 rfl rfl)
theorem dX6_tagOwn_114 : decode cX6_tagOwn 114 = .ok (.getfield 83, 3) := dk_180 0 83 (dk_at dksX6_tagOwn_4 19 rfl rfl)
theorem dX6_tagOwn_117 : decode cX6_tagOwn 117 = .ok (.iload 6, 2) := dk_21 6 (dk_at dksX6_tagOwn_4 22 rfl rfl)
theorem dX6_tagOwn_119 : decode cX6_tagOwn 119 = .ok (.bipush 7, 2) := dk_16 7 (dk_at dksX6_tagOwn_5 0 rfl rfl)
theorem dX6_tagOwn_121 : decode cX6_tagOwn 121 = .ok (.invokevirtual 223, 3) := dk_182 0 223 (dk_at dksX6_tagOwn_5 2 rfl rfl)
theorem dX6_tagOwn_124 : decode cX6_tagOwn 124 = .ok (.iconst 1, 1) := dk_4 (dk_at dksX6_tagOwn_5 5 rfl rfl)
theorem dX6_tagOwn_125 : decode cX6_tagOwn 125 = .ok (.if_icmp .eq 27, 3) := dk_159 0 27 (dk_at dksX6_tagOwn_5 6 rfl rfl)
theorem dX6_tagOwn_128 : decode cX6_tagOwn 128 = .ok (.aload_n 0, 1) := dk_42 (dk_at dksX6_tagOwn_5 9 rfl rfl)
theorem dX6_tagOwn_129 : decode cX6_tagOwn 129 = .ok (.getfield 83, 3) := dk_180 0 83 (dk_at dksX6_tagOwn_5 10 rfl rfl)
theorem dX6_tagOwn_132 : decode cX6_tagOwn 132 = .ok (.iload 6, 2) := dk_21 6 (dk_at dksX6_tagOwn_5 13 rfl rfl)
theorem dX6_tagOwn_134 : decode cX6_tagOwn 134 = .ok (.bipush 7, 2) := dk_16 7 (dk_at dksX6_tagOwn_5 15 rfl rfl)
theorem dX6_tagOwn_136 : decode cX6_tagOwn 136 = .ok (.invokevirtual 223, 3) := dk_182 0 223 (dk_at dksX6_tagOwn_5 17 rfl rfl)
theorem dX6_tagOwn_139 : decode cX6_tagOwn 139 = .ok (.ifCond .ne 17, 3) := dk_154 0 17 (dk_at dksX6_tagOwn_5 20 rfl rfl)
theorem dX6_tagOwn_142 : decode cX6_tagOwn 142 = .ok (.aload_n 0, 1) := dk_42 (dk_at dksX6_tagOwn_5 23 rfl rfl)
theorem dX6_tagOwn_143 : decode cX6_tagOwn 143 = .ok (.getfield 83, 3) := dk_180 0 83 (dk_at dksX6_tagOwn_6 0 rfl rfl)
theorem dX6_tagOwn_146 : decode cX6_tagOwn 146 = .ok (.getfield 294, 3) := dk_180 1 38 (dk_at dksX6_tagOwn_6 3 rfl rfl)
theorem dX6_tagOwn_149 : decode cX6_tagOwn 149 = .ok (.ifCond .eq 7, 3) := dk_153 0 7 (dk_at dksX6_tagOwn_6 6 rfl rfl)
theorem dX6_tagOwn_152 : decode cX6_tagOwn 152 = .ok (.iconst 1, 1) := dk_4 (dk_at dksX6_tagOwn_6 9 rfl rfl)
theorem dX6_tagOwn_153 : decode cX6_tagOwn 153 = .ok (.goto 4, 3) := dk_167 0 4 (dk_at dksX6_tagOwn_6 10 rfl rfl)
theorem dX6_tagOwn_156 : decode cX6_tagOwn 156 = .ok (.iconst 0, 1) := dk_3 (dk_at dksX6_tagOwn_6 13 rfl rfl)
theorem dX6_tagOwn_157 : decode cX6_tagOwn 157 = .ok (.istore 8, 2) := dk_54 8 (dk_at dksX6_tagOwn_6 14 rfl rfl)
theorem dX6_tagOwn_159 : decode cX6_tagOwn 159 = .ok (.iload 7, 2) := dk_21 7 (dk_at dksX6_tagOwn_6 16 rfl rfl)
theorem dX6_tagOwn_161 : decode cX6_tagOwn 161 = .ok (.ifCond .eq 33, 3) := dk_153 0 33 (dk_at dksX6_tagOwn_6 18 rfl rfl)
theorem dX6_tagOwn_164 : decode cX6_tagOwn 164 = .ok (.aload_n 0, 1) := dk_42 (dk_at dksX6_tagOwn_6 21 rfl rfl)
theorem dX6_tagOwn_165 : decode cX6_tagOwn 165 = .ok (.getfield 83, 3) := dk_180 0 83 (dk_at dksX6_tagOwn_7 0 rfl rfl)
theorem dX6_tagOwn_168 : decode cX6_tagOwn 168 = .ok (.iload 6, 2) := dk_21 6 (dk_at dksX6_tagOwn_7 3 rfl rfl)
theorem dX6_tagOwn_170 : decode cX6_tagOwn 170 = .ok (.bipush 7, 2) := dk_16 7 (dk_at dksX6_tagOwn_7 5 rfl rfl)
theorem dX6_tagOwn_172 : decode cX6_tagOwn 172 = .ok (.invokevirtual 223, 3) := dk_182 0 223 (dk_at dksX6_tagOwn_7 7 rfl rfl)
theorem dX6_tagOwn_175 : decode cX6_tagOwn 175 = .ok (.iconst 1, 1) := dk_4 (dk_at dksX6_tagOwn_7 10 rfl rfl)
theorem dX6_tagOwn_176 : decode cX6_tagOwn 176 = .ok (.if_icmp .ne 18, 3) := dk_160 0 18 (dk_at dksX6_tagOwn_7 11 rfl rfl)
theorem dX6_tagOwn_179 : decode cX6_tagOwn 179 = .ok (.aload_n 0, 1) := dk_42 (dk_at dksX6_tagOwn_7 14 rfl rfl)
theorem dX6_tagOwn_180 : decode cX6_tagOwn 180 = .ok (.bipush 8, 2) := dk_16 8 (dk_at dksX6_tagOwn_7 15 rfl rfl)
theorem dX6_tagOwn_182 : decode cX6_tagOwn 182 = .ok (.aload_n 0, 1) := dk_42 (dk_at dksX6_tagOwn_7 17 rfl rfl)
theorem dX6_tagOwn_183 : decode cX6_tagOwn 183 = .ok (.getfield 83, 3) := dk_180 0 83 (dk_at dksX6_tagOwn_7 18 rfl rfl)
theorem dX6_tagOwn_186 : decode cX6_tagOwn 186 = .ok (.iload 6, 2) := dk_21 6 (dk_at dksX6_tagOwn_7 21 rfl rfl)
theorem dX6_tagOwn_188 : decode cX6_tagOwn 188 = .ok (.invokevirtual 178, 3) := dk_182 0 178 (dk_at dksX6_tagOwn_8 0 rfl rfl)
theorem dX6_tagOwn_191 : decode cX6_tagOwn 191 = .ok (.invokevirtual 185, 3) := dk_182 0 185 (dk_at dksX6_tagOwn_8 3 rfl rfl)
theorem dX6_tagOwn_194 : decode cX6_tagOwn 194 = .ok (.aload_n 0, 1) := dk_42 (dk_at dksX6_tagOwn_8 6 rfl rfl)
theorem dX6_tagOwn_195 : decode cX6_tagOwn 195 = .ok (.getfield 83, 3) := dk_180 0 83 (dk_at dksX6_tagOwn_8 7 rfl rfl)
theorem dX6_tagOwn_198 : decode cX6_tagOwn 198 = .ok (.iload 6, 2) := dk_21 6 (dk_at dksX6_tagOwn_8 10 rfl rfl)
theorem dX6_tagOwn_200 : decode cX6_tagOwn 200 = .ok (.iconst 5, 1) := dk_8 (dk_at dksX6_tagOwn_8 12 rfl rfl)
theorem dX6_tagOwn_201 : decode cX6_tagOwn 201 = .ok (.invokevirtual 223, 3) := dk_182 0 223 (dk_at dksX6_tagOwn_8 13 rfl rfl)
theorem dX6_tagOwn_204 : decode cX6_tagOwn 204 = .ok (.bipush 28, 2) := dk_16 28 (dk_at dksX6_tagOwn_8 16 rfl rfl)
theorem dX6_tagOwn_206 : decode cX6_tagOwn 206 = .ok (.ishl, 1) := dk_120 (dk_at dksX6_tagOwn_8 18 rfl rfl)
theorem dX6_tagOwn_207 : decode cX6_tagOwn 207 = .ok (.aload_n 0, 1) := dk_42 (dk_at dksX6_tagOwn_8 19 rfl rfl)
theorem dX6_tagOwn_208 : decode cX6_tagOwn 208 = .ok (.getfield 83, 3) := dk_180 0 83 (dk_at dksX6_tagOwn_8 20 rfl rfl)
theorem dX6_tagOwn_211 : decode cX6_tagOwn 211 = .ok (.iload 6, 2) := dk_21 6 (dk_at dksX6_tagOwn_9 0 rfl rfl)
theorem dX6_tagOwn_213 : decode cX6_tagOwn 213 = .ok (.bipush 6, 2) := dk_16 6 (dk_at dksX6_tagOwn_9 2 rfl rfl)
theorem dX6_tagOwn_215 : decode cX6_tagOwn 215 = .ok (.invokevirtual 223, 3) := dk_182 0 223 (dk_at dksX6_tagOwn_9 4 rfl rfl)
theorem dX6_tagOwn_218 : decode cX6_tagOwn 218 = .ok (.ior, 1) := dk_128 (dk_at dksX6_tagOwn_9 7 rfl rfl)
theorem dX6_tagOwn_219 : decode cX6_tagOwn 219 = .ok (.istore 9, 2) := dk_54 9 (dk_at dksX6_tagOwn_9 8 rfl rfl)
theorem dX6_tagOwn_221 : decode cX6_tagOwn 221 = .ok (.iload 8, 2) := dk_21 8 (dk_at dksX6_tagOwn_9 10 rfl rfl)
theorem dX6_tagOwn_223 : decode cX6_tagOwn 223 = .ok (.ifCond .eq 24, 3) := dk_153 0 24 (dk_at dksX6_tagOwn_9 12 rfl rfl)
theorem dX6_tagOwn_226 : decode cX6_tagOwn 226 = .ok (.iload 7, 2) := dk_21 7 (dk_at dksX6_tagOwn_9 15 rfl rfl)
theorem dX6_tagOwn_228 : decode cX6_tagOwn 228 = .ok (.ifCond .ne 19, 3) := dk_154 0 19 (dk_at dksX6_tagOwn_9 17 rfl rfl)
theorem dX6_tagOwn_231 : decode cX6_tagOwn 231 = .ok (.aload_n 0, 1) := dk_42 (dk_at dksX6_tagOwn_9 20 rfl rfl)
theorem dX6_tagOwn_232 : decode cX6_tagOwn 232 = .ok (.getfield 74, 3) := dk_180 0 74 (dk_at dksX6_tagOwn_9 21 rfl rfl)
theorem dX6_tagOwn_235 : decode cX6_tagOwn 235 = .ok (.aload_n 0, 1) := dk_42 (dk_at dksX6_tagOwn_10 0 rfl rfl)
theorem dX6_tagOwn_236 : decode cX6_tagOwn 236 = .ok (.getfield 141, 3) := dk_180 0 141 (dk_at dksX6_tagOwn_10 1 rfl rfl)
theorem dX6_tagOwn_239 : decode cX6_tagOwn 239 = .ok (.iconst 1, 1) := dk_4 (dk_at dksX6_tagOwn_10 4 rfl rfl)
theorem dX6_tagOwn_240 : decode cX6_tagOwn 240 = .ok (.isub, 1) := dk_100 (dk_at dksX6_tagOwn_10 5 rfl rfl)
theorem dX6_tagOwn_241 : decode cX6_tagOwn 241 = .ok (.iload 9, 2) := dk_21 9 (dk_at dksX6_tagOwn_10 6 rfl rfl)
theorem dX6_tagOwn_243 : decode cX6_tagOwn 243 = .ok (.iastore, 1) := dk_79 (dk_at dksX6_tagOwn_10 8 rfl rfl)
theorem dX6_tagOwn_244 : decode cX6_tagOwn 244 = .ok (.goto 9, 3) := dk_167 0 9 (dk_at dksX6_tagOwn_10 9 rfl rfl)
theorem dX6_tagOwn_247 : decode cX6_tagOwn 247 = .ok (.aload_n 0, 1) := dk_42 (dk_at dksX6_tagOwn_10 12 rfl rfl)
theorem dX6_tagOwn_248 : decode cX6_tagOwn 248 = .ok (.iload 9, 2) := dk_21 9 (dk_at dksX6_tagOwn_10 13 rfl rfl)
theorem dX6_tagOwn_250 : decode cX6_tagOwn 250 = .ok (.invokevirtual 284, 3) := dk_182 1 28 (dk_at dksX6_tagOwn_10 15 rfl rfl)
theorem dX6_tagOwn_253 : decode cX6_tagOwn 253 = .ok (.iinc 5 (-1), 3) := dk_132 5 255 (dk_at dksX6_tagOwn_10 18 rfl rfl)
theorem dX6_tagOwn_256 : decode cX6_tagOwn 256 = .ok (.goto (-221), 3) := dk_167 255 35 (dk_at dksX6_tagOwn_10 21 rfl rfl)
theorem dX6_tagOwn_259 : decode cX6_tagOwn 259 = .ok (.return_, 1) := dk_177 (dk_at dksX6_tagOwn_11 0 rfl rfl)
abbrev cX6_distinct : ByteArray := prog_9_method_32_code
def yX6_distinct : MethodName := ⟨RX6, "distinct", "()Z"⟩
def dkwX6_distinct_4 : List UInt8 := [167, 255, 199, 42, 180, 0, 96, 154, 0, 7, 4, 167, 0, 4, 3, 172]
abbrev dktX6_distinct_4 : List UInt8 := dkwX6_distinct_4 ++ []
def dkwX6_distinct_3 : List UInt8 := [160, 0, 19, 42, 27, 28, 16, 12, 160, 0, 7, 4, 167, 0, 4, 3, 182, 1, 51, 132, 1, 1]
abbrev dktX6_distinct_3 : List UInt8 := dkwX6_distinct_3 ++ dktX6_distinct_4
def dkwX6_distinct_2 : List UInt8 := [180, 0, 83, 27, 182, 0, 125, 61, 28, 16, 12, 159, 0, 15, 28, 16, 13, 159, 0, 9, 28, 16, 16]
abbrev dktX6_distinct_2 : List UInt8 := dkwX6_distinct_2 ++ dktX6_distinct_3
def dkwX6_distinct_1 : List UInt8 := [167, 255, 235, 42, 3, 181, 1, 45, 3, 60, 27, 42, 180, 0, 83, 182, 0, 130, 162, 0, 52, 42]
abbrev dktX6_distinct_1 : List UInt8 := dkwX6_distinct_1 ++ dktX6_distinct_2
def dkwX6_distinct_0 : List UInt8 := [3, 60, 27, 42, 180, 0, 83, 182, 0, 130, 162, 0, 16, 42, 180, 0, 68, 27, 3, 79, 132, 1, 1]
abbrev dktX6_distinct_0 : List UInt8 := dkwX6_distinct_0 ++ dktX6_distinct_1
theorem dksX6_distinct_0 : cX6_distinct.data.toList.drop 0 = dktX6_distinct_0 := by decide +kernel
theorem dksX6_distinct_1 : cX6_distinct.data.toList.drop 23 = dktX6_distinct_1 := dk_seg dksX6_distinct_0 23 rfl rfl
theorem dksX6_distinct_2 : cX6_distinct.data.toList.drop 45 = dktX6_distinct_2 := dk_seg dksX6_distinct_1 22 rfl rfl
theorem dksX6_distinct_3 : cX6_distinct.data.toList.drop 68 = dktX6_distinct_3 := dk_seg dksX6_distinct_2 23 rfl rfl
theorem dksX6_distinct_4 : cX6_distinct.data.toList.drop 90 = dktX6_distinct_4 := dk_seg dksX6_distinct_3 22 rfl rfl
theorem dX6_distinct_0 : decode cX6_distinct 0 = .ok (.iconst 0, 1) := dk_3 (dk_at dksX6_distinct_0 0 rfl rfl)
theorem dX6_distinct_1 : decode cX6_distinct 1 = .ok (.istore_n 1, 1) := dk_60 (dk_at dksX6_distinct_0 1 rfl rfl)
theorem dX6_distinct_2 : decode cX6_distinct 2 = .ok (.iload_n 1, 1) := dk_27 (dk_at dksX6_distinct_0 2 rfl rfl)
theorem dX6_distinct_3 : decode cX6_distinct 3 = .ok (.aload_n 0, 1) := dk_42 (dk_at dksX6_distinct_0 3 rfl rfl)
theorem dX6_distinct_4 : decode cX6_distinct 4 = .ok (.getfield 83, 3) := dk_180 0 83 (dk_at dksX6_distinct_0 4 rfl rfl)
theorem dX6_distinct_7 : decode cX6_distinct 7 = .ok (.invokevirtual 130, 3) := dk_182 0 130 (dk_at dksX6_distinct_0 7 rfl rfl)
theorem dX6_distinct_10 : decode cX6_distinct 10 = .ok (.if_icmp .ge 16, 3) := dk_162 0 16 (dk_at dksX6_distinct_0 10 rfl rfl)
theorem dX6_distinct_13 : decode cX6_distinct 13 = .ok (.aload_n 0, 1) := dk_42 (dk_at dksX6_distinct_0 13 rfl rfl)
theorem dX6_distinct_14 : decode cX6_distinct 14 = .ok (.getfield 68, 3) := dk_180 0 68 (dk_at dksX6_distinct_0 14 rfl rfl)
theorem dX6_distinct_17 : decode cX6_distinct 17 = .ok (.iload_n 1, 1) := dk_27 (dk_at dksX6_distinct_0 17 rfl rfl)
theorem dX6_distinct_18 : decode cX6_distinct 18 = .ok (.iconst 0, 1) := dk_3 (dk_at dksX6_distinct_0 18 rfl rfl)
theorem dX6_distinct_19 : decode cX6_distinct 19 = .ok (.iastore, 1) := dk_79 (dk_at dksX6_distinct_0 19 rfl rfl)
theorem dX6_distinct_20 : decode cX6_distinct 20 = .ok (.iinc 1 1, 3) := dk_132 1 1 (dk_at dksX6_distinct_0 20 rfl rfl)
theorem dX6_distinct_23 : decode cX6_distinct 23 = .ok (.goto (-21), 3) := dk_167 255 235 (dk_at dksX6_distinct_1 0 rfl rfl)
theorem dX6_distinct_26 : decode cX6_distinct 26 = .ok (.aload_n 0, 1) := dk_42 (dk_at dksX6_distinct_1 3 rfl rfl)
theorem dX6_distinct_27 : decode cX6_distinct 27 = .ok (.iconst 0, 1) := dk_3 (dk_at dksX6_distinct_1 4 rfl rfl)
theorem dX6_distinct_28 : decode cX6_distinct 28 = .ok (.putfield 301, 3) := dk_181 1 45 (dk_at dksX6_distinct_1 5 rfl rfl)
theorem dX6_distinct_31 : decode cX6_distinct 31 = .ok (.iconst 0, 1) := dk_3 (dk_at dksX6_distinct_1 8 rfl rfl)
theorem dX6_distinct_32 : decode cX6_distinct 32 = .ok (.istore_n 1, 1) := dk_60 (dk_at dksX6_distinct_1 9 rfl rfl)
theorem dX6_distinct_33 : decode cX6_distinct 33 = .ok (.iload_n 1, 1) := dk_27 (dk_at dksX6_distinct_1 10 rfl rfl)
theorem dX6_distinct_34 : decode cX6_distinct 34 = .ok (.aload_n 0, 1) := dk_42 (dk_at dksX6_distinct_1 11 rfl rfl)
theorem dX6_distinct_35 : decode cX6_distinct 35 = .ok (.getfield 83, 3) := dk_180 0 83 (dk_at dksX6_distinct_1 12 rfl rfl)
theorem dX6_distinct_38 : decode cX6_distinct 38 = .ok (.invokevirtual 130, 3) := dk_182 0 130 (dk_at dksX6_distinct_1 15 rfl rfl)
theorem dX6_distinct_41 : decode cX6_distinct 41 = .ok (.if_icmp .ge 52, 3) := dk_162 0 52 (dk_at dksX6_distinct_1 18 rfl rfl)
theorem dX6_distinct_44 : decode cX6_distinct 44 = .ok (.aload_n 0, 1) := dk_42 (dk_at dksX6_distinct_1 21 rfl rfl)
theorem dX6_distinct_45 : decode cX6_distinct 45 = .ok (.getfield 83, 3) := dk_180 0 83 (dk_at dksX6_distinct_2 0 rfl rfl)
theorem dX6_distinct_48 : decode cX6_distinct 48 = .ok (.iload_n 1, 1) := dk_27 (dk_at dksX6_distinct_2 3 rfl rfl)
theorem dX6_distinct_49 : decode cX6_distinct 49 = .ok (.invokevirtual 125, 3) := dk_182 0 125 (dk_at dksX6_distinct_2 4 rfl rfl)
theorem dX6_distinct_52 : decode cX6_distinct 52 = .ok (.istore_n 2, 1) := dk_61 (dk_at dksX6_distinct_2 7 rfl rfl)
theorem dX6_distinct_53 : decode cX6_distinct 53 = .ok (.iload_n 2, 1) := dk_28 (dk_at dksX6_distinct_2 8 rfl rfl)
theorem dX6_distinct_54 : decode cX6_distinct 54 = .ok (.bipush 12, 2) := dk_16 12 (dk_at dksX6_distinct_2 9 rfl rfl)
theorem dX6_distinct_56 : decode cX6_distinct 56 = .ok (.if_icmp .eq 15, 3) := dk_159 0 15 (dk_at dksX6_distinct_2 11 rfl rfl)
theorem dX6_distinct_59 : decode cX6_distinct 59 = .ok (.iload_n 2, 1) := dk_28 (dk_at dksX6_distinct_2 14 rfl rfl)
theorem dX6_distinct_60 : decode cX6_distinct 60 = .ok (.bipush 13, 2) := dk_16 13 (dk_at dksX6_distinct_2 15 rfl rfl)
theorem dX6_distinct_62 : decode cX6_distinct 62 = .ok (.if_icmp .eq 9, 3) := dk_159 0 9 (dk_at dksX6_distinct_2 17 rfl rfl)
theorem dX6_distinct_65 : decode cX6_distinct 65 = .ok (.iload_n 2, 1) := dk_28 (dk_at dksX6_distinct_2 20 rfl rfl)
theorem dX6_distinct_66 : decode cX6_distinct 66 = .ok (.bipush 16, 2) := dk_16 16 (dk_at dksX6_distinct_2 21 rfl rfl)
theorem dX6_distinct_68 : decode cX6_distinct 68 = .ok (.if_icmp .ne 19, 3) := dk_160 0 19 (dk_at dksX6_distinct_3 0 rfl rfl)
theorem dX6_distinct_71 : decode cX6_distinct 71 = .ok (.aload_n 0, 1) := dk_42 (dk_at dksX6_distinct_3 3 rfl rfl)
theorem dX6_distinct_72 : decode cX6_distinct 72 = .ok (.iload_n 1, 1) := dk_27 (dk_at dksX6_distinct_3 4 rfl rfl)
theorem dX6_distinct_73 : decode cX6_distinct 73 = .ok (.iload_n 2, 1) := dk_28 (dk_at dksX6_distinct_3 5 rfl rfl)
theorem dX6_distinct_74 : decode cX6_distinct 74 = .ok (.bipush 12, 2) := dk_16 12 (dk_at dksX6_distinct_3 6 rfl rfl)
theorem dX6_distinct_76 : decode cX6_distinct 76 = .ok (.if_icmp .ne 7, 3) := dk_160 0 7 (dk_at dksX6_distinct_3 8 rfl rfl)
theorem dX6_distinct_79 : decode cX6_distinct 79 = .ok (.iconst 1, 1) := dk_4 (dk_at dksX6_distinct_3 11 rfl rfl)
theorem dX6_distinct_80 : decode cX6_distinct 80 = .ok (.goto 4, 3) := dk_167 0 4 (dk_at dksX6_distinct_3 12 rfl rfl)
theorem dX6_distinct_83 : decode cX6_distinct 83 = .ok (.iconst 0, 1) := dk_3 (dk_at dksX6_distinct_3 15 rfl rfl)
theorem dX6_distinct_84 : decode cX6_distinct 84 = .ok (.invokevirtual 307, 3) := dk_182 1 51 (dk_at dksX6_distinct_3 16 rfl rfl)
theorem dX6_distinct_87 : decode cX6_distinct 87 = .ok (.iinc 1 1, 3) := dk_132 1 1 (dk_at dksX6_distinct_3 19 rfl rfl)
theorem dX6_distinct_90 : decode cX6_distinct 90 = .ok (.goto (-57), 3) := dk_167 255 199 (dk_at dksX6_distinct_4 0 rfl rfl)
theorem dX6_distinct_93 : decode cX6_distinct 93 = .ok (.aload_n 0, 1) := dk_42 (dk_at dksX6_distinct_4 3 rfl rfl)
theorem dX6_distinct_94 : decode cX6_distinct 94 = .ok (.getfield 96, 3) := dk_180 0 96 (dk_at dksX6_distinct_4 4 rfl rfl)
theorem dX6_distinct_97 : decode cX6_distinct 97 = .ok (.ifCond .ne 7, 3) := dk_154 0 7 (dk_at dksX6_distinct_4 7 rfl rfl)
theorem dX6_distinct_100 : decode cX6_distinct 100 = .ok (.iconst 1, 1) := dk_4 (dk_at dksX6_distinct_4 10 rfl rfl)
theorem dX6_distinct_101 : decode cX6_distinct 101 = .ok (.goto 4, 3) := dk_167 0 4 (dk_at dksX6_distinct_4 11 rfl rfl)
theorem dX6_distinct_104 : decode cX6_distinct 104 = .ok (.iconst 0, 1) := dk_3 (dk_at dksX6_distinct_4 14 rfl rfl)
theorem dX6_distinct_105 : decode cX6_distinct 105 = .ok (.ireturn, 1) := dk_172 (dk_at dksX6_distinct_4 15 rfl rfl)
abbrev cX6_distinct_2 : ByteArray := prog_9_method_33_code
def yX6_distinct_2 : MethodName := ⟨RX6, "distinct", "(IZ)V"⟩
def dkwX6_distinct_2_7 : List UInt8 := [182, 0, 189, 62, 167, 255, 105, 177]
abbrev dktX6_distinct_2_7 : List UInt8 := dkwX6_distinct_2_7 ++ []
def dkwX6_distinct_2_6 : List UInt8 := [42, 180, 0, 83, 29, 8, 182, 0, 223, 154, 0, 10, 42, 180, 0, 41, 182, 0, 233, 42, 180, 0, 83, 29]
abbrev dktX6_distinct_2_6 : List UInt8 := dkwX6_distinct_2_6 ++ dktX6_distinct_2_7
def dkwX6_distinct_2_5 : List UInt8 := [180, 0, 41, 42, 180, 0, 80, 21, 5, 46, 182, 0, 239, 87, 132, 5, 1, 167, 255, 229, 28, 153, 0, 22]
abbrev dktX6_distinct_2_5 : List UInt8 := dkwX6_distinct_2_5 ++ dktX6_distinct_2_6
def dkwX6_distinct_2_4 : List UInt8 := [42, 180, 0, 83, 29, 182, 0, 178, 182, 0, 185, 3, 54, 5, 21, 5, 42, 180, 1, 42, 162, 0, 24, 42]
abbrev dktX6_distinct_2_4 : List UInt8 := dkwX6_distinct_2_4 ++ dktX6_distinct_2_5
def dkwX6_distinct_2_3 : List UInt8 := [153, 0, 7, 4, 167, 0, 4, 3, 54, 4, 132, 5, 1, 167, 255, 215, 21, 4, 153, 0, 17, 42, 16, 9]
abbrev dktX6_distinct_2_3 : List UInt8 := dkwX6_distinct_2_3 ++ dktX6_distinct_2_4
def dkwX6_distinct_2_2 : List UInt8 := [162, 0, 38, 21, 4, 154, 0, 20, 42, 180, 0, 41, 42, 180, 0, 80, 21, 5, 46, 182, 1, 57]
abbrev dktX6_distinct_2_2 : List UInt8 := dkwX6_distinct_2_2 ++ dktX6_distinct_2_3
def dkwX6_distinct_2_1 : List UInt8 := [180, 0, 83, 29, 182, 0, 196, 182, 1, 54, 3, 54, 4, 3, 54, 5, 21, 5, 42, 180, 1, 42]
abbrev dktX6_distinct_2_1 : List UInt8 := dkwX6_distinct_2_1 ++ dktX6_distinct_2_2
def dkwX6_distinct_2_0 : List UInt8 := [42, 180, 0, 41, 182, 0, 233, 42, 180, 0, 83, 27, 182, 0, 196, 62, 29, 2, 159, 0, 152, 42, 42]
abbrev dktX6_distinct_2_0 : List UInt8 := dkwX6_distinct_2_0 ++ dktX6_distinct_2_1
theorem dksX6_distinct_2_0 : cX6_distinct_2.data.toList.drop 0 = dktX6_distinct_2_0 := by decide +kernel
theorem dksX6_distinct_2_1 : cX6_distinct_2.data.toList.drop 23 = dktX6_distinct_2_1 := dk_seg dksX6_distinct_2_0 23 rfl rfl
theorem dksX6_distinct_2_2 : cX6_distinct_2.data.toList.drop 45 = dktX6_distinct_2_2 := dk_seg dksX6_distinct_2_1 22 rfl rfl
theorem dksX6_distinct_2_3 : cX6_distinct_2.data.toList.drop 67 = dktX6_distinct_2_3 := dk_seg dksX6_distinct_2_2 22 rfl rfl
theorem dksX6_distinct_2_4 : cX6_distinct_2.data.toList.drop 91 = dktX6_distinct_2_4 := dk_seg dksX6_distinct_2_3 24 rfl rfl
theorem dksX6_distinct_2_5 : cX6_distinct_2.data.toList.drop 115 = dktX6_distinct_2_5 := dk_seg dksX6_distinct_2_4 24 rfl rfl
theorem dksX6_distinct_2_6 : cX6_distinct_2.data.toList.drop 139 = dktX6_distinct_2_6 := dk_seg dksX6_distinct_2_5 24 rfl rfl
theorem dksX6_distinct_2_7 : cX6_distinct_2.data.toList.drop 163 = dktX6_distinct_2_7 := dk_seg dksX6_distinct_2_6 24 rfl rfl
theorem dX6_distinct_2_0 : decode cX6_distinct_2 0 = .ok (.aload_n 0, 1) := dk_42 (dk_at dksX6_distinct_2_0 0 rfl rfl)
theorem dX6_distinct_2_1 : decode cX6_distinct_2 1 = .ok (.getfield 41, 3) := dk_180 0 41 (dk_at dksX6_distinct_2_0 1 rfl rfl)
theorem dX6_distinct_2_4 : decode cX6_distinct_2 4 = .ok (.invokevirtual 233, 3) := dk_182 0 233 (dk_at dksX6_distinct_2_0 4 rfl rfl)
theorem dX6_distinct_2_7 : decode cX6_distinct_2 7 = .ok (.aload_n 0, 1) := dk_42 (dk_at dksX6_distinct_2_0 7 rfl rfl)
theorem dX6_distinct_2_8 : decode cX6_distinct_2 8 = .ok (.getfield 83, 3) := dk_180 0 83 (dk_at dksX6_distinct_2_0 8 rfl rfl)
theorem dX6_distinct_2_11 : decode cX6_distinct_2 11 = .ok (.iload_n 1, 1) := dk_27 (dk_at dksX6_distinct_2_0 11 rfl rfl)
theorem dX6_distinct_2_12 : decode cX6_distinct_2 12 = .ok (.invokevirtual 196, 3) := dk_182 0 196 (dk_at dksX6_distinct_2_0 12 rfl rfl)
theorem dX6_distinct_2_15 : decode cX6_distinct_2 15 = .ok (.istore_n 3, 1) := dk_62 (dk_at dksX6_distinct_2_0 15 rfl rfl)
theorem dX6_distinct_2_16 : decode cX6_distinct_2 16 = .ok (.iload_n 3, 1) := dk_29 (dk_at dksX6_distinct_2_0 16 rfl rfl)
theorem dX6_distinct_2_17 : decode cX6_distinct_2 17 = .ok (.iconst (-1), 1) := dk_2 (dk_at dksX6_distinct_2_0 17 rfl rfl)
theorem dX6_distinct_2_18 : decode cX6_distinct_2 18 = .ok (.if_icmp .eq 152, 3) := dk_159 0 152 (dk_at dksX6_distinct_2_0 18 rfl rfl)
theorem dX6_distinct_2_21 : decode cX6_distinct_2 21 = .ok (.aload_n 0, 1) := dk_42 (dk_at dksX6_distinct_2_0 21 rfl rfl)
theorem dX6_distinct_2_22 : decode cX6_distinct_2 22 = .ok (.aload_n 0, 1) := dk_42 (dk_at dksX6_distinct_2_0 22 rfl rfl)
theorem dX6_distinct_2_23 : decode cX6_distinct_2 23 = .ok (.getfield 83, 3) := dk_180 0 83 (dk_at dksX6_distinct_2_1 0 rfl rfl)
theorem dX6_distinct_2_26 : decode cX6_distinct_2 26 = .ok (.iload_n 3, 1) := dk_29 (dk_at dksX6_distinct_2_1 3 rfl rfl)
theorem dX6_distinct_2_27 : decode cX6_distinct_2 27 = .ok (.invokevirtual 196, 3) := dk_182 0 196 (dk_at dksX6_distinct_2_1 4 rfl rfl)
theorem dX6_distinct_2_30 : decode cX6_distinct_2 30 = .ok (.invokevirtual 310, 3) := dk_182 1 54 (dk_at dksX6_distinct_2_1 7 rfl rfl)
theorem dX6_distinct_2_33 : decode cX6_distinct_2 33 = .ok (.iconst 0, 1) := dk_3 (dk_at dksX6_distinct_2_1 10 rfl rfl)
theorem dX6_distinct_2_34 : decode cX6_distinct_2 34 = .ok (.istore 4, 2) := dk_54 4 (dk_at dksX6_distinct_2_1 11 rfl rfl)
theorem dX6_distinct_2_36 : decode cX6_distinct_2 36 = .ok (.iconst 0, 1) := dk_3 (dk_at dksX6_distinct_2_1 13 rfl rfl)
theorem dX6_distinct_2_37 : decode cX6_distinct_2 37 = .ok (.istore 5, 2) := dk_54 5 (dk_at dksX6_distinct_2_1 14 rfl rfl)
theorem dX6_distinct_2_39 : decode cX6_distinct_2 39 = .ok (.iload 5, 2) := dk_21 5 (dk_at dksX6_distinct_2_1 16 rfl rfl)
theorem dX6_distinct_2_41 : decode cX6_distinct_2 41 = .ok (.aload_n 0, 1) := dk_42 (dk_at dksX6_distinct_2_1 18 rfl rfl)
theorem dX6_distinct_2_42 : decode cX6_distinct_2 42 = .ok (.getfield 298, 3) := dk_180 1 42 (dk_at dksX6_distinct_2_1 19 rfl rfl)
theorem dX6_distinct_2_45 : decode cX6_distinct_2 45 = .ok (.if_icmp .ge 38, 3) := dk_162 0 38 (dk_at dksX6_distinct_2_2 0 rfl rfl)
theorem dX6_distinct_2_48 : decode cX6_distinct_2 48 = .ok (.iload 4, 2) := dk_21 4 (dk_at dksX6_distinct_2_2 3 rfl rfl)
theorem dX6_distinct_2_50 : decode cX6_distinct_2 50 = .ok (.ifCond .ne 20, 3) := dk_154 0 20 (dk_at dksX6_distinct_2_2 5 rfl rfl)
theorem dX6_distinct_2_53 : decode cX6_distinct_2 53 = .ok (.aload_n 0, 1) := dk_42 (dk_at dksX6_distinct_2_2 8 rfl rfl)
theorem dX6_distinct_2_54 : decode cX6_distinct_2 54 = .ok (.getfield 41, 3) := dk_180 0 41 (dk_at dksX6_distinct_2_2 9 rfl rfl)
theorem dX6_distinct_2_57 : decode cX6_distinct_2 57 = .ok (.aload_n 0, 1) := dk_42 (dk_at dksX6_distinct_2_2 12 rfl rfl)
theorem dX6_distinct_2_58 : decode cX6_distinct_2 58 = .ok (.getfield 80, 3) := dk_180 0 80 (dk_at dksX6_distinct_2_2 13 rfl rfl)
theorem dX6_distinct_2_61 : decode cX6_distinct_2 61 = .ok (.iload 5, 2) := dk_21 5 (dk_at dksX6_distinct_2_2 16 rfl rfl)
theorem dX6_distinct_2_63 : decode cX6_distinct_2 63 = .ok (.iaload, 1) := dk_46 (dk_at dksX6_distinct_2_2 18 rfl rfl)
theorem dX6_distinct_2_64 : decode cX6_distinct_2 64 = .ok (.invokevirtual 313, 3) := dk_182 1 57 (dk_at dksX6_distinct_2_2 19 rfl rfl)
theorem dX6_distinct_2_67 : decode cX6_distinct_2 67 = .ok (.ifCond .eq 7, 3) := dk_153 0 7 (dk_at dksX6_distinct_2_3 0 rfl rfl)
theorem dX6_distinct_2_70 : decode cX6_distinct_2 70 = .ok (.iconst 1, 1) := dk_4 (dk_at dksX6_distinct_2_3 3 rfl rfl)
theorem dX6_distinct_2_71 : decode cX6_distinct_2 71 = .ok (.goto 4, 3) := dk_167 0 4 (dk_at dksX6_distinct_2_3 4 rfl rfl)
theorem dX6_distinct_2_74 : decode cX6_distinct_2 74 = .ok (.iconst 0, 1) := dk_3 (dk_at dksX6_distinct_2_3 7 rfl rfl)
theorem dX6_distinct_2_75 : decode cX6_distinct_2 75 = .ok (.istore 4, 2) := dk_54 4 (dk_at dksX6_distinct_2_3 8 rfl rfl)
theorem dX6_distinct_2_77 : decode cX6_distinct_2 77 = .ok (.iinc 5 1, 3) := dk_132 5 1 (dk_at dksX6_distinct_2_3 10 rfl rfl)
theorem dX6_distinct_2_80 : decode cX6_distinct_2 80 = .ok (.goto (-41), 3) := dk_167 255 215 (dk_at dksX6_distinct_2_3 13 rfl rfl)
theorem dX6_distinct_2_83 : decode cX6_distinct_2 83 = .ok (.iload 4, 2) := dk_21 4 (dk_at dksX6_distinct_2_3 16 rfl rfl)
theorem dX6_distinct_2_85 : decode cX6_distinct_2 85 = .ok (.ifCond .eq 17, 3) := dk_153 0 17 (dk_at dksX6_distinct_2_3 18 rfl rfl)
theorem dX6_distinct_2_88 : decode cX6_distinct_2 88 = .ok (.aload_n 0, 1) := dk_42 (dk_at dksX6_distinct_2_3 21 rfl rfl)
theorem dX6_distinct_2_89 : decode cX6_distinct_2 89 = .ok (.bipush 9, 2) := dk_16 9 (dk_at dksX6_distinct_2_3 22 rfl rfl)
theorem dX6_distinct_2_91 : decode cX6_distinct_2 91 = .ok (.aload_n 0, 1) := dk_42 (dk_at dksX6_distinct_2_4 0 rfl rfl)
theorem dX6_distinct_2_92 : decode cX6_distinct_2 92 = .ok (.getfield 83, 3) := dk_180 0 83 (dk_at dksX6_distinct_2_4 1 rfl rfl)
theorem dX6_distinct_2_95 : decode cX6_distinct_2 95 = .ok (.iload_n 3, 1) := dk_29 (dk_at dksX6_distinct_2_4 4 rfl rfl)
theorem dX6_distinct_2_96 : decode cX6_distinct_2 96 = .ok (.invokevirtual 178, 3) := dk_182 0 178 (dk_at dksX6_distinct_2_4 5 rfl rfl)
theorem dX6_distinct_2_99 : decode cX6_distinct_2 99 = .ok (.invokevirtual 185, 3) := dk_182 0 185 (dk_at dksX6_distinct_2_4 8 rfl rfl)
theorem dX6_distinct_2_102 : decode cX6_distinct_2 102 = .ok (.iconst 0, 1) := dk_3 (dk_at dksX6_distinct_2_4 11 rfl rfl)
theorem dX6_distinct_2_103 : decode cX6_distinct_2 103 = .ok (.istore 5, 2) := dk_54 5 (dk_at dksX6_distinct_2_4 12 rfl rfl)
theorem dX6_distinct_2_105 : decode cX6_distinct_2 105 = .ok (.iload 5, 2) := dk_21 5 (dk_at dksX6_distinct_2_4 14 rfl rfl)
theorem dX6_distinct_2_107 : decode cX6_distinct_2 107 = .ok (.aload_n 0, 1) := dk_42 (dk_at dksX6_distinct_2_4 16 rfl rfl)
theorem dX6_distinct_2_108 : decode cX6_distinct_2 108 = .ok (.getfield 298, 3) := dk_180 1 42 (dk_at dksX6_distinct_2_4 17 rfl rfl)
theorem dX6_distinct_2_111 : decode cX6_distinct_2 111 = .ok (.if_icmp .ge 24, 3) := dk_162 0 24 (dk_at dksX6_distinct_2_4 20 rfl rfl)
theorem dX6_distinct_2_114 : decode cX6_distinct_2 114 = .ok (.aload_n 0, 1) := dk_42 (dk_at dksX6_distinct_2_4 23 rfl rfl)
theorem dX6_distinct_2_115 : decode cX6_distinct_2 115 = .ok (.getfield 41, 3) := dk_180 0 41 (dk_at dksX6_distinct_2_5 0 rfl rfl)
theorem dX6_distinct_2_118 : decode cX6_distinct_2 118 = .ok (.aload_n 0, 1) := dk_42 (dk_at dksX6_distinct_2_5 3 rfl rfl)
theorem dX6_distinct_2_119 : decode cX6_distinct_2 119 = .ok (.getfield 80, 3) := dk_180 0 80 (dk_at dksX6_distinct_2_5 4 rfl rfl)
theorem dX6_distinct_2_122 : decode cX6_distinct_2 122 = .ok (.iload 5, 2) := dk_21 5 (dk_at dksX6_distinct_2_5 7 rfl rfl)
theorem dX6_distinct_2_124 : decode cX6_distinct_2 124 = .ok (.iaload, 1) := dk_46 (dk_at dksX6_distinct_2_5 9 rfl rfl)
theorem dX6_distinct_2_125 : decode cX6_distinct_2 125 = .ok (.invokevirtual 239, 3) := dk_182 0 239 (dk_at dksX6_distinct_2_5 10 rfl rfl)
theorem dX6_distinct_2_128 : decode cX6_distinct_2 128 = .ok (.pop, 1) := dk_87 (dk_at dksX6_distinct_2_5 13 rfl rfl)
theorem dX6_distinct_2_129 : decode cX6_distinct_2 129 = .ok (.iinc 5 1, 3) := dk_132 5 1 (dk_at dksX6_distinct_2_5 14 rfl rfl)
theorem dX6_distinct_2_132 : decode cX6_distinct_2 132 = .ok (.goto (-27), 3) := dk_167 255 229 (dk_at dksX6_distinct_2_5 17 rfl rfl)
theorem dX6_distinct_2_135 : decode cX6_distinct_2 135 = .ok (.iload_n 2, 1) := dk_28 (dk_at dksX6_distinct_2_5 20 rfl rfl)
theorem dX6_distinct_2_136 : decode cX6_distinct_2 136 = .ok (.ifCond .eq 22, 3) := dk_153 0 22 (dk_at dksX6_distinct_2_5 21 rfl rfl)
theorem dX6_distinct_2_139 : decode cX6_distinct_2 139 = .ok (.aload_n 0, 1) := dk_42 (dk_at dksX6_distinct_2_6 0 rfl rfl)
theorem dX6_distinct_2_140 : decode cX6_distinct_2 140 = .ok (.getfield 83, 3) := dk_180 0 83 (dk_at dksX6_distinct_2_6 1 rfl rfl)
theorem dX6_distinct_2_143 : decode cX6_distinct_2 143 = .ok (.iload_n 3, 1) := dk_29 (dk_at dksX6_distinct_2_6 4 rfl rfl)
theorem dX6_distinct_2_144 : decode cX6_distinct_2 144 = .ok (.iconst 5, 1) := dk_8 (dk_at dksX6_distinct_2_6 5 rfl rfl)
theorem dX6_distinct_2_145 : decode cX6_distinct_2 145 = .ok (.invokevirtual 223, 3) := dk_182 0 223 (dk_at dksX6_distinct_2_6 6 rfl rfl)
theorem dX6_distinct_2_148 : decode cX6_distinct_2 148 = .ok (.ifCond .ne 10, 3) := dk_154 0 10 (dk_at dksX6_distinct_2_6 9 rfl rfl)
theorem dX6_distinct_2_151 : decode cX6_distinct_2 151 = .ok (.aload_n 0, 1) := dk_42 (dk_at dksX6_distinct_2_6 12 rfl rfl)
theorem dX6_distinct_2_152 : decode cX6_distinct_2 152 = .ok (.getfield 41, 3) := dk_180 0 41 (dk_at dksX6_distinct_2_6 13 rfl rfl)
theorem dX6_distinct_2_155 : decode cX6_distinct_2 155 = .ok (.invokevirtual 233, 3) := dk_182 0 233 (dk_at dksX6_distinct_2_6 16 rfl rfl)
theorem dX6_distinct_2_158 : decode cX6_distinct_2 158 = .ok (.aload_n 0, 1) := dk_42 (dk_at dksX6_distinct_2_6 19 rfl rfl)
theorem dX6_distinct_2_159 : decode cX6_distinct_2 159 = .ok (.getfield 83, 3) := dk_180 0 83 (dk_at dksX6_distinct_2_6 20 rfl rfl)
theorem dX6_distinct_2_162 : decode cX6_distinct_2 162 = .ok (.iload_n 3, 1) := dk_29 (dk_at dksX6_distinct_2_6 23 rfl rfl)
theorem dX6_distinct_2_163 : decode cX6_distinct_2 163 = .ok (.invokevirtual 189, 3) := dk_182 0 189 (dk_at dksX6_distinct_2_7 0 rfl rfl)
theorem dX6_distinct_2_166 : decode cX6_distinct_2 166 = .ok (.istore_n 3, 1) := dk_62 (dk_at dksX6_distinct_2_7 3 rfl rfl)
theorem dX6_distinct_2_167 : decode cX6_distinct_2 167 = .ok (.goto (-151), 3) := dk_167 255 105 (dk_at dksX6_distinct_2_7 4 rfl rfl)
theorem dX6_distinct_2_170 : decode cX6_distinct_2 170 = .ok (.return_, 1) := dk_177 (dk_at dksX6_distinct_2_7 7 rfl rfl)
abbrev cX6_collect : ByteArray := prog_9_method_31_code
def yX6_collect : MethodName := ⟨RX6, "collect", "(I)V"⟩
def dkwX6_collect_8 : List UInt8 := [167, 255, 207, 167, 255, 93, 177]
abbrev dktX6_collect_8 : List UInt8 := dkwX6_collect_8 ++ []
def dkwX6_collect_7 : List UInt8 := [180, 0, 83, 21, 5, 182, 0, 196, 79, 132, 2, 1, 42, 180, 0, 83, 21, 5, 182, 0, 189, 54, 5]
abbrev dktX6_collect_7 : List UInt8 := dkwX6_collect_7 ++ dktX6_collect_8
def dkwX6_collect_6 : List UInt8 := [159, 0, 49, 42, 42, 180, 0, 77, 28, 4, 96, 184, 0, 134, 181, 0, 77, 42, 180, 0, 77, 28, 42]
abbrev dktX6_collect_6 : List UInt8 := dkwX6_collect_6 ++ dktX6_collect_7
def dkwX6_collect_5 : List UInt8 := [180, 0, 68, 21, 4, 42, 180, 1, 45, 79, 42, 180, 0, 83, 21, 4, 182, 0, 196, 54, 5, 21, 5, 2]
abbrev dktX6_collect_5 : List UInt8 := dkwX6_collect_5 ++ dktX6_collect_6
def dkwX6_collect_4 : List UInt8 := [42, 29, 182, 1, 0, 54, 4, 42, 180, 0, 68, 21, 4, 46, 42, 180, 1, 45, 159, 0, 77, 42]
abbrev dktX6_collect_4 : List UInt8 := dkwX6_collect_4 ++ dktX6_collect_5
def dkwX6_collect_3 : List UInt8 := [42, 180, 1, 42, 42, 29, 3, 182, 1, 48, 79, 42, 89, 180, 1, 42, 4, 96, 181, 1, 42, 167, 0, 98]
abbrev dktX6_collect_3 : List UInt8 := dkwX6_collect_3 ++ dktX6_collect_4
def dkwX6_collect_2 : List UInt8 := [158, 0, 48, 42, 42, 180, 0, 80, 42, 180, 1, 42, 4, 96, 184, 0, 134, 181, 0, 80, 42, 180, 0, 80]
abbrev dktX6_collect_2 : List UInt8 := dkwX6_collect_2 ++ dktX6_collect_3
def dkwX6_collect_1 : List UInt8 := [4, 61, 28, 158, 0, 165, 132, 2, 255, 42, 180, 0, 77, 28, 46, 62, 42, 180, 0, 65, 29, 46]
abbrev dktX6_collect_1 : List UInt8 := dkwX6_collect_1 ++ dktX6_collect_2
def dkwX6_collect_0 : List UInt8 := [42, 3, 181, 1, 42, 42, 89, 180, 1, 45, 4, 96, 181, 1, 45, 3, 61, 42, 180, 0, 77, 3, 27, 79]
abbrev dktX6_collect_0 : List UInt8 := dkwX6_collect_0 ++ dktX6_collect_1
theorem dksX6_collect_0 : cX6_collect.data.toList.drop 0 = dktX6_collect_0 := by decide +kernel
theorem dksX6_collect_1 : cX6_collect.data.toList.drop 24 = dktX6_collect_1 := dk_seg dksX6_collect_0 24 rfl rfl
theorem dksX6_collect_2 : cX6_collect.data.toList.drop 46 = dktX6_collect_2 := dk_seg dksX6_collect_1 22 rfl rfl
theorem dksX6_collect_3 : cX6_collect.data.toList.drop 70 = dktX6_collect_3 := dk_seg dksX6_collect_2 24 rfl rfl
theorem dksX6_collect_4 : cX6_collect.data.toList.drop 94 = dktX6_collect_4 := dk_seg dksX6_collect_3 24 rfl rfl
theorem dksX6_collect_5 : cX6_collect.data.toList.drop 116 = dktX6_collect_5 := dk_seg dksX6_collect_4 22 rfl rfl
theorem dksX6_collect_6 : cX6_collect.data.toList.drop 140 = dktX6_collect_6 := dk_seg dksX6_collect_5 24 rfl rfl
theorem dksX6_collect_7 : cX6_collect.data.toList.drop 163 = dktX6_collect_7 := dk_seg dksX6_collect_6 23 rfl rfl
theorem dksX6_collect_8 : cX6_collect.data.toList.drop 186 = dktX6_collect_8 := dk_seg dksX6_collect_7 23 rfl rfl
theorem dX6_collect_0 : decode cX6_collect 0 = .ok (.aload_n 0, 1) := dk_42 (dk_at dksX6_collect_0 0 rfl rfl)
theorem dX6_collect_1 : decode cX6_collect 1 = .ok (.iconst 0, 1) := dk_3 (dk_at dksX6_collect_0 1 rfl rfl)
theorem dX6_collect_2 : decode cX6_collect 2 = .ok (.putfield 298, 3) := dk_181 1 42 (dk_at dksX6_collect_0 2 rfl rfl)
theorem dX6_collect_5 : decode cX6_collect 5 = .ok (.aload_n 0, 1) := dk_42 (dk_at dksX6_collect_0 5 rfl rfl)
theorem dX6_collect_6 : decode cX6_collect 6 = .ok (.dup, 1) := dk_89 (dk_at dksX6_collect_0 6 rfl rfl)
theorem dX6_collect_7 : decode cX6_collect 7 = .ok (.getfield 301, 3) := dk_180 1 45 (dk_at dksX6_collect_0 7 rfl rfl)
theorem dX6_collect_10 : decode cX6_collect 10 = .ok (.iconst 1, 1) := dk_4 (dk_at dksX6_collect_0 10 rfl rfl)
theorem dX6_collect_11 : decode cX6_collect 11 = .ok (.iadd, 1) := dk_96 (dk_at dksX6_collect_0 11 rfl rfl)
theorem dX6_collect_12 : decode cX6_collect 12 = .ok (.putfield 301, 3) := dk_181 1 45 (dk_at dksX6_collect_0 12 rfl rfl)
theorem dX6_collect_15 : decode cX6_collect 15 = .ok (.iconst 0, 1) := dk_3 (dk_at dksX6_collect_0 15 rfl rfl)
theorem dX6_collect_16 : decode cX6_collect 16 = .ok (.istore_n 2, 1) := dk_61 (dk_at dksX6_collect_0 16 rfl rfl)
theorem dX6_collect_17 : decode cX6_collect 17 = .ok (.aload_n 0, 1) := dk_42 (dk_at dksX6_collect_0 17 rfl rfl)
theorem dX6_collect_18 : decode cX6_collect 18 = .ok (.getfield 77, 3) := dk_180 0 77 (dk_at dksX6_collect_0 18 rfl rfl)
theorem dX6_collect_21 : decode cX6_collect 21 = .ok (.iconst 0, 1) := dk_3 (dk_at dksX6_collect_0 21 rfl rfl)
theorem dX6_collect_22 : decode cX6_collect 22 = .ok (.iload_n 1, 1) := dk_27 (dk_at dksX6_collect_0 22 rfl rfl)
theorem dX6_collect_23 : decode cX6_collect 23 = .ok (.iastore, 1) := dk_79 (dk_at dksX6_collect_0 23 rfl rfl)
theorem dX6_collect_24 : decode cX6_collect 24 = .ok (.iconst 1, 1) := dk_4 (dk_at dksX6_collect_1 0 rfl rfl)
theorem dX6_collect_25 : decode cX6_collect 25 = .ok (.istore_n 2, 1) := dk_61 (dk_at dksX6_collect_1 1 rfl rfl)
theorem dX6_collect_26 : decode cX6_collect 26 = .ok (.iload_n 2, 1) := dk_28 (dk_at dksX6_collect_1 2 rfl rfl)
theorem dX6_collect_27 : decode cX6_collect 27 = .ok (.ifCond .le 165, 3) := dk_158 0 165 (dk_at dksX6_collect_1 3 rfl rfl)
theorem dX6_collect_30 : decode cX6_collect 30 = .ok (.iinc 2 (-1), 3) := dk_132 2 255 (dk_at dksX6_collect_1 6 rfl rfl)
theorem dX6_collect_33 : decode cX6_collect 33 = .ok (.aload_n 0, 1) := dk_42 (dk_at dksX6_collect_1 9 rfl rfl)
theorem dX6_collect_34 : decode cX6_collect 34 = .ok (.getfield 77, 3) := dk_180 0 77 (dk_at dksX6_collect_1 10 rfl rfl)
theorem dX6_collect_37 : decode cX6_collect 37 = .ok (.iload_n 2, 1) := dk_28 (dk_at dksX6_collect_1 13 rfl rfl)
theorem dX6_collect_38 : decode cX6_collect 38 = .ok (.iaload, 1) := dk_46 (dk_at dksX6_collect_1 14 rfl rfl)
theorem dX6_collect_39 : decode cX6_collect 39 = .ok (.istore_n 3, 1) := dk_62 (dk_at dksX6_collect_1 15 rfl rfl)
theorem dX6_collect_40 : decode cX6_collect 40 = .ok (.aload_n 0, 1) := dk_42 (dk_at dksX6_collect_1 16 rfl rfl)
theorem dX6_collect_41 : decode cX6_collect 41 = .ok (.getfield 65, 3) := dk_180 0 65 (dk_at dksX6_collect_1 17 rfl rfl)
theorem dX6_collect_44 : decode cX6_collect 44 = .ok (.iload_n 3, 1) := dk_29 (dk_at dksX6_collect_1 20 rfl rfl)
theorem dX6_collect_45 : decode cX6_collect 45 = .ok (.iaload, 1) := dk_46 (dk_at dksX6_collect_1 21 rfl rfl)
theorem dX6_collect_46 : decode cX6_collect 46 = .ok (.ifCond .le 48, 3) := dk_158 0 48 (dk_at dksX6_collect_2 0 rfl rfl)
theorem dX6_collect_49 : decode cX6_collect 49 = .ok (.aload_n 0, 1) := dk_42 (dk_at dksX6_collect_2 3 rfl rfl)
theorem dX6_collect_50 : decode cX6_collect 50 = .ok (.aload_n 0, 1) := dk_42 (dk_at dksX6_collect_2 4 rfl rfl)
theorem dX6_collect_51 : decode cX6_collect 51 = .ok (.getfield 80, 3) := dk_180 0 80 (dk_at dksX6_collect_2 5 rfl rfl)
theorem dX6_collect_54 : decode cX6_collect 54 = .ok (.aload_n 0, 1) := dk_42 (dk_at dksX6_collect_2 8 rfl rfl)
theorem dX6_collect_55 : decode cX6_collect 55 = .ok (.getfield 298, 3) := dk_180 1 42 (dk_at dksX6_collect_2 9 rfl rfl)
theorem dX6_collect_58 : decode cX6_collect 58 = .ok (.iconst 1, 1) := dk_4 (dk_at dksX6_collect_2 12 rfl rfl)
theorem dX6_collect_59 : decode cX6_collect 59 = .ok (.iadd, 1) := dk_96 (dk_at dksX6_collect_2 13 rfl rfl)
theorem dX6_collect_60 : decode cX6_collect 60 = .ok (.invokestatic 134, 3) := dk_184 0 134 (dk_at dksX6_collect_2 14 rfl rfl)
theorem dX6_collect_63 : decode cX6_collect 63 = .ok (.putfield 80, 3) := dk_181 0 80 (dk_at dksX6_collect_2 17 rfl rfl)
theorem dX6_collect_66 : decode cX6_collect 66 = .ok (.aload_n 0, 1) := dk_42 (dk_at dksX6_collect_2 20 rfl rfl)
theorem dX6_collect_67 : decode cX6_collect 67 = .ok (.getfield 80, 3) := dk_180 0 80 (dk_at dksX6_collect_2 21 rfl rfl)
theorem dX6_collect_70 : decode cX6_collect 70 = .ok (.aload_n 0, 1) := dk_42 (dk_at dksX6_collect_3 0 rfl rfl)
theorem dX6_collect_71 : decode cX6_collect 71 = .ok (.getfield 298, 3) := dk_180 1 42 (dk_at dksX6_collect_3 1 rfl rfl)
theorem dX6_collect_74 : decode cX6_collect 74 = .ok (.aload_n 0, 1) := dk_42 (dk_at dksX6_collect_3 4 rfl rfl)
theorem dX6_collect_75 : decode cX6_collect 75 = .ok (.iload_n 3, 1) := dk_29 (dk_at dksX6_collect_3 5 rfl rfl)
theorem dX6_collect_76 : decode cX6_collect 76 = .ok (.iconst 0, 1) := dk_3 (dk_at dksX6_collect_3 6 rfl rfl)
theorem dX6_collect_77 : decode cX6_collect 77 = .ok (.invokevirtual 304, 3) := dk_182 1 48 (dk_at dksX6_collect_3 7 rfl rfl)
theorem dX6_collect_80 : decode cX6_collect 80 = .ok (.iastore, 1) := dk_79 (dk_at dksX6_collect_3 10 rfl rfl)
theorem dX6_collect_81 : decode cX6_collect 81 = .ok (.aload_n 0, 1) := dk_42 (dk_at dksX6_collect_3 11 rfl rfl)
theorem dX6_collect_82 : decode cX6_collect 82 = .ok (.dup, 1) := dk_89 (dk_at dksX6_collect_3 12 rfl rfl)
theorem dX6_collect_83 : decode cX6_collect 83 = .ok (.getfield 298, 3) := dk_180 1 42 (dk_at dksX6_collect_3 13 rfl rfl)
theorem dX6_collect_86 : decode cX6_collect 86 = .ok (.iconst 1, 1) := dk_4 (dk_at dksX6_collect_3 16 rfl rfl)
theorem dX6_collect_87 : decode cX6_collect 87 = .ok (.iadd, 1) := dk_96 (dk_at dksX6_collect_3 17 rfl rfl)
theorem dX6_collect_88 : decode cX6_collect 88 = .ok (.putfield 298, 3) := dk_181 1 42 (dk_at dksX6_collect_3 18 rfl rfl)
theorem dX6_collect_91 : decode cX6_collect 91 = .ok (.goto 98, 3) := dk_167 0 98 (dk_at dksX6_collect_3 21 rfl rfl)
theorem dX6_collect_94 : decode cX6_collect 94 = .ok (.aload_n 0, 1) := dk_42 (dk_at dksX6_collect_4 0 rfl rfl)
theorem dX6_collect_95 : decode cX6_collect 95 = .ok (.iload_n 3, 1) := dk_29 (dk_at dksX6_collect_4 1 rfl rfl)
theorem dX6_collect_96 : decode cX6_collect 96 = .ok (.invokevirtual 256, 3) := dk_182 1 0 (dk_at dksX6_collect_4 2 rfl rfl)
theorem dX6_collect_99 : decode cX6_collect 99 = .ok (.istore 4, 2) := dk_54 4 (dk_at dksX6_collect_4 5 rfl rfl)
theorem dX6_collect_101 : decode cX6_collect 101 = .ok (.aload_n 0, 1) := dk_42 (dk_at dksX6_collect_4 7 rfl rfl)
theorem dX6_collect_102 : decode cX6_collect 102 = .ok (.getfield 68, 3) := dk_180 0 68 (dk_at dksX6_collect_4 8 rfl rfl)
theorem dX6_collect_105 : decode cX6_collect 105 = .ok (.iload 4, 2) := dk_21 4 (dk_at dksX6_collect_4 11 rfl rfl)
theorem dX6_collect_107 : decode cX6_collect 107 = .ok (.iaload, 1) := dk_46 (dk_at dksX6_collect_4 13 rfl rfl)
theorem dX6_collect_108 : decode cX6_collect 108 = .ok (.aload_n 0, 1) := dk_42 (dk_at dksX6_collect_4 14 rfl rfl)
theorem dX6_collect_109 : decode cX6_collect 109 = .ok (.getfield 301, 3) := dk_180 1 45 (dk_at dksX6_collect_4 15 rfl rfl)
theorem dX6_collect_112 : decode cX6_collect 112 = .ok (.if_icmp .eq 77, 3) := dk_159 0 77 (dk_at dksX6_collect_4 18 rfl rfl)
theorem dX6_collect_115 : decode cX6_collect 115 = .ok (.aload_n 0, 1) := dk_42 (dk_at dksX6_collect_4 21 rfl rfl)
theorem dX6_collect_116 : decode cX6_collect 116 = .ok (.getfield 68, 3) := dk_180 0 68 (dk_at dksX6_collect_5 0 rfl rfl)
theorem dX6_collect_119 : decode cX6_collect 119 = .ok (.iload 4, 2) := dk_21 4 (dk_at dksX6_collect_5 3 rfl rfl)
theorem dX6_collect_121 : decode cX6_collect 121 = .ok (.aload_n 0, 1) := dk_42 (dk_at dksX6_collect_5 5 rfl rfl)
theorem dX6_collect_122 : decode cX6_collect 122 = .ok (.getfield 301, 3) := dk_180 1 45 (dk_at dksX6_collect_5 6 rfl rfl)
theorem dX6_collect_125 : decode cX6_collect 125 = .ok (.iastore, 1) := dk_79 (dk_at dksX6_collect_5 9 rfl rfl)
theorem dX6_collect_126 : decode cX6_collect 126 = .ok (.aload_n 0, 1) := dk_42 (dk_at dksX6_collect_5 10 rfl rfl)
theorem dX6_collect_127 : decode cX6_collect 127 = .ok (.getfield 83, 3) := dk_180 0 83 (dk_at dksX6_collect_5 11 rfl rfl)
theorem dX6_collect_130 : decode cX6_collect 130 = .ok (.iload 4, 2) := dk_21 4 (dk_at dksX6_collect_5 14 rfl rfl)
theorem dX6_collect_132 : decode cX6_collect 132 = .ok (.invokevirtual 196, 3) := dk_182 0 196 (dk_at dksX6_collect_5 16 rfl rfl)
theorem dX6_collect_135 : decode cX6_collect 135 = .ok (.istore 5, 2) := dk_54 5 (dk_at dksX6_collect_5 19 rfl rfl)
theorem dX6_collect_137 : decode cX6_collect 137 = .ok (.iload 5, 2) := dk_21 5 (dk_at dksX6_collect_5 21 rfl rfl)
theorem dX6_collect_139 : decode cX6_collect 139 = .ok (.iconst (-1), 1) := dk_2 (dk_at dksX6_collect_5 23 rfl rfl)
theorem dX6_collect_140 : decode cX6_collect 140 = .ok (.if_icmp .eq 49, 3) := dk_159 0 49 (dk_at dksX6_collect_6 0 rfl rfl)
theorem dX6_collect_143 : decode cX6_collect 143 = .ok (.aload_n 0, 1) := dk_42 (dk_at dksX6_collect_6 3 rfl rfl)
theorem dX6_collect_144 : decode cX6_collect 144 = .ok (.aload_n 0, 1) := dk_42 (dk_at dksX6_collect_6 4 rfl rfl)
theorem dX6_collect_145 : decode cX6_collect 145 = .ok (.getfield 77, 3) := dk_180 0 77 (dk_at dksX6_collect_6 5 rfl rfl)
theorem dX6_collect_148 : decode cX6_collect 148 = .ok (.iload_n 2, 1) := dk_28 (dk_at dksX6_collect_6 8 rfl rfl)
theorem dX6_collect_149 : decode cX6_collect 149 = .ok (.iconst 1, 1) := dk_4 (dk_at dksX6_collect_6 9 rfl rfl)
theorem dX6_collect_150 : decode cX6_collect 150 = .ok (.iadd, 1) := dk_96 (dk_at dksX6_collect_6 10 rfl rfl)
theorem dX6_collect_151 : decode cX6_collect 151 = .ok (.invokestatic 134, 3) := dk_184 0 134 (dk_at dksX6_collect_6 11 rfl rfl)
theorem dX6_collect_154 : decode cX6_collect 154 = .ok (.putfield 77, 3) := dk_181 0 77 (dk_at dksX6_collect_6 14 rfl rfl)
theorem dX6_collect_157 : decode cX6_collect 157 = .ok (.aload_n 0, 1) := dk_42 (dk_at dksX6_collect_6 17 rfl rfl)
theorem dX6_collect_158 : decode cX6_collect 158 = .ok (.getfield 77, 3) := dk_180 0 77 (dk_at dksX6_collect_6 18 rfl rfl)
theorem dX6_collect_161 : decode cX6_collect 161 = .ok (.iload_n 2, 1) := dk_28 (dk_at dksX6_collect_6 21 rfl rfl)
theorem dX6_collect_162 : decode cX6_collect 162 = .ok (.aload_n 0, 1) := dk_42 (dk_at dksX6_collect_6 22 rfl rfl)
theorem dX6_collect_163 : decode cX6_collect 163 = .ok (.getfield 83, 3) := dk_180 0 83 (dk_at dksX6_collect_7 0 rfl rfl)
theorem dX6_collect_166 : decode cX6_collect 166 = .ok (.iload 5, 2) := dk_21 5 (dk_at dksX6_collect_7 3 rfl rfl)
theorem dX6_collect_168 : decode cX6_collect 168 = .ok (.invokevirtual 196, 3) := dk_182 0 196 (dk_at dksX6_collect_7 5 rfl rfl)
theorem dX6_collect_171 : decode cX6_collect 171 = .ok (.iastore, 1) := dk_79 (dk_at dksX6_collect_7 8 rfl rfl)
theorem dX6_collect_172 : decode cX6_collect 172 = .ok (.iinc 2 1, 3) := dk_132 2 1 (dk_at dksX6_collect_7 9 rfl rfl)
theorem dX6_collect_175 : decode cX6_collect 175 = .ok (.aload_n 0, 1) := dk_42 (dk_at dksX6_collect_7 12 rfl rfl)
theorem dX6_collect_176 : decode cX6_collect 176 = .ok (.getfield 83, 3) := dk_180 0 83 (dk_at dksX6_collect_7 13 rfl rfl)
theorem dX6_collect_179 : decode cX6_collect 179 = .ok (.iload 5, 2) := dk_21 5 (dk_at dksX6_collect_7 16 rfl rfl)
theorem dX6_collect_181 : decode cX6_collect 181 = .ok (.invokevirtual 189, 3) := dk_182 0 189 (dk_at dksX6_collect_7 18 rfl rfl)
theorem dX6_collect_184 : decode cX6_collect 184 = .ok (.istore 5, 2) := dk_54 5 (dk_at dksX6_collect_7 21 rfl rfl)
theorem dX6_collect_186 : decode cX6_collect 186 = .ok (.goto (-49), 3) := dk_167 255 207 (dk_at dksX6_collect_8 0 rfl rfl)
theorem dX6_collect_189 : decode cX6_collect 189 = .ok (.goto (-163), 3) := dk_167 255 93 (dk_at dksX6_collect_8 3 rfl rfl)
theorem dX6_collect_192 : decode cX6_collect 192 = .ok (.return_, 1) := dk_177 (dk_at dksX6_collect_8 6 rfl rfl)
abbrev cX6_tag : ByteArray := prog_9_method_30_code
def yX6_tag : MethodName := ⟨RX6, "tag", "(II)I"⟩
def dkwX6_tag_0 : List UInt8 := [42, 180, 0, 74, 42, 180, 0, 62, 27, 46, 28, 96, 46, 172]
abbrev dktX6_tag_0 : List UInt8 := dkwX6_tag_0 ++ []
theorem dksX6_tag_0 : cX6_tag.data.toList.drop 0 = dktX6_tag_0 := by decide +kernel
theorem dX6_tag_0 : decode cX6_tag 0 = .ok (.aload_n 0, 1) := dk_42 (dk_at dksX6_tag_0 0 rfl rfl)
theorem dX6_tag_1 : decode cX6_tag 1 = .ok (.getfield 74, 3) := dk_180 0 74 (dk_at dksX6_tag_0 1 rfl rfl)
theorem dX6_tag_4 : decode cX6_tag 4 = .ok (.aload_n 0, 1) := dk_42 (dk_at dksX6_tag_0 4 rfl rfl)
theorem dX6_tag_5 : decode cX6_tag 5 = .ok (.getfield 62, 3) := dk_180 0 62 (dk_at dksX6_tag_0 5 rfl rfl)
theorem dX6_tag_8 : decode cX6_tag 8 = .ok (.iload_n 1, 1) := dk_27 (dk_at dksX6_tag_0 8 rfl rfl)
theorem dX6_tag_9 : decode cX6_tag 9 = .ok (.iaload, 1) := dk_46 (dk_at dksX6_tag_0 9 rfl rfl)
theorem dX6_tag_10 : decode cX6_tag 10 = .ok (.iload_n 2, 1) := dk_28 (dk_at dksX6_tag_0 10 rfl rfl)
theorem dX6_tag_11 : decode cX6_tag 11 = .ok (.iadd, 1) := dk_96 (dk_at dksX6_tag_0 11 rfl rfl)
theorem dX6_tag_12 : decode cX6_tag 12 = .ok (.iaload, 1) := dk_46 (dk_at dksX6_tag_0 12 rfl rfl)
theorem dX6_tag_13 : decode cX6_tag 13 = .ok (.ireturn, 1) := dk_172 (dk_at dksX6_tag_0 13 rfl rfl)
abbrev cX6_straight : ByteArray := prog_9_method_35_code
def yX6_straight : MethodName := ⟨RX6, "straight", "()Z"⟩
def dkwX6_straight_7 : List UInt8 := [172]
abbrev dktX6_straight_7 : List UInt8 := dkwX6_straight_7 ++ []
def dkwX6_straight_6 : List UInt8 := [42, 180, 0, 83, 27, 182, 0, 189, 60, 167, 255, 142, 42, 180, 0, 96, 154, 0, 7, 4, 167, 0, 4, 3]
abbrev dktX6_straight_6 : List UInt8 := dkwX6_straight_6 ++ dktX6_straight_7
def dkwX6_straight_5 : List UInt8 := [16, 10, 42, 180, 0, 83, 29, 182, 0, 178, 182, 0, 185, 42, 29, 182, 1, 60, 62, 29, 28, 160, 255, 234]
abbrev dktX6_straight_5 : List UInt8 := dkwX6_straight_5 ++ dktX6_straight_6
def dkwX6_straight_4 : List UInt8 := [167, 255, 227, 28, 2, 159, 0, 42, 42, 180, 0, 68, 28, 46, 27, 4, 96, 160, 0, 30, 28, 62, 42]
abbrev dktX6_straight_4 : List UInt8 := dkwX6_straight_4 ++ dktX6_straight_5
def dkwX6_straight_3 : List UInt8 := [180, 0, 68, 28, 46, 154, 0, 21, 42, 180, 0, 68, 28, 27, 4, 96, 79, 42, 28, 182, 1, 60, 61]
abbrev dktX6_straight_3 : List UInt8 := dkwX6_straight_3 ++ dktX6_straight_4
def dkwX6_straight_2 : List UInt8 := [16, 29, 160, 0, 90, 42, 180, 0, 68, 27, 46, 154, 0, 81, 27, 61, 28, 2, 159, 0, 30, 42]
abbrev dktX6_straight_2 : List UInt8 := dkwX6_straight_2 ++ dktX6_straight_3
def dkwX6_straight_1 : List UInt8 := [167, 255, 235, 42, 180, 0, 83, 180, 0, 175, 60, 27, 2, 159, 0, 115, 42, 180, 0, 83, 27, 182, 0, 125]
abbrev dktX6_straight_1 : List UInt8 := dkwX6_straight_1 ++ dktX6_straight_2
def dkwX6_straight_0 : List UInt8 := [3, 60, 27, 42, 180, 0, 83, 182, 0, 130, 162, 0, 16, 42, 180, 0, 68, 27, 3, 79, 132, 1, 1]
abbrev dktX6_straight_0 : List UInt8 := dkwX6_straight_0 ++ dktX6_straight_1
theorem dksX6_straight_0 : cX6_straight.data.toList.drop 0 = dktX6_straight_0 := by decide +kernel
theorem dksX6_straight_1 : cX6_straight.data.toList.drop 23 = dktX6_straight_1 := dk_seg dksX6_straight_0 23 rfl rfl
theorem dksX6_straight_2 : cX6_straight.data.toList.drop 47 = dktX6_straight_2 := dk_seg dksX6_straight_1 24 rfl rfl
theorem dksX6_straight_3 : cX6_straight.data.toList.drop 69 = dktX6_straight_3 := dk_seg dksX6_straight_2 22 rfl rfl
theorem dksX6_straight_4 : cX6_straight.data.toList.drop 92 = dktX6_straight_4 := dk_seg dksX6_straight_3 23 rfl rfl
theorem dksX6_straight_5 : cX6_straight.data.toList.drop 115 = dktX6_straight_5 := dk_seg dksX6_straight_4 23 rfl rfl
theorem dksX6_straight_6 : cX6_straight.data.toList.drop 139 = dktX6_straight_6 := dk_seg dksX6_straight_5 24 rfl rfl
theorem dksX6_straight_7 : cX6_straight.data.toList.drop 163 = dktX6_straight_7 := dk_seg dksX6_straight_6 24 rfl rfl
theorem dX6_straight_0 : decode cX6_straight 0 = .ok (.iconst 0, 1) := dk_3 (dk_at dksX6_straight_0 0 rfl rfl)
theorem dX6_straight_1 : decode cX6_straight 1 = .ok (.istore_n 1, 1) := dk_60 (dk_at dksX6_straight_0 1 rfl rfl)
theorem dX6_straight_2 : decode cX6_straight 2 = .ok (.iload_n 1, 1) := dk_27 (dk_at dksX6_straight_0 2 rfl rfl)
theorem dX6_straight_3 : decode cX6_straight 3 = .ok (.aload_n 0, 1) := dk_42 (dk_at dksX6_straight_0 3 rfl rfl)
theorem dX6_straight_4 : decode cX6_straight 4 = .ok (.getfield 83, 3) := dk_180 0 83 (dk_at dksX6_straight_0 4 rfl rfl)
theorem dX6_straight_7 : decode cX6_straight 7 = .ok (.invokevirtual 130, 3) := dk_182 0 130 (dk_at dksX6_straight_0 7 rfl rfl)
theorem dX6_straight_10 : decode cX6_straight 10 = .ok (.if_icmp .ge 16, 3) := dk_162 0 16 (dk_at dksX6_straight_0 10 rfl rfl)
theorem dX6_straight_13 : decode cX6_straight 13 = .ok (.aload_n 0, 1) := dk_42 (dk_at dksX6_straight_0 13 rfl rfl)
theorem dX6_straight_14 : decode cX6_straight 14 = .ok (.getfield 68, 3) := dk_180 0 68 (dk_at dksX6_straight_0 14 rfl rfl)
theorem dX6_straight_17 : decode cX6_straight 17 = .ok (.iload_n 1, 1) := dk_27 (dk_at dksX6_straight_0 17 rfl rfl)
theorem dX6_straight_18 : decode cX6_straight 18 = .ok (.iconst 0, 1) := dk_3 (dk_at dksX6_straight_0 18 rfl rfl)
theorem dX6_straight_19 : decode cX6_straight 19 = .ok (.iastore, 1) := dk_79 (dk_at dksX6_straight_0 19 rfl rfl)
theorem dX6_straight_20 : decode cX6_straight 20 = .ok (.iinc 1 1, 3) := dk_132 1 1 (dk_at dksX6_straight_0 20 rfl rfl)
theorem dX6_straight_23 : decode cX6_straight 23 = .ok (.goto (-21), 3) := dk_167 255 235 (dk_at dksX6_straight_1 0 rfl rfl)
theorem dX6_straight_26 : decode cX6_straight 26 = .ok (.aload_n 0, 1) := dk_42 (dk_at dksX6_straight_1 3 rfl rfl)
theorem dX6_straight_27 : decode cX6_straight 27 = .ok (.getfield 83, 3) := dk_180 0 83 (dk_at dksX6_straight_1 4 rfl rfl)
theorem dX6_straight_30 : decode cX6_straight 30 = .ok (.getfield 175, 3) := dk_180 0 175 (dk_at dksX6_straight_1 7 rfl rfl)
theorem dX6_straight_33 : decode cX6_straight 33 = .ok (.istore_n 1, 1) := dk_60 (dk_at dksX6_straight_1 10 rfl rfl)
theorem dX6_straight_34 : decode cX6_straight 34 = .ok (.iload_n 1, 1) := dk_27 (dk_at dksX6_straight_1 11 rfl rfl)
theorem dX6_straight_35 : decode cX6_straight 35 = .ok (.iconst (-1), 1) := dk_2 (dk_at dksX6_straight_1 12 rfl rfl)
theorem dX6_straight_36 : decode cX6_straight 36 = .ok (.if_icmp .eq 115, 3) := dk_159 0 115 (dk_at dksX6_straight_1 13 rfl rfl)
theorem dX6_straight_39 : decode cX6_straight 39 = .ok (.aload_n 0, 1) := dk_42 (dk_at dksX6_straight_1 16 rfl rfl)
theorem dX6_straight_40 : decode cX6_straight 40 = .ok (.getfield 83, 3) := dk_180 0 83 (dk_at dksX6_straight_1 17 rfl rfl)
theorem dX6_straight_43 : decode cX6_straight 43 = .ok (.iload_n 1, 1) := dk_27 (dk_at dksX6_straight_1 20 rfl rfl)
theorem dX6_straight_44 : decode cX6_straight 44 = .ok (.invokevirtual 125, 3) := dk_182 0 125 (dk_at dksX6_straight_1 21 rfl rfl)
theorem dX6_straight_47 : decode cX6_straight 47 = .ok (.bipush 29, 2) := dk_16 29 (dk_at dksX6_straight_2 0 rfl rfl)
theorem dX6_straight_49 : decode cX6_straight 49 = .ok (.if_icmp .ne 90, 3) := dk_160 0 90 (dk_at dksX6_straight_2 2 rfl rfl)
theorem dX6_straight_52 : decode cX6_straight 52 = .ok (.aload_n 0, 1) := dk_42 (dk_at dksX6_straight_2 5 rfl rfl)
theorem dX6_straight_53 : decode cX6_straight 53 = .ok (.getfield 68, 3) := dk_180 0 68 (dk_at dksX6_straight_2 6 rfl rfl)
theorem dX6_straight_56 : decode cX6_straight 56 = .ok (.iload_n 1, 1) := dk_27 (dk_at dksX6_straight_2 9 rfl rfl)
theorem dX6_straight_57 : decode cX6_straight 57 = .ok (.iaload, 1) := dk_46 (dk_at dksX6_straight_2 10 rfl rfl)
theorem dX6_straight_58 : decode cX6_straight 58 = .ok (.ifCond .ne 81, 3) := dk_154 0 81 (dk_at dksX6_straight_2 11 rfl rfl)
theorem dX6_straight_61 : decode cX6_straight 61 = .ok (.iload_n 1, 1) := dk_27 (dk_at dksX6_straight_2 14 rfl rfl)
theorem dX6_straight_62 : decode cX6_straight 62 = .ok (.istore_n 2, 1) := dk_61 (dk_at dksX6_straight_2 15 rfl rfl)
theorem dX6_straight_63 : decode cX6_straight 63 = .ok (.iload_n 2, 1) := dk_28 (dk_at dksX6_straight_2 16 rfl rfl)
theorem dX6_straight_64 : decode cX6_straight 64 = .ok (.iconst (-1), 1) := dk_2 (dk_at dksX6_straight_2 17 rfl rfl)
theorem dX6_straight_65 : decode cX6_straight 65 = .ok (.if_icmp .eq 30, 3) := dk_159 0 30 (dk_at dksX6_straight_2 18 rfl rfl)
theorem dX6_straight_68 : decode cX6_straight 68 = .ok (.aload_n 0, 1) := dk_42 (dk_at dksX6_straight_2 21 rfl rfl)
theorem dX6_straight_69 : decode cX6_straight 69 = .ok (.getfield 68, 3) := dk_180 0 68 (dk_at dksX6_straight_3 0 rfl rfl)
theorem dX6_straight_72 : decode cX6_straight 72 = .ok (.iload_n 2, 1) := dk_28 (dk_at dksX6_straight_3 3 rfl rfl)
theorem dX6_straight_73 : decode cX6_straight 73 = .ok (.iaload, 1) := dk_46 (dk_at dksX6_straight_3 4 rfl rfl)
theorem dX6_straight_74 : decode cX6_straight 74 = .ok (.ifCond .ne 21, 3) := dk_154 0 21 (dk_at dksX6_straight_3 5 rfl rfl)
theorem dX6_straight_77 : decode cX6_straight 77 = .ok (.aload_n 0, 1) := dk_42 (dk_at dksX6_straight_3 8 rfl rfl)
theorem dX6_straight_78 : decode cX6_straight 78 = .ok (.getfield 68, 3) := dk_180 0 68 (dk_at dksX6_straight_3 9 rfl rfl)
theorem dX6_straight_81 : decode cX6_straight 81 = .ok (.iload_n 2, 1) := dk_28 (dk_at dksX6_straight_3 12 rfl rfl)
theorem dX6_straight_82 : decode cX6_straight 82 = .ok (.iload_n 1, 1) := dk_27 (dk_at dksX6_straight_3 13 rfl rfl)
theorem dX6_straight_83 : decode cX6_straight 83 = .ok (.iconst 1, 1) := dk_4 (dk_at dksX6_straight_3 14 rfl rfl)
theorem dX6_straight_84 : decode cX6_straight 84 = .ok (.iadd, 1) := dk_96 (dk_at dksX6_straight_3 15 rfl rfl)
theorem dX6_straight_85 : decode cX6_straight 85 = .ok (.iastore, 1) := dk_79 (dk_at dksX6_straight_3 16 rfl rfl)
theorem dX6_straight_86 : decode cX6_straight 86 = .ok (.aload_n 0, 1) := dk_42 (dk_at dksX6_straight_3 17 rfl rfl)
theorem dX6_straight_87 : decode cX6_straight 87 = .ok (.iload_n 2, 1) := dk_28 (dk_at dksX6_straight_3 18 rfl rfl)
theorem dX6_straight_88 : decode cX6_straight 88 = .ok (.invokevirtual 316, 3) := dk_182 1 60 (dk_at dksX6_straight_3 19 rfl rfl)
theorem dX6_straight_91 : decode cX6_straight 91 = .ok (.istore_n 2, 1) := dk_61 (dk_at dksX6_straight_3 22 rfl rfl)
theorem dX6_straight_92 : decode cX6_straight 92 = .ok (.goto (-29), 3) := dk_167 255 227 (dk_at dksX6_straight_4 0 rfl rfl)
theorem dX6_straight_95 : decode cX6_straight 95 = .ok (.iload_n 2, 1) := dk_28 (dk_at dksX6_straight_4 3 rfl rfl)
theorem dX6_straight_96 : decode cX6_straight 96 = .ok (.iconst (-1), 1) := dk_2 (dk_at dksX6_straight_4 4 rfl rfl)
theorem dX6_straight_97 : decode cX6_straight 97 = .ok (.if_icmp .eq 42, 3) := dk_159 0 42 (dk_at dksX6_straight_4 5 rfl rfl)
theorem dX6_straight_100 : decode cX6_straight 100 = .ok (.aload_n 0, 1) := dk_42 (dk_at dksX6_straight_4 8 rfl rfl)
theorem dX6_straight_101 : decode cX6_straight 101 = .ok (.getfield 68, 3) := dk_180 0 68 (dk_at dksX6_straight_4 9 rfl rfl)
theorem dX6_straight_104 : decode cX6_straight 104 = .ok (.iload_n 2, 1) := dk_28 (dk_at dksX6_straight_4 12 rfl rfl)
theorem dX6_straight_105 : decode cX6_straight 105 = .ok (.iaload, 1) := dk_46 (dk_at dksX6_straight_4 13 rfl rfl)
theorem dX6_straight_106 : decode cX6_straight 106 = .ok (.iload_n 1, 1) := dk_27 (dk_at dksX6_straight_4 14 rfl rfl)
theorem dX6_straight_107 : decode cX6_straight 107 = .ok (.iconst 1, 1) := dk_4 (dk_at dksX6_straight_4 15 rfl rfl)
theorem dX6_straight_108 : decode cX6_straight 108 = .ok (.iadd, 1) := dk_96 (dk_at dksX6_straight_4 16 rfl rfl)
theorem dX6_straight_109 : decode cX6_straight 109 = .ok (.if_icmp .ne 30, 3) := dk_160 0 30 (dk_at dksX6_straight_4 17 rfl rfl)
theorem dX6_straight_112 : decode cX6_straight 112 = .ok (.iload_n 2, 1) := dk_28 (dk_at dksX6_straight_4 20 rfl rfl)
theorem dX6_straight_113 : decode cX6_straight 113 = .ok (.istore_n 3, 1) := dk_62 (dk_at dksX6_straight_4 21 rfl rfl)
theorem dX6_straight_114 : decode cX6_straight 114 = .ok (.aload_n 0, 1) := dk_42 (dk_at dksX6_straight_4 22 rfl rfl)
theorem dX6_straight_115 : decode cX6_straight 115 = .ok (.bipush 10, 2) := dk_16 10 (dk_at dksX6_straight_5 0 rfl rfl)
theorem dX6_straight_117 : decode cX6_straight 117 = .ok (.aload_n 0, 1) := dk_42 (dk_at dksX6_straight_5 2 rfl rfl)
theorem dX6_straight_118 : decode cX6_straight 118 = .ok (.getfield 83, 3) := dk_180 0 83 (dk_at dksX6_straight_5 3 rfl rfl)
theorem dX6_straight_121 : decode cX6_straight 121 = .ok (.iload_n 3, 1) := dk_29 (dk_at dksX6_straight_5 6 rfl rfl)
theorem dX6_straight_122 : decode cX6_straight 122 = .ok (.invokevirtual 178, 3) := dk_182 0 178 (dk_at dksX6_straight_5 7 rfl rfl)
theorem dX6_straight_125 : decode cX6_straight 125 = .ok (.invokevirtual 185, 3) := dk_182 0 185 (dk_at dksX6_straight_5 10 rfl rfl)
theorem dX6_straight_128 : decode cX6_straight 128 = .ok (.aload_n 0, 1) := dk_42 (dk_at dksX6_straight_5 13 rfl rfl)
theorem dX6_straight_129 : decode cX6_straight 129 = .ok (.iload_n 3, 1) := dk_29 (dk_at dksX6_straight_5 14 rfl rfl)
theorem dX6_straight_130 : decode cX6_straight 130 = .ok (.invokevirtual 316, 3) := dk_182 1 60 (dk_at dksX6_straight_5 15 rfl rfl)
theorem dX6_straight_133 : decode cX6_straight 133 = .ok (.istore_n 3, 1) := dk_62 (dk_at dksX6_straight_5 18 rfl rfl)
theorem dX6_straight_134 : decode cX6_straight 134 = .ok (.iload_n 3, 1) := dk_29 (dk_at dksX6_straight_5 19 rfl rfl)
theorem dX6_straight_135 : decode cX6_straight 135 = .ok (.iload_n 2, 1) := dk_28 (dk_at dksX6_straight_5 20 rfl rfl)
theorem dX6_straight_136 : decode cX6_straight 136 = .ok (.if_icmp .ne (-22), 3) := dk_160 255 234 (dk_at dksX6_straight_5 21 rfl rfl)
theorem dX6_straight_139 : decode cX6_straight 139 = .ok (.aload_n 0, 1) := dk_42 (dk_at dksX6_straight_6 0 rfl rfl)
theorem dX6_straight_140 : decode cX6_straight 140 = .ok (.getfield 83, 3) := dk_180 0 83 (dk_at dksX6_straight_6 1 rfl rfl)
theorem dX6_straight_143 : decode cX6_straight 143 = .ok (.iload_n 1, 1) := dk_27 (dk_at dksX6_straight_6 4 rfl rfl)
theorem dX6_straight_144 : decode cX6_straight 144 = .ok (.invokevirtual 189, 3) := dk_182 0 189 (dk_at dksX6_straight_6 5 rfl rfl)
theorem dX6_straight_147 : decode cX6_straight 147 = .ok (.istore_n 1, 1) := dk_60 (dk_at dksX6_straight_6 8 rfl rfl)
theorem dX6_straight_148 : decode cX6_straight 148 = .ok (.goto (-114), 3) := dk_167 255 142 (dk_at dksX6_straight_6 9 rfl rfl)
theorem dX6_straight_151 : decode cX6_straight 151 = .ok (.aload_n 0, 1) := dk_42 (dk_at dksX6_straight_6 12 rfl rfl)
theorem dX6_straight_152 : decode cX6_straight 152 = .ok (.getfield 96, 3) := dk_180 0 96 (dk_at dksX6_straight_6 13 rfl rfl)
theorem dX6_straight_155 : decode cX6_straight 155 = .ok (.ifCond .ne 7, 3) := dk_154 0 7 (dk_at dksX6_straight_6 16 rfl rfl)
theorem dX6_straight_158 : decode cX6_straight 158 = .ok (.iconst 1, 1) := dk_4 (dk_at dksX6_straight_6 19 rfl rfl)
theorem dX6_straight_159 : decode cX6_straight 159 = .ok (.goto 4, 3) := dk_167 0 4 (dk_at dksX6_straight_6 20 rfl rfl)
theorem dX6_straight_162 : decode cX6_straight 162 = .ok (.iconst 0, 1) := dk_3 (dk_at dksX6_straight_6 23 rfl rfl)
theorem dX6_straight_163 : decode cX6_straight 163 = .ok (.ireturn, 1) := dk_172 (dk_at dksX6_straight_7 0 rfl rfl)
abbrev cX6_follow : ByteArray := prog_9_method_34_code
def yX6_follow : MethodName := ⟨RX6, "follow", "(I)I"⟩
def dkwX6_follow_2 : List UInt8 := [172, 42, 180, 0, 32, 42, 180, 0, 83, 28, 182, 0, 178, 182, 0, 245, 172]
abbrev dktX6_follow_2 : List UInt8 := dkwX6_follow_2 ++ []
def dkwX6_follow_1 : List UInt8 := [180, 0, 83, 27, 182, 0, 196, 42, 180, 0, 83, 28, 182, 0, 178, 4, 182, 1, 6, 2, 159, 0, 5, 2]
abbrev dktX6_follow_1 : List UInt8 := dkwX6_follow_1 ++ dktX6_follow_2
def dkwX6_follow_0 : List UInt8 := [42, 180, 0, 83, 27, 182, 1, 10, 61, 42, 180, 0, 83, 28, 8, 182, 0, 223, 7, 160, 0, 28, 42, 42]
abbrev dktX6_follow_0 : List UInt8 := dkwX6_follow_0 ++ dktX6_follow_1
theorem dksX6_follow_0 : cX6_follow.data.toList.drop 0 = dktX6_follow_0 := by decide +kernel
theorem dksX6_follow_1 : cX6_follow.data.toList.drop 24 = dktX6_follow_1 := dk_seg dksX6_follow_0 24 rfl rfl
theorem dksX6_follow_2 : cX6_follow.data.toList.drop 48 = dktX6_follow_2 := dk_seg dksX6_follow_1 24 rfl rfl
theorem dX6_follow_0 : decode cX6_follow 0 = .ok (.aload_n 0, 1) := dk_42 (dk_at dksX6_follow_0 0 rfl rfl)
theorem dX6_follow_1 : decode cX6_follow 1 = .ok (.getfield 83, 3) := dk_180 0 83 (dk_at dksX6_follow_0 1 rfl rfl)
theorem dX6_follow_4 : decode cX6_follow 4 = .ok (.iload_n 1, 1) := dk_27 (dk_at dksX6_follow_0 4 rfl rfl)
theorem dX6_follow_5 : decode cX6_follow 5 = .ok (.invokevirtual 266, 3) := dk_182 1 10 (dk_at dksX6_follow_0 5 rfl rfl)
theorem dX6_follow_8 : decode cX6_follow 8 = .ok (.istore_n 2, 1) := dk_61 (dk_at dksX6_follow_0 8 rfl rfl)
theorem dX6_follow_9 : decode cX6_follow 9 = .ok (.aload_n 0, 1) := dk_42 (dk_at dksX6_follow_0 9 rfl rfl)
theorem dX6_follow_10 : decode cX6_follow 10 = .ok (.getfield 83, 3) := dk_180 0 83 (dk_at dksX6_follow_0 10 rfl rfl)
theorem dX6_follow_13 : decode cX6_follow 13 = .ok (.iload_n 2, 1) := dk_28 (dk_at dksX6_follow_0 13 rfl rfl)
theorem dX6_follow_14 : decode cX6_follow 14 = .ok (.iconst 5, 1) := dk_8 (dk_at dksX6_follow_0 14 rfl rfl)
theorem dX6_follow_15 : decode cX6_follow 15 = .ok (.invokevirtual 223, 3) := dk_182 0 223 (dk_at dksX6_follow_0 15 rfl rfl)
theorem dX6_follow_18 : decode cX6_follow 18 = .ok (.iconst 4, 1) := dk_7 (dk_at dksX6_follow_0 18 rfl rfl)
theorem dX6_follow_19 : decode cX6_follow 19 = .ok (.if_icmp .ne 28, 3) := dk_160 0 28 (dk_at dksX6_follow_0 19 rfl rfl)
theorem dX6_follow_22 : decode cX6_follow 22 = .ok (.aload_n 0, 1) := dk_42 (dk_at dksX6_follow_0 22 rfl rfl)
theorem dX6_follow_23 : decode cX6_follow 23 = .ok (.aload_n 0, 1) := dk_42 (dk_at dksX6_follow_0 23 rfl rfl)
theorem dX6_follow_24 : decode cX6_follow 24 = .ok (.getfield 83, 3) := dk_180 0 83 (dk_at dksX6_follow_1 0 rfl rfl)
theorem dX6_follow_27 : decode cX6_follow 27 = .ok (.iload_n 1, 1) := dk_27 (dk_at dksX6_follow_1 3 rfl rfl)
theorem dX6_follow_28 : decode cX6_follow 28 = .ok (.invokevirtual 196, 3) := dk_182 0 196 (dk_at dksX6_follow_1 4 rfl rfl)
theorem dX6_follow_31 : decode cX6_follow 31 = .ok (.aload_n 0, 1) := dk_42 (dk_at dksX6_follow_1 7 rfl rfl)
theorem dX6_follow_32 : decode cX6_follow 32 = .ok (.getfield 83, 3) := dk_180 0 83 (dk_at dksX6_follow_1 8 rfl rfl)
theorem dX6_follow_35 : decode cX6_follow 35 = .ok (.iload_n 2, 1) := dk_28 (dk_at dksX6_follow_1 11 rfl rfl)
theorem dX6_follow_36 : decode cX6_follow 36 = .ok (.invokevirtual 178, 3) := dk_182 0 178 (dk_at dksX6_follow_1 12 rfl rfl)
theorem dX6_follow_39 : decode cX6_follow 39 = .ok (.iconst 1, 1) := dk_4 (dk_at dksX6_follow_1 15 rfl rfl)
theorem dX6_follow_40 : decode cX6_follow 40 = .ok (.invokevirtual 262, 3) := dk_182 1 6 (dk_at dksX6_follow_1 16 rfl rfl)
theorem dX6_follow_43 : decode cX6_follow 43 = .ok (.iconst (-1), 1) := dk_2 (dk_at dksX6_follow_1 19 rfl rfl)
theorem dX6_follow_44 : decode cX6_follow 44 = .ok (.if_icmp .eq 5, 3) := dk_159 0 5 (dk_at dksX6_follow_1 20 rfl rfl)
theorem dX6_follow_47 : decode cX6_follow 47 = .ok (.iconst (-1), 1) := dk_2 (dk_at dksX6_follow_1 23 rfl rfl)
theorem dX6_follow_48 : decode cX6_follow 48 = .ok (.ireturn, 1) := dk_172 (dk_at dksX6_follow_2 0 rfl rfl)
theorem dX6_follow_49 : decode cX6_follow 49 = .ok (.aload_n 0, 1) := dk_42 (dk_at dksX6_follow_2 1 rfl rfl)
theorem dX6_follow_50 : decode cX6_follow 50 = .ok (.getfield 32, 3) := dk_180 0 32 (dk_at dksX6_follow_2 2 rfl rfl)
theorem dX6_follow_53 : decode cX6_follow 53 = .ok (.aload_n 0, 1) := dk_42 (dk_at dksX6_follow_2 5 rfl rfl)
theorem dX6_follow_54 : decode cX6_follow 54 = .ok (.getfield 83, 3) := dk_180 0 83 (dk_at dksX6_follow_2 6 rfl rfl)
theorem dX6_follow_57 : decode cX6_follow 57 = .ok (.iload_n 2, 1) := dk_28 (dk_at dksX6_follow_2 9 rfl rfl)
theorem dX6_follow_58 : decode cX6_follow 58 = .ok (.invokevirtual 178, 3) := dk_182 0 178 (dk_at dksX6_follow_2 10 rfl rfl)
theorem dX6_follow_61 : decode cX6_follow 61 = .ok (.invokevirtual 245, 3) := dk_182 0 245 (dk_at dksX6_follow_2 13 rfl rfl)
theorem dX6_follow_64 : decode cX6_follow 64 = .ok (.ireturn, 1) := dk_172 (dk_at dksX6_follow_2 16 rfl rfl)
abbrev cX6_bounded : ByteArray := prog_9_method_42_code
def yX6_bounded : MethodName := ⟨RX6, "bounded", "()Z"⟩
def dkwX6_bounded_4 : List UInt8 := [167, 0, 4, 3, 172]
abbrev dktX6_bounded_4 : List UInt8 := dkwX6_bounded_4 ++ []
def dkwX6_bounded_3 : List UInt8 := [28, 182, 0, 189, 61, 167, 255, 236, 132, 1, 1, 167, 255, 202, 42, 180, 0, 96, 154, 0, 7, 4]
abbrev dktX6_bounded_3 : List UInt8 := dkwX6_bounded_3 ++ dktX6_bounded_4
def dkwX6_bounded_2 : List UInt8 := [42, 180, 0, 83, 27, 182, 1, 10, 61, 28, 2, 159, 0, 21, 42, 27, 28, 182, 1, 83, 42, 180, 0, 83]
abbrev dktX6_bounded_2 : List UInt8 := dkwX6_bounded_2 ++ dktX6_bounded_3
def dkwX6_bounded_1 : List UInt8 := [167, 255, 235, 3, 60, 27, 42, 180, 0, 83, 182, 0, 130, 162, 0, 49, 42, 27, 182, 0, 192, 153, 0, 35]
abbrev dktX6_bounded_1 : List UInt8 := dkwX6_bounded_1 ++ dktX6_bounded_2
def dkwX6_bounded_0 : List UInt8 := [3, 60, 27, 42, 180, 0, 83, 182, 0, 130, 162, 0, 16, 42, 180, 0, 68, 27, 3, 79, 132, 1, 1]
abbrev dktX6_bounded_0 : List UInt8 := dkwX6_bounded_0 ++ dktX6_bounded_1
theorem dksX6_bounded_0 : cX6_bounded.data.toList.drop 0 = dktX6_bounded_0 := by decide +kernel
theorem dksX6_bounded_1 : cX6_bounded.data.toList.drop 23 = dktX6_bounded_1 := dk_seg dksX6_bounded_0 23 rfl rfl
theorem dksX6_bounded_2 : cX6_bounded.data.toList.drop 47 = dktX6_bounded_2 := dk_seg dksX6_bounded_1 24 rfl rfl
theorem dksX6_bounded_3 : cX6_bounded.data.toList.drop 71 = dktX6_bounded_3 := dk_seg dksX6_bounded_2 24 rfl rfl
theorem dksX6_bounded_4 : cX6_bounded.data.toList.drop 93 = dktX6_bounded_4 := dk_seg dksX6_bounded_3 22 rfl rfl
theorem dX6_bounded_0 : decode cX6_bounded 0 = .ok (.iconst 0, 1) := dk_3 (dk_at dksX6_bounded_0 0 rfl rfl)
theorem dX6_bounded_1 : decode cX6_bounded 1 = .ok (.istore_n 1, 1) := dk_60 (dk_at dksX6_bounded_0 1 rfl rfl)
theorem dX6_bounded_2 : decode cX6_bounded 2 = .ok (.iload_n 1, 1) := dk_27 (dk_at dksX6_bounded_0 2 rfl rfl)
theorem dX6_bounded_3 : decode cX6_bounded 3 = .ok (.aload_n 0, 1) := dk_42 (dk_at dksX6_bounded_0 3 rfl rfl)
theorem dX6_bounded_4 : decode cX6_bounded 4 = .ok (.getfield 83, 3) := dk_180 0 83 (dk_at dksX6_bounded_0 4 rfl rfl)
theorem dX6_bounded_7 : decode cX6_bounded 7 = .ok (.invokevirtual 130, 3) := dk_182 0 130 (dk_at dksX6_bounded_0 7 rfl rfl)
theorem dX6_bounded_10 : decode cX6_bounded 10 = .ok (.if_icmp .ge 16, 3) := dk_162 0 16 (dk_at dksX6_bounded_0 10 rfl rfl)
theorem dX6_bounded_13 : decode cX6_bounded 13 = .ok (.aload_n 0, 1) := dk_42 (dk_at dksX6_bounded_0 13 rfl rfl)
theorem dX6_bounded_14 : decode cX6_bounded 14 = .ok (.getfield 68, 3) := dk_180 0 68 (dk_at dksX6_bounded_0 14 rfl rfl)
theorem dX6_bounded_17 : decode cX6_bounded 17 = .ok (.iload_n 1, 1) := dk_27 (dk_at dksX6_bounded_0 17 rfl rfl)
theorem dX6_bounded_18 : decode cX6_bounded 18 = .ok (.iconst 0, 1) := dk_3 (dk_at dksX6_bounded_0 18 rfl rfl)
theorem dX6_bounded_19 : decode cX6_bounded 19 = .ok (.iastore, 1) := dk_79 (dk_at dksX6_bounded_0 19 rfl rfl)
theorem dX6_bounded_20 : decode cX6_bounded 20 = .ok (.iinc 1 1, 3) := dk_132 1 1 (dk_at dksX6_bounded_0 20 rfl rfl)
theorem dX6_bounded_23 : decode cX6_bounded 23 = .ok (.goto (-21), 3) := dk_167 255 235 (dk_at dksX6_bounded_1 0 rfl rfl)
theorem dX6_bounded_26 : decode cX6_bounded 26 = .ok (.iconst 0, 1) := dk_3 (dk_at dksX6_bounded_1 3 rfl rfl)
theorem dX6_bounded_27 : decode cX6_bounded 27 = .ok (.istore_n 1, 1) := dk_60 (dk_at dksX6_bounded_1 4 rfl rfl)
theorem dX6_bounded_28 : decode cX6_bounded 28 = .ok (.iload_n 1, 1) := dk_27 (dk_at dksX6_bounded_1 5 rfl rfl)
theorem dX6_bounded_29 : decode cX6_bounded 29 = .ok (.aload_n 0, 1) := dk_42 (dk_at dksX6_bounded_1 6 rfl rfl)
theorem dX6_bounded_30 : decode cX6_bounded 30 = .ok (.getfield 83, 3) := dk_180 0 83 (dk_at dksX6_bounded_1 7 rfl rfl)
theorem dX6_bounded_33 : decode cX6_bounded 33 = .ok (.invokevirtual 130, 3) := dk_182 0 130 (dk_at dksX6_bounded_1 10 rfl rfl)
theorem dX6_bounded_36 : decode cX6_bounded 36 = .ok (.if_icmp .ge 49, 3) := dk_162 0 49 (dk_at dksX6_bounded_1 13 rfl rfl)
theorem dX6_bounded_39 : decode cX6_bounded 39 = .ok (.aload_n 0, 1) := dk_42 (dk_at dksX6_bounded_1 16 rfl rfl)
theorem dX6_bounded_40 : decode cX6_bounded 40 = .ok (.iload_n 1, 1) := dk_27 (dk_at dksX6_bounded_1 17 rfl rfl)
theorem dX6_bounded_41 : decode cX6_bounded 41 = .ok (.invokevirtual 192, 3) := dk_182 0 192 (dk_at dksX6_bounded_1 18 rfl rfl)
theorem dX6_bounded_44 : decode cX6_bounded 44 = .ok (.ifCond .eq 35, 3) := dk_153 0 35 (dk_at dksX6_bounded_1 21 rfl rfl)
theorem dX6_bounded_47 : decode cX6_bounded 47 = .ok (.aload_n 0, 1) := dk_42 (dk_at dksX6_bounded_2 0 rfl rfl)
theorem dX6_bounded_48 : decode cX6_bounded 48 = .ok (.getfield 83, 3) := dk_180 0 83 (dk_at dksX6_bounded_2 1 rfl rfl)
theorem dX6_bounded_51 : decode cX6_bounded 51 = .ok (.iload_n 1, 1) := dk_27 (dk_at dksX6_bounded_2 4 rfl rfl)
theorem dX6_bounded_52 : decode cX6_bounded 52 = .ok (.invokevirtual 266, 3) := dk_182 1 10 (dk_at dksX6_bounded_2 5 rfl rfl)
theorem dX6_bounded_55 : decode cX6_bounded 55 = .ok (.istore_n 2, 1) := dk_61 (dk_at dksX6_bounded_2 8 rfl rfl)
theorem dX6_bounded_56 : decode cX6_bounded 56 = .ok (.iload_n 2, 1) := dk_28 (dk_at dksX6_bounded_2 9 rfl rfl)
theorem dX6_bounded_57 : decode cX6_bounded 57 = .ok (.iconst (-1), 1) := dk_2 (dk_at dksX6_bounded_2 10 rfl rfl)
theorem dX6_bounded_58 : decode cX6_bounded 58 = .ok (.if_icmp .eq 21, 3) := dk_159 0 21 (dk_at dksX6_bounded_2 11 rfl rfl)
theorem dX6_bounded_61 : decode cX6_bounded 61 = .ok (.aload_n 0, 1) := dk_42 (dk_at dksX6_bounded_2 14 rfl rfl)
theorem dX6_bounded_62 : decode cX6_bounded 62 = .ok (.iload_n 1, 1) := dk_27 (dk_at dksX6_bounded_2 15 rfl rfl)
theorem dX6_bounded_63 : decode cX6_bounded 63 = .ok (.iload_n 2, 1) := dk_28 (dk_at dksX6_bounded_2 16 rfl rfl)
theorem dX6_bounded_64 : decode cX6_bounded 64 = .ok (.invokevirtual 339, 3) := dk_182 1 83 (dk_at dksX6_bounded_2 17 rfl rfl)
theorem dX6_bounded_67 : decode cX6_bounded 67 = .ok (.aload_n 0, 1) := dk_42 (dk_at dksX6_bounded_2 20 rfl rfl)
theorem dX6_bounded_68 : decode cX6_bounded 68 = .ok (.getfield 83, 3) := dk_180 0 83 (dk_at dksX6_bounded_2 21 rfl rfl)
theorem dX6_bounded_71 : decode cX6_bounded 71 = .ok (.iload_n 2, 1) := dk_28 (dk_at dksX6_bounded_3 0 rfl rfl)
theorem dX6_bounded_72 : decode cX6_bounded 72 = .ok (.invokevirtual 189, 3) := dk_182 0 189 (dk_at dksX6_bounded_3 1 rfl rfl)
theorem dX6_bounded_75 : decode cX6_bounded 75 = .ok (.istore_n 2, 1) := dk_61 (dk_at dksX6_bounded_3 4 rfl rfl)
theorem dX6_bounded_76 : decode cX6_bounded 76 = .ok (.goto (-20), 3) := dk_167 255 236 (dk_at dksX6_bounded_3 5 rfl rfl)
theorem dX6_bounded_79 : decode cX6_bounded 79 = .ok (.iinc 1 1, 3) := dk_132 1 1 (dk_at dksX6_bounded_3 8 rfl rfl)
theorem dX6_bounded_82 : decode cX6_bounded 82 = .ok (.goto (-54), 3) := dk_167 255 202 (dk_at dksX6_bounded_3 11 rfl rfl)
theorem dX6_bounded_85 : decode cX6_bounded 85 = .ok (.aload_n 0, 1) := dk_42 (dk_at dksX6_bounded_3 14 rfl rfl)
theorem dX6_bounded_86 : decode cX6_bounded 86 = .ok (.getfield 96, 3) := dk_180 0 96 (dk_at dksX6_bounded_3 15 rfl rfl)
theorem dX6_bounded_89 : decode cX6_bounded 89 = .ok (.ifCond .ne 7, 3) := dk_154 0 7 (dk_at dksX6_bounded_3 18 rfl rfl)
theorem dX6_bounded_92 : decode cX6_bounded 92 = .ok (.iconst 1, 1) := dk_4 (dk_at dksX6_bounded_3 21 rfl rfl)
theorem dX6_bounded_93 : decode cX6_bounded 93 = .ok (.goto 4, 3) := dk_167 0 4 (dk_at dksX6_bounded_4 0 rfl rfl)
theorem dX6_bounded_96 : decode cX6_bounded 96 = .ok (.iconst 0, 1) := dk_3 (dk_at dksX6_bounded_4 3 rfl rfl)
theorem dX6_bounded_97 : decode cX6_bounded 97 = .ok (.ireturn, 1) := dk_172 (dk_at dksX6_bounded_4 4 rfl rfl)
abbrev cX6_bounded_2 : ByteArray := prog_9_method_40_code
def yX6_bounded_2 : MethodName := ⟨RX6, "bounded", "(II)V"⟩
def dkwX6_bounded_2_10 : List UInt8 := [54, 5, 167, 255, 109, 177]
abbrev dktX6_bounded_2_10 : List UInt8 := dkwX6_bounded_2_10 ++ []
def dkwX6_bounded_2_9 : List UInt8 := [16, 11, 42, 180, 0, 83, 21, 5, 182, 0, 178, 182, 0, 185, 42, 180, 0, 83, 21, 5, 182, 0, 189]
abbrev dktX6_bounded_2_9 : List UInt8 := dkwX6_bounded_2_9 ++ dktX6_bounded_2_10
def dkwX6_bounded_2_8 : List UInt8 := [54, 9, 167, 255, 209, 21, 8, 153, 0, 31, 42, 21, 6, 21, 7, 21, 4, 182, 1, 77, 153, 0, 18, 42]
abbrev dktX6_bounded_2_8 : List UInt8 := dkwX6_bounded_2_8 ++ dktX6_bounded_2_9
def dkwX6_bounded_2_7 : List UInt8 := [180, 0, 83, 21, 9, 182, 0, 178, 182, 0, 185, 3, 54, 8, 42, 180, 0, 83, 21, 9, 182, 0, 189]
abbrev dktX6_bounded_2_7 : List UInt8 := dkwX6_bounded_2_7 ++ dktX6_bounded_2_8
def dkwX6_bounded_2_6 : List UInt8 := [21, 9, 2, 159, 0, 47, 42, 21, 9, 27, 21, 4, 182, 1, 73, 154, 0, 21, 42, 16, 11, 42]
abbrev dktX6_bounded_2_6 : List UInt8 := dkwX6_bounded_2_6 ++ dktX6_bounded_2_7
def dkwX6_bounded_2_5 : List UInt8 := [21, 6, 167, 0, 12, 42, 180, 0, 83, 21, 6, 182, 0, 189, 54, 7, 4, 54, 8, 21, 6, 54, 9]
abbrev dktX6_bounded_2_5 : List UInt8 := dkwX6_bounded_2_5 ++ dktX6_bounded_2_6
def dkwX6_bounded_2_4 : List UInt8 := [180, 0, 83, 21, 5, 182, 0, 196, 54, 6, 42, 180, 0, 83, 21, 6, 182, 0, 189, 2, 160, 0, 8]
abbrev dktX6_bounded_2_4 : List UInt8 := dkwX6_bounded_2_4 ++ dktX6_bounded_2_5
def dkwX6_bounded_2_3 : List UInt8 := [182, 0, 178, 182, 0, 185, 177, 42, 180, 0, 83, 28, 182, 0, 196, 54, 5, 21, 5, 2, 159, 0, 147, 42]
abbrev dktX6_bounded_2_3 : List UInt8 := dkwX6_bounded_2_3 ++ dktX6_bounded_2_4
def dkwX6_bounded_2_2 : List UInt8 := [167, 0, 15, 42, 180, 0, 83, 29, 182, 0, 125, 5, 159, 0, 18, 42, 16, 11, 42, 180, 0, 83, 28]
abbrev dktX6_bounded_2_2 : List UInt8 := dkwX6_bounded_2_2 ++ dktX6_bounded_2_3
def dkwX6_bounded_2_1 : List UInt8 := [54, 4, 21, 4, 153, 0, 21, 42, 42, 180, 0, 83, 29, 182, 0, 125, 182, 1, 70, 154, 0, 33]
abbrev dktX6_bounded_2_1 : List UInt8 := dkwX6_bounded_2_1 ++ dktX6_bounded_2_2
def dkwX6_bounded_2_0 : List UInt8 := [42, 27, 182, 1, 0, 62, 42, 180, 0, 83, 28, 8, 182, 0, 223, 4, 160, 0, 7, 4, 167, 0, 4, 3]
abbrev dktX6_bounded_2_0 : List UInt8 := dkwX6_bounded_2_0 ++ dktX6_bounded_2_1
theorem dksX6_bounded_2_0 : cX6_bounded_2.data.toList.drop 0 = dktX6_bounded_2_0 := by decide +kernel
theorem dksX6_bounded_2_1 : cX6_bounded_2.data.toList.drop 24 = dktX6_bounded_2_1 := dk_seg dksX6_bounded_2_0 24 rfl rfl
theorem dksX6_bounded_2_2 : cX6_bounded_2.data.toList.drop 46 = dktX6_bounded_2_2 := dk_seg dksX6_bounded_2_1 22 rfl rfl
theorem dksX6_bounded_2_3 : cX6_bounded_2.data.toList.drop 69 = dktX6_bounded_2_3 := dk_seg dksX6_bounded_2_2 23 rfl rfl
theorem dksX6_bounded_2_4 : cX6_bounded_2.data.toList.drop 93 = dktX6_bounded_2_4 := dk_seg dksX6_bounded_2_3 24 rfl rfl
theorem dksX6_bounded_2_5 : cX6_bounded_2.data.toList.drop 116 = dktX6_bounded_2_5 := dk_seg dksX6_bounded_2_4 23 rfl rfl
theorem dksX6_bounded_2_6 : cX6_bounded_2.data.toList.drop 139 = dktX6_bounded_2_6 := dk_seg dksX6_bounded_2_5 23 rfl rfl
theorem dksX6_bounded_2_7 : cX6_bounded_2.data.toList.drop 161 = dktX6_bounded_2_7 := dk_seg dksX6_bounded_2_6 22 rfl rfl
theorem dksX6_bounded_2_8 : cX6_bounded_2.data.toList.drop 184 = dktX6_bounded_2_8 := dk_seg dksX6_bounded_2_7 23 rfl rfl
theorem dksX6_bounded_2_9 : cX6_bounded_2.data.toList.drop 208 = dktX6_bounded_2_9 := dk_seg dksX6_bounded_2_8 24 rfl rfl
theorem dksX6_bounded_2_10 : cX6_bounded_2.data.toList.drop 231 = dktX6_bounded_2_10 := dk_seg dksX6_bounded_2_9 23 rfl rfl
theorem dX6_bounded_2_0 : decode cX6_bounded_2 0 = .ok (.aload_n 0, 1) := dk_42 (dk_at dksX6_bounded_2_0 0 rfl rfl)
theorem dX6_bounded_2_1 : decode cX6_bounded_2 1 = .ok (.iload_n 1, 1) := dk_27 (dk_at dksX6_bounded_2_0 1 rfl rfl)
theorem dX6_bounded_2_2 : decode cX6_bounded_2 2 = .ok (.invokevirtual 256, 3) := dk_182 1 0 (dk_at dksX6_bounded_2_0 2 rfl rfl)
theorem dX6_bounded_2_5 : decode cX6_bounded_2 5 = .ok (.istore_n 3, 1) := dk_62 (dk_at dksX6_bounded_2_0 5 rfl rfl)
theorem dX6_bounded_2_6 : decode cX6_bounded_2 6 = .ok (.aload_n 0, 1) := dk_42 (dk_at dksX6_bounded_2_0 6 rfl rfl)
theorem dX6_bounded_2_7 : decode cX6_bounded_2 7 = .ok (.getfield 83, 3) := dk_180 0 83 (dk_at dksX6_bounded_2_0 7 rfl rfl)
theorem dX6_bounded_2_10 : decode cX6_bounded_2 10 = .ok (.iload_n 2, 1) := dk_28 (dk_at dksX6_bounded_2_0 10 rfl rfl)
theorem dX6_bounded_2_11 : decode cX6_bounded_2 11 = .ok (.iconst 5, 1) := dk_8 (dk_at dksX6_bounded_2_0 11 rfl rfl)
theorem dX6_bounded_2_12 : decode cX6_bounded_2 12 = .ok (.invokevirtual 223, 3) := dk_182 0 223 (dk_at dksX6_bounded_2_0 12 rfl rfl)
theorem dX6_bounded_2_15 : decode cX6_bounded_2 15 = .ok (.iconst 1, 1) := dk_4 (dk_at dksX6_bounded_2_0 15 rfl rfl)
theorem dX6_bounded_2_16 : decode cX6_bounded_2 16 = .ok (.if_icmp .ne 7, 3) := dk_160 0 7 (dk_at dksX6_bounded_2_0 16 rfl rfl)
theorem dX6_bounded_2_19 : decode cX6_bounded_2 19 = .ok (.iconst 1, 1) := dk_4 (dk_at dksX6_bounded_2_0 19 rfl rfl)
theorem dX6_bounded_2_20 : decode cX6_bounded_2 20 = .ok (.goto 4, 3) := dk_167 0 4 (dk_at dksX6_bounded_2_0 20 rfl rfl)
theorem dX6_bounded_2_23 : decode cX6_bounded_2 23 = .ok (.iconst 0, 1) := dk_3 (dk_at dksX6_bounded_2_0 23 rfl rfl)
theorem dX6_bounded_2_24 : decode cX6_bounded_2 24 = .ok (.istore 4, 2) := dk_54 4 (dk_at dksX6_bounded_2_1 0 rfl rfl)
theorem dX6_bounded_2_26 : decode cX6_bounded_2 26 = .ok (.iload 4, 2) := dk_21 4 (dk_at dksX6_bounded_2_1 2 rfl rfl)
theorem dX6_bounded_2_28 : decode cX6_bounded_2 28 = .ok (.ifCond .eq 21, 3) := dk_153 0 21 (dk_at dksX6_bounded_2_1 4 rfl rfl)
theorem dX6_bounded_2_31 : decode cX6_bounded_2 31 = .ok (.aload_n 0, 1) := dk_42 (dk_at dksX6_bounded_2_1 7 rfl rfl)
theorem dX6_bounded_2_32 : decode cX6_bounded_2 32 = .ok (.aload_n 0, 1) := dk_42 (dk_at dksX6_bounded_2_1 8 rfl rfl)
theorem dX6_bounded_2_33 : decode cX6_bounded_2 33 = .ok (.getfield 83, 3) := dk_180 0 83 (dk_at dksX6_bounded_2_1 9 rfl rfl)
theorem dX6_bounded_2_36 : decode cX6_bounded_2 36 = .ok (.iload_n 3, 1) := dk_29 (dk_at dksX6_bounded_2_1 12 rfl rfl)
theorem dX6_bounded_2_37 : decode cX6_bounded_2 37 = .ok (.invokevirtual 125, 3) := dk_182 0 125 (dk_at dksX6_bounded_2_1 13 rfl rfl)
theorem dX6_bounded_2_40 : decode cX6_bounded_2 40 = .ok (.invokevirtual 326, 3) := dk_182 1 70 (dk_at dksX6_bounded_2_1 16 rfl rfl)
theorem dX6_bounded_2_43 : decode cX6_bounded_2 43 = .ok (.ifCond .ne 33, 3) := dk_154 0 33 (dk_at dksX6_bounded_2_1 19 rfl rfl)
theorem dX6_bounded_2_46 : decode cX6_bounded_2 46 = .ok (.goto 15, 3) := dk_167 0 15 (dk_at dksX6_bounded_2_2 0 rfl rfl)
theorem dX6_bounded_2_49 : decode cX6_bounded_2 49 = .ok (.aload_n 0, 1) := dk_42 (dk_at dksX6_bounded_2_2 3 rfl rfl)
theorem dX6_bounded_2_50 : decode cX6_bounded_2 50 = .ok (.getfield 83, 3) := dk_180 0 83 (dk_at dksX6_bounded_2_2 4 rfl rfl)
theorem dX6_bounded_2_53 : decode cX6_bounded_2 53 = .ok (.iload_n 3, 1) := dk_29 (dk_at dksX6_bounded_2_2 7 rfl rfl)
theorem dX6_bounded_2_54 : decode cX6_bounded_2 54 = .ok (.invokevirtual 125, 3) := dk_182 0 125 (dk_at dksX6_bounded_2_2 8 rfl rfl)
theorem dX6_bounded_2_57 : decode cX6_bounded_2 57 = .ok (.iconst 2, 1) := dk_5 (dk_at dksX6_bounded_2_2 11 rfl rfl)
theorem dX6_bounded_2_58 : decode cX6_bounded_2 58 = .ok (.if_icmp .eq 18, 3) := dk_159 0 18 (dk_at dksX6_bounded_2_2 12 rfl rfl)
theorem dX6_bounded_2_61 : decode cX6_bounded_2 61 = .ok (.aload_n 0, 1) := dk_42 (dk_at dksX6_bounded_2_2 15 rfl rfl)
theorem dX6_bounded_2_62 : decode cX6_bounded_2 62 = .ok (.bipush 11, 2) := dk_16 11 (dk_at dksX6_bounded_2_2 16 rfl rfl)
theorem dX6_bounded_2_64 : decode cX6_bounded_2 64 = .ok (.aload_n 0, 1) := dk_42 (dk_at dksX6_bounded_2_2 18 rfl rfl)
theorem dX6_bounded_2_65 : decode cX6_bounded_2 65 = .ok (.getfield 83, 3) := dk_180 0 83 (dk_at dksX6_bounded_2_2 19 rfl rfl)
theorem dX6_bounded_2_68 : decode cX6_bounded_2 68 = .ok (.iload_n 2, 1) := dk_28 (dk_at dksX6_bounded_2_2 22 rfl rfl)
theorem dX6_bounded_2_69 : decode cX6_bounded_2 69 = .ok (.invokevirtual 178, 3) := dk_182 0 178 (dk_at dksX6_bounded_2_3 0 rfl rfl)
theorem dX6_bounded_2_72 : decode cX6_bounded_2 72 = .ok (.invokevirtual 185, 3) := dk_182 0 185 (dk_at dksX6_bounded_2_3 3 rfl rfl)
theorem dX6_bounded_2_75 : decode cX6_bounded_2 75 = .ok (.return_, 1) := dk_177 (dk_at dksX6_bounded_2_3 6 rfl rfl)
theorem dX6_bounded_2_76 : decode cX6_bounded_2 76 = .ok (.aload_n 0, 1) := dk_42 (dk_at dksX6_bounded_2_3 7 rfl rfl)
theorem dX6_bounded_2_77 : decode cX6_bounded_2 77 = .ok (.getfield 83, 3) := dk_180 0 83 (dk_at dksX6_bounded_2_3 8 rfl rfl)
theorem dX6_bounded_2_80 : decode cX6_bounded_2 80 = .ok (.iload_n 2, 1) := dk_28 (dk_at dksX6_bounded_2_3 11 rfl rfl)
theorem dX6_bounded_2_81 : decode cX6_bounded_2 81 = .ok (.invokevirtual 196, 3) := dk_182 0 196 (dk_at dksX6_bounded_2_3 12 rfl rfl)
theorem dX6_bounded_2_84 : decode cX6_bounded_2 84 = .ok (.istore 5, 2) := dk_54 5 (dk_at dksX6_bounded_2_3 15 rfl rfl)
theorem dX6_bounded_2_86 : decode cX6_bounded_2 86 = .ok (.iload 5, 2) := dk_21 5 (dk_at dksX6_bounded_2_3 17 rfl rfl)
theorem dX6_bounded_2_88 : decode cX6_bounded_2 88 = .ok (.iconst (-1), 1) := dk_2 (dk_at dksX6_bounded_2_3 19 rfl rfl)
theorem dX6_bounded_2_89 : decode cX6_bounded_2 89 = .ok (.if_icmp .eq 147, 3) := dk_159 0 147 (dk_at dksX6_bounded_2_3 20 rfl rfl)
theorem dX6_bounded_2_92 : decode cX6_bounded_2 92 = .ok (.aload_n 0, 1) := dk_42 (dk_at dksX6_bounded_2_3 23 rfl rfl)
theorem dX6_bounded_2_93 : decode cX6_bounded_2 93 = .ok (.getfield 83, 3) := dk_180 0 83 (dk_at dksX6_bounded_2_4 0 rfl rfl)
theorem dX6_bounded_2_96 : decode cX6_bounded_2 96 = .ok (.iload 5, 2) := dk_21 5 (dk_at dksX6_bounded_2_4 3 rfl rfl)
theorem dX6_bounded_2_98 : decode cX6_bounded_2 98 = .ok (.invokevirtual 196, 3) := dk_182 0 196 (dk_at dksX6_bounded_2_4 5 rfl rfl)
theorem dX6_bounded_2_101 : decode cX6_bounded_2 101 = .ok (.istore 6, 2) := dk_54 6 (dk_at dksX6_bounded_2_4 8 rfl rfl)
theorem dX6_bounded_2_103 : decode cX6_bounded_2 103 = .ok (.aload_n 0, 1) := dk_42 (dk_at dksX6_bounded_2_4 10 rfl rfl)
theorem dX6_bounded_2_104 : decode cX6_bounded_2 104 = .ok (.getfield 83, 3) := dk_180 0 83 (dk_at dksX6_bounded_2_4 11 rfl rfl)
theorem dX6_bounded_2_107 : decode cX6_bounded_2 107 = .ok (.iload 6, 2) := dk_21 6 (dk_at dksX6_bounded_2_4 14 rfl rfl)
theorem dX6_bounded_2_109 : decode cX6_bounded_2 109 = .ok (.invokevirtual 189, 3) := dk_182 0 189 (dk_at dksX6_bounded_2_4 16 rfl rfl)
theorem dX6_bounded_2_112 : decode cX6_bounded_2 112 = .ok (.iconst (-1), 1) := dk_2 (dk_at dksX6_bounded_2_4 19 rfl rfl)
theorem dX6_bounded_2_113 : decode cX6_bounded_2 113 = .ok (.if_icmp .ne 8, 3) := dk_160 0 8 (dk_at dksX6_bounded_2_4 20 rfl rfl)
theorem dX6_bounded_2_116 : decode cX6_bounded_2 116 = .ok (.iload 6, 2) := dk_21 6 (dk_at dksX6_bounded_2_5 0 rfl rfl)
theorem dX6_bounded_2_118 : decode cX6_bounded_2 118 = .ok (.goto 12, 3) := dk_167 0 12 (dk_at dksX6_bounded_2_5 2 rfl rfl)
theorem dX6_bounded_2_121 : decode cX6_bounded_2 121 = .ok (.aload_n 0, 1) := dk_42 (dk_at dksX6_bounded_2_5 5 rfl rfl)
theorem dX6_bounded_2_122 : decode cX6_bounded_2 122 = .ok (.getfield 83, 3) := dk_180 0 83 (dk_at dksX6_bounded_2_5 6 rfl rfl)
theorem dX6_bounded_2_125 : decode cX6_bounded_2 125 = .ok (.iload 6, 2) := dk_21 6 (dk_at dksX6_bounded_2_5 9 rfl rfl)
theorem dX6_bounded_2_127 : decode cX6_bounded_2 127 = .ok (.invokevirtual 189, 3) := dk_182 0 189 (dk_at dksX6_bounded_2_5 11 rfl rfl)
theorem dX6_bounded_2_130 : decode cX6_bounded_2 130 = .ok (.istore 7, 2) := dk_54 7 (dk_at dksX6_bounded_2_5 14 rfl rfl)
theorem dX6_bounded_2_132 : decode cX6_bounded_2 132 = .ok (.iconst 1, 1) := dk_4 (dk_at dksX6_bounded_2_5 16 rfl rfl)
theorem dX6_bounded_2_133 : decode cX6_bounded_2 133 = .ok (.istore 8, 2) := dk_54 8 (dk_at dksX6_bounded_2_5 17 rfl rfl)
theorem dX6_bounded_2_135 : decode cX6_bounded_2 135 = .ok (.iload 6, 2) := dk_21 6 (dk_at dksX6_bounded_2_5 19 rfl rfl)
theorem dX6_bounded_2_137 : decode cX6_bounded_2 137 = .ok (.istore 9, 2) := dk_54 9 (dk_at dksX6_bounded_2_5 21 rfl rfl)
theorem dX6_bounded_2_139 : decode cX6_bounded_2 139 = .ok (.iload 9, 2) := dk_21 9 (dk_at dksX6_bounded_2_6 0 rfl rfl)
theorem dX6_bounded_2_141 : decode cX6_bounded_2 141 = .ok (.iconst (-1), 1) := dk_2 (dk_at dksX6_bounded_2_6 2 rfl rfl)
theorem dX6_bounded_2_142 : decode cX6_bounded_2 142 = .ok (.if_icmp .eq 47, 3) := dk_159 0 47 (dk_at dksX6_bounded_2_6 3 rfl rfl)
theorem dX6_bounded_2_145 : decode cX6_bounded_2 145 = .ok (.aload_n 0, 1) := dk_42 (dk_at dksX6_bounded_2_6 6 rfl rfl)
theorem dX6_bounded_2_146 : decode cX6_bounded_2 146 = .ok (.iload 9, 2) := dk_21 9 (dk_at dksX6_bounded_2_6 7 rfl rfl)
theorem dX6_bounded_2_148 : decode cX6_bounded_2 148 = .ok (.iload_n 1, 1) := dk_27 (dk_at dksX6_bounded_2_6 9 rfl rfl)
theorem dX6_bounded_2_149 : decode cX6_bounded_2 149 = .ok (.iload 4, 2) := dk_21 4 (dk_at dksX6_bounded_2_6 10 rfl rfl)
theorem dX6_bounded_2_151 : decode cX6_bounded_2 151 = .ok (.invokevirtual 329, 3) := dk_182 1 73 (dk_at dksX6_bounded_2_6 12 rfl rfl)
theorem dX6_bounded_2_154 : decode cX6_bounded_2 154 = .ok (.ifCond .ne 21, 3) := dk_154 0 21 (dk_at dksX6_bounded_2_6 15 rfl rfl)
theorem dX6_bounded_2_157 : decode cX6_bounded_2 157 = .ok (.aload_n 0, 1) := dk_42 (dk_at dksX6_bounded_2_6 18 rfl rfl)
theorem dX6_bounded_2_158 : decode cX6_bounded_2 158 = .ok (.bipush 11, 2) := dk_16 11 (dk_at dksX6_bounded_2_6 19 rfl rfl)
theorem dX6_bounded_2_160 : decode cX6_bounded_2 160 = .ok (.aload_n 0, 1) := dk_42 (dk_at dksX6_bounded_2_6 21 rfl rfl)
theorem dX6_bounded_2_161 : decode cX6_bounded_2 161 = .ok (.getfield 83, 3) := dk_180 0 83 (dk_at dksX6_bounded_2_7 0 rfl rfl)
theorem dX6_bounded_2_164 : decode cX6_bounded_2 164 = .ok (.iload 9, 2) := dk_21 9 (dk_at dksX6_bounded_2_7 3 rfl rfl)
theorem dX6_bounded_2_166 : decode cX6_bounded_2 166 = .ok (.invokevirtual 178, 3) := dk_182 0 178 (dk_at dksX6_bounded_2_7 5 rfl rfl)
theorem dX6_bounded_2_169 : decode cX6_bounded_2 169 = .ok (.invokevirtual 185, 3) := dk_182 0 185 (dk_at dksX6_bounded_2_7 8 rfl rfl)
theorem dX6_bounded_2_172 : decode cX6_bounded_2 172 = .ok (.iconst 0, 1) := dk_3 (dk_at dksX6_bounded_2_7 11 rfl rfl)
theorem dX6_bounded_2_173 : decode cX6_bounded_2 173 = .ok (.istore 8, 2) := dk_54 8 (dk_at dksX6_bounded_2_7 12 rfl rfl)
theorem dX6_bounded_2_175 : decode cX6_bounded_2 175 = .ok (.aload_n 0, 1) := dk_42 (dk_at dksX6_bounded_2_7 14 rfl rfl)
theorem dX6_bounded_2_176 : decode cX6_bounded_2 176 = .ok (.getfield 83, 3) := dk_180 0 83 (dk_at dksX6_bounded_2_7 15 rfl rfl)
theorem dX6_bounded_2_179 : decode cX6_bounded_2 179 = .ok (.iload 9, 2) := dk_21 9 (dk_at dksX6_bounded_2_7 18 rfl rfl)
theorem dX6_bounded_2_181 : decode cX6_bounded_2 181 = .ok (.invokevirtual 189, 3) := dk_182 0 189 (dk_at dksX6_bounded_2_7 20 rfl rfl)
theorem dX6_bounded_2_184 : decode cX6_bounded_2 184 = .ok (.istore 9, 2) := dk_54 9 (dk_at dksX6_bounded_2_8 0 rfl rfl)
theorem dX6_bounded_2_186 : decode cX6_bounded_2 186 = .ok (.goto (-47), 3) := dk_167 255 209 (dk_at dksX6_bounded_2_8 2 rfl rfl)
theorem dX6_bounded_2_189 : decode cX6_bounded_2 189 = .ok (.iload 8, 2) := dk_21 8 (dk_at dksX6_bounded_2_8 5 rfl rfl)
theorem dX6_bounded_2_191 : decode cX6_bounded_2 191 = .ok (.ifCond .eq 31, 3) := dk_153 0 31 (dk_at dksX6_bounded_2_8 7 rfl rfl)
theorem dX6_bounded_2_194 : decode cX6_bounded_2 194 = .ok (.aload_n 0, 1) := dk_42 (dk_at dksX6_bounded_2_8 10 rfl rfl)
theorem dX6_bounded_2_195 : decode cX6_bounded_2 195 = .ok (.iload 6, 2) := dk_21 6 (dk_at dksX6_bounded_2_8 11 rfl rfl)
theorem dX6_bounded_2_197 : decode cX6_bounded_2 197 = .ok (.iload 7, 2) := dk_21 7 (dk_at dksX6_bounded_2_8 13 rfl rfl)
theorem dX6_bounded_2_199 : decode cX6_bounded_2 199 = .ok (.iload 4, 2) := dk_21 4 (dk_at dksX6_bounded_2_8 15 rfl rfl)
theorem dX6_bounded_2_201 : decode cX6_bounded_2 201 = .ok (.invokevirtual 333, 3) := dk_182 1 77 (dk_at dksX6_bounded_2_8 17 rfl rfl)
theorem dX6_bounded_2_204 : decode cX6_bounded_2 204 = .ok (.ifCond .eq 18, 3) := dk_153 0 18 (dk_at dksX6_bounded_2_8 20 rfl rfl)
theorem dX6_bounded_2_207 : decode cX6_bounded_2 207 = .ok (.aload_n 0, 1) := dk_42 (dk_at dksX6_bounded_2_8 23 rfl rfl)
theorem dX6_bounded_2_208 : decode cX6_bounded_2 208 = .ok (.bipush 11, 2) := dk_16 11 (dk_at dksX6_bounded_2_9 0 rfl rfl)
theorem dX6_bounded_2_210 : decode cX6_bounded_2 210 = .ok (.aload_n 0, 1) := dk_42 (dk_at dksX6_bounded_2_9 2 rfl rfl)
theorem dX6_bounded_2_211 : decode cX6_bounded_2 211 = .ok (.getfield 83, 3) := dk_180 0 83 (dk_at dksX6_bounded_2_9 3 rfl rfl)
theorem dX6_bounded_2_214 : decode cX6_bounded_2 214 = .ok (.iload 5, 2) := dk_21 5 (dk_at dksX6_bounded_2_9 6 rfl rfl)
theorem dX6_bounded_2_216 : decode cX6_bounded_2 216 = .ok (.invokevirtual 178, 3) := dk_182 0 178 (dk_at dksX6_bounded_2_9 8 rfl rfl)
theorem dX6_bounded_2_219 : decode cX6_bounded_2 219 = .ok (.invokevirtual 185, 3) := dk_182 0 185 (dk_at dksX6_bounded_2_9 11 rfl rfl)
theorem dX6_bounded_2_222 : decode cX6_bounded_2 222 = .ok (.aload_n 0, 1) := dk_42 (dk_at dksX6_bounded_2_9 14 rfl rfl)
theorem dX6_bounded_2_223 : decode cX6_bounded_2 223 = .ok (.getfield 83, 3) := dk_180 0 83 (dk_at dksX6_bounded_2_9 15 rfl rfl)
theorem dX6_bounded_2_226 : decode cX6_bounded_2 226 = .ok (.iload 5, 2) := dk_21 5 (dk_at dksX6_bounded_2_9 18 rfl rfl)
theorem dX6_bounded_2_228 : decode cX6_bounded_2 228 = .ok (.invokevirtual 189, 3) := dk_182 0 189 (dk_at dksX6_bounded_2_9 20 rfl rfl)
theorem dX6_bounded_2_231 : decode cX6_bounded_2 231 = .ok (.istore 5, 2) := dk_54 5 (dk_at dksX6_bounded_2_10 0 rfl rfl)
theorem dX6_bounded_2_233 : decode cX6_bounded_2 233 = .ok (.goto (-147), 3) := dk_167 255 109 (dk_at dksX6_bounded_2_10 2 rfl rfl)
theorem dX6_bounded_2_236 : decode cX6_bounded_2 236 = .ok (.return_, 1) := dk_177 (dk_at dksX6_bounded_2_10 5 rfl rfl)
abbrev cX6_hasSizes : ByteArray := prog_9_method_36_code
def yX6_hasSizes : MethodName := ⟨RX6, "hasSizes", "(I)Z"⟩
def dkwX6_hasSizes_1 : List UInt8 := [16, 9, 159, 0, 15, 27, 16, 14, 159, 0, 9, 27, 16, 15, 160, 0, 7, 4, 167, 0, 4, 3, 172]
abbrev dktX6_hasSizes_1 : List UInt8 := dkwX6_hasSizes_1 ++ []
def dkwX6_hasSizes_0 : List UInt8 := [27, 7, 159, 0, 38, 27, 8, 159, 0, 33, 27, 16, 7, 159, 0, 27, 27, 16, 8, 159, 0, 21, 27]
abbrev dktX6_hasSizes_0 : List UInt8 := dkwX6_hasSizes_0 ++ dktX6_hasSizes_1
theorem dksX6_hasSizes_0 : cX6_hasSizes.data.toList.drop 0 = dktX6_hasSizes_0 := by decide +kernel
theorem dksX6_hasSizes_1 : cX6_hasSizes.data.toList.drop 23 = dktX6_hasSizes_1 := dk_seg dksX6_hasSizes_0 23 rfl rfl
theorem dX6_hasSizes_0 : decode cX6_hasSizes 0 = .ok (.iload_n 1, 1) := dk_27 (dk_at dksX6_hasSizes_0 0 rfl rfl)
theorem dX6_hasSizes_1 : decode cX6_hasSizes 1 = .ok (.iconst 4, 1) := dk_7 (dk_at dksX6_hasSizes_0 1 rfl rfl)
theorem dX6_hasSizes_2 : decode cX6_hasSizes 2 = .ok (.if_icmp .eq 38, 3) := dk_159 0 38 (dk_at dksX6_hasSizes_0 2 rfl rfl)
theorem dX6_hasSizes_5 : decode cX6_hasSizes 5 = .ok (.iload_n 1, 1) := dk_27 (dk_at dksX6_hasSizes_0 5 rfl rfl)
theorem dX6_hasSizes_6 : decode cX6_hasSizes 6 = .ok (.iconst 5, 1) := dk_8 (dk_at dksX6_hasSizes_0 6 rfl rfl)
theorem dX6_hasSizes_7 : decode cX6_hasSizes 7 = .ok (.if_icmp .eq 33, 3) := dk_159 0 33 (dk_at dksX6_hasSizes_0 7 rfl rfl)
theorem dX6_hasSizes_10 : decode cX6_hasSizes 10 = .ok (.iload_n 1, 1) := dk_27 (dk_at dksX6_hasSizes_0 10 rfl rfl)
theorem dX6_hasSizes_11 : decode cX6_hasSizes 11 = .ok (.bipush 7, 2) := dk_16 7 (dk_at dksX6_hasSizes_0 11 rfl rfl)
theorem dX6_hasSizes_13 : decode cX6_hasSizes 13 = .ok (.if_icmp .eq 27, 3) := dk_159 0 27 (dk_at dksX6_hasSizes_0 13 rfl rfl)
theorem dX6_hasSizes_16 : decode cX6_hasSizes 16 = .ok (.iload_n 1, 1) := dk_27 (dk_at dksX6_hasSizes_0 16 rfl rfl)
theorem dX6_hasSizes_17 : decode cX6_hasSizes 17 = .ok (.bipush 8, 2) := dk_16 8 (dk_at dksX6_hasSizes_0 17 rfl rfl)
theorem dX6_hasSizes_19 : decode cX6_hasSizes 19 = .ok (.if_icmp .eq 21, 3) := dk_159 0 21 (dk_at dksX6_hasSizes_0 19 rfl rfl)
theorem dX6_hasSizes_22 : decode cX6_hasSizes 22 = .ok (.iload_n 1, 1) := dk_27 (dk_at dksX6_hasSizes_0 22 rfl rfl)
theorem dX6_hasSizes_23 : decode cX6_hasSizes 23 = .ok (.bipush 9, 2) := dk_16 9 (dk_at dksX6_hasSizes_1 0 rfl rfl)
theorem dX6_hasSizes_25 : decode cX6_hasSizes 25 = .ok (.if_icmp .eq 15, 3) := dk_159 0 15 (dk_at dksX6_hasSizes_1 2 rfl rfl)
theorem dX6_hasSizes_28 : decode cX6_hasSizes 28 = .ok (.iload_n 1, 1) := dk_27 (dk_at dksX6_hasSizes_1 5 rfl rfl)
theorem dX6_hasSizes_29 : decode cX6_hasSizes 29 = .ok (.bipush 14, 2) := dk_16 14 (dk_at dksX6_hasSizes_1 6 rfl rfl)
theorem dX6_hasSizes_31 : decode cX6_hasSizes 31 = .ok (.if_icmp .eq 9, 3) := dk_159 0 9 (dk_at dksX6_hasSizes_1 8 rfl rfl)
theorem dX6_hasSizes_34 : decode cX6_hasSizes 34 = .ok (.iload_n 1, 1) := dk_27 (dk_at dksX6_hasSizes_1 11 rfl rfl)
theorem dX6_hasSizes_35 : decode cX6_hasSizes 35 = .ok (.bipush 15, 2) := dk_16 15 (dk_at dksX6_hasSizes_1 12 rfl rfl)
theorem dX6_hasSizes_37 : decode cX6_hasSizes 37 = .ok (.if_icmp .ne 7, 3) := dk_160 0 7 (dk_at dksX6_hasSizes_1 14 rfl rfl)
theorem dX6_hasSizes_40 : decode cX6_hasSizes 40 = .ok (.iconst 1, 1) := dk_4 (dk_at dksX6_hasSizes_1 17 rfl rfl)
theorem dX6_hasSizes_41 : decode cX6_hasSizes 41 = .ok (.goto 4, 3) := dk_167 0 4 (dk_at dksX6_hasSizes_1 18 rfl rfl)
theorem dX6_hasSizes_44 : decode cX6_hasSizes 44 = .ok (.iconst 0, 1) := dk_3 (dk_at dksX6_hasSizes_1 21 rfl rfl)
theorem dX6_hasSizes_45 : decode cX6_hasSizes 45 = .ok (.ireturn, 1) := dk_172 (dk_at dksX6_hasSizes_1 22 rfl rfl)
abbrev cX6_isBound : ByteArray := prog_9_method_39_code
def yX6_isBound : MethodName := ⟨RX6, "isBound", "(IIZ)Z"⟩
def dkwX6_isBound_4 : List UInt8 := [180, 0, 55, 27, 46, 182, 0, 234, 17, 0, 128, 162, 0, 7, 4, 167, 0, 4, 3, 172]
abbrev dktX6_isBound_4 : List UInt8 := dkwX6_isBound_4 ++ []
def dkwX6_isBound_3 : List UInt8 := [180, 0, 83, 27, 182, 0, 178, 182, 1, 66, 154, 0, 5, 3, 172, 29, 153, 0, 22, 42, 180, 0, 48, 42]
abbrev dktX6_isBound_3 : List UInt8 := dkwX6_isBound_3 ++ dktX6_isBound_4
def dkwX6_isBound_2 : List UInt8 := [16, 6, 182, 0, 223, 4, 160, 0, 7, 4, 167, 0, 4, 3, 182, 0, 226, 167, 0, 22, 42, 27, 28, 42]
abbrev dktX6_isBound_2 : List UInt8 := dkwX6_isBound_2 ++ dktX6_isBound_3
def dkwX6_isBound_1 : List UInt8 := [21, 4, 5, 160, 0, 40, 42, 27, 42, 180, 0, 83, 27, 16, 7, 182, 0, 223, 42, 180, 0, 83, 27]
abbrev dktX6_isBound_1 : List UInt8 := dkwX6_isBound_1 ++ dktX6_isBound_2
def dkwX6_isBound_0 : List UInt8 := [42, 180, 0, 83, 27, 8, 182, 0, 223, 54, 4, 21, 4, 153, 0, 9, 21, 4, 4, 160, 0, 5, 4, 172]
abbrev dktX6_isBound_0 : List UInt8 := dkwX6_isBound_0 ++ dktX6_isBound_1
theorem dksX6_isBound_0 : cX6_isBound.data.toList.drop 0 = dktX6_isBound_0 := by decide +kernel
theorem dksX6_isBound_1 : cX6_isBound.data.toList.drop 24 = dktX6_isBound_1 := dk_seg dksX6_isBound_0 24 rfl rfl
theorem dksX6_isBound_2 : cX6_isBound.data.toList.drop 47 = dktX6_isBound_2 := dk_seg dksX6_isBound_1 23 rfl rfl
theorem dksX6_isBound_3 : cX6_isBound.data.toList.drop 71 = dktX6_isBound_3 := dk_seg dksX6_isBound_2 24 rfl rfl
theorem dksX6_isBound_4 : cX6_isBound.data.toList.drop 95 = dktX6_isBound_4 := dk_seg dksX6_isBound_3 24 rfl rfl
theorem dX6_isBound_0 : decode cX6_isBound 0 = .ok (.aload_n 0, 1) := dk_42 (dk_at dksX6_isBound_0 0 rfl rfl)
theorem dX6_isBound_1 : decode cX6_isBound 1 = .ok (.getfield 83, 3) := dk_180 0 83 (dk_at dksX6_isBound_0 1 rfl rfl)
theorem dX6_isBound_4 : decode cX6_isBound 4 = .ok (.iload_n 1, 1) := dk_27 (dk_at dksX6_isBound_0 4 rfl rfl)
theorem dX6_isBound_5 : decode cX6_isBound 5 = .ok (.iconst 5, 1) := dk_8 (dk_at dksX6_isBound_0 5 rfl rfl)
theorem dX6_isBound_6 : decode cX6_isBound 6 = .ok (.invokevirtual 223, 3) := dk_182 0 223 (dk_at dksX6_isBound_0 6 rfl rfl)
theorem dX6_isBound_9 : decode cX6_isBound 9 = .ok (.istore 4, 2) := dk_54 4 (dk_at dksX6_isBound_0 9 rfl rfl)
theorem dX6_isBound_11 : decode cX6_isBound 11 = .ok (.iload 4, 2) := dk_21 4 (dk_at dksX6_isBound_0 11 rfl rfl)
theorem dX6_isBound_13 : decode cX6_isBound 13 = .ok (.ifCond .eq 9, 3) := dk_153 0 9 (dk_at dksX6_isBound_0 13 rfl rfl)
theorem dX6_isBound_16 : decode cX6_isBound 16 = .ok (.iload 4, 2) := dk_21 4 (dk_at dksX6_isBound_0 16 rfl rfl)
theorem dX6_isBound_18 : decode cX6_isBound 18 = .ok (.iconst 1, 1) := dk_4 (dk_at dksX6_isBound_0 18 rfl rfl)
theorem dX6_isBound_19 : decode cX6_isBound 19 = .ok (.if_icmp .ne 5, 3) := dk_160 0 5 (dk_at dksX6_isBound_0 19 rfl rfl)
theorem dX6_isBound_22 : decode cX6_isBound 22 = .ok (.iconst 1, 1) := dk_4 (dk_at dksX6_isBound_0 22 rfl rfl)
theorem dX6_isBound_23 : decode cX6_isBound 23 = .ok (.ireturn, 1) := dk_172 (dk_at dksX6_isBound_0 23 rfl rfl)
theorem dX6_isBound_24 : decode cX6_isBound 24 = .ok (.iload 4, 2) := dk_21 4 (dk_at dksX6_isBound_1 0 rfl rfl)
theorem dX6_isBound_26 : decode cX6_isBound 26 = .ok (.iconst 2, 1) := dk_5 (dk_at dksX6_isBound_1 2 rfl rfl)
theorem dX6_isBound_27 : decode cX6_isBound 27 = .ok (.if_icmp .ne 40, 3) := dk_160 0 40 (dk_at dksX6_isBound_1 3 rfl rfl)
theorem dX6_isBound_30 : decode cX6_isBound 30 = .ok (.aload_n 0, 1) := dk_42 (dk_at dksX6_isBound_1 6 rfl rfl)
theorem dX6_isBound_31 : decode cX6_isBound 31 = .ok (.iload_n 1, 1) := dk_27 (dk_at dksX6_isBound_1 7 rfl rfl)
theorem dX6_isBound_32 : decode cX6_isBound 32 = .ok (.aload_n 0, 1) := dk_42 (dk_at dksX6_isBound_1 8 rfl rfl)
theorem dX6_isBound_33 : decode cX6_isBound 33 = .ok (.getfield 83, 3) := dk_180 0 83 (dk_at dksX6_isBound_1 9 rfl rfl)
theorem dX6_isBound_36 : decode cX6_isBound 36 = .ok (.iload_n 1, 1) := dk_27 (dk_at dksX6_isBound_1 12 rfl rfl)
theorem dX6_isBound_37 : decode cX6_isBound 37 = .ok (.bipush 7, 2) := dk_16 7 (dk_at dksX6_isBound_1 13 rfl rfl)
theorem dX6_isBound_39 : decode cX6_isBound 39 = .ok (.invokevirtual 223, 3) := dk_182 0 223 (dk_at dksX6_isBound_1 15 rfl rfl)
theorem dX6_isBound_42 : decode cX6_isBound 42 = .ok (.aload_n 0, 1) := dk_42 (dk_at dksX6_isBound_1 18 rfl rfl)
theorem dX6_isBound_43 : decode cX6_isBound 43 = .ok (.getfield 83, 3) := dk_180 0 83 (dk_at dksX6_isBound_1 19 rfl rfl)
theorem dX6_isBound_46 : decode cX6_isBound 46 = .ok (.iload_n 1, 1) := dk_27 (dk_at dksX6_isBound_1 22 rfl rfl)
theorem dX6_isBound_47 : decode cX6_isBound 47 = .ok (.bipush 6, 2) := dk_16 6 (dk_at dksX6_isBound_2 0 rfl rfl)
theorem dX6_isBound_49 : decode cX6_isBound 49 = .ok (.invokevirtual 223, 3) := dk_182 0 223 (dk_at dksX6_isBound_2 2 rfl rfl)
theorem dX6_isBound_52 : decode cX6_isBound 52 = .ok (.iconst 1, 1) := dk_4 (dk_at dksX6_isBound_2 5 rfl rfl)
theorem dX6_isBound_53 : decode cX6_isBound 53 = .ok (.if_icmp .ne 7, 3) := dk_160 0 7 (dk_at dksX6_isBound_2 6 rfl rfl)
theorem dX6_isBound_56 : decode cX6_isBound 56 = .ok (.iconst 1, 1) := dk_4 (dk_at dksX6_isBound_2 9 rfl rfl)
theorem dX6_isBound_57 : decode cX6_isBound 57 = .ok (.goto 4, 3) := dk_167 0 4 (dk_at dksX6_isBound_2 10 rfl rfl)
theorem dX6_isBound_60 : decode cX6_isBound 60 = .ok (.iconst 0, 1) := dk_3 (dk_at dksX6_isBound_2 13 rfl rfl)
theorem dX6_isBound_61 : decode cX6_isBound 61 = .ok (.invokevirtual 226, 3) := dk_182 0 226 (dk_at dksX6_isBound_2 14 rfl rfl)
theorem dX6_isBound_64 : decode cX6_isBound 64 = .ok (.goto 22, 3) := dk_167 0 22 (dk_at dksX6_isBound_2 17 rfl rfl)
theorem dX6_isBound_67 : decode cX6_isBound 67 = .ok (.aload_n 0, 1) := dk_42 (dk_at dksX6_isBound_2 20 rfl rfl)
theorem dX6_isBound_68 : decode cX6_isBound 68 = .ok (.iload_n 1, 1) := dk_27 (dk_at dksX6_isBound_2 21 rfl rfl)
theorem dX6_isBound_69 : decode cX6_isBound 69 = .ok (.iload_n 2, 1) := dk_28 (dk_at dksX6_isBound_2 22 rfl rfl)
theorem dX6_isBound_70 : decode cX6_isBound 70 = .ok (.aload_n 0, 1) := dk_42 (dk_at dksX6_isBound_2 23 rfl rfl)
theorem dX6_isBound_71 : decode cX6_isBound 71 = .ok (.getfield 83, 3) := dk_180 0 83 (dk_at dksX6_isBound_3 0 rfl rfl)
theorem dX6_isBound_74 : decode cX6_isBound 74 = .ok (.iload_n 1, 1) := dk_27 (dk_at dksX6_isBound_3 3 rfl rfl)
theorem dX6_isBound_75 : decode cX6_isBound 75 = .ok (.invokevirtual 178, 3) := dk_182 0 178 (dk_at dksX6_isBound_3 4 rfl rfl)
theorem dX6_isBound_78 : decode cX6_isBound 78 = .ok (.invokevirtual 322, 3) := dk_182 1 66 (dk_at dksX6_isBound_3 7 rfl rfl)
theorem dX6_isBound_81 : decode cX6_isBound 81 = .ok (.ifCond .ne 5, 3) := dk_154 0 5 (dk_at dksX6_isBound_3 10 rfl rfl)
theorem dX6_isBound_84 : decode cX6_isBound 84 = .ok (.iconst 0, 1) := dk_3 (dk_at dksX6_isBound_3 13 rfl rfl)
theorem dX6_isBound_85 : decode cX6_isBound 85 = .ok (.ireturn, 1) := dk_172 (dk_at dksX6_isBound_3 14 rfl rfl)
theorem dX6_isBound_86 : decode cX6_isBound 86 = .ok (.iload_n 3, 1) := dk_29 (dk_at dksX6_isBound_3 15 rfl rfl)
theorem dX6_isBound_87 : decode cX6_isBound 87 = .ok (.ifCond .eq 22, 3) := dk_153 0 22 (dk_at dksX6_isBound_3 16 rfl rfl)
theorem dX6_isBound_90 : decode cX6_isBound 90 = .ok (.aload_n 0, 1) := dk_42 (dk_at dksX6_isBound_3 19 rfl rfl)
theorem dX6_isBound_91 : decode cX6_isBound 91 = .ok (.getfield 48, 3) := dk_180 0 48 (dk_at dksX6_isBound_3 20 rfl rfl)
theorem dX6_isBound_94 : decode cX6_isBound 94 = .ok (.aload_n 0, 1) := dk_42 (dk_at dksX6_isBound_3 23 rfl rfl)
theorem dX6_isBound_95 : decode cX6_isBound 95 = .ok (.getfield 55, 3) := dk_180 0 55 (dk_at dksX6_isBound_4 0 rfl rfl)
theorem dX6_isBound_98 : decode cX6_isBound 98 = .ok (.iload_n 1, 1) := dk_27 (dk_at dksX6_isBound_4 3 rfl rfl)
theorem dX6_isBound_99 : decode cX6_isBound 99 = .ok (.iaload, 1) := dk_46 (dk_at dksX6_isBound_4 4 rfl rfl)
theorem dX6_isBound_100 : decode cX6_isBound 100 = .ok (.invokevirtual 234, 3) := dk_182 0 234 (dk_at dksX6_isBound_4 5 rfl rfl)
theorem dX6_isBound_103 : decode cX6_isBound 103 = .ok (.sipush 128, 3) := dk_17 0 128 (dk_at dksX6_isBound_4 8 rfl rfl)
theorem dX6_isBound_106 : decode cX6_isBound 106 = .ok (.if_icmp .ge 7, 3) := dk_162 0 7 (dk_at dksX6_isBound_4 11 rfl rfl)
theorem dX6_isBound_109 : decode cX6_isBound 109 = .ok (.iconst 1, 1) := dk_4 (dk_at dksX6_isBound_4 14 rfl rfl)
theorem dX6_isBound_110 : decode cX6_isBound 110 = .ok (.goto 4, 3) := dk_167 0 4 (dk_at dksX6_isBound_4 15 rfl rfl)
theorem dX6_isBound_113 : decode cX6_isBound 113 = .ok (.iconst 0, 1) := dk_3 (dk_at dksX6_isBound_4 18 rfl rfl)
theorem dX6_isBound_114 : decode cX6_isBound 114 = .ok (.ireturn, 1) := dk_172 (dk_at dksX6_isBound_4 19 rfl rfl)
abbrev cX6_wordNumber : ByteArray := prog_9_method_37_code
def yX6_wordNumber : MethodName := ⟨RX6, "wordNumber", "(III)Z"⟩
def dkwX6_wordNumber_3 : List UInt8 := [180, 0, 59, 21, 4, 46, 79, 4, 172]
abbrev dktX6_wordNumber_3 : List UInt8 := dkwX6_wordNumber_3 ++ []
def dkwX6_wordNumber_2 : List UInt8 := [160, 0, 5, 3, 172, 42, 180, 0, 55, 27, 42, 180, 0, 55, 21, 4, 46, 79, 42, 180, 0, 59, 27, 42]
abbrev dktX6_wordNumber_2 : List UInt8 := dkwX6_wordNumber_2 ++ dktX6_wordNumber_3
def dkwX6_wordNumber_1 : List UInt8 := [54, 5, 21, 5, 2, 160, 0, 7, 2, 167, 0, 9, 42, 21, 5, 182, 1, 63, 54, 4, 21, 4, 2]
abbrev dktX6_wordNumber_1 : List UInt8 := dkwX6_wordNumber_1 ++ dktX6_wordNumber_2
def dkwX6_wordNumber_0 : List UInt8 := [42, 28, 29, 3, 182, 1, 6, 54, 4, 21, 4, 2, 160, 0, 31, 42, 180, 0, 32, 29, 182, 0, 245]
abbrev dktX6_wordNumber_0 : List UInt8 := dkwX6_wordNumber_0 ++ dktX6_wordNumber_1
theorem dksX6_wordNumber_0 : cX6_wordNumber.data.toList.drop 0 = dktX6_wordNumber_0 := by decide +kernel
theorem dksX6_wordNumber_1 : cX6_wordNumber.data.toList.drop 23 = dktX6_wordNumber_1 := dk_seg dksX6_wordNumber_0 23 rfl rfl
theorem dksX6_wordNumber_2 : cX6_wordNumber.data.toList.drop 46 = dktX6_wordNumber_2 := dk_seg dksX6_wordNumber_1 23 rfl rfl
theorem dksX6_wordNumber_3 : cX6_wordNumber.data.toList.drop 70 = dktX6_wordNumber_3 := dk_seg dksX6_wordNumber_2 24 rfl rfl
theorem dX6_wordNumber_0 : decode cX6_wordNumber 0 = .ok (.aload_n 0, 1) := dk_42 (dk_at dksX6_wordNumber_0 0 rfl rfl)
theorem dX6_wordNumber_1 : decode cX6_wordNumber 1 = .ok (.iload_n 2, 1) := dk_28 (dk_at dksX6_wordNumber_0 1 rfl rfl)
theorem dX6_wordNumber_2 : decode cX6_wordNumber 2 = .ok (.iload_n 3, 1) := dk_29 (dk_at dksX6_wordNumber_0 2 rfl rfl)
theorem dX6_wordNumber_3 : decode cX6_wordNumber 3 = .ok (.iconst 0, 1) := dk_3 (dk_at dksX6_wordNumber_0 3 rfl rfl)
theorem dX6_wordNumber_4 : decode cX6_wordNumber 4 = .ok (.invokevirtual 262, 3) := dk_182 1 6 (dk_at dksX6_wordNumber_0 4 rfl rfl)
theorem dX6_wordNumber_7 : decode cX6_wordNumber 7 = .ok (.istore 4, 2) := dk_54 4 (dk_at dksX6_wordNumber_0 7 rfl rfl)
theorem dX6_wordNumber_9 : decode cX6_wordNumber 9 = .ok (.iload 4, 2) := dk_21 4 (dk_at dksX6_wordNumber_0 9 rfl rfl)
theorem dX6_wordNumber_11 : decode cX6_wordNumber 11 = .ok (.iconst (-1), 1) := dk_2 (dk_at dksX6_wordNumber_0 11 rfl rfl)
theorem dX6_wordNumber_12 : decode cX6_wordNumber 12 = .ok (.if_icmp .ne 31, 3) := dk_160 0 31 (dk_at dksX6_wordNumber_0 12 rfl rfl)
theorem dX6_wordNumber_15 : decode cX6_wordNumber 15 = .ok (.aload_n 0, 1) := dk_42 (dk_at dksX6_wordNumber_0 15 rfl rfl)
theorem dX6_wordNumber_16 : decode cX6_wordNumber 16 = .ok (.getfield 32, 3) := dk_180 0 32 (dk_at dksX6_wordNumber_0 16 rfl rfl)
theorem dX6_wordNumber_19 : decode cX6_wordNumber 19 = .ok (.iload_n 3, 1) := dk_29 (dk_at dksX6_wordNumber_0 19 rfl rfl)
theorem dX6_wordNumber_20 : decode cX6_wordNumber 20 = .ok (.invokevirtual 245, 3) := dk_182 0 245 (dk_at dksX6_wordNumber_0 20 rfl rfl)
theorem dX6_wordNumber_23 : decode cX6_wordNumber 23 = .ok (.istore 5, 2) := dk_54 5 (dk_at dksX6_wordNumber_1 0 rfl rfl)
theorem dX6_wordNumber_25 : decode cX6_wordNumber 25 = .ok (.iload 5, 2) := dk_21 5 (dk_at dksX6_wordNumber_1 2 rfl rfl)
theorem dX6_wordNumber_27 : decode cX6_wordNumber 27 = .ok (.iconst (-1), 1) := dk_2 (dk_at dksX6_wordNumber_1 4 rfl rfl)
theorem dX6_wordNumber_28 : decode cX6_wordNumber 28 = .ok (.if_icmp .ne 7, 3) := dk_160 0 7 (dk_at dksX6_wordNumber_1 5 rfl rfl)
theorem dX6_wordNumber_31 : decode cX6_wordNumber 31 = .ok (.iconst (-1), 1) := dk_2 (dk_at dksX6_wordNumber_1 8 rfl rfl)
theorem dX6_wordNumber_32 : decode cX6_wordNumber 32 = .ok (.goto 9, 3) := dk_167 0 9 (dk_at dksX6_wordNumber_1 9 rfl rfl)
theorem dX6_wordNumber_35 : decode cX6_wordNumber 35 = .ok (.aload_n 0, 1) := dk_42 (dk_at dksX6_wordNumber_1 12 rfl rfl)
theorem dX6_wordNumber_36 : decode cX6_wordNumber 36 = .ok (.iload 5, 2) := dk_21 5 (dk_at dksX6_wordNumber_1 13 rfl rfl)
theorem dX6_wordNumber_38 : decode cX6_wordNumber 38 = .ok (.invokevirtual 319, 3) := dk_182 1 63 (dk_at dksX6_wordNumber_1 15 rfl rfl)
theorem dX6_wordNumber_41 : decode cX6_wordNumber 41 = .ok (.istore 4, 2) := dk_54 4 (dk_at dksX6_wordNumber_1 18 rfl rfl)
theorem dX6_wordNumber_43 : decode cX6_wordNumber 43 = .ok (.iload 4, 2) := dk_21 4 (dk_at dksX6_wordNumber_1 20 rfl rfl)
theorem dX6_wordNumber_45 : decode cX6_wordNumber 45 = .ok (.iconst (-1), 1) := dk_2 (dk_at dksX6_wordNumber_1 22 rfl rfl)
theorem dX6_wordNumber_46 : decode cX6_wordNumber 46 = .ok (.if_icmp .ne 5, 3) := dk_160 0 5 (dk_at dksX6_wordNumber_2 0 rfl rfl)
theorem dX6_wordNumber_49 : decode cX6_wordNumber 49 = .ok (.iconst 0, 1) := dk_3 (dk_at dksX6_wordNumber_2 3 rfl rfl)
theorem dX6_wordNumber_50 : decode cX6_wordNumber 50 = .ok (.ireturn, 1) := dk_172 (dk_at dksX6_wordNumber_2 4 rfl rfl)
theorem dX6_wordNumber_51 : decode cX6_wordNumber 51 = .ok (.aload_n 0, 1) := dk_42 (dk_at dksX6_wordNumber_2 5 rfl rfl)
theorem dX6_wordNumber_52 : decode cX6_wordNumber 52 = .ok (.getfield 55, 3) := dk_180 0 55 (dk_at dksX6_wordNumber_2 6 rfl rfl)
theorem dX6_wordNumber_55 : decode cX6_wordNumber 55 = .ok (.iload_n 1, 1) := dk_27 (dk_at dksX6_wordNumber_2 9 rfl rfl)
theorem dX6_wordNumber_56 : decode cX6_wordNumber 56 = .ok (.aload_n 0, 1) := dk_42 (dk_at dksX6_wordNumber_2 10 rfl rfl)
theorem dX6_wordNumber_57 : decode cX6_wordNumber 57 = .ok (.getfield 55, 3) := dk_180 0 55 (dk_at dksX6_wordNumber_2 11 rfl rfl)
theorem dX6_wordNumber_60 : decode cX6_wordNumber 60 = .ok (.iload 4, 2) := dk_21 4 (dk_at dksX6_wordNumber_2 14 rfl rfl)
theorem dX6_wordNumber_62 : decode cX6_wordNumber 62 = .ok (.iaload, 1) := dk_46 (dk_at dksX6_wordNumber_2 16 rfl rfl)
theorem dX6_wordNumber_63 : decode cX6_wordNumber 63 = .ok (.iastore, 1) := dk_79 (dk_at dksX6_wordNumber_2 17 rfl rfl)
theorem dX6_wordNumber_64 : decode cX6_wordNumber 64 = .ok (.aload_n 0, 1) := dk_42 (dk_at dksX6_wordNumber_2 18 rfl rfl)
theorem dX6_wordNumber_65 : decode cX6_wordNumber 65 = .ok (.getfield 59, 3) := dk_180 0 59 (dk_at dksX6_wordNumber_2 19 rfl rfl)
theorem dX6_wordNumber_68 : decode cX6_wordNumber 68 = .ok (.iload_n 1, 1) := dk_27 (dk_at dksX6_wordNumber_2 22 rfl rfl)
theorem dX6_wordNumber_69 : decode cX6_wordNumber 69 = .ok (.aload_n 0, 1) := dk_42 (dk_at dksX6_wordNumber_2 23 rfl rfl)
theorem dX6_wordNumber_70 : decode cX6_wordNumber 70 = .ok (.getfield 59, 3) := dk_180 0 59 (dk_at dksX6_wordNumber_3 0 rfl rfl)
theorem dX6_wordNumber_73 : decode cX6_wordNumber 73 = .ok (.iload 4, 2) := dk_21 4 (dk_at dksX6_wordNumber_3 3 rfl rfl)
theorem dX6_wordNumber_75 : decode cX6_wordNumber 75 = .ok (.iaload, 1) := dk_46 (dk_at dksX6_wordNumber_3 5 rfl rfl)
theorem dX6_wordNumber_76 : decode cX6_wordNumber 76 = .ok (.iastore, 1) := dk_79 (dk_at dksX6_wordNumber_3 6 rfl rfl)
theorem dX6_wordNumber_77 : decode cX6_wordNumber 77 = .ok (.iconst 1, 1) := dk_4 (dk_at dksX6_wordNumber_3 7 rfl rfl)
theorem dX6_wordNumber_78 : decode cX6_wordNumber 78 = .ok (.ireturn, 1) := dk_172 (dk_at dksX6_wordNumber_3 8 rfl rfl)
abbrev cX6_meant : ByteArray := prog_9_method_38_code
def yX6_meant : MethodName := ⟨RX6, "meant", "(I)I"⟩
def dkwX6_meant_13 : List UInt8 := [46, 5, 100, 156, 0, 7, 2, 167, 0, 11, 42, 180, 0, 68, 29, 46, 5, 100, 172]
abbrev dktX6_meant_13 : List UInt8 := dkwX6_meant_13 ++ []
def dkwX6_meant_12 : List UInt8 := [180, 0, 68, 42, 180, 0, 77, 28, 46, 42, 180, 0, 68, 29, 46, 79, 167, 255, 232, 42, 180, 0, 68, 29]
abbrev dktX6_meant_12 : List UInt8 := dkwX6_meant_12 ++ dktX6_meant_13
def dkwX6_meant_11 : List UInt8 := [180, 0, 68, 29, 4, 79, 167, 0, 6, 21, 8, 62, 167, 254, 247, 28, 158, 0, 26, 132, 2, 255, 42]
abbrev dktX6_meant_11 : List UInt8 := dkwX6_meant_11 ++ dktX6_meant_12
def dkwX6_meant_10 : List UInt8 := [180, 0, 83, 21, 5, 182, 0, 178, 182, 0, 245, 167, 0, 4, 2, 54, 8, 21, 8, 2, 160, 0, 13, 42]
abbrev dktX6_meant_10 : List UInt8 := dkwX6_meant_10 ++ dktX6_meant_11
def dkwX6_meant_9 : List UInt8 := [180, 0, 68, 29, 5, 21, 7, 96, 79, 167, 0, 50, 21, 6, 7, 160, 0, 22, 42, 180, 0, 32, 42]
abbrev dktX6_meant_9 : List UInt8 := dkwX6_meant_9 ++ dktX6_meant_10
def dkwX6_meant_8 : List UInt8 := [3, 182, 0, 226, 42, 180, 0, 68, 29, 5, 21, 5, 96, 79, 167, 0, 69, 21, 7, 2, 159, 0, 16, 42]
abbrev dktX6_meant_8 : List UInt8 := dkwX6_meant_8 ++ dktX6_meant_9
def dkwX6_meant_7 : List UInt8 := [16, 7, 182, 0, 223, 42, 180, 0, 83, 21, 5, 16, 6, 182, 0, 223, 4, 160, 0, 7, 4, 167, 0, 4]
abbrev dktX6_meant_7 : List UInt8 := dkwX6_meant_7 ++ dktX6_meant_8
def dkwX6_meant_6 : List UInt8 := [6, 160, 0, 64, 42, 180, 0, 55, 21, 5, 46, 2, 160, 0, 40, 42, 21, 5, 42, 180, 0, 83, 21, 5]
abbrev dktX6_meant_6 : List UInt8 := dkwX6_meant_6 ++ dktX6_meant_7
def dkwX6_meant_5 : List UInt8 := [180, 0, 83, 21, 4, 182, 0, 125, 5, 159, 0, 13, 42, 180, 0, 68, 29, 4, 79, 167, 0, 136, 21, 6]
abbrev dktX6_meant_5 : List UInt8 := dkwX6_meant_5 ++ dktX6_meant_6
def dkwX6_meant_4 : List UInt8 := [21, 5, 182, 0, 178, 3, 182, 1, 6, 167, 0, 4, 2, 54, 7, 21, 4, 2, 159, 0, 16, 42]
abbrev dktX6_meant_4 : List UInt8 := dkwX6_meant_4 ++ dktX6_meant_5
def dkwX6_meant_3 : List UInt8 := [182, 0, 223, 54, 6, 21, 6, 7, 160, 0, 28, 42, 42, 180, 0, 83, 29, 182, 0, 196, 42, 180, 0, 83]
abbrev dktX6_meant_3 : List UInt8 := dkwX6_meant_3 ++ dktX6_meant_4
def dkwX6_meant_2 : List UInt8 := [182, 1, 0, 54, 4, 42, 180, 0, 83, 29, 182, 1, 10, 54, 5, 42, 180, 0, 83, 21, 5, 8]
abbrev dktX6_meant_2 : List UInt8 := dkwX6_meant_2 ++ dktX6_meant_3
def dkwX6_meant_1 : List UInt8 := [181, 0, 77, 42, 180, 0, 77, 28, 29, 79, 132, 2, 1, 42, 42, 180, 0, 83, 29, 182, 0, 196]
abbrev dktX6_meant_1 : List UInt8 := dkwX6_meant_1 ++ dktX6_meant_2
def dkwX6_meant_0 : List UInt8 := [3, 61, 27, 62, 42, 180, 0, 68, 29, 46, 154, 1, 6, 42, 42, 180, 0, 77, 28, 4, 96, 184, 0, 134]
abbrev dktX6_meant_0 : List UInt8 := dkwX6_meant_0 ++ dktX6_meant_1
theorem dksX6_meant_0 : cX6_meant.data.toList.drop 0 = dktX6_meant_0 := by decide +kernel
theorem dksX6_meant_1 : cX6_meant.data.toList.drop 24 = dktX6_meant_1 := dk_seg dksX6_meant_0 24 rfl rfl
theorem dksX6_meant_2 : cX6_meant.data.toList.drop 46 = dktX6_meant_2 := dk_seg dksX6_meant_1 22 rfl rfl
theorem dksX6_meant_3 : cX6_meant.data.toList.drop 68 = dktX6_meant_3 := dk_seg dksX6_meant_2 22 rfl rfl
theorem dksX6_meant_4 : cX6_meant.data.toList.drop 92 = dktX6_meant_4 := dk_seg dksX6_meant_3 24 rfl rfl
theorem dksX6_meant_5 : cX6_meant.data.toList.drop 114 = dktX6_meant_5 := dk_seg dksX6_meant_4 22 rfl rfl
theorem dksX6_meant_6 : cX6_meant.data.toList.drop 138 = dktX6_meant_6 := dk_seg dksX6_meant_5 24 rfl rfl
theorem dksX6_meant_7 : cX6_meant.data.toList.drop 162 = dktX6_meant_7 := dk_seg dksX6_meant_6 24 rfl rfl
theorem dksX6_meant_8 : cX6_meant.data.toList.drop 186 = dktX6_meant_8 := dk_seg dksX6_meant_7 24 rfl rfl
theorem dksX6_meant_9 : cX6_meant.data.toList.drop 210 = dktX6_meant_9 := dk_seg dksX6_meant_8 24 rfl rfl
theorem dksX6_meant_10 : cX6_meant.data.toList.drop 233 = dktX6_meant_10 := dk_seg dksX6_meant_9 23 rfl rfl
theorem dksX6_meant_11 : cX6_meant.data.toList.drop 257 = dktX6_meant_11 := dk_seg dksX6_meant_10 24 rfl rfl
theorem dksX6_meant_12 : cX6_meant.data.toList.drop 280 = dktX6_meant_12 := dk_seg dksX6_meant_11 23 rfl rfl
theorem dksX6_meant_13 : cX6_meant.data.toList.drop 304 = dktX6_meant_13 := dk_seg dksX6_meant_12 24 rfl rfl
theorem dX6_meant_0 : decode cX6_meant 0 = .ok (.iconst 0, 1) := dk_3 (dk_at dksX6_meant_0 0 rfl rfl)
theorem dX6_meant_1 : decode cX6_meant 1 = .ok (.istore_n 2, 1) := dk_61 (dk_at dksX6_meant_0 1 rfl rfl)
theorem dX6_meant_2 : decode cX6_meant 2 = .ok (.iload_n 1, 1) := dk_27 (dk_at dksX6_meant_0 2 rfl rfl)
theorem dX6_meant_3 : decode cX6_meant 3 = .ok (.istore_n 3, 1) := dk_62 (dk_at dksX6_meant_0 3 rfl rfl)
theorem dX6_meant_4 : decode cX6_meant 4 = .ok (.aload_n 0, 1) := dk_42 (dk_at dksX6_meant_0 4 rfl rfl)
theorem dX6_meant_5 : decode cX6_meant 5 = .ok (.getfield 68, 3) := dk_180 0 68 (dk_at dksX6_meant_0 5 rfl rfl)
theorem dX6_meant_8 : decode cX6_meant 8 = .ok (.iload_n 3, 1) := dk_29 (dk_at dksX6_meant_0 8 rfl rfl)
theorem dX6_meant_9 : decode cX6_meant 9 = .ok (.iaload, 1) := dk_46 (dk_at dksX6_meant_0 9 rfl rfl)
theorem dX6_meant_10 : decode cX6_meant 10 = .ok (.ifCond .ne 262, 3) := dk_154 1 6 (dk_at dksX6_meant_0 10 rfl rfl)
theorem dX6_meant_13 : decode cX6_meant 13 = .ok (.aload_n 0, 1) := dk_42 (dk_at dksX6_meant_0 13 rfl rfl)
theorem dX6_meant_14 : decode cX6_meant 14 = .ok (.aload_n 0, 1) := dk_42 (dk_at dksX6_meant_0 14 rfl rfl)
theorem dX6_meant_15 : decode cX6_meant 15 = .ok (.getfield 77, 3) := dk_180 0 77 (dk_at dksX6_meant_0 15 rfl rfl)
theorem dX6_meant_18 : decode cX6_meant 18 = .ok (.iload_n 2, 1) := dk_28 (dk_at dksX6_meant_0 18 rfl rfl)
theorem dX6_meant_19 : decode cX6_meant 19 = .ok (.iconst 1, 1) := dk_4 (dk_at dksX6_meant_0 19 rfl rfl)
theorem dX6_meant_20 : decode cX6_meant 20 = .ok (.iadd, 1) := dk_96 (dk_at dksX6_meant_0 20 rfl rfl)
theorem dX6_meant_21 : decode cX6_meant 21 = .ok (.invokestatic 134, 3) := dk_184 0 134 (dk_at dksX6_meant_0 21 rfl rfl)
theorem dX6_meant_24 : decode cX6_meant 24 = .ok (.putfield 77, 3) := dk_181 0 77 (dk_at dksX6_meant_1 0 rfl rfl)
theorem dX6_meant_27 : decode cX6_meant 27 = .ok (.aload_n 0, 1) := dk_42 (dk_at dksX6_meant_1 3 rfl rfl)
theorem dX6_meant_28 : decode cX6_meant 28 = .ok (.getfield 77, 3) := dk_180 0 77 (dk_at dksX6_meant_1 4 rfl rfl)
theorem dX6_meant_31 : decode cX6_meant 31 = .ok (.iload_n 2, 1) := dk_28 (dk_at dksX6_meant_1 7 rfl rfl)
theorem dX6_meant_32 : decode cX6_meant 32 = .ok (.iload_n 3, 1) := dk_29 (dk_at dksX6_meant_1 8 rfl rfl)
theorem dX6_meant_33 : decode cX6_meant 33 = .ok (.iastore, 1) := dk_79 (dk_at dksX6_meant_1 9 rfl rfl)
theorem dX6_meant_34 : decode cX6_meant 34 = .ok (.iinc 2 1, 3) := dk_132 2 1 (dk_at dksX6_meant_1 10 rfl rfl)
theorem dX6_meant_37 : decode cX6_meant 37 = .ok (.aload_n 0, 1) := dk_42 (dk_at dksX6_meant_1 13 rfl rfl)
theorem dX6_meant_38 : decode cX6_meant 38 = .ok (.aload_n 0, 1) := dk_42 (dk_at dksX6_meant_1 14 rfl rfl)
theorem dX6_meant_39 : decode cX6_meant 39 = .ok (.getfield 83, 3) := dk_180 0 83 (dk_at dksX6_meant_1 15 rfl rfl)
theorem dX6_meant_42 : decode cX6_meant 42 = .ok (.iload_n 3, 1) := dk_29 (dk_at dksX6_meant_1 18 rfl rfl)
theorem dX6_meant_43 : decode cX6_meant 43 = .ok (.invokevirtual 196, 3) := dk_182 0 196 (dk_at dksX6_meant_1 19 rfl rfl)
theorem dX6_meant_46 : decode cX6_meant 46 = .ok (.invokevirtual 256, 3) := dk_182 1 0 (dk_at dksX6_meant_2 0 rfl rfl)
theorem dX6_meant_49 : decode cX6_meant 49 = .ok (.istore 4, 2) := dk_54 4 (dk_at dksX6_meant_2 3 rfl rfl)
theorem dX6_meant_51 : decode cX6_meant 51 = .ok (.aload_n 0, 1) := dk_42 (dk_at dksX6_meant_2 5 rfl rfl)
theorem dX6_meant_52 : decode cX6_meant 52 = .ok (.getfield 83, 3) := dk_180 0 83 (dk_at dksX6_meant_2 6 rfl rfl)
theorem dX6_meant_55 : decode cX6_meant 55 = .ok (.iload_n 3, 1) := dk_29 (dk_at dksX6_meant_2 9 rfl rfl)
theorem dX6_meant_56 : decode cX6_meant 56 = .ok (.invokevirtual 266, 3) := dk_182 1 10 (dk_at dksX6_meant_2 10 rfl rfl)
theorem dX6_meant_59 : decode cX6_meant 59 = .ok (.istore 5, 2) := dk_54 5 (dk_at dksX6_meant_2 13 rfl rfl)
theorem dX6_meant_61 : decode cX6_meant 61 = .ok (.aload_n 0, 1) := dk_42 (dk_at dksX6_meant_2 15 rfl rfl)
theorem dX6_meant_62 : decode cX6_meant 62 = .ok (.getfield 83, 3) := dk_180 0 83 (dk_at dksX6_meant_2 16 rfl rfl)
theorem dX6_meant_65 : decode cX6_meant 65 = .ok (.iload 5, 2) := dk_21 5 (dk_at dksX6_meant_2 19 rfl rfl)
theorem dX6_meant_67 : decode cX6_meant 67 = .ok (.iconst 5, 1) := dk_8 (dk_at dksX6_meant_2 21 rfl rfl)
theorem dX6_meant_68 : decode cX6_meant 68 = .ok (.invokevirtual 223, 3) := dk_182 0 223 (dk_at dksX6_meant_3 0 rfl rfl)
theorem dX6_meant_71 : decode cX6_meant 71 = .ok (.istore 6, 2) := dk_54 6 (dk_at dksX6_meant_3 3 rfl rfl)
theorem dX6_meant_73 : decode cX6_meant 73 = .ok (.iload 6, 2) := dk_21 6 (dk_at dksX6_meant_3 5 rfl rfl)
theorem dX6_meant_75 : decode cX6_meant 75 = .ok (.iconst 4, 1) := dk_7 (dk_at dksX6_meant_3 7 rfl rfl)
theorem dX6_meant_76 : decode cX6_meant 76 = .ok (.if_icmp .ne 28, 3) := dk_160 0 28 (dk_at dksX6_meant_3 8 rfl rfl)
theorem dX6_meant_79 : decode cX6_meant 79 = .ok (.aload_n 0, 1) := dk_42 (dk_at dksX6_meant_3 11 rfl rfl)
theorem dX6_meant_80 : decode cX6_meant 80 = .ok (.aload_n 0, 1) := dk_42 (dk_at dksX6_meant_3 12 rfl rfl)
theorem dX6_meant_81 : decode cX6_meant 81 = .ok (.getfield 83, 3) := dk_180 0 83 (dk_at dksX6_meant_3 13 rfl rfl)
theorem dX6_meant_84 : decode cX6_meant 84 = .ok (.iload_n 3, 1) := dk_29 (dk_at dksX6_meant_3 16 rfl rfl)
theorem dX6_meant_85 : decode cX6_meant 85 = .ok (.invokevirtual 196, 3) := dk_182 0 196 (dk_at dksX6_meant_3 17 rfl rfl)
theorem dX6_meant_88 : decode cX6_meant 88 = .ok (.aload_n 0, 1) := dk_42 (dk_at dksX6_meant_3 20 rfl rfl)
theorem dX6_meant_89 : decode cX6_meant 89 = .ok (.getfield 83, 3) := dk_180 0 83 (dk_at dksX6_meant_3 21 rfl rfl)
theorem dX6_meant_92 : decode cX6_meant 92 = .ok (.iload 5, 2) := dk_21 5 (dk_at dksX6_meant_4 0 rfl rfl)
theorem dX6_meant_94 : decode cX6_meant 94 = .ok (.invokevirtual 178, 3) := dk_182 0 178 (dk_at dksX6_meant_4 2 rfl rfl)
theorem dX6_meant_97 : decode cX6_meant 97 = .ok (.iconst 0, 1) := dk_3 (dk_at dksX6_meant_4 5 rfl rfl)
theorem dX6_meant_98 : decode cX6_meant 98 = .ok (.invokevirtual 262, 3) := dk_182 1 6 (dk_at dksX6_meant_4 6 rfl rfl)
theorem dX6_meant_101 : decode cX6_meant 101 = .ok (.goto 4, 3) := dk_167 0 4 (dk_at dksX6_meant_4 9 rfl rfl)
theorem dX6_meant_104 : decode cX6_meant 104 = .ok (.iconst (-1), 1) := dk_2 (dk_at dksX6_meant_4 12 rfl rfl)
theorem dX6_meant_105 : decode cX6_meant 105 = .ok (.istore 7, 2) := dk_54 7 (dk_at dksX6_meant_4 13 rfl rfl)
theorem dX6_meant_107 : decode cX6_meant 107 = .ok (.iload 4, 2) := dk_21 4 (dk_at dksX6_meant_4 15 rfl rfl)
theorem dX6_meant_109 : decode cX6_meant 109 = .ok (.iconst (-1), 1) := dk_2 (dk_at dksX6_meant_4 17 rfl rfl)
theorem dX6_meant_110 : decode cX6_meant 110 = .ok (.if_icmp .eq 16, 3) := dk_159 0 16 (dk_at dksX6_meant_4 18 rfl rfl)
theorem dX6_meant_113 : decode cX6_meant 113 = .ok (.aload_n 0, 1) := dk_42 (dk_at dksX6_meant_4 21 rfl rfl)
theorem dX6_meant_114 : decode cX6_meant 114 = .ok (.getfield 83, 3) := dk_180 0 83 (dk_at dksX6_meant_5 0 rfl rfl)
theorem dX6_meant_117 : decode cX6_meant 117 = .ok (.iload 4, 2) := dk_21 4 (dk_at dksX6_meant_5 3 rfl rfl)
theorem dX6_meant_119 : decode cX6_meant 119 = .ok (.invokevirtual 125, 3) := dk_182 0 125 (dk_at dksX6_meant_5 5 rfl rfl)
theorem dX6_meant_122 : decode cX6_meant 122 = .ok (.iconst 2, 1) := dk_5 (dk_at dksX6_meant_5 8 rfl rfl)
theorem dX6_meant_123 : decode cX6_meant 123 = .ok (.if_icmp .eq 13, 3) := dk_159 0 13 (dk_at dksX6_meant_5 9 rfl rfl)
theorem dX6_meant_126 : decode cX6_meant 126 = .ok (.aload_n 0, 1) := dk_42 (dk_at dksX6_meant_5 12 rfl rfl)
theorem dX6_meant_127 : decode cX6_meant 127 = .ok (.getfield 68, 3) := dk_180 0 68 (dk_at dksX6_meant_5 13 rfl rfl)
theorem dX6_meant_130 : decode cX6_meant 130 = .ok (.iload_n 3, 1) := dk_29 (dk_at dksX6_meant_5 16 rfl rfl)
theorem dX6_meant_131 : decode cX6_meant 131 = .ok (.iconst 1, 1) := dk_4 (dk_at dksX6_meant_5 17 rfl rfl)
theorem dX6_meant_132 : decode cX6_meant 132 = .ok (.iastore, 1) := dk_79 (dk_at dksX6_meant_5 18 rfl rfl)
theorem dX6_meant_133 : decode cX6_meant 133 = .ok (.goto 136, 3) := dk_167 0 136 (dk_at dksX6_meant_5 19 rfl rfl)
theorem dX6_meant_136 : decode cX6_meant 136 = .ok (.iload 6, 2) := dk_21 6 (dk_at dksX6_meant_5 22 rfl rfl)
theorem dX6_meant_138 : decode cX6_meant 138 = .ok (.iconst 3, 1) := dk_6 (dk_at dksX6_meant_6 0 rfl rfl)
theorem dX6_meant_139 : decode cX6_meant 139 = .ok (.if_icmp .ne 64, 3) := dk_160 0 64 (dk_at dksX6_meant_6 1 rfl rfl)
theorem dX6_meant_142 : decode cX6_meant 142 = .ok (.aload_n 0, 1) := dk_42 (dk_at dksX6_meant_6 4 rfl rfl)
theorem dX6_meant_143 : decode cX6_meant 143 = .ok (.getfield 55, 3) := dk_180 0 55 (dk_at dksX6_meant_6 5 rfl rfl)
theorem dX6_meant_146 : decode cX6_meant 146 = .ok (.iload 5, 2) := dk_21 5 (dk_at dksX6_meant_6 8 rfl rfl)
theorem dX6_meant_148 : decode cX6_meant 148 = .ok (.iaload, 1) := dk_46 (dk_at dksX6_meant_6 10 rfl rfl)
theorem dX6_meant_149 : decode cX6_meant 149 = .ok (.iconst (-1), 1) := dk_2 (dk_at dksX6_meant_6 11 rfl rfl)
theorem dX6_meant_150 : decode cX6_meant 150 = .ok (.if_icmp .ne 40, 3) := dk_160 0 40 (dk_at dksX6_meant_6 12 rfl rfl)
theorem dX6_meant_153 : decode cX6_meant 153 = .ok (.aload_n 0, 1) := dk_42 (dk_at dksX6_meant_6 15 rfl rfl)
theorem dX6_meant_154 : decode cX6_meant 154 = .ok (.iload 5, 2) := dk_21 5 (dk_at dksX6_meant_6 16 rfl rfl)
theorem dX6_meant_156 : decode cX6_meant 156 = .ok (.aload_n 0, 1) := dk_42 (dk_at dksX6_meant_6 18 rfl rfl)
theorem dX6_meant_157 : decode cX6_meant 157 = .ok (.getfield 83, 3) := dk_180 0 83 (dk_at dksX6_meant_6 19 rfl rfl)
theorem dX6_meant_160 : decode cX6_meant 160 = .ok (.iload 5, 2) := dk_21 5 (dk_at dksX6_meant_6 22 rfl rfl)
theorem dX6_meant_162 : decode cX6_meant 162 = .ok (.bipush 7, 2) := dk_16 7 (dk_at dksX6_meant_7 0 rfl rfl)
theorem dX6_meant_164 : decode cX6_meant 164 = .ok (.invokevirtual 223, 3) := dk_182 0 223 (dk_at dksX6_meant_7 2 rfl rfl)
theorem dX6_meant_167 : decode cX6_meant 167 = .ok (.aload_n 0, 1) := dk_42 (dk_at dksX6_meant_7 5 rfl rfl)
theorem dX6_meant_168 : decode cX6_meant 168 = .ok (.getfield 83, 3) := dk_180 0 83 (dk_at dksX6_meant_7 6 rfl rfl)
theorem dX6_meant_171 : decode cX6_meant 171 = .ok (.iload 5, 2) := dk_21 5 (dk_at dksX6_meant_7 9 rfl rfl)
theorem dX6_meant_173 : decode cX6_meant 173 = .ok (.bipush 6, 2) := dk_16 6 (dk_at dksX6_meant_7 11 rfl rfl)
theorem dX6_meant_175 : decode cX6_meant 175 = .ok (.invokevirtual 223, 3) := dk_182 0 223 (dk_at dksX6_meant_7 13 rfl rfl)
theorem dX6_meant_178 : decode cX6_meant 178 = .ok (.iconst 1, 1) := dk_4 (dk_at dksX6_meant_7 16 rfl rfl)
theorem dX6_meant_179 : decode cX6_meant 179 = .ok (.if_icmp .ne 7, 3) := dk_160 0 7 (dk_at dksX6_meant_7 17 rfl rfl)
theorem dX6_meant_182 : decode cX6_meant 182 = .ok (.iconst 1, 1) := dk_4 (dk_at dksX6_meant_7 20 rfl rfl)
theorem dX6_meant_183 : decode cX6_meant 183 = .ok (.goto 4, 3) := dk_167 0 4 (dk_at dksX6_meant_7 21 rfl rfl)
theorem dX6_meant_186 : decode cX6_meant 186 = .ok (.iconst 0, 1) := dk_3 (dk_at dksX6_meant_8 0 rfl rfl)
theorem dX6_meant_187 : decode cX6_meant 187 = .ok (.invokevirtual 226, 3) := dk_182 0 226 (dk_at dksX6_meant_8 1 rfl rfl)
theorem dX6_meant_190 : decode cX6_meant 190 = .ok (.aload_n 0, 1) := dk_42 (dk_at dksX6_meant_8 4 rfl rfl)
theorem dX6_meant_191 : decode cX6_meant 191 = .ok (.getfield 68, 3) := dk_180 0 68 (dk_at dksX6_meant_8 5 rfl rfl)
theorem dX6_meant_194 : decode cX6_meant 194 = .ok (.iload_n 3, 1) := dk_29 (dk_at dksX6_meant_8 8 rfl rfl)
theorem dX6_meant_195 : decode cX6_meant 195 = .ok (.iconst 2, 1) := dk_5 (dk_at dksX6_meant_8 9 rfl rfl)
theorem dX6_meant_196 : decode cX6_meant 196 = .ok (.iload 5, 2) := dk_21 5 (dk_at dksX6_meant_8 10 rfl rfl)
theorem dX6_meant_198 : decode cX6_meant 198 = .ok (.iadd, 1) := dk_96 (dk_at dksX6_meant_8 12 rfl rfl)
theorem dX6_meant_199 : decode cX6_meant 199 = .ok (.iastore, 1) := dk_79 (dk_at dksX6_meant_8 13 rfl rfl)
theorem dX6_meant_200 : decode cX6_meant 200 = .ok (.goto 69, 3) := dk_167 0 69 (dk_at dksX6_meant_8 14 rfl rfl)
theorem dX6_meant_203 : decode cX6_meant 203 = .ok (.iload 7, 2) := dk_21 7 (dk_at dksX6_meant_8 17 rfl rfl)
theorem dX6_meant_205 : decode cX6_meant 205 = .ok (.iconst (-1), 1) := dk_2 (dk_at dksX6_meant_8 19 rfl rfl)
theorem dX6_meant_206 : decode cX6_meant 206 = .ok (.if_icmp .eq 16, 3) := dk_159 0 16 (dk_at dksX6_meant_8 20 rfl rfl)
theorem dX6_meant_209 : decode cX6_meant 209 = .ok (.aload_n 0, 1) := dk_42 (dk_at dksX6_meant_8 23 rfl rfl)
theorem dX6_meant_210 : decode cX6_meant 210 = .ok (.getfield 68, 3) := dk_180 0 68 (dk_at dksX6_meant_9 0 rfl rfl)
theorem dX6_meant_213 : decode cX6_meant 213 = .ok (.iload_n 3, 1) := dk_29 (dk_at dksX6_meant_9 3 rfl rfl)
theorem dX6_meant_214 : decode cX6_meant 214 = .ok (.iconst 2, 1) := dk_5 (dk_at dksX6_meant_9 4 rfl rfl)
theorem dX6_meant_215 : decode cX6_meant 215 = .ok (.iload 7, 2) := dk_21 7 (dk_at dksX6_meant_9 5 rfl rfl)
theorem dX6_meant_217 : decode cX6_meant 217 = .ok (.iadd, 1) := dk_96 (dk_at dksX6_meant_9 7 rfl rfl)
theorem dX6_meant_218 : decode cX6_meant 218 = .ok (.iastore, 1) := dk_79 (dk_at dksX6_meant_9 8 rfl rfl)
theorem dX6_meant_219 : decode cX6_meant 219 = .ok (.goto 50, 3) := dk_167 0 50 (dk_at dksX6_meant_9 9 rfl rfl)
theorem dX6_meant_222 : decode cX6_meant 222 = .ok (.iload 6, 2) := dk_21 6 (dk_at dksX6_meant_9 12 rfl rfl)
theorem dX6_meant_224 : decode cX6_meant 224 = .ok (.iconst 4, 1) := dk_7 (dk_at dksX6_meant_9 14 rfl rfl)
theorem dX6_meant_225 : decode cX6_meant 225 = .ok (.if_icmp .ne 22, 3) := dk_160 0 22 (dk_at dksX6_meant_9 15 rfl rfl)
theorem dX6_meant_228 : decode cX6_meant 228 = .ok (.aload_n 0, 1) := dk_42 (dk_at dksX6_meant_9 18 rfl rfl)
theorem dX6_meant_229 : decode cX6_meant 229 = .ok (.getfield 32, 3) := dk_180 0 32 (dk_at dksX6_meant_9 19 rfl rfl)
theorem dX6_meant_232 : decode cX6_meant 232 = .ok (.aload_n 0, 1) := dk_42 (dk_at dksX6_meant_9 22 rfl rfl)
theorem dX6_meant_233 : decode cX6_meant 233 = .ok (.getfield 83, 3) := dk_180 0 83 (dk_at dksX6_meant_10 0 rfl rfl)
theorem dX6_meant_236 : decode cX6_meant 236 = .ok (.iload 5, 2) := dk_21 5 (dk_at dksX6_meant_10 3 rfl rfl)
theorem dX6_meant_238 : decode cX6_meant 238 = .ok (.invokevirtual 178, 3) := dk_182 0 178 (dk_at dksX6_meant_10 5 rfl rfl)
theorem dX6_meant_241 : decode cX6_meant 241 = .ok (.invokevirtual 245, 3) := dk_182 0 245 (dk_at dksX6_meant_10 8 rfl rfl)
theorem dX6_meant_244 : decode cX6_meant 244 = .ok (.goto 4, 3) := dk_167 0 4 (dk_at dksX6_meant_10 11 rfl rfl)
theorem dX6_meant_247 : decode cX6_meant 247 = .ok (.iconst (-1), 1) := dk_2 (dk_at dksX6_meant_10 14 rfl rfl)
theorem dX6_meant_248 : decode cX6_meant 248 = .ok (.istore 8, 2) := dk_54 8 (dk_at dksX6_meant_10 15 rfl rfl)
theorem dX6_meant_250 : decode cX6_meant 250 = .ok (.iload 8, 2) := dk_21 8 (dk_at dksX6_meant_10 17 rfl rfl)
theorem dX6_meant_252 : decode cX6_meant 252 = .ok (.iconst (-1), 1) := dk_2 (dk_at dksX6_meant_10 19 rfl rfl)
theorem dX6_meant_253 : decode cX6_meant 253 = .ok (.if_icmp .ne 13, 3) := dk_160 0 13 (dk_at dksX6_meant_10 20 rfl rfl)
theorem dX6_meant_256 : decode cX6_meant 256 = .ok (.aload_n 0, 1) := dk_42 (dk_at dksX6_meant_10 23 rfl rfl)
theorem dX6_meant_257 : decode cX6_meant 257 = .ok (.getfield 68, 3) := dk_180 0 68 (dk_at dksX6_meant_11 0 rfl rfl)
theorem dX6_meant_260 : decode cX6_meant 260 = .ok (.iload_n 3, 1) := dk_29 (dk_at dksX6_meant_11 3 rfl rfl)
theorem dX6_meant_261 : decode cX6_meant 261 = .ok (.iconst 1, 1) := dk_4 (dk_at dksX6_meant_11 4 rfl rfl)
theorem dX6_meant_262 : decode cX6_meant 262 = .ok (.iastore, 1) := dk_79 (dk_at dksX6_meant_11 5 rfl rfl)
theorem dX6_meant_263 : decode cX6_meant 263 = .ok (.goto 6, 3) := dk_167 0 6 (dk_at dksX6_meant_11 6 rfl rfl)
theorem dX6_meant_266 : decode cX6_meant 266 = .ok (.iload 8, 2) := dk_21 8 (dk_at dksX6_meant_11 9 rfl rfl)
theorem dX6_meant_268 : decode cX6_meant 268 = .ok (.istore_n 3, 1) := dk_62 (dk_at dksX6_meant_11 11 rfl rfl)
theorem dX6_meant_269 : decode cX6_meant 269 = .ok (.goto (-265), 3) := dk_167 254 247 (dk_at dksX6_meant_11 12 rfl rfl)
theorem dX6_meant_272 : decode cX6_meant 272 = .ok (.iload_n 2, 1) := dk_28 (dk_at dksX6_meant_11 15 rfl rfl)
theorem dX6_meant_273 : decode cX6_meant 273 = .ok (.ifCond .le 26, 3) := dk_158 0 26 (dk_at dksX6_meant_11 16 rfl rfl)
theorem dX6_meant_276 : decode cX6_meant 276 = .ok (.iinc 2 (-1), 3) := dk_132 2 255 (dk_at dksX6_meant_11 19 rfl rfl)
theorem dX6_meant_279 : decode cX6_meant 279 = .ok (.aload_n 0, 1) := dk_42 (dk_at dksX6_meant_11 22 rfl rfl)
theorem dX6_meant_280 : decode cX6_meant 280 = .ok (.getfield 68, 3) := dk_180 0 68 (dk_at dksX6_meant_12 0 rfl rfl)
theorem dX6_meant_283 : decode cX6_meant 283 = .ok (.aload_n 0, 1) := dk_42 (dk_at dksX6_meant_12 3 rfl rfl)
theorem dX6_meant_284 : decode cX6_meant 284 = .ok (.getfield 77, 3) := dk_180 0 77 (dk_at dksX6_meant_12 4 rfl rfl)
theorem dX6_meant_287 : decode cX6_meant 287 = .ok (.iload_n 2, 1) := dk_28 (dk_at dksX6_meant_12 7 rfl rfl)
theorem dX6_meant_288 : decode cX6_meant 288 = .ok (.iaload, 1) := dk_46 (dk_at dksX6_meant_12 8 rfl rfl)
theorem dX6_meant_289 : decode cX6_meant 289 = .ok (.aload_n 0, 1) := dk_42 (dk_at dksX6_meant_12 9 rfl rfl)
theorem dX6_meant_290 : decode cX6_meant 290 = .ok (.getfield 68, 3) := dk_180 0 68 (dk_at dksX6_meant_12 10 rfl rfl)
theorem dX6_meant_293 : decode cX6_meant 293 = .ok (.iload_n 3, 1) := dk_29 (dk_at dksX6_meant_12 13 rfl rfl)
theorem dX6_meant_294 : decode cX6_meant 294 = .ok (.iaload, 1) := dk_46 (dk_at dksX6_meant_12 14 rfl rfl)
theorem dX6_meant_295 : decode cX6_meant 295 = .ok (.iastore, 1) := dk_79 (dk_at dksX6_meant_12 15 rfl rfl)
theorem dX6_meant_296 : decode cX6_meant 296 = .ok (.goto (-24), 3) := dk_167 255 232 (dk_at dksX6_meant_12 16 rfl rfl)
theorem dX6_meant_299 : decode cX6_meant 299 = .ok (.aload_n 0, 1) := dk_42 (dk_at dksX6_meant_12 19 rfl rfl)
theorem dX6_meant_300 : decode cX6_meant 300 = .ok (.getfield 68, 3) := dk_180 0 68 (dk_at dksX6_meant_12 20 rfl rfl)
theorem dX6_meant_303 : decode cX6_meant 303 = .ok (.iload_n 3, 1) := dk_29 (dk_at dksX6_meant_12 23 rfl rfl)
theorem dX6_meant_304 : decode cX6_meant 304 = .ok (.iaload, 1) := dk_46 (dk_at dksX6_meant_13 0 rfl rfl)
theorem dX6_meant_305 : decode cX6_meant 305 = .ok (.iconst 2, 1) := dk_5 (dk_at dksX6_meant_13 1 rfl rfl)
theorem dX6_meant_306 : decode cX6_meant 306 = .ok (.isub, 1) := dk_100 (dk_at dksX6_meant_13 2 rfl rfl)
theorem dX6_meant_307 : decode cX6_meant 307 = .ok (.ifCond .ge 7, 3) := dk_156 0 7 (dk_at dksX6_meant_13 3 rfl rfl)
theorem dX6_meant_310 : decode cX6_meant 310 = .ok (.iconst (-1), 1) := dk_2 (dk_at dksX6_meant_13 6 rfl rfl)
theorem dX6_meant_311 : decode cX6_meant 311 = .ok (.goto 11, 3) := dk_167 0 11 (dk_at dksX6_meant_13 7 rfl rfl)
theorem dX6_meant_314 : decode cX6_meant 314 = .ok (.aload_n 0, 1) := dk_42 (dk_at dksX6_meant_13 10 rfl rfl)
theorem dX6_meant_315 : decode cX6_meant 315 = .ok (.getfield 68, 3) := dk_180 0 68 (dk_at dksX6_meant_13 11 rfl rfl)
theorem dX6_meant_318 : decode cX6_meant 318 = .ok (.iload_n 3, 1) := dk_29 (dk_at dksX6_meant_13 14 rfl rfl)
theorem dX6_meant_319 : decode cX6_meant 319 = .ok (.iaload, 1) := dk_46 (dk_at dksX6_meant_13 15 rfl rfl)
theorem dX6_meant_320 : decode cX6_meant 320 = .ok (.iconst 2, 1) := dk_5 (dk_at dksX6_meant_13 16 rfl rfl)
theorem dX6_meant_321 : decode cX6_meant 321 = .ok (.isub, 1) := dk_100 (dk_at dksX6_meant_13 17 rfl rfl)
theorem dX6_meant_322 : decode cX6_meant 322 = .ok (.ireturn, 1) := dk_172 (dk_at dksX6_meant_13 18 rfl rfl)
abbrev cX6_isAbove : ByteArray := prog_9_method_41_code
def yX6_isAbove : MethodName := ⟨RX6, "isAbove", "(IIZ)Z"⟩
def dkwX6_isAbove_5 : List UInt8 := [180, 0, 55, 28, 46, 42, 180, 0, 59, 28, 46, 184, 1, 80, 158, 0, 7, 4, 167, 0, 4, 3, 172]
abbrev dktX6_isAbove_5 : List UInt8 := dkwX6_isAbove_5 ++ []
def dkwX6_isAbove_4 : List UInt8 := [3, 172, 42, 180, 0, 48, 42, 180, 0, 55, 27, 46, 42, 180, 0, 59, 27, 46, 42, 180, 0, 48, 42]
abbrev dktX6_isAbove_4 : List UInt8 := dkwX6_isAbove_4 ++ dktX6_isAbove_5
def dkwX6_isAbove_3 : List UInt8 := [154, 0, 20, 42, 180, 0, 59, 27, 46, 42, 180, 0, 55, 27, 46, 100, 4, 164, 0, 7, 4, 167, 0, 4]
abbrev dktX6_isAbove_3 : List UInt8 := dkwX6_isAbove_3 ++ dktX6_isAbove_4
def dkwX6_isAbove_2 : List UInt8 := [21, 5, 154, 0, 46, 29, 153, 0, 36, 42, 180, 0, 48, 42, 180, 0, 55, 27, 46, 182, 0, 234]
abbrev dktX6_isAbove_2 : List UInt8 := dkwX6_isAbove_2 ++ dktX6_isAbove_3
def dkwX6_isAbove_1 : List UInt8 := [159, 0, 14, 21, 4, 153, 0, 9, 21, 5, 4, 160, 0, 5, 3, 172, 21, 4, 4, 160, 0, 5, 4, 172]
abbrev dktX6_isAbove_1 : List UInt8 := dkwX6_isAbove_1 ++ dktX6_isAbove_2
def dkwX6_isAbove_0 : List UInt8 := [42, 180, 0, 83, 27, 8, 182, 0, 223, 54, 4, 42, 180, 0, 83, 28, 8, 182, 0, 223, 54, 5, 27, 28]
abbrev dktX6_isAbove_0 : List UInt8 := dkwX6_isAbove_0 ++ dktX6_isAbove_1
theorem dksX6_isAbove_0 : cX6_isAbove.data.toList.drop 0 = dktX6_isAbove_0 := by decide +kernel
theorem dksX6_isAbove_1 : cX6_isAbove.data.toList.drop 24 = dktX6_isAbove_1 := dk_seg dksX6_isAbove_0 24 rfl rfl
theorem dksX6_isAbove_2 : cX6_isAbove.data.toList.drop 48 = dktX6_isAbove_2 := dk_seg dksX6_isAbove_1 24 rfl rfl
theorem dksX6_isAbove_3 : cX6_isAbove.data.toList.drop 70 = dktX6_isAbove_3 := dk_seg dksX6_isAbove_2 22 rfl rfl
theorem dksX6_isAbove_4 : cX6_isAbove.data.toList.drop 94 = dktX6_isAbove_4 := dk_seg dksX6_isAbove_3 24 rfl rfl
theorem dksX6_isAbove_5 : cX6_isAbove.data.toList.drop 117 = dktX6_isAbove_5 := dk_seg dksX6_isAbove_4 23 rfl rfl
theorem dX6_isAbove_0 : decode cX6_isAbove 0 = .ok (.aload_n 0, 1) := dk_42 (dk_at dksX6_isAbove_0 0 rfl rfl)
theorem dX6_isAbove_1 : decode cX6_isAbove 1 = .ok (.getfield 83, 3) := dk_180 0 83 (dk_at dksX6_isAbove_0 1 rfl rfl)
theorem dX6_isAbove_4 : decode cX6_isAbove 4 = .ok (.iload_n 1, 1) := dk_27 (dk_at dksX6_isAbove_0 4 rfl rfl)
theorem dX6_isAbove_5 : decode cX6_isAbove 5 = .ok (.iconst 5, 1) := dk_8 (dk_at dksX6_isAbove_0 5 rfl rfl)
theorem dX6_isAbove_6 : decode cX6_isAbove 6 = .ok (.invokevirtual 223, 3) := dk_182 0 223 (dk_at dksX6_isAbove_0 6 rfl rfl)
theorem dX6_isAbove_9 : decode cX6_isAbove 9 = .ok (.istore 4, 2) := dk_54 4 (dk_at dksX6_isAbove_0 9 rfl rfl)
theorem dX6_isAbove_11 : decode cX6_isAbove 11 = .ok (.aload_n 0, 1) := dk_42 (dk_at dksX6_isAbove_0 11 rfl rfl)
theorem dX6_isAbove_12 : decode cX6_isAbove 12 = .ok (.getfield 83, 3) := dk_180 0 83 (dk_at dksX6_isAbove_0 12 rfl rfl)
theorem dX6_isAbove_15 : decode cX6_isAbove 15 = .ok (.iload_n 2, 1) := dk_28 (dk_at dksX6_isAbove_0 15 rfl rfl)
theorem dX6_isAbove_16 : decode cX6_isAbove 16 = .ok (.iconst 5, 1) := dk_8 (dk_at dksX6_isAbove_0 16 rfl rfl)
theorem dX6_isAbove_17 : decode cX6_isAbove 17 = .ok (.invokevirtual 223, 3) := dk_182 0 223 (dk_at dksX6_isAbove_0 17 rfl rfl)
theorem dX6_isAbove_20 : decode cX6_isAbove 20 = .ok (.istore 5, 2) := dk_54 5 (dk_at dksX6_isAbove_0 20 rfl rfl)
theorem dX6_isAbove_22 : decode cX6_isAbove 22 = .ok (.iload_n 1, 1) := dk_27 (dk_at dksX6_isAbove_0 22 rfl rfl)
theorem dX6_isAbove_23 : decode cX6_isAbove 23 = .ok (.iload_n 2, 1) := dk_28 (dk_at dksX6_isAbove_0 23 rfl rfl)
theorem dX6_isAbove_24 : decode cX6_isAbove 24 = .ok (.if_icmp .eq 14, 3) := dk_159 0 14 (dk_at dksX6_isAbove_1 0 rfl rfl)
theorem dX6_isAbove_27 : decode cX6_isAbove 27 = .ok (.iload 4, 2) := dk_21 4 (dk_at dksX6_isAbove_1 3 rfl rfl)
theorem dX6_isAbove_29 : decode cX6_isAbove 29 = .ok (.ifCond .eq 9, 3) := dk_153 0 9 (dk_at dksX6_isAbove_1 5 rfl rfl)
theorem dX6_isAbove_32 : decode cX6_isAbove 32 = .ok (.iload 5, 2) := dk_21 5 (dk_at dksX6_isAbove_1 8 rfl rfl)
theorem dX6_isAbove_34 : decode cX6_isAbove 34 = .ok (.iconst 1, 1) := dk_4 (dk_at dksX6_isAbove_1 10 rfl rfl)
theorem dX6_isAbove_35 : decode cX6_isAbove 35 = .ok (.if_icmp .ne 5, 3) := dk_160 0 5 (dk_at dksX6_isAbove_1 11 rfl rfl)
theorem dX6_isAbove_38 : decode cX6_isAbove 38 = .ok (.iconst 0, 1) := dk_3 (dk_at dksX6_isAbove_1 14 rfl rfl)
theorem dX6_isAbove_39 : decode cX6_isAbove 39 = .ok (.ireturn, 1) := dk_172 (dk_at dksX6_isAbove_1 15 rfl rfl)
theorem dX6_isAbove_40 : decode cX6_isAbove 40 = .ok (.iload 4, 2) := dk_21 4 (dk_at dksX6_isAbove_1 16 rfl rfl)
theorem dX6_isAbove_42 : decode cX6_isAbove 42 = .ok (.iconst 1, 1) := dk_4 (dk_at dksX6_isAbove_1 18 rfl rfl)
theorem dX6_isAbove_43 : decode cX6_isAbove 43 = .ok (.if_icmp .ne 5, 3) := dk_160 0 5 (dk_at dksX6_isAbove_1 19 rfl rfl)
theorem dX6_isAbove_46 : decode cX6_isAbove 46 = .ok (.iconst 1, 1) := dk_4 (dk_at dksX6_isAbove_1 22 rfl rfl)
theorem dX6_isAbove_47 : decode cX6_isAbove 47 = .ok (.ireturn, 1) := dk_172 (dk_at dksX6_isAbove_1 23 rfl rfl)
theorem dX6_isAbove_48 : decode cX6_isAbove 48 = .ok (.iload 5, 2) := dk_21 5 (dk_at dksX6_isAbove_2 0 rfl rfl)
theorem dX6_isAbove_50 : decode cX6_isAbove 50 = .ok (.ifCond .ne 46, 3) := dk_154 0 46 (dk_at dksX6_isAbove_2 2 rfl rfl)
theorem dX6_isAbove_53 : decode cX6_isAbove 53 = .ok (.iload_n 3, 1) := dk_29 (dk_at dksX6_isAbove_2 5 rfl rfl)
theorem dX6_isAbove_54 : decode cX6_isAbove 54 = .ok (.ifCond .eq 36, 3) := dk_153 0 36 (dk_at dksX6_isAbove_2 6 rfl rfl)
theorem dX6_isAbove_57 : decode cX6_isAbove 57 = .ok (.aload_n 0, 1) := dk_42 (dk_at dksX6_isAbove_2 9 rfl rfl)
theorem dX6_isAbove_58 : decode cX6_isAbove 58 = .ok (.getfield 48, 3) := dk_180 0 48 (dk_at dksX6_isAbove_2 10 rfl rfl)
theorem dX6_isAbove_61 : decode cX6_isAbove 61 = .ok (.aload_n 0, 1) := dk_42 (dk_at dksX6_isAbove_2 13 rfl rfl)
theorem dX6_isAbove_62 : decode cX6_isAbove 62 = .ok (.getfield 55, 3) := dk_180 0 55 (dk_at dksX6_isAbove_2 14 rfl rfl)
theorem dX6_isAbove_65 : decode cX6_isAbove 65 = .ok (.iload_n 1, 1) := dk_27 (dk_at dksX6_isAbove_2 17 rfl rfl)
theorem dX6_isAbove_66 : decode cX6_isAbove 66 = .ok (.iaload, 1) := dk_46 (dk_at dksX6_isAbove_2 18 rfl rfl)
theorem dX6_isAbove_67 : decode cX6_isAbove 67 = .ok (.invokevirtual 234, 3) := dk_182 0 234 (dk_at dksX6_isAbove_2 19 rfl rfl)
theorem dX6_isAbove_70 : decode cX6_isAbove 70 = .ok (.ifCond .ne 20, 3) := dk_154 0 20 (dk_at dksX6_isAbove_3 0 rfl rfl)
theorem dX6_isAbove_73 : decode cX6_isAbove 73 = .ok (.aload_n 0, 1) := dk_42 (dk_at dksX6_isAbove_3 3 rfl rfl)
theorem dX6_isAbove_74 : decode cX6_isAbove 74 = .ok (.getfield 59, 3) := dk_180 0 59 (dk_at dksX6_isAbove_3 4 rfl rfl)
theorem dX6_isAbove_77 : decode cX6_isAbove 77 = .ok (.iload_n 1, 1) := dk_27 (dk_at dksX6_isAbove_3 7 rfl rfl)
theorem dX6_isAbove_78 : decode cX6_isAbove 78 = .ok (.iaload, 1) := dk_46 (dk_at dksX6_isAbove_3 8 rfl rfl)
theorem dX6_isAbove_79 : decode cX6_isAbove 79 = .ok (.aload_n 0, 1) := dk_42 (dk_at dksX6_isAbove_3 9 rfl rfl)
theorem dX6_isAbove_80 : decode cX6_isAbove 80 = .ok (.getfield 55, 3) := dk_180 0 55 (dk_at dksX6_isAbove_3 10 rfl rfl)
theorem dX6_isAbove_83 : decode cX6_isAbove 83 = .ok (.iload_n 1, 1) := dk_27 (dk_at dksX6_isAbove_3 13 rfl rfl)
theorem dX6_isAbove_84 : decode cX6_isAbove 84 = .ok (.iaload, 1) := dk_46 (dk_at dksX6_isAbove_3 14 rfl rfl)
theorem dX6_isAbove_85 : decode cX6_isAbove 85 = .ok (.isub, 1) := dk_100 (dk_at dksX6_isAbove_3 15 rfl rfl)
theorem dX6_isAbove_86 : decode cX6_isAbove 86 = .ok (.iconst 1, 1) := dk_4 (dk_at dksX6_isAbove_3 16 rfl rfl)
theorem dX6_isAbove_87 : decode cX6_isAbove 87 = .ok (.if_icmp .le 7, 3) := dk_164 0 7 (dk_at dksX6_isAbove_3 17 rfl rfl)
theorem dX6_isAbove_90 : decode cX6_isAbove 90 = .ok (.iconst 1, 1) := dk_4 (dk_at dksX6_isAbove_3 20 rfl rfl)
theorem dX6_isAbove_91 : decode cX6_isAbove 91 = .ok (.goto 4, 3) := dk_167 0 4 (dk_at dksX6_isAbove_3 21 rfl rfl)
theorem dX6_isAbove_94 : decode cX6_isAbove 94 = .ok (.iconst 0, 1) := dk_3 (dk_at dksX6_isAbove_4 0 rfl rfl)
theorem dX6_isAbove_95 : decode cX6_isAbove 95 = .ok (.ireturn, 1) := dk_172 (dk_at dksX6_isAbove_4 1 rfl rfl)
theorem dX6_isAbove_96 : decode cX6_isAbove 96 = .ok (.aload_n 0, 1) := dk_42 (dk_at dksX6_isAbove_4 2 rfl rfl)
theorem dX6_isAbove_97 : decode cX6_isAbove 97 = .ok (.getfield 48, 3) := dk_180 0 48 (dk_at dksX6_isAbove_4 3 rfl rfl)
theorem dX6_isAbove_100 : decode cX6_isAbove 100 = .ok (.aload_n 0, 1) := dk_42 (dk_at dksX6_isAbove_4 6 rfl rfl)
theorem dX6_isAbove_101 : decode cX6_isAbove 101 = .ok (.getfield 55, 3) := dk_180 0 55 (dk_at dksX6_isAbove_4 7 rfl rfl)
theorem dX6_isAbove_104 : decode cX6_isAbove 104 = .ok (.iload_n 1, 1) := dk_27 (dk_at dksX6_isAbove_4 10 rfl rfl)
theorem dX6_isAbove_105 : decode cX6_isAbove 105 = .ok (.iaload, 1) := dk_46 (dk_at dksX6_isAbove_4 11 rfl rfl)
theorem dX6_isAbove_106 : decode cX6_isAbove 106 = .ok (.aload_n 0, 1) := dk_42 (dk_at dksX6_isAbove_4 12 rfl rfl)
theorem dX6_isAbove_107 : decode cX6_isAbove 107 = .ok (.getfield 59, 3) := dk_180 0 59 (dk_at dksX6_isAbove_4 13 rfl rfl)
theorem dX6_isAbove_110 : decode cX6_isAbove 110 = .ok (.iload_n 1, 1) := dk_27 (dk_at dksX6_isAbove_4 16 rfl rfl)
theorem dX6_isAbove_111 : decode cX6_isAbove 111 = .ok (.iaload, 1) := dk_46 (dk_at dksX6_isAbove_4 17 rfl rfl)
theorem dX6_isAbove_112 : decode cX6_isAbove 112 = .ok (.aload_n 0, 1) := dk_42 (dk_at dksX6_isAbove_4 18 rfl rfl)
theorem dX6_isAbove_113 : decode cX6_isAbove 113 = .ok (.getfield 48, 3) := dk_180 0 48 (dk_at dksX6_isAbove_4 19 rfl rfl)
theorem dX6_isAbove_116 : decode cX6_isAbove 116 = .ok (.aload_n 0, 1) := dk_42 (dk_at dksX6_isAbove_4 22 rfl rfl)
theorem dX6_isAbove_117 : decode cX6_isAbove 117 = .ok (.getfield 55, 3) := dk_180 0 55 (dk_at dksX6_isAbove_5 0 rfl rfl)
theorem dX6_isAbove_120 : decode cX6_isAbove 120 = .ok (.iload_n 2, 1) := dk_28 (dk_at dksX6_isAbove_5 3 rfl rfl)
theorem dX6_isAbove_121 : decode cX6_isAbove 121 = .ok (.iaload, 1) := dk_46 (dk_at dksX6_isAbove_5 4 rfl rfl)
theorem dX6_isAbove_122 : decode cX6_isAbove 122 = .ok (.aload_n 0, 1) := dk_42 (dk_at dksX6_isAbove_5 5 rfl rfl)
theorem dX6_isAbove_123 : decode cX6_isAbove 123 = .ok (.getfield 59, 3) := dk_180 0 59 (dk_at dksX6_isAbove_5 6 rfl rfl)
theorem dX6_isAbove_126 : decode cX6_isAbove 126 = .ok (.iload_n 2, 1) := dk_28 (dk_at dksX6_isAbove_5 9 rfl rfl)
theorem dX6_isAbove_127 : decode cX6_isAbove 127 = .ok (.iaload, 1) := dk_46 (dk_at dksX6_isAbove_5 10 rfl rfl)
theorem dX6_isAbove_128 : decode cX6_isAbove 128 = .ok (.invokestatic 336, 3) := dk_184 1 80 (dk_at dksX6_isAbove_5 11 rfl rfl)
theorem dX6_isAbove_131 : decode cX6_isAbove 131 = .ok (.ifCond .le 7, 3) := dk_158 0 7 (dk_at dksX6_isAbove_5 14 rfl rfl)
theorem dX6_isAbove_134 : decode cX6_isAbove 134 = .ok (.iconst 1, 1) := dk_4 (dk_at dksX6_isAbove_5 17 rfl rfl)
theorem dX6_isAbove_135 : decode cX6_isAbove 135 = .ok (.goto 4, 3) := dk_167 0 4 (dk_at dksX6_isAbove_5 18 rfl rfl)
theorem dX6_isAbove_138 : decode cX6_isAbove 138 = .ok (.iconst 0, 1) := dk_3 (dk_at dksX6_isAbove_5 21 rfl rfl)
theorem dX6_isAbove_139 : decode cX6_isAbove 139 = .ok (.ireturn, 1) := dk_172 (dk_at dksX6_isAbove_5 22 rfl rfl)
abbrev cX6_valued : ByteArray := prog_9_method_51_code
def yX6_valued : MethodName := ⟨RX6, "valued", "()Z"⟩
def dkwX6_valued_6 : List UInt8 := [172]
abbrev dktX6_valued_6 : List UInt8 := dkwX6_valued_6 ++ []
def dkwX6_valued_5 : List UInt8 := [182, 0, 178, 182, 0, 185, 132, 1, 1, 167, 255, 156, 42, 180, 0, 96, 154, 0, 7, 4, 167, 0, 4, 3]
abbrev dktX6_valued_5 : List UInt8 := dkwX6_valued_5 ++ dktX6_valued_6
def dkwX6_valued_4 : List UInt8 := [42, 29, 42, 180, 0, 83, 27, 182, 0, 196, 182, 1, 109, 154, 0, 17, 42, 16, 12, 42, 180, 0, 83, 29]
abbrev dktX6_valued_4 : List UInt8 := dkwX6_valued_4 ++ dktX6_valued_5
def dkwX6_valued_3 : List UInt8 := [2, 62, 29, 2, 159, 0, 50, 28, 16, 29, 160, 0, 14, 42, 27, 182, 1, 106, 153, 0, 22, 167, 0, 33]
abbrev dktX6_valued_3 : List UInt8 := dkwX6_valued_3 ++ dktX6_valued_4
def dkwX6_valued_2 : List UInt8 := [61, 28, 16, 22, 159, 0, 9, 28, 16, 29, 160, 0, 14, 42, 180, 0, 83, 27, 182, 1, 10, 167, 0, 4]
abbrev dktX6_valued_2 : List UInt8 := dkwX6_valued_2 ++ dktX6_valued_3
def dkwX6_valued_1 : List UInt8 := [167, 255, 235, 3, 60, 27, 42, 180, 0, 83, 182, 0, 130, 162, 0, 95, 42, 180, 0, 83, 27, 182, 0, 125]
abbrev dktX6_valued_1 : List UInt8 := dkwX6_valued_1 ++ dktX6_valued_2
def dkwX6_valued_0 : List UInt8 := [3, 60, 27, 42, 180, 0, 83, 182, 0, 130, 162, 0, 16, 42, 180, 0, 68, 27, 3, 79, 132, 1, 1]
abbrev dktX6_valued_0 : List UInt8 := dkwX6_valued_0 ++ dktX6_valued_1
theorem dksX6_valued_0 : cX6_valued.data.toList.drop 0 = dktX6_valued_0 := by decide +kernel
theorem dksX6_valued_1 : cX6_valued.data.toList.drop 23 = dktX6_valued_1 := dk_seg dksX6_valued_0 23 rfl rfl
theorem dksX6_valued_2 : cX6_valued.data.toList.drop 47 = dktX6_valued_2 := dk_seg dksX6_valued_1 24 rfl rfl
theorem dksX6_valued_3 : cX6_valued.data.toList.drop 71 = dktX6_valued_3 := dk_seg dksX6_valued_2 24 rfl rfl
theorem dksX6_valued_4 : cX6_valued.data.toList.drop 95 = dktX6_valued_4 := dk_seg dksX6_valued_3 24 rfl rfl
theorem dksX6_valued_5 : cX6_valued.data.toList.drop 119 = dktX6_valued_5 := dk_seg dksX6_valued_4 24 rfl rfl
theorem dksX6_valued_6 : cX6_valued.data.toList.drop 143 = dktX6_valued_6 := dk_seg dksX6_valued_5 24 rfl rfl
theorem dX6_valued_0 : decode cX6_valued 0 = .ok (.iconst 0, 1) := dk_3 (dk_at dksX6_valued_0 0 rfl rfl)
theorem dX6_valued_1 : decode cX6_valued 1 = .ok (.istore_n 1, 1) := dk_60 (dk_at dksX6_valued_0 1 rfl rfl)
theorem dX6_valued_2 : decode cX6_valued 2 = .ok (.iload_n 1, 1) := dk_27 (dk_at dksX6_valued_0 2 rfl rfl)
theorem dX6_valued_3 : decode cX6_valued 3 = .ok (.aload_n 0, 1) := dk_42 (dk_at dksX6_valued_0 3 rfl rfl)
theorem dX6_valued_4 : decode cX6_valued 4 = .ok (.getfield 83, 3) := dk_180 0 83 (dk_at dksX6_valued_0 4 rfl rfl)
theorem dX6_valued_7 : decode cX6_valued 7 = .ok (.invokevirtual 130, 3) := dk_182 0 130 (dk_at dksX6_valued_0 7 rfl rfl)
theorem dX6_valued_10 : decode cX6_valued 10 = .ok (.if_icmp .ge 16, 3) := dk_162 0 16 (dk_at dksX6_valued_0 10 rfl rfl)
theorem dX6_valued_13 : decode cX6_valued 13 = .ok (.aload_n 0, 1) := dk_42 (dk_at dksX6_valued_0 13 rfl rfl)
theorem dX6_valued_14 : decode cX6_valued 14 = .ok (.getfield 68, 3) := dk_180 0 68 (dk_at dksX6_valued_0 14 rfl rfl)
theorem dX6_valued_17 : decode cX6_valued 17 = .ok (.iload_n 1, 1) := dk_27 (dk_at dksX6_valued_0 17 rfl rfl)
theorem dX6_valued_18 : decode cX6_valued 18 = .ok (.iconst 0, 1) := dk_3 (dk_at dksX6_valued_0 18 rfl rfl)
theorem dX6_valued_19 : decode cX6_valued 19 = .ok (.iastore, 1) := dk_79 (dk_at dksX6_valued_0 19 rfl rfl)
theorem dX6_valued_20 : decode cX6_valued 20 = .ok (.iinc 1 1, 3) := dk_132 1 1 (dk_at dksX6_valued_0 20 rfl rfl)
theorem dX6_valued_23 : decode cX6_valued 23 = .ok (.goto (-21), 3) := dk_167 255 235 (dk_at dksX6_valued_1 0 rfl rfl)
theorem dX6_valued_26 : decode cX6_valued 26 = .ok (.iconst 0, 1) := dk_3 (dk_at dksX6_valued_1 3 rfl rfl)
theorem dX6_valued_27 : decode cX6_valued 27 = .ok (.istore_n 1, 1) := dk_60 (dk_at dksX6_valued_1 4 rfl rfl)
theorem dX6_valued_28 : decode cX6_valued 28 = .ok (.iload_n 1, 1) := dk_27 (dk_at dksX6_valued_1 5 rfl rfl)
theorem dX6_valued_29 : decode cX6_valued 29 = .ok (.aload_n 0, 1) := dk_42 (dk_at dksX6_valued_1 6 rfl rfl)
theorem dX6_valued_30 : decode cX6_valued 30 = .ok (.getfield 83, 3) := dk_180 0 83 (dk_at dksX6_valued_1 7 rfl rfl)
theorem dX6_valued_33 : decode cX6_valued 33 = .ok (.invokevirtual 130, 3) := dk_182 0 130 (dk_at dksX6_valued_1 10 rfl rfl)
theorem dX6_valued_36 : decode cX6_valued 36 = .ok (.if_icmp .ge 95, 3) := dk_162 0 95 (dk_at dksX6_valued_1 13 rfl rfl)
theorem dX6_valued_39 : decode cX6_valued 39 = .ok (.aload_n 0, 1) := dk_42 (dk_at dksX6_valued_1 16 rfl rfl)
theorem dX6_valued_40 : decode cX6_valued 40 = .ok (.getfield 83, 3) := dk_180 0 83 (dk_at dksX6_valued_1 17 rfl rfl)
theorem dX6_valued_43 : decode cX6_valued 43 = .ok (.iload_n 1, 1) := dk_27 (dk_at dksX6_valued_1 20 rfl rfl)
theorem dX6_valued_44 : decode cX6_valued 44 = .ok (.invokevirtual 125, 3) := dk_182 0 125 (dk_at dksX6_valued_1 21 rfl rfl)
theorem dX6_valued_47 : decode cX6_valued 47 = .ok (.istore_n 2, 1) := dk_61 (dk_at dksX6_valued_2 0 rfl rfl)
theorem dX6_valued_48 : decode cX6_valued 48 = .ok (.iload_n 2, 1) := dk_28 (dk_at dksX6_valued_2 1 rfl rfl)
theorem dX6_valued_49 : decode cX6_valued 49 = .ok (.bipush 22, 2) := dk_16 22 (dk_at dksX6_valued_2 2 rfl rfl)
theorem dX6_valued_51 : decode cX6_valued 51 = .ok (.if_icmp .eq 9, 3) := dk_159 0 9 (dk_at dksX6_valued_2 4 rfl rfl)
theorem dX6_valued_54 : decode cX6_valued 54 = .ok (.iload_n 2, 1) := dk_28 (dk_at dksX6_valued_2 7 rfl rfl)
theorem dX6_valued_55 : decode cX6_valued 55 = .ok (.bipush 29, 2) := dk_16 29 (dk_at dksX6_valued_2 8 rfl rfl)
theorem dX6_valued_57 : decode cX6_valued 57 = .ok (.if_icmp .ne 14, 3) := dk_160 0 14 (dk_at dksX6_valued_2 10 rfl rfl)
theorem dX6_valued_60 : decode cX6_valued 60 = .ok (.aload_n 0, 1) := dk_42 (dk_at dksX6_valued_2 13 rfl rfl)
theorem dX6_valued_61 : decode cX6_valued 61 = .ok (.getfield 83, 3) := dk_180 0 83 (dk_at dksX6_valued_2 14 rfl rfl)
theorem dX6_valued_64 : decode cX6_valued 64 = .ok (.iload_n 1, 1) := dk_27 (dk_at dksX6_valued_2 17 rfl rfl)
theorem dX6_valued_65 : decode cX6_valued 65 = .ok (.invokevirtual 266, 3) := dk_182 1 10 (dk_at dksX6_valued_2 18 rfl rfl)
theorem dX6_valued_68 : decode cX6_valued 68 = .ok (.goto 4, 3) := dk_167 0 4 (dk_at dksX6_valued_2 21 rfl rfl)
theorem dX6_valued_71 : decode cX6_valued 71 = .ok (.iconst (-1), 1) := dk_2 (dk_at dksX6_valued_3 0 rfl rfl)
theorem dX6_valued_72 : decode cX6_valued 72 = .ok (.istore_n 3, 1) := dk_62 (dk_at dksX6_valued_3 1 rfl rfl)
theorem dX6_valued_73 : decode cX6_valued 73 = .ok (.iload_n 3, 1) := dk_29 (dk_at dksX6_valued_3 2 rfl rfl)
theorem dX6_valued_74 : decode cX6_valued 74 = .ok (.iconst (-1), 1) := dk_2 (dk_at dksX6_valued_3 3 rfl rfl)
theorem dX6_valued_75 : decode cX6_valued 75 = .ok (.if_icmp .eq 50, 3) := dk_159 0 50 (dk_at dksX6_valued_3 4 rfl rfl)
theorem dX6_valued_78 : decode cX6_valued 78 = .ok (.iload_n 2, 1) := dk_28 (dk_at dksX6_valued_3 7 rfl rfl)
theorem dX6_valued_79 : decode cX6_valued 79 = .ok (.bipush 29, 2) := dk_16 29 (dk_at dksX6_valued_3 8 rfl rfl)
theorem dX6_valued_81 : decode cX6_valued 81 = .ok (.if_icmp .ne 14, 3) := dk_160 0 14 (dk_at dksX6_valued_3 10 rfl rfl)
theorem dX6_valued_84 : decode cX6_valued 84 = .ok (.aload_n 0, 1) := dk_42 (dk_at dksX6_valued_3 13 rfl rfl)
theorem dX6_valued_85 : decode cX6_valued 85 = .ok (.iload_n 1, 1) := dk_27 (dk_at dksX6_valued_3 14 rfl rfl)
theorem dX6_valued_86 : decode cX6_valued 86 = .ok (.invokevirtual 362, 3) := dk_182 1 106 (dk_at dksX6_valued_3 15 rfl rfl)
theorem dX6_valued_89 : decode cX6_valued 89 = .ok (.ifCond .eq 22, 3) := dk_153 0 22 (dk_at dksX6_valued_3 18 rfl rfl)
theorem dX6_valued_92 : decode cX6_valued 92 = .ok (.goto 33, 3) := dk_167 0 33 (dk_at dksX6_valued_3 21 rfl rfl)
theorem dX6_valued_95 : decode cX6_valued 95 = .ok (.aload_n 0, 1) := dk_42 (dk_at dksX6_valued_4 0 rfl rfl)
theorem dX6_valued_96 : decode cX6_valued 96 = .ok (.iload_n 3, 1) := dk_29 (dk_at dksX6_valued_4 1 rfl rfl)
theorem dX6_valued_97 : decode cX6_valued 97 = .ok (.aload_n 0, 1) := dk_42 (dk_at dksX6_valued_4 2 rfl rfl)
theorem dX6_valued_98 : decode cX6_valued 98 = .ok (.getfield 83, 3) := dk_180 0 83 (dk_at dksX6_valued_4 3 rfl rfl)
theorem dX6_valued_101 : decode cX6_valued 101 = .ok (.iload_n 1, 1) := dk_27 (dk_at dksX6_valued_4 6 rfl rfl)
theorem dX6_valued_102 : decode cX6_valued 102 = .ok (.invokevirtual 196, 3) := dk_182 0 196 (dk_at dksX6_valued_4 7 rfl rfl)
theorem dX6_valued_105 : decode cX6_valued 105 = .ok (.invokevirtual 365, 3) := dk_182 1 109 (dk_at dksX6_valued_4 10 rfl rfl)
theorem dX6_valued_108 : decode cX6_valued 108 = .ok (.ifCond .ne 17, 3) := dk_154 0 17 (dk_at dksX6_valued_4 13 rfl rfl)
theorem dX6_valued_111 : decode cX6_valued 111 = .ok (.aload_n 0, 1) := dk_42 (dk_at dksX6_valued_4 16 rfl rfl)
theorem dX6_valued_112 : decode cX6_valued 112 = .ok (.bipush 12, 2) := dk_16 12 (dk_at dksX6_valued_4 17 rfl rfl)
theorem dX6_valued_114 : decode cX6_valued 114 = .ok (.aload_n 0, 1) := dk_42 (dk_at dksX6_valued_4 19 rfl rfl)
theorem dX6_valued_115 : decode cX6_valued 115 = .ok (.getfield 83, 3) := dk_180 0 83 (dk_at dksX6_valued_4 20 rfl rfl)
theorem dX6_valued_118 : decode cX6_valued 118 = .ok (.iload_n 3, 1) := dk_29 (dk_at dksX6_valued_4 23 rfl rfl)
theorem dX6_valued_119 : decode cX6_valued 119 = .ok (.invokevirtual 178, 3) := dk_182 0 178 (dk_at dksX6_valued_5 0 rfl rfl)
theorem dX6_valued_122 : decode cX6_valued 122 = .ok (.invokevirtual 185, 3) := dk_182 0 185 (dk_at dksX6_valued_5 3 rfl rfl)
theorem dX6_valued_125 : decode cX6_valued 125 = .ok (.iinc 1 1, 3) := dk_132 1 1 (dk_at dksX6_valued_5 6 rfl rfl)
theorem dX6_valued_128 : decode cX6_valued 128 = .ok (.goto (-100), 3) := dk_167 255 156 (dk_at dksX6_valued_5 9 rfl rfl)
theorem dX6_valued_131 : decode cX6_valued 131 = .ok (.aload_n 0, 1) := dk_42 (dk_at dksX6_valued_5 12 rfl rfl)
theorem dX6_valued_132 : decode cX6_valued 132 = .ok (.getfield 96, 3) := dk_180 0 96 (dk_at dksX6_valued_5 13 rfl rfl)
theorem dX6_valued_135 : decode cX6_valued 135 = .ok (.ifCond .ne 7, 3) := dk_154 0 7 (dk_at dksX6_valued_5 16 rfl rfl)
theorem dX6_valued_138 : decode cX6_valued 138 = .ok (.iconst 1, 1) := dk_4 (dk_at dksX6_valued_5 19 rfl rfl)
theorem dX6_valued_139 : decode cX6_valued 139 = .ok (.goto 4, 3) := dk_167 0 4 (dk_at dksX6_valued_5 20 rfl rfl)
theorem dX6_valued_142 : decode cX6_valued 142 = .ok (.iconst 0, 1) := dk_3 (dk_at dksX6_valued_5 23 rfl rfl)
theorem dX6_valued_143 : decode cX6_valued 143 = .ok (.ireturn, 1) := dk_172 (dk_at dksX6_valued_6 0 rfl rfl)
abbrev cX6_constant : ByteArray := prog_9_method_52_code
def yX6_constant : MethodName := ⟨RX6, "constant", "(I)Z"⟩
def dkwX6_constant_5 : List UInt8 := [167, 0, 4, 3, 172]
abbrev dktX6_constant_5 : List UInt8 := dkwX6_constant_5 ++ []
def dkwX6_constant_4 : List UInt8 := [153, 0, 7, 4, 167, 0, 4, 5, 79, 167, 255, 204, 42, 180, 0, 68, 27, 46, 4, 160, 0, 7, 4]
abbrev dktX6_constant_4 : List UInt8 := dkwX6_constant_4 ++ dktX6_constant_5
def dkwX6_constant_3 : List UInt8 := [42, 42, 180, 0, 83, 21, 4, 182, 1, 10, 42, 180, 0, 83, 21, 4, 182, 0, 196, 182, 1, 109]
abbrev dktX6_constant_3 : List UInt8 := dkwX6_constant_3 ++ dktX6_constant_4
def dkwX6_constant_2 : List UInt8 := [167, 255, 212, 28, 158, 0, 54, 132, 2, 255, 42, 180, 0, 77, 28, 46, 54, 4, 42, 180, 0, 68, 21, 4]
abbrev dktX6_constant_2 : List UInt8 := dkwX6_constant_2 ++ dktX6_constant_3
def dkwX6_constant_1 : List UInt8 := [4, 96, 184, 0, 134, 181, 0, 77, 42, 180, 0, 77, 28, 29, 79, 132, 2, 1, 42, 29, 182, 1, 60, 62]
abbrev dktX6_constant_1 : List UInt8 := dkwX6_constant_1 ++ dktX6_constant_2
def dkwX6_constant_0 : List UInt8 := [3, 61, 27, 62, 29, 2, 159, 0, 45, 42, 180, 0, 68, 29, 46, 154, 0, 36, 42, 42, 180, 0, 77, 28]
abbrev dktX6_constant_0 : List UInt8 := dkwX6_constant_0 ++ dktX6_constant_1
theorem dksX6_constant_0 : cX6_constant.data.toList.drop 0 = dktX6_constant_0 := by decide +kernel
theorem dksX6_constant_1 : cX6_constant.data.toList.drop 24 = dktX6_constant_1 := dk_seg dksX6_constant_0 24 rfl rfl
theorem dksX6_constant_2 : cX6_constant.data.toList.drop 48 = dktX6_constant_2 := dk_seg dksX6_constant_1 24 rfl rfl
theorem dksX6_constant_3 : cX6_constant.data.toList.drop 72 = dktX6_constant_3 := dk_seg dksX6_constant_2 24 rfl rfl
theorem dksX6_constant_4 : cX6_constant.data.toList.drop 94 = dktX6_constant_4 := dk_seg dksX6_constant_3 22 rfl rfl
theorem dksX6_constant_5 : cX6_constant.data.toList.drop 117 = dktX6_constant_5 := dk_seg dksX6_constant_4 23 rfl rfl
theorem dX6_constant_0 : decode cX6_constant 0 = .ok (.iconst 0, 1) := dk_3 (dk_at dksX6_constant_0 0 rfl rfl)
theorem dX6_constant_1 : decode cX6_constant 1 = .ok (.istore_n 2, 1) := dk_61 (dk_at dksX6_constant_0 1 rfl rfl)
theorem dX6_constant_2 : decode cX6_constant 2 = .ok (.iload_n 1, 1) := dk_27 (dk_at dksX6_constant_0 2 rfl rfl)
theorem dX6_constant_3 : decode cX6_constant 3 = .ok (.istore_n 3, 1) := dk_62 (dk_at dksX6_constant_0 3 rfl rfl)
theorem dX6_constant_4 : decode cX6_constant 4 = .ok (.iload_n 3, 1) := dk_29 (dk_at dksX6_constant_0 4 rfl rfl)
theorem dX6_constant_5 : decode cX6_constant 5 = .ok (.iconst (-1), 1) := dk_2 (dk_at dksX6_constant_0 5 rfl rfl)
theorem dX6_constant_6 : decode cX6_constant 6 = .ok (.if_icmp .eq 45, 3) := dk_159 0 45 (dk_at dksX6_constant_0 6 rfl rfl)
theorem dX6_constant_9 : decode cX6_constant 9 = .ok (.aload_n 0, 1) := dk_42 (dk_at dksX6_constant_0 9 rfl rfl)
theorem dX6_constant_10 : decode cX6_constant 10 = .ok (.getfield 68, 3) := dk_180 0 68 (dk_at dksX6_constant_0 10 rfl rfl)
theorem dX6_constant_13 : decode cX6_constant 13 = .ok (.iload_n 3, 1) := dk_29 (dk_at dksX6_constant_0 13 rfl rfl)
theorem dX6_constant_14 : decode cX6_constant 14 = .ok (.iaload, 1) := dk_46 (dk_at dksX6_constant_0 14 rfl rfl)
theorem dX6_constant_15 : decode cX6_constant 15 = .ok (.ifCond .ne 36, 3) := dk_154 0 36 (dk_at dksX6_constant_0 15 rfl rfl)
theorem dX6_constant_18 : decode cX6_constant 18 = .ok (.aload_n 0, 1) := dk_42 (dk_at dksX6_constant_0 18 rfl rfl)
theorem dX6_constant_19 : decode cX6_constant 19 = .ok (.aload_n 0, 1) := dk_42 (dk_at dksX6_constant_0 19 rfl rfl)
theorem dX6_constant_20 : decode cX6_constant 20 = .ok (.getfield 77, 3) := dk_180 0 77 (dk_at dksX6_constant_0 20 rfl rfl)
theorem dX6_constant_23 : decode cX6_constant 23 = .ok (.iload_n 2, 1) := dk_28 (dk_at dksX6_constant_0 23 rfl rfl)
theorem dX6_constant_24 : decode cX6_constant 24 = .ok (.iconst 1, 1) := dk_4 (dk_at dksX6_constant_1 0 rfl rfl)
theorem dX6_constant_25 : decode cX6_constant 25 = .ok (.iadd, 1) := dk_96 (dk_at dksX6_constant_1 1 rfl rfl)
theorem dX6_constant_26 : decode cX6_constant 26 = .ok (.invokestatic 134, 3) := dk_184 0 134 (dk_at dksX6_constant_1 2 rfl rfl)
theorem dX6_constant_29 : decode cX6_constant 29 = .ok (.putfield 77, 3) := dk_181 0 77 (dk_at dksX6_constant_1 5 rfl rfl)
theorem dX6_constant_32 : decode cX6_constant 32 = .ok (.aload_n 0, 1) := dk_42 (dk_at dksX6_constant_1 8 rfl rfl)
theorem dX6_constant_33 : decode cX6_constant 33 = .ok (.getfield 77, 3) := dk_180 0 77 (dk_at dksX6_constant_1 9 rfl rfl)
theorem dX6_constant_36 : decode cX6_constant 36 = .ok (.iload_n 2, 1) := dk_28 (dk_at dksX6_constant_1 12 rfl rfl)
theorem dX6_constant_37 : decode cX6_constant 37 = .ok (.iload_n 3, 1) := dk_29 (dk_at dksX6_constant_1 13 rfl rfl)
theorem dX6_constant_38 : decode cX6_constant 38 = .ok (.iastore, 1) := dk_79 (dk_at dksX6_constant_1 14 rfl rfl)
theorem dX6_constant_39 : decode cX6_constant 39 = .ok (.iinc 2 1, 3) := dk_132 2 1 (dk_at dksX6_constant_1 15 rfl rfl)
theorem dX6_constant_42 : decode cX6_constant 42 = .ok (.aload_n 0, 1) := dk_42 (dk_at dksX6_constant_1 18 rfl rfl)
theorem dX6_constant_43 : decode cX6_constant 43 = .ok (.iload_n 3, 1) := dk_29 (dk_at dksX6_constant_1 19 rfl rfl)
theorem dX6_constant_44 : decode cX6_constant 44 = .ok (.invokevirtual 316, 3) := dk_182 1 60 (dk_at dksX6_constant_1 20 rfl rfl)
theorem dX6_constant_47 : decode cX6_constant 47 = .ok (.istore_n 3, 1) := dk_62 (dk_at dksX6_constant_1 23 rfl rfl)
theorem dX6_constant_48 : decode cX6_constant 48 = .ok (.goto (-44), 3) := dk_167 255 212 (dk_at dksX6_constant_2 0 rfl rfl)
theorem dX6_constant_51 : decode cX6_constant 51 = .ok (.iload_n 2, 1) := dk_28 (dk_at dksX6_constant_2 3 rfl rfl)
theorem dX6_constant_52 : decode cX6_constant 52 = .ok (.ifCond .le 54, 3) := dk_158 0 54 (dk_at dksX6_constant_2 4 rfl rfl)
theorem dX6_constant_55 : decode cX6_constant 55 = .ok (.iinc 2 (-1), 3) := dk_132 2 255 (dk_at dksX6_constant_2 7 rfl rfl)
theorem dX6_constant_58 : decode cX6_constant 58 = .ok (.aload_n 0, 1) := dk_42 (dk_at dksX6_constant_2 10 rfl rfl)
theorem dX6_constant_59 : decode cX6_constant 59 = .ok (.getfield 77, 3) := dk_180 0 77 (dk_at dksX6_constant_2 11 rfl rfl)
theorem dX6_constant_62 : decode cX6_constant 62 = .ok (.iload_n 2, 1) := dk_28 (dk_at dksX6_constant_2 14 rfl rfl)
theorem dX6_constant_63 : decode cX6_constant 63 = .ok (.iaload, 1) := dk_46 (dk_at dksX6_constant_2 15 rfl rfl)
theorem dX6_constant_64 : decode cX6_constant 64 = .ok (.istore 4, 2) := dk_54 4 (dk_at dksX6_constant_2 16 rfl rfl)
theorem dX6_constant_66 : decode cX6_constant 66 = .ok (.aload_n 0, 1) := dk_42 (dk_at dksX6_constant_2 18 rfl rfl)
theorem dX6_constant_67 : decode cX6_constant 67 = .ok (.getfield 68, 3) := dk_180 0 68 (dk_at dksX6_constant_2 19 rfl rfl)
theorem dX6_constant_70 : decode cX6_constant 70 = .ok (.iload 4, 2) := dk_21 4 (dk_at dksX6_constant_2 22 rfl rfl)
theorem dX6_constant_72 : decode cX6_constant 72 = .ok (.aload_n 0, 1) := dk_42 (dk_at dksX6_constant_3 0 rfl rfl)
theorem dX6_constant_73 : decode cX6_constant 73 = .ok (.aload_n 0, 1) := dk_42 (dk_at dksX6_constant_3 1 rfl rfl)
theorem dX6_constant_74 : decode cX6_constant 74 = .ok (.getfield 83, 3) := dk_180 0 83 (dk_at dksX6_constant_3 2 rfl rfl)
theorem dX6_constant_77 : decode cX6_constant 77 = .ok (.iload 4, 2) := dk_21 4 (dk_at dksX6_constant_3 5 rfl rfl)
theorem dX6_constant_79 : decode cX6_constant 79 = .ok (.invokevirtual 266, 3) := dk_182 1 10 (dk_at dksX6_constant_3 7 rfl rfl)
theorem dX6_constant_82 : decode cX6_constant 82 = .ok (.aload_n 0, 1) := dk_42 (dk_at dksX6_constant_3 10 rfl rfl)
theorem dX6_constant_83 : decode cX6_constant 83 = .ok (.getfield 83, 3) := dk_180 0 83 (dk_at dksX6_constant_3 11 rfl rfl)
theorem dX6_constant_86 : decode cX6_constant 86 = .ok (.iload 4, 2) := dk_21 4 (dk_at dksX6_constant_3 14 rfl rfl)
theorem dX6_constant_88 : decode cX6_constant 88 = .ok (.invokevirtual 196, 3) := dk_182 0 196 (dk_at dksX6_constant_3 16 rfl rfl)
theorem dX6_constant_91 : decode cX6_constant 91 = .ok (.invokevirtual 365, 3) := dk_182 1 109 (dk_at dksX6_constant_3 19 rfl rfl)
theorem dX6_constant_94 : decode cX6_constant 94 = .ok (.ifCond .eq 7, 3) := dk_153 0 7 (dk_at dksX6_constant_4 0 rfl rfl)
theorem dX6_constant_97 : decode cX6_constant 97 = .ok (.iconst 1, 1) := dk_4 (dk_at dksX6_constant_4 3 rfl rfl)
theorem dX6_constant_98 : decode cX6_constant 98 = .ok (.goto 4, 3) := dk_167 0 4 (dk_at dksX6_constant_4 4 rfl rfl)
theorem dX6_constant_101 : decode cX6_constant 101 = .ok (.iconst 2, 1) := dk_5 (dk_at dksX6_constant_4 7 rfl rfl)
theorem dX6_constant_102 : decode cX6_constant 102 = .ok (.iastore, 1) := dk_79 (dk_at dksX6_constant_4 8 rfl rfl)
theorem dX6_constant_103 : decode cX6_constant 103 = .ok (.goto (-52), 3) := dk_167 255 204 (dk_at dksX6_constant_4 9 rfl rfl)
theorem dX6_constant_106 : decode cX6_constant 106 = .ok (.aload_n 0, 1) := dk_42 (dk_at dksX6_constant_4 12 rfl rfl)
theorem dX6_constant_107 : decode cX6_constant 107 = .ok (.getfield 68, 3) := dk_180 0 68 (dk_at dksX6_constant_4 13 rfl rfl)
theorem dX6_constant_110 : decode cX6_constant 110 = .ok (.iload_n 1, 1) := dk_27 (dk_at dksX6_constant_4 16 rfl rfl)
theorem dX6_constant_111 : decode cX6_constant 111 = .ok (.iaload, 1) := dk_46 (dk_at dksX6_constant_4 17 rfl rfl)
theorem dX6_constant_112 : decode cX6_constant 112 = .ok (.iconst 1, 1) := dk_4 (dk_at dksX6_constant_4 18 rfl rfl)
theorem dX6_constant_113 : decode cX6_constant 113 = .ok (.if_icmp .ne 7, 3) := dk_160 0 7 (dk_at dksX6_constant_4 19 rfl rfl)
theorem dX6_constant_116 : decode cX6_constant 116 = .ok (.iconst 1, 1) := dk_4 (dk_at dksX6_constant_4 22 rfl rfl)
theorem dX6_constant_117 : decode cX6_constant 117 = .ok (.goto 4, 3) := dk_167 0 4 (dk_at dksX6_constant_5 0 rfl rfl)
theorem dX6_constant_120 : decode cX6_constant 120 = .ok (.iconst 0, 1) := dk_3 (dk_at dksX6_constant_5 3 rfl rfl)
theorem dX6_constant_121 : decode cX6_constant 121 = .ok (.ireturn, 1) := dk_172 (dk_at dksX6_constant_5 4 rfl rfl)
abbrev cX6_evaluate : ByteArray := prog_9_method_53_code
def yX6_evaluate : MethodName := ⟨RX6, "evaluate", "(II)Z"⟩
def dkwX6_evaluate_9 : List UInt8 := [182, 1, 115, 153, 0, 7, 4, 167, 0, 4, 3, 172]
abbrev dktX6_evaluate_9 : List UInt8 := dkwX6_evaluate_9 ++ []
def dkwX6_evaluate_8 : List UInt8 := [42, 180, 0, 59, 27, 42, 180, 0, 48, 182, 0, 214, 79, 21, 5, 153, 0, 17, 42, 27, 28, 29]
abbrev dktX6_evaluate_8 : List UInt8 := dkwX6_evaluate_8 ++ dktX6_evaluate_9
def dkwX6_evaluate_7 : List UInt8 := [172, 42, 180, 0, 55, 27, 42, 180, 0, 48, 182, 0, 214, 79, 42, 27, 29, 21, 4, 182, 1, 118, 54, 5]
abbrev dktX6_evaluate_7 : List UInt8 := dkwX6_evaluate_7 ++ dktX6_evaluate_8
def dkwX6_evaluate_6 : List UInt8 := [182, 1, 10, 182, 1, 112, 153, 0, 17, 42, 27, 28, 29, 182, 1, 115, 153, 0, 7, 4, 167, 0, 4, 3]
abbrev dktX6_evaluate_6 : List UInt8 := dkwX6_evaluate_6 ++ dktX6_evaluate_7
def dkwX6_evaluate_5 : List UInt8 := [160, 0, 12, 42, 21, 6, 182, 1, 106, 154, 0, 5, 3, 172, 42, 27, 42, 180, 0, 83, 21, 6]
abbrev dktX6_evaluate_5 : List UInt8 := dkwX6_evaluate_5 ++ dktX6_evaluate_6
def dkwX6_evaluate_4 : List UInt8 := [54, 6, 42, 180, 0, 83, 42, 42, 180, 0, 83, 21, 6, 182, 0, 196, 182, 1, 0, 182, 0, 125, 21, 4]
abbrev dktX6_evaluate_4 : List UInt8 := dkwX6_evaluate_4 ++ dktX6_evaluate_5
def dkwX6_evaluate_3 : List UInt8 := [153, 0, 7, 4, 167, 0, 4, 3, 172, 42, 180, 0, 32, 42, 180, 0, 83, 27, 182, 0, 178, 182, 0, 245]
abbrev dktX6_evaluate_3 : List UInt8 := dkwX6_evaluate_3 ++ dktX6_evaluate_4
def dkwX6_evaluate_2 : List UInt8 := [21, 5, 2, 159, 0, 29, 42, 27, 21, 5, 182, 1, 112, 153, 0, 17, 42, 27, 28, 29, 182, 1, 115]
abbrev dktX6_evaluate_2 : List UInt8 := dkwX6_evaluate_2 ++ dktX6_evaluate_3
def dkwX6_evaluate_1 : List UInt8 := [182, 0, 223, 7, 160, 0, 137, 42, 28, 42, 180, 0, 83, 27, 182, 0, 178, 4, 182, 1, 6, 54, 5]
abbrev dktX6_evaluate_1 : List UInt8 := dkwX6_evaluate_1 ++ dktX6_evaluate_2
def dkwX6_evaluate_0 : List UInt8 := [42, 28, 182, 1, 0, 62, 42, 180, 0, 83, 29, 182, 0, 125, 54, 4, 42, 180, 0, 83, 27, 8]
abbrev dktX6_evaluate_0 : List UInt8 := dkwX6_evaluate_0 ++ dktX6_evaluate_1
theorem dksX6_evaluate_0 : cX6_evaluate.data.toList.drop 0 = dktX6_evaluate_0 := by decide +kernel
theorem dksX6_evaluate_1 : cX6_evaluate.data.toList.drop 22 = dktX6_evaluate_1 := dk_seg dksX6_evaluate_0 22 rfl rfl
theorem dksX6_evaluate_2 : cX6_evaluate.data.toList.drop 45 = dktX6_evaluate_2 := dk_seg dksX6_evaluate_1 23 rfl rfl
theorem dksX6_evaluate_3 : cX6_evaluate.data.toList.drop 68 = dktX6_evaluate_3 := dk_seg dksX6_evaluate_2 23 rfl rfl
theorem dksX6_evaluate_4 : cX6_evaluate.data.toList.drop 92 = dktX6_evaluate_4 := dk_seg dksX6_evaluate_3 24 rfl rfl
theorem dksX6_evaluate_5 : cX6_evaluate.data.toList.drop 116 = dktX6_evaluate_5 := dk_seg dksX6_evaluate_4 24 rfl rfl
theorem dksX6_evaluate_6 : cX6_evaluate.data.toList.drop 138 = dktX6_evaluate_6 := dk_seg dksX6_evaluate_5 22 rfl rfl
theorem dksX6_evaluate_7 : cX6_evaluate.data.toList.drop 162 = dktX6_evaluate_7 := dk_seg dksX6_evaluate_6 24 rfl rfl
theorem dksX6_evaluate_8 : cX6_evaluate.data.toList.drop 186 = dktX6_evaluate_8 := dk_seg dksX6_evaluate_7 24 rfl rfl
theorem dksX6_evaluate_9 : cX6_evaluate.data.toList.drop 208 = dktX6_evaluate_9 := dk_seg dksX6_evaluate_8 22 rfl rfl
theorem dX6_evaluate_0 : decode cX6_evaluate 0 = .ok (.aload_n 0, 1) := dk_42 (dk_at dksX6_evaluate_0 0 rfl rfl)
theorem dX6_evaluate_1 : decode cX6_evaluate 1 = .ok (.iload_n 2, 1) := dk_28 (dk_at dksX6_evaluate_0 1 rfl rfl)
theorem dX6_evaluate_2 : decode cX6_evaluate 2 = .ok (.invokevirtual 256, 3) := dk_182 1 0 (dk_at dksX6_evaluate_0 2 rfl rfl)
theorem dX6_evaluate_5 : decode cX6_evaluate 5 = .ok (.istore_n 3, 1) := dk_62 (dk_at dksX6_evaluate_0 5 rfl rfl)
theorem dX6_evaluate_6 : decode cX6_evaluate 6 = .ok (.aload_n 0, 1) := dk_42 (dk_at dksX6_evaluate_0 6 rfl rfl)
theorem dX6_evaluate_7 : decode cX6_evaluate 7 = .ok (.getfield 83, 3) := dk_180 0 83 (dk_at dksX6_evaluate_0 7 rfl rfl)
theorem dX6_evaluate_10 : decode cX6_evaluate 10 = .ok (.iload_n 3, 1) := dk_29 (dk_at dksX6_evaluate_0 10 rfl rfl)
theorem dX6_evaluate_11 : decode cX6_evaluate 11 = .ok (.invokevirtual 125, 3) := dk_182 0 125 (dk_at dksX6_evaluate_0 11 rfl rfl)
theorem dX6_evaluate_14 : decode cX6_evaluate 14 = .ok (.istore 4, 2) := dk_54 4 (dk_at dksX6_evaluate_0 14 rfl rfl)
theorem dX6_evaluate_16 : decode cX6_evaluate 16 = .ok (.aload_n 0, 1) := dk_42 (dk_at dksX6_evaluate_0 16 rfl rfl)
theorem dX6_evaluate_17 : decode cX6_evaluate 17 = .ok (.getfield 83, 3) := dk_180 0 83 (dk_at dksX6_evaluate_0 17 rfl rfl)
theorem dX6_evaluate_20 : decode cX6_evaluate 20 = .ok (.iload_n 1, 1) := dk_27 (dk_at dksX6_evaluate_0 20 rfl rfl)
theorem dX6_evaluate_21 : decode cX6_evaluate 21 = .ok (.iconst 5, 1) := dk_8 (dk_at dksX6_evaluate_0 21 rfl rfl)
theorem dX6_evaluate_22 : decode cX6_evaluate 22 = .ok (.invokevirtual 223, 3) := dk_182 0 223 (dk_at dksX6_evaluate_1 0 rfl rfl)
theorem dX6_evaluate_25 : decode cX6_evaluate 25 = .ok (.iconst 4, 1) := dk_7 (dk_at dksX6_evaluate_1 3 rfl rfl)
theorem dX6_evaluate_26 : decode cX6_evaluate 26 = .ok (.if_icmp .ne 137, 3) := dk_160 0 137 (dk_at dksX6_evaluate_1 4 rfl rfl)
theorem dX6_evaluate_29 : decode cX6_evaluate 29 = .ok (.aload_n 0, 1) := dk_42 (dk_at dksX6_evaluate_1 7 rfl rfl)
theorem dX6_evaluate_30 : decode cX6_evaluate 30 = .ok (.iload_n 2, 1) := dk_28 (dk_at dksX6_evaluate_1 8 rfl rfl)
theorem dX6_evaluate_31 : decode cX6_evaluate 31 = .ok (.aload_n 0, 1) := dk_42 (dk_at dksX6_evaluate_1 9 rfl rfl)
theorem dX6_evaluate_32 : decode cX6_evaluate 32 = .ok (.getfield 83, 3) := dk_180 0 83 (dk_at dksX6_evaluate_1 10 rfl rfl)
theorem dX6_evaluate_35 : decode cX6_evaluate 35 = .ok (.iload_n 1, 1) := dk_27 (dk_at dksX6_evaluate_1 13 rfl rfl)
theorem dX6_evaluate_36 : decode cX6_evaluate 36 = .ok (.invokevirtual 178, 3) := dk_182 0 178 (dk_at dksX6_evaluate_1 14 rfl rfl)
theorem dX6_evaluate_39 : decode cX6_evaluate 39 = .ok (.iconst 1, 1) := dk_4 (dk_at dksX6_evaluate_1 17 rfl rfl)
theorem dX6_evaluate_40 : decode cX6_evaluate 40 = .ok (.invokevirtual 262, 3) := dk_182 1 6 (dk_at dksX6_evaluate_1 18 rfl rfl)
theorem dX6_evaluate_43 : decode cX6_evaluate 43 = .ok (.istore 5, 2) := dk_54 5 (dk_at dksX6_evaluate_1 21 rfl rfl)
theorem dX6_evaluate_45 : decode cX6_evaluate 45 = .ok (.iload 5, 2) := dk_21 5 (dk_at dksX6_evaluate_2 0 rfl rfl)
theorem dX6_evaluate_47 : decode cX6_evaluate 47 = .ok (.iconst (-1), 1) := dk_2 (dk_at dksX6_evaluate_2 2 rfl rfl)
theorem dX6_evaluate_48 : decode cX6_evaluate 48 = .ok (.if_icmp .eq 29, 3) := dk_159 0 29 (dk_at dksX6_evaluate_2 3 rfl rfl)
theorem dX6_evaluate_51 : decode cX6_evaluate 51 = .ok (.aload_n 0, 1) := dk_42 (dk_at dksX6_evaluate_2 6 rfl rfl)
theorem dX6_evaluate_52 : decode cX6_evaluate 52 = .ok (.iload_n 1, 1) := dk_27 (dk_at dksX6_evaluate_2 7 rfl rfl)
theorem dX6_evaluate_53 : decode cX6_evaluate 53 = .ok (.iload 5, 2) := dk_21 5 (dk_at dksX6_evaluate_2 8 rfl rfl)
theorem dX6_evaluate_55 : decode cX6_evaluate 55 = .ok (.invokevirtual 368, 3) := dk_182 1 112 (dk_at dksX6_evaluate_2 10 rfl rfl)
theorem dX6_evaluate_58 : decode cX6_evaluate 58 = .ok (.ifCond .eq 17, 3) := dk_153 0 17 (dk_at dksX6_evaluate_2 13 rfl rfl)
theorem dX6_evaluate_61 : decode cX6_evaluate 61 = .ok (.aload_n 0, 1) := dk_42 (dk_at dksX6_evaluate_2 16 rfl rfl)
theorem dX6_evaluate_62 : decode cX6_evaluate 62 = .ok (.iload_n 1, 1) := dk_27 (dk_at dksX6_evaluate_2 17 rfl rfl)
theorem dX6_evaluate_63 : decode cX6_evaluate 63 = .ok (.iload_n 2, 1) := dk_28 (dk_at dksX6_evaluate_2 18 rfl rfl)
theorem dX6_evaluate_64 : decode cX6_evaluate 64 = .ok (.iload_n 3, 1) := dk_29 (dk_at dksX6_evaluate_2 19 rfl rfl)
theorem dX6_evaluate_65 : decode cX6_evaluate 65 = .ok (.invokevirtual 371, 3) := dk_182 1 115 (dk_at dksX6_evaluate_2 20 rfl rfl)
theorem dX6_evaluate_68 : decode cX6_evaluate 68 = .ok (.ifCond .eq 7, 3) := dk_153 0 7 (dk_at dksX6_evaluate_3 0 rfl rfl)
theorem dX6_evaluate_71 : decode cX6_evaluate 71 = .ok (.iconst 1, 1) := dk_4 (dk_at dksX6_evaluate_3 3 rfl rfl)
theorem dX6_evaluate_72 : decode cX6_evaluate 72 = .ok (.goto 4, 3) := dk_167 0 4 (dk_at dksX6_evaluate_3 4 rfl rfl)
theorem dX6_evaluate_75 : decode cX6_evaluate 75 = .ok (.iconst 0, 1) := dk_3 (dk_at dksX6_evaluate_3 7 rfl rfl)
theorem dX6_evaluate_76 : decode cX6_evaluate 76 = .ok (.ireturn, 1) := dk_172 (dk_at dksX6_evaluate_3 8 rfl rfl)
theorem dX6_evaluate_77 : decode cX6_evaluate 77 = .ok (.aload_n 0, 1) := dk_42 (dk_at dksX6_evaluate_3 9 rfl rfl)
theorem dX6_evaluate_78 : decode cX6_evaluate 78 = .ok (.getfield 32, 3) := dk_180 0 32 (dk_at dksX6_evaluate_3 10 rfl rfl)
theorem dX6_evaluate_81 : decode cX6_evaluate 81 = .ok (.aload_n 0, 1) := dk_42 (dk_at dksX6_evaluate_3 13 rfl rfl)
theorem dX6_evaluate_82 : decode cX6_evaluate 82 = .ok (.getfield 83, 3) := dk_180 0 83 (dk_at dksX6_evaluate_3 14 rfl rfl)
theorem dX6_evaluate_85 : decode cX6_evaluate 85 = .ok (.iload_n 1, 1) := dk_27 (dk_at dksX6_evaluate_3 17 rfl rfl)
theorem dX6_evaluate_86 : decode cX6_evaluate 86 = .ok (.invokevirtual 178, 3) := dk_182 0 178 (dk_at dksX6_evaluate_3 18 rfl rfl)
theorem dX6_evaluate_89 : decode cX6_evaluate 89 = .ok (.invokevirtual 245, 3) := dk_182 0 245 (dk_at dksX6_evaluate_3 21 rfl rfl)
theorem dX6_evaluate_92 : decode cX6_evaluate 92 = .ok (.istore 6, 2) := dk_54 6 (dk_at dksX6_evaluate_4 0 rfl rfl)
theorem dX6_evaluate_94 : decode cX6_evaluate 94 = .ok (.aload_n 0, 1) := dk_42 (dk_at dksX6_evaluate_4 2 rfl rfl)
theorem dX6_evaluate_95 : decode cX6_evaluate 95 = .ok (.getfield 83, 3) := dk_180 0 83 (dk_at dksX6_evaluate_4 3 rfl rfl)
theorem dX6_evaluate_98 : decode cX6_evaluate 98 = .ok (.aload_n 0, 1) := dk_42 (dk_at dksX6_evaluate_4 6 rfl rfl)
theorem dX6_evaluate_99 : decode cX6_evaluate 99 = .ok (.aload_n 0, 1) := dk_42 (dk_at dksX6_evaluate_4 7 rfl rfl)
theorem dX6_evaluate_100 : decode cX6_evaluate 100 = .ok (.getfield 83, 3) := dk_180 0 83 (dk_at dksX6_evaluate_4 8 rfl rfl)
theorem dX6_evaluate_103 : decode cX6_evaluate 103 = .ok (.iload 6, 2) := dk_21 6 (dk_at dksX6_evaluate_4 11 rfl rfl)
theorem dX6_evaluate_105 : decode cX6_evaluate 105 = .ok (.invokevirtual 196, 3) := dk_182 0 196 (dk_at dksX6_evaluate_4 13 rfl rfl)
theorem dX6_evaluate_108 : decode cX6_evaluate 108 = .ok (.invokevirtual 256, 3) := dk_182 1 0 (dk_at dksX6_evaluate_4 16 rfl rfl)
theorem dX6_evaluate_111 : decode cX6_evaluate 111 = .ok (.invokevirtual 125, 3) := dk_182 0 125 (dk_at dksX6_evaluate_4 19 rfl rfl)
theorem dX6_evaluate_114 : decode cX6_evaluate 114 = .ok (.iload 4, 2) := dk_21 4 (dk_at dksX6_evaluate_4 22 rfl rfl)
theorem dX6_evaluate_116 : decode cX6_evaluate 116 = .ok (.if_icmp .ne 12, 3) := dk_160 0 12 (dk_at dksX6_evaluate_5 0 rfl rfl)
theorem dX6_evaluate_119 : decode cX6_evaluate 119 = .ok (.aload_n 0, 1) := dk_42 (dk_at dksX6_evaluate_5 3 rfl rfl)
theorem dX6_evaluate_120 : decode cX6_evaluate 120 = .ok (.iload 6, 2) := dk_21 6 (dk_at dksX6_evaluate_5 4 rfl rfl)
theorem dX6_evaluate_122 : decode cX6_evaluate 122 = .ok (.invokevirtual 362, 3) := dk_182 1 106 (dk_at dksX6_evaluate_5 6 rfl rfl)
theorem dX6_evaluate_125 : decode cX6_evaluate 125 = .ok (.ifCond .ne 5, 3) := dk_154 0 5 (dk_at dksX6_evaluate_5 9 rfl rfl)
theorem dX6_evaluate_128 : decode cX6_evaluate 128 = .ok (.iconst 0, 1) := dk_3 (dk_at dksX6_evaluate_5 12 rfl rfl)
theorem dX6_evaluate_129 : decode cX6_evaluate 129 = .ok (.ireturn, 1) := dk_172 (dk_at dksX6_evaluate_5 13 rfl rfl)
theorem dX6_evaluate_130 : decode cX6_evaluate 130 = .ok (.aload_n 0, 1) := dk_42 (dk_at dksX6_evaluate_5 14 rfl rfl)
theorem dX6_evaluate_131 : decode cX6_evaluate 131 = .ok (.iload_n 1, 1) := dk_27 (dk_at dksX6_evaluate_5 15 rfl rfl)
theorem dX6_evaluate_132 : decode cX6_evaluate 132 = .ok (.aload_n 0, 1) := dk_42 (dk_at dksX6_evaluate_5 16 rfl rfl)
theorem dX6_evaluate_133 : decode cX6_evaluate 133 = .ok (.getfield 83, 3) := dk_180 0 83 (dk_at dksX6_evaluate_5 17 rfl rfl)
theorem dX6_evaluate_136 : decode cX6_evaluate 136 = .ok (.iload 6, 2) := dk_21 6 (dk_at dksX6_evaluate_5 20 rfl rfl)
theorem dX6_evaluate_138 : decode cX6_evaluate 138 = .ok (.invokevirtual 266, 3) := dk_182 1 10 (dk_at dksX6_evaluate_6 0 rfl rfl)
theorem dX6_evaluate_141 : decode cX6_evaluate 141 = .ok (.invokevirtual 368, 3) := dk_182 1 112 (dk_at dksX6_evaluate_6 3 rfl rfl)
theorem dX6_evaluate_144 : decode cX6_evaluate 144 = .ok (.ifCond .eq 17, 3) := dk_153 0 17 (dk_at dksX6_evaluate_6 6 rfl rfl)
theorem dX6_evaluate_147 : decode cX6_evaluate 147 = .ok (.aload_n 0, 1) := dk_42 (dk_at dksX6_evaluate_6 9 rfl rfl)
theorem dX6_evaluate_148 : decode cX6_evaluate 148 = .ok (.iload_n 1, 1) := dk_27 (dk_at dksX6_evaluate_6 10 rfl rfl)
theorem dX6_evaluate_149 : decode cX6_evaluate 149 = .ok (.iload_n 2, 1) := dk_28 (dk_at dksX6_evaluate_6 11 rfl rfl)
theorem dX6_evaluate_150 : decode cX6_evaluate 150 = .ok (.iload_n 3, 1) := dk_29 (dk_at dksX6_evaluate_6 12 rfl rfl)
theorem dX6_evaluate_151 : decode cX6_evaluate 151 = .ok (.invokevirtual 371, 3) := dk_182 1 115 (dk_at dksX6_evaluate_6 13 rfl rfl)
theorem dX6_evaluate_154 : decode cX6_evaluate 154 = .ok (.ifCond .eq 7, 3) := dk_153 0 7 (dk_at dksX6_evaluate_6 16 rfl rfl)
theorem dX6_evaluate_157 : decode cX6_evaluate 157 = .ok (.iconst 1, 1) := dk_4 (dk_at dksX6_evaluate_6 19 rfl rfl)
theorem dX6_evaluate_158 : decode cX6_evaluate 158 = .ok (.goto 4, 3) := dk_167 0 4 (dk_at dksX6_evaluate_6 20 rfl rfl)
theorem dX6_evaluate_161 : decode cX6_evaluate 161 = .ok (.iconst 0, 1) := dk_3 (dk_at dksX6_evaluate_6 23 rfl rfl)
theorem dX6_evaluate_162 : decode cX6_evaluate 162 = .ok (.ireturn, 1) := dk_172 (dk_at dksX6_evaluate_7 0 rfl rfl)
theorem dX6_evaluate_163 : decode cX6_evaluate 163 = .ok (.aload_n 0, 1) := dk_42 (dk_at dksX6_evaluate_7 1 rfl rfl)
theorem dX6_evaluate_164 : decode cX6_evaluate 164 = .ok (.getfield 55, 3) := dk_180 0 55 (dk_at dksX6_evaluate_7 2 rfl rfl)
theorem dX6_evaluate_167 : decode cX6_evaluate 167 = .ok (.iload_n 1, 1) := dk_27 (dk_at dksX6_evaluate_7 5 rfl rfl)
theorem dX6_evaluate_168 : decode cX6_evaluate 168 = .ok (.aload_n 0, 1) := dk_42 (dk_at dksX6_evaluate_7 6 rfl rfl)
theorem dX6_evaluate_169 : decode cX6_evaluate 169 = .ok (.getfield 48, 3) := dk_180 0 48 (dk_at dksX6_evaluate_7 7 rfl rfl)
theorem dX6_evaluate_172 : decode cX6_evaluate 172 = .ok (.invokevirtual 214, 3) := dk_182 0 214 (dk_at dksX6_evaluate_7 10 rfl rfl)
theorem dX6_evaluate_175 : decode cX6_evaluate 175 = .ok (.iastore, 1) := dk_79 (dk_at dksX6_evaluate_7 13 rfl rfl)
theorem dX6_evaluate_176 : decode cX6_evaluate 176 = .ok (.aload_n 0, 1) := dk_42 (dk_at dksX6_evaluate_7 14 rfl rfl)
theorem dX6_evaluate_177 : decode cX6_evaluate 177 = .ok (.iload_n 1, 1) := dk_27 (dk_at dksX6_evaluate_7 15 rfl rfl)
theorem dX6_evaluate_178 : decode cX6_evaluate 178 = .ok (.iload_n 3, 1) := dk_29 (dk_at dksX6_evaluate_7 16 rfl rfl)
theorem dX6_evaluate_179 : decode cX6_evaluate 179 = .ok (.iload 4, 2) := dk_21 4 (dk_at dksX6_evaluate_7 17 rfl rfl)
theorem dX6_evaluate_181 : decode cX6_evaluate 181 = .ok (.invokevirtual 374, 3) := dk_182 1 118 (dk_at dksX6_evaluate_7 19 rfl rfl)
theorem dX6_evaluate_184 : decode cX6_evaluate 184 = .ok (.istore 5, 2) := dk_54 5 (dk_at dksX6_evaluate_7 22 rfl rfl)
theorem dX6_evaluate_186 : decode cX6_evaluate 186 = .ok (.aload_n 0, 1) := dk_42 (dk_at dksX6_evaluate_8 0 rfl rfl)
theorem dX6_evaluate_187 : decode cX6_evaluate 187 = .ok (.getfield 59, 3) := dk_180 0 59 (dk_at dksX6_evaluate_8 1 rfl rfl)
theorem dX6_evaluate_190 : decode cX6_evaluate 190 = .ok (.iload_n 1, 1) := dk_27 (dk_at dksX6_evaluate_8 4 rfl rfl)
theorem dX6_evaluate_191 : decode cX6_evaluate 191 = .ok (.aload_n 0, 1) := dk_42 (dk_at dksX6_evaluate_8 5 rfl rfl)
theorem dX6_evaluate_192 : decode cX6_evaluate 192 = .ok (.getfield 48, 3) := dk_180 0 48 (dk_at dksX6_evaluate_8 6 rfl rfl)
theorem dX6_evaluate_195 : decode cX6_evaluate 195 = .ok (.invokevirtual 214, 3) := dk_182 0 214 (dk_at dksX6_evaluate_8 9 rfl rfl)
theorem dX6_evaluate_198 : decode cX6_evaluate 198 = .ok (.iastore, 1) := dk_79 (dk_at dksX6_evaluate_8 12 rfl rfl)
theorem dX6_evaluate_199 : decode cX6_evaluate 199 = .ok (.iload 5, 2) := dk_21 5 (dk_at dksX6_evaluate_8 13 rfl rfl)
theorem dX6_evaluate_201 : decode cX6_evaluate 201 = .ok (.ifCond .eq 17, 3) := dk_153 0 17 (dk_at dksX6_evaluate_8 15 rfl rfl)
theorem dX6_evaluate_204 : decode cX6_evaluate 204 = .ok (.aload_n 0, 1) := dk_42 (dk_at dksX6_evaluate_8 18 rfl rfl)
theorem dX6_evaluate_205 : decode cX6_evaluate 205 = .ok (.iload_n 1, 1) := dk_27 (dk_at dksX6_evaluate_8 19 rfl rfl)
theorem dX6_evaluate_206 : decode cX6_evaluate 206 = .ok (.iload_n 2, 1) := dk_28 (dk_at dksX6_evaluate_8 20 rfl rfl)
theorem dX6_evaluate_207 : decode cX6_evaluate 207 = .ok (.iload_n 3, 1) := dk_29 (dk_at dksX6_evaluate_8 21 rfl rfl)
theorem dX6_evaluate_208 : decode cX6_evaluate 208 = .ok (.invokevirtual 371, 3) := dk_182 1 115 (dk_at dksX6_evaluate_9 0 rfl rfl)
theorem dX6_evaluate_211 : decode cX6_evaluate 211 = .ok (.ifCond .eq 7, 3) := dk_153 0 7 (dk_at dksX6_evaluate_9 3 rfl rfl)
theorem dX6_evaluate_214 : decode cX6_evaluate 214 = .ok (.iconst 1, 1) := dk_4 (dk_at dksX6_evaluate_9 6 rfl rfl)
theorem dX6_evaluate_215 : decode cX6_evaluate 215 = .ok (.goto 4, 3) := dk_167 0 4 (dk_at dksX6_evaluate_9 7 rfl rfl)
theorem dX6_evaluate_218 : decode cX6_evaluate 218 = .ok (.iconst 0, 1) := dk_3 (dk_at dksX6_evaluate_9 10 rfl rfl)
theorem dX6_evaluate_219 : decode cX6_evaluate 219 = .ok (.ireturn, 1) := dk_172 (dk_at dksX6_evaluate_9 11 rfl rfl)
abbrev cX6_copy : ByteArray := prog_9_method_54_code
def yX6_copy : MethodName := ⟨RX6, "copy", "(II)Z"⟩
def dkwX6_copy_1 : List UInt8 := [4, 172]
abbrev dktX6_copy_1 : List UInt8 := dkwX6_copy_1 ++ []
def dkwX6_copy_0 : List UInt8 := [42, 180, 0, 55, 27, 42, 180, 0, 55, 28, 46, 79, 42, 180, 0, 59, 27, 42, 180, 0, 59, 28, 46, 79]
abbrev dktX6_copy_0 : List UInt8 := dkwX6_copy_0 ++ dktX6_copy_1
theorem dksX6_copy_0 : cX6_copy.data.toList.drop 0 = dktX6_copy_0 := by decide +kernel
theorem dksX6_copy_1 : cX6_copy.data.toList.drop 24 = dktX6_copy_1 := dk_seg dksX6_copy_0 24 rfl rfl
theorem dX6_copy_0 : decode cX6_copy 0 = .ok (.aload_n 0, 1) := dk_42 (dk_at dksX6_copy_0 0 rfl rfl)
theorem dX6_copy_1 : decode cX6_copy 1 = .ok (.getfield 55, 3) := dk_180 0 55 (dk_at dksX6_copy_0 1 rfl rfl)
theorem dX6_copy_4 : decode cX6_copy 4 = .ok (.iload_n 1, 1) := dk_27 (dk_at dksX6_copy_0 4 rfl rfl)
theorem dX6_copy_5 : decode cX6_copy 5 = .ok (.aload_n 0, 1) := dk_42 (dk_at dksX6_copy_0 5 rfl rfl)
theorem dX6_copy_6 : decode cX6_copy 6 = .ok (.getfield 55, 3) := dk_180 0 55 (dk_at dksX6_copy_0 6 rfl rfl)
theorem dX6_copy_9 : decode cX6_copy 9 = .ok (.iload_n 2, 1) := dk_28 (dk_at dksX6_copy_0 9 rfl rfl)
theorem dX6_copy_10 : decode cX6_copy 10 = .ok (.iaload, 1) := dk_46 (dk_at dksX6_copy_0 10 rfl rfl)
theorem dX6_copy_11 : decode cX6_copy 11 = .ok (.iastore, 1) := dk_79 (dk_at dksX6_copy_0 11 rfl rfl)
theorem dX6_copy_12 : decode cX6_copy 12 = .ok (.aload_n 0, 1) := dk_42 (dk_at dksX6_copy_0 12 rfl rfl)
theorem dX6_copy_13 : decode cX6_copy 13 = .ok (.getfield 59, 3) := dk_180 0 59 (dk_at dksX6_copy_0 13 rfl rfl)
theorem dX6_copy_16 : decode cX6_copy 16 = .ok (.iload_n 1, 1) := dk_27 (dk_at dksX6_copy_0 16 rfl rfl)
theorem dX6_copy_17 : decode cX6_copy 17 = .ok (.aload_n 0, 1) := dk_42 (dk_at dksX6_copy_0 17 rfl rfl)
theorem dX6_copy_18 : decode cX6_copy 18 = .ok (.getfield 59, 3) := dk_180 0 59 (dk_at dksX6_copy_0 18 rfl rfl)
theorem dX6_copy_21 : decode cX6_copy 21 = .ok (.iload_n 2, 1) := dk_28 (dk_at dksX6_copy_0 21 rfl rfl)
theorem dX6_copy_22 : decode cX6_copy 22 = .ok (.iaload, 1) := dk_46 (dk_at dksX6_copy_0 22 rfl rfl)
theorem dX6_copy_23 : decode cX6_copy 23 = .ok (.iastore, 1) := dk_79 (dk_at dksX6_copy_0 23 rfl rfl)
theorem dX6_copy_24 : decode cX6_copy 24 = .ok (.iconst 1, 1) := dk_4 (dk_at dksX6_copy_1 0 rfl rfl)
theorem dX6_copy_25 : decode cX6_copy 25 = .ok (.ireturn, 1) := dk_172 (dk_at dksX6_copy_1 1 rfl rfl)
abbrev cX6_holds : ByteArray := prog_9_method_65_code
def yX6_holds : MethodName := ⟨RX6, "holds", "(III)Z"⟩
def dkwX6_holds_7 : List UInt8 := [182, 1, 196, 172, 4, 172]
abbrev dktX6_holds_7 : List UInt8 := dkwX6_holds_7 ++ []
def dkwX6_holds_6 : List UInt8 := [159, 0, 9, 21, 4, 8, 160, 0, 22, 42, 28, 42, 180, 0, 59, 27, 46, 42, 180, 0, 55, 27, 46, 100]
abbrev dktX6_holds_6 : List UInt8 := dkwX6_holds_6 ++ dktX6_holds_7
def dkwX6_holds_5 : List UInt8 := [42, 29, 182, 1, 134, 172, 21, 4, 16, 7, 159, 0, 23, 21, 4, 16, 8, 159, 0, 16, 21, 4, 16, 9]
abbrev dktX6_holds_5 : List UInt8 := dkwX6_holds_5 ++ dktX6_holds_6
def dkwX6_holds_4 : List UInt8 := [160, 0, 10, 42, 28, 3, 182, 1, 196, 172, 21, 4, 16, 12, 159, 0, 10, 21, 4, 16, 13, 160, 0, 9]
abbrev dktX6_holds_4 : List UInt8 := dkwX6_holds_4 ++ dktX6_holds_5
def dkwX6_holds_3 : List UInt8 := [160, 0, 11, 42, 27, 28, 29, 182, 1, 193, 172, 21, 4, 16, 14, 159, 0, 10, 21, 4, 16, 15]
abbrev dktX6_holds_3 : List UInt8 := dkwX6_holds_3 ++ dktX6_holds_4
def dkwX6_holds_2 : List UInt8 := [180, 0, 48, 42, 180, 0, 55, 27, 46, 42, 180, 0, 59, 27, 46, 182, 1, 190, 172, 21, 4, 7]
abbrev dktX6_holds_2 : List UInt8 := dkwX6_holds_2 ++ dktX6_holds_3
def dkwX6_holds_1 : List UInt8 := [180, 0, 55, 27, 46, 42, 180, 0, 59, 27, 46, 182, 1, 187, 172, 21, 4, 6, 160, 0, 25, 42, 29, 42]
abbrev dktX6_holds_1 : List UInt8 := dkwX6_holds_1 ++ dktX6_holds_2
def dkwX6_holds_0 : List UInt8 := [42, 180, 0, 83, 29, 182, 0, 125, 54, 4, 21, 4, 5, 160, 0, 25, 42, 28, 42, 180, 0, 48, 42]
abbrev dktX6_holds_0 : List UInt8 := dkwX6_holds_0 ++ dktX6_holds_1
theorem dksX6_holds_0 : cX6_holds.data.toList.drop 0 = dktX6_holds_0 := by decide +kernel
theorem dksX6_holds_1 : cX6_holds.data.toList.drop 23 = dktX6_holds_1 := dk_seg dksX6_holds_0 23 rfl rfl
theorem dksX6_holds_2 : cX6_holds.data.toList.drop 47 = dktX6_holds_2 := dk_seg dksX6_holds_1 24 rfl rfl
theorem dksX6_holds_3 : cX6_holds.data.toList.drop 69 = dktX6_holds_3 := dk_seg dksX6_holds_2 22 rfl rfl
theorem dksX6_holds_4 : cX6_holds.data.toList.drop 91 = dktX6_holds_4 := dk_seg dksX6_holds_3 22 rfl rfl
theorem dksX6_holds_5 : cX6_holds.data.toList.drop 115 = dktX6_holds_5 := dk_seg dksX6_holds_4 24 rfl rfl
theorem dksX6_holds_6 : cX6_holds.data.toList.drop 139 = dktX6_holds_6 := dk_seg dksX6_holds_5 24 rfl rfl
theorem dksX6_holds_7 : cX6_holds.data.toList.drop 163 = dktX6_holds_7 := dk_seg dksX6_holds_6 24 rfl rfl
theorem dX6_holds_0 : decode cX6_holds 0 = .ok (.aload_n 0, 1) := dk_42 (dk_at dksX6_holds_0 0 rfl rfl)
theorem dX6_holds_1 : decode cX6_holds 1 = .ok (.getfield 83, 3) := dk_180 0 83 (dk_at dksX6_holds_0 1 rfl rfl)
theorem dX6_holds_4 : decode cX6_holds 4 = .ok (.iload_n 3, 1) := dk_29 (dk_at dksX6_holds_0 4 rfl rfl)
theorem dX6_holds_5 : decode cX6_holds 5 = .ok (.invokevirtual 125, 3) := dk_182 0 125 (dk_at dksX6_holds_0 5 rfl rfl)
theorem dX6_holds_8 : decode cX6_holds 8 = .ok (.istore 4, 2) := dk_54 4 (dk_at dksX6_holds_0 8 rfl rfl)
theorem dX6_holds_10 : decode cX6_holds 10 = .ok (.iload 4, 2) := dk_21 4 (dk_at dksX6_holds_0 10 rfl rfl)
theorem dX6_holds_12 : decode cX6_holds 12 = .ok (.iconst 2, 1) := dk_5 (dk_at dksX6_holds_0 12 rfl rfl)
theorem dX6_holds_13 : decode cX6_holds 13 = .ok (.if_icmp .ne 25, 3) := dk_160 0 25 (dk_at dksX6_holds_0 13 rfl rfl)
theorem dX6_holds_16 : decode cX6_holds 16 = .ok (.aload_n 0, 1) := dk_42 (dk_at dksX6_holds_0 16 rfl rfl)
theorem dX6_holds_17 : decode cX6_holds 17 = .ok (.iload_n 2, 1) := dk_28 (dk_at dksX6_holds_0 17 rfl rfl)
theorem dX6_holds_18 : decode cX6_holds 18 = .ok (.aload_n 0, 1) := dk_42 (dk_at dksX6_holds_0 18 rfl rfl)
theorem dX6_holds_19 : decode cX6_holds 19 = .ok (.getfield 48, 3) := dk_180 0 48 (dk_at dksX6_holds_0 19 rfl rfl)
theorem dX6_holds_22 : decode cX6_holds 22 = .ok (.aload_n 0, 1) := dk_42 (dk_at dksX6_holds_0 22 rfl rfl)
theorem dX6_holds_23 : decode cX6_holds 23 = .ok (.getfield 55, 3) := dk_180 0 55 (dk_at dksX6_holds_1 0 rfl rfl)
theorem dX6_holds_26 : decode cX6_holds 26 = .ok (.iload_n 1, 1) := dk_27 (dk_at dksX6_holds_1 3 rfl rfl)
theorem dX6_holds_27 : decode cX6_holds 27 = .ok (.iaload, 1) := dk_46 (dk_at dksX6_holds_1 4 rfl rfl)
theorem dX6_holds_28 : decode cX6_holds 28 = .ok (.aload_n 0, 1) := dk_42 (dk_at dksX6_holds_1 5 rfl rfl)
theorem dX6_holds_29 : decode cX6_holds 29 = .ok (.getfield 59, 3) := dk_180 0 59 (dk_at dksX6_holds_1 6 rfl rfl)
theorem dX6_holds_32 : decode cX6_holds 32 = .ok (.iload_n 1, 1) := dk_27 (dk_at dksX6_holds_1 9 rfl rfl)
theorem dX6_holds_33 : decode cX6_holds 33 = .ok (.iaload, 1) := dk_46 (dk_at dksX6_holds_1 10 rfl rfl)
theorem dX6_holds_34 : decode cX6_holds 34 = .ok (.invokevirtual 443, 3) := dk_182 1 187 (dk_at dksX6_holds_1 11 rfl rfl)
theorem dX6_holds_37 : decode cX6_holds 37 = .ok (.ireturn, 1) := dk_172 (dk_at dksX6_holds_1 14 rfl rfl)
theorem dX6_holds_38 : decode cX6_holds 38 = .ok (.iload 4, 2) := dk_21 4 (dk_at dksX6_holds_1 15 rfl rfl)
theorem dX6_holds_40 : decode cX6_holds 40 = .ok (.iconst 3, 1) := dk_6 (dk_at dksX6_holds_1 17 rfl rfl)
theorem dX6_holds_41 : decode cX6_holds 41 = .ok (.if_icmp .ne 25, 3) := dk_160 0 25 (dk_at dksX6_holds_1 18 rfl rfl)
theorem dX6_holds_44 : decode cX6_holds 44 = .ok (.aload_n 0, 1) := dk_42 (dk_at dksX6_holds_1 21 rfl rfl)
theorem dX6_holds_45 : decode cX6_holds 45 = .ok (.iload_n 3, 1) := dk_29 (dk_at dksX6_holds_1 22 rfl rfl)
theorem dX6_holds_46 : decode cX6_holds 46 = .ok (.aload_n 0, 1) := dk_42 (dk_at dksX6_holds_1 23 rfl rfl)
theorem dX6_holds_47 : decode cX6_holds 47 = .ok (.getfield 48, 3) := dk_180 0 48 (dk_at dksX6_holds_2 0 rfl rfl)
theorem dX6_holds_50 : decode cX6_holds 50 = .ok (.aload_n 0, 1) := dk_42 (dk_at dksX6_holds_2 3 rfl rfl)
theorem dX6_holds_51 : decode cX6_holds 51 = .ok (.getfield 55, 3) := dk_180 0 55 (dk_at dksX6_holds_2 4 rfl rfl)
theorem dX6_holds_54 : decode cX6_holds 54 = .ok (.iload_n 1, 1) := dk_27 (dk_at dksX6_holds_2 7 rfl rfl)
theorem dX6_holds_55 : decode cX6_holds 55 = .ok (.iaload, 1) := dk_46 (dk_at dksX6_holds_2 8 rfl rfl)
theorem dX6_holds_56 : decode cX6_holds 56 = .ok (.aload_n 0, 1) := dk_42 (dk_at dksX6_holds_2 9 rfl rfl)
theorem dX6_holds_57 : decode cX6_holds 57 = .ok (.getfield 59, 3) := dk_180 0 59 (dk_at dksX6_holds_2 10 rfl rfl)
theorem dX6_holds_60 : decode cX6_holds 60 = .ok (.iload_n 1, 1) := dk_27 (dk_at dksX6_holds_2 13 rfl rfl)
theorem dX6_holds_61 : decode cX6_holds 61 = .ok (.iaload, 1) := dk_46 (dk_at dksX6_holds_2 14 rfl rfl)
theorem dX6_holds_62 : decode cX6_holds 62 = .ok (.invokevirtual 446, 3) := dk_182 1 190 (dk_at dksX6_holds_2 15 rfl rfl)
theorem dX6_holds_65 : decode cX6_holds 65 = .ok (.ireturn, 1) := dk_172 (dk_at dksX6_holds_2 18 rfl rfl)
theorem dX6_holds_66 : decode cX6_holds 66 = .ok (.iload 4, 2) := dk_21 4 (dk_at dksX6_holds_2 19 rfl rfl)
theorem dX6_holds_68 : decode cX6_holds 68 = .ok (.iconst 4, 1) := dk_7 (dk_at dksX6_holds_2 21 rfl rfl)
theorem dX6_holds_69 : decode cX6_holds 69 = .ok (.if_icmp .ne 11, 3) := dk_160 0 11 (dk_at dksX6_holds_3 0 rfl rfl)
theorem dX6_holds_72 : decode cX6_holds 72 = .ok (.aload_n 0, 1) := dk_42 (dk_at dksX6_holds_3 3 rfl rfl)
theorem dX6_holds_73 : decode cX6_holds 73 = .ok (.iload_n 1, 1) := dk_27 (dk_at dksX6_holds_3 4 rfl rfl)
theorem dX6_holds_74 : decode cX6_holds 74 = .ok (.iload_n 2, 1) := dk_28 (dk_at dksX6_holds_3 5 rfl rfl)
theorem dX6_holds_75 : decode cX6_holds 75 = .ok (.iload_n 3, 1) := dk_29 (dk_at dksX6_holds_3 6 rfl rfl)
theorem dX6_holds_76 : decode cX6_holds 76 = .ok (.invokevirtual 449, 3) := dk_182 1 193 (dk_at dksX6_holds_3 7 rfl rfl)
theorem dX6_holds_79 : decode cX6_holds 79 = .ok (.ireturn, 1) := dk_172 (dk_at dksX6_holds_3 10 rfl rfl)
theorem dX6_holds_80 : decode cX6_holds 80 = .ok (.iload 4, 2) := dk_21 4 (dk_at dksX6_holds_3 11 rfl rfl)
theorem dX6_holds_82 : decode cX6_holds 82 = .ok (.bipush 14, 2) := dk_16 14 (dk_at dksX6_holds_3 13 rfl rfl)
theorem dX6_holds_84 : decode cX6_holds 84 = .ok (.if_icmp .eq 10, 3) := dk_159 0 10 (dk_at dksX6_holds_3 15 rfl rfl)
theorem dX6_holds_87 : decode cX6_holds 87 = .ok (.iload 4, 2) := dk_21 4 (dk_at dksX6_holds_3 18 rfl rfl)
theorem dX6_holds_89 : decode cX6_holds 89 = .ok (.bipush 15, 2) := dk_16 15 (dk_at dksX6_holds_3 20 rfl rfl)
theorem dX6_holds_91 : decode cX6_holds 91 = .ok (.if_icmp .ne 10, 3) := dk_160 0 10 (dk_at dksX6_holds_4 0 rfl rfl)
theorem dX6_holds_94 : decode cX6_holds 94 = .ok (.aload_n 0, 1) := dk_42 (dk_at dksX6_holds_4 3 rfl rfl)
theorem dX6_holds_95 : decode cX6_holds 95 = .ok (.iload_n 2, 1) := dk_28 (dk_at dksX6_holds_4 4 rfl rfl)
theorem dX6_holds_96 : decode cX6_holds 96 = .ok (.iconst 0, 1) := dk_3 (dk_at dksX6_holds_4 5 rfl rfl)
theorem dX6_holds_97 : decode cX6_holds 97 = .ok (.invokevirtual 452, 3) := dk_182 1 196 (dk_at dksX6_holds_4 6 rfl rfl)
theorem dX6_holds_100 : decode cX6_holds 100 = .ok (.ireturn, 1) := dk_172 (dk_at dksX6_holds_4 9 rfl rfl)
theorem dX6_holds_101 : decode cX6_holds 101 = .ok (.iload 4, 2) := dk_21 4 (dk_at dksX6_holds_4 10 rfl rfl)
theorem dX6_holds_103 : decode cX6_holds 103 = .ok (.bipush 12, 2) := dk_16 12 (dk_at dksX6_holds_4 12 rfl rfl)
theorem dX6_holds_105 : decode cX6_holds 105 = .ok (.if_icmp .eq 10, 3) := dk_159 0 10 (dk_at dksX6_holds_4 14 rfl rfl)
theorem dX6_holds_108 : decode cX6_holds 108 = .ok (.iload 4, 2) := dk_21 4 (dk_at dksX6_holds_4 17 rfl rfl)
theorem dX6_holds_110 : decode cX6_holds 110 = .ok (.bipush 13, 2) := dk_16 13 (dk_at dksX6_holds_4 19 rfl rfl)
theorem dX6_holds_112 : decode cX6_holds 112 = .ok (.if_icmp .ne 9, 3) := dk_160 0 9 (dk_at dksX6_holds_4 21 rfl rfl)
theorem dX6_holds_115 : decode cX6_holds 115 = .ok (.aload_n 0, 1) := dk_42 (dk_at dksX6_holds_5 0 rfl rfl)
theorem dX6_holds_116 : decode cX6_holds 116 = .ok (.iload_n 3, 1) := dk_29 (dk_at dksX6_holds_5 1 rfl rfl)
theorem dX6_holds_117 : decode cX6_holds 117 = .ok (.invokevirtual 390, 3) := dk_182 1 134 (dk_at dksX6_holds_5 2 rfl rfl)
theorem dX6_holds_120 : decode cX6_holds 120 = .ok (.ireturn, 1) := dk_172 (dk_at dksX6_holds_5 5 rfl rfl)
theorem dX6_holds_121 : decode cX6_holds 121 = .ok (.iload 4, 2) := dk_21 4 (dk_at dksX6_holds_5 6 rfl rfl)
theorem dX6_holds_123 : decode cX6_holds 123 = .ok (.bipush 7, 2) := dk_16 7 (dk_at dksX6_holds_5 8 rfl rfl)
theorem dX6_holds_125 : decode cX6_holds 125 = .ok (.if_icmp .eq 23, 3) := dk_159 0 23 (dk_at dksX6_holds_5 10 rfl rfl)
theorem dX6_holds_128 : decode cX6_holds 128 = .ok (.iload 4, 2) := dk_21 4 (dk_at dksX6_holds_5 13 rfl rfl)
theorem dX6_holds_130 : decode cX6_holds 130 = .ok (.bipush 8, 2) := dk_16 8 (dk_at dksX6_holds_5 15 rfl rfl)
theorem dX6_holds_132 : decode cX6_holds 132 = .ok (.if_icmp .eq 16, 3) := dk_159 0 16 (dk_at dksX6_holds_5 17 rfl rfl)
theorem dX6_holds_135 : decode cX6_holds 135 = .ok (.iload 4, 2) := dk_21 4 (dk_at dksX6_holds_5 20 rfl rfl)
theorem dX6_holds_137 : decode cX6_holds 137 = .ok (.bipush 9, 2) := dk_16 9 (dk_at dksX6_holds_5 22 rfl rfl)
theorem dX6_holds_139 : decode cX6_holds 139 = .ok (.if_icmp .eq 9, 3) := dk_159 0 9 (dk_at dksX6_holds_6 0 rfl rfl)
theorem dX6_holds_142 : decode cX6_holds 142 = .ok (.iload 4, 2) := dk_21 4 (dk_at dksX6_holds_6 3 rfl rfl)
theorem dX6_holds_144 : decode cX6_holds 144 = .ok (.iconst 5, 1) := dk_8 (dk_at dksX6_holds_6 5 rfl rfl)
theorem dX6_holds_145 : decode cX6_holds 145 = .ok (.if_icmp .ne 22, 3) := dk_160 0 22 (dk_at dksX6_holds_6 6 rfl rfl)
theorem dX6_holds_148 : decode cX6_holds 148 = .ok (.aload_n 0, 1) := dk_42 (dk_at dksX6_holds_6 9 rfl rfl)
theorem dX6_holds_149 : decode cX6_holds 149 = .ok (.iload_n 2, 1) := dk_28 (dk_at dksX6_holds_6 10 rfl rfl)
theorem dX6_holds_150 : decode cX6_holds 150 = .ok (.aload_n 0, 1) := dk_42 (dk_at dksX6_holds_6 11 rfl rfl)
theorem dX6_holds_151 : decode cX6_holds 151 = .ok (.getfield 59, 3) := dk_180 0 59 (dk_at dksX6_holds_6 12 rfl rfl)
theorem dX6_holds_154 : decode cX6_holds 154 = .ok (.iload_n 1, 1) := dk_27 (dk_at dksX6_holds_6 15 rfl rfl)
theorem dX6_holds_155 : decode cX6_holds 155 = .ok (.iaload, 1) := dk_46 (dk_at dksX6_holds_6 16 rfl rfl)
theorem dX6_holds_156 : decode cX6_holds 156 = .ok (.aload_n 0, 1) := dk_42 (dk_at dksX6_holds_6 17 rfl rfl)
theorem dX6_holds_157 : decode cX6_holds 157 = .ok (.getfield 55, 3) := dk_180 0 55 (dk_at dksX6_holds_6 18 rfl rfl)
theorem dX6_holds_160 : decode cX6_holds 160 = .ok (.iload_n 1, 1) := dk_27 (dk_at dksX6_holds_6 21 rfl rfl)
theorem dX6_holds_161 : decode cX6_holds 161 = .ok (.iaload, 1) := dk_46 (dk_at dksX6_holds_6 22 rfl rfl)
theorem dX6_holds_162 : decode cX6_holds 162 = .ok (.isub, 1) := dk_100 (dk_at dksX6_holds_6 23 rfl rfl)
theorem dX6_holds_163 : decode cX6_holds 163 = .ok (.invokevirtual 452, 3) := dk_182 1 196 (dk_at dksX6_holds_7 0 rfl rfl)
theorem dX6_holds_166 : decode cX6_holds 166 = .ok (.ireturn, 1) := dk_172 (dk_at dksX6_holds_7 3 rfl rfl)
theorem dX6_holds_167 : decode cX6_holds 167 = .ok (.iconst 1, 1) := dk_4 (dk_at dksX6_holds_7 4 rfl rfl)
theorem dX6_holds_168 : decode cX6_holds 168 = .ok (.ireturn, 1) := dk_172 (dk_at dksX6_holds_7 5 rfl rfl)
abbrev cX6_isInRange : ByteArray := prog_9_method_48_code
def yX6_isInRange : MethodName := ⟨RX6, "isInRange", "(ILSchemaWorkshop$Bytes;II)Z"⟩
def dkwX6_isInRange_3 : List UInt8 := [182, 0, 250, 54, 5, 167, 255, 186]
abbrev dktX6_isInRange_3 : List UInt8 := dkwX6_isInRange_3 ++ []
def dkwX6_isInRange_2 : List UInt8 := [167, 255, 224, 42, 180, 0, 83, 21, 5, 182, 0, 125, 16, 17, 159, 0, 5, 4, 172, 42, 21, 5]
abbrev dktX6_isInRange_2 : List UInt8 := dkwX6_isInRange_2 ++ dktX6_isInRange_3
def dkwX6_isInRange_1 : List UInt8 := [29, 21, 4, 182, 1, 99, 154, 0, 5, 3, 172, 42, 180, 0, 83, 21, 6, 182, 0, 189, 54, 6]
abbrev dktX6_isInRange_1 : List UInt8 := dkwX6_isInRange_1 ++ dktX6_isInRange_2
def dkwX6_isInRange_0 : List UInt8 := [27, 54, 5, 42, 180, 0, 83, 21, 5, 182, 1, 10, 54, 6, 21, 6, 2, 159, 0, 32, 42, 21, 6, 44]
abbrev dktX6_isInRange_0 : List UInt8 := dkwX6_isInRange_0 ++ dktX6_isInRange_1
theorem dksX6_isInRange_0 : cX6_isInRange.data.toList.drop 0 = dktX6_isInRange_0 := by decide +kernel
theorem dksX6_isInRange_1 : cX6_isInRange.data.toList.drop 24 = dktX6_isInRange_1 := dk_seg dksX6_isInRange_0 24 rfl rfl
theorem dksX6_isInRange_2 : cX6_isInRange.data.toList.drop 46 = dktX6_isInRange_2 := dk_seg dksX6_isInRange_1 22 rfl rfl
theorem dksX6_isInRange_3 : cX6_isInRange.data.toList.drop 68 = dktX6_isInRange_3 := dk_seg dksX6_isInRange_2 22 rfl rfl
theorem dX6_isInRange_0 : decode cX6_isInRange 0 = .ok (.iload_n 1, 1) := dk_27 (dk_at dksX6_isInRange_0 0 rfl rfl)
theorem dX6_isInRange_1 : decode cX6_isInRange 1 = .ok (.istore 5, 2) := dk_54 5 (dk_at dksX6_isInRange_0 1 rfl rfl)
theorem dX6_isInRange_3 : decode cX6_isInRange 3 = .ok (.aload_n 0, 1) := dk_42 (dk_at dksX6_isInRange_0 3 rfl rfl)
theorem dX6_isInRange_4 : decode cX6_isInRange 4 = .ok (.getfield 83, 3) := dk_180 0 83 (dk_at dksX6_isInRange_0 4 rfl rfl)
theorem dX6_isInRange_7 : decode cX6_isInRange 7 = .ok (.iload 5, 2) := dk_21 5 (dk_at dksX6_isInRange_0 7 rfl rfl)
theorem dX6_isInRange_9 : decode cX6_isInRange 9 = .ok (.invokevirtual 266, 3) := dk_182 1 10 (dk_at dksX6_isInRange_0 9 rfl rfl)
theorem dX6_isInRange_12 : decode cX6_isInRange 12 = .ok (.istore 6, 2) := dk_54 6 (dk_at dksX6_isInRange_0 12 rfl rfl)
theorem dX6_isInRange_14 : decode cX6_isInRange 14 = .ok (.iload 6, 2) := dk_21 6 (dk_at dksX6_isInRange_0 14 rfl rfl)
theorem dX6_isInRange_16 : decode cX6_isInRange 16 = .ok (.iconst (-1), 1) := dk_2 (dk_at dksX6_isInRange_0 16 rfl rfl)
theorem dX6_isInRange_17 : decode cX6_isInRange 17 = .ok (.if_icmp .eq 32, 3) := dk_159 0 32 (dk_at dksX6_isInRange_0 17 rfl rfl)
theorem dX6_isInRange_20 : decode cX6_isInRange 20 = .ok (.aload_n 0, 1) := dk_42 (dk_at dksX6_isInRange_0 20 rfl rfl)
theorem dX6_isInRange_21 : decode cX6_isInRange 21 = .ok (.iload 6, 2) := dk_21 6 (dk_at dksX6_isInRange_0 21 rfl rfl)
theorem dX6_isInRange_23 : decode cX6_isInRange 23 = .ok (.aload_n 2, 1) := dk_44 (dk_at dksX6_isInRange_0 23 rfl rfl)
theorem dX6_isInRange_24 : decode cX6_isInRange 24 = .ok (.iload_n 3, 1) := dk_29 (dk_at dksX6_isInRange_1 0 rfl rfl)
theorem dX6_isInRange_25 : decode cX6_isInRange 25 = .ok (.iload 4, 2) := dk_21 4 (dk_at dksX6_isInRange_1 1 rfl rfl)
theorem dX6_isInRange_27 : decode cX6_isInRange 27 = .ok (.invokevirtual 355, 3) := dk_182 1 99 (dk_at dksX6_isInRange_1 3 rfl rfl)
theorem dX6_isInRange_30 : decode cX6_isInRange 30 = .ok (.ifCond .ne 5, 3) := dk_154 0 5 (dk_at dksX6_isInRange_1 6 rfl rfl)
theorem dX6_isInRange_33 : decode cX6_isInRange 33 = .ok (.iconst 0, 1) := dk_3 (dk_at dksX6_isInRange_1 9 rfl rfl)
theorem dX6_isInRange_34 : decode cX6_isInRange 34 = .ok (.ireturn, 1) := dk_172 (dk_at dksX6_isInRange_1 10 rfl rfl)
theorem dX6_isInRange_35 : decode cX6_isInRange 35 = .ok (.aload_n 0, 1) := dk_42 (dk_at dksX6_isInRange_1 11 rfl rfl)
theorem dX6_isInRange_36 : decode cX6_isInRange 36 = .ok (.getfield 83, 3) := dk_180 0 83 (dk_at dksX6_isInRange_1 12 rfl rfl)
theorem dX6_isInRange_39 : decode cX6_isInRange 39 = .ok (.iload 6, 2) := dk_21 6 (dk_at dksX6_isInRange_1 15 rfl rfl)
theorem dX6_isInRange_41 : decode cX6_isInRange 41 = .ok (.invokevirtual 189, 3) := dk_182 0 189 (dk_at dksX6_isInRange_1 17 rfl rfl)
theorem dX6_isInRange_44 : decode cX6_isInRange 44 = .ok (.istore 6, 2) := dk_54 6 (dk_at dksX6_isInRange_1 20 rfl rfl)
theorem dX6_isInRange_46 : decode cX6_isInRange 46 = .ok (.goto (-32), 3) := dk_167 255 224 (dk_at dksX6_isInRange_2 0 rfl rfl)
theorem dX6_isInRange_49 : decode cX6_isInRange 49 = .ok (.aload_n 0, 1) := dk_42 (dk_at dksX6_isInRange_2 3 rfl rfl)
theorem dX6_isInRange_50 : decode cX6_isInRange 50 = .ok (.getfield 83, 3) := dk_180 0 83 (dk_at dksX6_isInRange_2 4 rfl rfl)
theorem dX6_isInRange_53 : decode cX6_isInRange 53 = .ok (.iload 5, 2) := dk_21 5 (dk_at dksX6_isInRange_2 7 rfl rfl)
theorem dX6_isInRange_55 : decode cX6_isInRange 55 = .ok (.invokevirtual 125, 3) := dk_182 0 125 (dk_at dksX6_isInRange_2 9 rfl rfl)
theorem dX6_isInRange_58 : decode cX6_isInRange 58 = .ok (.bipush 17, 2) := dk_16 17 (dk_at dksX6_isInRange_2 12 rfl rfl)
theorem dX6_isInRange_60 : decode cX6_isInRange 60 = .ok (.if_icmp .eq 5, 3) := dk_159 0 5 (dk_at dksX6_isInRange_2 14 rfl rfl)
theorem dX6_isInRange_63 : decode cX6_isInRange 63 = .ok (.iconst 1, 1) := dk_4 (dk_at dksX6_isInRange_2 17 rfl rfl)
theorem dX6_isInRange_64 : decode cX6_isInRange 64 = .ok (.ireturn, 1) := dk_172 (dk_at dksX6_isInRange_2 18 rfl rfl)
theorem dX6_isInRange_65 : decode cX6_isInRange 65 = .ok (.aload_n 0, 1) := dk_42 (dk_at dksX6_isInRange_2 19 rfl rfl)
theorem dX6_isInRange_66 : decode cX6_isInRange 66 = .ok (.iload 5, 2) := dk_21 5 (dk_at dksX6_isInRange_2 20 rfl rfl)
theorem dX6_isInRange_68 : decode cX6_isInRange 68 = .ok (.invokevirtual 250, 3) := dk_182 0 250 (dk_at dksX6_isInRange_3 0 rfl rfl)
theorem dX6_isInRange_71 : decode cX6_isInRange 71 = .ok (.istore 5, 2) := dk_54 5 (dk_at dksX6_isInRange_3 3 rfl rfl)
theorem dX6_isInRange_73 : decode cX6_isInRange 73 = .ok (.goto (-70), 3) := dk_167 255 186 (dk_at dksX6_isInRange_3 5 rfl rfl)
abbrev cX6_isIn : ByteArray := prog_9_method_43_code
def yX6_isIn : MethodName := ⟨RX6, "isIn", "(ILSchemaWorkshop$Bytes;II)Z"⟩
def dkwX6_isIn_4 : List UInt8 := [182, 0, 189, 54, 5, 167, 255, 169, 3, 172]
abbrev dktX6_isIn_4 : List UInt8 := dkwX6_isIn_4 ++ []
def dkwX6_isIn_3 : List UInt8 := [42, 44, 29, 21, 4, 21, 7, 4, 182, 1, 85, 154, 0, 5, 4, 172, 42, 180, 0, 83, 21, 5]
abbrev dktX6_isIn_3 : List UInt8 := dkwX6_isIn_3 ++ dktX6_isIn_4
def dkwX6_isIn_2 : List UInt8 := [180, 0, 83, 21, 6, 182, 0, 189, 54, 7, 42, 44, 29, 21, 4, 21, 6, 2, 182, 1, 85, 154, 0, 19]
abbrev dktX6_isIn_2 : List UInt8 := dkwX6_isIn_2 ++ dktX6_isIn_3
def dkwX6_isIn_1 : List UInt8 := [182, 0, 196, 54, 6, 42, 180, 0, 83, 21, 6, 182, 0, 189, 2, 160, 0, 8, 21, 6, 167, 0, 12, 42]
abbrev dktX6_isIn_1 : List UInt8 := dkwX6_isIn_1 ++ dktX6_isIn_2
def dkwX6_isIn_0 : List UInt8 := [42, 180, 0, 83, 27, 182, 0, 196, 54, 5, 21, 5, 2, 159, 0, 87, 42, 180, 0, 83, 21, 5]
abbrev dktX6_isIn_0 : List UInt8 := dkwX6_isIn_0 ++ dktX6_isIn_1
theorem dksX6_isIn_0 : cX6_isIn.data.toList.drop 0 = dktX6_isIn_0 := by decide +kernel
theorem dksX6_isIn_1 : cX6_isIn.data.toList.drop 22 = dktX6_isIn_1 := dk_seg dksX6_isIn_0 22 rfl rfl
theorem dksX6_isIn_2 : cX6_isIn.data.toList.drop 46 = dktX6_isIn_2 := dk_seg dksX6_isIn_1 24 rfl rfl
theorem dksX6_isIn_3 : cX6_isIn.data.toList.drop 70 = dktX6_isIn_3 := dk_seg dksX6_isIn_2 24 rfl rfl
theorem dksX6_isIn_4 : cX6_isIn.data.toList.drop 92 = dktX6_isIn_4 := dk_seg dksX6_isIn_3 22 rfl rfl
theorem dX6_isIn_0 : decode cX6_isIn 0 = .ok (.aload_n 0, 1) := dk_42 (dk_at dksX6_isIn_0 0 rfl rfl)
theorem dX6_isIn_1 : decode cX6_isIn 1 = .ok (.getfield 83, 3) := dk_180 0 83 (dk_at dksX6_isIn_0 1 rfl rfl)
theorem dX6_isIn_4 : decode cX6_isIn 4 = .ok (.iload_n 1, 1) := dk_27 (dk_at dksX6_isIn_0 4 rfl rfl)
theorem dX6_isIn_5 : decode cX6_isIn 5 = .ok (.invokevirtual 196, 3) := dk_182 0 196 (dk_at dksX6_isIn_0 5 rfl rfl)
theorem dX6_isIn_8 : decode cX6_isIn 8 = .ok (.istore 5, 2) := dk_54 5 (dk_at dksX6_isIn_0 8 rfl rfl)
theorem dX6_isIn_10 : decode cX6_isIn 10 = .ok (.iload 5, 2) := dk_21 5 (dk_at dksX6_isIn_0 10 rfl rfl)
theorem dX6_isIn_12 : decode cX6_isIn 12 = .ok (.iconst (-1), 1) := dk_2 (dk_at dksX6_isIn_0 12 rfl rfl)
theorem dX6_isIn_13 : decode cX6_isIn 13 = .ok (.if_icmp .eq 87, 3) := dk_159 0 87 (dk_at dksX6_isIn_0 13 rfl rfl)
theorem dX6_isIn_16 : decode cX6_isIn 16 = .ok (.aload_n 0, 1) := dk_42 (dk_at dksX6_isIn_0 16 rfl rfl)
theorem dX6_isIn_17 : decode cX6_isIn 17 = .ok (.getfield 83, 3) := dk_180 0 83 (dk_at dksX6_isIn_0 17 rfl rfl)
theorem dX6_isIn_20 : decode cX6_isIn 20 = .ok (.iload 5, 2) := dk_21 5 (dk_at dksX6_isIn_0 20 rfl rfl)
theorem dX6_isIn_22 : decode cX6_isIn 22 = .ok (.invokevirtual 196, 3) := dk_182 0 196 (dk_at dksX6_isIn_1 0 rfl rfl)
theorem dX6_isIn_25 : decode cX6_isIn 25 = .ok (.istore 6, 2) := dk_54 6 (dk_at dksX6_isIn_1 3 rfl rfl)
theorem dX6_isIn_27 : decode cX6_isIn 27 = .ok (.aload_n 0, 1) := dk_42 (dk_at dksX6_isIn_1 5 rfl rfl)
theorem dX6_isIn_28 : decode cX6_isIn 28 = .ok (.getfield 83, 3) := dk_180 0 83 (dk_at dksX6_isIn_1 6 rfl rfl)
theorem dX6_isIn_31 : decode cX6_isIn 31 = .ok (.iload 6, 2) := dk_21 6 (dk_at dksX6_isIn_1 9 rfl rfl)
theorem dX6_isIn_33 : decode cX6_isIn 33 = .ok (.invokevirtual 189, 3) := dk_182 0 189 (dk_at dksX6_isIn_1 11 rfl rfl)
theorem dX6_isIn_36 : decode cX6_isIn 36 = .ok (.iconst (-1), 1) := dk_2 (dk_at dksX6_isIn_1 14 rfl rfl)
theorem dX6_isIn_37 : decode cX6_isIn 37 = .ok (.if_icmp .ne 8, 3) := dk_160 0 8 (dk_at dksX6_isIn_1 15 rfl rfl)
theorem dX6_isIn_40 : decode cX6_isIn 40 = .ok (.iload 6, 2) := dk_21 6 (dk_at dksX6_isIn_1 18 rfl rfl)
theorem dX6_isIn_42 : decode cX6_isIn 42 = .ok (.goto 12, 3) := dk_167 0 12 (dk_at dksX6_isIn_1 20 rfl rfl)
theorem dX6_isIn_45 : decode cX6_isIn 45 = .ok (.aload_n 0, 1) := dk_42 (dk_at dksX6_isIn_1 23 rfl rfl)
theorem dX6_isIn_46 : decode cX6_isIn 46 = .ok (.getfield 83, 3) := dk_180 0 83 (dk_at dksX6_isIn_2 0 rfl rfl)
theorem dX6_isIn_49 : decode cX6_isIn 49 = .ok (.iload 6, 2) := dk_21 6 (dk_at dksX6_isIn_2 3 rfl rfl)
theorem dX6_isIn_51 : decode cX6_isIn 51 = .ok (.invokevirtual 189, 3) := dk_182 0 189 (dk_at dksX6_isIn_2 5 rfl rfl)
theorem dX6_isIn_54 : decode cX6_isIn 54 = .ok (.istore 7, 2) := dk_54 7 (dk_at dksX6_isIn_2 8 rfl rfl)
theorem dX6_isIn_56 : decode cX6_isIn 56 = .ok (.aload_n 0, 1) := dk_42 (dk_at dksX6_isIn_2 10 rfl rfl)
theorem dX6_isIn_57 : decode cX6_isIn 57 = .ok (.aload_n 2, 1) := dk_44 (dk_at dksX6_isIn_2 11 rfl rfl)
theorem dX6_isIn_58 : decode cX6_isIn 58 = .ok (.iload_n 3, 1) := dk_29 (dk_at dksX6_isIn_2 12 rfl rfl)
theorem dX6_isIn_59 : decode cX6_isIn 59 = .ok (.iload 4, 2) := dk_21 4 (dk_at dksX6_isIn_2 13 rfl rfl)
theorem dX6_isIn_61 : decode cX6_isIn 61 = .ok (.iload 6, 2) := dk_21 6 (dk_at dksX6_isIn_2 15 rfl rfl)
theorem dX6_isIn_63 : decode cX6_isIn 63 = .ok (.iconst (-1), 1) := dk_2 (dk_at dksX6_isIn_2 17 rfl rfl)
theorem dX6_isIn_64 : decode cX6_isIn 64 = .ok (.invokevirtual 341, 3) := dk_182 1 85 (dk_at dksX6_isIn_2 18 rfl rfl)
theorem dX6_isIn_67 : decode cX6_isIn 67 = .ok (.ifCond .ne 19, 3) := dk_154 0 19 (dk_at dksX6_isIn_2 21 rfl rfl)
theorem dX6_isIn_70 : decode cX6_isIn 70 = .ok (.aload_n 0, 1) := dk_42 (dk_at dksX6_isIn_3 0 rfl rfl)
theorem dX6_isIn_71 : decode cX6_isIn 71 = .ok (.aload_n 2, 1) := dk_44 (dk_at dksX6_isIn_3 1 rfl rfl)
theorem dX6_isIn_72 : decode cX6_isIn 72 = .ok (.iload_n 3, 1) := dk_29 (dk_at dksX6_isIn_3 2 rfl rfl)
theorem dX6_isIn_73 : decode cX6_isIn 73 = .ok (.iload 4, 2) := dk_21 4 (dk_at dksX6_isIn_3 3 rfl rfl)
theorem dX6_isIn_75 : decode cX6_isIn 75 = .ok (.iload 7, 2) := dk_21 7 (dk_at dksX6_isIn_3 5 rfl rfl)
theorem dX6_isIn_77 : decode cX6_isIn 77 = .ok (.iconst 1, 1) := dk_4 (dk_at dksX6_isIn_3 7 rfl rfl)
theorem dX6_isIn_78 : decode cX6_isIn 78 = .ok (.invokevirtual 341, 3) := dk_182 1 85 (dk_at dksX6_isIn_3 8 rfl rfl)
theorem dX6_isIn_81 : decode cX6_isIn 81 = .ok (.ifCond .ne 5, 3) := dk_154 0 5 (dk_at dksX6_isIn_3 11 rfl rfl)
theorem dX6_isIn_84 : decode cX6_isIn 84 = .ok (.iconst 1, 1) := dk_4 (dk_at dksX6_isIn_3 14 rfl rfl)
theorem dX6_isIn_85 : decode cX6_isIn 85 = .ok (.ireturn, 1) := dk_172 (dk_at dksX6_isIn_3 15 rfl rfl)
theorem dX6_isIn_86 : decode cX6_isIn 86 = .ok (.aload_n 0, 1) := dk_42 (dk_at dksX6_isIn_3 16 rfl rfl)
theorem dX6_isIn_87 : decode cX6_isIn 87 = .ok (.getfield 83, 3) := dk_180 0 83 (dk_at dksX6_isIn_3 17 rfl rfl)
theorem dX6_isIn_90 : decode cX6_isIn 90 = .ok (.iload 5, 2) := dk_21 5 (dk_at dksX6_isIn_3 20 rfl rfl)
theorem dX6_isIn_92 : decode cX6_isIn 92 = .ok (.invokevirtual 189, 3) := dk_182 0 189 (dk_at dksX6_isIn_4 0 rfl rfl)
theorem dX6_isIn_95 : decode cX6_isIn 95 = .ok (.istore 5, 2) := dk_54 5 (dk_at dksX6_isIn_4 3 rfl rfl)
theorem dX6_isIn_97 : decode cX6_isIn 97 = .ok (.goto (-87), 3) := dk_167 255 169 (dk_at dksX6_isIn_4 5 rfl rfl)
theorem dX6_isIn_100 : decode cX6_isIn 100 = .ok (.iconst 0, 1) := dk_3 (dk_at dksX6_isIn_4 8 rfl rfl)
theorem dX6_isIn_101 : decode cX6_isIn 101 = .ok (.ireturn, 1) := dk_172 (dk_at dksX6_isIn_4 9 rfl rfl)
abbrev cX6_isBelow : ByteArray := prog_9_method_44_code
def yX6_isBelow : MethodName := ⟨RX6, "isBelow", "(LSchemaWorkshop$Bytes;IIII)Z"⟩
def dkwX6_isBelow_2 : List UInt8 := [42, 180, 0, 59, 21, 4, 46, 184, 1, 80, 21, 5, 104, 158, 0, 7, 4, 167, 0, 4, 3, 172]
abbrev dktX6_isBelow_2 : List UInt8 := dkwX6_isBelow_2 ++ []
def dkwX6_isBelow_1 : List UInt8 := [21, 4, 21, 5, 21, 6, 182, 1, 89, 172, 43, 28, 29, 42, 180, 0, 48, 42, 180, 0, 55, 21, 4, 46]
abbrev dktX6_isBelow_1 : List UInt8 := dkwX6_isBelow_1 ++ dktX6_isBelow_2
def dkwX6_isBelow_0 : List UInt8 := [42, 180, 0, 83, 21, 4, 8, 182, 0, 223, 54, 6, 21, 6, 153, 0, 9, 21, 6, 4, 160, 0, 14, 42]
abbrev dktX6_isBelow_0 : List UInt8 := dkwX6_isBelow_0 ++ dktX6_isBelow_1
theorem dksX6_isBelow_0 : cX6_isBelow.data.toList.drop 0 = dktX6_isBelow_0 := by decide +kernel
theorem dksX6_isBelow_1 : cX6_isBelow.data.toList.drop 24 = dktX6_isBelow_1 := dk_seg dksX6_isBelow_0 24 rfl rfl
theorem dksX6_isBelow_2 : cX6_isBelow.data.toList.drop 48 = dktX6_isBelow_2 := dk_seg dksX6_isBelow_1 24 rfl rfl
theorem dX6_isBelow_0 : decode cX6_isBelow 0 = .ok (.aload_n 0, 1) := dk_42 (dk_at dksX6_isBelow_0 0 rfl rfl)
theorem dX6_isBelow_1 : decode cX6_isBelow 1 = .ok (.getfield 83, 3) := dk_180 0 83 (dk_at dksX6_isBelow_0 1 rfl rfl)
theorem dX6_isBelow_4 : decode cX6_isBelow 4 = .ok (.iload 4, 2) := dk_21 4 (dk_at dksX6_isBelow_0 4 rfl rfl)
theorem dX6_isBelow_6 : decode cX6_isBelow 6 = .ok (.iconst 5, 1) := dk_8 (dk_at dksX6_isBelow_0 6 rfl rfl)
theorem dX6_isBelow_7 : decode cX6_isBelow 7 = .ok (.invokevirtual 223, 3) := dk_182 0 223 (dk_at dksX6_isBelow_0 7 rfl rfl)
theorem dX6_isBelow_10 : decode cX6_isBelow 10 = .ok (.istore 6, 2) := dk_54 6 (dk_at dksX6_isBelow_0 10 rfl rfl)
theorem dX6_isBelow_12 : decode cX6_isBelow 12 = .ok (.iload 6, 2) := dk_21 6 (dk_at dksX6_isBelow_0 12 rfl rfl)
theorem dX6_isBelow_14 : decode cX6_isBelow 14 = .ok (.ifCond .eq 9, 3) := dk_153 0 9 (dk_at dksX6_isBelow_0 14 rfl rfl)
theorem dX6_isBelow_17 : decode cX6_isBelow 17 = .ok (.iload 6, 2) := dk_21 6 (dk_at dksX6_isBelow_0 17 rfl rfl)
theorem dX6_isBelow_19 : decode cX6_isBelow 19 = .ok (.iconst 1, 1) := dk_4 (dk_at dksX6_isBelow_0 19 rfl rfl)
theorem dX6_isBelow_20 : decode cX6_isBelow 20 = .ok (.if_icmp .ne 14, 3) := dk_160 0 14 (dk_at dksX6_isBelow_0 20 rfl rfl)
theorem dX6_isBelow_23 : decode cX6_isBelow 23 = .ok (.aload_n 0, 1) := dk_42 (dk_at dksX6_isBelow_0 23 rfl rfl)
theorem dX6_isBelow_24 : decode cX6_isBelow 24 = .ok (.iload 4, 2) := dk_21 4 (dk_at dksX6_isBelow_1 0 rfl rfl)
theorem dX6_isBelow_26 : decode cX6_isBelow 26 = .ok (.iload 5, 2) := dk_21 5 (dk_at dksX6_isBelow_1 2 rfl rfl)
theorem dX6_isBelow_28 : decode cX6_isBelow 28 = .ok (.iload 6, 2) := dk_21 6 (dk_at dksX6_isBelow_1 4 rfl rfl)
theorem dX6_isBelow_30 : decode cX6_isBelow 30 = .ok (.invokevirtual 345, 3) := dk_182 1 89 (dk_at dksX6_isBelow_1 6 rfl rfl)
theorem dX6_isBelow_33 : decode cX6_isBelow 33 = .ok (.ireturn, 1) := dk_172 (dk_at dksX6_isBelow_1 9 rfl rfl)
theorem dX6_isBelow_34 : decode cX6_isBelow 34 = .ok (.aload_n 1, 1) := dk_43 (dk_at dksX6_isBelow_1 10 rfl rfl)
theorem dX6_isBelow_35 : decode cX6_isBelow 35 = .ok (.iload_n 2, 1) := dk_28 (dk_at dksX6_isBelow_1 11 rfl rfl)
theorem dX6_isBelow_36 : decode cX6_isBelow 36 = .ok (.iload_n 3, 1) := dk_29 (dk_at dksX6_isBelow_1 12 rfl rfl)
theorem dX6_isBelow_37 : decode cX6_isBelow 37 = .ok (.aload_n 0, 1) := dk_42 (dk_at dksX6_isBelow_1 13 rfl rfl)
theorem dX6_isBelow_38 : decode cX6_isBelow 38 = .ok (.getfield 48, 3) := dk_180 0 48 (dk_at dksX6_isBelow_1 14 rfl rfl)
theorem dX6_isBelow_41 : decode cX6_isBelow 41 = .ok (.aload_n 0, 1) := dk_42 (dk_at dksX6_isBelow_1 17 rfl rfl)
theorem dX6_isBelow_42 : decode cX6_isBelow 42 = .ok (.getfield 55, 3) := dk_180 0 55 (dk_at dksX6_isBelow_1 18 rfl rfl)
theorem dX6_isBelow_45 : decode cX6_isBelow 45 = .ok (.iload 4, 2) := dk_21 4 (dk_at dksX6_isBelow_1 21 rfl rfl)
theorem dX6_isBelow_47 : decode cX6_isBelow 47 = .ok (.iaload, 1) := dk_46 (dk_at dksX6_isBelow_1 23 rfl rfl)
theorem dX6_isBelow_48 : decode cX6_isBelow 48 = .ok (.aload_n 0, 1) := dk_42 (dk_at dksX6_isBelow_2 0 rfl rfl)
theorem dX6_isBelow_49 : decode cX6_isBelow 49 = .ok (.getfield 59, 3) := dk_180 0 59 (dk_at dksX6_isBelow_2 1 rfl rfl)
theorem dX6_isBelow_52 : decode cX6_isBelow 52 = .ok (.iload 4, 2) := dk_21 4 (dk_at dksX6_isBelow_2 4 rfl rfl)
theorem dX6_isBelow_54 : decode cX6_isBelow 54 = .ok (.iaload, 1) := dk_46 (dk_at dksX6_isBelow_2 6 rfl rfl)
theorem dX6_isBelow_55 : decode cX6_isBelow 55 = .ok (.invokestatic 336, 3) := dk_184 1 80 (dk_at dksX6_isBelow_2 7 rfl rfl)
theorem dX6_isBelow_58 : decode cX6_isBelow 58 = .ok (.iload 5, 2) := dk_21 5 (dk_at dksX6_isBelow_2 10 rfl rfl)
theorem dX6_isBelow_60 : decode cX6_isBelow 60 = .ok (.imul, 1) := dk_104 (dk_at dksX6_isBelow_2 12 rfl rfl)
theorem dX6_isBelow_61 : decode cX6_isBelow 61 = .ok (.ifCond .le 7, 3) := dk_158 0 7 (dk_at dksX6_isBelow_2 13 rfl rfl)
theorem dX6_isBelow_64 : decode cX6_isBelow 64 = .ok (.iconst 1, 1) := dk_4 (dk_at dksX6_isBelow_2 16 rfl rfl)
theorem dX6_isBelow_65 : decode cX6_isBelow 65 = .ok (.goto 4, 3) := dk_167 0 4 (dk_at dksX6_isBelow_2 17 rfl rfl)
theorem dX6_isBelow_68 : decode cX6_isBelow 68 = .ok (.iconst 0, 1) := dk_3 (dk_at dksX6_isBelow_2 20 rfl rfl)
theorem dX6_isBelow_69 : decode cX6_isBelow 69 = .ok (.ireturn, 1) := dk_172 (dk_at dksX6_isBelow_2 21 rfl rfl)
abbrev cX6_single : ByteArray := prog_9_method_45_code
def yX6_single : MethodName := ⟨RX6, "single", "(III)Z"⟩
def dkwX6_single_1 : List UInt8 := [3, 172]
abbrev dktX6_single_1 : List UInt8 := dkwX6_single_1 ++ []
def dkwX6_single_0 : List UInt8 := [29, 154, 0, 15, 28, 158, 0, 7, 4, 167, 0, 16, 3, 167, 0, 12, 28, 156, 0, 7, 4, 167, 0, 4]
abbrev dktX6_single_0 : List UInt8 := dkwX6_single_0 ++ dktX6_single_1
theorem dksX6_single_0 : cX6_single.data.toList.drop 0 = dktX6_single_0 := by decide +kernel
theorem dksX6_single_1 : cX6_single.data.toList.drop 24 = dktX6_single_1 := dk_seg dksX6_single_0 24 rfl rfl
theorem dX6_single_0 : decode cX6_single 0 = .ok (.iload_n 3, 1) := dk_29 (dk_at dksX6_single_0 0 rfl rfl)
theorem dX6_single_1 : decode cX6_single 1 = .ok (.ifCond .ne 15, 3) := dk_154 0 15 (dk_at dksX6_single_0 1 rfl rfl)
theorem dX6_single_4 : decode cX6_single 4 = .ok (.iload_n 2, 1) := dk_28 (dk_at dksX6_single_0 4 rfl rfl)
theorem dX6_single_5 : decode cX6_single 5 = .ok (.ifCond .le 7, 3) := dk_158 0 7 (dk_at dksX6_single_0 5 rfl rfl)
theorem dX6_single_8 : decode cX6_single 8 = .ok (.iconst 1, 1) := dk_4 (dk_at dksX6_single_0 8 rfl rfl)
theorem dX6_single_9 : decode cX6_single 9 = .ok (.goto 16, 3) := dk_167 0 16 (dk_at dksX6_single_0 9 rfl rfl)
theorem dX6_single_12 : decode cX6_single 12 = .ok (.iconst 0, 1) := dk_3 (dk_at dksX6_single_0 12 rfl rfl)
theorem dX6_single_13 : decode cX6_single 13 = .ok (.goto 12, 3) := dk_167 0 12 (dk_at dksX6_single_0 13 rfl rfl)
theorem dX6_single_16 : decode cX6_single 16 = .ok (.iload_n 2, 1) := dk_28 (dk_at dksX6_single_0 16 rfl rfl)
theorem dX6_single_17 : decode cX6_single 17 = .ok (.ifCond .ge 7, 3) := dk_156 0 7 (dk_at dksX6_single_0 17 rfl rfl)
theorem dX6_single_20 : decode cX6_single 20 = .ok (.iconst 1, 1) := dk_4 (dk_at dksX6_single_0 20 rfl rfl)
theorem dX6_single_21 : decode cX6_single 21 = .ok (.goto 4, 3) := dk_167 0 4 (dk_at dksX6_single_0 21 rfl rfl)
theorem dX6_single_24 : decode cX6_single 24 = .ok (.iconst 0, 1) := dk_3 (dk_at dksX6_single_1 0 rfl rfl)
theorem dX6_single_25 : decode cX6_single 25 = .ok (.ireturn, 1) := dk_172 (dk_at dksX6_single_1 1 rfl rfl)
abbrev cX6_isItem : ByteArray := prog_9_method_63_code
def yX6_isItem : MethodName := ⟨RX6, "isItem", "(ILSchemaWorkshop$Bytes;II)Z"⟩
def dkwX6_isItem_2 : List UInt8 := [180, 0, 83, 21, 5, 182, 0, 189, 54, 5, 167, 255, 209, 3, 172]
abbrev dktX6_isItem_2 : List UInt8 := dkwX6_isItem_2 ++ []
def dkwX6_isItem_1 : List UInt8 := [42, 180, 0, 55, 21, 5, 46, 42, 180, 0, 59, 21, 5, 46, 182, 0, 219, 154, 0, 5, 4, 172, 42]
abbrev dktX6_isItem_1 : List UInt8 := dkwX6_isItem_1 ++ dktX6_isItem_2
def dkwX6_isItem_0 : List UInt8 := [42, 180, 0, 83, 27, 182, 0, 196, 54, 5, 21, 5, 2, 159, 0, 47, 44, 29, 21, 4, 42, 180, 0, 48]
abbrev dktX6_isItem_0 : List UInt8 := dkwX6_isItem_0 ++ dktX6_isItem_1
theorem dksX6_isItem_0 : cX6_isItem.data.toList.drop 0 = dktX6_isItem_0 := by decide +kernel
theorem dksX6_isItem_1 : cX6_isItem.data.toList.drop 24 = dktX6_isItem_1 := dk_seg dksX6_isItem_0 24 rfl rfl
theorem dksX6_isItem_2 : cX6_isItem.data.toList.drop 47 = dktX6_isItem_2 := dk_seg dksX6_isItem_1 23 rfl rfl
theorem dX6_isItem_0 : decode cX6_isItem 0 = .ok (.aload_n 0, 1) := dk_42 (dk_at dksX6_isItem_0 0 rfl rfl)
theorem dX6_isItem_1 : decode cX6_isItem 1 = .ok (.getfield 83, 3) := dk_180 0 83 (dk_at dksX6_isItem_0 1 rfl rfl)
theorem dX6_isItem_4 : decode cX6_isItem 4 = .ok (.iload_n 1, 1) := dk_27 (dk_at dksX6_isItem_0 4 rfl rfl)
theorem dX6_isItem_5 : decode cX6_isItem 5 = .ok (.invokevirtual 196, 3) := dk_182 0 196 (dk_at dksX6_isItem_0 5 rfl rfl)
theorem dX6_isItem_8 : decode cX6_isItem 8 = .ok (.istore 5, 2) := dk_54 5 (dk_at dksX6_isItem_0 8 rfl rfl)
theorem dX6_isItem_10 : decode cX6_isItem 10 = .ok (.iload 5, 2) := dk_21 5 (dk_at dksX6_isItem_0 10 rfl rfl)
theorem dX6_isItem_12 : decode cX6_isItem 12 = .ok (.iconst (-1), 1) := dk_2 (dk_at dksX6_isItem_0 12 rfl rfl)
theorem dX6_isItem_13 : decode cX6_isItem 13 = .ok (.if_icmp .eq 47, 3) := dk_159 0 47 (dk_at dksX6_isItem_0 13 rfl rfl)
theorem dX6_isItem_16 : decode cX6_isItem 16 = .ok (.aload_n 2, 1) := dk_44 (dk_at dksX6_isItem_0 16 rfl rfl)
theorem dX6_isItem_17 : decode cX6_isItem 17 = .ok (.iload_n 3, 1) := dk_29 (dk_at dksX6_isItem_0 17 rfl rfl)
theorem dX6_isItem_18 : decode cX6_isItem 18 = .ok (.iload 4, 2) := dk_21 4 (dk_at dksX6_isItem_0 18 rfl rfl)
theorem dX6_isItem_20 : decode cX6_isItem 20 = .ok (.aload_n 0, 1) := dk_42 (dk_at dksX6_isItem_0 20 rfl rfl)
theorem dX6_isItem_21 : decode cX6_isItem 21 = .ok (.getfield 48, 3) := dk_180 0 48 (dk_at dksX6_isItem_0 21 rfl rfl)
theorem dX6_isItem_24 : decode cX6_isItem 24 = .ok (.aload_n 0, 1) := dk_42 (dk_at dksX6_isItem_1 0 rfl rfl)
theorem dX6_isItem_25 : decode cX6_isItem 25 = .ok (.getfield 55, 3) := dk_180 0 55 (dk_at dksX6_isItem_1 1 rfl rfl)
theorem dX6_isItem_28 : decode cX6_isItem 28 = .ok (.iload 5, 2) := dk_21 5 (dk_at dksX6_isItem_1 4 rfl rfl)
theorem dX6_isItem_30 : decode cX6_isItem 30 = .ok (.iaload, 1) := dk_46 (dk_at dksX6_isItem_1 6 rfl rfl)
theorem dX6_isItem_31 : decode cX6_isItem 31 = .ok (.aload_n 0, 1) := dk_42 (dk_at dksX6_isItem_1 7 rfl rfl)
theorem dX6_isItem_32 : decode cX6_isItem 32 = .ok (.getfield 59, 3) := dk_180 0 59 (dk_at dksX6_isItem_1 8 rfl rfl)
theorem dX6_isItem_35 : decode cX6_isItem 35 = .ok (.iload 5, 2) := dk_21 5 (dk_at dksX6_isItem_1 11 rfl rfl)
theorem dX6_isItem_37 : decode cX6_isItem 37 = .ok (.iaload, 1) := dk_46 (dk_at dksX6_isItem_1 13 rfl rfl)
theorem dX6_isItem_38 : decode cX6_isItem 38 = .ok (.invokevirtual 219, 3) := dk_182 0 219 (dk_at dksX6_isItem_1 14 rfl rfl)
theorem dX6_isItem_41 : decode cX6_isItem 41 = .ok (.ifCond .ne 5, 3) := dk_154 0 5 (dk_at dksX6_isItem_1 17 rfl rfl)
theorem dX6_isItem_44 : decode cX6_isItem 44 = .ok (.iconst 1, 1) := dk_4 (dk_at dksX6_isItem_1 20 rfl rfl)
theorem dX6_isItem_45 : decode cX6_isItem 45 = .ok (.ireturn, 1) := dk_172 (dk_at dksX6_isItem_1 21 rfl rfl)
theorem dX6_isItem_46 : decode cX6_isItem 46 = .ok (.aload_n 0, 1) := dk_42 (dk_at dksX6_isItem_1 22 rfl rfl)
theorem dX6_isItem_47 : decode cX6_isItem 47 = .ok (.getfield 83, 3) := dk_180 0 83 (dk_at dksX6_isItem_2 0 rfl rfl)
theorem dX6_isItem_50 : decode cX6_isItem 50 = .ok (.iload 5, 2) := dk_21 5 (dk_at dksX6_isItem_2 3 rfl rfl)
theorem dX6_isItem_52 : decode cX6_isItem 52 = .ok (.invokevirtual 189, 3) := dk_182 0 189 (dk_at dksX6_isItem_2 5 rfl rfl)
theorem dX6_isItem_55 : decode cX6_isItem 55 = .ok (.istore 5, 2) := dk_54 5 (dk_at dksX6_isItem_2 8 rfl rfl)
theorem dX6_isItem_57 : decode cX6_isItem 57 = .ok (.goto (-47), 3) := dk_167 255 209 (dk_at dksX6_isItem_2 10 rfl rfl)
theorem dX6_isItem_60 : decode cX6_isItem 60 = .ok (.iconst 0, 1) := dk_3 (dk_at dksX6_isItem_2 13 rfl rfl)
theorem dX6_isItem_61 : decode cX6_isItem 61 = .ok (.ireturn, 1) := dk_172 (dk_at dksX6_isItem_2 14 rfl rfl)
abbrev cX6_bits : ByteArray := prog_9_method_68_code
def yX6_bits : MethodName := ⟨RX6, "bits", "(III)Z"⟩
def dkwX6_bits_6 : List UInt8 := [182, 0, 214, 79, 4, 172]
abbrev dktX6_bits_6 : List UInt8 := dkwX6_bits_6 ++ []
def dkwX6_bits_5 : List UInt8 := [42, 180, 0, 52, 3, 42, 180, 0, 52, 182, 0, 214, 182, 1, 181, 42, 180, 0, 59, 27, 42, 180, 0, 48]
abbrev dktX6_bits_5 : List UInt8 := dkwX6_bits_5 ++ dktX6_bits_6
def dkwX6_bits_4 : List UInt8 := [42, 180, 0, 52, 184, 1, 217, 42, 180, 0, 55, 27, 42, 180, 0, 48, 182, 0, 214, 79, 42, 180, 0, 48]
abbrev dktX6_bits_4 : List UInt8 := dkwX6_bits_4 ++ dktX6_bits_5
def dkwX6_bits_3 : List UInt8 := [180, 0, 52, 182, 0, 138, 42, 180, 0, 48, 42, 180, 0, 55, 27, 46, 42, 180, 0, 59, 27, 46, 21, 4]
abbrev dktX6_bits_3 : List UInt8 := dkwX6_bits_3 ++ dktX6_bits_4
def dkwX6_bits_2 : List UInt8 := [180, 0, 55, 27, 46, 42, 180, 0, 59, 27, 46, 184, 1, 205, 16, 64, 164, 0, 5, 3, 172, 42]
abbrev dktX6_bits_2 : List UInt8 := dkwX6_bits_2 ++ dktX6_bits_3
def dkwX6_bits_1 : List UInt8 := [21, 4, 2, 160, 0, 5, 3, 172, 42, 29, 182, 1, 199, 154, 0, 5, 4, 172, 42, 180, 0, 48, 42]
abbrev dktX6_bits_1 : List UInt8 := dkwX6_bits_1 ++ dktX6_bits_2
def dkwX6_bits_0 : List UInt8 := [42, 28, 29, 42, 180, 0, 48, 42, 180, 0, 55, 27, 46, 42, 180, 0, 59, 27, 46, 182, 1, 214, 54, 4]
abbrev dktX6_bits_0 : List UInt8 := dkwX6_bits_0 ++ dktX6_bits_1
theorem dksX6_bits_0 : cX6_bits.data.toList.drop 0 = dktX6_bits_0 := by decide +kernel
theorem dksX6_bits_1 : cX6_bits.data.toList.drop 24 = dktX6_bits_1 := dk_seg dksX6_bits_0 24 rfl rfl
theorem dksX6_bits_2 : cX6_bits.data.toList.drop 47 = dktX6_bits_2 := dk_seg dksX6_bits_1 23 rfl rfl
theorem dksX6_bits_3 : cX6_bits.data.toList.drop 69 = dktX6_bits_3 := dk_seg dksX6_bits_2 22 rfl rfl
theorem dksX6_bits_4 : cX6_bits.data.toList.drop 93 = dktX6_bits_4 := dk_seg dksX6_bits_3 24 rfl rfl
theorem dksX6_bits_5 : cX6_bits.data.toList.drop 117 = dktX6_bits_5 := dk_seg dksX6_bits_4 24 rfl rfl
theorem dksX6_bits_6 : cX6_bits.data.toList.drop 141 = dktX6_bits_6 := dk_seg dksX6_bits_5 24 rfl rfl
theorem dX6_bits_0 : decode cX6_bits 0 = .ok (.aload_n 0, 1) := dk_42 (dk_at dksX6_bits_0 0 rfl rfl)
theorem dX6_bits_1 : decode cX6_bits 1 = .ok (.iload_n 2, 1) := dk_28 (dk_at dksX6_bits_0 1 rfl rfl)
theorem dX6_bits_2 : decode cX6_bits 2 = .ok (.iload_n 3, 1) := dk_29 (dk_at dksX6_bits_0 2 rfl rfl)
theorem dX6_bits_3 : decode cX6_bits 3 = .ok (.aload_n 0, 1) := dk_42 (dk_at dksX6_bits_0 3 rfl rfl)
theorem dX6_bits_4 : decode cX6_bits 4 = .ok (.getfield 48, 3) := dk_180 0 48 (dk_at dksX6_bits_0 4 rfl rfl)
theorem dX6_bits_7 : decode cX6_bits 7 = .ok (.aload_n 0, 1) := dk_42 (dk_at dksX6_bits_0 7 rfl rfl)
theorem dX6_bits_8 : decode cX6_bits 8 = .ok (.getfield 55, 3) := dk_180 0 55 (dk_at dksX6_bits_0 8 rfl rfl)
theorem dX6_bits_11 : decode cX6_bits 11 = .ok (.iload_n 1, 1) := dk_27 (dk_at dksX6_bits_0 11 rfl rfl)
theorem dX6_bits_12 : decode cX6_bits 12 = .ok (.iaload, 1) := dk_46 (dk_at dksX6_bits_0 12 rfl rfl)
theorem dX6_bits_13 : decode cX6_bits 13 = .ok (.aload_n 0, 1) := dk_42 (dk_at dksX6_bits_0 13 rfl rfl)
theorem dX6_bits_14 : decode cX6_bits 14 = .ok (.getfield 59, 3) := dk_180 0 59 (dk_at dksX6_bits_0 14 rfl rfl)
theorem dX6_bits_17 : decode cX6_bits 17 = .ok (.iload_n 1, 1) := dk_27 (dk_at dksX6_bits_0 17 rfl rfl)
theorem dX6_bits_18 : decode cX6_bits 18 = .ok (.iaload, 1) := dk_46 (dk_at dksX6_bits_0 18 rfl rfl)
theorem dX6_bits_19 : decode cX6_bits 19 = .ok (.invokevirtual 470, 3) := dk_182 1 214 (dk_at dksX6_bits_0 19 rfl rfl)
theorem dX6_bits_22 : decode cX6_bits 22 = .ok (.istore 4, 2) := dk_54 4 (dk_at dksX6_bits_0 22 rfl rfl)
theorem dX6_bits_24 : decode cX6_bits 24 = .ok (.iload 4, 2) := dk_21 4 (dk_at dksX6_bits_1 0 rfl rfl)
theorem dX6_bits_26 : decode cX6_bits 26 = .ok (.iconst (-1), 1) := dk_2 (dk_at dksX6_bits_1 2 rfl rfl)
theorem dX6_bits_27 : decode cX6_bits 27 = .ok (.if_icmp .ne 5, 3) := dk_160 0 5 (dk_at dksX6_bits_1 3 rfl rfl)
theorem dX6_bits_30 : decode cX6_bits 30 = .ok (.iconst 0, 1) := dk_3 (dk_at dksX6_bits_1 6 rfl rfl)
theorem dX6_bits_31 : decode cX6_bits 31 = .ok (.ireturn, 1) := dk_172 (dk_at dksX6_bits_1 7 rfl rfl)
theorem dX6_bits_32 : decode cX6_bits 32 = .ok (.aload_n 0, 1) := dk_42 (dk_at dksX6_bits_1 8 rfl rfl)
theorem dX6_bits_33 : decode cX6_bits 33 = .ok (.iload_n 3, 1) := dk_29 (dk_at dksX6_bits_1 9 rfl rfl)
theorem dX6_bits_34 : decode cX6_bits 34 = .ok (.invokevirtual 455, 3) := dk_182 1 199 (dk_at dksX6_bits_1 10 rfl rfl)
theorem dX6_bits_37 : decode cX6_bits 37 = .ok (.ifCond .ne 5, 3) := dk_154 0 5 (dk_at dksX6_bits_1 13 rfl rfl)
theorem dX6_bits_40 : decode cX6_bits 40 = .ok (.iconst 1, 1) := dk_4 (dk_at dksX6_bits_1 16 rfl rfl)
theorem dX6_bits_41 : decode cX6_bits 41 = .ok (.ireturn, 1) := dk_172 (dk_at dksX6_bits_1 17 rfl rfl)
theorem dX6_bits_42 : decode cX6_bits 42 = .ok (.aload_n 0, 1) := dk_42 (dk_at dksX6_bits_1 18 rfl rfl)
theorem dX6_bits_43 : decode cX6_bits 43 = .ok (.getfield 48, 3) := dk_180 0 48 (dk_at dksX6_bits_1 19 rfl rfl)
theorem dX6_bits_46 : decode cX6_bits 46 = .ok (.aload_n 0, 1) := dk_42 (dk_at dksX6_bits_1 22 rfl rfl)
theorem dX6_bits_47 : decode cX6_bits 47 = .ok (.getfield 55, 3) := dk_180 0 55 (dk_at dksX6_bits_2 0 rfl rfl)
theorem dX6_bits_50 : decode cX6_bits 50 = .ok (.iload_n 1, 1) := dk_27 (dk_at dksX6_bits_2 3 rfl rfl)
theorem dX6_bits_51 : decode cX6_bits 51 = .ok (.iaload, 1) := dk_46 (dk_at dksX6_bits_2 4 rfl rfl)
theorem dX6_bits_52 : decode cX6_bits 52 = .ok (.aload_n 0, 1) := dk_42 (dk_at dksX6_bits_2 5 rfl rfl)
theorem dX6_bits_53 : decode cX6_bits 53 = .ok (.getfield 59, 3) := dk_180 0 59 (dk_at dksX6_bits_2 6 rfl rfl)
theorem dX6_bits_56 : decode cX6_bits 56 = .ok (.iload_n 1, 1) := dk_27 (dk_at dksX6_bits_2 9 rfl rfl)
theorem dX6_bits_57 : decode cX6_bits 57 = .ok (.iaload, 1) := dk_46 (dk_at dksX6_bits_2 10 rfl rfl)
theorem dX6_bits_58 : decode cX6_bits 58 = .ok (.invokestatic 461, 3) := dk_184 1 205 (dk_at dksX6_bits_2 11 rfl rfl)
theorem dX6_bits_61 : decode cX6_bits 61 = .ok (.bipush 64, 2) := dk_16 64 (dk_at dksX6_bits_2 14 rfl rfl)
theorem dX6_bits_63 : decode cX6_bits 63 = .ok (.if_icmp .le 5, 3) := dk_164 0 5 (dk_at dksX6_bits_2 16 rfl rfl)
theorem dX6_bits_66 : decode cX6_bits 66 = .ok (.iconst 0, 1) := dk_3 (dk_at dksX6_bits_2 19 rfl rfl)
theorem dX6_bits_67 : decode cX6_bits 67 = .ok (.ireturn, 1) := dk_172 (dk_at dksX6_bits_2 20 rfl rfl)
theorem dX6_bits_68 : decode cX6_bits 68 = .ok (.aload_n 0, 1) := dk_42 (dk_at dksX6_bits_2 21 rfl rfl)
theorem dX6_bits_69 : decode cX6_bits 69 = .ok (.getfield 52, 3) := dk_180 0 52 (dk_at dksX6_bits_3 0 rfl rfl)
theorem dX6_bits_72 : decode cX6_bits 72 = .ok (.invokevirtual 138, 3) := dk_182 0 138 (dk_at dksX6_bits_3 3 rfl rfl)
theorem dX6_bits_75 : decode cX6_bits 75 = .ok (.aload_n 0, 1) := dk_42 (dk_at dksX6_bits_3 6 rfl rfl)
theorem dX6_bits_76 : decode cX6_bits 76 = .ok (.getfield 48, 3) := dk_180 0 48 (dk_at dksX6_bits_3 7 rfl rfl)
theorem dX6_bits_79 : decode cX6_bits 79 = .ok (.aload_n 0, 1) := dk_42 (dk_at dksX6_bits_3 10 rfl rfl)
theorem dX6_bits_80 : decode cX6_bits 80 = .ok (.getfield 55, 3) := dk_180 0 55 (dk_at dksX6_bits_3 11 rfl rfl)
theorem dX6_bits_83 : decode cX6_bits 83 = .ok (.iload_n 1, 1) := dk_27 (dk_at dksX6_bits_3 14 rfl rfl)
theorem dX6_bits_84 : decode cX6_bits 84 = .ok (.iaload, 1) := dk_46 (dk_at dksX6_bits_3 15 rfl rfl)
theorem dX6_bits_85 : decode cX6_bits 85 = .ok (.aload_n 0, 1) := dk_42 (dk_at dksX6_bits_3 16 rfl rfl)
theorem dX6_bits_86 : decode cX6_bits 86 = .ok (.getfield 59, 3) := dk_180 0 59 (dk_at dksX6_bits_3 17 rfl rfl)
theorem dX6_bits_89 : decode cX6_bits 89 = .ok (.iload_n 1, 1) := dk_27 (dk_at dksX6_bits_3 20 rfl rfl)
theorem dX6_bits_90 : decode cX6_bits 90 = .ok (.iaload, 1) := dk_46 (dk_at dksX6_bits_3 21 rfl rfl)
theorem dX6_bits_91 : decode cX6_bits 91 = .ok (.iload 4, 2) := dk_21 4 (dk_at dksX6_bits_3 22 rfl rfl)
theorem dX6_bits_93 : decode cX6_bits 93 = .ok (.aload_n 0, 1) := dk_42 (dk_at dksX6_bits_4 0 rfl rfl)
theorem dX6_bits_94 : decode cX6_bits 94 = .ok (.getfield 52, 3) := dk_180 0 52 (dk_at dksX6_bits_4 1 rfl rfl)
theorem dX6_bits_97 : decode cX6_bits 97 = .ok (.invokestatic 473, 3) := dk_184 1 217 (dk_at dksX6_bits_4 4 rfl rfl)
theorem dX6_bits_100 : decode cX6_bits 100 = .ok (.aload_n 0, 1) := dk_42 (dk_at dksX6_bits_4 7 rfl rfl)
theorem dX6_bits_101 : decode cX6_bits 101 = .ok (.getfield 55, 3) := dk_180 0 55 (dk_at dksX6_bits_4 8 rfl rfl)
theorem dX6_bits_104 : decode cX6_bits 104 = .ok (.iload_n 1, 1) := dk_27 (dk_at dksX6_bits_4 11 rfl rfl)
theorem dX6_bits_105 : decode cX6_bits 105 = .ok (.aload_n 0, 1) := dk_42 (dk_at dksX6_bits_4 12 rfl rfl)
theorem dX6_bits_106 : decode cX6_bits 106 = .ok (.getfield 48, 3) := dk_180 0 48 (dk_at dksX6_bits_4 13 rfl rfl)
theorem dX6_bits_109 : decode cX6_bits 109 = .ok (.invokevirtual 214, 3) := dk_182 0 214 (dk_at dksX6_bits_4 16 rfl rfl)
theorem dX6_bits_112 : decode cX6_bits 112 = .ok (.iastore, 1) := dk_79 (dk_at dksX6_bits_4 19 rfl rfl)
theorem dX6_bits_113 : decode cX6_bits 113 = .ok (.aload_n 0, 1) := dk_42 (dk_at dksX6_bits_4 20 rfl rfl)
theorem dX6_bits_114 : decode cX6_bits 114 = .ok (.getfield 48, 3) := dk_180 0 48 (dk_at dksX6_bits_4 21 rfl rfl)
theorem dX6_bits_117 : decode cX6_bits 117 = .ok (.aload_n 0, 1) := dk_42 (dk_at dksX6_bits_5 0 rfl rfl)
theorem dX6_bits_118 : decode cX6_bits 118 = .ok (.getfield 52, 3) := dk_180 0 52 (dk_at dksX6_bits_5 1 rfl rfl)
theorem dX6_bits_121 : decode cX6_bits 121 = .ok (.iconst 0, 1) := dk_3 (dk_at dksX6_bits_5 4 rfl rfl)
theorem dX6_bits_122 : decode cX6_bits 122 = .ok (.aload_n 0, 1) := dk_42 (dk_at dksX6_bits_5 5 rfl rfl)
theorem dX6_bits_123 : decode cX6_bits 123 = .ok (.getfield 52, 3) := dk_180 0 52 (dk_at dksX6_bits_5 6 rfl rfl)
theorem dX6_bits_126 : decode cX6_bits 126 = .ok (.invokevirtual 214, 3) := dk_182 0 214 (dk_at dksX6_bits_5 9 rfl rfl)
theorem dX6_bits_129 : decode cX6_bits 129 = .ok (.invokevirtual 437, 3) := dk_182 1 181 (dk_at dksX6_bits_5 12 rfl rfl)
theorem dX6_bits_132 : decode cX6_bits 132 = .ok (.aload_n 0, 1) := dk_42 (dk_at dksX6_bits_5 15 rfl rfl)
theorem dX6_bits_133 : decode cX6_bits 133 = .ok (.getfield 59, 3) := dk_180 0 59 (dk_at dksX6_bits_5 16 rfl rfl)
theorem dX6_bits_136 : decode cX6_bits 136 = .ok (.iload_n 1, 1) := dk_27 (dk_at dksX6_bits_5 19 rfl rfl)
theorem dX6_bits_137 : decode cX6_bits 137 = .ok (.aload_n 0, 1) := dk_42 (dk_at dksX6_bits_5 20 rfl rfl)
theorem dX6_bits_138 : decode cX6_bits 138 = .ok (.getfield 48, 3) := dk_180 0 48 (dk_at dksX6_bits_5 21 rfl rfl)
theorem dX6_bits_141 : decode cX6_bits 141 = .ok (.invokevirtual 214, 3) := dk_182 0 214 (dk_at dksX6_bits_6 0 rfl rfl)
theorem dX6_bits_144 : decode cX6_bits 144 = .ok (.iastore, 1) := dk_79 (dk_at dksX6_bits_6 3 rfl rfl)
theorem dX6_bits_145 : decode cX6_bits 145 = .ok (.iconst 1, 1) := dk_4 (dk_at dksX6_bits_6 4 rfl rfl)
theorem dX6_bits_146 : decode cX6_bits 146 = .ok (.ireturn, 1) := dk_172 (dk_at dksX6_bits_6 5 rfl rfl)
abbrev cX6_bitsOf : ByteArray := prog_9_method_67_code
def yX6_bitsOf : MethodName := ⟨RX6, "bitsOf", "(IILSchemaWorkshop$Bytes;II)I"⟩
def dkwX6_bitsOf_3 : List UInt8 := [167, 0, 4, 2, 172]
abbrev dktX6_bitsOf_3 : List UInt8 := dkwX6_bitsOf_3 ++ []
def dkwX6_bitsOf_2 : List UInt8 := [182, 1, 208, 54, 6, 21, 6, 16, 64, 164, 0, 11, 42, 27, 182, 1, 211, 154, 0, 8, 21, 6]
abbrev dktX6_bitsOf_2 : List UInt8 := dkwX6_bitsOf_2 ++ dktX6_bitsOf_3
def dkwX6_bitsOf_1 : List UInt8 := [182, 1, 196, 153, 0, 8, 21, 6, 167, 0, 4, 2, 172, 42, 27, 45, 21, 4, 21, 5, 184, 1, 205]
abbrev dktX6_bitsOf_1 : List UInt8 := dkwX6_bitsOf_1 ++ dktX6_bitsOf_2
def dkwX6_bitsOf_0 : List UInt8 := [42, 28, 182, 1, 199, 154, 0, 30, 45, 21, 4, 21, 5, 184, 1, 202, 54, 6, 42, 27, 21, 6]
abbrev dktX6_bitsOf_0 : List UInt8 := dkwX6_bitsOf_0 ++ dktX6_bitsOf_1
theorem dksX6_bitsOf_0 : cX6_bitsOf.data.toList.drop 0 = dktX6_bitsOf_0 := by decide +kernel
theorem dksX6_bitsOf_1 : cX6_bitsOf.data.toList.drop 22 = dktX6_bitsOf_1 := dk_seg dksX6_bitsOf_0 22 rfl rfl
theorem dksX6_bitsOf_2 : cX6_bitsOf.data.toList.drop 45 = dktX6_bitsOf_2 := dk_seg dksX6_bitsOf_1 23 rfl rfl
theorem dksX6_bitsOf_3 : cX6_bitsOf.data.toList.drop 67 = dktX6_bitsOf_3 := dk_seg dksX6_bitsOf_2 22 rfl rfl
theorem dX6_bitsOf_0 : decode cX6_bitsOf 0 = .ok (.aload_n 0, 1) := dk_42 (dk_at dksX6_bitsOf_0 0 rfl rfl)
theorem dX6_bitsOf_1 : decode cX6_bitsOf 1 = .ok (.iload_n 2, 1) := dk_28 (dk_at dksX6_bitsOf_0 1 rfl rfl)
theorem dX6_bitsOf_2 : decode cX6_bitsOf 2 = .ok (.invokevirtual 455, 3) := dk_182 1 199 (dk_at dksX6_bitsOf_0 2 rfl rfl)
theorem dX6_bitsOf_5 : decode cX6_bitsOf 5 = .ok (.ifCond .ne 30, 3) := dk_154 0 30 (dk_at dksX6_bitsOf_0 5 rfl rfl)
theorem dX6_bitsOf_8 : decode cX6_bitsOf 8 = .ok (.aload_n 3, 1) := dk_45 (dk_at dksX6_bitsOf_0 8 rfl rfl)
theorem dX6_bitsOf_9 : decode cX6_bitsOf 9 = .ok (.iload 4, 2) := dk_21 4 (dk_at dksX6_bitsOf_0 9 rfl rfl)
theorem dX6_bitsOf_11 : decode cX6_bitsOf 11 = .ok (.iload 5, 2) := dk_21 5 (dk_at dksX6_bitsOf_0 11 rfl rfl)
theorem dX6_bitsOf_13 : decode cX6_bitsOf 13 = .ok (.invokestatic 458, 3) := dk_184 1 202 (dk_at dksX6_bitsOf_0 13 rfl rfl)
theorem dX6_bitsOf_16 : decode cX6_bitsOf 16 = .ok (.istore 6, 2) := dk_54 6 (dk_at dksX6_bitsOf_0 16 rfl rfl)
theorem dX6_bitsOf_18 : decode cX6_bitsOf 18 = .ok (.aload_n 0, 1) := dk_42 (dk_at dksX6_bitsOf_0 18 rfl rfl)
theorem dX6_bitsOf_19 : decode cX6_bitsOf 19 = .ok (.iload_n 1, 1) := dk_27 (dk_at dksX6_bitsOf_0 19 rfl rfl)
theorem dX6_bitsOf_20 : decode cX6_bitsOf 20 = .ok (.iload 6, 2) := dk_21 6 (dk_at dksX6_bitsOf_0 20 rfl rfl)
theorem dX6_bitsOf_22 : decode cX6_bitsOf 22 = .ok (.invokevirtual 452, 3) := dk_182 1 196 (dk_at dksX6_bitsOf_1 0 rfl rfl)
theorem dX6_bitsOf_25 : decode cX6_bitsOf 25 = .ok (.ifCond .eq 8, 3) := dk_153 0 8 (dk_at dksX6_bitsOf_1 3 rfl rfl)
theorem dX6_bitsOf_28 : decode cX6_bitsOf 28 = .ok (.iload 6, 2) := dk_21 6 (dk_at dksX6_bitsOf_1 6 rfl rfl)
theorem dX6_bitsOf_30 : decode cX6_bitsOf 30 = .ok (.goto 4, 3) := dk_167 0 4 (dk_at dksX6_bitsOf_1 8 rfl rfl)
theorem dX6_bitsOf_33 : decode cX6_bitsOf 33 = .ok (.iconst (-1), 1) := dk_2 (dk_at dksX6_bitsOf_1 11 rfl rfl)
theorem dX6_bitsOf_34 : decode cX6_bitsOf 34 = .ok (.ireturn, 1) := dk_172 (dk_at dksX6_bitsOf_1 12 rfl rfl)
theorem dX6_bitsOf_35 : decode cX6_bitsOf 35 = .ok (.aload_n 0, 1) := dk_42 (dk_at dksX6_bitsOf_1 13 rfl rfl)
theorem dX6_bitsOf_36 : decode cX6_bitsOf 36 = .ok (.iload_n 1, 1) := dk_27 (dk_at dksX6_bitsOf_1 14 rfl rfl)
theorem dX6_bitsOf_37 : decode cX6_bitsOf 37 = .ok (.aload_n 3, 1) := dk_45 (dk_at dksX6_bitsOf_1 15 rfl rfl)
theorem dX6_bitsOf_38 : decode cX6_bitsOf 38 = .ok (.iload 4, 2) := dk_21 4 (dk_at dksX6_bitsOf_1 16 rfl rfl)
theorem dX6_bitsOf_40 : decode cX6_bitsOf 40 = .ok (.iload 5, 2) := dk_21 5 (dk_at dksX6_bitsOf_1 18 rfl rfl)
theorem dX6_bitsOf_42 : decode cX6_bitsOf 42 = .ok (.invokestatic 461, 3) := dk_184 1 205 (dk_at dksX6_bitsOf_1 20 rfl rfl)
theorem dX6_bitsOf_45 : decode cX6_bitsOf 45 = .ok (.invokevirtual 464, 3) := dk_182 1 208 (dk_at dksX6_bitsOf_2 0 rfl rfl)
theorem dX6_bitsOf_48 : decode cX6_bitsOf 48 = .ok (.istore 6, 2) := dk_54 6 (dk_at dksX6_bitsOf_2 3 rfl rfl)
theorem dX6_bitsOf_50 : decode cX6_bitsOf 50 = .ok (.iload 6, 2) := dk_21 6 (dk_at dksX6_bitsOf_2 5 rfl rfl)
theorem dX6_bitsOf_52 : decode cX6_bitsOf 52 = .ok (.bipush 64, 2) := dk_16 64 (dk_at dksX6_bitsOf_2 7 rfl rfl)
theorem dX6_bitsOf_54 : decode cX6_bitsOf 54 = .ok (.if_icmp .le 11, 3) := dk_164 0 11 (dk_at dksX6_bitsOf_2 9 rfl rfl)
theorem dX6_bitsOf_57 : decode cX6_bitsOf 57 = .ok (.aload_n 0, 1) := dk_42 (dk_at dksX6_bitsOf_2 12 rfl rfl)
theorem dX6_bitsOf_58 : decode cX6_bitsOf 58 = .ok (.iload_n 1, 1) := dk_27 (dk_at dksX6_bitsOf_2 13 rfl rfl)
theorem dX6_bitsOf_59 : decode cX6_bitsOf 59 = .ok (.invokevirtual 467, 3) := dk_182 1 211 (dk_at dksX6_bitsOf_2 14 rfl rfl)
theorem dX6_bitsOf_62 : decode cX6_bitsOf 62 = .ok (.ifCond .ne 8, 3) := dk_154 0 8 (dk_at dksX6_bitsOf_2 17 rfl rfl)
theorem dX6_bitsOf_65 : decode cX6_bitsOf 65 = .ok (.iload 6, 2) := dk_21 6 (dk_at dksX6_bitsOf_2 20 rfl rfl)
theorem dX6_bitsOf_67 : decode cX6_bitsOf 67 = .ok (.goto 4, 3) := dk_167 0 4 (dk_at dksX6_bitsOf_3 0 rfl rfl)
theorem dX6_bitsOf_70 : decode cX6_bitsOf 70 = .ok (.iconst (-1), 1) := dk_2 (dk_at dksX6_bitsOf_3 3 rfl rfl)
theorem dX6_bitsOf_71 : decode cX6_bitsOf 71 = .ok (.ireturn, 1) := dk_172 (dk_at dksX6_bitsOf_3 4 rfl rfl)
abbrev cX6_hasItems : ByteArray := prog_9_method_64_code
def yX6_hasItems : MethodName := ⟨RX6, "hasItems", "(I)Z"⟩
def dkwX6_hasItems_0 : List UInt8 := [42, 180, 0, 83, 27, 182, 0, 196, 2, 159, 0, 7, 4, 167, 0, 4, 3, 172]
abbrev dktX6_hasItems_0 : List UInt8 := dkwX6_hasItems_0 ++ []
theorem dksX6_hasItems_0 : cX6_hasItems.data.toList.drop 0 = dktX6_hasItems_0 := by decide +kernel
theorem dX6_hasItems_0 : decode cX6_hasItems 0 = .ok (.aload_n 0, 1) := dk_42 (dk_at dksX6_hasItems_0 0 rfl rfl)
theorem dX6_hasItems_1 : decode cX6_hasItems 1 = .ok (.getfield 83, 3) := dk_180 0 83 (dk_at dksX6_hasItems_0 1 rfl rfl)
theorem dX6_hasItems_4 : decode cX6_hasItems 4 = .ok (.iload_n 1, 1) := dk_27 (dk_at dksX6_hasItems_0 4 rfl rfl)
theorem dX6_hasItems_5 : decode cX6_hasItems 5 = .ok (.invokevirtual 196, 3) := dk_182 0 196 (dk_at dksX6_hasItems_0 5 rfl rfl)
theorem dX6_hasItems_8 : decode cX6_hasItems 8 = .ok (.iconst (-1), 1) := dk_2 (dk_at dksX6_hasItems_0 8 rfl rfl)
theorem dX6_hasItems_9 : decode cX6_hasItems 9 = .ok (.if_icmp .eq 7, 3) := dk_159 0 7 (dk_at dksX6_hasItems_0 9 rfl rfl)
theorem dX6_hasItems_12 : decode cX6_hasItems 12 = .ok (.iconst 1, 1) := dk_4 (dk_at dksX6_hasItems_0 12 rfl rfl)
theorem dX6_hasItems_13 : decode cX6_hasItems 13 = .ok (.goto 4, 3) := dk_167 0 4 (dk_at dksX6_hasItems_0 13 rfl rfl)
theorem dX6_hasItems_16 : decode cX6_hasItems 16 = .ok (.iconst 0, 1) := dk_3 (dk_at dksX6_hasItems_0 16 rfl rfl)
theorem dX6_hasItems_17 : decode cX6_hasItems 17 = .ok (.ireturn, 1) := dk_172 (dk_at dksX6_hasItems_0 17 rfl rfl)
abbrev cX6_isSize : ByteArray := prog_9_method_49_code
def yX6_isSize : MethodName := ⟨RX6, "isSize", "(II)Z"⟩
def dkwX6_isSize_2 : List UInt8 := [180, 0, 83, 29, 182, 0, 125, 16, 17, 159, 0, 5, 4, 172, 42, 29, 182, 0, 250, 62, 167, 255, 192]
abbrev dktX6_isSize_2 : List UInt8 := dkwX6_isSize_2 ++ []
def dkwX6_isSize_1 : List UInt8 := [182, 1, 103, 28, 159, 0, 5, 3, 172, 42, 180, 0, 83, 21, 4, 182, 0, 189, 54, 4, 167, 255, 226, 42]
abbrev dktX6_isSize_1 : List UInt8 := dkwX6_isSize_1 ++ dktX6_isSize_2
def dkwX6_isSize_0 : List UInt8 := [27, 62, 42, 180, 0, 83, 29, 182, 1, 10, 54, 4, 21, 4, 2, 159, 0, 30, 42, 21, 4, 28]
abbrev dktX6_isSize_0 : List UInt8 := dkwX6_isSize_0 ++ dktX6_isSize_1
theorem dksX6_isSize_0 : cX6_isSize.data.toList.drop 0 = dktX6_isSize_0 := by decide +kernel
theorem dksX6_isSize_1 : cX6_isSize.data.toList.drop 22 = dktX6_isSize_1 := dk_seg dksX6_isSize_0 22 rfl rfl
theorem dksX6_isSize_2 : cX6_isSize.data.toList.drop 46 = dktX6_isSize_2 := dk_seg dksX6_isSize_1 24 rfl rfl
theorem dX6_isSize_0 : decode cX6_isSize 0 = .ok (.iload_n 1, 1) := dk_27 (dk_at dksX6_isSize_0 0 rfl rfl)
theorem dX6_isSize_1 : decode cX6_isSize 1 = .ok (.istore_n 3, 1) := dk_62 (dk_at dksX6_isSize_0 1 rfl rfl)
theorem dX6_isSize_2 : decode cX6_isSize 2 = .ok (.aload_n 0, 1) := dk_42 (dk_at dksX6_isSize_0 2 rfl rfl)
theorem dX6_isSize_3 : decode cX6_isSize 3 = .ok (.getfield 83, 3) := dk_180 0 83 (dk_at dksX6_isSize_0 3 rfl rfl)
theorem dX6_isSize_6 : decode cX6_isSize 6 = .ok (.iload_n 3, 1) := dk_29 (dk_at dksX6_isSize_0 6 rfl rfl)
theorem dX6_isSize_7 : decode cX6_isSize 7 = .ok (.invokevirtual 266, 3) := dk_182 1 10 (dk_at dksX6_isSize_0 7 rfl rfl)
theorem dX6_isSize_10 : decode cX6_isSize 10 = .ok (.istore 4, 2) := dk_54 4 (dk_at dksX6_isSize_0 10 rfl rfl)
theorem dX6_isSize_12 : decode cX6_isSize 12 = .ok (.iload 4, 2) := dk_21 4 (dk_at dksX6_isSize_0 12 rfl rfl)
theorem dX6_isSize_14 : decode cX6_isSize 14 = .ok (.iconst (-1), 1) := dk_2 (dk_at dksX6_isSize_0 14 rfl rfl)
theorem dX6_isSize_15 : decode cX6_isSize 15 = .ok (.if_icmp .eq 30, 3) := dk_159 0 30 (dk_at dksX6_isSize_0 15 rfl rfl)
theorem dX6_isSize_18 : decode cX6_isSize 18 = .ok (.aload_n 0, 1) := dk_42 (dk_at dksX6_isSize_0 18 rfl rfl)
theorem dX6_isSize_19 : decode cX6_isSize 19 = .ok (.iload 4, 2) := dk_21 4 (dk_at dksX6_isSize_0 19 rfl rfl)
theorem dX6_isSize_21 : decode cX6_isSize 21 = .ok (.iload_n 2, 1) := dk_28 (dk_at dksX6_isSize_0 21 rfl rfl)
theorem dX6_isSize_22 : decode cX6_isSize 22 = .ok (.invokevirtual 359, 3) := dk_182 1 103 (dk_at dksX6_isSize_1 0 rfl rfl)
theorem dX6_isSize_25 : decode cX6_isSize 25 = .ok (.iload_n 2, 1) := dk_28 (dk_at dksX6_isSize_1 3 rfl rfl)
theorem dX6_isSize_26 : decode cX6_isSize 26 = .ok (.if_icmp .eq 5, 3) := dk_159 0 5 (dk_at dksX6_isSize_1 4 rfl rfl)
theorem dX6_isSize_29 : decode cX6_isSize 29 = .ok (.iconst 0, 1) := dk_3 (dk_at dksX6_isSize_1 7 rfl rfl)
theorem dX6_isSize_30 : decode cX6_isSize 30 = .ok (.ireturn, 1) := dk_172 (dk_at dksX6_isSize_1 8 rfl rfl)
theorem dX6_isSize_31 : decode cX6_isSize 31 = .ok (.aload_n 0, 1) := dk_42 (dk_at dksX6_isSize_1 9 rfl rfl)
theorem dX6_isSize_32 : decode cX6_isSize 32 = .ok (.getfield 83, 3) := dk_180 0 83 (dk_at dksX6_isSize_1 10 rfl rfl)
theorem dX6_isSize_35 : decode cX6_isSize 35 = .ok (.iload 4, 2) := dk_21 4 (dk_at dksX6_isSize_1 13 rfl rfl)
theorem dX6_isSize_37 : decode cX6_isSize 37 = .ok (.invokevirtual 189, 3) := dk_182 0 189 (dk_at dksX6_isSize_1 15 rfl rfl)
theorem dX6_isSize_40 : decode cX6_isSize 40 = .ok (.istore 4, 2) := dk_54 4 (dk_at dksX6_isSize_1 18 rfl rfl)
theorem dX6_isSize_42 : decode cX6_isSize 42 = .ok (.goto (-30), 3) := dk_167 255 226 (dk_at dksX6_isSize_1 20 rfl rfl)
theorem dX6_isSize_45 : decode cX6_isSize 45 = .ok (.aload_n 0, 1) := dk_42 (dk_at dksX6_isSize_1 23 rfl rfl)
theorem dX6_isSize_46 : decode cX6_isSize 46 = .ok (.getfield 83, 3) := dk_180 0 83 (dk_at dksX6_isSize_2 0 rfl rfl)
theorem dX6_isSize_49 : decode cX6_isSize 49 = .ok (.iload_n 3, 1) := dk_29 (dk_at dksX6_isSize_2 3 rfl rfl)
theorem dX6_isSize_50 : decode cX6_isSize 50 = .ok (.invokevirtual 125, 3) := dk_182 0 125 (dk_at dksX6_isSize_2 4 rfl rfl)
theorem dX6_isSize_53 : decode cX6_isSize 53 = .ok (.bipush 17, 2) := dk_16 17 (dk_at dksX6_isSize_2 7 rfl rfl)
theorem dX6_isSize_55 : decode cX6_isSize 55 = .ok (.if_icmp .eq 5, 3) := dk_159 0 5 (dk_at dksX6_isSize_2 9 rfl rfl)
theorem dX6_isSize_58 : decode cX6_isSize 58 = .ok (.iconst 1, 1) := dk_4 (dk_at dksX6_isSize_2 12 rfl rfl)
theorem dX6_isSize_59 : decode cX6_isSize 59 = .ok (.ireturn, 1) := dk_172 (dk_at dksX6_isSize_2 13 rfl rfl)
theorem dX6_isSize_60 : decode cX6_isSize 60 = .ok (.aload_n 0, 1) := dk_42 (dk_at dksX6_isSize_2 14 rfl rfl)
theorem dX6_isSize_61 : decode cX6_isSize 61 = .ok (.iload_n 3, 1) := dk_29 (dk_at dksX6_isSize_2 15 rfl rfl)
theorem dX6_isSize_62 : decode cX6_isSize 62 = .ok (.invokevirtual 250, 3) := dk_182 0 250 (dk_at dksX6_isSize_2 16 rfl rfl)
theorem dX6_isSize_65 : decode cX6_isSize 65 = .ok (.istore_n 3, 1) := dk_62 (dk_at dksX6_isSize_2 19 rfl rfl)
theorem dX6_isSize_66 : decode cX6_isSize 66 = .ok (.goto (-64), 3) := dk_167 255 192 (dk_at dksX6_isSize_2 20 rfl rfl)
abbrev cX6_leastSize : ByteArray := prog_9_method_46_code
def yX6_leastSize : MethodName := ⟨RX6, "leastSize", "(II)I"⟩
def dkwX6_leastSize_4 : List UInt8 := [180, 0, 83, 21, 4, 182, 0, 189, 54, 4, 167, 255, 162, 29, 172]
abbrev dktX6_leastSize_4 : List UInt8 := dkwX6_leastSize_4 ++ []
def dkwX6_leastSize_3 : List UInt8 := [42, 21, 6, 182, 1, 92, 163, 0, 17, 29, 2, 159, 0, 9, 21, 7, 29, 162, 0, 6, 21, 7, 62, 42]
abbrev dktX6_leastSize_3 : List UInt8 := dkwX6_leastSize_3 ++ dktX6_leastSize_4
def dkwX6_leastSize_2 : List UInt8 := [180, 0, 83, 21, 5, 182, 0, 189, 54, 6, 28, 42, 21, 5, 182, 1, 92, 184, 0, 113, 54, 7, 21, 7]
abbrev dktX6_leastSize_2 : List UInt8 := dkwX6_leastSize_2 ++ dktX6_leastSize_3
def dkwX6_leastSize_1 : List UInt8 := [182, 0, 196, 54, 5, 42, 180, 0, 83, 21, 5, 182, 0, 189, 2, 160, 0, 8, 21, 5, 167, 0, 12, 42]
abbrev dktX6_leastSize_1 : List UInt8 := dkwX6_leastSize_1 ++ dktX6_leastSize_2
def dkwX6_leastSize_0 : List UInt8 := [2, 62, 42, 180, 0, 83, 27, 182, 0, 196, 54, 4, 21, 4, 2, 159, 0, 94, 42, 180, 0, 83, 21, 4]
abbrev dktX6_leastSize_0 : List UInt8 := dkwX6_leastSize_0 ++ dktX6_leastSize_1
theorem dksX6_leastSize_0 : cX6_leastSize.data.toList.drop 0 = dktX6_leastSize_0 := by decide +kernel
theorem dksX6_leastSize_1 : cX6_leastSize.data.toList.drop 24 = dktX6_leastSize_1 := dk_seg dksX6_leastSize_0 24 rfl rfl
theorem dksX6_leastSize_2 : cX6_leastSize.data.toList.drop 48 = dktX6_leastSize_2 := dk_seg dksX6_leastSize_1 24 rfl rfl
theorem dksX6_leastSize_3 : cX6_leastSize.data.toList.drop 72 = dktX6_leastSize_3 := dk_seg dksX6_leastSize_2 24 rfl rfl
theorem dksX6_leastSize_4 : cX6_leastSize.data.toList.drop 96 = dktX6_leastSize_4 := dk_seg dksX6_leastSize_3 24 rfl rfl
theorem dX6_leastSize_0 : decode cX6_leastSize 0 = .ok (.iconst (-1), 1) := dk_2 (dk_at dksX6_leastSize_0 0 rfl rfl)
theorem dX6_leastSize_1 : decode cX6_leastSize 1 = .ok (.istore_n 3, 1) := dk_62 (dk_at dksX6_leastSize_0 1 rfl rfl)
theorem dX6_leastSize_2 : decode cX6_leastSize 2 = .ok (.aload_n 0, 1) := dk_42 (dk_at dksX6_leastSize_0 2 rfl rfl)
theorem dX6_leastSize_3 : decode cX6_leastSize 3 = .ok (.getfield 83, 3) := dk_180 0 83 (dk_at dksX6_leastSize_0 3 rfl rfl)
theorem dX6_leastSize_6 : decode cX6_leastSize 6 = .ok (.iload_n 1, 1) := dk_27 (dk_at dksX6_leastSize_0 6 rfl rfl)
theorem dX6_leastSize_7 : decode cX6_leastSize 7 = .ok (.invokevirtual 196, 3) := dk_182 0 196 (dk_at dksX6_leastSize_0 7 rfl rfl)
theorem dX6_leastSize_10 : decode cX6_leastSize 10 = .ok (.istore 4, 2) := dk_54 4 (dk_at dksX6_leastSize_0 10 rfl rfl)
theorem dX6_leastSize_12 : decode cX6_leastSize 12 = .ok (.iload 4, 2) := dk_21 4 (dk_at dksX6_leastSize_0 12 rfl rfl)
theorem dX6_leastSize_14 : decode cX6_leastSize 14 = .ok (.iconst (-1), 1) := dk_2 (dk_at dksX6_leastSize_0 14 rfl rfl)
theorem dX6_leastSize_15 : decode cX6_leastSize 15 = .ok (.if_icmp .eq 94, 3) := dk_159 0 94 (dk_at dksX6_leastSize_0 15 rfl rfl)
theorem dX6_leastSize_18 : decode cX6_leastSize 18 = .ok (.aload_n 0, 1) := dk_42 (dk_at dksX6_leastSize_0 18 rfl rfl)
theorem dX6_leastSize_19 : decode cX6_leastSize 19 = .ok (.getfield 83, 3) := dk_180 0 83 (dk_at dksX6_leastSize_0 19 rfl rfl)
theorem dX6_leastSize_22 : decode cX6_leastSize 22 = .ok (.iload 4, 2) := dk_21 4 (dk_at dksX6_leastSize_0 22 rfl rfl)
theorem dX6_leastSize_24 : decode cX6_leastSize 24 = .ok (.invokevirtual 196, 3) := dk_182 0 196 (dk_at dksX6_leastSize_1 0 rfl rfl)
theorem dX6_leastSize_27 : decode cX6_leastSize 27 = .ok (.istore 5, 2) := dk_54 5 (dk_at dksX6_leastSize_1 3 rfl rfl)
theorem dX6_leastSize_29 : decode cX6_leastSize 29 = .ok (.aload_n 0, 1) := dk_42 (dk_at dksX6_leastSize_1 5 rfl rfl)
theorem dX6_leastSize_30 : decode cX6_leastSize 30 = .ok (.getfield 83, 3) := dk_180 0 83 (dk_at dksX6_leastSize_1 6 rfl rfl)
theorem dX6_leastSize_33 : decode cX6_leastSize 33 = .ok (.iload 5, 2) := dk_21 5 (dk_at dksX6_leastSize_1 9 rfl rfl)
theorem dX6_leastSize_35 : decode cX6_leastSize 35 = .ok (.invokevirtual 189, 3) := dk_182 0 189 (dk_at dksX6_leastSize_1 11 rfl rfl)
theorem dX6_leastSize_38 : decode cX6_leastSize 38 = .ok (.iconst (-1), 1) := dk_2 (dk_at dksX6_leastSize_1 14 rfl rfl)
theorem dX6_leastSize_39 : decode cX6_leastSize 39 = .ok (.if_icmp .ne 8, 3) := dk_160 0 8 (dk_at dksX6_leastSize_1 15 rfl rfl)
theorem dX6_leastSize_42 : decode cX6_leastSize 42 = .ok (.iload 5, 2) := dk_21 5 (dk_at dksX6_leastSize_1 18 rfl rfl)
theorem dX6_leastSize_44 : decode cX6_leastSize 44 = .ok (.goto 12, 3) := dk_167 0 12 (dk_at dksX6_leastSize_1 20 rfl rfl)
theorem dX6_leastSize_47 : decode cX6_leastSize 47 = .ok (.aload_n 0, 1) := dk_42 (dk_at dksX6_leastSize_1 23 rfl rfl)
theorem dX6_leastSize_48 : decode cX6_leastSize 48 = .ok (.getfield 83, 3) := dk_180 0 83 (dk_at dksX6_leastSize_2 0 rfl rfl)
theorem dX6_leastSize_51 : decode cX6_leastSize 51 = .ok (.iload 5, 2) := dk_21 5 (dk_at dksX6_leastSize_2 3 rfl rfl)
theorem dX6_leastSize_53 : decode cX6_leastSize 53 = .ok (.invokevirtual 189, 3) := dk_182 0 189 (dk_at dksX6_leastSize_2 5 rfl rfl)
theorem dX6_leastSize_56 : decode cX6_leastSize 56 = .ok (.istore 6, 2) := dk_54 6 (dk_at dksX6_leastSize_2 8 rfl rfl)
theorem dX6_leastSize_58 : decode cX6_leastSize 58 = .ok (.iload_n 2, 1) := dk_28 (dk_at dksX6_leastSize_2 10 rfl rfl)
theorem dX6_leastSize_59 : decode cX6_leastSize 59 = .ok (.aload_n 0, 1) := dk_42 (dk_at dksX6_leastSize_2 11 rfl rfl)
theorem dX6_leastSize_60 : decode cX6_leastSize 60 = .ok (.iload 5, 2) := dk_21 5 (dk_at dksX6_leastSize_2 12 rfl rfl)
theorem dX6_leastSize_62 : decode cX6_leastSize 62 = .ok (.invokevirtual 348, 3) := dk_182 1 92 (dk_at dksX6_leastSize_2 14 rfl rfl)
theorem dX6_leastSize_65 : decode cX6_leastSize 65 = .ok (.invokestatic 113, 3) := dk_184 0 113 (dk_at dksX6_leastSize_2 17 rfl rfl)
theorem dX6_leastSize_68 : decode cX6_leastSize 68 = .ok (.istore 7, 2) := dk_54 7 (dk_at dksX6_leastSize_2 20 rfl rfl)
theorem dX6_leastSize_70 : decode cX6_leastSize 70 = .ok (.iload 7, 2) := dk_21 7 (dk_at dksX6_leastSize_2 22 rfl rfl)
theorem dX6_leastSize_72 : decode cX6_leastSize 72 = .ok (.aload_n 0, 1) := dk_42 (dk_at dksX6_leastSize_3 0 rfl rfl)
theorem dX6_leastSize_73 : decode cX6_leastSize 73 = .ok (.iload 6, 2) := dk_21 6 (dk_at dksX6_leastSize_3 1 rfl rfl)
theorem dX6_leastSize_75 : decode cX6_leastSize 75 = .ok (.invokevirtual 348, 3) := dk_182 1 92 (dk_at dksX6_leastSize_3 3 rfl rfl)
theorem dX6_leastSize_78 : decode cX6_leastSize 78 = .ok (.if_icmp .gt 17, 3) := dk_163 0 17 (dk_at dksX6_leastSize_3 6 rfl rfl)
theorem dX6_leastSize_81 : decode cX6_leastSize 81 = .ok (.iload_n 3, 1) := dk_29 (dk_at dksX6_leastSize_3 9 rfl rfl)
theorem dX6_leastSize_82 : decode cX6_leastSize 82 = .ok (.iconst (-1), 1) := dk_2 (dk_at dksX6_leastSize_3 10 rfl rfl)
theorem dX6_leastSize_83 : decode cX6_leastSize 83 = .ok (.if_icmp .eq 9, 3) := dk_159 0 9 (dk_at dksX6_leastSize_3 11 rfl rfl)
theorem dX6_leastSize_86 : decode cX6_leastSize 86 = .ok (.iload 7, 2) := dk_21 7 (dk_at dksX6_leastSize_3 14 rfl rfl)
theorem dX6_leastSize_88 : decode cX6_leastSize 88 = .ok (.iload_n 3, 1) := dk_29 (dk_at dksX6_leastSize_3 16 rfl rfl)
theorem dX6_leastSize_89 : decode cX6_leastSize 89 = .ok (.if_icmp .ge 6, 3) := dk_162 0 6 (dk_at dksX6_leastSize_3 17 rfl rfl)
theorem dX6_leastSize_92 : decode cX6_leastSize 92 = .ok (.iload 7, 2) := dk_21 7 (dk_at dksX6_leastSize_3 20 rfl rfl)
theorem dX6_leastSize_94 : decode cX6_leastSize 94 = .ok (.istore_n 3, 1) := dk_62 (dk_at dksX6_leastSize_3 22 rfl rfl)
theorem dX6_leastSize_95 : decode cX6_leastSize 95 = .ok (.aload_n 0, 1) := dk_42 (dk_at dksX6_leastSize_3 23 rfl rfl)
theorem dX6_leastSize_96 : decode cX6_leastSize 96 = .ok (.getfield 83, 3) := dk_180 0 83 (dk_at dksX6_leastSize_4 0 rfl rfl)
theorem dX6_leastSize_99 : decode cX6_leastSize 99 = .ok (.iload 4, 2) := dk_21 4 (dk_at dksX6_leastSize_4 3 rfl rfl)
theorem dX6_leastSize_101 : decode cX6_leastSize 101 = .ok (.invokevirtual 189, 3) := dk_182 0 189 (dk_at dksX6_leastSize_4 5 rfl rfl)
theorem dX6_leastSize_104 : decode cX6_leastSize 104 = .ok (.istore 4, 2) := dk_54 4 (dk_at dksX6_leastSize_4 8 rfl rfl)
theorem dX6_leastSize_106 : decode cX6_leastSize 106 = .ok (.goto (-94), 3) := dk_167 255 162 (dk_at dksX6_leastSize_4 10 rfl rfl)
theorem dX6_leastSize_109 : decode cX6_leastSize 109 = .ok (.iload_n 3, 1) := dk_29 (dk_at dksX6_leastSize_4 13 rfl rfl)
theorem dX6_leastSize_110 : decode cX6_leastSize 110 = .ok (.ireturn, 1) := dk_172 (dk_at dksX6_leastSize_4 14 rfl rfl)
abbrev cX6_sizeOf : ByteArray := prog_9_method_47_code
def yX6_sizeOf : MethodName := ⟨RX6, "sizeOf", "(I)I"⟩
def dkwX6_sizeOf_3 : List UInt8 := [62, 132, 4, 1, 167, 255, 216, 29, 172]
abbrev dktX6_sizeOf_3 : List UInt8 := dkwX6_sizeOf_3 ++ []
def dkwX6_sizeOf_2 : List UInt8 := [19, 1, 98, 164, 0, 7, 19, 1, 97, 172, 29, 16, 8, 120, 42, 180, 0, 48, 21, 4, 182, 0, 234, 128]
abbrev dktX6_sizeOf_2 : List UInt8 := dkwX6_sizeOf_2 ++ dktX6_sizeOf_3
def dkwX6_sizeOf_1 : List UInt8 := [172, 3, 62, 42, 180, 0, 55, 27, 46, 54, 4, 21, 4, 42, 180, 0, 59, 27, 46, 162, 0, 35, 29]
abbrev dktX6_sizeOf_1 : List UInt8 := dkwX6_sizeOf_1 ++ dktX6_sizeOf_2
def dkwX6_sizeOf_0 : List UInt8 := [42, 180, 0, 83, 27, 8, 182, 0, 223, 61, 28, 154, 0, 5, 3, 172, 28, 4, 160, 0, 7, 19, 1, 97]
abbrev dktX6_sizeOf_0 : List UInt8 := dkwX6_sizeOf_0 ++ dktX6_sizeOf_1
theorem dksX6_sizeOf_0 : cX6_sizeOf.data.toList.drop 0 = dktX6_sizeOf_0 := by decide +kernel
theorem dksX6_sizeOf_1 : cX6_sizeOf.data.toList.drop 24 = dktX6_sizeOf_1 := dk_seg dksX6_sizeOf_0 24 rfl rfl
theorem dksX6_sizeOf_2 : cX6_sizeOf.data.toList.drop 47 = dktX6_sizeOf_2 := dk_seg dksX6_sizeOf_1 23 rfl rfl
theorem dksX6_sizeOf_3 : cX6_sizeOf.data.toList.drop 71 = dktX6_sizeOf_3 := dk_seg dksX6_sizeOf_2 24 rfl rfl
theorem dX6_sizeOf_0 : decode cX6_sizeOf 0 = .ok (.aload_n 0, 1) := dk_42 (dk_at dksX6_sizeOf_0 0 rfl rfl)
theorem dX6_sizeOf_1 : decode cX6_sizeOf 1 = .ok (.getfield 83, 3) := dk_180 0 83 (dk_at dksX6_sizeOf_0 1 rfl rfl)
theorem dX6_sizeOf_4 : decode cX6_sizeOf 4 = .ok (.iload_n 1, 1) := dk_27 (dk_at dksX6_sizeOf_0 4 rfl rfl)
theorem dX6_sizeOf_5 : decode cX6_sizeOf 5 = .ok (.iconst 5, 1) := dk_8 (dk_at dksX6_sizeOf_0 5 rfl rfl)
theorem dX6_sizeOf_6 : decode cX6_sizeOf 6 = .ok (.invokevirtual 223, 3) := dk_182 0 223 (dk_at dksX6_sizeOf_0 6 rfl rfl)
theorem dX6_sizeOf_9 : decode cX6_sizeOf 9 = .ok (.istore_n 2, 1) := dk_61 (dk_at dksX6_sizeOf_0 9 rfl rfl)
theorem dX6_sizeOf_10 : decode cX6_sizeOf 10 = .ok (.iload_n 2, 1) := dk_28 (dk_at dksX6_sizeOf_0 10 rfl rfl)
theorem dX6_sizeOf_11 : decode cX6_sizeOf 11 = .ok (.ifCond .ne 5, 3) := dk_154 0 5 (dk_at dksX6_sizeOf_0 11 rfl rfl)
theorem dX6_sizeOf_14 : decode cX6_sizeOf 14 = .ok (.iconst 0, 1) := dk_3 (dk_at dksX6_sizeOf_0 14 rfl rfl)
theorem dX6_sizeOf_15 : decode cX6_sizeOf 15 = .ok (.ireturn, 1) := dk_172 (dk_at dksX6_sizeOf_0 15 rfl rfl)
theorem dX6_sizeOf_16 : decode cX6_sizeOf 16 = .ok (.iload_n 2, 1) := dk_28 (dk_at dksX6_sizeOf_0 16 rfl rfl)
theorem dX6_sizeOf_17 : decode cX6_sizeOf 17 = .ok (.iconst 1, 1) := dk_4 (dk_at dksX6_sizeOf_0 17 rfl rfl)
theorem dX6_sizeOf_18 : decode cX6_sizeOf 18 = .ok (.if_icmp .ne 7, 3) := dk_160 0 7 (dk_at dksX6_sizeOf_0 18 rfl rfl)
theorem dX6_sizeOf_21 : decode cX6_sizeOf 21 = .ok (.ldc_w 353, 3) := dk_19 1 97 (dk_at dksX6_sizeOf_0 21 rfl rfl)
theorem dX6_sizeOf_24 : decode cX6_sizeOf 24 = .ok (.ireturn, 1) := dk_172 (dk_at dksX6_sizeOf_1 0 rfl rfl)
theorem dX6_sizeOf_25 : decode cX6_sizeOf 25 = .ok (.iconst 0, 1) := dk_3 (dk_at dksX6_sizeOf_1 1 rfl rfl)
theorem dX6_sizeOf_26 : decode cX6_sizeOf 26 = .ok (.istore_n 3, 1) := dk_62 (dk_at dksX6_sizeOf_1 2 rfl rfl)
theorem dX6_sizeOf_27 : decode cX6_sizeOf 27 = .ok (.aload_n 0, 1) := dk_42 (dk_at dksX6_sizeOf_1 3 rfl rfl)
theorem dX6_sizeOf_28 : decode cX6_sizeOf 28 = .ok (.getfield 55, 3) := dk_180 0 55 (dk_at dksX6_sizeOf_1 4 rfl rfl)
theorem dX6_sizeOf_31 : decode cX6_sizeOf 31 = .ok (.iload_n 1, 1) := dk_27 (dk_at dksX6_sizeOf_1 7 rfl rfl)
theorem dX6_sizeOf_32 : decode cX6_sizeOf 32 = .ok (.iaload, 1) := dk_46 (dk_at dksX6_sizeOf_1 8 rfl rfl)
theorem dX6_sizeOf_33 : decode cX6_sizeOf 33 = .ok (.istore 4, 2) := dk_54 4 (dk_at dksX6_sizeOf_1 9 rfl rfl)
theorem dX6_sizeOf_35 : decode cX6_sizeOf 35 = .ok (.iload 4, 2) := dk_21 4 (dk_at dksX6_sizeOf_1 11 rfl rfl)
theorem dX6_sizeOf_37 : decode cX6_sizeOf 37 = .ok (.aload_n 0, 1) := dk_42 (dk_at dksX6_sizeOf_1 13 rfl rfl)
theorem dX6_sizeOf_38 : decode cX6_sizeOf 38 = .ok (.getfield 59, 3) := dk_180 0 59 (dk_at dksX6_sizeOf_1 14 rfl rfl)
theorem dX6_sizeOf_41 : decode cX6_sizeOf 41 = .ok (.iload_n 1, 1) := dk_27 (dk_at dksX6_sizeOf_1 17 rfl rfl)
theorem dX6_sizeOf_42 : decode cX6_sizeOf 42 = .ok (.iaload, 1) := dk_46 (dk_at dksX6_sizeOf_1 18 rfl rfl)
theorem dX6_sizeOf_43 : decode cX6_sizeOf 43 = .ok (.if_icmp .ge 35, 3) := dk_162 0 35 (dk_at dksX6_sizeOf_1 19 rfl rfl)
theorem dX6_sizeOf_46 : decode cX6_sizeOf 46 = .ok (.iload_n 3, 1) := dk_29 (dk_at dksX6_sizeOf_1 22 rfl rfl)
theorem dX6_sizeOf_47 : decode cX6_sizeOf 47 = .ok (.ldc_w 354, 3) := dk_19 1 98 (dk_at dksX6_sizeOf_2 0 rfl rfl)
theorem dX6_sizeOf_50 : decode cX6_sizeOf 50 = .ok (.if_icmp .le 7, 3) := dk_164 0 7 (dk_at dksX6_sizeOf_2 3 rfl rfl)
theorem dX6_sizeOf_53 : decode cX6_sizeOf 53 = .ok (.ldc_w 353, 3) := dk_19 1 97 (dk_at dksX6_sizeOf_2 6 rfl rfl)
theorem dX6_sizeOf_56 : decode cX6_sizeOf 56 = .ok (.ireturn, 1) := dk_172 (dk_at dksX6_sizeOf_2 9 rfl rfl)
theorem dX6_sizeOf_57 : decode cX6_sizeOf 57 = .ok (.iload_n 3, 1) := dk_29 (dk_at dksX6_sizeOf_2 10 rfl rfl)
theorem dX6_sizeOf_58 : decode cX6_sizeOf 58 = .ok (.bipush 8, 2) := dk_16 8 (dk_at dksX6_sizeOf_2 11 rfl rfl)
theorem dX6_sizeOf_60 : decode cX6_sizeOf 60 = .ok (.ishl, 1) := dk_120 (dk_at dksX6_sizeOf_2 13 rfl rfl)
theorem dX6_sizeOf_61 : decode cX6_sizeOf 61 = .ok (.aload_n 0, 1) := dk_42 (dk_at dksX6_sizeOf_2 14 rfl rfl)
theorem dX6_sizeOf_62 : decode cX6_sizeOf 62 = .ok (.getfield 48, 3) := dk_180 0 48 (dk_at dksX6_sizeOf_2 15 rfl rfl)
theorem dX6_sizeOf_65 : decode cX6_sizeOf 65 = .ok (.iload 4, 2) := dk_21 4 (dk_at dksX6_sizeOf_2 18 rfl rfl)
theorem dX6_sizeOf_67 : decode cX6_sizeOf 67 = .ok (.invokevirtual 234, 3) := dk_182 0 234 (dk_at dksX6_sizeOf_2 20 rfl rfl)
theorem dX6_sizeOf_70 : decode cX6_sizeOf 70 = .ok (.ior, 1) := dk_128 (dk_at dksX6_sizeOf_2 23 rfl rfl)
theorem dX6_sizeOf_71 : decode cX6_sizeOf 71 = .ok (.istore_n 3, 1) := dk_62 (dk_at dksX6_sizeOf_3 0 rfl rfl)
theorem dX6_sizeOf_72 : decode cX6_sizeOf 72 = .ok (.iinc 4 1, 3) := dk_132 4 1 (dk_at dksX6_sizeOf_3 1 rfl rfl)
theorem dX6_sizeOf_75 : decode cX6_sizeOf 75 = .ok (.goto (-40), 3) := dk_167 255 216 (dk_at dksX6_sizeOf_3 4 rfl rfl)
theorem dX6_sizeOf_78 : decode cX6_sizeOf 78 = .ok (.iload_n 3, 1) := dk_29 (dk_at dksX6_sizeOf_3 7 rfl rfl)
theorem dX6_sizeOf_79 : decode cX6_sizeOf 79 = .ok (.ireturn, 1) := dk_172 (dk_at dksX6_sizeOf_3 8 rfl rfl)
abbrev cX6_sizeFrom : ByteArray := prog_9_method_50_code
def yX6_sizeFrom : MethodName := ⟨RX6, "sizeFrom", "(II)I"⟩
def dkwX6_sizeFrom_5 : List UInt8 := [167, 255, 147, 29, 172]
abbrev dktX6_sizeFrom_5 : List UInt8 := dkwX6_sizeFrom_5 ++ []
def dkwX6_sizeFrom_4 : List UInt8 := [167, 0, 4, 3, 54, 6, 21, 6, 153, 255, 176, 42, 21, 5, 182, 0, 250, 54, 5, 167, 255, 165]
abbrev dktX6_sizeFrom_4 : List UInt8 := dkwX6_sizeFrom_4 ++ dktX6_sizeFrom_5
def dkwX6_sizeFrom_3 : List UInt8 := [182, 0, 189, 54, 7, 167, 255, 218, 42, 180, 0, 83, 21, 5, 182, 0, 125, 16, 17, 160, 0, 7, 4]
abbrev dktX6_sizeFrom_3 : List UInt8 := dkwX6_sizeFrom_3 ++ dktX6_sizeFrom_4
def dkwX6_sizeFrom_2 : List UInt8 := [182, 1, 103, 62, 29, 2, 159, 0, 9, 29, 16, 64, 164, 0, 5, 29, 172, 42, 180, 0, 83, 21, 7]
abbrev dktX6_sizeFrom_2 : List UInt8 := dkwX6_sizeFrom_2 ++ dktX6_sizeFrom_3
def dkwX6_sizeFrom_1 : List UInt8 := [153, 0, 92, 42, 180, 0, 83, 21, 5, 182, 1, 10, 54, 7, 21, 7, 2, 159, 0, 38, 42, 21, 7, 29]
abbrev dktX6_sizeFrom_1 : List UInt8 := dkwX6_sizeFrom_1 ++ dktX6_sizeFrom_2
def dkwX6_sizeFrom_0 : List UInt8 := [28, 62, 2, 54, 4, 29, 21, 4, 159, 0, 109, 29, 54, 4, 27, 54, 5, 4, 54, 6, 21, 6]
abbrev dktX6_sizeFrom_0 : List UInt8 := dkwX6_sizeFrom_0 ++ dktX6_sizeFrom_1
theorem dksX6_sizeFrom_0 : cX6_sizeFrom.data.toList.drop 0 = dktX6_sizeFrom_0 := by decide +kernel
theorem dksX6_sizeFrom_1 : cX6_sizeFrom.data.toList.drop 22 = dktX6_sizeFrom_1 := dk_seg dksX6_sizeFrom_0 22 rfl rfl
theorem dksX6_sizeFrom_2 : cX6_sizeFrom.data.toList.drop 46 = dktX6_sizeFrom_2 := dk_seg dksX6_sizeFrom_1 24 rfl rfl
theorem dksX6_sizeFrom_3 : cX6_sizeFrom.data.toList.drop 69 = dktX6_sizeFrom_3 := dk_seg dksX6_sizeFrom_2 23 rfl rfl
theorem dksX6_sizeFrom_4 : cX6_sizeFrom.data.toList.drop 92 = dktX6_sizeFrom_4 := dk_seg dksX6_sizeFrom_3 23 rfl rfl
theorem dksX6_sizeFrom_5 : cX6_sizeFrom.data.toList.drop 114 = dktX6_sizeFrom_5 := dk_seg dksX6_sizeFrom_4 22 rfl rfl
theorem dX6_sizeFrom_0 : decode cX6_sizeFrom 0 = .ok (.iload_n 2, 1) := dk_28 (dk_at dksX6_sizeFrom_0 0 rfl rfl)
theorem dX6_sizeFrom_1 : decode cX6_sizeFrom 1 = .ok (.istore_n 3, 1) := dk_62 (dk_at dksX6_sizeFrom_0 1 rfl rfl)
theorem dX6_sizeFrom_2 : decode cX6_sizeFrom 2 = .ok (.iconst (-1), 1) := dk_2 (dk_at dksX6_sizeFrom_0 2 rfl rfl)
theorem dX6_sizeFrom_3 : decode cX6_sizeFrom 3 = .ok (.istore 4, 2) := dk_54 4 (dk_at dksX6_sizeFrom_0 3 rfl rfl)
theorem dX6_sizeFrom_5 : decode cX6_sizeFrom 5 = .ok (.iload_n 3, 1) := dk_29 (dk_at dksX6_sizeFrom_0 5 rfl rfl)
theorem dX6_sizeFrom_6 : decode cX6_sizeFrom 6 = .ok (.iload 4, 2) := dk_21 4 (dk_at dksX6_sizeFrom_0 6 rfl rfl)
theorem dX6_sizeFrom_8 : decode cX6_sizeFrom 8 = .ok (.if_icmp .eq 109, 3) := dk_159 0 109 (dk_at dksX6_sizeFrom_0 8 rfl rfl)
theorem dX6_sizeFrom_11 : decode cX6_sizeFrom 11 = .ok (.iload_n 3, 1) := dk_29 (dk_at dksX6_sizeFrom_0 11 rfl rfl)
theorem dX6_sizeFrom_12 : decode cX6_sizeFrom 12 = .ok (.istore 4, 2) := dk_54 4 (dk_at dksX6_sizeFrom_0 12 rfl rfl)
theorem dX6_sizeFrom_14 : decode cX6_sizeFrom 14 = .ok (.iload_n 1, 1) := dk_27 (dk_at dksX6_sizeFrom_0 14 rfl rfl)
theorem dX6_sizeFrom_15 : decode cX6_sizeFrom 15 = .ok (.istore 5, 2) := dk_54 5 (dk_at dksX6_sizeFrom_0 15 rfl rfl)
theorem dX6_sizeFrom_17 : decode cX6_sizeFrom 17 = .ok (.iconst 1, 1) := dk_4 (dk_at dksX6_sizeFrom_0 17 rfl rfl)
theorem dX6_sizeFrom_18 : decode cX6_sizeFrom 18 = .ok (.istore 6, 2) := dk_54 6 (dk_at dksX6_sizeFrom_0 18 rfl rfl)
theorem dX6_sizeFrom_20 : decode cX6_sizeFrom 20 = .ok (.iload 6, 2) := dk_21 6 (dk_at dksX6_sizeFrom_0 20 rfl rfl)
theorem dX6_sizeFrom_22 : decode cX6_sizeFrom 22 = .ok (.ifCond .eq 92, 3) := dk_153 0 92 (dk_at dksX6_sizeFrom_1 0 rfl rfl)
theorem dX6_sizeFrom_25 : decode cX6_sizeFrom 25 = .ok (.aload_n 0, 1) := dk_42 (dk_at dksX6_sizeFrom_1 3 rfl rfl)
theorem dX6_sizeFrom_26 : decode cX6_sizeFrom 26 = .ok (.getfield 83, 3) := dk_180 0 83 (dk_at dksX6_sizeFrom_1 4 rfl rfl)
theorem dX6_sizeFrom_29 : decode cX6_sizeFrom 29 = .ok (.iload 5, 2) := dk_21 5 (dk_at dksX6_sizeFrom_1 7 rfl rfl)
theorem dX6_sizeFrom_31 : decode cX6_sizeFrom 31 = .ok (.invokevirtual 266, 3) := dk_182 1 10 (dk_at dksX6_sizeFrom_1 9 rfl rfl)
theorem dX6_sizeFrom_34 : decode cX6_sizeFrom 34 = .ok (.istore 7, 2) := dk_54 7 (dk_at dksX6_sizeFrom_1 12 rfl rfl)
theorem dX6_sizeFrom_36 : decode cX6_sizeFrom 36 = .ok (.iload 7, 2) := dk_21 7 (dk_at dksX6_sizeFrom_1 14 rfl rfl)
theorem dX6_sizeFrom_38 : decode cX6_sizeFrom 38 = .ok (.iconst (-1), 1) := dk_2 (dk_at dksX6_sizeFrom_1 16 rfl rfl)
theorem dX6_sizeFrom_39 : decode cX6_sizeFrom 39 = .ok (.if_icmp .eq 38, 3) := dk_159 0 38 (dk_at dksX6_sizeFrom_1 17 rfl rfl)
theorem dX6_sizeFrom_42 : decode cX6_sizeFrom 42 = .ok (.aload_n 0, 1) := dk_42 (dk_at dksX6_sizeFrom_1 20 rfl rfl)
theorem dX6_sizeFrom_43 : decode cX6_sizeFrom 43 = .ok (.iload 7, 2) := dk_21 7 (dk_at dksX6_sizeFrom_1 21 rfl rfl)
theorem dX6_sizeFrom_45 : decode cX6_sizeFrom 45 = .ok (.iload_n 3, 1) := dk_29 (dk_at dksX6_sizeFrom_1 23 rfl rfl)
theorem dX6_sizeFrom_46 : decode cX6_sizeFrom 46 = .ok (.invokevirtual 359, 3) := dk_182 1 103 (dk_at dksX6_sizeFrom_2 0 rfl rfl)
theorem dX6_sizeFrom_49 : decode cX6_sizeFrom 49 = .ok (.istore_n 3, 1) := dk_62 (dk_at dksX6_sizeFrom_2 3 rfl rfl)
theorem dX6_sizeFrom_50 : decode cX6_sizeFrom 50 = .ok (.iload_n 3, 1) := dk_29 (dk_at dksX6_sizeFrom_2 4 rfl rfl)
theorem dX6_sizeFrom_51 : decode cX6_sizeFrom 51 = .ok (.iconst (-1), 1) := dk_2 (dk_at dksX6_sizeFrom_2 5 rfl rfl)
theorem dX6_sizeFrom_52 : decode cX6_sizeFrom 52 = .ok (.if_icmp .eq 9, 3) := dk_159 0 9 (dk_at dksX6_sizeFrom_2 6 rfl rfl)
theorem dX6_sizeFrom_55 : decode cX6_sizeFrom 55 = .ok (.iload_n 3, 1) := dk_29 (dk_at dksX6_sizeFrom_2 9 rfl rfl)
theorem dX6_sizeFrom_56 : decode cX6_sizeFrom 56 = .ok (.bipush 64, 2) := dk_16 64 (dk_at dksX6_sizeFrom_2 10 rfl rfl)
theorem dX6_sizeFrom_58 : decode cX6_sizeFrom 58 = .ok (.if_icmp .le 5, 3) := dk_164 0 5 (dk_at dksX6_sizeFrom_2 12 rfl rfl)
theorem dX6_sizeFrom_61 : decode cX6_sizeFrom 61 = .ok (.iload_n 3, 1) := dk_29 (dk_at dksX6_sizeFrom_2 15 rfl rfl)
theorem dX6_sizeFrom_62 : decode cX6_sizeFrom 62 = .ok (.ireturn, 1) := dk_172 (dk_at dksX6_sizeFrom_2 16 rfl rfl)
theorem dX6_sizeFrom_63 : decode cX6_sizeFrom 63 = .ok (.aload_n 0, 1) := dk_42 (dk_at dksX6_sizeFrom_2 17 rfl rfl)
theorem dX6_sizeFrom_64 : decode cX6_sizeFrom 64 = .ok (.getfield 83, 3) := dk_180 0 83 (dk_at dksX6_sizeFrom_2 18 rfl rfl)
theorem dX6_sizeFrom_67 : decode cX6_sizeFrom 67 = .ok (.iload 7, 2) := dk_21 7 (dk_at dksX6_sizeFrom_2 21 rfl rfl)
theorem dX6_sizeFrom_69 : decode cX6_sizeFrom 69 = .ok (.invokevirtual 189, 3) := dk_182 0 189 (dk_at dksX6_sizeFrom_3 0 rfl rfl)
theorem dX6_sizeFrom_72 : decode cX6_sizeFrom 72 = .ok (.istore 7, 2) := dk_54 7 (dk_at dksX6_sizeFrom_3 3 rfl rfl)
theorem dX6_sizeFrom_74 : decode cX6_sizeFrom 74 = .ok (.goto (-38), 3) := dk_167 255 218 (dk_at dksX6_sizeFrom_3 5 rfl rfl)
theorem dX6_sizeFrom_77 : decode cX6_sizeFrom 77 = .ok (.aload_n 0, 1) := dk_42 (dk_at dksX6_sizeFrom_3 8 rfl rfl)
theorem dX6_sizeFrom_78 : decode cX6_sizeFrom 78 = .ok (.getfield 83, 3) := dk_180 0 83 (dk_at dksX6_sizeFrom_3 9 rfl rfl)
theorem dX6_sizeFrom_81 : decode cX6_sizeFrom 81 = .ok (.iload 5, 2) := dk_21 5 (dk_at dksX6_sizeFrom_3 12 rfl rfl)
theorem dX6_sizeFrom_83 : decode cX6_sizeFrom 83 = .ok (.invokevirtual 125, 3) := dk_182 0 125 (dk_at dksX6_sizeFrom_3 14 rfl rfl)
theorem dX6_sizeFrom_86 : decode cX6_sizeFrom 86 = .ok (.bipush 17, 2) := dk_16 17 (dk_at dksX6_sizeFrom_3 17 rfl rfl)
theorem dX6_sizeFrom_88 : decode cX6_sizeFrom 88 = .ok (.if_icmp .ne 7, 3) := dk_160 0 7 (dk_at dksX6_sizeFrom_3 19 rfl rfl)
theorem dX6_sizeFrom_91 : decode cX6_sizeFrom 91 = .ok (.iconst 1, 1) := dk_4 (dk_at dksX6_sizeFrom_3 22 rfl rfl)
theorem dX6_sizeFrom_92 : decode cX6_sizeFrom 92 = .ok (.goto 4, 3) := dk_167 0 4 (dk_at dksX6_sizeFrom_4 0 rfl rfl)
theorem dX6_sizeFrom_95 : decode cX6_sizeFrom 95 = .ok (.iconst 0, 1) := dk_3 (dk_at dksX6_sizeFrom_4 3 rfl rfl)
theorem dX6_sizeFrom_96 : decode cX6_sizeFrom 96 = .ok (.istore 6, 2) := dk_54 6 (dk_at dksX6_sizeFrom_4 4 rfl rfl)
theorem dX6_sizeFrom_98 : decode cX6_sizeFrom 98 = .ok (.iload 6, 2) := dk_21 6 (dk_at dksX6_sizeFrom_4 6 rfl rfl)
theorem dX6_sizeFrom_100 : decode cX6_sizeFrom 100 = .ok (.ifCond .eq (-80), 3) := dk_153 255 176 (dk_at dksX6_sizeFrom_4 8 rfl rfl)
theorem dX6_sizeFrom_103 : decode cX6_sizeFrom 103 = .ok (.aload_n 0, 1) := dk_42 (dk_at dksX6_sizeFrom_4 11 rfl rfl)
theorem dX6_sizeFrom_104 : decode cX6_sizeFrom 104 = .ok (.iload 5, 2) := dk_21 5 (dk_at dksX6_sizeFrom_4 12 rfl rfl)
theorem dX6_sizeFrom_106 : decode cX6_sizeFrom 106 = .ok (.invokevirtual 250, 3) := dk_182 0 250 (dk_at dksX6_sizeFrom_4 14 rfl rfl)
theorem dX6_sizeFrom_109 : decode cX6_sizeFrom 109 = .ok (.istore 5, 2) := dk_54 5 (dk_at dksX6_sizeFrom_4 17 rfl rfl)
theorem dX6_sizeFrom_111 : decode cX6_sizeFrom 111 = .ok (.goto (-91), 3) := dk_167 255 165 (dk_at dksX6_sizeFrom_4 19 rfl rfl)
theorem dX6_sizeFrom_114 : decode cX6_sizeFrom 114 = .ok (.goto (-109), 3) := dk_167 255 147 (dk_at dksX6_sizeFrom_5 0 rfl rfl)
theorem dX6_sizeFrom_117 : decode cX6_sizeFrom 117 = .ok (.iload_n 3, 1) := dk_29 (dk_at dksX6_sizeFrom_5 3 rfl rfl)
theorem dX6_sizeFrom_118 : decode cX6_sizeFrom 118 = .ok (.ireturn, 1) := dk_172 (dk_at dksX6_sizeFrom_5 4 rfl rfl)
abbrev cX6_hasLimits : ByteArray := prog_9_method_66_code
def yX6_hasLimits : MethodName := ⟨RX6, "hasLimits", "(I)Z"⟩
def dkwX6_hasLimits_2 : List UInt8 := [4, 167, 0, 4, 3, 172]
abbrev dktX6_hasLimits_2 : List UInt8 := dkwX6_hasLimits_2 ++ []
def dkwX6_hasLimits_1 : List UInt8 := [160, 0, 12, 42, 28, 182, 0, 250, 61, 167, 255, 225, 42, 180, 0, 83, 28, 182, 1, 10, 2, 159, 0, 7]
abbrev dktX6_hasLimits_1 : List UInt8 := dkwX6_hasLimits_1 ++ dktX6_hasLimits_2
def dkwX6_hasLimits_0 : List UInt8 := [27, 61, 42, 180, 0, 83, 28, 182, 1, 10, 2, 160, 0, 25, 42, 180, 0, 83, 28, 182, 0, 125, 16, 17]
abbrev dktX6_hasLimits_0 : List UInt8 := dkwX6_hasLimits_0 ++ dktX6_hasLimits_1
theorem dksX6_hasLimits_0 : cX6_hasLimits.data.toList.drop 0 = dktX6_hasLimits_0 := by decide +kernel
theorem dksX6_hasLimits_1 : cX6_hasLimits.data.toList.drop 24 = dktX6_hasLimits_1 := dk_seg dksX6_hasLimits_0 24 rfl rfl
theorem dksX6_hasLimits_2 : cX6_hasLimits.data.toList.drop 48 = dktX6_hasLimits_2 := dk_seg dksX6_hasLimits_1 24 rfl rfl
theorem dX6_hasLimits_0 : decode cX6_hasLimits 0 = .ok (.iload_n 1, 1) := dk_27 (dk_at dksX6_hasLimits_0 0 rfl rfl)
theorem dX6_hasLimits_1 : decode cX6_hasLimits 1 = .ok (.istore_n 2, 1) := dk_61 (dk_at dksX6_hasLimits_0 1 rfl rfl)
theorem dX6_hasLimits_2 : decode cX6_hasLimits 2 = .ok (.aload_n 0, 1) := dk_42 (dk_at dksX6_hasLimits_0 2 rfl rfl)
theorem dX6_hasLimits_3 : decode cX6_hasLimits 3 = .ok (.getfield 83, 3) := dk_180 0 83 (dk_at dksX6_hasLimits_0 3 rfl rfl)
theorem dX6_hasLimits_6 : decode cX6_hasLimits 6 = .ok (.iload_n 2, 1) := dk_28 (dk_at dksX6_hasLimits_0 6 rfl rfl)
theorem dX6_hasLimits_7 : decode cX6_hasLimits 7 = .ok (.invokevirtual 266, 3) := dk_182 1 10 (dk_at dksX6_hasLimits_0 7 rfl rfl)
theorem dX6_hasLimits_10 : decode cX6_hasLimits 10 = .ok (.iconst (-1), 1) := dk_2 (dk_at dksX6_hasLimits_0 10 rfl rfl)
theorem dX6_hasLimits_11 : decode cX6_hasLimits 11 = .ok (.if_icmp .ne 25, 3) := dk_160 0 25 (dk_at dksX6_hasLimits_0 11 rfl rfl)
theorem dX6_hasLimits_14 : decode cX6_hasLimits 14 = .ok (.aload_n 0, 1) := dk_42 (dk_at dksX6_hasLimits_0 14 rfl rfl)
theorem dX6_hasLimits_15 : decode cX6_hasLimits 15 = .ok (.getfield 83, 3) := dk_180 0 83 (dk_at dksX6_hasLimits_0 15 rfl rfl)
theorem dX6_hasLimits_18 : decode cX6_hasLimits 18 = .ok (.iload_n 2, 1) := dk_28 (dk_at dksX6_hasLimits_0 18 rfl rfl)
theorem dX6_hasLimits_19 : decode cX6_hasLimits 19 = .ok (.invokevirtual 125, 3) := dk_182 0 125 (dk_at dksX6_hasLimits_0 19 rfl rfl)
theorem dX6_hasLimits_22 : decode cX6_hasLimits 22 = .ok (.bipush 17, 2) := dk_16 17 (dk_at dksX6_hasLimits_0 22 rfl rfl)
theorem dX6_hasLimits_24 : decode cX6_hasLimits 24 = .ok (.if_icmp .ne 12, 3) := dk_160 0 12 (dk_at dksX6_hasLimits_1 0 rfl rfl)
theorem dX6_hasLimits_27 : decode cX6_hasLimits 27 = .ok (.aload_n 0, 1) := dk_42 (dk_at dksX6_hasLimits_1 3 rfl rfl)
theorem dX6_hasLimits_28 : decode cX6_hasLimits 28 = .ok (.iload_n 2, 1) := dk_28 (dk_at dksX6_hasLimits_1 4 rfl rfl)
theorem dX6_hasLimits_29 : decode cX6_hasLimits 29 = .ok (.invokevirtual 250, 3) := dk_182 0 250 (dk_at dksX6_hasLimits_1 5 rfl rfl)
theorem dX6_hasLimits_32 : decode cX6_hasLimits 32 = .ok (.istore_n 2, 1) := dk_61 (dk_at dksX6_hasLimits_1 8 rfl rfl)
theorem dX6_hasLimits_33 : decode cX6_hasLimits 33 = .ok (.goto (-31), 3) := dk_167 255 225 (dk_at dksX6_hasLimits_1 9 rfl rfl)
theorem dX6_hasLimits_36 : decode cX6_hasLimits 36 = .ok (.aload_n 0, 1) := dk_42 (dk_at dksX6_hasLimits_1 12 rfl rfl)
theorem dX6_hasLimits_37 : decode cX6_hasLimits 37 = .ok (.getfield 83, 3) := dk_180 0 83 (dk_at dksX6_hasLimits_1 13 rfl rfl)
theorem dX6_hasLimits_40 : decode cX6_hasLimits 40 = .ok (.iload_n 2, 1) := dk_28 (dk_at dksX6_hasLimits_1 16 rfl rfl)
theorem dX6_hasLimits_41 : decode cX6_hasLimits 41 = .ok (.invokevirtual 266, 3) := dk_182 1 10 (dk_at dksX6_hasLimits_1 17 rfl rfl)
theorem dX6_hasLimits_44 : decode cX6_hasLimits 44 = .ok (.iconst (-1), 1) := dk_2 (dk_at dksX6_hasLimits_1 20 rfl rfl)
theorem dX6_hasLimits_45 : decode cX6_hasLimits 45 = .ok (.if_icmp .eq 7, 3) := dk_159 0 7 (dk_at dksX6_hasLimits_1 21 rfl rfl)
theorem dX6_hasLimits_48 : decode cX6_hasLimits 48 = .ok (.iconst 1, 1) := dk_4 (dk_at dksX6_hasLimits_2 0 rfl rfl)
theorem dX6_hasLimits_49 : decode cX6_hasLimits 49 = .ok (.goto 4, 3) := dk_167 0 4 (dk_at dksX6_hasLimits_2 1 rfl rfl)
theorem dX6_hasLimits_52 : decode cX6_hasLimits 52 = .ok (.iconst 0, 1) := dk_3 (dk_at dksX6_hasLimits_2 4 rfl rfl)
theorem dX6_hasLimits_53 : decode cX6_hasLimits 53 = .ok (.ireturn, 1) := dk_172 (dk_at dksX6_hasLimits_2 5 rfl rfl)
abbrev cX6_mayBeEmpty : ByteArray := prog_9_method_56_code
def yX6_mayBeEmpty : MethodName := ⟨RX6, "mayBeEmpty", "(I)Z"⟩
def dkwX6_mayBeEmpty_2 : List UInt8 := [8, 182, 0, 223, 154, 0, 5, 3, 172, 42, 180, 0, 83, 28, 182, 0, 189, 61, 167, 255, 228, 4, 172]
abbrev dktX6_mayBeEmpty_2 : List UInt8 := dkwX6_mayBeEmpty_2 ++ []
def dkwX6_mayBeEmpty_1 : List UInt8 := [160, 0, 5, 4, 172, 42, 180, 0, 83, 27, 182, 0, 196, 61, 28, 2, 159, 0, 29, 42, 180, 0, 83, 28]
abbrev dktX6_mayBeEmpty_1 : List UInt8 := dkwX6_mayBeEmpty_1 ++ dktX6_mayBeEmpty_2
def dkwX6_mayBeEmpty_0 : List UInt8 := [42, 180, 0, 83, 27, 182, 0, 125, 16, 14, 159, 0, 16, 42, 180, 0, 83, 27, 182, 0, 125, 16, 15]
abbrev dktX6_mayBeEmpty_0 : List UInt8 := dkwX6_mayBeEmpty_0 ++ dktX6_mayBeEmpty_1
theorem dksX6_mayBeEmpty_0 : cX6_mayBeEmpty.data.toList.drop 0 = dktX6_mayBeEmpty_0 := by decide +kernel
theorem dksX6_mayBeEmpty_1 : cX6_mayBeEmpty.data.toList.drop 23 = dktX6_mayBeEmpty_1 := dk_seg dksX6_mayBeEmpty_0 23 rfl rfl
theorem dksX6_mayBeEmpty_2 : cX6_mayBeEmpty.data.toList.drop 47 = dktX6_mayBeEmpty_2 := dk_seg dksX6_mayBeEmpty_1 24 rfl rfl
theorem dX6_mayBeEmpty_0 : decode cX6_mayBeEmpty 0 = .ok (.aload_n 0, 1) := dk_42 (dk_at dksX6_mayBeEmpty_0 0 rfl rfl)
theorem dX6_mayBeEmpty_1 : decode cX6_mayBeEmpty 1 = .ok (.getfield 83, 3) := dk_180 0 83 (dk_at dksX6_mayBeEmpty_0 1 rfl rfl)
theorem dX6_mayBeEmpty_4 : decode cX6_mayBeEmpty 4 = .ok (.iload_n 1, 1) := dk_27 (dk_at dksX6_mayBeEmpty_0 4 rfl rfl)
theorem dX6_mayBeEmpty_5 : decode cX6_mayBeEmpty 5 = .ok (.invokevirtual 125, 3) := dk_182 0 125 (dk_at dksX6_mayBeEmpty_0 5 rfl rfl)
theorem dX6_mayBeEmpty_8 : decode cX6_mayBeEmpty 8 = .ok (.bipush 14, 2) := dk_16 14 (dk_at dksX6_mayBeEmpty_0 8 rfl rfl)
theorem dX6_mayBeEmpty_10 : decode cX6_mayBeEmpty 10 = .ok (.if_icmp .eq 16, 3) := dk_159 0 16 (dk_at dksX6_mayBeEmpty_0 10 rfl rfl)
theorem dX6_mayBeEmpty_13 : decode cX6_mayBeEmpty 13 = .ok (.aload_n 0, 1) := dk_42 (dk_at dksX6_mayBeEmpty_0 13 rfl rfl)
theorem dX6_mayBeEmpty_14 : decode cX6_mayBeEmpty 14 = .ok (.getfield 83, 3) := dk_180 0 83 (dk_at dksX6_mayBeEmpty_0 14 rfl rfl)
theorem dX6_mayBeEmpty_17 : decode cX6_mayBeEmpty 17 = .ok (.iload_n 1, 1) := dk_27 (dk_at dksX6_mayBeEmpty_0 17 rfl rfl)
theorem dX6_mayBeEmpty_18 : decode cX6_mayBeEmpty 18 = .ok (.invokevirtual 125, 3) := dk_182 0 125 (dk_at dksX6_mayBeEmpty_0 18 rfl rfl)
theorem dX6_mayBeEmpty_21 : decode cX6_mayBeEmpty 21 = .ok (.bipush 15, 2) := dk_16 15 (dk_at dksX6_mayBeEmpty_0 21 rfl rfl)
theorem dX6_mayBeEmpty_23 : decode cX6_mayBeEmpty 23 = .ok (.if_icmp .ne 5, 3) := dk_160 0 5 (dk_at dksX6_mayBeEmpty_1 0 rfl rfl)
theorem dX6_mayBeEmpty_26 : decode cX6_mayBeEmpty 26 = .ok (.iconst 1, 1) := dk_4 (dk_at dksX6_mayBeEmpty_1 3 rfl rfl)
theorem dX6_mayBeEmpty_27 : decode cX6_mayBeEmpty 27 = .ok (.ireturn, 1) := dk_172 (dk_at dksX6_mayBeEmpty_1 4 rfl rfl)
theorem dX6_mayBeEmpty_28 : decode cX6_mayBeEmpty 28 = .ok (.aload_n 0, 1) := dk_42 (dk_at dksX6_mayBeEmpty_1 5 rfl rfl)
theorem dX6_mayBeEmpty_29 : decode cX6_mayBeEmpty 29 = .ok (.getfield 83, 3) := dk_180 0 83 (dk_at dksX6_mayBeEmpty_1 6 rfl rfl)
theorem dX6_mayBeEmpty_32 : decode cX6_mayBeEmpty 32 = .ok (.iload_n 1, 1) := dk_27 (dk_at dksX6_mayBeEmpty_1 9 rfl rfl)
theorem dX6_mayBeEmpty_33 : decode cX6_mayBeEmpty 33 = .ok (.invokevirtual 196, 3) := dk_182 0 196 (dk_at dksX6_mayBeEmpty_1 10 rfl rfl)
theorem dX6_mayBeEmpty_36 : decode cX6_mayBeEmpty 36 = .ok (.istore_n 2, 1) := dk_61 (dk_at dksX6_mayBeEmpty_1 13 rfl rfl)
theorem dX6_mayBeEmpty_37 : decode cX6_mayBeEmpty 37 = .ok (.iload_n 2, 1) := dk_28 (dk_at dksX6_mayBeEmpty_1 14 rfl rfl)
theorem dX6_mayBeEmpty_38 : decode cX6_mayBeEmpty 38 = .ok (.iconst (-1), 1) := dk_2 (dk_at dksX6_mayBeEmpty_1 15 rfl rfl)
theorem dX6_mayBeEmpty_39 : decode cX6_mayBeEmpty 39 = .ok (.if_icmp .eq 29, 3) := dk_159 0 29 (dk_at dksX6_mayBeEmpty_1 16 rfl rfl)
theorem dX6_mayBeEmpty_42 : decode cX6_mayBeEmpty 42 = .ok (.aload_n 0, 1) := dk_42 (dk_at dksX6_mayBeEmpty_1 19 rfl rfl)
theorem dX6_mayBeEmpty_43 : decode cX6_mayBeEmpty 43 = .ok (.getfield 83, 3) := dk_180 0 83 (dk_at dksX6_mayBeEmpty_1 20 rfl rfl)
theorem dX6_mayBeEmpty_46 : decode cX6_mayBeEmpty 46 = .ok (.iload_n 2, 1) := dk_28 (dk_at dksX6_mayBeEmpty_1 23 rfl rfl)
theorem dX6_mayBeEmpty_47 : decode cX6_mayBeEmpty 47 = .ok (.iconst 5, 1) := dk_8 (dk_at dksX6_mayBeEmpty_2 0 rfl rfl)
theorem dX6_mayBeEmpty_48 : decode cX6_mayBeEmpty 48 = .ok (.invokevirtual 223, 3) := dk_182 0 223 (dk_at dksX6_mayBeEmpty_2 1 rfl rfl)
theorem dX6_mayBeEmpty_51 : decode cX6_mayBeEmpty 51 = .ok (.ifCond .ne 5, 3) := dk_154 0 5 (dk_at dksX6_mayBeEmpty_2 4 rfl rfl)
theorem dX6_mayBeEmpty_54 : decode cX6_mayBeEmpty 54 = .ok (.iconst 0, 1) := dk_3 (dk_at dksX6_mayBeEmpty_2 7 rfl rfl)
theorem dX6_mayBeEmpty_55 : decode cX6_mayBeEmpty 55 = .ok (.ireturn, 1) := dk_172 (dk_at dksX6_mayBeEmpty_2 8 rfl rfl)
theorem dX6_mayBeEmpty_56 : decode cX6_mayBeEmpty 56 = .ok (.aload_n 0, 1) := dk_42 (dk_at dksX6_mayBeEmpty_2 9 rfl rfl)
theorem dX6_mayBeEmpty_57 : decode cX6_mayBeEmpty 57 = .ok (.getfield 83, 3) := dk_180 0 83 (dk_at dksX6_mayBeEmpty_2 10 rfl rfl)
theorem dX6_mayBeEmpty_60 : decode cX6_mayBeEmpty 60 = .ok (.iload_n 2, 1) := dk_28 (dk_at dksX6_mayBeEmpty_2 13 rfl rfl)
theorem dX6_mayBeEmpty_61 : decode cX6_mayBeEmpty 61 = .ok (.invokevirtual 189, 3) := dk_182 0 189 (dk_at dksX6_mayBeEmpty_2 14 rfl rfl)
theorem dX6_mayBeEmpty_64 : decode cX6_mayBeEmpty 64 = .ok (.istore_n 2, 1) := dk_61 (dk_at dksX6_mayBeEmpty_2 17 rfl rfl)
theorem dX6_mayBeEmpty_65 : decode cX6_mayBeEmpty 65 = .ok (.goto (-28), 3) := dk_167 255 228 (dk_at dksX6_mayBeEmpty_2 18 rfl rfl)
theorem dX6_mayBeEmpty_68 : decode cX6_mayBeEmpty 68 = .ok (.iconst 1, 1) := dk_4 (dk_at dksX6_mayBeEmpty_2 21 rfl rfl)
theorem dX6_mayBeEmpty_69 : decode cX6_mayBeEmpty 69 = .ok (.ireturn, 1) := dk_172 (dk_at dksX6_mayBeEmpty_2 22 rfl rfl)
abbrev cX6_write : ByteArray := prog_9_method_55_code
def yX6_write : MethodName := ⟨RX6, "write", "(III)Z"⟩
def dkwX6_write_15 : List UInt8 := [153, 0, 7, 4, 167, 0, 4, 3, 172]
abbrev dktX6_write_15 : List UInt8 := dkwX6_write_15 ++ []
def dkwX6_write_14 : List UInt8 := [21, 4, 16, 8, 160, 0, 27, 42, 180, 0, 83, 27, 182, 0, 196, 2, 160, 0, 15, 42, 28, 182, 1, 134]
abbrev dktX6_write_14 : List UInt8 := dkwX6_write_14 ++ dktX6_write_15
def dkwX6_write_13 : List UInt8 := [16, 7, 160, 0, 17, 42, 21, 5, 29, 182, 1, 132, 153, 0, 7, 4, 167, 0, 4, 3, 172, 3, 172]
abbrev dktX6_write_13 : List UInt8 := dkwX6_write_13 ++ dktX6_write_14
def dkwX6_write_12 : List UInt8 := [21, 4, 16, 8, 160, 0, 15, 42, 27, 182, 1, 129, 153, 0, 7, 4, 167, 0, 4, 3, 172, 21, 4]
abbrev dktX6_write_12 : List UInt8 := dkwX6_write_12 ++ dktX6_write_13
def dkwX6_write_11 : List UInt8 := [16, 6, 160, 0, 7, 4, 167, 0, 4, 3, 3, 182, 1, 122, 153, 0, 7, 4, 167, 0, 4, 3, 172]
abbrev dktX6_write_11 : List UInt8 := dkwX6_write_11 ++ dktX6_write_12
def dkwX6_write_10 : List UInt8 := [167, 0, 4, 3, 172, 21, 4, 8, 159, 0, 10, 21, 4, 16, 6, 160, 0, 29, 42, 21, 5, 21, 4]
abbrev dktX6_write_10 : List UInt8 := dkwX6_write_10 ++ dktX6_write_11
def dkwX6_write_9 : List UInt8 := [182, 1, 122, 167, 0, 24, 21, 4, 16, 8, 160, 0, 16, 42, 27, 28, 182, 1, 126, 153, 0, 7, 4]
abbrev dktX6_write_9 : List UInt8 := dkwX6_write_9 ++ dktX6_write_10
def dkwX6_write_8 : List UInt8 := [21, 4, 16, 6, 160, 0, 25, 42, 21, 5, 21, 4, 16, 6, 160, 0, 7, 4, 167, 0, 4, 3, 4]
abbrev dktX6_write_8 : List UInt8 := dkwX6_write_8 ++ dktX6_write_9
def dkwX6_write_7 : List UInt8 := [160, 0, 7, 4, 167, 0, 4, 3, 42, 180, 0, 48, 182, 0, 215, 4, 172, 21, 4, 8, 159, 0, 10]
abbrev dktX6_write_7 : List UInt8 := dkwX6_write_7 ++ dktX6_write_8
def dkwX6_write_6 : List UInt8 := [182, 0, 223, 182, 0, 207, 182, 0, 210, 42, 180, 0, 12, 42, 180, 0, 83, 27, 16, 6, 182, 0, 223, 4]
abbrev dktX6_write_6 : List UInt8 := dkwX6_write_6 ++ dktX6_write_7
def dkwX6_write_5 : List UInt8 := [180, 0, 83, 27, 16, 7, 182, 0, 223, 182, 0, 107, 42, 180, 0, 103, 42, 180, 0, 83, 27, 16, 7]
abbrev dktX6_write_5 : List UInt8 := dkwX6_write_5 ++ dktX6_write_6
def dkwX6_write_4 : List UInt8 := [21, 4, 6, 159, 0, 5, 3, 172, 42, 180, 0, 12, 42, 180, 0, 103, 182, 0, 203, 42, 180, 0, 103, 42]
abbrev dktX6_write_4 : List UInt8 := dkwX6_write_4 ++ dktX6_write_5
def dkwX6_write_3 : List UInt8 := [21, 4, 4, 160, 0, 7, 4, 167, 0, 4, 3, 172, 21, 4, 5, 160, 0, 7, 4, 167, 0, 4, 3, 172]
abbrev dktX6_write_3 : List UInt8 := dkwX6_write_3 ++ dktX6_write_4
def dkwX6_write_2 : List UInt8 := [42, 180, 0, 48, 21, 4, 154, 0, 9, 17, 0, 255, 167, 0, 4, 3, 182, 1, 120, 21, 4, 153, 0, 9]
abbrev dktX6_write_2 : List UInt8 := dkwX6_write_2 ++ dktX6_write_3
def dkwX6_write_1 : List UInt8 := [170, 0, 0, 0, 1, 106, 0, 0, 0, 0, 0, 0, 0, 16, 0, 0, 0, 82, 0, 0, 0, 118, 0, 0, 0, 130, 0, 0, 1, 104, 0, 0, 0, 218, 0, 0, 1, 19, 0, 0, 1, 60, 0, 0, 1, 81, 0, 0, 1, 81, 0, 0, 1, 81, 0, 0, 1, 81, 0, 0, 1, 81, 0, 0, 1, 106, 0, 0, 1, 106, 0, 0, 1, 106, 0, 0, 1, 106, 0, 0, 1, 104]
abbrev dktX6_write_1 : List UInt8 := dkwX6_write_1 ++ dktX6_write_2
def dkwX6_write_0 : List UInt8 := [42, 180, 0, 83, 27, 8, 182, 0, 223, 54, 4, 42, 180, 0, 83, 27, 182, 0, 178, 54, 5, 29]
abbrev dktX6_write_0 : List UInt8 := dkwX6_write_0 ++ dktX6_write_1
theorem dksX6_write_0 : cX6_write.data.toList.drop 0 = dktX6_write_0 := by decide +kernel
theorem dksX6_write_1 : cX6_write.data.toList.drop 22 = dktX6_write_1 := dk_seg dksX6_write_0 22 rfl rfl
theorem dksX6_write_2 : cX6_write.data.toList.drop 104 = dktX6_write_2 := dk_seg dksX6_write_1 82 rfl rfl
theorem dksX6_write_3 : cX6_write.data.toList.drop 128 = dktX6_write_3 := dk_seg dksX6_write_2 24 rfl rfl
theorem dksX6_write_4 : cX6_write.data.toList.drop 152 = dktX6_write_4 := dk_seg dksX6_write_3 24 rfl rfl
theorem dksX6_write_5 : cX6_write.data.toList.drop 176 = dktX6_write_5 := dk_seg dksX6_write_4 24 rfl rfl
theorem dksX6_write_6 : cX6_write.data.toList.drop 199 = dktX6_write_6 := dk_seg dksX6_write_5 23 rfl rfl
theorem dksX6_write_7 : cX6_write.data.toList.drop 223 = dktX6_write_7 := dk_seg dksX6_write_6 24 rfl rfl
theorem dksX6_write_8 : cX6_write.data.toList.drop 246 = dktX6_write_8 := dk_seg dksX6_write_7 23 rfl rfl
theorem dksX6_write_9 : cX6_write.data.toList.drop 269 = dktX6_write_9 := dk_seg dksX6_write_8 23 rfl rfl
theorem dksX6_write_10 : cX6_write.data.toList.drop 292 = dktX6_write_10 := dk_seg dksX6_write_9 23 rfl rfl
theorem dksX6_write_11 : cX6_write.data.toList.drop 315 = dktX6_write_11 := dk_seg dksX6_write_10 23 rfl rfl
theorem dksX6_write_12 : cX6_write.data.toList.drop 338 = dktX6_write_12 := dk_seg dksX6_write_11 23 rfl rfl
theorem dksX6_write_13 : cX6_write.data.toList.drop 361 = dktX6_write_13 := dk_seg dksX6_write_12 23 rfl rfl
theorem dksX6_write_14 : cX6_write.data.toList.drop 384 = dktX6_write_14 := dk_seg dksX6_write_13 23 rfl rfl
theorem dksX6_write_15 : cX6_write.data.toList.drop 408 = dktX6_write_15 := dk_seg dksX6_write_14 24 rfl rfl
theorem dX6_write_0 : decode cX6_write 0 = .ok (.aload_n 0, 1) := dk_42 (dk_at dksX6_write_0 0 rfl rfl)
theorem dX6_write_1 : decode cX6_write 1 = .ok (.getfield 83, 3) := dk_180 0 83 (dk_at dksX6_write_0 1 rfl rfl)
theorem dX6_write_4 : decode cX6_write 4 = .ok (.iload_n 1, 1) := dk_27 (dk_at dksX6_write_0 4 rfl rfl)
theorem dX6_write_5 : decode cX6_write 5 = .ok (.iconst 5, 1) := dk_8 (dk_at dksX6_write_0 5 rfl rfl)
theorem dX6_write_6 : decode cX6_write 6 = .ok (.invokevirtual 223, 3) := dk_182 0 223 (dk_at dksX6_write_0 6 rfl rfl)
theorem dX6_write_9 : decode cX6_write 9 = .ok (.istore 4, 2) := dk_54 4 (dk_at dksX6_write_0 9 rfl rfl)
theorem dX6_write_11 : decode cX6_write 11 = .ok (.aload_n 0, 1) := dk_42 (dk_at dksX6_write_0 11 rfl rfl)
theorem dX6_write_12 : decode cX6_write 12 = .ok (.getfield 83, 3) := dk_180 0 83 (dk_at dksX6_write_0 12 rfl rfl)
theorem dX6_write_15 : decode cX6_write 15 = .ok (.iload_n 1, 1) := dk_27 (dk_at dksX6_write_0 15 rfl rfl)
theorem dX6_write_16 : decode cX6_write 16 = .ok (.invokevirtual 178, 3) := dk_182 0 178 (dk_at dksX6_write_0 16 rfl rfl)
theorem dX6_write_19 : decode cX6_write 19 = .ok (.istore 5, 2) := dk_54 5 (dk_at dksX6_write_0 19 rfl rfl)
theorem dX6_write_21 : decode cX6_write 21 = .ok (.iload_n 3, 1) := dk_29 (dk_at dksX6_write_0 21 rfl rfl)
theorem dX6_write_22 : decode cX6_write 22 = .ok (.tableswitch 362 0 16 #[82, 118, 130, 360, 218, 275, 316, 337, 337, 337, 337, 337, 362, 362, 362, 362, 360], 82) := by decide +kernel
theorem dX6_write_104 : decode cX6_write 104 = .ok (.aload_n 0, 1) := dk_42 (dk_at dksX6_write_2 0 rfl rfl)
theorem dX6_write_105 : decode cX6_write 105 = .ok (.getfield 48, 3) := dk_180 0 48 (dk_at dksX6_write_2 1 rfl rfl)
theorem dX6_write_108 : decode cX6_write 108 = .ok (.iload 4, 2) := dk_21 4 (dk_at dksX6_write_2 4 rfl rfl)
theorem dX6_write_110 : decode cX6_write 110 = .ok (.ifCond .ne 9, 3) := dk_154 0 9 (dk_at dksX6_write_2 6 rfl rfl)
theorem dX6_write_113 : decode cX6_write 113 = .ok (.sipush 255, 3) := dk_17 0 255 (dk_at dksX6_write_2 9 rfl rfl)
theorem dX6_write_116 : decode cX6_write 116 = .ok (.goto 4, 3) := dk_167 0 4 (dk_at dksX6_write_2 12 rfl rfl)
theorem dX6_write_119 : decode cX6_write 119 = .ok (.iconst 0, 1) := dk_3 (dk_at dksX6_write_2 15 rfl rfl)
theorem dX6_write_120 : decode cX6_write 120 = .ok (.invokevirtual 376, 3) := dk_182 1 120 (dk_at dksX6_write_2 16 rfl rfl)
theorem dX6_write_123 : decode cX6_write 123 = .ok (.iload 4, 2) := dk_21 4 (dk_at dksX6_write_2 19 rfl rfl)
theorem dX6_write_125 : decode cX6_write 125 = .ok (.ifCond .eq 9, 3) := dk_153 0 9 (dk_at dksX6_write_2 21 rfl rfl)
theorem dX6_write_128 : decode cX6_write 128 = .ok (.iload 4, 2) := dk_21 4 (dk_at dksX6_write_3 0 rfl rfl)
theorem dX6_write_130 : decode cX6_write 130 = .ok (.iconst 1, 1) := dk_4 (dk_at dksX6_write_3 2 rfl rfl)
theorem dX6_write_131 : decode cX6_write 131 = .ok (.if_icmp .ne 7, 3) := dk_160 0 7 (dk_at dksX6_write_3 3 rfl rfl)
theorem dX6_write_134 : decode cX6_write 134 = .ok (.iconst 1, 1) := dk_4 (dk_at dksX6_write_3 6 rfl rfl)
theorem dX6_write_135 : decode cX6_write 135 = .ok (.goto 4, 3) := dk_167 0 4 (dk_at dksX6_write_3 7 rfl rfl)
theorem dX6_write_138 : decode cX6_write 138 = .ok (.iconst 0, 1) := dk_3 (dk_at dksX6_write_3 10 rfl rfl)
theorem dX6_write_139 : decode cX6_write 139 = .ok (.ireturn, 1) := dk_172 (dk_at dksX6_write_3 11 rfl rfl)
theorem dX6_write_140 : decode cX6_write 140 = .ok (.iload 4, 2) := dk_21 4 (dk_at dksX6_write_3 12 rfl rfl)
theorem dX6_write_142 : decode cX6_write 142 = .ok (.iconst 2, 1) := dk_5 (dk_at dksX6_write_3 14 rfl rfl)
theorem dX6_write_143 : decode cX6_write 143 = .ok (.if_icmp .ne 7, 3) := dk_160 0 7 (dk_at dksX6_write_3 15 rfl rfl)
theorem dX6_write_146 : decode cX6_write 146 = .ok (.iconst 1, 1) := dk_4 (dk_at dksX6_write_3 18 rfl rfl)
theorem dX6_write_147 : decode cX6_write 147 = .ok (.goto 4, 3) := dk_167 0 4 (dk_at dksX6_write_3 19 rfl rfl)
theorem dX6_write_150 : decode cX6_write 150 = .ok (.iconst 0, 1) := dk_3 (dk_at dksX6_write_3 22 rfl rfl)
theorem dX6_write_151 : decode cX6_write 151 = .ok (.ireturn, 1) := dk_172 (dk_at dksX6_write_3 23 rfl rfl)
theorem dX6_write_152 : decode cX6_write 152 = .ok (.iload 4, 2) := dk_21 4 (dk_at dksX6_write_4 0 rfl rfl)
theorem dX6_write_154 : decode cX6_write 154 = .ok (.iconst 3, 1) := dk_6 (dk_at dksX6_write_4 2 rfl rfl)
theorem dX6_write_155 : decode cX6_write 155 = .ok (.if_icmp .eq 5, 3) := dk_159 0 5 (dk_at dksX6_write_4 3 rfl rfl)
theorem dX6_write_158 : decode cX6_write 158 = .ok (.iconst 0, 1) := dk_3 (dk_at dksX6_write_4 6 rfl rfl)
theorem dX6_write_159 : decode cX6_write 159 = .ok (.ireturn, 1) := dk_172 (dk_at dksX6_write_4 7 rfl rfl)
theorem dX6_write_160 : decode cX6_write 160 = .ok (.aload_n 0, 1) := dk_42 (dk_at dksX6_write_4 8 rfl rfl)
theorem dX6_write_161 : decode cX6_write 161 = .ok (.getfield 12, 3) := dk_180 0 12 (dk_at dksX6_write_4 9 rfl rfl)
theorem dX6_write_164 : decode cX6_write 164 = .ok (.aload_n 0, 1) := dk_42 (dk_at dksX6_write_4 12 rfl rfl)
theorem dX6_write_165 : decode cX6_write 165 = .ok (.getfield 103, 3) := dk_180 0 103 (dk_at dksX6_write_4 13 rfl rfl)
theorem dX6_write_168 : decode cX6_write 168 = .ok (.invokevirtual 203, 3) := dk_182 0 203 (dk_at dksX6_write_4 16 rfl rfl)
theorem dX6_write_171 : decode cX6_write 171 = .ok (.aload_n 0, 1) := dk_42 (dk_at dksX6_write_4 19 rfl rfl)
theorem dX6_write_172 : decode cX6_write 172 = .ok (.getfield 103, 3) := dk_180 0 103 (dk_at dksX6_write_4 20 rfl rfl)
theorem dX6_write_175 : decode cX6_write 175 = .ok (.aload_n 0, 1) := dk_42 (dk_at dksX6_write_4 23 rfl rfl)
theorem dX6_write_176 : decode cX6_write 176 = .ok (.getfield 83, 3) := dk_180 0 83 (dk_at dksX6_write_5 0 rfl rfl)
theorem dX6_write_179 : decode cX6_write 179 = .ok (.iload_n 1, 1) := dk_27 (dk_at dksX6_write_5 3 rfl rfl)
theorem dX6_write_180 : decode cX6_write 180 = .ok (.bipush 7, 2) := dk_16 7 (dk_at dksX6_write_5 4 rfl rfl)
theorem dX6_write_182 : decode cX6_write 182 = .ok (.invokevirtual 223, 3) := dk_182 0 223 (dk_at dksX6_write_5 6 rfl rfl)
theorem dX6_write_185 : decode cX6_write 185 = .ok (.invokevirtual 107, 3) := dk_182 0 107 (dk_at dksX6_write_5 9 rfl rfl)
theorem dX6_write_188 : decode cX6_write 188 = .ok (.aload_n 0, 1) := dk_42 (dk_at dksX6_write_5 12 rfl rfl)
theorem dX6_write_189 : decode cX6_write 189 = .ok (.getfield 103, 3) := dk_180 0 103 (dk_at dksX6_write_5 13 rfl rfl)
theorem dX6_write_192 : decode cX6_write 192 = .ok (.aload_n 0, 1) := dk_42 (dk_at dksX6_write_5 16 rfl rfl)
theorem dX6_write_193 : decode cX6_write 193 = .ok (.getfield 83, 3) := dk_180 0 83 (dk_at dksX6_write_5 17 rfl rfl)
theorem dX6_write_196 : decode cX6_write 196 = .ok (.iload_n 1, 1) := dk_27 (dk_at dksX6_write_5 20 rfl rfl)
theorem dX6_write_197 : decode cX6_write 197 = .ok (.bipush 7, 2) := dk_16 7 (dk_at dksX6_write_5 21 rfl rfl)
theorem dX6_write_199 : decode cX6_write 199 = .ok (.invokevirtual 223, 3) := dk_182 0 223 (dk_at dksX6_write_6 0 rfl rfl)
theorem dX6_write_202 : decode cX6_write 202 = .ok (.invokevirtual 207, 3) := dk_182 0 207 (dk_at dksX6_write_6 3 rfl rfl)
theorem dX6_write_205 : decode cX6_write 205 = .ok (.invokevirtual 210, 3) := dk_182 0 210 (dk_at dksX6_write_6 6 rfl rfl)
theorem dX6_write_208 : decode cX6_write 208 = .ok (.aload_n 0, 1) := dk_42 (dk_at dksX6_write_6 9 rfl rfl)
theorem dX6_write_209 : decode cX6_write 209 = .ok (.getfield 12, 3) := dk_180 0 12 (dk_at dksX6_write_6 10 rfl rfl)
theorem dX6_write_212 : decode cX6_write 212 = .ok (.aload_n 0, 1) := dk_42 (dk_at dksX6_write_6 13 rfl rfl)
theorem dX6_write_213 : decode cX6_write 213 = .ok (.getfield 83, 3) := dk_180 0 83 (dk_at dksX6_write_6 14 rfl rfl)
theorem dX6_write_216 : decode cX6_write 216 = .ok (.iload_n 1, 1) := dk_27 (dk_at dksX6_write_6 17 rfl rfl)
theorem dX6_write_217 : decode cX6_write 217 = .ok (.bipush 6, 2) := dk_16 6 (dk_at dksX6_write_6 18 rfl rfl)
theorem dX6_write_219 : decode cX6_write 219 = .ok (.invokevirtual 223, 3) := dk_182 0 223 (dk_at dksX6_write_6 20 rfl rfl)
theorem dX6_write_222 : decode cX6_write 222 = .ok (.iconst 1, 1) := dk_4 (dk_at dksX6_write_6 23 rfl rfl)
theorem dX6_write_223 : decode cX6_write 223 = .ok (.if_icmp .ne 7, 3) := dk_160 0 7 (dk_at dksX6_write_7 0 rfl rfl)
theorem dX6_write_226 : decode cX6_write 226 = .ok (.iconst 1, 1) := dk_4 (dk_at dksX6_write_7 3 rfl rfl)
theorem dX6_write_227 : decode cX6_write 227 = .ok (.goto 4, 3) := dk_167 0 4 (dk_at dksX6_write_7 4 rfl rfl)
theorem dX6_write_230 : decode cX6_write 230 = .ok (.iconst 0, 1) := dk_3 (dk_at dksX6_write_7 7 rfl rfl)
theorem dX6_write_231 : decode cX6_write 231 = .ok (.aload_n 0, 1) := dk_42 (dk_at dksX6_write_7 8 rfl rfl)
theorem dX6_write_232 : decode cX6_write 232 = .ok (.getfield 48, 3) := dk_180 0 48 (dk_at dksX6_write_7 9 rfl rfl)
theorem dX6_write_235 : decode cX6_write 235 = .ok (.invokevirtual 215, 3) := dk_182 0 215 (dk_at dksX6_write_7 12 rfl rfl)
theorem dX6_write_238 : decode cX6_write 238 = .ok (.iconst 1, 1) := dk_4 (dk_at dksX6_write_7 15 rfl rfl)
theorem dX6_write_239 : decode cX6_write 239 = .ok (.ireturn, 1) := dk_172 (dk_at dksX6_write_7 16 rfl rfl)
theorem dX6_write_240 : decode cX6_write 240 = .ok (.iload 4, 2) := dk_21 4 (dk_at dksX6_write_7 17 rfl rfl)
theorem dX6_write_242 : decode cX6_write 242 = .ok (.iconst 5, 1) := dk_8 (dk_at dksX6_write_7 19 rfl rfl)
theorem dX6_write_243 : decode cX6_write 243 = .ok (.if_icmp .eq 10, 3) := dk_159 0 10 (dk_at dksX6_write_7 20 rfl rfl)
theorem dX6_write_246 : decode cX6_write 246 = .ok (.iload 4, 2) := dk_21 4 (dk_at dksX6_write_8 0 rfl rfl)
theorem dX6_write_248 : decode cX6_write 248 = .ok (.bipush 6, 2) := dk_16 6 (dk_at dksX6_write_8 2 rfl rfl)
theorem dX6_write_250 : decode cX6_write 250 = .ok (.if_icmp .ne 25, 3) := dk_160 0 25 (dk_at dksX6_write_8 4 rfl rfl)
theorem dX6_write_253 : decode cX6_write 253 = .ok (.aload_n 0, 1) := dk_42 (dk_at dksX6_write_8 7 rfl rfl)
theorem dX6_write_254 : decode cX6_write 254 = .ok (.iload 5, 2) := dk_21 5 (dk_at dksX6_write_8 8 rfl rfl)
theorem dX6_write_256 : decode cX6_write 256 = .ok (.iload 4, 2) := dk_21 4 (dk_at dksX6_write_8 10 rfl rfl)
theorem dX6_write_258 : decode cX6_write 258 = .ok (.bipush 6, 2) := dk_16 6 (dk_at dksX6_write_8 12 rfl rfl)
theorem dX6_write_260 : decode cX6_write 260 = .ok (.if_icmp .ne 7, 3) := dk_160 0 7 (dk_at dksX6_write_8 14 rfl rfl)
theorem dX6_write_263 : decode cX6_write 263 = .ok (.iconst 1, 1) := dk_4 (dk_at dksX6_write_8 17 rfl rfl)
theorem dX6_write_264 : decode cX6_write 264 = .ok (.goto 4, 3) := dk_167 0 4 (dk_at dksX6_write_8 18 rfl rfl)
theorem dX6_write_267 : decode cX6_write 267 = .ok (.iconst 0, 1) := dk_3 (dk_at dksX6_write_8 21 rfl rfl)
theorem dX6_write_268 : decode cX6_write 268 = .ok (.iconst 1, 1) := dk_4 (dk_at dksX6_write_8 22 rfl rfl)
theorem dX6_write_269 : decode cX6_write 269 = .ok (.invokevirtual 378, 3) := dk_182 1 122 (dk_at dksX6_write_9 0 rfl rfl)
theorem dX6_write_272 : decode cX6_write 272 = .ok (.goto 24, 3) := dk_167 0 24 (dk_at dksX6_write_9 3 rfl rfl)
theorem dX6_write_275 : decode cX6_write 275 = .ok (.iload 4, 2) := dk_21 4 (dk_at dksX6_write_9 6 rfl rfl)
theorem dX6_write_277 : decode cX6_write 277 = .ok (.bipush 8, 2) := dk_16 8 (dk_at dksX6_write_9 8 rfl rfl)
theorem dX6_write_279 : decode cX6_write 279 = .ok (.if_icmp .ne 16, 3) := dk_160 0 16 (dk_at dksX6_write_9 10 rfl rfl)
theorem dX6_write_282 : decode cX6_write 282 = .ok (.aload_n 0, 1) := dk_42 (dk_at dksX6_write_9 13 rfl rfl)
theorem dX6_write_283 : decode cX6_write 283 = .ok (.iload_n 1, 1) := dk_27 (dk_at dksX6_write_9 14 rfl rfl)
theorem dX6_write_284 : decode cX6_write 284 = .ok (.iload_n 2, 1) := dk_28 (dk_at dksX6_write_9 15 rfl rfl)
theorem dX6_write_285 : decode cX6_write 285 = .ok (.invokevirtual 382, 3) := dk_182 1 126 (dk_at dksX6_write_9 16 rfl rfl)
theorem dX6_write_288 : decode cX6_write 288 = .ok (.ifCond .eq 7, 3) := dk_153 0 7 (dk_at dksX6_write_9 19 rfl rfl)
theorem dX6_write_291 : decode cX6_write 291 = .ok (.iconst 1, 1) := dk_4 (dk_at dksX6_write_9 22 rfl rfl)
theorem dX6_write_292 : decode cX6_write 292 = .ok (.goto 4, 3) := dk_167 0 4 (dk_at dksX6_write_10 0 rfl rfl)
theorem dX6_write_295 : decode cX6_write 295 = .ok (.iconst 0, 1) := dk_3 (dk_at dksX6_write_10 3 rfl rfl)
theorem dX6_write_296 : decode cX6_write 296 = .ok (.ireturn, 1) := dk_172 (dk_at dksX6_write_10 4 rfl rfl)
theorem dX6_write_297 : decode cX6_write 297 = .ok (.iload 4, 2) := dk_21 4 (dk_at dksX6_write_10 5 rfl rfl)
theorem dX6_write_299 : decode cX6_write 299 = .ok (.iconst 5, 1) := dk_8 (dk_at dksX6_write_10 7 rfl rfl)
theorem dX6_write_300 : decode cX6_write 300 = .ok (.if_icmp .eq 10, 3) := dk_159 0 10 (dk_at dksX6_write_10 8 rfl rfl)
theorem dX6_write_303 : decode cX6_write 303 = .ok (.iload 4, 2) := dk_21 4 (dk_at dksX6_write_10 11 rfl rfl)
theorem dX6_write_305 : decode cX6_write 305 = .ok (.bipush 6, 2) := dk_16 6 (dk_at dksX6_write_10 13 rfl rfl)
theorem dX6_write_307 : decode cX6_write 307 = .ok (.if_icmp .ne 29, 3) := dk_160 0 29 (dk_at dksX6_write_10 15 rfl rfl)
theorem dX6_write_310 : decode cX6_write 310 = .ok (.aload_n 0, 1) := dk_42 (dk_at dksX6_write_10 18 rfl rfl)
theorem dX6_write_311 : decode cX6_write 311 = .ok (.iload 5, 2) := dk_21 5 (dk_at dksX6_write_10 19 rfl rfl)
theorem dX6_write_313 : decode cX6_write 313 = .ok (.iload 4, 2) := dk_21 4 (dk_at dksX6_write_10 21 rfl rfl)
theorem dX6_write_315 : decode cX6_write 315 = .ok (.bipush 6, 2) := dk_16 6 (dk_at dksX6_write_11 0 rfl rfl)
theorem dX6_write_317 : decode cX6_write 317 = .ok (.if_icmp .ne 7, 3) := dk_160 0 7 (dk_at dksX6_write_11 2 rfl rfl)
theorem dX6_write_320 : decode cX6_write 320 = .ok (.iconst 1, 1) := dk_4 (dk_at dksX6_write_11 5 rfl rfl)
theorem dX6_write_321 : decode cX6_write 321 = .ok (.goto 4, 3) := dk_167 0 4 (dk_at dksX6_write_11 6 rfl rfl)
theorem dX6_write_324 : decode cX6_write 324 = .ok (.iconst 0, 1) := dk_3 (dk_at dksX6_write_11 9 rfl rfl)
theorem dX6_write_325 : decode cX6_write 325 = .ok (.iconst 0, 1) := dk_3 (dk_at dksX6_write_11 10 rfl rfl)
theorem dX6_write_326 : decode cX6_write 326 = .ok (.invokevirtual 378, 3) := dk_182 1 122 (dk_at dksX6_write_11 11 rfl rfl)
theorem dX6_write_329 : decode cX6_write 329 = .ok (.ifCond .eq 7, 3) := dk_153 0 7 (dk_at dksX6_write_11 14 rfl rfl)
theorem dX6_write_332 : decode cX6_write 332 = .ok (.iconst 1, 1) := dk_4 (dk_at dksX6_write_11 17 rfl rfl)
theorem dX6_write_333 : decode cX6_write 333 = .ok (.goto 4, 3) := dk_167 0 4 (dk_at dksX6_write_11 18 rfl rfl)
theorem dX6_write_336 : decode cX6_write 336 = .ok (.iconst 0, 1) := dk_3 (dk_at dksX6_write_11 21 rfl rfl)
theorem dX6_write_337 : decode cX6_write 337 = .ok (.ireturn, 1) := dk_172 (dk_at dksX6_write_11 22 rfl rfl)
theorem dX6_write_338 : decode cX6_write 338 = .ok (.iload 4, 2) := dk_21 4 (dk_at dksX6_write_12 0 rfl rfl)
theorem dX6_write_340 : decode cX6_write 340 = .ok (.bipush 8, 2) := dk_16 8 (dk_at dksX6_write_12 2 rfl rfl)
theorem dX6_write_342 : decode cX6_write 342 = .ok (.if_icmp .ne 15, 3) := dk_160 0 15 (dk_at dksX6_write_12 4 rfl rfl)
theorem dX6_write_345 : decode cX6_write 345 = .ok (.aload_n 0, 1) := dk_42 (dk_at dksX6_write_12 7 rfl rfl)
theorem dX6_write_346 : decode cX6_write 346 = .ok (.iload_n 1, 1) := dk_27 (dk_at dksX6_write_12 8 rfl rfl)
theorem dX6_write_347 : decode cX6_write 347 = .ok (.invokevirtual 385, 3) := dk_182 1 129 (dk_at dksX6_write_12 9 rfl rfl)
theorem dX6_write_350 : decode cX6_write 350 = .ok (.ifCond .eq 7, 3) := dk_153 0 7 (dk_at dksX6_write_12 12 rfl rfl)
theorem dX6_write_353 : decode cX6_write 353 = .ok (.iconst 1, 1) := dk_4 (dk_at dksX6_write_12 15 rfl rfl)
theorem dX6_write_354 : decode cX6_write 354 = .ok (.goto 4, 3) := dk_167 0 4 (dk_at dksX6_write_12 16 rfl rfl)
theorem dX6_write_357 : decode cX6_write 357 = .ok (.iconst 0, 1) := dk_3 (dk_at dksX6_write_12 19 rfl rfl)
theorem dX6_write_358 : decode cX6_write 358 = .ok (.ireturn, 1) := dk_172 (dk_at dksX6_write_12 20 rfl rfl)
theorem dX6_write_359 : decode cX6_write 359 = .ok (.iload 4, 2) := dk_21 4 (dk_at dksX6_write_12 21 rfl rfl)
theorem dX6_write_361 : decode cX6_write 361 = .ok (.bipush 7, 2) := dk_16 7 (dk_at dksX6_write_13 0 rfl rfl)
theorem dX6_write_363 : decode cX6_write 363 = .ok (.if_icmp .ne 17, 3) := dk_160 0 17 (dk_at dksX6_write_13 2 rfl rfl)
theorem dX6_write_366 : decode cX6_write 366 = .ok (.aload_n 0, 1) := dk_42 (dk_at dksX6_write_13 5 rfl rfl)
theorem dX6_write_367 : decode cX6_write 367 = .ok (.iload 5, 2) := dk_21 5 (dk_at dksX6_write_13 6 rfl rfl)
theorem dX6_write_369 : decode cX6_write 369 = .ok (.iload_n 3, 1) := dk_29 (dk_at dksX6_write_13 8 rfl rfl)
theorem dX6_write_370 : decode cX6_write 370 = .ok (.invokevirtual 388, 3) := dk_182 1 132 (dk_at dksX6_write_13 9 rfl rfl)
theorem dX6_write_373 : decode cX6_write 373 = .ok (.ifCond .eq 7, 3) := dk_153 0 7 (dk_at dksX6_write_13 12 rfl rfl)
theorem dX6_write_376 : decode cX6_write 376 = .ok (.iconst 1, 1) := dk_4 (dk_at dksX6_write_13 15 rfl rfl)
theorem dX6_write_377 : decode cX6_write 377 = .ok (.goto 4, 3) := dk_167 0 4 (dk_at dksX6_write_13 16 rfl rfl)
theorem dX6_write_380 : decode cX6_write 380 = .ok (.iconst 0, 1) := dk_3 (dk_at dksX6_write_13 19 rfl rfl)
theorem dX6_write_381 : decode cX6_write 381 = .ok (.ireturn, 1) := dk_172 (dk_at dksX6_write_13 20 rfl rfl)
theorem dX6_write_382 : decode cX6_write 382 = .ok (.iconst 0, 1) := dk_3 (dk_at dksX6_write_13 21 rfl rfl)
theorem dX6_write_383 : decode cX6_write 383 = .ok (.ireturn, 1) := dk_172 (dk_at dksX6_write_13 22 rfl rfl)
theorem dX6_write_384 : decode cX6_write 384 = .ok (.iload 4, 2) := dk_21 4 (dk_at dksX6_write_14 0 rfl rfl)
theorem dX6_write_386 : decode cX6_write 386 = .ok (.bipush 8, 2) := dk_16 8 (dk_at dksX6_write_14 2 rfl rfl)
theorem dX6_write_388 : decode cX6_write 388 = .ok (.if_icmp .ne 27, 3) := dk_160 0 27 (dk_at dksX6_write_14 4 rfl rfl)
theorem dX6_write_391 : decode cX6_write 391 = .ok (.aload_n 0, 1) := dk_42 (dk_at dksX6_write_14 7 rfl rfl)
theorem dX6_write_392 : decode cX6_write 392 = .ok (.getfield 83, 3) := dk_180 0 83 (dk_at dksX6_write_14 8 rfl rfl)
theorem dX6_write_395 : decode cX6_write 395 = .ok (.iload_n 1, 1) := dk_27 (dk_at dksX6_write_14 11 rfl rfl)
theorem dX6_write_396 : decode cX6_write 396 = .ok (.invokevirtual 196, 3) := dk_182 0 196 (dk_at dksX6_write_14 12 rfl rfl)
theorem dX6_write_399 : decode cX6_write 399 = .ok (.iconst (-1), 1) := dk_2 (dk_at dksX6_write_14 15 rfl rfl)
theorem dX6_write_400 : decode cX6_write 400 = .ok (.if_icmp .ne 15, 3) := dk_160 0 15 (dk_at dksX6_write_14 16 rfl rfl)
theorem dX6_write_403 : decode cX6_write 403 = .ok (.aload_n 0, 1) := dk_42 (dk_at dksX6_write_14 19 rfl rfl)
theorem dX6_write_404 : decode cX6_write 404 = .ok (.iload_n 2, 1) := dk_28 (dk_at dksX6_write_14 20 rfl rfl)
theorem dX6_write_405 : decode cX6_write 405 = .ok (.invokevirtual 390, 3) := dk_182 1 134 (dk_at dksX6_write_14 21 rfl rfl)
theorem dX6_write_408 : decode cX6_write 408 = .ok (.ifCond .eq 7, 3) := dk_153 0 7 (dk_at dksX6_write_15 0 rfl rfl)
theorem dX6_write_411 : decode cX6_write 411 = .ok (.iconst 1, 1) := dk_4 (dk_at dksX6_write_15 3 rfl rfl)
theorem dX6_write_412 : decode cX6_write 412 = .ok (.goto 4, 3) := dk_167 0 4 (dk_at dksX6_write_15 4 rfl rfl)
theorem dX6_write_415 : decode cX6_write 415 = .ok (.iconst 0, 1) := dk_3 (dk_at dksX6_write_15 7 rfl rfl)
theorem dX6_write_416 : decode cX6_write 416 = .ok (.ireturn, 1) := dk_172 (dk_at dksX6_write_15 8 rfl rfl)
abbrev cX6_digits : ByteArray := prog_9_method_57_code
def yX6_digits : MethodName := ⟨RX6, "digits", "(IZZ)Z"⟩
def dkwX6_digits_9 : List UInt8 := [100, 21, 6, 182, 1, 137, 4, 172]
abbrev dktX6_digits_9 : List UInt8 := dkwX6_digits_9 ++ []
def dkwX6_digits_8 : List UInt8 := [153, 0, 30, 42, 180, 0, 48, 42, 180, 0, 48, 182, 0, 214, 4, 100, 21, 4, 16, 7, 96, 16, 8, 108]
abbrev dktX6_digits_8 : List UInt8 := dkwX6_digits_8 ++ dktX6_digits_9
def dkwX6_digits_7 : List UInt8 := [54, 6, 21, 6, 158, 0, 19, 42, 180, 0, 48, 21, 5, 21, 6, 120, 17, 0, 255, 126, 182, 1, 120, 29]
abbrev dktX6_digits_7 : List UInt8 := dkwX6_digits_7 ++ dktX6_digits_8
def dkwX6_digits_6 : List UInt8 := [126, 182, 1, 120, 3, 54, 5, 132, 6, 1, 167, 255, 134, 16, 8, 21, 4, 16, 8, 112, 100, 16, 8, 112]
abbrev dktX6_digits_6 : List UInt8 := dkwX6_digits_6 ++ dktX6_digits_7
def dkwX6_digits_5 : List UInt8 := [167, 0, 4, 4, 96, 54, 4, 21, 4, 16, 8, 112, 154, 0, 19, 42, 180, 0, 48, 21, 5, 17, 0, 255]
abbrev dktX6_digits_5 : List UInt8 := dkwX6_digits_5 ++ dktX6_digits_6
def dkwX6_digits_4 : List UInt8 := [7, 120, 21, 8, 128, 167, 0, 10, 21, 5, 4, 120, 21, 8, 128, 54, 5, 21, 4, 28, 153, 0, 7, 7]
abbrev dktX6_digits_4 : List UInt8 := dkwX6_digits_4 ++ dktX6_digits_5
def dkwX6_digits_3 : List UInt8 := [164, 0, 11, 21, 7, 16, 55, 100, 167, 0, 8, 21, 7, 16, 48, 100, 54, 8, 28, 153, 0, 13, 21, 5]
abbrev dktX6_digits_3 : List UInt8 := dkwX6_digits_3 ++ dktX6_digits_4
def dkwX6_digits_2 : List UInt8 := [180, 0, 103, 182, 0, 203, 21, 6, 182, 0, 234, 54, 7, 21, 7, 16, 32, 164, 0, 86, 21, 7, 16, 57]
abbrev dktX6_digits_2 : List UInt8 := dkwX6_digits_2 ++ dktX6_digits_3
def dkwX6_digits_1 : List UInt8 := [182, 0, 107, 4, 96, 54, 6, 21, 6, 42, 180, 0, 103, 27, 182, 0, 207, 5, 100, 162, 0, 113, 42]
abbrev dktX6_digits_1 : List UInt8 := dkwX6_digits_1 ++ dktX6_digits_2
def dkwX6_digits_0 : List UInt8 := [3, 54, 4, 3, 54, 5, 29, 153, 0, 11, 42, 180, 0, 48, 3, 182, 1, 120, 42, 180, 0, 103, 27]
abbrev dktX6_digits_0 : List UInt8 := dkwX6_digits_0 ++ dktX6_digits_1
theorem dksX6_digits_0 : cX6_digits.data.toList.drop 0 = dktX6_digits_0 := by decide +kernel
theorem dksX6_digits_1 : cX6_digits.data.toList.drop 23 = dktX6_digits_1 := dk_seg dksX6_digits_0 23 rfl rfl
theorem dksX6_digits_2 : cX6_digits.data.toList.drop 46 = dktX6_digits_2 := dk_seg dksX6_digits_1 23 rfl rfl
theorem dksX6_digits_3 : cX6_digits.data.toList.drop 70 = dktX6_digits_3 := dk_seg dksX6_digits_2 24 rfl rfl
theorem dksX6_digits_4 : cX6_digits.data.toList.drop 94 = dktX6_digits_4 := dk_seg dksX6_digits_3 24 rfl rfl
theorem dksX6_digits_5 : cX6_digits.data.toList.drop 118 = dktX6_digits_5 := dk_seg dksX6_digits_4 24 rfl rfl
theorem dksX6_digits_6 : cX6_digits.data.toList.drop 142 = dktX6_digits_6 := dk_seg dksX6_digits_5 24 rfl rfl
theorem dksX6_digits_7 : cX6_digits.data.toList.drop 166 = dktX6_digits_7 := dk_seg dksX6_digits_6 24 rfl rfl
theorem dksX6_digits_8 : cX6_digits.data.toList.drop 190 = dktX6_digits_8 := dk_seg dksX6_digits_7 24 rfl rfl
theorem dksX6_digits_9 : cX6_digits.data.toList.drop 214 = dktX6_digits_9 := dk_seg dksX6_digits_8 24 rfl rfl
theorem dX6_digits_0 : decode cX6_digits 0 = .ok (.iconst 0, 1) := dk_3 (dk_at dksX6_digits_0 0 rfl rfl)
theorem dX6_digits_1 : decode cX6_digits 1 = .ok (.istore 4, 2) := dk_54 4 (dk_at dksX6_digits_0 1 rfl rfl)
theorem dX6_digits_3 : decode cX6_digits 3 = .ok (.iconst 0, 1) := dk_3 (dk_at dksX6_digits_0 3 rfl rfl)
theorem dX6_digits_4 : decode cX6_digits 4 = .ok (.istore 5, 2) := dk_54 5 (dk_at dksX6_digits_0 4 rfl rfl)
theorem dX6_digits_6 : decode cX6_digits 6 = .ok (.iload_n 3, 1) := dk_29 (dk_at dksX6_digits_0 6 rfl rfl)
theorem dX6_digits_7 : decode cX6_digits 7 = .ok (.ifCond .eq 11, 3) := dk_153 0 11 (dk_at dksX6_digits_0 7 rfl rfl)
theorem dX6_digits_10 : decode cX6_digits 10 = .ok (.aload_n 0, 1) := dk_42 (dk_at dksX6_digits_0 10 rfl rfl)
theorem dX6_digits_11 : decode cX6_digits 11 = .ok (.getfield 48, 3) := dk_180 0 48 (dk_at dksX6_digits_0 11 rfl rfl)
theorem dX6_digits_14 : decode cX6_digits 14 = .ok (.iconst 0, 1) := dk_3 (dk_at dksX6_digits_0 14 rfl rfl)
theorem dX6_digits_15 : decode cX6_digits 15 = .ok (.invokevirtual 376, 3) := dk_182 1 120 (dk_at dksX6_digits_0 15 rfl rfl)
theorem dX6_digits_18 : decode cX6_digits 18 = .ok (.aload_n 0, 1) := dk_42 (dk_at dksX6_digits_0 18 rfl rfl)
theorem dX6_digits_19 : decode cX6_digits 19 = .ok (.getfield 103, 3) := dk_180 0 103 (dk_at dksX6_digits_0 19 rfl rfl)
theorem dX6_digits_22 : decode cX6_digits 22 = .ok (.iload_n 1, 1) := dk_27 (dk_at dksX6_digits_0 22 rfl rfl)
theorem dX6_digits_23 : decode cX6_digits 23 = .ok (.invokevirtual 107, 3) := dk_182 0 107 (dk_at dksX6_digits_1 0 rfl rfl)
theorem dX6_digits_26 : decode cX6_digits 26 = .ok (.iconst 1, 1) := dk_4 (dk_at dksX6_digits_1 3 rfl rfl)
theorem dX6_digits_27 : decode cX6_digits 27 = .ok (.iadd, 1) := dk_96 (dk_at dksX6_digits_1 4 rfl rfl)
theorem dX6_digits_28 : decode cX6_digits 28 = .ok (.istore 6, 2) := dk_54 6 (dk_at dksX6_digits_1 5 rfl rfl)
theorem dX6_digits_30 : decode cX6_digits 30 = .ok (.iload 6, 2) := dk_21 6 (dk_at dksX6_digits_1 7 rfl rfl)
theorem dX6_digits_32 : decode cX6_digits 32 = .ok (.aload_n 0, 1) := dk_42 (dk_at dksX6_digits_1 9 rfl rfl)
theorem dX6_digits_33 : decode cX6_digits 33 = .ok (.getfield 103, 3) := dk_180 0 103 (dk_at dksX6_digits_1 10 rfl rfl)
theorem dX6_digits_36 : decode cX6_digits 36 = .ok (.iload_n 1, 1) := dk_27 (dk_at dksX6_digits_1 13 rfl rfl)
theorem dX6_digits_37 : decode cX6_digits 37 = .ok (.invokevirtual 207, 3) := dk_182 0 207 (dk_at dksX6_digits_1 14 rfl rfl)
theorem dX6_digits_40 : decode cX6_digits 40 = .ok (.iconst 2, 1) := dk_5 (dk_at dksX6_digits_1 17 rfl rfl)
theorem dX6_digits_41 : decode cX6_digits 41 = .ok (.isub, 1) := dk_100 (dk_at dksX6_digits_1 18 rfl rfl)
theorem dX6_digits_42 : decode cX6_digits 42 = .ok (.if_icmp .ge 113, 3) := dk_162 0 113 (dk_at dksX6_digits_1 19 rfl rfl)
theorem dX6_digits_45 : decode cX6_digits 45 = .ok (.aload_n 0, 1) := dk_42 (dk_at dksX6_digits_1 22 rfl rfl)
theorem dX6_digits_46 : decode cX6_digits 46 = .ok (.getfield 103, 3) := dk_180 0 103 (dk_at dksX6_digits_2 0 rfl rfl)
theorem dX6_digits_49 : decode cX6_digits 49 = .ok (.invokevirtual 203, 3) := dk_182 0 203 (dk_at dksX6_digits_2 3 rfl rfl)
theorem dX6_digits_52 : decode cX6_digits 52 = .ok (.iload 6, 2) := dk_21 6 (dk_at dksX6_digits_2 6 rfl rfl)
theorem dX6_digits_54 : decode cX6_digits 54 = .ok (.invokevirtual 234, 3) := dk_182 0 234 (dk_at dksX6_digits_2 8 rfl rfl)
theorem dX6_digits_57 : decode cX6_digits 57 = .ok (.istore 7, 2) := dk_54 7 (dk_at dksX6_digits_2 11 rfl rfl)
theorem dX6_digits_59 : decode cX6_digits 59 = .ok (.iload 7, 2) := dk_21 7 (dk_at dksX6_digits_2 13 rfl rfl)
theorem dX6_digits_61 : decode cX6_digits 61 = .ok (.bipush 32, 2) := dk_16 32 (dk_at dksX6_digits_2 15 rfl rfl)
theorem dX6_digits_63 : decode cX6_digits 63 = .ok (.if_icmp .le 86, 3) := dk_164 0 86 (dk_at dksX6_digits_2 17 rfl rfl)
theorem dX6_digits_66 : decode cX6_digits 66 = .ok (.iload 7, 2) := dk_21 7 (dk_at dksX6_digits_2 20 rfl rfl)
theorem dX6_digits_68 : decode cX6_digits 68 = .ok (.bipush 57, 2) := dk_16 57 (dk_at dksX6_digits_2 22 rfl rfl)
theorem dX6_digits_70 : decode cX6_digits 70 = .ok (.if_icmp .le 11, 3) := dk_164 0 11 (dk_at dksX6_digits_3 0 rfl rfl)
theorem dX6_digits_73 : decode cX6_digits 73 = .ok (.iload 7, 2) := dk_21 7 (dk_at dksX6_digits_3 3 rfl rfl)
theorem dX6_digits_75 : decode cX6_digits 75 = .ok (.bipush 55, 2) := dk_16 55 (dk_at dksX6_digits_3 5 rfl rfl)
theorem dX6_digits_77 : decode cX6_digits 77 = .ok (.isub, 1) := dk_100 (dk_at dksX6_digits_3 7 rfl rfl)
theorem dX6_digits_78 : decode cX6_digits 78 = .ok (.goto 8, 3) := dk_167 0 8 (dk_at dksX6_digits_3 8 rfl rfl)
theorem dX6_digits_81 : decode cX6_digits 81 = .ok (.iload 7, 2) := dk_21 7 (dk_at dksX6_digits_3 11 rfl rfl)
theorem dX6_digits_83 : decode cX6_digits 83 = .ok (.bipush 48, 2) := dk_16 48 (dk_at dksX6_digits_3 13 rfl rfl)
theorem dX6_digits_85 : decode cX6_digits 85 = .ok (.isub, 1) := dk_100 (dk_at dksX6_digits_3 15 rfl rfl)
theorem dX6_digits_86 : decode cX6_digits 86 = .ok (.istore 8, 2) := dk_54 8 (dk_at dksX6_digits_3 16 rfl rfl)
theorem dX6_digits_88 : decode cX6_digits 88 = .ok (.iload_n 2, 1) := dk_28 (dk_at dksX6_digits_3 18 rfl rfl)
theorem dX6_digits_89 : decode cX6_digits 89 = .ok (.ifCond .eq 13, 3) := dk_153 0 13 (dk_at dksX6_digits_3 19 rfl rfl)
theorem dX6_digits_92 : decode cX6_digits 92 = .ok (.iload 5, 2) := dk_21 5 (dk_at dksX6_digits_3 22 rfl rfl)
theorem dX6_digits_94 : decode cX6_digits 94 = .ok (.iconst 4, 1) := dk_7 (dk_at dksX6_digits_4 0 rfl rfl)
theorem dX6_digits_95 : decode cX6_digits 95 = .ok (.ishl, 1) := dk_120 (dk_at dksX6_digits_4 1 rfl rfl)
theorem dX6_digits_96 : decode cX6_digits 96 = .ok (.iload 8, 2) := dk_21 8 (dk_at dksX6_digits_4 2 rfl rfl)
theorem dX6_digits_98 : decode cX6_digits 98 = .ok (.ior, 1) := dk_128 (dk_at dksX6_digits_4 4 rfl rfl)
theorem dX6_digits_99 : decode cX6_digits 99 = .ok (.goto 10, 3) := dk_167 0 10 (dk_at dksX6_digits_4 5 rfl rfl)
theorem dX6_digits_102 : decode cX6_digits 102 = .ok (.iload 5, 2) := dk_21 5 (dk_at dksX6_digits_4 8 rfl rfl)
theorem dX6_digits_104 : decode cX6_digits 104 = .ok (.iconst 1, 1) := dk_4 (dk_at dksX6_digits_4 10 rfl rfl)
theorem dX6_digits_105 : decode cX6_digits 105 = .ok (.ishl, 1) := dk_120 (dk_at dksX6_digits_4 11 rfl rfl)
theorem dX6_digits_106 : decode cX6_digits 106 = .ok (.iload 8, 2) := dk_21 8 (dk_at dksX6_digits_4 12 rfl rfl)
theorem dX6_digits_108 : decode cX6_digits 108 = .ok (.ior, 1) := dk_128 (dk_at dksX6_digits_4 14 rfl rfl)
theorem dX6_digits_109 : decode cX6_digits 109 = .ok (.istore 5, 2) := dk_54 5 (dk_at dksX6_digits_4 15 rfl rfl)
theorem dX6_digits_111 : decode cX6_digits 111 = .ok (.iload 4, 2) := dk_21 4 (dk_at dksX6_digits_4 17 rfl rfl)
theorem dX6_digits_113 : decode cX6_digits 113 = .ok (.iload_n 2, 1) := dk_28 (dk_at dksX6_digits_4 19 rfl rfl)
theorem dX6_digits_114 : decode cX6_digits 114 = .ok (.ifCond .eq 7, 3) := dk_153 0 7 (dk_at dksX6_digits_4 20 rfl rfl)
theorem dX6_digits_117 : decode cX6_digits 117 = .ok (.iconst 4, 1) := dk_7 (dk_at dksX6_digits_4 23 rfl rfl)
theorem dX6_digits_118 : decode cX6_digits 118 = .ok (.goto 4, 3) := dk_167 0 4 (dk_at dksX6_digits_5 0 rfl rfl)
theorem dX6_digits_121 : decode cX6_digits 121 = .ok (.iconst 1, 1) := dk_4 (dk_at dksX6_digits_5 3 rfl rfl)
theorem dX6_digits_122 : decode cX6_digits 122 = .ok (.iadd, 1) := dk_96 (dk_at dksX6_digits_5 4 rfl rfl)
theorem dX6_digits_123 : decode cX6_digits 123 = .ok (.istore 4, 2) := dk_54 4 (dk_at dksX6_digits_5 5 rfl rfl)
theorem dX6_digits_125 : decode cX6_digits 125 = .ok (.iload 4, 2) := dk_21 4 (dk_at dksX6_digits_5 7 rfl rfl)
theorem dX6_digits_127 : decode cX6_digits 127 = .ok (.bipush 8, 2) := dk_16 8 (dk_at dksX6_digits_5 9 rfl rfl)
theorem dX6_digits_129 : decode cX6_digits 129 = .ok (.irem, 1) := dk_112 (dk_at dksX6_digits_5 11 rfl rfl)
theorem dX6_digits_130 : decode cX6_digits 130 = .ok (.ifCond .ne 19, 3) := dk_154 0 19 (dk_at dksX6_digits_5 12 rfl rfl)
theorem dX6_digits_133 : decode cX6_digits 133 = .ok (.aload_n 0, 1) := dk_42 (dk_at dksX6_digits_5 15 rfl rfl)
theorem dX6_digits_134 : decode cX6_digits 134 = .ok (.getfield 48, 3) := dk_180 0 48 (dk_at dksX6_digits_5 16 rfl rfl)
theorem dX6_digits_137 : decode cX6_digits 137 = .ok (.iload 5, 2) := dk_21 5 (dk_at dksX6_digits_5 19 rfl rfl)
theorem dX6_digits_139 : decode cX6_digits 139 = .ok (.sipush 255, 3) := dk_17 0 255 (dk_at dksX6_digits_5 21 rfl rfl)
theorem dX6_digits_142 : decode cX6_digits 142 = .ok (.iand, 1) := dk_126 (dk_at dksX6_digits_6 0 rfl rfl)
theorem dX6_digits_143 : decode cX6_digits 143 = .ok (.invokevirtual 376, 3) := dk_182 1 120 (dk_at dksX6_digits_6 1 rfl rfl)
theorem dX6_digits_146 : decode cX6_digits 146 = .ok (.iconst 0, 1) := dk_3 (dk_at dksX6_digits_6 4 rfl rfl)
theorem dX6_digits_147 : decode cX6_digits 147 = .ok (.istore 5, 2) := dk_54 5 (dk_at dksX6_digits_6 5 rfl rfl)
theorem dX6_digits_149 : decode cX6_digits 149 = .ok (.iinc 6 1, 3) := dk_132 6 1 (dk_at dksX6_digits_6 7 rfl rfl)
theorem dX6_digits_152 : decode cX6_digits 152 = .ok (.goto (-122), 3) := dk_167 255 134 (dk_at dksX6_digits_6 10 rfl rfl)
theorem dX6_digits_155 : decode cX6_digits 155 = .ok (.bipush 8, 2) := dk_16 8 (dk_at dksX6_digits_6 13 rfl rfl)
theorem dX6_digits_157 : decode cX6_digits 157 = .ok (.iload 4, 2) := dk_21 4 (dk_at dksX6_digits_6 15 rfl rfl)
theorem dX6_digits_159 : decode cX6_digits 159 = .ok (.bipush 8, 2) := dk_16 8 (dk_at dksX6_digits_6 17 rfl rfl)
theorem dX6_digits_161 : decode cX6_digits 161 = .ok (.irem, 1) := dk_112 (dk_at dksX6_digits_6 19 rfl rfl)
theorem dX6_digits_162 : decode cX6_digits 162 = .ok (.isub, 1) := dk_100 (dk_at dksX6_digits_6 20 rfl rfl)
theorem dX6_digits_163 : decode cX6_digits 163 = .ok (.bipush 8, 2) := dk_16 8 (dk_at dksX6_digits_6 21 rfl rfl)
theorem dX6_digits_165 : decode cX6_digits 165 = .ok (.irem, 1) := dk_112 (dk_at dksX6_digits_6 23 rfl rfl)
theorem dX6_digits_166 : decode cX6_digits 166 = .ok (.istore 6, 2) := dk_54 6 (dk_at dksX6_digits_7 0 rfl rfl)
theorem dX6_digits_168 : decode cX6_digits 168 = .ok (.iload 6, 2) := dk_21 6 (dk_at dksX6_digits_7 2 rfl rfl)
theorem dX6_digits_170 : decode cX6_digits 170 = .ok (.ifCond .le 19, 3) := dk_158 0 19 (dk_at dksX6_digits_7 4 rfl rfl)
theorem dX6_digits_173 : decode cX6_digits 173 = .ok (.aload_n 0, 1) := dk_42 (dk_at dksX6_digits_7 7 rfl rfl)
theorem dX6_digits_174 : decode cX6_digits 174 = .ok (.getfield 48, 3) := dk_180 0 48 (dk_at dksX6_digits_7 8 rfl rfl)
theorem dX6_digits_177 : decode cX6_digits 177 = .ok (.iload 5, 2) := dk_21 5 (dk_at dksX6_digits_7 11 rfl rfl)
theorem dX6_digits_179 : decode cX6_digits 179 = .ok (.iload 6, 2) := dk_21 6 (dk_at dksX6_digits_7 13 rfl rfl)
theorem dX6_digits_181 : decode cX6_digits 181 = .ok (.ishl, 1) := dk_120 (dk_at dksX6_digits_7 15 rfl rfl)
theorem dX6_digits_182 : decode cX6_digits 182 = .ok (.sipush 255, 3) := dk_17 0 255 (dk_at dksX6_digits_7 16 rfl rfl)
theorem dX6_digits_185 : decode cX6_digits 185 = .ok (.iand, 1) := dk_126 (dk_at dksX6_digits_7 19 rfl rfl)
theorem dX6_digits_186 : decode cX6_digits 186 = .ok (.invokevirtual 376, 3) := dk_182 1 120 (dk_at dksX6_digits_7 20 rfl rfl)
theorem dX6_digits_189 : decode cX6_digits 189 = .ok (.iload_n 3, 1) := dk_29 (dk_at dksX6_digits_7 23 rfl rfl)
theorem dX6_digits_190 : decode cX6_digits 190 = .ok (.ifCond .eq 30, 3) := dk_153 0 30 (dk_at dksX6_digits_8 0 rfl rfl)
theorem dX6_digits_193 : decode cX6_digits 193 = .ok (.aload_n 0, 1) := dk_42 (dk_at dksX6_digits_8 3 rfl rfl)
theorem dX6_digits_194 : decode cX6_digits 194 = .ok (.getfield 48, 3) := dk_180 0 48 (dk_at dksX6_digits_8 4 rfl rfl)
theorem dX6_digits_197 : decode cX6_digits 197 = .ok (.aload_n 0, 1) := dk_42 (dk_at dksX6_digits_8 7 rfl rfl)
theorem dX6_digits_198 : decode cX6_digits 198 = .ok (.getfield 48, 3) := dk_180 0 48 (dk_at dksX6_digits_8 8 rfl rfl)
theorem dX6_digits_201 : decode cX6_digits 201 = .ok (.invokevirtual 214, 3) := dk_182 0 214 (dk_at dksX6_digits_8 11 rfl rfl)
theorem dX6_digits_204 : decode cX6_digits 204 = .ok (.iconst 1, 1) := dk_4 (dk_at dksX6_digits_8 14 rfl rfl)
theorem dX6_digits_205 : decode cX6_digits 205 = .ok (.isub, 1) := dk_100 (dk_at dksX6_digits_8 15 rfl rfl)
theorem dX6_digits_206 : decode cX6_digits 206 = .ok (.iload 4, 2) := dk_21 4 (dk_at dksX6_digits_8 16 rfl rfl)
theorem dX6_digits_208 : decode cX6_digits 208 = .ok (.bipush 7, 2) := dk_16 7 (dk_at dksX6_digits_8 18 rfl rfl)
theorem dX6_digits_210 : decode cX6_digits 210 = .ok (.iadd, 1) := dk_96 (dk_at dksX6_digits_8 20 rfl rfl)
theorem dX6_digits_211 : decode cX6_digits 211 = .ok (.bipush 8, 2) := dk_16 8 (dk_at dksX6_digits_8 21 rfl rfl)
theorem dX6_digits_213 : decode cX6_digits 213 = .ok (.idiv, 1) := dk_108 (dk_at dksX6_digits_8 23 rfl rfl)
theorem dX6_digits_214 : decode cX6_digits 214 = .ok (.isub, 1) := dk_100 (dk_at dksX6_digits_9 0 rfl rfl)
theorem dX6_digits_215 : decode cX6_digits 215 = .ok (.iload 6, 2) := dk_21 6 (dk_at dksX6_digits_9 1 rfl rfl)
theorem dX6_digits_217 : decode cX6_digits 217 = .ok (.invokevirtual 393, 3) := dk_182 1 137 (dk_at dksX6_digits_9 3 rfl rfl)
theorem dX6_digits_220 : decode cX6_digits 220 = .ok (.iconst 1, 1) := dk_4 (dk_at dksX6_digits_9 6 rfl rfl)
theorem dX6_digits_221 : decode cX6_digits 221 = .ok (.ireturn, 1) := dk_172 (dk_at dksX6_digits_9 7 rfl rfl)
abbrev cX6_bitList : ByteArray := prog_9_method_58_code
def yX6_bitList : MethodName := ⟨RX6, "bitList", "(II)Z"⟩
def dkwX6_bitList_9 : List UInt8 := [16, 8, 112, 122, 128, 182, 1, 137, 42, 180, 0, 83, 21, 5, 182, 0, 189, 54, 5, 167, 255, 175, 4, 172]
abbrev dktX6_bitList_9 : List UInt8 := dkwX6_bitList_9 ++ []
def dkwX6_bitList_8 : List UInt8 := [96, 42, 180, 0, 48, 21, 4, 4, 96, 21, 6, 16, 8, 108, 96, 182, 0, 234, 17, 0, 128, 21, 6]
abbrev dktX6_bitList_8 : List UInt8 := dkwX6_bitList_8 ++ dktX6_bitList_9
def dkwX6_bitList_7 : List UInt8 := [182, 0, 178, 182, 1, 3, 182, 0, 236, 54, 6, 42, 180, 0, 48, 21, 4, 4, 96, 21, 6, 16, 8, 108]
abbrev dktX6_bitList_7 : List UInt8 := dkwX6_bitList_7 ++ dktX6_bitList_8
def dkwX6_bitList_6 : List UInt8 := [180, 0, 83, 27, 182, 0, 196, 54, 5, 21, 5, 2, 159, 0, 81, 42, 42, 28, 42, 180, 0, 83, 21, 5]
abbrev dktX6_bitList_6 : List UInt8 := dkwX6_bitList_6 ++ dktX6_bitList_7
def dkwX6_bitList_5 : List UInt8 := [54, 5, 21, 5, 29, 162, 0, 17, 42, 180, 0, 48, 3, 182, 1, 120, 132, 5, 8, 167, 255, 239, 42]
abbrev dktX6_bitList_5 : List UInt8 := dkwX6_bitList_5 ++ dktX6_bitList_6
def dkwX6_bitList_4 : List UInt8 := [182, 0, 214, 54, 4, 42, 180, 0, 48, 16, 8, 29, 16, 8, 112, 100, 16, 8, 112, 182, 1, 120, 3]
abbrev dktX6_bitList_4 : List UInt8 := dkwX6_bitList_4 ++ dktX6_bitList_5
def dkwX6_bitList_3 : List UInt8 := [184, 0, 113, 62, 42, 180, 0, 83, 21, 4, 182, 0, 189, 54, 4, 167, 255, 184, 42, 180, 0, 48]
abbrev dktX6_bitList_3 : List UInt8 := dkwX6_bitList_3 ++ dktX6_bitList_4
def dkwX6_bitList_2 : List UInt8 := [167, 0, 4, 2, 54, 5, 21, 5, 2, 160, 0, 5, 3, 172, 29, 42, 21, 5, 182, 0, 236, 4, 96]
abbrev dktX6_bitList_2 : List UInt8 := dkwX6_bitList_2 ++ dktX6_bitList_3
def dkwX6_bitList_1 : List UInt8 := [8, 182, 0, 223, 2, 160, 0, 20, 42, 28, 42, 180, 0, 83, 21, 4, 182, 0, 178, 182, 1, 3]
abbrev dktX6_bitList_1 : List UInt8 := dkwX6_bitList_1 ++ dktX6_bitList_2
def dkwX6_bitList_0 : List UInt8 := [3, 62, 42, 180, 0, 83, 27, 182, 0, 196, 54, 4, 21, 4, 2, 159, 0, 72, 42, 180, 0, 83, 21, 4]
abbrev dktX6_bitList_0 : List UInt8 := dkwX6_bitList_0 ++ dktX6_bitList_1
theorem dksX6_bitList_0 : cX6_bitList.data.toList.drop 0 = dktX6_bitList_0 := by decide +kernel
theorem dksX6_bitList_1 : cX6_bitList.data.toList.drop 24 = dktX6_bitList_1 := dk_seg dksX6_bitList_0 24 rfl rfl
theorem dksX6_bitList_2 : cX6_bitList.data.toList.drop 46 = dktX6_bitList_2 := dk_seg dksX6_bitList_1 22 rfl rfl
theorem dksX6_bitList_3 : cX6_bitList.data.toList.drop 69 = dktX6_bitList_3 := dk_seg dksX6_bitList_2 23 rfl rfl
theorem dksX6_bitList_4 : cX6_bitList.data.toList.drop 91 = dktX6_bitList_4 := dk_seg dksX6_bitList_3 22 rfl rfl
theorem dksX6_bitList_5 : cX6_bitList.data.toList.drop 114 = dktX6_bitList_5 := dk_seg dksX6_bitList_4 23 rfl rfl
theorem dksX6_bitList_6 : cX6_bitList.data.toList.drop 137 = dktX6_bitList_6 := dk_seg dksX6_bitList_5 23 rfl rfl
theorem dksX6_bitList_7 : cX6_bitList.data.toList.drop 161 = dktX6_bitList_7 := dk_seg dksX6_bitList_6 24 rfl rfl
theorem dksX6_bitList_8 : cX6_bitList.data.toList.drop 185 = dktX6_bitList_8 := dk_seg dksX6_bitList_7 24 rfl rfl
theorem dksX6_bitList_9 : cX6_bitList.data.toList.drop 208 = dktX6_bitList_9 := dk_seg dksX6_bitList_8 23 rfl rfl
theorem dX6_bitList_0 : decode cX6_bitList 0 = .ok (.iconst 0, 1) := dk_3 (dk_at dksX6_bitList_0 0 rfl rfl)
theorem dX6_bitList_1 : decode cX6_bitList 1 = .ok (.istore_n 3, 1) := dk_62 (dk_at dksX6_bitList_0 1 rfl rfl)
theorem dX6_bitList_2 : decode cX6_bitList 2 = .ok (.aload_n 0, 1) := dk_42 (dk_at dksX6_bitList_0 2 rfl rfl)
theorem dX6_bitList_3 : decode cX6_bitList 3 = .ok (.getfield 83, 3) := dk_180 0 83 (dk_at dksX6_bitList_0 3 rfl rfl)
theorem dX6_bitList_6 : decode cX6_bitList 6 = .ok (.iload_n 1, 1) := dk_27 (dk_at dksX6_bitList_0 6 rfl rfl)
theorem dX6_bitList_7 : decode cX6_bitList 7 = .ok (.invokevirtual 196, 3) := dk_182 0 196 (dk_at dksX6_bitList_0 7 rfl rfl)
theorem dX6_bitList_10 : decode cX6_bitList 10 = .ok (.istore 4, 2) := dk_54 4 (dk_at dksX6_bitList_0 10 rfl rfl)
theorem dX6_bitList_12 : decode cX6_bitList 12 = .ok (.iload 4, 2) := dk_21 4 (dk_at dksX6_bitList_0 12 rfl rfl)
theorem dX6_bitList_14 : decode cX6_bitList 14 = .ok (.iconst (-1), 1) := dk_2 (dk_at dksX6_bitList_0 14 rfl rfl)
theorem dX6_bitList_15 : decode cX6_bitList 15 = .ok (.if_icmp .eq 72, 3) := dk_159 0 72 (dk_at dksX6_bitList_0 15 rfl rfl)
theorem dX6_bitList_18 : decode cX6_bitList 18 = .ok (.aload_n 0, 1) := dk_42 (dk_at dksX6_bitList_0 18 rfl rfl)
theorem dX6_bitList_19 : decode cX6_bitList 19 = .ok (.getfield 83, 3) := dk_180 0 83 (dk_at dksX6_bitList_0 19 rfl rfl)
theorem dX6_bitList_22 : decode cX6_bitList 22 = .ok (.iload 4, 2) := dk_21 4 (dk_at dksX6_bitList_0 22 rfl rfl)
theorem dX6_bitList_24 : decode cX6_bitList 24 = .ok (.iconst 5, 1) := dk_8 (dk_at dksX6_bitList_1 0 rfl rfl)
theorem dX6_bitList_25 : decode cX6_bitList 25 = .ok (.invokevirtual 223, 3) := dk_182 0 223 (dk_at dksX6_bitList_1 1 rfl rfl)
theorem dX6_bitList_28 : decode cX6_bitList 28 = .ok (.iconst (-1), 1) := dk_2 (dk_at dksX6_bitList_1 4 rfl rfl)
theorem dX6_bitList_29 : decode cX6_bitList 29 = .ok (.if_icmp .ne 20, 3) := dk_160 0 20 (dk_at dksX6_bitList_1 5 rfl rfl)
theorem dX6_bitList_32 : decode cX6_bitList 32 = .ok (.aload_n 0, 1) := dk_42 (dk_at dksX6_bitList_1 8 rfl rfl)
theorem dX6_bitList_33 : decode cX6_bitList 33 = .ok (.iload_n 2, 1) := dk_28 (dk_at dksX6_bitList_1 9 rfl rfl)
theorem dX6_bitList_34 : decode cX6_bitList 34 = .ok (.aload_n 0, 1) := dk_42 (dk_at dksX6_bitList_1 10 rfl rfl)
theorem dX6_bitList_35 : decode cX6_bitList 35 = .ok (.getfield 83, 3) := dk_180 0 83 (dk_at dksX6_bitList_1 11 rfl rfl)
theorem dX6_bitList_38 : decode cX6_bitList 38 = .ok (.iload 4, 2) := dk_21 4 (dk_at dksX6_bitList_1 14 rfl rfl)
theorem dX6_bitList_40 : decode cX6_bitList 40 = .ok (.invokevirtual 178, 3) := dk_182 0 178 (dk_at dksX6_bitList_1 16 rfl rfl)
theorem dX6_bitList_43 : decode cX6_bitList 43 = .ok (.invokevirtual 259, 3) := dk_182 1 3 (dk_at dksX6_bitList_1 19 rfl rfl)
theorem dX6_bitList_46 : decode cX6_bitList 46 = .ok (.goto 4, 3) := dk_167 0 4 (dk_at dksX6_bitList_2 0 rfl rfl)
theorem dX6_bitList_49 : decode cX6_bitList 49 = .ok (.iconst (-1), 1) := dk_2 (dk_at dksX6_bitList_2 3 rfl rfl)
theorem dX6_bitList_50 : decode cX6_bitList 50 = .ok (.istore 5, 2) := dk_54 5 (dk_at dksX6_bitList_2 4 rfl rfl)
theorem dX6_bitList_52 : decode cX6_bitList 52 = .ok (.iload 5, 2) := dk_21 5 (dk_at dksX6_bitList_2 6 rfl rfl)
theorem dX6_bitList_54 : decode cX6_bitList 54 = .ok (.iconst (-1), 1) := dk_2 (dk_at dksX6_bitList_2 8 rfl rfl)
theorem dX6_bitList_55 : decode cX6_bitList 55 = .ok (.if_icmp .ne 5, 3) := dk_160 0 5 (dk_at dksX6_bitList_2 9 rfl rfl)
theorem dX6_bitList_58 : decode cX6_bitList 58 = .ok (.iconst 0, 1) := dk_3 (dk_at dksX6_bitList_2 12 rfl rfl)
theorem dX6_bitList_59 : decode cX6_bitList 59 = .ok (.ireturn, 1) := dk_172 (dk_at dksX6_bitList_2 13 rfl rfl)
theorem dX6_bitList_60 : decode cX6_bitList 60 = .ok (.iload_n 3, 1) := dk_29 (dk_at dksX6_bitList_2 14 rfl rfl)
theorem dX6_bitList_61 : decode cX6_bitList 61 = .ok (.aload_n 0, 1) := dk_42 (dk_at dksX6_bitList_2 15 rfl rfl)
theorem dX6_bitList_62 : decode cX6_bitList 62 = .ok (.iload 5, 2) := dk_21 5 (dk_at dksX6_bitList_2 16 rfl rfl)
theorem dX6_bitList_64 : decode cX6_bitList 64 = .ok (.invokevirtual 236, 3) := dk_182 0 236 (dk_at dksX6_bitList_2 18 rfl rfl)
theorem dX6_bitList_67 : decode cX6_bitList 67 = .ok (.iconst 1, 1) := dk_4 (dk_at dksX6_bitList_2 21 rfl rfl)
theorem dX6_bitList_68 : decode cX6_bitList 68 = .ok (.iadd, 1) := dk_96 (dk_at dksX6_bitList_2 22 rfl rfl)
theorem dX6_bitList_69 : decode cX6_bitList 69 = .ok (.invokestatic 113, 3) := dk_184 0 113 (dk_at dksX6_bitList_3 0 rfl rfl)
theorem dX6_bitList_72 : decode cX6_bitList 72 = .ok (.istore_n 3, 1) := dk_62 (dk_at dksX6_bitList_3 3 rfl rfl)
theorem dX6_bitList_73 : decode cX6_bitList 73 = .ok (.aload_n 0, 1) := dk_42 (dk_at dksX6_bitList_3 4 rfl rfl)
theorem dX6_bitList_74 : decode cX6_bitList 74 = .ok (.getfield 83, 3) := dk_180 0 83 (dk_at dksX6_bitList_3 5 rfl rfl)
theorem dX6_bitList_77 : decode cX6_bitList 77 = .ok (.iload 4, 2) := dk_21 4 (dk_at dksX6_bitList_3 8 rfl rfl)
theorem dX6_bitList_79 : decode cX6_bitList 79 = .ok (.invokevirtual 189, 3) := dk_182 0 189 (dk_at dksX6_bitList_3 10 rfl rfl)
theorem dX6_bitList_82 : decode cX6_bitList 82 = .ok (.istore 4, 2) := dk_54 4 (dk_at dksX6_bitList_3 13 rfl rfl)
theorem dX6_bitList_84 : decode cX6_bitList 84 = .ok (.goto (-72), 3) := dk_167 255 184 (dk_at dksX6_bitList_3 15 rfl rfl)
theorem dX6_bitList_87 : decode cX6_bitList 87 = .ok (.aload_n 0, 1) := dk_42 (dk_at dksX6_bitList_3 18 rfl rfl)
theorem dX6_bitList_88 : decode cX6_bitList 88 = .ok (.getfield 48, 3) := dk_180 0 48 (dk_at dksX6_bitList_3 19 rfl rfl)
theorem dX6_bitList_91 : decode cX6_bitList 91 = .ok (.invokevirtual 214, 3) := dk_182 0 214 (dk_at dksX6_bitList_4 0 rfl rfl)
theorem dX6_bitList_94 : decode cX6_bitList 94 = .ok (.istore 4, 2) := dk_54 4 (dk_at dksX6_bitList_4 3 rfl rfl)
theorem dX6_bitList_96 : decode cX6_bitList 96 = .ok (.aload_n 0, 1) := dk_42 (dk_at dksX6_bitList_4 5 rfl rfl)
theorem dX6_bitList_97 : decode cX6_bitList 97 = .ok (.getfield 48, 3) := dk_180 0 48 (dk_at dksX6_bitList_4 6 rfl rfl)
theorem dX6_bitList_100 : decode cX6_bitList 100 = .ok (.bipush 8, 2) := dk_16 8 (dk_at dksX6_bitList_4 9 rfl rfl)
theorem dX6_bitList_102 : decode cX6_bitList 102 = .ok (.iload_n 3, 1) := dk_29 (dk_at dksX6_bitList_4 11 rfl rfl)
theorem dX6_bitList_103 : decode cX6_bitList 103 = .ok (.bipush 8, 2) := dk_16 8 (dk_at dksX6_bitList_4 12 rfl rfl)
theorem dX6_bitList_105 : decode cX6_bitList 105 = .ok (.irem, 1) := dk_112 (dk_at dksX6_bitList_4 14 rfl rfl)
theorem dX6_bitList_106 : decode cX6_bitList 106 = .ok (.isub, 1) := dk_100 (dk_at dksX6_bitList_4 15 rfl rfl)
theorem dX6_bitList_107 : decode cX6_bitList 107 = .ok (.bipush 8, 2) := dk_16 8 (dk_at dksX6_bitList_4 16 rfl rfl)
theorem dX6_bitList_109 : decode cX6_bitList 109 = .ok (.irem, 1) := dk_112 (dk_at dksX6_bitList_4 18 rfl rfl)
theorem dX6_bitList_110 : decode cX6_bitList 110 = .ok (.invokevirtual 376, 3) := dk_182 1 120 (dk_at dksX6_bitList_4 19 rfl rfl)
theorem dX6_bitList_113 : decode cX6_bitList 113 = .ok (.iconst 0, 1) := dk_3 (dk_at dksX6_bitList_4 22 rfl rfl)
theorem dX6_bitList_114 : decode cX6_bitList 114 = .ok (.istore 5, 2) := dk_54 5 (dk_at dksX6_bitList_5 0 rfl rfl)
theorem dX6_bitList_116 : decode cX6_bitList 116 = .ok (.iload 5, 2) := dk_21 5 (dk_at dksX6_bitList_5 2 rfl rfl)
theorem dX6_bitList_118 : decode cX6_bitList 118 = .ok (.iload_n 3, 1) := dk_29 (dk_at dksX6_bitList_5 4 rfl rfl)
theorem dX6_bitList_119 : decode cX6_bitList 119 = .ok (.if_icmp .ge 17, 3) := dk_162 0 17 (dk_at dksX6_bitList_5 5 rfl rfl)
theorem dX6_bitList_122 : decode cX6_bitList 122 = .ok (.aload_n 0, 1) := dk_42 (dk_at dksX6_bitList_5 8 rfl rfl)
theorem dX6_bitList_123 : decode cX6_bitList 123 = .ok (.getfield 48, 3) := dk_180 0 48 (dk_at dksX6_bitList_5 9 rfl rfl)
theorem dX6_bitList_126 : decode cX6_bitList 126 = .ok (.iconst 0, 1) := dk_3 (dk_at dksX6_bitList_5 12 rfl rfl)
theorem dX6_bitList_127 : decode cX6_bitList 127 = .ok (.invokevirtual 376, 3) := dk_182 1 120 (dk_at dksX6_bitList_5 13 rfl rfl)
theorem dX6_bitList_130 : decode cX6_bitList 130 = .ok (.iinc 5 8, 3) := dk_132 5 8 (dk_at dksX6_bitList_5 16 rfl rfl)
theorem dX6_bitList_133 : decode cX6_bitList 133 = .ok (.goto (-17), 3) := dk_167 255 239 (dk_at dksX6_bitList_5 19 rfl rfl)
theorem dX6_bitList_136 : decode cX6_bitList 136 = .ok (.aload_n 0, 1) := dk_42 (dk_at dksX6_bitList_5 22 rfl rfl)
theorem dX6_bitList_137 : decode cX6_bitList 137 = .ok (.getfield 83, 3) := dk_180 0 83 (dk_at dksX6_bitList_6 0 rfl rfl)
theorem dX6_bitList_140 : decode cX6_bitList 140 = .ok (.iload_n 1, 1) := dk_27 (dk_at dksX6_bitList_6 3 rfl rfl)
theorem dX6_bitList_141 : decode cX6_bitList 141 = .ok (.invokevirtual 196, 3) := dk_182 0 196 (dk_at dksX6_bitList_6 4 rfl rfl)
theorem dX6_bitList_144 : decode cX6_bitList 144 = .ok (.istore 5, 2) := dk_54 5 (dk_at dksX6_bitList_6 7 rfl rfl)
theorem dX6_bitList_146 : decode cX6_bitList 146 = .ok (.iload 5, 2) := dk_21 5 (dk_at dksX6_bitList_6 9 rfl rfl)
theorem dX6_bitList_148 : decode cX6_bitList 148 = .ok (.iconst (-1), 1) := dk_2 (dk_at dksX6_bitList_6 11 rfl rfl)
theorem dX6_bitList_149 : decode cX6_bitList 149 = .ok (.if_icmp .eq 81, 3) := dk_159 0 81 (dk_at dksX6_bitList_6 12 rfl rfl)
theorem dX6_bitList_152 : decode cX6_bitList 152 = .ok (.aload_n 0, 1) := dk_42 (dk_at dksX6_bitList_6 15 rfl rfl)
theorem dX6_bitList_153 : decode cX6_bitList 153 = .ok (.aload_n 0, 1) := dk_42 (dk_at dksX6_bitList_6 16 rfl rfl)
theorem dX6_bitList_154 : decode cX6_bitList 154 = .ok (.iload_n 2, 1) := dk_28 (dk_at dksX6_bitList_6 17 rfl rfl)
theorem dX6_bitList_155 : decode cX6_bitList 155 = .ok (.aload_n 0, 1) := dk_42 (dk_at dksX6_bitList_6 18 rfl rfl)
theorem dX6_bitList_156 : decode cX6_bitList 156 = .ok (.getfield 83, 3) := dk_180 0 83 (dk_at dksX6_bitList_6 19 rfl rfl)
theorem dX6_bitList_159 : decode cX6_bitList 159 = .ok (.iload 5, 2) := dk_21 5 (dk_at dksX6_bitList_6 22 rfl rfl)
theorem dX6_bitList_161 : decode cX6_bitList 161 = .ok (.invokevirtual 178, 3) := dk_182 0 178 (dk_at dksX6_bitList_7 0 rfl rfl)
theorem dX6_bitList_164 : decode cX6_bitList 164 = .ok (.invokevirtual 259, 3) := dk_182 1 3 (dk_at dksX6_bitList_7 3 rfl rfl)
theorem dX6_bitList_167 : decode cX6_bitList 167 = .ok (.invokevirtual 236, 3) := dk_182 0 236 (dk_at dksX6_bitList_7 6 rfl rfl)
theorem dX6_bitList_170 : decode cX6_bitList 170 = .ok (.istore 6, 2) := dk_54 6 (dk_at dksX6_bitList_7 9 rfl rfl)
theorem dX6_bitList_172 : decode cX6_bitList 172 = .ok (.aload_n 0, 1) := dk_42 (dk_at dksX6_bitList_7 11 rfl rfl)
theorem dX6_bitList_173 : decode cX6_bitList 173 = .ok (.getfield 48, 3) := dk_180 0 48 (dk_at dksX6_bitList_7 12 rfl rfl)
theorem dX6_bitList_176 : decode cX6_bitList 176 = .ok (.iload 4, 2) := dk_21 4 (dk_at dksX6_bitList_7 15 rfl rfl)
theorem dX6_bitList_178 : decode cX6_bitList 178 = .ok (.iconst 1, 1) := dk_4 (dk_at dksX6_bitList_7 17 rfl rfl)
theorem dX6_bitList_179 : decode cX6_bitList 179 = .ok (.iadd, 1) := dk_96 (dk_at dksX6_bitList_7 18 rfl rfl)
theorem dX6_bitList_180 : decode cX6_bitList 180 = .ok (.iload 6, 2) := dk_21 6 (dk_at dksX6_bitList_7 19 rfl rfl)
theorem dX6_bitList_182 : decode cX6_bitList 182 = .ok (.bipush 8, 2) := dk_16 8 (dk_at dksX6_bitList_7 21 rfl rfl)
theorem dX6_bitList_184 : decode cX6_bitList 184 = .ok (.idiv, 1) := dk_108 (dk_at dksX6_bitList_7 23 rfl rfl)
theorem dX6_bitList_185 : decode cX6_bitList 185 = .ok (.iadd, 1) := dk_96 (dk_at dksX6_bitList_8 0 rfl rfl)
theorem dX6_bitList_186 : decode cX6_bitList 186 = .ok (.aload_n 0, 1) := dk_42 (dk_at dksX6_bitList_8 1 rfl rfl)
theorem dX6_bitList_187 : decode cX6_bitList 187 = .ok (.getfield 48, 3) := dk_180 0 48 (dk_at dksX6_bitList_8 2 rfl rfl)
theorem dX6_bitList_190 : decode cX6_bitList 190 = .ok (.iload 4, 2) := dk_21 4 (dk_at dksX6_bitList_8 5 rfl rfl)
theorem dX6_bitList_192 : decode cX6_bitList 192 = .ok (.iconst 1, 1) := dk_4 (dk_at dksX6_bitList_8 7 rfl rfl)
theorem dX6_bitList_193 : decode cX6_bitList 193 = .ok (.iadd, 1) := dk_96 (dk_at dksX6_bitList_8 8 rfl rfl)
theorem dX6_bitList_194 : decode cX6_bitList 194 = .ok (.iload 6, 2) := dk_21 6 (dk_at dksX6_bitList_8 9 rfl rfl)
theorem dX6_bitList_196 : decode cX6_bitList 196 = .ok (.bipush 8, 2) := dk_16 8 (dk_at dksX6_bitList_8 11 rfl rfl)
theorem dX6_bitList_198 : decode cX6_bitList 198 = .ok (.idiv, 1) := dk_108 (dk_at dksX6_bitList_8 13 rfl rfl)
theorem dX6_bitList_199 : decode cX6_bitList 199 = .ok (.iadd, 1) := dk_96 (dk_at dksX6_bitList_8 14 rfl rfl)
theorem dX6_bitList_200 : decode cX6_bitList 200 = .ok (.invokevirtual 234, 3) := dk_182 0 234 (dk_at dksX6_bitList_8 15 rfl rfl)
theorem dX6_bitList_203 : decode cX6_bitList 203 = .ok (.sipush 128, 3) := dk_17 0 128 (dk_at dksX6_bitList_8 18 rfl rfl)
theorem dX6_bitList_206 : decode cX6_bitList 206 = .ok (.iload 6, 2) := dk_21 6 (dk_at dksX6_bitList_8 21 rfl rfl)
theorem dX6_bitList_208 : decode cX6_bitList 208 = .ok (.bipush 8, 2) := dk_16 8 (dk_at dksX6_bitList_9 0 rfl rfl)
theorem dX6_bitList_210 : decode cX6_bitList 210 = .ok (.irem, 1) := dk_112 (dk_at dksX6_bitList_9 2 rfl rfl)
theorem dX6_bitList_211 : decode cX6_bitList 211 = .ok (.ishr, 1) := dk_122 (dk_at dksX6_bitList_9 3 rfl rfl)
theorem dX6_bitList_212 : decode cX6_bitList 212 = .ok (.ior, 1) := dk_128 (dk_at dksX6_bitList_9 4 rfl rfl)
theorem dX6_bitList_213 : decode cX6_bitList 213 = .ok (.invokevirtual 393, 3) := dk_182 1 137 (dk_at dksX6_bitList_9 5 rfl rfl)
theorem dX6_bitList_216 : decode cX6_bitList 216 = .ok (.aload_n 0, 1) := dk_42 (dk_at dksX6_bitList_9 8 rfl rfl)
theorem dX6_bitList_217 : decode cX6_bitList 217 = .ok (.getfield 83, 3) := dk_180 0 83 (dk_at dksX6_bitList_9 9 rfl rfl)
theorem dX6_bitList_220 : decode cX6_bitList 220 = .ok (.iload 5, 2) := dk_21 5 (dk_at dksX6_bitList_9 12 rfl rfl)
theorem dX6_bitList_222 : decode cX6_bitList 222 = .ok (.invokevirtual 189, 3) := dk_182 0 189 (dk_at dksX6_bitList_9 14 rfl rfl)
theorem dX6_bitList_225 : decode cX6_bitList 225 = .ok (.istore 5, 2) := dk_54 5 (dk_at dksX6_bitList_9 17 rfl rfl)
theorem dX6_bitList_227 : decode cX6_bitList 227 = .ok (.goto (-81), 3) := dk_167 255 175 (dk_at dksX6_bitList_9 19 rfl rfl)
theorem dX6_bitList_230 : decode cX6_bitList 230 = .ok (.iconst 1, 1) := dk_4 (dk_at dksX6_bitList_9 22 rfl rfl)
theorem dX6_bitList_231 : decode cX6_bitList 231 = .ok (.ireturn, 1) := dk_172 (dk_at dksX6_bitList_9 23 rfl rfl)
abbrev cX6_oid : ByteArray := prog_9_method_61_code
def yX6_oid : MethodName := ⟨RX6, "oid", "(I)Z"⟩
def dkwX6_oid_6 : List UInt8 := [180, 0, 83, 28, 182, 0, 189, 61, 167, 255, 128, 42, 180, 0, 92, 182, 1, 175, 172]
abbrev dktX6_oid_6 : List UInt8 := dkwX6_oid_6 ++ []
def dkwX6_oid_5 : List UInt8 := [182, 0, 107, 42, 180, 0, 103, 29, 182, 0, 207, 42, 180, 0, 48, 182, 1, 172, 154, 0, 5, 3, 172, 42]
abbrev dktX6_oid_5 : List UInt8 := dkwX6_oid_5 ++ dktX6_oid_6
def dkwX6_oid_4 : List UInt8 := [154, 0, 45, 167, 0, 40, 42, 180, 0, 92, 42, 180, 0, 103, 182, 0, 203, 42, 180, 0, 103, 29]
abbrev dktX6_oid_4 : List UInt8 := dkwX6_oid_4 ++ dktX6_oid_5
def dkwX6_oid_3 : List UInt8 := [160, 0, 28, 21, 4, 2, 159, 0, 59, 42, 180, 0, 92, 21, 4, 42, 180, 0, 48, 182, 1, 168]
abbrev dktX6_oid_3 : List UInt8 := dkwX6_oid_3 ++ dktX6_oid_4
def dkwX6_oid_2 : List UInt8 := [160, 0, 18, 42, 42, 180, 0, 83, 28, 182, 0, 178, 182, 1, 165, 167, 0, 4, 2, 54, 4, 29, 2]
abbrev dktX6_oid_2 : List UInt8 := dkwX6_oid_2 ++ dktX6_oid_3
def dkwX6_oid_1 : List UInt8 := [180, 0, 83, 28, 8, 182, 0, 223, 62, 29, 2, 160, 0, 30, 28, 42, 180, 0, 83, 27, 182, 0, 196]
abbrev dktX6_oid_1 : List UInt8 := dkwX6_oid_1 ++ dktX6_oid_2
def dkwX6_oid_0 : List UInt8 := [42, 180, 0, 92, 182, 1, 162, 42, 180, 0, 83, 27, 182, 0, 196, 61, 28, 2, 159, 0, 129, 42]
abbrev dktX6_oid_0 : List UInt8 := dkwX6_oid_0 ++ dktX6_oid_1
theorem dksX6_oid_0 : cX6_oid.data.toList.drop 0 = dktX6_oid_0 := by decide +kernel
theorem dksX6_oid_1 : cX6_oid.data.toList.drop 22 = dktX6_oid_1 := dk_seg dksX6_oid_0 22 rfl rfl
theorem dksX6_oid_2 : cX6_oid.data.toList.drop 45 = dktX6_oid_2 := dk_seg dksX6_oid_1 23 rfl rfl
theorem dksX6_oid_3 : cX6_oid.data.toList.drop 68 = dktX6_oid_3 := dk_seg dksX6_oid_2 23 rfl rfl
theorem dksX6_oid_4 : cX6_oid.data.toList.drop 90 = dktX6_oid_4 := dk_seg dksX6_oid_3 22 rfl rfl
theorem dksX6_oid_5 : cX6_oid.data.toList.drop 112 = dktX6_oid_5 := dk_seg dksX6_oid_4 22 rfl rfl
theorem dksX6_oid_6 : cX6_oid.data.toList.drop 136 = dktX6_oid_6 := dk_seg dksX6_oid_5 24 rfl rfl
theorem dX6_oid_0 : decode cX6_oid 0 = .ok (.aload_n 0, 1) := dk_42 (dk_at dksX6_oid_0 0 rfl rfl)
theorem dX6_oid_1 : decode cX6_oid 1 = .ok (.getfield 92, 3) := dk_180 0 92 (dk_at dksX6_oid_0 1 rfl rfl)
theorem dX6_oid_4 : decode cX6_oid 4 = .ok (.invokevirtual 418, 3) := dk_182 1 162 (dk_at dksX6_oid_0 4 rfl rfl)
theorem dX6_oid_7 : decode cX6_oid 7 = .ok (.aload_n 0, 1) := dk_42 (dk_at dksX6_oid_0 7 rfl rfl)
theorem dX6_oid_8 : decode cX6_oid 8 = .ok (.getfield 83, 3) := dk_180 0 83 (dk_at dksX6_oid_0 8 rfl rfl)
theorem dX6_oid_11 : decode cX6_oid 11 = .ok (.iload_n 1, 1) := dk_27 (dk_at dksX6_oid_0 11 rfl rfl)
theorem dX6_oid_12 : decode cX6_oid 12 = .ok (.invokevirtual 196, 3) := dk_182 0 196 (dk_at dksX6_oid_0 12 rfl rfl)
theorem dX6_oid_15 : decode cX6_oid 15 = .ok (.istore_n 2, 1) := dk_61 (dk_at dksX6_oid_0 15 rfl rfl)
theorem dX6_oid_16 : decode cX6_oid 16 = .ok (.iload_n 2, 1) := dk_28 (dk_at dksX6_oid_0 16 rfl rfl)
theorem dX6_oid_17 : decode cX6_oid 17 = .ok (.iconst (-1), 1) := dk_2 (dk_at dksX6_oid_0 17 rfl rfl)
theorem dX6_oid_18 : decode cX6_oid 18 = .ok (.if_icmp .eq 129, 3) := dk_159 0 129 (dk_at dksX6_oid_0 18 rfl rfl)
theorem dX6_oid_21 : decode cX6_oid 21 = .ok (.aload_n 0, 1) := dk_42 (dk_at dksX6_oid_0 21 rfl rfl)
theorem dX6_oid_22 : decode cX6_oid 22 = .ok (.getfield 83, 3) := dk_180 0 83 (dk_at dksX6_oid_1 0 rfl rfl)
theorem dX6_oid_25 : decode cX6_oid 25 = .ok (.iload_n 2, 1) := dk_28 (dk_at dksX6_oid_1 3 rfl rfl)
theorem dX6_oid_26 : decode cX6_oid 26 = .ok (.iconst 5, 1) := dk_8 (dk_at dksX6_oid_1 4 rfl rfl)
theorem dX6_oid_27 : decode cX6_oid 27 = .ok (.invokevirtual 223, 3) := dk_182 0 223 (dk_at dksX6_oid_1 5 rfl rfl)
theorem dX6_oid_30 : decode cX6_oid 30 = .ok (.istore_n 3, 1) := dk_62 (dk_at dksX6_oid_1 8 rfl rfl)
theorem dX6_oid_31 : decode cX6_oid 31 = .ok (.iload_n 3, 1) := dk_29 (dk_at dksX6_oid_1 9 rfl rfl)
theorem dX6_oid_32 : decode cX6_oid 32 = .ok (.iconst (-1), 1) := dk_2 (dk_at dksX6_oid_1 10 rfl rfl)
theorem dX6_oid_33 : decode cX6_oid 33 = .ok (.if_icmp .ne 30, 3) := dk_160 0 30 (dk_at dksX6_oid_1 11 rfl rfl)
theorem dX6_oid_36 : decode cX6_oid 36 = .ok (.iload_n 2, 1) := dk_28 (dk_at dksX6_oid_1 14 rfl rfl)
theorem dX6_oid_37 : decode cX6_oid 37 = .ok (.aload_n 0, 1) := dk_42 (dk_at dksX6_oid_1 15 rfl rfl)
theorem dX6_oid_38 : decode cX6_oid 38 = .ok (.getfield 83, 3) := dk_180 0 83 (dk_at dksX6_oid_1 16 rfl rfl)
theorem dX6_oid_41 : decode cX6_oid 41 = .ok (.iload_n 1, 1) := dk_27 (dk_at dksX6_oid_1 19 rfl rfl)
theorem dX6_oid_42 : decode cX6_oid 42 = .ok (.invokevirtual 196, 3) := dk_182 0 196 (dk_at dksX6_oid_1 20 rfl rfl)
theorem dX6_oid_45 : decode cX6_oid 45 = .ok (.if_icmp .ne 18, 3) := dk_160 0 18 (dk_at dksX6_oid_2 0 rfl rfl)
theorem dX6_oid_48 : decode cX6_oid 48 = .ok (.aload_n 0, 1) := dk_42 (dk_at dksX6_oid_2 3 rfl rfl)
theorem dX6_oid_49 : decode cX6_oid 49 = .ok (.aload_n 0, 1) := dk_42 (dk_at dksX6_oid_2 4 rfl rfl)
theorem dX6_oid_50 : decode cX6_oid 50 = .ok (.getfield 83, 3) := dk_180 0 83 (dk_at dksX6_oid_2 5 rfl rfl)
theorem dX6_oid_53 : decode cX6_oid 53 = .ok (.iload_n 2, 1) := dk_28 (dk_at dksX6_oid_2 8 rfl rfl)
theorem dX6_oid_54 : decode cX6_oid 54 = .ok (.invokevirtual 178, 3) := dk_182 0 178 (dk_at dksX6_oid_2 9 rfl rfl)
theorem dX6_oid_57 : decode cX6_oid 57 = .ok (.invokevirtual 421, 3) := dk_182 1 165 (dk_at dksX6_oid_2 12 rfl rfl)
theorem dX6_oid_60 : decode cX6_oid 60 = .ok (.goto 4, 3) := dk_167 0 4 (dk_at dksX6_oid_2 15 rfl rfl)
theorem dX6_oid_63 : decode cX6_oid 63 = .ok (.iconst (-1), 1) := dk_2 (dk_at dksX6_oid_2 18 rfl rfl)
theorem dX6_oid_64 : decode cX6_oid 64 = .ok (.istore 4, 2) := dk_54 4 (dk_at dksX6_oid_2 19 rfl rfl)
theorem dX6_oid_66 : decode cX6_oid 66 = .ok (.iload_n 3, 1) := dk_29 (dk_at dksX6_oid_2 21 rfl rfl)
theorem dX6_oid_67 : decode cX6_oid 67 = .ok (.iconst (-1), 1) := dk_2 (dk_at dksX6_oid_2 22 rfl rfl)
theorem dX6_oid_68 : decode cX6_oid 68 = .ok (.if_icmp .ne 28, 3) := dk_160 0 28 (dk_at dksX6_oid_3 0 rfl rfl)
theorem dX6_oid_71 : decode cX6_oid 71 = .ok (.iload 4, 2) := dk_21 4 (dk_at dksX6_oid_3 3 rfl rfl)
theorem dX6_oid_73 : decode cX6_oid 73 = .ok (.iconst (-1), 1) := dk_2 (dk_at dksX6_oid_3 5 rfl rfl)
theorem dX6_oid_74 : decode cX6_oid 74 = .ok (.if_icmp .eq 59, 3) := dk_159 0 59 (dk_at dksX6_oid_3 6 rfl rfl)
theorem dX6_oid_77 : decode cX6_oid 77 = .ok (.aload_n 0, 1) := dk_42 (dk_at dksX6_oid_3 9 rfl rfl)
theorem dX6_oid_78 : decode cX6_oid 78 = .ok (.getfield 92, 3) := dk_180 0 92 (dk_at dksX6_oid_3 10 rfl rfl)
theorem dX6_oid_81 : decode cX6_oid 81 = .ok (.iload 4, 2) := dk_21 4 (dk_at dksX6_oid_3 13 rfl rfl)
theorem dX6_oid_83 : decode cX6_oid 83 = .ok (.aload_n 0, 1) := dk_42 (dk_at dksX6_oid_3 15 rfl rfl)
theorem dX6_oid_84 : decode cX6_oid 84 = .ok (.getfield 48, 3) := dk_180 0 48 (dk_at dksX6_oid_3 16 rfl rfl)
theorem dX6_oid_87 : decode cX6_oid 87 = .ok (.invokevirtual 424, 3) := dk_182 1 168 (dk_at dksX6_oid_3 19 rfl rfl)
theorem dX6_oid_90 : decode cX6_oid 90 = .ok (.ifCond .ne 45, 3) := dk_154 0 45 (dk_at dksX6_oid_4 0 rfl rfl)
theorem dX6_oid_93 : decode cX6_oid 93 = .ok (.goto 40, 3) := dk_167 0 40 (dk_at dksX6_oid_4 3 rfl rfl)
theorem dX6_oid_96 : decode cX6_oid 96 = .ok (.aload_n 0, 1) := dk_42 (dk_at dksX6_oid_4 6 rfl rfl)
theorem dX6_oid_97 : decode cX6_oid 97 = .ok (.getfield 92, 3) := dk_180 0 92 (dk_at dksX6_oid_4 7 rfl rfl)
theorem dX6_oid_100 : decode cX6_oid 100 = .ok (.aload_n 0, 1) := dk_42 (dk_at dksX6_oid_4 10 rfl rfl)
theorem dX6_oid_101 : decode cX6_oid 101 = .ok (.getfield 103, 3) := dk_180 0 103 (dk_at dksX6_oid_4 11 rfl rfl)
theorem dX6_oid_104 : decode cX6_oid 104 = .ok (.invokevirtual 203, 3) := dk_182 0 203 (dk_at dksX6_oid_4 14 rfl rfl)
theorem dX6_oid_107 : decode cX6_oid 107 = .ok (.aload_n 0, 1) := dk_42 (dk_at dksX6_oid_4 17 rfl rfl)
theorem dX6_oid_108 : decode cX6_oid 108 = .ok (.getfield 103, 3) := dk_180 0 103 (dk_at dksX6_oid_4 18 rfl rfl)
theorem dX6_oid_111 : decode cX6_oid 111 = .ok (.iload_n 3, 1) := dk_29 (dk_at dksX6_oid_4 21 rfl rfl)
theorem dX6_oid_112 : decode cX6_oid 112 = .ok (.invokevirtual 107, 3) := dk_182 0 107 (dk_at dksX6_oid_5 0 rfl rfl)
theorem dX6_oid_115 : decode cX6_oid 115 = .ok (.aload_n 0, 1) := dk_42 (dk_at dksX6_oid_5 3 rfl rfl)
theorem dX6_oid_116 : decode cX6_oid 116 = .ok (.getfield 103, 3) := dk_180 0 103 (dk_at dksX6_oid_5 4 rfl rfl)
theorem dX6_oid_119 : decode cX6_oid 119 = .ok (.iload_n 3, 1) := dk_29 (dk_at dksX6_oid_5 7 rfl rfl)
theorem dX6_oid_120 : decode cX6_oid 120 = .ok (.invokevirtual 207, 3) := dk_182 0 207 (dk_at dksX6_oid_5 8 rfl rfl)
theorem dX6_oid_123 : decode cX6_oid 123 = .ok (.aload_n 0, 1) := dk_42 (dk_at dksX6_oid_5 11 rfl rfl)
theorem dX6_oid_124 : decode cX6_oid 124 = .ok (.getfield 48, 3) := dk_180 0 48 (dk_at dksX6_oid_5 12 rfl rfl)
theorem dX6_oid_127 : decode cX6_oid 127 = .ok (.invokevirtual 428, 3) := dk_182 1 172 (dk_at dksX6_oid_5 15 rfl rfl)
theorem dX6_oid_130 : decode cX6_oid 130 = .ok (.ifCond .ne 5, 3) := dk_154 0 5 (dk_at dksX6_oid_5 18 rfl rfl)
theorem dX6_oid_133 : decode cX6_oid 133 = .ok (.iconst 0, 1) := dk_3 (dk_at dksX6_oid_5 21 rfl rfl)
theorem dX6_oid_134 : decode cX6_oid 134 = .ok (.ireturn, 1) := dk_172 (dk_at dksX6_oid_5 22 rfl rfl)
theorem dX6_oid_135 : decode cX6_oid 135 = .ok (.aload_n 0, 1) := dk_42 (dk_at dksX6_oid_5 23 rfl rfl)
theorem dX6_oid_136 : decode cX6_oid 136 = .ok (.getfield 83, 3) := dk_180 0 83 (dk_at dksX6_oid_6 0 rfl rfl)
theorem dX6_oid_139 : decode cX6_oid 139 = .ok (.iload_n 2, 1) := dk_28 (dk_at dksX6_oid_6 3 rfl rfl)
theorem dX6_oid_140 : decode cX6_oid 140 = .ok (.invokevirtual 189, 3) := dk_182 0 189 (dk_at dksX6_oid_6 4 rfl rfl)
theorem dX6_oid_143 : decode cX6_oid 143 = .ok (.istore_n 2, 1) := dk_61 (dk_at dksX6_oid_6 7 rfl rfl)
theorem dX6_oid_144 : decode cX6_oid 144 = .ok (.goto (-128), 3) := dk_167 255 128 (dk_at dksX6_oid_6 8 rfl rfl)
theorem dX6_oid_147 : decode cX6_oid 147 = .ok (.aload_n 0, 1) := dk_42 (dk_at dksX6_oid_6 11 rfl rfl)
theorem dX6_oid_148 : decode cX6_oid 148 = .ok (.getfield 92, 3) := dk_180 0 92 (dk_at dksX6_oid_6 12 rfl rfl)
theorem dX6_oid_151 : decode cX6_oid 151 = .ok (.invokevirtual 431, 3) := dk_182 1 175 (dk_at dksX6_oid_6 15 rfl rfl)
theorem dX6_oid_154 : decode cX6_oid 154 = .ok (.ireturn, 1) := dk_172 (dk_at dksX6_oid_6 18 rfl rfl)
abbrev cX6_firstPart : ByteArray := prog_9_method_60_code
def yX6_firstPart : MethodName := ⟨RX6, "firstPart", "(I)I"⟩
def dkwX6_firstPart_2 : List UInt8 := [42, 27, 19, 1, 160, 182, 1, 150, 153, 0, 7, 5, 167, 0, 4, 2, 172]
abbrev dktX6_firstPart_2 : List UInt8 := dkwX6_firstPart_2 ++ []
def dkwX6_firstPart_1 : List UInt8 := [42, 27, 19, 1, 156, 182, 1, 150, 153, 0, 5, 4, 172, 42, 27, 19, 1, 158, 182, 1, 150, 154, 0, 14]
abbrev dktX6_firstPart_1 : List UInt8 := dkwX6_firstPart_1 ++ dktX6_firstPart_2
def dkwX6_firstPart_0 : List UInt8 := [42, 27, 19, 1, 148, 182, 1, 150, 154, 0, 14, 42, 27, 19, 1, 154, 182, 1, 150, 153, 0, 5, 3, 172]
abbrev dktX6_firstPart_0 : List UInt8 := dkwX6_firstPart_0 ++ dktX6_firstPart_1
theorem dksX6_firstPart_0 : cX6_firstPart.data.toList.drop 0 = dktX6_firstPart_0 := by decide +kernel
theorem dksX6_firstPart_1 : cX6_firstPart.data.toList.drop 24 = dktX6_firstPart_1 := dk_seg dksX6_firstPart_0 24 rfl rfl
theorem dksX6_firstPart_2 : cX6_firstPart.data.toList.drop 48 = dktX6_firstPart_2 := dk_seg dksX6_firstPart_1 24 rfl rfl
theorem dX6_firstPart_0 : decode cX6_firstPart 0 = .ok (.aload_n 0, 1) := dk_42 (dk_at dksX6_firstPart_0 0 rfl rfl)
theorem dX6_firstPart_1 : decode cX6_firstPart 1 = .ok (.iload_n 1, 1) := dk_27 (dk_at dksX6_firstPart_0 1 rfl rfl)
theorem dX6_firstPart_2 : decode cX6_firstPart 2 = .ok (.ldc_w 404, 3) := dk_19 1 148 (dk_at dksX6_firstPart_0 2 rfl rfl)
theorem dX6_firstPart_5 : decode cX6_firstPart 5 = .ok (.invokevirtual 406, 3) := dk_182 1 150 (dk_at dksX6_firstPart_0 5 rfl rfl)
theorem dX6_firstPart_8 : decode cX6_firstPart 8 = .ok (.ifCond .ne 14, 3) := dk_154 0 14 (dk_at dksX6_firstPart_0 8 rfl rfl)
theorem dX6_firstPart_11 : decode cX6_firstPart 11 = .ok (.aload_n 0, 1) := dk_42 (dk_at dksX6_firstPart_0 11 rfl rfl)
theorem dX6_firstPart_12 : decode cX6_firstPart 12 = .ok (.iload_n 1, 1) := dk_27 (dk_at dksX6_firstPart_0 12 rfl rfl)
theorem dX6_firstPart_13 : decode cX6_firstPart 13 = .ok (.ldc_w 410, 3) := dk_19 1 154 (dk_at dksX6_firstPart_0 13 rfl rfl)
theorem dX6_firstPart_16 : decode cX6_firstPart 16 = .ok (.invokevirtual 406, 3) := dk_182 1 150 (dk_at dksX6_firstPart_0 16 rfl rfl)
theorem dX6_firstPart_19 : decode cX6_firstPart 19 = .ok (.ifCond .eq 5, 3) := dk_153 0 5 (dk_at dksX6_firstPart_0 19 rfl rfl)
theorem dX6_firstPart_22 : decode cX6_firstPart 22 = .ok (.iconst 0, 1) := dk_3 (dk_at dksX6_firstPart_0 22 rfl rfl)
theorem dX6_firstPart_23 : decode cX6_firstPart 23 = .ok (.ireturn, 1) := dk_172 (dk_at dksX6_firstPart_0 23 rfl rfl)
theorem dX6_firstPart_24 : decode cX6_firstPart 24 = .ok (.aload_n 0, 1) := dk_42 (dk_at dksX6_firstPart_1 0 rfl rfl)
theorem dX6_firstPart_25 : decode cX6_firstPart 25 = .ok (.iload_n 1, 1) := dk_27 (dk_at dksX6_firstPart_1 1 rfl rfl)
theorem dX6_firstPart_26 : decode cX6_firstPart 26 = .ok (.ldc_w 412, 3) := dk_19 1 156 (dk_at dksX6_firstPart_1 2 rfl rfl)
theorem dX6_firstPart_29 : decode cX6_firstPart 29 = .ok (.invokevirtual 406, 3) := dk_182 1 150 (dk_at dksX6_firstPart_1 5 rfl rfl)
theorem dX6_firstPart_32 : decode cX6_firstPart 32 = .ok (.ifCond .eq 5, 3) := dk_153 0 5 (dk_at dksX6_firstPart_1 8 rfl rfl)
theorem dX6_firstPart_35 : decode cX6_firstPart 35 = .ok (.iconst 1, 1) := dk_4 (dk_at dksX6_firstPart_1 11 rfl rfl)
theorem dX6_firstPart_36 : decode cX6_firstPart 36 = .ok (.ireturn, 1) := dk_172 (dk_at dksX6_firstPart_1 12 rfl rfl)
theorem dX6_firstPart_37 : decode cX6_firstPart 37 = .ok (.aload_n 0, 1) := dk_42 (dk_at dksX6_firstPart_1 13 rfl rfl)
theorem dX6_firstPart_38 : decode cX6_firstPart 38 = .ok (.iload_n 1, 1) := dk_27 (dk_at dksX6_firstPart_1 14 rfl rfl)
theorem dX6_firstPart_39 : decode cX6_firstPart 39 = .ok (.ldc_w 414, 3) := dk_19 1 158 (dk_at dksX6_firstPart_1 15 rfl rfl)
theorem dX6_firstPart_42 : decode cX6_firstPart 42 = .ok (.invokevirtual 406, 3) := dk_182 1 150 (dk_at dksX6_firstPart_1 18 rfl rfl)
theorem dX6_firstPart_45 : decode cX6_firstPart 45 = .ok (.ifCond .ne 14, 3) := dk_154 0 14 (dk_at dksX6_firstPart_1 21 rfl rfl)
theorem dX6_firstPart_48 : decode cX6_firstPart 48 = .ok (.aload_n 0, 1) := dk_42 (dk_at dksX6_firstPart_2 0 rfl rfl)
theorem dX6_firstPart_49 : decode cX6_firstPart 49 = .ok (.iload_n 1, 1) := dk_27 (dk_at dksX6_firstPart_2 1 rfl rfl)
theorem dX6_firstPart_50 : decode cX6_firstPart 50 = .ok (.ldc_w 416, 3) := dk_19 1 160 (dk_at dksX6_firstPart_2 2 rfl rfl)
theorem dX6_firstPart_53 : decode cX6_firstPart 53 = .ok (.invokevirtual 406, 3) := dk_182 1 150 (dk_at dksX6_firstPart_2 5 rfl rfl)
theorem dX6_firstPart_56 : decode cX6_firstPart 56 = .ok (.ifCond .eq 7, 3) := dk_153 0 7 (dk_at dksX6_firstPart_2 8 rfl rfl)
theorem dX6_firstPart_59 : decode cX6_firstPart 59 = .ok (.iconst 2, 1) := dk_5 (dk_at dksX6_firstPart_2 11 rfl rfl)
theorem dX6_firstPart_60 : decode cX6_firstPart 60 = .ok (.goto 4, 3) := dk_167 0 4 (dk_at dksX6_firstPart_2 12 rfl rfl)
theorem dX6_firstPart_63 : decode cX6_firstPart 63 = .ok (.iconst (-1), 1) := dk_2 (dk_at dksX6_firstPart_2 15 rfl rfl)
theorem dX6_firstPart_64 : decode cX6_firstPart 64 = .ok (.ireturn, 1) := dk_172 (dk_at dksX6_firstPart_2 16 rfl rfl)
abbrev cX6_isWord : ByteArray := prog_9_method_59_code
def yX6_isWord : MethodName := ⟨RX6, "isWord", "(ILjava/lang/String;)Z"⟩
def dkwX6_isWord_3 : List UInt8 := [4, 172]
abbrev dktX6_isWord_3 : List UInt8 := dkwX6_isWord_3 ++ []
def dkwX6_isWord_2 : List UInt8 := [182, 0, 107, 29, 96, 182, 0, 234, 44, 29, 182, 1, 144, 159, 0, 5, 3, 172, 132, 3, 1, 167, 255, 215]
abbrev dktX6_isWord_2 : List UInt8 := dkwX6_isWord_2 ++ dktX6_isWord_3
def dkwX6_isWord_1 : List UInt8 := [3, 172, 3, 62, 29, 44, 182, 1, 139, 162, 0, 39, 42, 180, 0, 103, 182, 0, 203, 42, 180, 0, 103, 27]
abbrev dktX6_isWord_1 : List UInt8 := dkwX6_isWord_1 ++ dktX6_isWord_2
def dkwX6_isWord_0 : List UInt8 := [42, 180, 0, 103, 27, 182, 0, 207, 42, 180, 0, 103, 27, 182, 0, 107, 100, 44, 182, 1, 139, 159, 0, 5]
abbrev dktX6_isWord_0 : List UInt8 := dkwX6_isWord_0 ++ dktX6_isWord_1
theorem dksX6_isWord_0 : cX6_isWord.data.toList.drop 0 = dktX6_isWord_0 := by decide +kernel
theorem dksX6_isWord_1 : cX6_isWord.data.toList.drop 24 = dktX6_isWord_1 := dk_seg dksX6_isWord_0 24 rfl rfl
theorem dksX6_isWord_2 : cX6_isWord.data.toList.drop 48 = dktX6_isWord_2 := dk_seg dksX6_isWord_1 24 rfl rfl
theorem dksX6_isWord_3 : cX6_isWord.data.toList.drop 72 = dktX6_isWord_3 := dk_seg dksX6_isWord_2 24 rfl rfl
theorem dX6_isWord_0 : decode cX6_isWord 0 = .ok (.aload_n 0, 1) := dk_42 (dk_at dksX6_isWord_0 0 rfl rfl)
theorem dX6_isWord_1 : decode cX6_isWord 1 = .ok (.getfield 103, 3) := dk_180 0 103 (dk_at dksX6_isWord_0 1 rfl rfl)
theorem dX6_isWord_4 : decode cX6_isWord 4 = .ok (.iload_n 1, 1) := dk_27 (dk_at dksX6_isWord_0 4 rfl rfl)
theorem dX6_isWord_5 : decode cX6_isWord 5 = .ok (.invokevirtual 207, 3) := dk_182 0 207 (dk_at dksX6_isWord_0 5 rfl rfl)
theorem dX6_isWord_8 : decode cX6_isWord 8 = .ok (.aload_n 0, 1) := dk_42 (dk_at dksX6_isWord_0 8 rfl rfl)
theorem dX6_isWord_9 : decode cX6_isWord 9 = .ok (.getfield 103, 3) := dk_180 0 103 (dk_at dksX6_isWord_0 9 rfl rfl)
theorem dX6_isWord_12 : decode cX6_isWord 12 = .ok (.iload_n 1, 1) := dk_27 (dk_at dksX6_isWord_0 12 rfl rfl)
theorem dX6_isWord_13 : decode cX6_isWord 13 = .ok (.invokevirtual 107, 3) := dk_182 0 107 (dk_at dksX6_isWord_0 13 rfl rfl)
theorem dX6_isWord_16 : decode cX6_isWord 16 = .ok (.isub, 1) := dk_100 (dk_at dksX6_isWord_0 16 rfl rfl)
theorem dX6_isWord_17 : decode cX6_isWord 17 = .ok (.aload_n 2, 1) := dk_44 (dk_at dksX6_isWord_0 17 rfl rfl)
theorem dX6_isWord_18 : decode cX6_isWord 18 = .ok (.invokevirtual 395, 3) := dk_182 1 139 (dk_at dksX6_isWord_0 18 rfl rfl)
theorem dX6_isWord_21 : decode cX6_isWord 21 = .ok (.if_icmp .eq 5, 3) := dk_159 0 5 (dk_at dksX6_isWord_0 21 rfl rfl)
theorem dX6_isWord_24 : decode cX6_isWord 24 = .ok (.iconst 0, 1) := dk_3 (dk_at dksX6_isWord_1 0 rfl rfl)
theorem dX6_isWord_25 : decode cX6_isWord 25 = .ok (.ireturn, 1) := dk_172 (dk_at dksX6_isWord_1 1 rfl rfl)
theorem dX6_isWord_26 : decode cX6_isWord 26 = .ok (.iconst 0, 1) := dk_3 (dk_at dksX6_isWord_1 2 rfl rfl)
theorem dX6_isWord_27 : decode cX6_isWord 27 = .ok (.istore_n 3, 1) := dk_62 (dk_at dksX6_isWord_1 3 rfl rfl)
theorem dX6_isWord_28 : decode cX6_isWord 28 = .ok (.iload_n 3, 1) := dk_29 (dk_at dksX6_isWord_1 4 rfl rfl)
theorem dX6_isWord_29 : decode cX6_isWord 29 = .ok (.aload_n 2, 1) := dk_44 (dk_at dksX6_isWord_1 5 rfl rfl)
theorem dX6_isWord_30 : decode cX6_isWord 30 = .ok (.invokevirtual 395, 3) := dk_182 1 139 (dk_at dksX6_isWord_1 6 rfl rfl)
theorem dX6_isWord_33 : decode cX6_isWord 33 = .ok (.if_icmp .ge 39, 3) := dk_162 0 39 (dk_at dksX6_isWord_1 9 rfl rfl)
theorem dX6_isWord_36 : decode cX6_isWord 36 = .ok (.aload_n 0, 1) := dk_42 (dk_at dksX6_isWord_1 12 rfl rfl)
theorem dX6_isWord_37 : decode cX6_isWord 37 = .ok (.getfield 103, 3) := dk_180 0 103 (dk_at dksX6_isWord_1 13 rfl rfl)
theorem dX6_isWord_40 : decode cX6_isWord 40 = .ok (.invokevirtual 203, 3) := dk_182 0 203 (dk_at dksX6_isWord_1 16 rfl rfl)
theorem dX6_isWord_43 : decode cX6_isWord 43 = .ok (.aload_n 0, 1) := dk_42 (dk_at dksX6_isWord_1 19 rfl rfl)
theorem dX6_isWord_44 : decode cX6_isWord 44 = .ok (.getfield 103, 3) := dk_180 0 103 (dk_at dksX6_isWord_1 20 rfl rfl)
theorem dX6_isWord_47 : decode cX6_isWord 47 = .ok (.iload_n 1, 1) := dk_27 (dk_at dksX6_isWord_1 23 rfl rfl)
theorem dX6_isWord_48 : decode cX6_isWord 48 = .ok (.invokevirtual 107, 3) := dk_182 0 107 (dk_at dksX6_isWord_2 0 rfl rfl)
theorem dX6_isWord_51 : decode cX6_isWord 51 = .ok (.iload_n 3, 1) := dk_29 (dk_at dksX6_isWord_2 3 rfl rfl)
theorem dX6_isWord_52 : decode cX6_isWord 52 = .ok (.iadd, 1) := dk_96 (dk_at dksX6_isWord_2 4 rfl rfl)
theorem dX6_isWord_53 : decode cX6_isWord 53 = .ok (.invokevirtual 234, 3) := dk_182 0 234 (dk_at dksX6_isWord_2 5 rfl rfl)
theorem dX6_isWord_56 : decode cX6_isWord 56 = .ok (.aload_n 2, 1) := dk_44 (dk_at dksX6_isWord_2 8 rfl rfl)
theorem dX6_isWord_57 : decode cX6_isWord 57 = .ok (.iload_n 3, 1) := dk_29 (dk_at dksX6_isWord_2 9 rfl rfl)
theorem dX6_isWord_58 : decode cX6_isWord 58 = .ok (.invokevirtual 400, 3) := dk_182 1 144 (dk_at dksX6_isWord_2 10 rfl rfl)
theorem dX6_isWord_61 : decode cX6_isWord 61 = .ok (.if_icmp .eq 5, 3) := dk_159 0 5 (dk_at dksX6_isWord_2 13 rfl rfl)
theorem dX6_isWord_64 : decode cX6_isWord 64 = .ok (.iconst 0, 1) := dk_3 (dk_at dksX6_isWord_2 16 rfl rfl)
theorem dX6_isWord_65 : decode cX6_isWord 65 = .ok (.ireturn, 1) := dk_172 (dk_at dksX6_isWord_2 17 rfl rfl)
theorem dX6_isWord_66 : decode cX6_isWord 66 = .ok (.iinc 3 1, 3) := dk_132 3 1 (dk_at dksX6_isWord_2 18 rfl rfl)
theorem dX6_isWord_69 : decode cX6_isWord 69 = .ok (.goto (-41), 3) := dk_167 255 215 (dk_at dksX6_isWord_2 21 rfl rfl)
theorem dX6_isWord_72 : decode cX6_isWord 72 = .ok (.iconst 1, 1) := dk_4 (dk_at dksX6_isWord_3 0 rfl rfl)
theorem dX6_isWord_73 : decode cX6_isWord 73 = .ok (.ireturn, 1) := dk_172 (dk_at dksX6_isWord_3 1 rfl rfl)
abbrev cX6_text : ByteArray := prog_9_method_62_code
def yX6_text : MethodName := ⟨RX6, "text", "(II)Z"⟩
def dkwX6_text_7 : List UInt8 := [182, 0, 214, 182, 1, 184, 172]
abbrev dktX6_text_7 : List UInt8 := dkwX6_text_7 ++ []
def dkwX6_text_6 : List UInt8 := [42, 180, 0, 52, 182, 0, 214, 182, 1, 181, 42, 180, 0, 92, 28, 42, 180, 0, 52, 3, 42, 180, 0, 52]
abbrev dktX6_text_6 : List UInt8 := dkwX6_text_6 ++ dktX6_text_7
def dkwX6_text_5 : List UInt8 := [180, 0, 48, 182, 1, 178, 154, 0, 7, 4, 167, 0, 4, 3, 172, 42, 180, 0, 48, 42, 180, 0, 52, 3]
abbrev dktX6_text_5 : List UInt8 := dkwX6_text_5 ++ dktX6_text_6
def dkwX6_text_4 : List UInt8 := [180, 0, 52, 3, 42, 180, 0, 52, 182, 0, 214, 28, 16, 11, 160, 0, 7, 4, 167, 0, 4, 3, 42]
abbrev dktX6_text_4 : List UInt8 := dkwX6_text_4 ++ dktX6_text_5
def dkwX6_text_3 : List UInt8 := [132, 3, 1, 167, 255, 202, 28, 16, 10, 159, 0, 9, 28, 16, 11, 160, 0, 46, 42, 180, 0, 21, 42]
abbrev dktX6_text_3 : List UInt8 := dkwX6_text_3 ++ dktX6_text_4
def dkwX6_text_2 : List UInt8 := [182, 1, 120, 42, 180, 0, 103, 182, 0, 203, 29, 182, 0, 234, 16, 34, 160, 0, 6, 132, 3, 1]
abbrev dktX6_text_2 : List UInt8 := dkwX6_text_2 ++ dktX6_text_3
def dkwX6_text_1 : List UInt8 := [182, 0, 207, 4, 100, 162, 0, 46, 42, 180, 0, 52, 42, 180, 0, 103, 182, 0, 203, 29, 182, 0, 234]
abbrev dktX6_text_1 : List UInt8 := dkwX6_text_1 ++ dktX6_text_2
def dkwX6_text_0 : List UInt8 := [42, 180, 0, 52, 182, 0, 138, 42, 180, 0, 103, 27, 182, 0, 107, 4, 96, 62, 29, 42, 180, 0, 103, 27]
abbrev dktX6_text_0 : List UInt8 := dkwX6_text_0 ++ dktX6_text_1
theorem dksX6_text_0 : cX6_text.data.toList.drop 0 = dktX6_text_0 := by decide +kernel
theorem dksX6_text_1 : cX6_text.data.toList.drop 24 = dktX6_text_1 := dk_seg dksX6_text_0 24 rfl rfl
theorem dksX6_text_2 : cX6_text.data.toList.drop 47 = dktX6_text_2 := dk_seg dksX6_text_1 23 rfl rfl
theorem dksX6_text_3 : cX6_text.data.toList.drop 69 = dktX6_text_3 := dk_seg dksX6_text_2 22 rfl rfl
theorem dksX6_text_4 : cX6_text.data.toList.drop 92 = dktX6_text_4 := dk_seg dksX6_text_3 23 rfl rfl
theorem dksX6_text_5 : cX6_text.data.toList.drop 115 = dktX6_text_5 := dk_seg dksX6_text_4 23 rfl rfl
theorem dksX6_text_6 : cX6_text.data.toList.drop 139 = dktX6_text_6 := dk_seg dksX6_text_5 24 rfl rfl
theorem dksX6_text_7 : cX6_text.data.toList.drop 163 = dktX6_text_7 := dk_seg dksX6_text_6 24 rfl rfl
theorem dX6_text_0 : decode cX6_text 0 = .ok (.aload_n 0, 1) := dk_42 (dk_at dksX6_text_0 0 rfl rfl)
theorem dX6_text_1 : decode cX6_text 1 = .ok (.getfield 52, 3) := dk_180 0 52 (dk_at dksX6_text_0 1 rfl rfl)
theorem dX6_text_4 : decode cX6_text 4 = .ok (.invokevirtual 138, 3) := dk_182 0 138 (dk_at dksX6_text_0 4 rfl rfl)
theorem dX6_text_7 : decode cX6_text 7 = .ok (.aload_n 0, 1) := dk_42 (dk_at dksX6_text_0 7 rfl rfl)
theorem dX6_text_8 : decode cX6_text 8 = .ok (.getfield 103, 3) := dk_180 0 103 (dk_at dksX6_text_0 8 rfl rfl)
theorem dX6_text_11 : decode cX6_text 11 = .ok (.iload_n 1, 1) := dk_27 (dk_at dksX6_text_0 11 rfl rfl)
theorem dX6_text_12 : decode cX6_text 12 = .ok (.invokevirtual 107, 3) := dk_182 0 107 (dk_at dksX6_text_0 12 rfl rfl)
theorem dX6_text_15 : decode cX6_text 15 = .ok (.iconst 1, 1) := dk_4 (dk_at dksX6_text_0 15 rfl rfl)
theorem dX6_text_16 : decode cX6_text 16 = .ok (.iadd, 1) := dk_96 (dk_at dksX6_text_0 16 rfl rfl)
theorem dX6_text_17 : decode cX6_text 17 = .ok (.istore_n 3, 1) := dk_62 (dk_at dksX6_text_0 17 rfl rfl)
theorem dX6_text_18 : decode cX6_text 18 = .ok (.iload_n 3, 1) := dk_29 (dk_at dksX6_text_0 18 rfl rfl)
theorem dX6_text_19 : decode cX6_text 19 = .ok (.aload_n 0, 1) := dk_42 (dk_at dksX6_text_0 19 rfl rfl)
theorem dX6_text_20 : decode cX6_text 20 = .ok (.getfield 103, 3) := dk_180 0 103 (dk_at dksX6_text_0 20 rfl rfl)
theorem dX6_text_23 : decode cX6_text 23 = .ok (.iload_n 1, 1) := dk_27 (dk_at dksX6_text_0 23 rfl rfl)
theorem dX6_text_24 : decode cX6_text 24 = .ok (.invokevirtual 207, 3) := dk_182 0 207 (dk_at dksX6_text_1 0 rfl rfl)
theorem dX6_text_27 : decode cX6_text 27 = .ok (.iconst 1, 1) := dk_4 (dk_at dksX6_text_1 3 rfl rfl)
theorem dX6_text_28 : decode cX6_text 28 = .ok (.isub, 1) := dk_100 (dk_at dksX6_text_1 4 rfl rfl)
theorem dX6_text_29 : decode cX6_text 29 = .ok (.if_icmp .ge 46, 3) := dk_162 0 46 (dk_at dksX6_text_1 5 rfl rfl)
theorem dX6_text_32 : decode cX6_text 32 = .ok (.aload_n 0, 1) := dk_42 (dk_at dksX6_text_1 8 rfl rfl)
theorem dX6_text_33 : decode cX6_text 33 = .ok (.getfield 52, 3) := dk_180 0 52 (dk_at dksX6_text_1 9 rfl rfl)
theorem dX6_text_36 : decode cX6_text 36 = .ok (.aload_n 0, 1) := dk_42 (dk_at dksX6_text_1 12 rfl rfl)
theorem dX6_text_37 : decode cX6_text 37 = .ok (.getfield 103, 3) := dk_180 0 103 (dk_at dksX6_text_1 13 rfl rfl)
theorem dX6_text_40 : decode cX6_text 40 = .ok (.invokevirtual 203, 3) := dk_182 0 203 (dk_at dksX6_text_1 16 rfl rfl)
theorem dX6_text_43 : decode cX6_text 43 = .ok (.iload_n 3, 1) := dk_29 (dk_at dksX6_text_1 19 rfl rfl)
theorem dX6_text_44 : decode cX6_text 44 = .ok (.invokevirtual 234, 3) := dk_182 0 234 (dk_at dksX6_text_1 20 rfl rfl)
theorem dX6_text_47 : decode cX6_text 47 = .ok (.invokevirtual 376, 3) := dk_182 1 120 (dk_at dksX6_text_2 0 rfl rfl)
theorem dX6_text_50 : decode cX6_text 50 = .ok (.aload_n 0, 1) := dk_42 (dk_at dksX6_text_2 3 rfl rfl)
theorem dX6_text_51 : decode cX6_text 51 = .ok (.getfield 103, 3) := dk_180 0 103 (dk_at dksX6_text_2 4 rfl rfl)
theorem dX6_text_54 : decode cX6_text 54 = .ok (.invokevirtual 203, 3) := dk_182 0 203 (dk_at dksX6_text_2 7 rfl rfl)
theorem dX6_text_57 : decode cX6_text 57 = .ok (.iload_n 3, 1) := dk_29 (dk_at dksX6_text_2 10 rfl rfl)
theorem dX6_text_58 : decode cX6_text 58 = .ok (.invokevirtual 234, 3) := dk_182 0 234 (dk_at dksX6_text_2 11 rfl rfl)
theorem dX6_text_61 : decode cX6_text 61 = .ok (.bipush 34, 2) := dk_16 34 (dk_at dksX6_text_2 14 rfl rfl)
theorem dX6_text_63 : decode cX6_text 63 = .ok (.if_icmp .ne 6, 3) := dk_160 0 6 (dk_at dksX6_text_2 16 rfl rfl)
theorem dX6_text_66 : decode cX6_text 66 = .ok (.iinc 3 1, 3) := dk_132 3 1 (dk_at dksX6_text_2 19 rfl rfl)
theorem dX6_text_69 : decode cX6_text 69 = .ok (.iinc 3 1, 3) := dk_132 3 1 (dk_at dksX6_text_3 0 rfl rfl)
theorem dX6_text_72 : decode cX6_text 72 = .ok (.goto (-54), 3) := dk_167 255 202 (dk_at dksX6_text_3 3 rfl rfl)
theorem dX6_text_75 : decode cX6_text 75 = .ok (.iload_n 2, 1) := dk_28 (dk_at dksX6_text_3 6 rfl rfl)
theorem dX6_text_76 : decode cX6_text 76 = .ok (.bipush 10, 2) := dk_16 10 (dk_at dksX6_text_3 7 rfl rfl)
theorem dX6_text_78 : decode cX6_text 78 = .ok (.if_icmp .eq 9, 3) := dk_159 0 9 (dk_at dksX6_text_3 9 rfl rfl)
theorem dX6_text_81 : decode cX6_text 81 = .ok (.iload_n 2, 1) := dk_28 (dk_at dksX6_text_3 12 rfl rfl)
theorem dX6_text_82 : decode cX6_text 82 = .ok (.bipush 11, 2) := dk_16 11 (dk_at dksX6_text_3 13 rfl rfl)
theorem dX6_text_84 : decode cX6_text 84 = .ok (.if_icmp .ne 46, 3) := dk_160 0 46 (dk_at dksX6_text_3 15 rfl rfl)
theorem dX6_text_87 : decode cX6_text 87 = .ok (.aload_n 0, 1) := dk_42 (dk_at dksX6_text_3 18 rfl rfl)
theorem dX6_text_88 : decode cX6_text 88 = .ok (.getfield 21, 3) := dk_180 0 21 (dk_at dksX6_text_3 19 rfl rfl)
theorem dX6_text_91 : decode cX6_text 91 = .ok (.aload_n 0, 1) := dk_42 (dk_at dksX6_text_3 22 rfl rfl)
theorem dX6_text_92 : decode cX6_text 92 = .ok (.getfield 52, 3) := dk_180 0 52 (dk_at dksX6_text_4 0 rfl rfl)
theorem dX6_text_95 : decode cX6_text 95 = .ok (.iconst 0, 1) := dk_3 (dk_at dksX6_text_4 3 rfl rfl)
theorem dX6_text_96 : decode cX6_text 96 = .ok (.aload_n 0, 1) := dk_42 (dk_at dksX6_text_4 4 rfl rfl)
theorem dX6_text_97 : decode cX6_text 97 = .ok (.getfield 52, 3) := dk_180 0 52 (dk_at dksX6_text_4 5 rfl rfl)
theorem dX6_text_100 : decode cX6_text 100 = .ok (.invokevirtual 214, 3) := dk_182 0 214 (dk_at dksX6_text_4 8 rfl rfl)
theorem dX6_text_103 : decode cX6_text 103 = .ok (.iload_n 2, 1) := dk_28 (dk_at dksX6_text_4 11 rfl rfl)
theorem dX6_text_104 : decode cX6_text 104 = .ok (.bipush 11, 2) := dk_16 11 (dk_at dksX6_text_4 12 rfl rfl)
theorem dX6_text_106 : decode cX6_text 106 = .ok (.if_icmp .ne 7, 3) := dk_160 0 7 (dk_at dksX6_text_4 14 rfl rfl)
theorem dX6_text_109 : decode cX6_text 109 = .ok (.iconst 1, 1) := dk_4 (dk_at dksX6_text_4 17 rfl rfl)
theorem dX6_text_110 : decode cX6_text 110 = .ok (.goto 4, 3) := dk_167 0 4 (dk_at dksX6_text_4 18 rfl rfl)
theorem dX6_text_113 : decode cX6_text 113 = .ok (.iconst 0, 1) := dk_3 (dk_at dksX6_text_4 21 rfl rfl)
theorem dX6_text_114 : decode cX6_text 114 = .ok (.aload_n 0, 1) := dk_42 (dk_at dksX6_text_4 22 rfl rfl)
theorem dX6_text_115 : decode cX6_text 115 = .ok (.getfield 48, 3) := dk_180 0 48 (dk_at dksX6_text_5 0 rfl rfl)
theorem dX6_text_118 : decode cX6_text 118 = .ok (.invokevirtual 434, 3) := dk_182 1 178 (dk_at dksX6_text_5 3 rfl rfl)
theorem dX6_text_121 : decode cX6_text 121 = .ok (.ifCond .ne 7, 3) := dk_154 0 7 (dk_at dksX6_text_5 6 rfl rfl)
theorem dX6_text_124 : decode cX6_text 124 = .ok (.iconst 1, 1) := dk_4 (dk_at dksX6_text_5 9 rfl rfl)
theorem dX6_text_125 : decode cX6_text 125 = .ok (.goto 4, 3) := dk_167 0 4 (dk_at dksX6_text_5 10 rfl rfl)
theorem dX6_text_128 : decode cX6_text 128 = .ok (.iconst 0, 1) := dk_3 (dk_at dksX6_text_5 13 rfl rfl)
theorem dX6_text_129 : decode cX6_text 129 = .ok (.ireturn, 1) := dk_172 (dk_at dksX6_text_5 14 rfl rfl)
theorem dX6_text_130 : decode cX6_text 130 = .ok (.aload_n 0, 1) := dk_42 (dk_at dksX6_text_5 15 rfl rfl)
theorem dX6_text_131 : decode cX6_text 131 = .ok (.getfield 48, 3) := dk_180 0 48 (dk_at dksX6_text_5 16 rfl rfl)
theorem dX6_text_134 : decode cX6_text 134 = .ok (.aload_n 0, 1) := dk_42 (dk_at dksX6_text_5 19 rfl rfl)
theorem dX6_text_135 : decode cX6_text 135 = .ok (.getfield 52, 3) := dk_180 0 52 (dk_at dksX6_text_5 20 rfl rfl)
theorem dX6_text_138 : decode cX6_text 138 = .ok (.iconst 0, 1) := dk_3 (dk_at dksX6_text_5 23 rfl rfl)
theorem dX6_text_139 : decode cX6_text 139 = .ok (.aload_n 0, 1) := dk_42 (dk_at dksX6_text_6 0 rfl rfl)
theorem dX6_text_140 : decode cX6_text 140 = .ok (.getfield 52, 3) := dk_180 0 52 (dk_at dksX6_text_6 1 rfl rfl)
theorem dX6_text_143 : decode cX6_text 143 = .ok (.invokevirtual 214, 3) := dk_182 0 214 (dk_at dksX6_text_6 4 rfl rfl)
theorem dX6_text_146 : decode cX6_text 146 = .ok (.invokevirtual 437, 3) := dk_182 1 181 (dk_at dksX6_text_6 7 rfl rfl)
theorem dX6_text_149 : decode cX6_text 149 = .ok (.aload_n 0, 1) := dk_42 (dk_at dksX6_text_6 10 rfl rfl)
theorem dX6_text_150 : decode cX6_text 150 = .ok (.getfield 92, 3) := dk_180 0 92 (dk_at dksX6_text_6 11 rfl rfl)
theorem dX6_text_153 : decode cX6_text 153 = .ok (.iload_n 2, 1) := dk_28 (dk_at dksX6_text_6 14 rfl rfl)
theorem dX6_text_154 : decode cX6_text 154 = .ok (.aload_n 0, 1) := dk_42 (dk_at dksX6_text_6 15 rfl rfl)
theorem dX6_text_155 : decode cX6_text 155 = .ok (.getfield 52, 3) := dk_180 0 52 (dk_at dksX6_text_6 16 rfl rfl)
theorem dX6_text_158 : decode cX6_text 158 = .ok (.iconst 0, 1) := dk_3 (dk_at dksX6_text_6 19 rfl rfl)
theorem dX6_text_159 : decode cX6_text 159 = .ok (.aload_n 0, 1) := dk_42 (dk_at dksX6_text_6 20 rfl rfl)
theorem dX6_text_160 : decode cX6_text 160 = .ok (.getfield 52, 3) := dk_180 0 52 (dk_at dksX6_text_6 21 rfl rfl)
theorem dX6_text_163 : decode cX6_text 163 = .ok (.invokevirtual 214, 3) := dk_182 0 214 (dk_at dksX6_text_7 0 rfl rfl)
theorem dX6_text_166 : decode cX6_text 166 = .ok (.invokevirtual 440, 3) := dk_182 1 184 (dk_at dksX6_text_7 3 rfl rfl)
theorem dX6_text_169 : decode cX6_text 169 = .ok (.ireturn, 1) := dk_172 (dk_at dksX6_text_7 6 rfl rfl)
abbrev cX6_fault : ByteArray := prog_9_method_2_code
def yX6_fault : MethodName := ⟨RX6, "fault", "()I"⟩
theorem dX6_fault_0 : decode cX6_fault 0 = .ok (.aload_n 0, 1) := by decide +kernel
theorem dX6_fault_1 : decode cX6_fault 1 = .ok (.getfield 96, 3) := by decide +kernel
theorem dX6_fault_4 : decode cX6_fault 4 = .ok (.ireturn, 1) := by decide +kernel
abbrev cX6_place : ByteArray := prog_9_method_3_code
def yX6_place : MethodName := ⟨RX6, "place", "()I"⟩
theorem dX6_place_0 : decode cX6_place 0 = .ok (.aload_n 0, 1) := by decide +kernel
theorem dX6_place_1 : decode cX6_place 1 = .ok (.getfield 100, 3) := by decide +kernel
theorem dX6_place_4 : decode cX6_place 4 = .ok (.ireturn, 1) := by decide +kernel
abbrev cX6_tagCount : ByteArray := prog_9_method_29_code
def yX6_tagCount : MethodName := ⟨RX6, "tagCount", "(I)I"⟩
def dkwX6_tagCount_0 : List UInt8 := [42, 180, 0, 65, 27, 46, 172]
abbrev dktX6_tagCount_0 : List UInt8 := dkwX6_tagCount_0 ++ []
theorem dksX6_tagCount_0 : cX6_tagCount.data.toList.drop 0 = dktX6_tagCount_0 := by decide +kernel
theorem dX6_tagCount_0 : decode cX6_tagCount 0 = .ok (.aload_n 0, 1) := dk_42 (dk_at dksX6_tagCount_0 0 rfl rfl)
theorem dX6_tagCount_1 : decode cX6_tagCount 1 = .ok (.getfield 65, 3) := dk_180 0 65 (dk_at dksX6_tagCount_0 1 rfl rfl)
theorem dX6_tagCount_4 : decode cX6_tagCount 4 = .ok (.iload_n 1, 1) := dk_27 (dk_at dksX6_tagCount_0 4 rfl rfl)
theorem dX6_tagCount_5 : decode cX6_tagCount 5 = .ok (.iaload, 1) := dk_46 (dk_at dksX6_tagCount_0 5 rfl rfl)
theorem dX6_tagCount_6 : decode cX6_tagCount 6 = .ok (.ireturn, 1) := dk_172 (dk_at dksX6_tagCount_0 6 rfl rfl)
abbrev cX6_valueTo : ByteArray := prog_9_method_71_code
def yX6_valueTo : MethodName := ⟨RX6, "valueTo", "(I)I"⟩
def dkwX6_valueTo_0 : List UInt8 := [42, 180, 0, 59, 42, 180, 0, 83, 27, 182, 1, 10, 46, 172]
abbrev dktX6_valueTo_0 : List UInt8 := dkwX6_valueTo_0 ++ []
theorem dksX6_valueTo_0 : cX6_valueTo.data.toList.drop 0 = dktX6_valueTo_0 := by decide +kernel
theorem dX6_valueTo_0 : decode cX6_valueTo 0 = .ok (.aload_n 0, 1) := dk_42 (dk_at dksX6_valueTo_0 0 rfl rfl)
theorem dX6_valueTo_1 : decode cX6_valueTo 1 = .ok (.getfield 59, 3) := dk_180 0 59 (dk_at dksX6_valueTo_0 1 rfl rfl)
theorem dX6_valueTo_4 : decode cX6_valueTo 4 = .ok (.aload_n 0, 1) := dk_42 (dk_at dksX6_valueTo_0 4 rfl rfl)
theorem dX6_valueTo_5 : decode cX6_valueTo 5 = .ok (.getfield 83, 3) := dk_180 0 83 (dk_at dksX6_valueTo_0 5 rfl rfl)
theorem dX6_valueTo_8 : decode cX6_valueTo 8 = .ok (.iload_n 1, 1) := dk_27 (dk_at dksX6_valueTo_0 8 rfl rfl)
theorem dX6_valueTo_9 : decode cX6_valueTo 9 = .ok (.invokevirtual 266, 3) := dk_182 1 10 (dk_at dksX6_valueTo_0 9 rfl rfl)
theorem dX6_valueTo_12 : decode cX6_valueTo 12 = .ok (.iaload, 1) := dk_46 (dk_at dksX6_valueTo_0 12 rfl rfl)
theorem dX6_valueTo_13 : decode cX6_valueTo 13 = .ok (.ireturn, 1) := dk_172 (dk_at dksX6_valueTo_0 13 rfl rfl)
abbrev cX6_valueFrom : ByteArray := prog_9_method_70_code
def yX6_valueFrom : MethodName := ⟨RX6, "valueFrom", "(I)I"⟩
def dkwX6_valueFrom_0 : List UInt8 := [42, 180, 0, 55, 42, 180, 0, 83, 27, 182, 1, 10, 46, 172]
abbrev dktX6_valueFrom_0 : List UInt8 := dkwX6_valueFrom_0 ++ []
theorem dksX6_valueFrom_0 : cX6_valueFrom.data.toList.drop 0 = dktX6_valueFrom_0 := by decide +kernel
theorem dX6_valueFrom_0 : decode cX6_valueFrom 0 = .ok (.aload_n 0, 1) := dk_42 (dk_at dksX6_valueFrom_0 0 rfl rfl)
theorem dX6_valueFrom_1 : decode cX6_valueFrom 1 = .ok (.getfield 55, 3) := dk_180 0 55 (dk_at dksX6_valueFrom_0 1 rfl rfl)
theorem dX6_valueFrom_4 : decode cX6_valueFrom 4 = .ok (.aload_n 0, 1) := dk_42 (dk_at dksX6_valueFrom_0 4 rfl rfl)
theorem dX6_valueFrom_5 : decode cX6_valueFrom 5 = .ok (.getfield 83, 3) := dk_180 0 83 (dk_at dksX6_valueFrom_0 5 rfl rfl)
theorem dX6_valueFrom_8 : decode cX6_valueFrom 8 = .ok (.iload_n 1, 1) := dk_27 (dk_at dksX6_valueFrom_0 8 rfl rfl)
theorem dX6_valueFrom_9 : decode cX6_valueFrom 9 = .ok (.invokevirtual 266, 3) := dk_182 1 10 (dk_at dksX6_valueFrom_0 9 rfl rfl)
theorem dX6_valueFrom_12 : decode cX6_valueFrom 12 = .ok (.iaload, 1) := dk_46 (dk_at dksX6_valueFrom_0 12 rfl rfl)
theorem dX6_valueFrom_13 : decode cX6_valueFrom 13 = .ok (.ireturn, 1) := dk_172 (dk_at dksX6_valueFrom_0 13 rfl rfl)
abbrev cX6_pool : ByteArray := prog_9_method_69_code
def yX6_pool : MethodName := ⟨RX6, "pool", "()LSchemaWorkshop$Bytes;"⟩
theorem dX6_pool_0 : decode cX6_pool 0 = .ok (.aload_n 0, 1) := by decide +kernel
theorem dX6_pool_1 : decode cX6_pool 1 = .ok (.getfield 48, 3) := by decide +kernel
theorem dX6_pool_4 : decode cX6_pool 4 = .ok (.areturn, 1) := by decide +kernel
theorem q303 : (Jvm.Cond.initialized "SchemaWorkshop$Meaning") ∈ lw_all := lw_g (lw_at lw_m1 6 rfl) rfl
theorem q469 : (Jvm.Cond.fieldLinkNest "SchemaWorkshop$Meaning" (175 : Nat) "SchemaWorkshop$Tree" "first" "I" "SchemaWorkshop") ∈ lw_tbl := lw_at lw_m1 172 rfl
theorem q474 : (Jvm.Cond.fieldLinkNest "SchemaWorkshop$Meaning" (248 : Nat) "SchemaWorkshop$Tree" "types" "I" "SchemaWorkshop") ∈ lw_tbl := lw_at lw_m1 177 rfl
theorem q480 : (Jvm.Cond.fieldLinkNest "SchemaWorkshop$Meaning" (294 : Nat) "SchemaWorkshop$Tree" "isImplicit" "Z" "SchemaWorkshop") ∈ lw_tbl := lw_at lw_m1 183 rfl
theorem q517 : (Jvm.Cond.instantiable "SchemaWorkshop$Meaning" (25 : Nat)) ∈ lw_all := lw_g (lw_at lw_m1 220 rfl) rfl
theorem q519 : (Jvm.Cond.instanceMethod ({ cls := "SchemaWorkshop$Meaning", name := "<init>", desc := "(LSchemaWorkshop$Tree;)V" } : Jvm.MethodName)) ∈ lw_all := lw_g (lw_at lw_m1 222 rfl) rfl
theorem q520 : (Jvm.Cond.code ({ cls := "SchemaWorkshop$Meaning", name := "<init>", desc := "(LSchemaWorkshop$Tree;)V" } : Jvm.MethodName) prog_9_method_1_code (2 : Nat) (Option.none : Option Jvm.ClassFile.FieldType)) ∈ lw_all := lw_g (lw_at lw_m1 223 rfl) rfl
theorem q521 : (Jvm.Cond.methodLink "SchemaWorkshop$Meaning" (3 : Nat) ({ cls := "java/lang/Object", name := "<init>", desc := "()V" } : Jvm.MethodName)) ∈ lw_all := lw_g (lw_at lw_m1 224 rfl) rfl
theorem q522 : (Jvm.Cond.classLink "SchemaWorkshop$Meaning" (9 : Nat) "SchemaWorkshop$Numbers") ∈ lw_all := lw_g (lw_at lw_m1 225 rfl) rfl
theorem q524 : (Jvm.Cond.methodLinkNest "SchemaWorkshop$Meaning" (11 : Nat) ({ cls := "SchemaWorkshop$Numbers", name := "<init>", desc := "()V" } : Jvm.MethodName) "SchemaWorkshop") ∈ lw_tbl := lw_at lw_m1 227 rfl
theorem q535 : (Jvm.Cond.classLink "SchemaWorkshop$Meaning" (18 : Nat) "SchemaWorkshop$Times") ∈ lw_all := lw_g (lw_at lw_m1 238 rfl) rfl
theorem q537 : (Jvm.Cond.methodLinkNest "SchemaWorkshop$Meaning" (20 : Nat) ({ cls := "SchemaWorkshop$Times", name := "<init>", desc := "()V" } : Jvm.MethodName) "SchemaWorkshop") ∈ lw_tbl := lw_at lw_m2 0 rfl
theorem q574 : (Jvm.Cond.classLink "SchemaWorkshop$Meaning" (25 : Nat) "SchemaWorkshop$Names") ∈ lw_all := lw_g (lw_at lw_m2 37 rfl) rfl
theorem q576 : (Jvm.Cond.methodLinkNest "SchemaWorkshop$Meaning" (27 : Nat) ({ cls := "SchemaWorkshop$Names", name := "<init>", desc := "()V" } : Jvm.MethodName) "SchemaWorkshop") ∈ lw_tbl := lw_at lw_m2 39 rfl
theorem q593 : (Jvm.Cond.classLink "SchemaWorkshop$Meaning" (38 : Nat) "SchemaWorkshop$Marks") ∈ lw_all := lw_g (lw_at lw_m2 56 rfl) rfl
theorem q595 : (Jvm.Cond.methodLinkNest "SchemaWorkshop$Meaning" (40 : Nat) ({ cls := "SchemaWorkshop$Marks", name := "<init>", desc := "()V" } : Jvm.MethodName) "SchemaWorkshop") ∈ lw_tbl := lw_at lw_m2 58 rfl
theorem q606 : (Jvm.Cond.classLink "SchemaWorkshop$Meaning" (45 : Nat) "SchemaWorkshop$Bytes") ∈ lw_all := lw_g (lw_at lw_m2 69 rfl) rfl
theorem q607 : (Jvm.Cond.methodLinkNest "SchemaWorkshop$Meaning" (47 : Nat) ({ cls := "SchemaWorkshop$Bytes", name := "<init>", desc := "()V" } : Jvm.MethodName) "SchemaWorkshop") ∈ lw_tbl := lw_at lw_m2 70 rfl
theorem q608 : (Jvm.Cond.classLink "SchemaWorkshop$Meaning" (87 : Nat) "SchemaWorkshop$Forms") ∈ lw_all := lw_g (lw_at lw_m2 71 rfl) rfl
theorem q610 : (Jvm.Cond.methodLink "SchemaWorkshop$Meaning" (89 : Nat) ({ cls := "SchemaWorkshop$Forms", name := "<init>", desc := "(LSchemaWorkshop$Numbers;)V" } : Jvm.MethodName)) ∈ lw_all := lw_g (lw_at lw_m2 73 rfl) rfl
theorem q627 : (Jvm.Cond.fieldLink "SchemaWorkshop$Meaning" (103 : Nat) "SchemaWorkshop$Meaning" "row" "LSchemaWorkshop$Lexemes;") ∈ lw_all := lw_g (lw_at lw_m2 90 rfl) rfl
theorem q628 : (Jvm.Cond.fieldLink "SchemaWorkshop$Meaning" (83 : Nat) "SchemaWorkshop$Meaning" "tree" "LSchemaWorkshop$Tree;") ∈ lw_all := lw_g (lw_at lw_m2 91 rfl) rfl
theorem q629 : (Jvm.Cond.fieldLink "SchemaWorkshop$Meaning" (12 : Nat) "SchemaWorkshop$Meaning" "numbers" "LSchemaWorkshop$Numbers;") ∈ lw_all := lw_g (lw_at lw_m2 92 rfl) rfl
theorem q630 : (Jvm.Cond.fieldLink "SchemaWorkshop$Meaning" (21 : Nat) "SchemaWorkshop$Meaning" "times" "LSchemaWorkshop$Times;") ∈ lw_all := lw_g (lw_at lw_m2 93 rfl) rfl
theorem q631 : (Jvm.Cond.fieldLink "SchemaWorkshop$Meaning" (92 : Nat) "SchemaWorkshop$Meaning" "forms" "LSchemaWorkshop$Forms;") ∈ lw_all := lw_g (lw_at lw_m2 94 rfl) rfl
theorem q632 : (Jvm.Cond.fieldLink "SchemaWorkshop$Meaning" (28 : Nat) "SchemaWorkshop$Meaning" "types" "LSchemaWorkshop$Names;") ∈ lw_all := lw_g (lw_at lw_m2 95 rfl) rfl
theorem q633 : (Jvm.Cond.fieldLink "SchemaWorkshop$Meaning" (32 : Nat) "SchemaWorkshop$Meaning" "constants" "LSchemaWorkshop$Names;") ∈ lw_all := lw_g (lw_at lw_m2 96 rfl) rfl
theorem q634 : (Jvm.Cond.fieldLink "SchemaWorkshop$Meaning" (35 : Nat) "SchemaWorkshop$Meaning" "local" "LSchemaWorkshop$Names;") ∈ lw_all := lw_g (lw_at lw_m2 97 rfl) rfl
theorem q635 : (Jvm.Cond.fieldLink "SchemaWorkshop$Meaning" (41 : Nat) "SchemaWorkshop$Meaning" "marks" "LSchemaWorkshop$Marks;") ∈ lw_all := lw_g (lw_at lw_m2 98 rfl) rfl
theorem q636 : (Jvm.Cond.fieldLink "SchemaWorkshop$Meaning" (48 : Nat) "SchemaWorkshop$Meaning" "pool" "LSchemaWorkshop$Bytes;") ∈ lw_all := lw_g (lw_at lw_m2 99 rfl) rfl
theorem q637 : (Jvm.Cond.fieldLink "SchemaWorkshop$Meaning" (52 : Nat) "SchemaWorkshop$Meaning" "spare" "LSchemaWorkshop$Bytes;") ∈ lw_all := lw_g (lw_at lw_m2 100 rfl) rfl
theorem q638 : (Jvm.Cond.fieldLink "SchemaWorkshop$Meaning" (55 : Nat) "SchemaWorkshop$Meaning" "from" "[I") ∈ lw_all := lw_g (lw_at lw_m2 101 rfl) rfl
theorem q639 : (Jvm.Cond.fieldLink "SchemaWorkshop$Meaning" (59 : Nat) "SchemaWorkshop$Meaning" "to" "[I") ∈ lw_all := lw_g (lw_at lw_m2 102 rfl) rfl
theorem q640 : (Jvm.Cond.fieldLink "SchemaWorkshop$Meaning" (62 : Nat) "SchemaWorkshop$Meaning" "tagFrom" "[I") ∈ lw_all := lw_g (lw_at lw_m2 103 rfl) rfl
theorem q641 : (Jvm.Cond.fieldLink "SchemaWorkshop$Meaning" (65 : Nat) "SchemaWorkshop$Meaning" "tagCount" "[I") ∈ lw_all := lw_g (lw_at lw_m2 104 rfl) rfl
theorem q642 : (Jvm.Cond.fieldLink "SchemaWorkshop$Meaning" (68 : Nat) "SchemaWorkshop$Meaning" "state" "[I") ∈ lw_all := lw_g (lw_at lw_m2 105 rfl) rfl
theorem q643 : (Jvm.Cond.fieldLink "SchemaWorkshop$Meaning" (71 : Nat) "SchemaWorkshop$Meaning" "bases" "[I") ∈ lw_all := lw_g (lw_at lw_m2 106 rfl) rfl
theorem q644 : (Jvm.Cond.fieldLink "SchemaWorkshop$Meaning" (74 : Nat) "SchemaWorkshop$Meaning" "tags" "[I") ∈ lw_all := lw_g (lw_at lw_m2 107 rfl) rfl
theorem q645 : (Jvm.Cond.fieldLink "SchemaWorkshop$Meaning" (141 : Nat) "SchemaWorkshop$Meaning" "tagSize" "I") ∈ lw_all := lw_g (lw_at lw_m2 108 rfl) rfl
theorem q646 : (Jvm.Cond.fieldLink "SchemaWorkshop$Meaning" (77 : Nat) "SchemaWorkshop$Meaning" "stack" "[I") ∈ lw_all := lw_g (lw_at lw_m2 109 rfl) rfl
theorem q647 : (Jvm.Cond.fieldLink "SchemaWorkshop$Meaning" (96 : Nat) "SchemaWorkshop$Meaning" "fault" "I") ∈ lw_all := lw_g (lw_at lw_m2 110 rfl) rfl
theorem q648 : (Jvm.Cond.fieldLink "SchemaWorkshop$Meaning" (100 : Nat) "SchemaWorkshop$Meaning" "place" "I") ∈ lw_all := lw_g (lw_at lw_m2 111 rfl) rfl
theorem q649 : (Jvm.Cond.fieldLink "SchemaWorkshop$Meaning" (80 : Nat) "SchemaWorkshop$Meaning" "found" "[I") ∈ lw_all := lw_g (lw_at lw_m2 112 rfl) rfl
theorem q650 : (Jvm.Cond.fieldLink "SchemaWorkshop$Meaning" (298 : Nat) "SchemaWorkshop$Meaning" "founds" "I") ∈ lw_all := lw_g (lw_at lw_m2 113 rfl) rfl
theorem q651 : (Jvm.Cond.fieldLink "SchemaWorkshop$Meaning" (301 : Nat) "SchemaWorkshop$Meaning" "turn" "I") ∈ lw_all := lw_g (lw_at lw_m2 114 rfl) rfl
theorem q652 : (Jvm.Cond.lays "SchemaWorkshop$Meaning" "SchemaWorkshop$Meaning" "row" "LSchemaWorkshop$Lexemes;") ∈ lw_all := lw_g (lw_at lw_m2 115 rfl) rfl
theorem q653 : (Jvm.Cond.soleField "SchemaWorkshop$Meaning" "row") ∈ lw_all := lw_g (lw_at lw_m2 116 rfl) rfl
theorem q654 : (Jvm.Cond.laysFinal "SchemaWorkshop$Meaning" "SchemaWorkshop$Meaning" "tree" "LSchemaWorkshop$Tree;") ∈ lw_all := lw_g (lw_at lw_m2 117 rfl) rfl
theorem q655 : (Jvm.Cond.soleField "SchemaWorkshop$Meaning" "tree") ∈ lw_all := lw_g (lw_at lw_m2 118 rfl) rfl
theorem q656 : (Jvm.Cond.laysFinal "SchemaWorkshop$Meaning" "SchemaWorkshop$Meaning" "numbers" "LSchemaWorkshop$Numbers;") ∈ lw_all := lw_g (lw_at lw_m2 119 rfl) rfl
theorem q657 : (Jvm.Cond.soleField "SchemaWorkshop$Meaning" "numbers") ∈ lw_all := lw_g (lw_at lw_m2 120 rfl) rfl
theorem q658 : (Jvm.Cond.laysFinal "SchemaWorkshop$Meaning" "SchemaWorkshop$Meaning" "times" "LSchemaWorkshop$Times;") ∈ lw_all := lw_g (lw_at lw_m2 121 rfl) rfl
theorem q659 : (Jvm.Cond.soleField "SchemaWorkshop$Meaning" "times") ∈ lw_all := lw_g (lw_at lw_m2 122 rfl) rfl
theorem q660 : (Jvm.Cond.laysFinal "SchemaWorkshop$Meaning" "SchemaWorkshop$Meaning" "forms" "LSchemaWorkshop$Forms;") ∈ lw_all := lw_g (lw_at lw_m2 123 rfl) rfl
theorem q661 : (Jvm.Cond.soleField "SchemaWorkshop$Meaning" "forms") ∈ lw_all := lw_g (lw_at lw_m2 124 rfl) rfl
theorem q662 : (Jvm.Cond.laysFinal "SchemaWorkshop$Meaning" "SchemaWorkshop$Meaning" "types" "LSchemaWorkshop$Names;") ∈ lw_all := lw_g (lw_at lw_m2 125 rfl) rfl
theorem q663 : (Jvm.Cond.soleField "SchemaWorkshop$Meaning" "types") ∈ lw_all := lw_g (lw_at lw_m2 126 rfl) rfl
theorem q664 : (Jvm.Cond.laysFinal "SchemaWorkshop$Meaning" "SchemaWorkshop$Meaning" "constants" "LSchemaWorkshop$Names;") ∈ lw_all := lw_g (lw_at lw_m2 127 rfl) rfl
theorem q665 : (Jvm.Cond.soleField "SchemaWorkshop$Meaning" "constants") ∈ lw_all := lw_g (lw_at lw_m2 128 rfl) rfl
theorem q666 : (Jvm.Cond.laysFinal "SchemaWorkshop$Meaning" "SchemaWorkshop$Meaning" "local" "LSchemaWorkshop$Names;") ∈ lw_all := lw_g (lw_at lw_m2 129 rfl) rfl
theorem q667 : (Jvm.Cond.soleField "SchemaWorkshop$Meaning" "local") ∈ lw_all := lw_g (lw_at lw_m2 130 rfl) rfl
theorem q668 : (Jvm.Cond.laysFinal "SchemaWorkshop$Meaning" "SchemaWorkshop$Meaning" "marks" "LSchemaWorkshop$Marks;") ∈ lw_all := lw_g (lw_at lw_m2 131 rfl) rfl
theorem q669 : (Jvm.Cond.soleField "SchemaWorkshop$Meaning" "marks") ∈ lw_all := lw_g (lw_at lw_m2 132 rfl) rfl
theorem q670 : (Jvm.Cond.laysFinal "SchemaWorkshop$Meaning" "SchemaWorkshop$Meaning" "pool" "LSchemaWorkshop$Bytes;") ∈ lw_all := lw_g (lw_at lw_m2 133 rfl) rfl
theorem q671 : (Jvm.Cond.soleField "SchemaWorkshop$Meaning" "pool") ∈ lw_all := lw_g (lw_at lw_m2 134 rfl) rfl
theorem q672 : (Jvm.Cond.laysFinal "SchemaWorkshop$Meaning" "SchemaWorkshop$Meaning" "spare" "LSchemaWorkshop$Bytes;") ∈ lw_all := lw_g (lw_at lw_m2 135 rfl) rfl
theorem q673 : (Jvm.Cond.soleField "SchemaWorkshop$Meaning" "spare") ∈ lw_all := lw_g (lw_at lw_m2 136 rfl) rfl
theorem q674 : (Jvm.Cond.lays "SchemaWorkshop$Meaning" "SchemaWorkshop$Meaning" "from" "[I") ∈ lw_all := lw_g (lw_at lw_m2 137 rfl) rfl
theorem q675 : (Jvm.Cond.soleField "SchemaWorkshop$Meaning" "from") ∈ lw_all := lw_g (lw_at lw_m2 138 rfl) rfl
theorem q676 : (Jvm.Cond.lays "SchemaWorkshop$Meaning" "SchemaWorkshop$Meaning" "to" "[I") ∈ lw_all := lw_g (lw_at lw_m2 139 rfl) rfl
theorem q677 : (Jvm.Cond.soleField "SchemaWorkshop$Meaning" "to") ∈ lw_all := lw_g (lw_at lw_m2 140 rfl) rfl
theorem q678 : (Jvm.Cond.lays "SchemaWorkshop$Meaning" "SchemaWorkshop$Meaning" "tagFrom" "[I") ∈ lw_all := lw_g (lw_at lw_m2 141 rfl) rfl
theorem q679 : (Jvm.Cond.soleField "SchemaWorkshop$Meaning" "tagFrom") ∈ lw_all := lw_g (lw_at lw_m2 142 rfl) rfl
theorem q680 : (Jvm.Cond.lays "SchemaWorkshop$Meaning" "SchemaWorkshop$Meaning" "tagCount" "[I") ∈ lw_all := lw_g (lw_at lw_m2 143 rfl) rfl
theorem q681 : (Jvm.Cond.soleField "SchemaWorkshop$Meaning" "tagCount") ∈ lw_all := lw_g (lw_at lw_m2 144 rfl) rfl
theorem q682 : (Jvm.Cond.lays "SchemaWorkshop$Meaning" "SchemaWorkshop$Meaning" "state" "[I") ∈ lw_all := lw_g (lw_at lw_m2 145 rfl) rfl
theorem q683 : (Jvm.Cond.soleField "SchemaWorkshop$Meaning" "state") ∈ lw_all := lw_g (lw_at lw_m2 146 rfl) rfl
theorem q684 : (Jvm.Cond.lays "SchemaWorkshop$Meaning" "SchemaWorkshop$Meaning" "bases" "[I") ∈ lw_all := lw_g (lw_at lw_m2 147 rfl) rfl
theorem q685 : (Jvm.Cond.soleField "SchemaWorkshop$Meaning" "bases") ∈ lw_all := lw_g (lw_at lw_m2 148 rfl) rfl
theorem q686 : (Jvm.Cond.lays "SchemaWorkshop$Meaning" "SchemaWorkshop$Meaning" "tags" "[I") ∈ lw_all := lw_g (lw_at lw_m2 149 rfl) rfl
theorem q687 : (Jvm.Cond.soleField "SchemaWorkshop$Meaning" "tags") ∈ lw_all := lw_g (lw_at lw_m2 150 rfl) rfl
theorem q688 : (Jvm.Cond.lays "SchemaWorkshop$Meaning" "SchemaWorkshop$Meaning" "tagSize" "I") ∈ lw_all := lw_g (lw_at lw_m2 151 rfl) rfl
theorem q689 : (Jvm.Cond.soleField "SchemaWorkshop$Meaning" "tagSize") ∈ lw_all := lw_g (lw_at lw_m2 152 rfl) rfl
theorem q690 : (Jvm.Cond.lays "SchemaWorkshop$Meaning" "SchemaWorkshop$Meaning" "stack" "[I") ∈ lw_all := lw_g (lw_at lw_m2 153 rfl) rfl
theorem q691 : (Jvm.Cond.soleField "SchemaWorkshop$Meaning" "stack") ∈ lw_all := lw_g (lw_at lw_m2 154 rfl) rfl
theorem q692 : (Jvm.Cond.lays "SchemaWorkshop$Meaning" "SchemaWorkshop$Meaning" "fault" "I") ∈ lw_all := lw_g (lw_at lw_m2 155 rfl) rfl
theorem q693 : (Jvm.Cond.soleField "SchemaWorkshop$Meaning" "fault") ∈ lw_all := lw_g (lw_at lw_m2 156 rfl) rfl
theorem q694 : (Jvm.Cond.lays "SchemaWorkshop$Meaning" "SchemaWorkshop$Meaning" "place" "I") ∈ lw_all := lw_g (lw_at lw_m2 157 rfl) rfl
theorem q695 : (Jvm.Cond.soleField "SchemaWorkshop$Meaning" "place") ∈ lw_all := lw_g (lw_at lw_m2 158 rfl) rfl
theorem q696 : (Jvm.Cond.lays "SchemaWorkshop$Meaning" "SchemaWorkshop$Meaning" "found" "[I") ∈ lw_all := lw_g (lw_at lw_m2 159 rfl) rfl
theorem q697 : (Jvm.Cond.soleField "SchemaWorkshop$Meaning" "found") ∈ lw_all := lw_g (lw_at lw_m2 160 rfl) rfl
theorem q698 : (Jvm.Cond.lays "SchemaWorkshop$Meaning" "SchemaWorkshop$Meaning" "founds" "I") ∈ lw_all := lw_g (lw_at lw_m2 161 rfl) rfl
theorem q699 : (Jvm.Cond.soleField "SchemaWorkshop$Meaning" "founds") ∈ lw_all := lw_g (lw_at lw_m2 162 rfl) rfl
theorem q700 : (Jvm.Cond.lays "SchemaWorkshop$Meaning" "SchemaWorkshop$Meaning" "turn" "I") ∈ lw_all := lw_g (lw_at lw_m2 163 rfl) rfl
theorem q701 : (Jvm.Cond.soleField "SchemaWorkshop$Meaning" "turn") ∈ lw_all := lw_g (lw_at lw_m2 164 rfl) rfl
theorem q702 : (Jvm.Cond.superclass "SchemaWorkshop$Meaning" "java/lang/Object") ∈ lw_all := lw_g (lw_at lw_m2 165 rfl) rfl
theorem q1424 : (Jvm.Cond.instanceMethod ({ cls := "SchemaWorkshop$Meaning", name := "check", desc := "(LSchemaWorkshop$Lexemes;)Z" } : Jvm.MethodName)) ∈ lw_all := lw_g (lw_at lw_m5 167 rfl) rfl
theorem q1425 : (Jvm.Cond.selects "SchemaWorkshop$Meaning" ({ cls := "SchemaWorkshop$Meaning", name := "check", desc := "(LSchemaWorkshop$Lexemes;)Z" } : Jvm.MethodName) ({ cls := "SchemaWorkshop$Meaning", name := "check", desc := "(LSchemaWorkshop$Lexemes;)Z" } : Jvm.MethodName)) ∈ lw_all := lw_g (lw_at lw_m5 168 rfl) rfl
theorem q1426 : (Jvm.Cond.code ({ cls := "SchemaWorkshop$Meaning", name := "check", desc := "(LSchemaWorkshop$Lexemes;)Z" } : Jvm.MethodName) prog_9_method_7_code (4 : Nat) (Option.some Jvm.ClassFile.FieldType.boolean)) ∈ lw_all := lw_g (lw_at lw_m5 169 rfl) rfl
theorem q1427 : (Jvm.Cond.methodLink "SchemaWorkshop$Meaning" (130 : Nat) ({ cls := "SchemaWorkshop$Tree", name := "size", desc := "()I" } : Jvm.MethodName)) ∈ lw_all := lw_g (lw_at lw_m5 170 rfl) rfl
theorem q1431 : (Jvm.Cond.methodLink "SchemaWorkshop$Meaning" (134 : Nat) ({ cls := "SchemaWorkshop$Meaning", name := "grown", desc := "([II)[I" } : Jvm.MethodName)) ∈ lw_all := lw_g (lw_at lw_m5 174 rfl) rfl
theorem q1432 : (Jvm.Cond.static ({ cls := "SchemaWorkshop$Meaning", name := "grown", desc := "([II)[I" } : Jvm.MethodName)) ∈ lw_all := lw_g (lw_at lw_m5 175 rfl) rfl
theorem q1433 : (Jvm.Cond.code ({ cls := "SchemaWorkshop$Meaning", name := "grown", desc := "([II)[I" } : Jvm.MethodName) prog_9_method_5_code (3 : Nat) (Option.some (Jvm.ClassFile.FieldType.array Jvm.ClassFile.FieldType.int))) ∈ lw_all := lw_g (lw_at lw_m5 176 rfl) rfl
theorem q1434 : (Jvm.Cond.methodLink "SchemaWorkshop$Meaning" (113 : Nat) ({ cls := "java/lang/Math", name := "max", desc := "(II)I" } : Jvm.MethodName)) ∈ lw_all := lw_g (lw_at lw_m5 177 rfl) rfl
theorem q1435 : (Jvm.Cond.methodLink "SchemaWorkshop$Meaning" (119 : Nat) ({ cls := "java/lang/System", name := "arraycopy", desc := "(Ljava/lang/Object;ILjava/lang/Object;II)V" } : Jvm.MethodName)) ∈ lw_all := lw_g (lw_at lw_m5 178 rfl) rfl
theorem q1436 : (Jvm.Cond.methodLink "SchemaWorkshop$Meaning" (138 : Nat) ({ cls := "SchemaWorkshop$Bytes", name := "clear", desc := "()V" } : Jvm.MethodName)) ∈ lw_all := lw_g (lw_at lw_m5 179 rfl) rfl
theorem q1437 : (Jvm.Cond.methodLink "SchemaWorkshop$Meaning" (144 : Nat) ({ cls := "SchemaWorkshop$Names", name := "clear", desc := "(LSchemaWorkshop$Lexemes;)V" } : Jvm.MethodName)) ∈ lw_all := lw_g (lw_at lw_m5 180 rfl) rfl
theorem q1441 : (Jvm.Cond.methodLink "SchemaWorkshop$Meaning" (147 : Nat) ({ cls := "SchemaWorkshop$Meaning", name := "assigned", desc := "()Z" } : Jvm.MethodName)) ∈ lw_all := lw_g (lw_at lw_m5 184 rfl) rfl
theorem q1442 : (Jvm.Cond.privateMethod ({ cls := "SchemaWorkshop$Meaning", name := "assigned", desc := "()Z" } : Jvm.MethodName)) ∈ lw_tbl := lw_at lw_m5 185 rfl
theorem q1443 : (Jvm.Cond.instanceMethod ({ cls := "SchemaWorkshop$Meaning", name := "assigned", desc := "()Z" } : Jvm.MethodName)) ∈ lw_all := lw_g (lw_at lw_m5 186 rfl) rfl
theorem q1444 : (Jvm.Cond.code ({ cls := "SchemaWorkshop$Meaning", name := "assigned", desc := "()Z" } : Jvm.MethodName) prog_9_method_8_code (3 : Nat) (Option.some Jvm.ClassFile.FieldType.boolean)) ∈ lw_all := lw_g (lw_at lw_m5 187 rfl) rfl
theorem q1445 : (Jvm.Cond.methodLink "SchemaWorkshop$Meaning" (125 : Nat) ({ cls := "SchemaWorkshop$Tree", name := "kind", desc := "(I)I" } : Jvm.MethodName)) ∈ lw_all := lw_g (lw_at lw_m5 188 rfl) rfl
theorem q1449 : (Jvm.Cond.methodLink "SchemaWorkshop$Meaning" (178 : Nat) ({ cls := "SchemaWorkshop$Tree", name := "lexeme", desc := "(I)I" } : Jvm.MethodName)) ∈ lw_all := lw_g (lw_at lw_m5 192 rfl) rfl
theorem q1453 : (Jvm.Cond.methodLink "SchemaWorkshop$Meaning" (181 : Nat) ({ cls := "SchemaWorkshop$Names", name := "put", desc := "(II)Z" } : Jvm.MethodName)) ∈ lw_all := lw_g (lw_at lw_m5 196 rfl) rfl
theorem q1478 : (Jvm.Cond.methodLink "SchemaWorkshop$Meaning" (185 : Nat) ({ cls := "SchemaWorkshop$Meaning", name := "blame", desc := "(II)V" } : Jvm.MethodName)) ∈ lw_all := lw_g (lw_at lw_m5 221 rfl) rfl
theorem q1479 : (Jvm.Cond.privateMethod ({ cls := "SchemaWorkshop$Meaning", name := "blame", desc := "(II)V" } : Jvm.MethodName)) ∈ lw_tbl := lw_at lw_m5 222 rfl
theorem q1480 : (Jvm.Cond.instanceMethod ({ cls := "SchemaWorkshop$Meaning", name := "blame", desc := "(II)V" } : Jvm.MethodName)) ∈ lw_all := lw_g (lw_at lw_m5 223 rfl) rfl
theorem q1481 : (Jvm.Cond.code ({ cls := "SchemaWorkshop$Meaning", name := "blame", desc := "(II)V" } : Jvm.MethodName) prog_9_method_4_code (3 : Nat) (Option.none : Option Jvm.ClassFile.FieldType)) ∈ lw_all := lw_g (lw_at lw_m5 224 rfl) rfl
theorem q1482 : (Jvm.Cond.methodLink "SchemaWorkshop$Meaning" (107 : Nat) ({ cls := "SchemaWorkshop$Lexemes", name := "start", desc := "(I)I" } : Jvm.MethodName)) ∈ lw_all := lw_g (lw_at lw_m5 225 rfl) rfl
theorem q1483 : (Jvm.Cond.methodLink "SchemaWorkshop$Meaning" (189 : Nat) ({ cls := "SchemaWorkshop$Tree", name := "next", desc := "(I)I" } : Jvm.MethodName)) ∈ lw_all := lw_g (lw_at lw_m5 226 rfl) rfl
theorem q1484 : (Jvm.Cond.methodLink "SchemaWorkshop$Meaning" (151 : Nat) ({ cls := "SchemaWorkshop$Meaning", name := "lists", desc := "()Z" } : Jvm.MethodName)) ∈ lw_all := lw_g (lw_at lw_m5 227 rfl) rfl
theorem q1485 : (Jvm.Cond.privateMethod ({ cls := "SchemaWorkshop$Meaning", name := "lists", desc := "()Z" } : Jvm.MethodName)) ∈ lw_tbl := lw_at lw_m5 228 rfl
theorem q1486 : (Jvm.Cond.instanceMethod ({ cls := "SchemaWorkshop$Meaning", name := "lists", desc := "()Z" } : Jvm.MethodName)) ∈ lw_all := lw_g (lw_at lw_m5 229 rfl) rfl
theorem q1487 : (Jvm.Cond.code ({ cls := "SchemaWorkshop$Meaning", name := "lists", desc := "()Z" } : Jvm.MethodName) prog_9_method_9_code (3 : Nat) (Option.some Jvm.ClassFile.FieldType.boolean)) ∈ lw_all := lw_g (lw_at lw_m5 230 rfl) rfl
theorem q1488 : (Jvm.Cond.methodLink "SchemaWorkshop$Meaning" (192 : Nat) ({ cls := "SchemaWorkshop$Meaning", name := "isType", desc := "(I)Z" } : Jvm.MethodName)) ∈ lw_all := lw_g (lw_at lw_m5 231 rfl) rfl
theorem q1489 : (Jvm.Cond.privateMethod ({ cls := "SchemaWorkshop$Meaning", name := "isType", desc := "(I)Z" } : Jvm.MethodName)) ∈ lw_tbl := lw_at lw_m5 232 rfl
theorem q1490 : (Jvm.Cond.instanceMethod ({ cls := "SchemaWorkshop$Meaning", name := "isType", desc := "(I)Z" } : Jvm.MethodName)) ∈ lw_all := lw_g (lw_at lw_m5 233 rfl) rfl
theorem q1491 : (Jvm.Cond.code ({ cls := "SchemaWorkshop$Meaning", name := "isType", desc := "(I)Z" } : Jvm.MethodName) prog_9_method_6_code (2 : Nat) (Option.some Jvm.ClassFile.FieldType.boolean)) ∈ lw_all := lw_g (lw_at lw_m5 234 rfl) rfl
theorem q1492 : (Jvm.Cond.methodLink "SchemaWorkshop$Meaning" (196 : Nat) ({ cls := "SchemaWorkshop$Tree", name := "parts", desc := "(I)I" } : Jvm.MethodName)) ∈ lw_all := lw_g (lw_at lw_m5 235 rfl) rfl
theorem q1496 : (Jvm.Cond.methodLink "SchemaWorkshop$Meaning" (199 : Nat) ({ cls := "SchemaWorkshop$Meaning", name := "itemNumbers", desc := "(I)V" } : Jvm.MethodName)) ∈ lw_all := lw_g (lw_at lw_m5 239 rfl) rfl
theorem q1497 : (Jvm.Cond.privateMethod ({ cls := "SchemaWorkshop$Meaning", name := "itemNumbers", desc := "(I)V" } : Jvm.MethodName)) ∈ lw_tbl := lw_at lw_m6 0 rfl
theorem q1498 : (Jvm.Cond.instanceMethod ({ cls := "SchemaWorkshop$Meaning", name := "itemNumbers", desc := "(I)V" } : Jvm.MethodName)) ∈ lw_all := lw_g (lw_at lw_m6 1 rfl) rfl
theorem q1499 : (Jvm.Cond.code ({ cls := "SchemaWorkshop$Meaning", name := "itemNumbers", desc := "(I)V" } : Jvm.MethodName) prog_9_method_12_code (4 : Nat) (Option.none : Option Jvm.ClassFile.FieldType)) ∈ lw_all := lw_g (lw_at lw_m6 2 rfl) rfl
theorem q1500 : (Jvm.Cond.methodLink "SchemaWorkshop$Meaning" (223 : Nat) ({ cls := "SchemaWorkshop$Tree", name := "at", desc := "(II)I" } : Jvm.MethodName)) ∈ lw_all := lw_g (lw_at lw_m6 3 rfl) rfl
theorem q1501 : (Jvm.Cond.methodLink "SchemaWorkshop$Meaning" (226 : Nat) ({ cls := "SchemaWorkshop$Meaning", name := "number", desc := "(IIZ)V" } : Jvm.MethodName)) ∈ lw_all := lw_g (lw_at lw_m6 4 rfl) rfl
theorem q1502 : (Jvm.Cond.privateMethod ({ cls := "SchemaWorkshop$Meaning", name := "number", desc := "(IIZ)V" } : Jvm.MethodName)) ∈ lw_tbl := lw_at lw_m6 5 rfl
theorem q1503 : (Jvm.Cond.instanceMethod ({ cls := "SchemaWorkshop$Meaning", name := "number", desc := "(IIZ)V" } : Jvm.MethodName)) ∈ lw_all := lw_g (lw_at lw_m6 6 rfl) rfl
theorem q1504 : (Jvm.Cond.code ({ cls := "SchemaWorkshop$Meaning", name := "number", desc := "(IIZ)V" } : Jvm.MethodName) prog_9_method_10_code (4 : Nat) (Option.none : Option Jvm.ClassFile.FieldType)) ∈ lw_all := lw_g (lw_at lw_m6 7 rfl) rfl
theorem q1505 : (Jvm.Cond.methodLink "SchemaWorkshop$Meaning" (203 : Nat) ({ cls := "SchemaWorkshop$Lexemes", name := "text", desc := "()LSchemaWorkshop$Bytes;" } : Jvm.MethodName)) ∈ lw_all := lw_g (lw_at lw_m6 8 rfl) rfl
theorem q1506 : (Jvm.Cond.methodLink "SchemaWorkshop$Meaning" (207 : Nat) ({ cls := "SchemaWorkshop$Lexemes", name := "end", desc := "(I)I" } : Jvm.MethodName)) ∈ lw_all := lw_g (lw_at lw_m6 9 rfl) rfl
theorem q1507 : (Jvm.Cond.methodLink "SchemaWorkshop$Meaning" (210 : Nat) ({ cls := "SchemaWorkshop$Numbers", name := "read", desc := "(LSchemaWorkshop$Bytes;II)V" } : Jvm.MethodName)) ∈ lw_all := lw_g (lw_at lw_m6 10 rfl) rfl
theorem q1524 : (Jvm.Cond.methodLink "SchemaWorkshop$Meaning" (214 : Nat) ({ cls := "SchemaWorkshop$Bytes", name := "size", desc := "()I" } : Jvm.MethodName)) ∈ lw_all := lw_g (lw_at lw_m6 27 rfl) rfl
theorem q1525 : (Jvm.Cond.methodLink "SchemaWorkshop$Meaning" (215 : Nat) ({ cls := "SchemaWorkshop$Numbers", name := "write", desc := "(ZLSchemaWorkshop$Bytes;)V" } : Jvm.MethodName)) ∈ lw_all := lw_g (lw_at lw_m6 28 rfl) rfl
theorem q1540 : (Jvm.Cond.methodLink "SchemaWorkshop$Meaning" (230 : Nat) ({ cls := "SchemaWorkshop$Meaning", name := "alike", desc := "(II)Z" } : Jvm.MethodName)) ∈ lw_all := lw_g (lw_at lw_m6 43 rfl) rfl
theorem q1541 : (Jvm.Cond.privateMethod ({ cls := "SchemaWorkshop$Meaning", name := "alike", desc := "(II)Z" } : Jvm.MethodName)) ∈ lw_tbl := lw_at lw_m6 44 rfl
theorem q1542 : (Jvm.Cond.instanceMethod ({ cls := "SchemaWorkshop$Meaning", name := "alike", desc := "(II)Z" } : Jvm.MethodName)) ∈ lw_all := lw_g (lw_at lw_m6 45 rfl) rfl
theorem q1543 : (Jvm.Cond.code ({ cls := "SchemaWorkshop$Meaning", name := "alike", desc := "(II)Z" } : Jvm.MethodName) prog_9_method_11_code (3 : Nat) (Option.some Jvm.ClassFile.FieldType.boolean)) ∈ lw_all := lw_g (lw_at lw_m6 46 rfl) rfl
theorem q1544 : (Jvm.Cond.methodLink "SchemaWorkshop$Meaning" (219 : Nat) ({ cls := "SchemaWorkshop$Bytes", name := "compare", desc := "(IILSchemaWorkshop$Bytes;II)I" } : Jvm.MethodName)) ∈ lw_all := lw_g (lw_at lw_m6 47 rfl) rfl
theorem q1545 : (Jvm.Cond.methodLink "SchemaWorkshop$Meaning" (233 : Nat) ({ cls := "SchemaWorkshop$Marks", name := "clear", desc := "()V" } : Jvm.MethodName)) ∈ lw_all := lw_g (lw_at lw_m6 48 rfl) rfl
theorem q1549 : (Jvm.Cond.methodLink "SchemaWorkshop$Meaning" (234 : Nat) ({ cls := "SchemaWorkshop$Bytes", name := "at", desc := "(I)I" } : Jvm.MethodName)) ∈ lw_all := lw_g (lw_at lw_m6 52 rfl) rfl
theorem q1550 : (Jvm.Cond.methodLink "SchemaWorkshop$Meaning" (236 : Nat) ({ cls := "SchemaWorkshop$Meaning", name := "small", desc := "(I)I" } : Jvm.MethodName)) ∈ lw_all := lw_g (lw_at lw_m6 53 rfl) rfl
theorem q1551 : (Jvm.Cond.privateMethod ({ cls := "SchemaWorkshop$Meaning", name := "small", desc := "(I)I" } : Jvm.MethodName)) ∈ lw_tbl := lw_at lw_m6 54 rfl
theorem q1552 : (Jvm.Cond.instanceMethod ({ cls := "SchemaWorkshop$Meaning", name := "small", desc := "(I)I" } : Jvm.MethodName)) ∈ lw_all := lw_g (lw_at lw_m6 55 rfl) rfl
theorem q1553 : (Jvm.Cond.code ({ cls := "SchemaWorkshop$Meaning", name := "small", desc := "(I)I" } : Jvm.MethodName) prog_9_method_13_code (4 : Nat) (Option.some Jvm.ClassFile.FieldType.int)) ∈ lw_all := lw_g (lw_at lw_m6 56 rfl) rfl
theorem q1554 : (Jvm.Cond.methodLink "SchemaWorkshop$Meaning" (239 : Nat) ({ cls := "SchemaWorkshop$Marks", name := "add", desc := "(I)Z" } : Jvm.MethodName)) ∈ lw_all := lw_g (lw_at lw_m6 57 rfl) rfl
theorem q1563 : (Jvm.Cond.methodLink "SchemaWorkshop$Meaning" (242 : Nat) ({ cls := "SchemaWorkshop$Numbers", name := "set", desc := "(I)V" } : Jvm.MethodName)) ∈ lw_all := lw_g (lw_at lw_m6 66 rfl) rfl
theorem q1567 : (Jvm.Cond.methodLink "SchemaWorkshop$Meaning" (154 : Nat) ({ cls := "SchemaWorkshop$Meaning", name := "known", desc := "()Z" } : Jvm.MethodName)) ∈ lw_all := lw_g (lw_at lw_m6 70 rfl) rfl
theorem q1568 : (Jvm.Cond.privateMethod ({ cls := "SchemaWorkshop$Meaning", name := "known", desc := "()Z" } : Jvm.MethodName)) ∈ lw_tbl := lw_at lw_m6 71 rfl
theorem q1569 : (Jvm.Cond.instanceMethod ({ cls := "SchemaWorkshop$Meaning", name := "known", desc := "()Z" } : Jvm.MethodName)) ∈ lw_all := lw_g (lw_at lw_m6 72 rfl) rfl
theorem q1570 : (Jvm.Cond.code ({ cls := "SchemaWorkshop$Meaning", name := "known", desc := "()Z" } : Jvm.MethodName) prog_9_method_19_code (2 : Nat) (Option.some Jvm.ClassFile.FieldType.boolean)) ∈ lw_all := lw_g (lw_at lw_m6 73 rfl) rfl
theorem q1571 : (Jvm.Cond.methodLink "SchemaWorkshop$Meaning" (250 : Nat) ({ cls := "SchemaWorkshop$Meaning", name := "assignedType", desc := "(I)I" } : Jvm.MethodName)) ∈ lw_all := lw_g (lw_at lw_m6 74 rfl) rfl
theorem q1572 : (Jvm.Cond.privateMethod ({ cls := "SchemaWorkshop$Meaning", name := "assignedType", desc := "(I)I" } : Jvm.MethodName)) ∈ lw_tbl := lw_at lw_m6 75 rfl
theorem q1573 : (Jvm.Cond.instanceMethod ({ cls := "SchemaWorkshop$Meaning", name := "assignedType", desc := "(I)I" } : Jvm.MethodName)) ∈ lw_all := lw_g (lw_at lw_m6 76 rfl) rfl
theorem q1574 : (Jvm.Cond.code ({ cls := "SchemaWorkshop$Meaning", name := "assignedType", desc := "(I)I" } : Jvm.MethodName) prog_9_method_14_code (3 : Nat) (Option.some Jvm.ClassFile.FieldType.int)) ∈ lw_all := lw_g (lw_at lw_m6 77 rfl) rfl
theorem q1575 : (Jvm.Cond.methodLink "SchemaWorkshop$Meaning" (245 : Nat) ({ cls := "SchemaWorkshop$Names", name := "find", desc := "(I)I" } : Jvm.MethodName)) ∈ lw_all := lw_g (lw_at lw_m6 78 rfl) rfl
theorem q1579 : (Jvm.Cond.methodLink "SchemaWorkshop$Meaning" (266 : Nat) ({ cls := "SchemaWorkshop$Tree", name := "limits", desc := "(I)I" } : Jvm.MethodName)) ∈ lw_all := lw_g (lw_at lw_m6 82 rfl) rfl
theorem q1580 : (Jvm.Cond.methodLink "SchemaWorkshop$Meaning" (269 : Nat) ({ cls := "SchemaWorkshop$Meaning", name := "knownValue", desc := "(II)V" } : Jvm.MethodName)) ∈ lw_all := lw_g (lw_at lw_m6 83 rfl) rfl
theorem q1581 : (Jvm.Cond.privateMethod ({ cls := "SchemaWorkshop$Meaning", name := "knownValue", desc := "(II)V" } : Jvm.MethodName)) ∈ lw_tbl := lw_at lw_m6 84 rfl
theorem q1582 : (Jvm.Cond.instanceMethod ({ cls := "SchemaWorkshop$Meaning", name := "knownValue", desc := "(II)V" } : Jvm.MethodName)) ∈ lw_all := lw_g (lw_at lw_m6 85 rfl) rfl
theorem q1583 : (Jvm.Cond.code ({ cls := "SchemaWorkshop$Meaning", name := "knownValue", desc := "(II)V" } : Jvm.MethodName) prog_9_method_18_code (3 : Nat) (Option.none : Option Jvm.ClassFile.FieldType)) ∈ lw_all := lw_g (lw_at lw_m6 86 rfl) rfl
theorem q1584 : (Jvm.Cond.methodLink "SchemaWorkshop$Meaning" (262 : Nat) ({ cls := "SchemaWorkshop$Meaning", name := "itemOf", desc := "(IIZ)I" } : Jvm.MethodName)) ∈ lw_all := lw_g (lw_at lw_m6 87 rfl) rfl
theorem q1585 : (Jvm.Cond.privateMethod ({ cls := "SchemaWorkshop$Meaning", name := "itemOf", desc := "(IIZ)I" } : Jvm.MethodName)) ∈ lw_tbl := lw_at lw_m6 88 rfl
theorem q1586 : (Jvm.Cond.instanceMethod ({ cls := "SchemaWorkshop$Meaning", name := "itemOf", desc := "(IIZ)I" } : Jvm.MethodName)) ∈ lw_all := lw_g (lw_at lw_m6 89 rfl) rfl
theorem q1587 : (Jvm.Cond.code ({ cls := "SchemaWorkshop$Meaning", name := "itemOf", desc := "(IIZ)I" } : Jvm.MethodName) prog_9_method_17_code (6 : Nat) (Option.some Jvm.ClassFile.FieldType.int)) ∈ lw_all := lw_g (lw_at lw_m6 90 rfl) rfl
theorem q1588 : (Jvm.Cond.methodLink "SchemaWorkshop$Meaning" (256 : Nat) ({ cls := "SchemaWorkshop$Meaning", name := "base", desc := "(I)I" } : Jvm.MethodName)) ∈ lw_all := lw_g (lw_at lw_m6 91 rfl) rfl
theorem q1589 : (Jvm.Cond.privateMethod ({ cls := "SchemaWorkshop$Meaning", name := "base", desc := "(I)I" } : Jvm.MethodName)) ∈ lw_tbl := lw_at lw_m6 92 rfl
theorem q1590 : (Jvm.Cond.instanceMethod ({ cls := "SchemaWorkshop$Meaning", name := "base", desc := "(I)I" } : Jvm.MethodName)) ∈ lw_all := lw_g (lw_at lw_m6 93 rfl) rfl
theorem q1591 : (Jvm.Cond.code ({ cls := "SchemaWorkshop$Meaning", name := "base", desc := "(I)I" } : Jvm.MethodName) prog_9_method_15_code (4 : Nat) (Option.some Jvm.ClassFile.FieldType.int)) ∈ lw_all := lw_g (lw_at lw_m6 94 rfl) rfl
theorem q1592 : (Jvm.Cond.methodLink "SchemaWorkshop$Meaning" (259 : Nat) ({ cls := "SchemaWorkshop$Meaning", name := "item", desc := "(II)I" } : Jvm.MethodName)) ∈ lw_all := lw_g (lw_at lw_m6 95 rfl) rfl
theorem q1593 : (Jvm.Cond.privateMethod ({ cls := "SchemaWorkshop$Meaning", name := "item", desc := "(II)I" } : Jvm.MethodName)) ∈ lw_tbl := lw_at lw_m6 96 rfl
theorem q1594 : (Jvm.Cond.instanceMethod ({ cls := "SchemaWorkshop$Meaning", name := "item", desc := "(II)I" } : Jvm.MethodName)) ∈ lw_all := lw_g (lw_at lw_m6 97 rfl) rfl
theorem q1595 : (Jvm.Cond.code ({ cls := "SchemaWorkshop$Meaning", name := "item", desc := "(II)I" } : Jvm.MethodName) prog_9_method_16_code (4 : Nat) (Option.some Jvm.ClassFile.FieldType.int)) ∈ lw_all := lw_g (lw_at lw_m6 98 rfl) rfl
theorem q1596 : (Jvm.Cond.methodLink "SchemaWorkshop$Meaning" (253 : Nat) ({ cls := "SchemaWorkshop$Lexemes", name := "isLike", desc := "(II)Z" } : Jvm.MethodName)) ∈ lw_all := lw_g (lw_at lw_m6 99 rfl) rfl
theorem q1597 : (Jvm.Cond.methodLink "SchemaWorkshop$Meaning" (272 : Nat) ({ cls := "SchemaWorkshop$Meaning", name := "knownBounds", desc := "(I)V" } : Jvm.MethodName)) ∈ lw_all := lw_g (lw_at lw_m6 100 rfl) rfl
theorem q1598 : (Jvm.Cond.privateMethod ({ cls := "SchemaWorkshop$Meaning", name := "knownBounds", desc := "(I)V" } : Jvm.MethodName)) ∈ lw_tbl := lw_at lw_m6 101 rfl
theorem q1599 : (Jvm.Cond.instanceMethod ({ cls := "SchemaWorkshop$Meaning", name := "knownBounds", desc := "(I)V" } : Jvm.MethodName)) ∈ lw_all := lw_g (lw_at lw_m6 102 rfl) rfl
theorem q1600 : (Jvm.Cond.code ({ cls := "SchemaWorkshop$Meaning", name := "knownBounds", desc := "(I)V" } : Jvm.MethodName) prog_9_method_20_code (6 : Nat) (Option.none : Option Jvm.ClassFile.FieldType)) ∈ lw_all := lw_g (lw_at lw_m6 103 rfl) rfl
theorem q1601 : (Jvm.Cond.methodLink "SchemaWorkshop$Meaning" (157 : Nat) ({ cls := "SchemaWorkshop$Meaning", name := "finite", desc := "()Z" } : Jvm.MethodName)) ∈ lw_all := lw_g (lw_at lw_m6 104 rfl) rfl
theorem q1602 : (Jvm.Cond.privateMethod ({ cls := "SchemaWorkshop$Meaning", name := "finite", desc := "()Z" } : Jvm.MethodName)) ∈ lw_tbl := lw_at lw_m6 105 rfl
theorem q1603 : (Jvm.Cond.instanceMethod ({ cls := "SchemaWorkshop$Meaning", name := "finite", desc := "()Z" } : Jvm.MethodName)) ∈ lw_all := lw_g (lw_at lw_m6 106 rfl) rfl
theorem q1604 : (Jvm.Cond.code ({ cls := "SchemaWorkshop$Meaning", name := "finite", desc := "()Z" } : Jvm.MethodName) prog_9_method_22_code (3 : Nat) (Option.some Jvm.ClassFile.FieldType.boolean)) ∈ lw_all := lw_g (lw_at lw_m6 107 rfl) rfl
theorem q1605 : (Jvm.Cond.methodLink "SchemaWorkshop$Meaning" (275 : Nat) ({ cls := "SchemaWorkshop$Meaning", name := "isFinite", desc := "(I)Z" } : Jvm.MethodName)) ∈ lw_all := lw_g (lw_at lw_m6 108 rfl) rfl
theorem q1606 : (Jvm.Cond.privateMethod ({ cls := "SchemaWorkshop$Meaning", name := "isFinite", desc := "(I)Z" } : Jvm.MethodName)) ∈ lw_tbl := lw_at lw_m6 109 rfl
theorem q1607 : (Jvm.Cond.instanceMethod ({ cls := "SchemaWorkshop$Meaning", name := "isFinite", desc := "(I)Z" } : Jvm.MethodName)) ∈ lw_all := lw_g (lw_at lw_m6 110 rfl) rfl
theorem q1608 : (Jvm.Cond.code ({ cls := "SchemaWorkshop$Meaning", name := "isFinite", desc := "(I)Z" } : Jvm.MethodName) prog_9_method_21_code (4 : Nat) (Option.some Jvm.ClassFile.FieldType.boolean)) ∈ lw_all := lw_g (lw_at lw_m6 111 rfl) rfl
theorem q1609 : (Jvm.Cond.methodLink "SchemaWorkshop$Meaning" (160 : Nat) ({ cls := "SchemaWorkshop$Meaning", name := "tagged", desc := "()Z" } : Jvm.MethodName)) ∈ lw_all := lw_g (lw_at lw_m6 112 rfl) rfl
theorem q1610 : (Jvm.Cond.privateMethod ({ cls := "SchemaWorkshop$Meaning", name := "tagged", desc := "()Z" } : Jvm.MethodName)) ∈ lw_tbl := lw_at lw_m6 113 rfl
theorem q1611 : (Jvm.Cond.instanceMethod ({ cls := "SchemaWorkshop$Meaning", name := "tagged", desc := "()Z" } : Jvm.MethodName)) ∈ lw_all := lw_g (lw_at lw_m6 114 rfl) rfl
theorem q1612 : (Jvm.Cond.code ({ cls := "SchemaWorkshop$Meaning", name := "tagged", desc := "()Z" } : Jvm.MethodName) prog_9_method_24_code (2 : Nat) (Option.some Jvm.ClassFile.FieldType.boolean)) ∈ lw_all := lw_g (lw_at lw_m6 115 rfl) rfl
theorem q1613 : (Jvm.Cond.methodLink "SchemaWorkshop$Meaning" (278 : Nat) ({ cls := "SchemaWorkshop$Meaning", name := "tagAll", desc := "(I)V" } : Jvm.MethodName)) ∈ lw_all := lw_g (lw_at lw_m6 116 rfl) rfl
theorem q1614 : (Jvm.Cond.privateMethod ({ cls := "SchemaWorkshop$Meaning", name := "tagAll", desc := "(I)V" } : Jvm.MethodName)) ∈ lw_tbl := lw_at lw_m6 117 rfl
theorem q1615 : (Jvm.Cond.instanceMethod ({ cls := "SchemaWorkshop$Meaning", name := "tagAll", desc := "(I)V" } : Jvm.MethodName)) ∈ lw_all := lw_g (lw_at lw_m6 118 rfl) rfl
theorem q1616 : (Jvm.Cond.code ({ cls := "SchemaWorkshop$Meaning", name := "tagAll", desc := "(I)V" } : Jvm.MethodName) prog_9_method_25_code (4 : Nat) (Option.none : Option Jvm.ClassFile.FieldType)) ∈ lw_all := lw_g (lw_at lw_m6 119 rfl) rfl
theorem q1617 : (Jvm.Cond.methodLink "SchemaWorkshop$Meaning" (281 : Nat) ({ cls := "SchemaWorkshop$Meaning", name := "tagOne", desc := "(I)V" } : Jvm.MethodName)) ∈ lw_all := lw_g (lw_at lw_m6 120 rfl) rfl
theorem q1618 : (Jvm.Cond.privateMethod ({ cls := "SchemaWorkshop$Meaning", name := "tagOne", desc := "(I)V" } : Jvm.MethodName)) ∈ lw_tbl := lw_at lw_m6 121 rfl
theorem q1619 : (Jvm.Cond.instanceMethod ({ cls := "SchemaWorkshop$Meaning", name := "tagOne", desc := "(I)V" } : Jvm.MethodName)) ∈ lw_all := lw_g (lw_at lw_m6 122 rfl) rfl
theorem q1620 : (Jvm.Cond.code ({ cls := "SchemaWorkshop$Meaning", name := "tagOne", desc := "(I)V" } : Jvm.MethodName) prog_9_method_27_code (7 : Nat) (Option.none : Option Jvm.ClassFile.FieldType)) ∈ lw_all := lw_g (lw_at lw_m6 123 rfl) rfl
theorem q1621 : (Jvm.Cond.methodLink "SchemaWorkshop$Meaning" (284 : Nat) ({ cls := "SchemaWorkshop$Meaning", name := "push", desc := "(I)V" } : Jvm.MethodName)) ∈ lw_all := lw_g (lw_at lw_m6 124 rfl) rfl
theorem q1622 : (Jvm.Cond.privateMethod ({ cls := "SchemaWorkshop$Meaning", name := "push", desc := "(I)V" } : Jvm.MethodName)) ∈ lw_tbl := lw_at lw_m6 125 rfl
theorem q1623 : (Jvm.Cond.instanceMethod ({ cls := "SchemaWorkshop$Meaning", name := "push", desc := "(I)V" } : Jvm.MethodName)) ∈ lw_all := lw_g (lw_at lw_m6 126 rfl) rfl
theorem q1624 : (Jvm.Cond.code ({ cls := "SchemaWorkshop$Meaning", name := "push", desc := "(I)V" } : Jvm.MethodName) prog_9_method_26_code (2 : Nat) (Option.none : Option Jvm.ClassFile.FieldType)) ∈ lw_all := lw_g (lw_at lw_m6 127 rfl) rfl
theorem q1625 : (Jvm.Cond.methodLink "SchemaWorkshop$Meaning" (287 : Nat) ({ cls := "SchemaWorkshop$Meaning", name := "universal", desc := "(I)I" } : Jvm.MethodName)) ∈ lw_all := lw_g (lw_at lw_m6 128 rfl) rfl
theorem q1626 : (Jvm.Cond.static ({ cls := "SchemaWorkshop$Meaning", name := "universal", desc := "(I)I" } : Jvm.MethodName)) ∈ lw_all := lw_g (lw_at lw_m6 129 rfl) rfl
theorem q1627 : (Jvm.Cond.code ({ cls := "SchemaWorkshop$Meaning", name := "universal", desc := "(I)I" } : Jvm.MethodName) prog_9_method_23_code (1 : Nat) (Option.some Jvm.ClassFile.FieldType.int)) ∈ lw_all := lw_g (lw_at lw_m6 130 rfl) rfl
theorem q1628 : (Jvm.Cond.methodLink "SchemaWorkshop$Meaning" (290 : Nat) ({ cls := "SchemaWorkshop$Meaning", name := "tagOwn", desc := "(III)V" } : Jvm.MethodName)) ∈ lw_all := lw_g (lw_at lw_m6 131 rfl) rfl
theorem q1629 : (Jvm.Cond.privateMethod ({ cls := "SchemaWorkshop$Meaning", name := "tagOwn", desc := "(III)V" } : Jvm.MethodName)) ∈ lw_tbl := lw_at lw_m6 132 rfl
theorem q1630 : (Jvm.Cond.instanceMethod ({ cls := "SchemaWorkshop$Meaning", name := "tagOwn", desc := "(III)V" } : Jvm.MethodName)) ∈ lw_all := lw_g (lw_at lw_m6 133 rfl) rfl
theorem q1631 : (Jvm.Cond.code ({ cls := "SchemaWorkshop$Meaning", name := "tagOwn", desc := "(III)V" } : Jvm.MethodName) prog_9_method_28_code (10 : Nat) (Option.none : Option Jvm.ClassFile.FieldType)) ∈ lw_all := lw_g (lw_at lw_m6 134 rfl) rfl
theorem q1632 : (Jvm.Cond.methodLink "SchemaWorkshop$Meaning" (163 : Nat) ({ cls := "SchemaWorkshop$Meaning", name := "distinct", desc := "()Z" } : Jvm.MethodName)) ∈ lw_all := lw_g (lw_at lw_m6 135 rfl) rfl
theorem q1633 : (Jvm.Cond.privateMethod ({ cls := "SchemaWorkshop$Meaning", name := "distinct", desc := "()Z" } : Jvm.MethodName)) ∈ lw_tbl := lw_at lw_m6 136 rfl
theorem q1634 : (Jvm.Cond.instanceMethod ({ cls := "SchemaWorkshop$Meaning", name := "distinct", desc := "()Z" } : Jvm.MethodName)) ∈ lw_all := lw_g (lw_at lw_m6 137 rfl) rfl
theorem q1635 : (Jvm.Cond.code ({ cls := "SchemaWorkshop$Meaning", name := "distinct", desc := "()Z" } : Jvm.MethodName) prog_9_method_32_code (3 : Nat) (Option.some Jvm.ClassFile.FieldType.boolean)) ∈ lw_all := lw_g (lw_at lw_m6 138 rfl) rfl
theorem q1636 : (Jvm.Cond.methodLink "SchemaWorkshop$Meaning" (307 : Nat) ({ cls := "SchemaWorkshop$Meaning", name := "distinct", desc := "(IZ)V" } : Jvm.MethodName)) ∈ lw_all := lw_g (lw_at lw_m6 139 rfl) rfl
theorem q1637 : (Jvm.Cond.privateMethod ({ cls := "SchemaWorkshop$Meaning", name := "distinct", desc := "(IZ)V" } : Jvm.MethodName)) ∈ lw_tbl := lw_at lw_m6 140 rfl
theorem q1638 : (Jvm.Cond.instanceMethod ({ cls := "SchemaWorkshop$Meaning", name := "distinct", desc := "(IZ)V" } : Jvm.MethodName)) ∈ lw_all := lw_g (lw_at lw_m6 141 rfl) rfl
theorem q1639 : (Jvm.Cond.code ({ cls := "SchemaWorkshop$Meaning", name := "distinct", desc := "(IZ)V" } : Jvm.MethodName) prog_9_method_33_code (6 : Nat) (Option.none : Option Jvm.ClassFile.FieldType)) ∈ lw_all := lw_g (lw_at lw_m6 142 rfl) rfl
theorem q1640 : (Jvm.Cond.methodLink "SchemaWorkshop$Meaning" (310 : Nat) ({ cls := "SchemaWorkshop$Meaning", name := "collect", desc := "(I)V" } : Jvm.MethodName)) ∈ lw_all := lw_g (lw_at lw_m6 143 rfl) rfl
theorem q1641 : (Jvm.Cond.privateMethod ({ cls := "SchemaWorkshop$Meaning", name := "collect", desc := "(I)V" } : Jvm.MethodName)) ∈ lw_tbl := lw_at lw_m6 144 rfl
theorem q1642 : (Jvm.Cond.instanceMethod ({ cls := "SchemaWorkshop$Meaning", name := "collect", desc := "(I)V" } : Jvm.MethodName)) ∈ lw_all := lw_g (lw_at lw_m6 145 rfl) rfl
theorem q1643 : (Jvm.Cond.code ({ cls := "SchemaWorkshop$Meaning", name := "collect", desc := "(I)V" } : Jvm.MethodName) prog_9_method_31_code (6 : Nat) (Option.none : Option Jvm.ClassFile.FieldType)) ∈ lw_all := lw_g (lw_at lw_m6 146 rfl) rfl
theorem q1644 : (Jvm.Cond.methodLink "SchemaWorkshop$Meaning" (304 : Nat) ({ cls := "SchemaWorkshop$Meaning", name := "tag", desc := "(II)I" } : Jvm.MethodName)) ∈ lw_all := lw_g (lw_at lw_m6 147 rfl) rfl
theorem q1645 : (Jvm.Cond.instanceMethod ({ cls := "SchemaWorkshop$Meaning", name := "tag", desc := "(II)I" } : Jvm.MethodName)) ∈ lw_all := lw_g (lw_at lw_m6 148 rfl) rfl
theorem q1646 : (Jvm.Cond.selects "SchemaWorkshop$Meaning" ({ cls := "SchemaWorkshop$Meaning", name := "tag", desc := "(II)I" } : Jvm.MethodName) ({ cls := "SchemaWorkshop$Meaning", name := "tag", desc := "(II)I" } : Jvm.MethodName)) ∈ lw_all := lw_g (lw_at lw_m6 149 rfl) rfl
theorem q1647 : (Jvm.Cond.code ({ cls := "SchemaWorkshop$Meaning", name := "tag", desc := "(II)I" } : Jvm.MethodName) prog_9_method_30_code (3 : Nat) (Option.some Jvm.ClassFile.FieldType.int)) ∈ lw_all := lw_g (lw_at lw_m6 150 rfl) rfl
theorem q1648 : (Jvm.Cond.methodLink "SchemaWorkshop$Meaning" (313 : Nat) ({ cls := "SchemaWorkshop$Marks", name := "has", desc := "(I)Z" } : Jvm.MethodName)) ∈ lw_all := lw_g (lw_at lw_m6 151 rfl) rfl
theorem q1652 : (Jvm.Cond.methodLink "SchemaWorkshop$Meaning" (166 : Nat) ({ cls := "SchemaWorkshop$Meaning", name := "straight", desc := "()Z" } : Jvm.MethodName)) ∈ lw_all := lw_g (lw_at lw_m6 155 rfl) rfl
theorem q1653 : (Jvm.Cond.privateMethod ({ cls := "SchemaWorkshop$Meaning", name := "straight", desc := "()Z" } : Jvm.MethodName)) ∈ lw_tbl := lw_at lw_m6 156 rfl
theorem q1654 : (Jvm.Cond.instanceMethod ({ cls := "SchemaWorkshop$Meaning", name := "straight", desc := "()Z" } : Jvm.MethodName)) ∈ lw_all := lw_g (lw_at lw_m6 157 rfl) rfl
theorem q1655 : (Jvm.Cond.code ({ cls := "SchemaWorkshop$Meaning", name := "straight", desc := "()Z" } : Jvm.MethodName) prog_9_method_35_code (4 : Nat) (Option.some Jvm.ClassFile.FieldType.boolean)) ∈ lw_all := lw_g (lw_at lw_m6 158 rfl) rfl
theorem q1656 : (Jvm.Cond.methodLink "SchemaWorkshop$Meaning" (316 : Nat) ({ cls := "SchemaWorkshop$Meaning", name := "follow", desc := "(I)I" } : Jvm.MethodName)) ∈ lw_all := lw_g (lw_at lw_m6 159 rfl) rfl
theorem q1657 : (Jvm.Cond.privateMethod ({ cls := "SchemaWorkshop$Meaning", name := "follow", desc := "(I)I" } : Jvm.MethodName)) ∈ lw_tbl := lw_at lw_m6 160 rfl
theorem q1658 : (Jvm.Cond.instanceMethod ({ cls := "SchemaWorkshop$Meaning", name := "follow", desc := "(I)I" } : Jvm.MethodName)) ∈ lw_all := lw_g (lw_at lw_m6 161 rfl) rfl
theorem q1659 : (Jvm.Cond.code ({ cls := "SchemaWorkshop$Meaning", name := "follow", desc := "(I)I" } : Jvm.MethodName) prog_9_method_34_code (3 : Nat) (Option.some Jvm.ClassFile.FieldType.int)) ∈ lw_all := lw_g (lw_at lw_m6 162 rfl) rfl
theorem q1660 : (Jvm.Cond.methodLink "SchemaWorkshop$Meaning" (169 : Nat) ({ cls := "SchemaWorkshop$Meaning", name := "bounded", desc := "()Z" } : Jvm.MethodName)) ∈ lw_all := lw_g (lw_at lw_m6 163 rfl) rfl
theorem q1661 : (Jvm.Cond.privateMethod ({ cls := "SchemaWorkshop$Meaning", name := "bounded", desc := "()Z" } : Jvm.MethodName)) ∈ lw_tbl := lw_at lw_m6 164 rfl
theorem q1662 : (Jvm.Cond.instanceMethod ({ cls := "SchemaWorkshop$Meaning", name := "bounded", desc := "()Z" } : Jvm.MethodName)) ∈ lw_all := lw_g (lw_at lw_m6 165 rfl) rfl
theorem q1663 : (Jvm.Cond.code ({ cls := "SchemaWorkshop$Meaning", name := "bounded", desc := "()Z" } : Jvm.MethodName) prog_9_method_42_code (3 : Nat) (Option.some Jvm.ClassFile.FieldType.boolean)) ∈ lw_all := lw_g (lw_at lw_m6 166 rfl) rfl
theorem q1664 : (Jvm.Cond.methodLink "SchemaWorkshop$Meaning" (339 : Nat) ({ cls := "SchemaWorkshop$Meaning", name := "bounded", desc := "(II)V" } : Jvm.MethodName)) ∈ lw_all := lw_g (lw_at lw_m6 167 rfl) rfl
theorem q1665 : (Jvm.Cond.privateMethod ({ cls := "SchemaWorkshop$Meaning", name := "bounded", desc := "(II)V" } : Jvm.MethodName)) ∈ lw_tbl := lw_at lw_m6 168 rfl
theorem q1666 : (Jvm.Cond.instanceMethod ({ cls := "SchemaWorkshop$Meaning", name := "bounded", desc := "(II)V" } : Jvm.MethodName)) ∈ lw_all := lw_g (lw_at lw_m6 169 rfl) rfl
theorem q1667 : (Jvm.Cond.code ({ cls := "SchemaWorkshop$Meaning", name := "bounded", desc := "(II)V" } : Jvm.MethodName) prog_9_method_40_code (10 : Nat) (Option.none : Option Jvm.ClassFile.FieldType)) ∈ lw_all := lw_g (lw_at lw_m6 170 rfl) rfl
theorem q1668 : (Jvm.Cond.methodLink "SchemaWorkshop$Meaning" (326 : Nat) ({ cls := "SchemaWorkshop$Meaning", name := "hasSizes", desc := "(I)Z" } : Jvm.MethodName)) ∈ lw_all := lw_g (lw_at lw_m6 171 rfl) rfl
theorem q1669 : (Jvm.Cond.privateMethod ({ cls := "SchemaWorkshop$Meaning", name := "hasSizes", desc := "(I)Z" } : Jvm.MethodName)) ∈ lw_tbl := lw_at lw_m6 172 rfl
theorem q1670 : (Jvm.Cond.instanceMethod ({ cls := "SchemaWorkshop$Meaning", name := "hasSizes", desc := "(I)Z" } : Jvm.MethodName)) ∈ lw_all := lw_g (lw_at lw_m6 173 rfl) rfl
theorem q1671 : (Jvm.Cond.code ({ cls := "SchemaWorkshop$Meaning", name := "hasSizes", desc := "(I)Z" } : Jvm.MethodName) prog_9_method_36_code (2 : Nat) (Option.some Jvm.ClassFile.FieldType.boolean)) ∈ lw_all := lw_g (lw_at lw_m6 174 rfl) rfl
theorem q1672 : (Jvm.Cond.methodLink "SchemaWorkshop$Meaning" (329 : Nat) ({ cls := "SchemaWorkshop$Meaning", name := "isBound", desc := "(IIZ)Z" } : Jvm.MethodName)) ∈ lw_all := lw_g (lw_at lw_m6 175 rfl) rfl
theorem q1673 : (Jvm.Cond.privateMethod ({ cls := "SchemaWorkshop$Meaning", name := "isBound", desc := "(IIZ)Z" } : Jvm.MethodName)) ∈ lw_tbl := lw_at lw_m6 176 rfl
theorem q1674 : (Jvm.Cond.instanceMethod ({ cls := "SchemaWorkshop$Meaning", name := "isBound", desc := "(IIZ)Z" } : Jvm.MethodName)) ∈ lw_all := lw_g (lw_at lw_m6 177 rfl) rfl
theorem q1675 : (Jvm.Cond.code ({ cls := "SchemaWorkshop$Meaning", name := "isBound", desc := "(IIZ)Z" } : Jvm.MethodName) prog_9_method_39_code (5 : Nat) (Option.some Jvm.ClassFile.FieldType.boolean)) ∈ lw_all := lw_g (lw_at lw_m6 178 rfl) rfl
theorem q1676 : (Jvm.Cond.methodLink "SchemaWorkshop$Meaning" (322 : Nat) ({ cls := "SchemaWorkshop$Meaning", name := "wordNumber", desc := "(III)Z" } : Jvm.MethodName)) ∈ lw_all := lw_g (lw_at lw_m6 179 rfl) rfl
theorem q1677 : (Jvm.Cond.privateMethod ({ cls := "SchemaWorkshop$Meaning", name := "wordNumber", desc := "(III)Z" } : Jvm.MethodName)) ∈ lw_tbl := lw_at lw_m6 180 rfl
theorem q1678 : (Jvm.Cond.instanceMethod ({ cls := "SchemaWorkshop$Meaning", name := "wordNumber", desc := "(III)Z" } : Jvm.MethodName)) ∈ lw_all := lw_g (lw_at lw_m6 181 rfl) rfl
theorem q1679 : (Jvm.Cond.code ({ cls := "SchemaWorkshop$Meaning", name := "wordNumber", desc := "(III)Z" } : Jvm.MethodName) prog_9_method_37_code (6 : Nat) (Option.some Jvm.ClassFile.FieldType.boolean)) ∈ lw_all := lw_g (lw_at lw_m6 182 rfl) rfl
theorem q1680 : (Jvm.Cond.methodLink "SchemaWorkshop$Meaning" (319 : Nat) ({ cls := "SchemaWorkshop$Meaning", name := "meant", desc := "(I)I" } : Jvm.MethodName)) ∈ lw_all := lw_g (lw_at lw_m6 183 rfl) rfl
theorem q1681 : (Jvm.Cond.privateMethod ({ cls := "SchemaWorkshop$Meaning", name := "meant", desc := "(I)I" } : Jvm.MethodName)) ∈ lw_tbl := lw_at lw_m6 184 rfl
theorem q1682 : (Jvm.Cond.instanceMethod ({ cls := "SchemaWorkshop$Meaning", name := "meant", desc := "(I)I" } : Jvm.MethodName)) ∈ lw_all := lw_g (lw_at lw_m6 185 rfl) rfl
theorem q1683 : (Jvm.Cond.code ({ cls := "SchemaWorkshop$Meaning", name := "meant", desc := "(I)I" } : Jvm.MethodName) prog_9_method_38_code (9 : Nat) (Option.some Jvm.ClassFile.FieldType.int)) ∈ lw_all := lw_g (lw_at lw_m6 186 rfl) rfl
theorem q1684 : (Jvm.Cond.methodLink "SchemaWorkshop$Meaning" (333 : Nat) ({ cls := "SchemaWorkshop$Meaning", name := "isAbove", desc := "(IIZ)Z" } : Jvm.MethodName)) ∈ lw_all := lw_g (lw_at lw_m6 187 rfl) rfl
theorem q1685 : (Jvm.Cond.privateMethod ({ cls := "SchemaWorkshop$Meaning", name := "isAbove", desc := "(IIZ)Z" } : Jvm.MethodName)) ∈ lw_tbl := lw_at lw_m6 188 rfl
theorem q1686 : (Jvm.Cond.instanceMethod ({ cls := "SchemaWorkshop$Meaning", name := "isAbove", desc := "(IIZ)Z" } : Jvm.MethodName)) ∈ lw_all := lw_g (lw_at lw_m6 189 rfl) rfl
theorem q1687 : (Jvm.Cond.code ({ cls := "SchemaWorkshop$Meaning", name := "isAbove", desc := "(IIZ)Z" } : Jvm.MethodName) prog_9_method_41_code (6 : Nat) (Option.some Jvm.ClassFile.FieldType.boolean)) ∈ lw_all := lw_g (lw_at lw_m6 190 rfl) rfl
theorem q1688 : (Jvm.Cond.methodLink "SchemaWorkshop$Meaning" (336 : Nat) ({ cls := "SchemaWorkshop$Numbers", name := "compare", desc := "(LSchemaWorkshop$Bytes;IILSchemaWorkshop$Bytes;II)I" } : Jvm.MethodName)) ∈ lw_all := lw_g (lw_at lw_m6 191 rfl) rfl
theorem q1692 : (Jvm.Cond.methodLink "SchemaWorkshop$Meaning" (172 : Nat) ({ cls := "SchemaWorkshop$Meaning", name := "valued", desc := "()Z" } : Jvm.MethodName)) ∈ lw_all := lw_g (lw_at lw_m6 195 rfl) rfl
theorem q1693 : (Jvm.Cond.privateMethod ({ cls := "SchemaWorkshop$Meaning", name := "valued", desc := "()Z" } : Jvm.MethodName)) ∈ lw_tbl := lw_at lw_m6 196 rfl
theorem q1694 : (Jvm.Cond.instanceMethod ({ cls := "SchemaWorkshop$Meaning", name := "valued", desc := "()Z" } : Jvm.MethodName)) ∈ lw_all := lw_g (lw_at lw_m6 197 rfl) rfl
theorem q1695 : (Jvm.Cond.code ({ cls := "SchemaWorkshop$Meaning", name := "valued", desc := "()Z" } : Jvm.MethodName) prog_9_method_51_code (4 : Nat) (Option.some Jvm.ClassFile.FieldType.boolean)) ∈ lw_all := lw_g (lw_at lw_m6 198 rfl) rfl
theorem q1696 : (Jvm.Cond.methodLink "SchemaWorkshop$Meaning" (362 : Nat) ({ cls := "SchemaWorkshop$Meaning", name := "constant", desc := "(I)Z" } : Jvm.MethodName)) ∈ lw_all := lw_g (lw_at lw_m6 199 rfl) rfl
theorem q1697 : (Jvm.Cond.privateMethod ({ cls := "SchemaWorkshop$Meaning", name := "constant", desc := "(I)Z" } : Jvm.MethodName)) ∈ lw_tbl := lw_at lw_m6 200 rfl
theorem q1698 : (Jvm.Cond.instanceMethod ({ cls := "SchemaWorkshop$Meaning", name := "constant", desc := "(I)Z" } : Jvm.MethodName)) ∈ lw_all := lw_g (lw_at lw_m6 201 rfl) rfl
theorem q1699 : (Jvm.Cond.code ({ cls := "SchemaWorkshop$Meaning", name := "constant", desc := "(I)Z" } : Jvm.MethodName) prog_9_method_52_code (5 : Nat) (Option.some Jvm.ClassFile.FieldType.boolean)) ∈ lw_all := lw_g (lw_at lw_m6 202 rfl) rfl
theorem q1700 : (Jvm.Cond.methodLink "SchemaWorkshop$Meaning" (365 : Nat) ({ cls := "SchemaWorkshop$Meaning", name := "evaluate", desc := "(II)Z" } : Jvm.MethodName)) ∈ lw_all := lw_g (lw_at lw_m6 203 rfl) rfl
theorem q1701 : (Jvm.Cond.privateMethod ({ cls := "SchemaWorkshop$Meaning", name := "evaluate", desc := "(II)Z" } : Jvm.MethodName)) ∈ lw_tbl := lw_at lw_m6 204 rfl
theorem q1702 : (Jvm.Cond.instanceMethod ({ cls := "SchemaWorkshop$Meaning", name := "evaluate", desc := "(II)Z" } : Jvm.MethodName)) ∈ lw_all := lw_g (lw_at lw_m6 205 rfl) rfl
theorem q1703 : (Jvm.Cond.code ({ cls := "SchemaWorkshop$Meaning", name := "evaluate", desc := "(II)Z" } : Jvm.MethodName) prog_9_method_53_code (7 : Nat) (Option.some Jvm.ClassFile.FieldType.boolean)) ∈ lw_all := lw_g (lw_at lw_m6 206 rfl) rfl
theorem q1704 : (Jvm.Cond.methodLink "SchemaWorkshop$Meaning" (368 : Nat) ({ cls := "SchemaWorkshop$Meaning", name := "copy", desc := "(II)Z" } : Jvm.MethodName)) ∈ lw_all := lw_g (lw_at lw_m6 207 rfl) rfl
theorem q1705 : (Jvm.Cond.privateMethod ({ cls := "SchemaWorkshop$Meaning", name := "copy", desc := "(II)Z" } : Jvm.MethodName)) ∈ lw_tbl := lw_at lw_m6 208 rfl
theorem q1706 : (Jvm.Cond.instanceMethod ({ cls := "SchemaWorkshop$Meaning", name := "copy", desc := "(II)Z" } : Jvm.MethodName)) ∈ lw_all := lw_g (lw_at lw_m6 209 rfl) rfl
theorem q1707 : (Jvm.Cond.code ({ cls := "SchemaWorkshop$Meaning", name := "copy", desc := "(II)Z" } : Jvm.MethodName) prog_9_method_54_code (3 : Nat) (Option.some Jvm.ClassFile.FieldType.boolean)) ∈ lw_all := lw_g (lw_at lw_m6 210 rfl) rfl
theorem q1708 : (Jvm.Cond.methodLink "SchemaWorkshop$Meaning" (371 : Nat) ({ cls := "SchemaWorkshop$Meaning", name := "holds", desc := "(III)Z" } : Jvm.MethodName)) ∈ lw_all := lw_g (lw_at lw_m6 211 rfl) rfl
theorem q1709 : (Jvm.Cond.privateMethod ({ cls := "SchemaWorkshop$Meaning", name := "holds", desc := "(III)Z" } : Jvm.MethodName)) ∈ lw_tbl := lw_at lw_m6 212 rfl
theorem q1710 : (Jvm.Cond.instanceMethod ({ cls := "SchemaWorkshop$Meaning", name := "holds", desc := "(III)Z" } : Jvm.MethodName)) ∈ lw_all := lw_g (lw_at lw_m6 213 rfl) rfl
theorem q1711 : (Jvm.Cond.code ({ cls := "SchemaWorkshop$Meaning", name := "holds", desc := "(III)Z" } : Jvm.MethodName) prog_9_method_65_code (5 : Nat) (Option.some Jvm.ClassFile.FieldType.boolean)) ∈ lw_all := lw_g (lw_at lw_m6 214 rfl) rfl
theorem q1712 : (Jvm.Cond.methodLink "SchemaWorkshop$Meaning" (443 : Nat) ({ cls := "SchemaWorkshop$Meaning", name := "isInRange", desc := "(ILSchemaWorkshop$Bytes;II)Z" } : Jvm.MethodName)) ∈ lw_all := lw_g (lw_at lw_m6 215 rfl) rfl
theorem q1713 : (Jvm.Cond.instanceMethod ({ cls := "SchemaWorkshop$Meaning", name := "isInRange", desc := "(ILSchemaWorkshop$Bytes;II)Z" } : Jvm.MethodName)) ∈ lw_all := lw_g (lw_at lw_m6 216 rfl) rfl
theorem q1714 : (Jvm.Cond.selects "SchemaWorkshop$Meaning" ({ cls := "SchemaWorkshop$Meaning", name := "isInRange", desc := "(ILSchemaWorkshop$Bytes;II)Z" } : Jvm.MethodName) ({ cls := "SchemaWorkshop$Meaning", name := "isInRange", desc := "(ILSchemaWorkshop$Bytes;II)Z" } : Jvm.MethodName)) ∈ lw_all := lw_g (lw_at lw_m6 217 rfl) rfl
theorem q1715 : (Jvm.Cond.code ({ cls := "SchemaWorkshop$Meaning", name := "isInRange", desc := "(ILSchemaWorkshop$Bytes;II)Z" } : Jvm.MethodName) prog_9_method_48_code (7 : Nat) (Option.some Jvm.ClassFile.FieldType.boolean)) ∈ lw_all := lw_g (lw_at lw_m6 218 rfl) rfl
theorem q1716 : (Jvm.Cond.methodLink "SchemaWorkshop$Meaning" (355 : Nat) ({ cls := "SchemaWorkshop$Meaning", name := "isIn", desc := "(ILSchemaWorkshop$Bytes;II)Z" } : Jvm.MethodName)) ∈ lw_all := lw_g (lw_at lw_m6 219 rfl) rfl
theorem q1717 : (Jvm.Cond.privateMethod ({ cls := "SchemaWorkshop$Meaning", name := "isIn", desc := "(ILSchemaWorkshop$Bytes;II)Z" } : Jvm.MethodName)) ∈ lw_tbl := lw_at lw_m6 220 rfl
theorem q1718 : (Jvm.Cond.instanceMethod ({ cls := "SchemaWorkshop$Meaning", name := "isIn", desc := "(ILSchemaWorkshop$Bytes;II)Z" } : Jvm.MethodName)) ∈ lw_all := lw_g (lw_at lw_m6 221 rfl) rfl
theorem q1719 : (Jvm.Cond.code ({ cls := "SchemaWorkshop$Meaning", name := "isIn", desc := "(ILSchemaWorkshop$Bytes;II)Z" } : Jvm.MethodName) prog_9_method_43_code (8 : Nat) (Option.some Jvm.ClassFile.FieldType.boolean)) ∈ lw_all := lw_g (lw_at lw_m6 222 rfl) rfl
theorem q1720 : (Jvm.Cond.methodLink "SchemaWorkshop$Meaning" (341 : Nat) ({ cls := "SchemaWorkshop$Meaning", name := "isBelow", desc := "(LSchemaWorkshop$Bytes;IIII)Z" } : Jvm.MethodName)) ∈ lw_all := lw_g (lw_at lw_m6 223 rfl) rfl
theorem q1721 : (Jvm.Cond.privateMethod ({ cls := "SchemaWorkshop$Meaning", name := "isBelow", desc := "(LSchemaWorkshop$Bytes;IIII)Z" } : Jvm.MethodName)) ∈ lw_tbl := lw_at lw_m6 224 rfl
theorem q1722 : (Jvm.Cond.instanceMethod ({ cls := "SchemaWorkshop$Meaning", name := "isBelow", desc := "(LSchemaWorkshop$Bytes;IIII)Z" } : Jvm.MethodName)) ∈ lw_all := lw_g (lw_at lw_m6 225 rfl) rfl
theorem q1723 : (Jvm.Cond.code ({ cls := "SchemaWorkshop$Meaning", name := "isBelow", desc := "(LSchemaWorkshop$Bytes;IIII)Z" } : Jvm.MethodName) prog_9_method_44_code (7 : Nat) (Option.some Jvm.ClassFile.FieldType.boolean)) ∈ lw_all := lw_g (lw_at lw_m6 226 rfl) rfl
theorem q1724 : (Jvm.Cond.methodLink "SchemaWorkshop$Meaning" (345 : Nat) ({ cls := "SchemaWorkshop$Meaning", name := "single", desc := "(III)Z" } : Jvm.MethodName)) ∈ lw_all := lw_g (lw_at lw_m6 227 rfl) rfl
theorem q1725 : (Jvm.Cond.privateMethod ({ cls := "SchemaWorkshop$Meaning", name := "single", desc := "(III)Z" } : Jvm.MethodName)) ∈ lw_tbl := lw_at lw_m6 228 rfl
theorem q1726 : (Jvm.Cond.instanceMethod ({ cls := "SchemaWorkshop$Meaning", name := "single", desc := "(III)Z" } : Jvm.MethodName)) ∈ lw_all := lw_g (lw_at lw_m6 229 rfl) rfl
theorem q1727 : (Jvm.Cond.code ({ cls := "SchemaWorkshop$Meaning", name := "single", desc := "(III)Z" } : Jvm.MethodName) prog_9_method_45_code (4 : Nat) (Option.some Jvm.ClassFile.FieldType.boolean)) ∈ lw_all := lw_g (lw_at lw_m6 230 rfl) rfl
theorem q1728 : (Jvm.Cond.methodLink "SchemaWorkshop$Meaning" (446 : Nat) ({ cls := "SchemaWorkshop$Meaning", name := "isItem", desc := "(ILSchemaWorkshop$Bytes;II)Z" } : Jvm.MethodName)) ∈ lw_all := lw_g (lw_at lw_m6 231 rfl) rfl
theorem q1729 : (Jvm.Cond.instanceMethod ({ cls := "SchemaWorkshop$Meaning", name := "isItem", desc := "(ILSchemaWorkshop$Bytes;II)Z" } : Jvm.MethodName)) ∈ lw_all := lw_g (lw_at lw_m6 232 rfl) rfl
theorem q1730 : (Jvm.Cond.selects "SchemaWorkshop$Meaning" ({ cls := "SchemaWorkshop$Meaning", name := "isItem", desc := "(ILSchemaWorkshop$Bytes;II)Z" } : Jvm.MethodName) ({ cls := "SchemaWorkshop$Meaning", name := "isItem", desc := "(ILSchemaWorkshop$Bytes;II)Z" } : Jvm.MethodName)) ∈ lw_all := lw_g (lw_at lw_m6 233 rfl) rfl
theorem q1731 : (Jvm.Cond.code ({ cls := "SchemaWorkshop$Meaning", name := "isItem", desc := "(ILSchemaWorkshop$Bytes;II)Z" } : Jvm.MethodName) prog_9_method_63_code (6 : Nat) (Option.some Jvm.ClassFile.FieldType.boolean)) ∈ lw_all := lw_g (lw_at lw_m6 234 rfl) rfl
theorem q1732 : (Jvm.Cond.methodLink "SchemaWorkshop$Meaning" (449 : Nat) ({ cls := "SchemaWorkshop$Meaning", name := "bits", desc := "(III)Z" } : Jvm.MethodName)) ∈ lw_all := lw_g (lw_at lw_m6 235 rfl) rfl
theorem q1733 : (Jvm.Cond.privateMethod ({ cls := "SchemaWorkshop$Meaning", name := "bits", desc := "(III)Z" } : Jvm.MethodName)) ∈ lw_tbl := lw_at lw_m6 236 rfl
theorem q1734 : (Jvm.Cond.instanceMethod ({ cls := "SchemaWorkshop$Meaning", name := "bits", desc := "(III)Z" } : Jvm.MethodName)) ∈ lw_all := lw_g (lw_at lw_m6 237 rfl) rfl
theorem q1735 : (Jvm.Cond.code ({ cls := "SchemaWorkshop$Meaning", name := "bits", desc := "(III)Z" } : Jvm.MethodName) prog_9_method_68_code (5 : Nat) (Option.some Jvm.ClassFile.FieldType.boolean)) ∈ lw_all := lw_g (lw_at lw_m6 238 rfl) rfl
theorem q1736 : (Jvm.Cond.methodLink "SchemaWorkshop$Meaning" (470 : Nat) ({ cls := "SchemaWorkshop$Meaning", name := "bitsOf", desc := "(IILSchemaWorkshop$Bytes;II)I" } : Jvm.MethodName)) ∈ lw_all := lw_g (lw_at lw_m6 239 rfl) rfl
theorem q1737 : (Jvm.Cond.instanceMethod ({ cls := "SchemaWorkshop$Meaning", name := "bitsOf", desc := "(IILSchemaWorkshop$Bytes;II)I" } : Jvm.MethodName)) ∈ lw_all := lw_g (lw_at lw_m7 0 rfl) rfl
theorem q1738 : (Jvm.Cond.selects "SchemaWorkshop$Meaning" ({ cls := "SchemaWorkshop$Meaning", name := "bitsOf", desc := "(IILSchemaWorkshop$Bytes;II)I" } : Jvm.MethodName) ({ cls := "SchemaWorkshop$Meaning", name := "bitsOf", desc := "(IILSchemaWorkshop$Bytes;II)I" } : Jvm.MethodName)) ∈ lw_all := lw_g (lw_at lw_m7 1 rfl) rfl
theorem q1739 : (Jvm.Cond.code ({ cls := "SchemaWorkshop$Meaning", name := "bitsOf", desc := "(IILSchemaWorkshop$Bytes;II)I" } : Jvm.MethodName) prog_9_method_67_code (7 : Nat) (Option.some Jvm.ClassFile.FieldType.int)) ∈ lw_all := lw_g (lw_at lw_m7 2 rfl) rfl
theorem q1740 : (Jvm.Cond.methodLink "SchemaWorkshop$Meaning" (455 : Nat) ({ cls := "SchemaWorkshop$Meaning", name := "hasItems", desc := "(I)Z" } : Jvm.MethodName)) ∈ lw_all := lw_g (lw_at lw_m7 3 rfl) rfl
theorem q1741 : (Jvm.Cond.instanceMethod ({ cls := "SchemaWorkshop$Meaning", name := "hasItems", desc := "(I)Z" } : Jvm.MethodName)) ∈ lw_all := lw_g (lw_at lw_m7 4 rfl) rfl
theorem q1742 : (Jvm.Cond.selects "SchemaWorkshop$Meaning" ({ cls := "SchemaWorkshop$Meaning", name := "hasItems", desc := "(I)Z" } : Jvm.MethodName) ({ cls := "SchemaWorkshop$Meaning", name := "hasItems", desc := "(I)Z" } : Jvm.MethodName)) ∈ lw_all := lw_g (lw_at lw_m7 5 rfl) rfl
theorem q1743 : (Jvm.Cond.code ({ cls := "SchemaWorkshop$Meaning", name := "hasItems", desc := "(I)Z" } : Jvm.MethodName) prog_9_method_64_code (2 : Nat) (Option.some Jvm.ClassFile.FieldType.boolean)) ∈ lw_all := lw_g (lw_at lw_m7 6 rfl) rfl
theorem q1744 : (Jvm.Cond.methodLink "SchemaWorkshop$Meaning" (458 : Nat) ({ cls := "SchemaWorkshop$Forms", name := "bits", desc := "(LSchemaWorkshop$Bytes;II)I" } : Jvm.MethodName)) ∈ lw_all := lw_g (lw_at lw_m7 7 rfl) rfl
theorem q1748 : (Jvm.Cond.methodLink "SchemaWorkshop$Meaning" (452 : Nat) ({ cls := "SchemaWorkshop$Meaning", name := "isSize", desc := "(II)Z" } : Jvm.MethodName)) ∈ lw_all := lw_g (lw_at lw_m7 11 rfl) rfl
theorem q1749 : (Jvm.Cond.instanceMethod ({ cls := "SchemaWorkshop$Meaning", name := "isSize", desc := "(II)Z" } : Jvm.MethodName)) ∈ lw_all := lw_g (lw_at lw_m7 12 rfl) rfl
theorem q1750 : (Jvm.Cond.selects "SchemaWorkshop$Meaning" ({ cls := "SchemaWorkshop$Meaning", name := "isSize", desc := "(II)Z" } : Jvm.MethodName) ({ cls := "SchemaWorkshop$Meaning", name := "isSize", desc := "(II)Z" } : Jvm.MethodName)) ∈ lw_all := lw_g (lw_at lw_m7 13 rfl) rfl
theorem q1751 : (Jvm.Cond.code ({ cls := "SchemaWorkshop$Meaning", name := "isSize", desc := "(II)Z" } : Jvm.MethodName) prog_9_method_49_code (5 : Nat) (Option.some Jvm.ClassFile.FieldType.boolean)) ∈ lw_all := lw_g (lw_at lw_m7 14 rfl) rfl
theorem q1752 : (Jvm.Cond.methodLink "SchemaWorkshop$Meaning" (359 : Nat) ({ cls := "SchemaWorkshop$Meaning", name := "leastSize", desc := "(II)I" } : Jvm.MethodName)) ∈ lw_all := lw_g (lw_at lw_m7 15 rfl) rfl
theorem q1753 : (Jvm.Cond.privateMethod ({ cls := "SchemaWorkshop$Meaning", name := "leastSize", desc := "(II)I" } : Jvm.MethodName)) ∈ lw_tbl := lw_at lw_m7 16 rfl
theorem q1754 : (Jvm.Cond.instanceMethod ({ cls := "SchemaWorkshop$Meaning", name := "leastSize", desc := "(II)I" } : Jvm.MethodName)) ∈ lw_all := lw_g (lw_at lw_m7 17 rfl) rfl
theorem q1755 : (Jvm.Cond.code ({ cls := "SchemaWorkshop$Meaning", name := "leastSize", desc := "(II)I" } : Jvm.MethodName) prog_9_method_46_code (8 : Nat) (Option.some Jvm.ClassFile.FieldType.int)) ∈ lw_all := lw_g (lw_at lw_m7 18 rfl) rfl
theorem q1756 : (Jvm.Cond.methodLink "SchemaWorkshop$Meaning" (348 : Nat) ({ cls := "SchemaWorkshop$Meaning", name := "sizeOf", desc := "(I)I" } : Jvm.MethodName)) ∈ lw_all := lw_g (lw_at lw_m7 19 rfl) rfl
theorem q1757 : (Jvm.Cond.privateMethod ({ cls := "SchemaWorkshop$Meaning", name := "sizeOf", desc := "(I)I" } : Jvm.MethodName)) ∈ lw_tbl := lw_at lw_m7 20 rfl
theorem q1758 : (Jvm.Cond.instanceMethod ({ cls := "SchemaWorkshop$Meaning", name := "sizeOf", desc := "(I)I" } : Jvm.MethodName)) ∈ lw_all := lw_g (lw_at lw_m7 21 rfl) rfl
theorem q1759 : (Jvm.Cond.code ({ cls := "SchemaWorkshop$Meaning", name := "sizeOf", desc := "(I)I" } : Jvm.MethodName) prog_9_method_47_code (5 : Nat) (Option.some Jvm.ClassFile.FieldType.int)) ∈ lw_all := lw_g (lw_at lw_m7 22 rfl) rfl
theorem q1760 : (Jvm.Cond.constant "SchemaWorkshop$Meaning" (353 : Nat) (2147483647 : Int32)) ∈ lw_all := lw_g (lw_at lw_m7 23 rfl) rfl
theorem q1761 : (Jvm.Cond.constant "SchemaWorkshop$Meaning" (354 : Nat) (8388607 : Int32)) ∈ lw_all := lw_g (lw_at lw_m7 24 rfl) rfl
theorem q1762 : (Jvm.Cond.methodLink "SchemaWorkshop$Meaning" (461 : Nat) ({ cls := "SchemaWorkshop$Forms", name := "needed", desc := "(LSchemaWorkshop$Bytes;II)I" } : Jvm.MethodName)) ∈ lw_all := lw_g (lw_at lw_m7 25 rfl) rfl
theorem q1769 : (Jvm.Cond.methodLink "SchemaWorkshop$Meaning" (464 : Nat) ({ cls := "SchemaWorkshop$Meaning", name := "sizeFrom", desc := "(II)I" } : Jvm.MethodName)) ∈ lw_all := lw_g (lw_at lw_m7 32 rfl) rfl
theorem q1770 : (Jvm.Cond.instanceMethod ({ cls := "SchemaWorkshop$Meaning", name := "sizeFrom", desc := "(II)I" } : Jvm.MethodName)) ∈ lw_all := lw_g (lw_at lw_m7 33 rfl) rfl
theorem q1771 : (Jvm.Cond.selects "SchemaWorkshop$Meaning" ({ cls := "SchemaWorkshop$Meaning", name := "sizeFrom", desc := "(II)I" } : Jvm.MethodName) ({ cls := "SchemaWorkshop$Meaning", name := "sizeFrom", desc := "(II)I" } : Jvm.MethodName)) ∈ lw_all := lw_g (lw_at lw_m7 34 rfl) rfl
theorem q1772 : (Jvm.Cond.code ({ cls := "SchemaWorkshop$Meaning", name := "sizeFrom", desc := "(II)I" } : Jvm.MethodName) prog_9_method_50_code (8 : Nat) (Option.some Jvm.ClassFile.FieldType.int)) ∈ lw_all := lw_g (lw_at lw_m7 35 rfl) rfl
theorem q1773 : (Jvm.Cond.methodLink "SchemaWorkshop$Meaning" (467 : Nat) ({ cls := "SchemaWorkshop$Meaning", name := "hasLimits", desc := "(I)Z" } : Jvm.MethodName)) ∈ lw_all := lw_g (lw_at lw_m7 36 rfl) rfl
theorem q1774 : (Jvm.Cond.privateMethod ({ cls := "SchemaWorkshop$Meaning", name := "hasLimits", desc := "(I)Z" } : Jvm.MethodName)) ∈ lw_tbl := lw_at lw_m7 37 rfl
theorem q1775 : (Jvm.Cond.instanceMethod ({ cls := "SchemaWorkshop$Meaning", name := "hasLimits", desc := "(I)Z" } : Jvm.MethodName)) ∈ lw_all := lw_g (lw_at lw_m7 38 rfl) rfl
theorem q1776 : (Jvm.Cond.code ({ cls := "SchemaWorkshop$Meaning", name := "hasLimits", desc := "(I)Z" } : Jvm.MethodName) prog_9_method_66_code (3 : Nat) (Option.some Jvm.ClassFile.FieldType.boolean)) ∈ lw_all := lw_g (lw_at lw_m7 39 rfl) rfl
theorem q1777 : (Jvm.Cond.methodLink "SchemaWorkshop$Meaning" (473 : Nat) ({ cls := "SchemaWorkshop$Forms", name := "write", desc := "(LSchemaWorkshop$Bytes;IIILSchemaWorkshop$Bytes;)V" } : Jvm.MethodName)) ∈ lw_all := lw_g (lw_at lw_m7 40 rfl) rfl
theorem q1781 : (Jvm.Cond.methodLink "SchemaWorkshop$Meaning" (437 : Nat) ({ cls := "SchemaWorkshop$Bytes", name := "all", desc := "(LSchemaWorkshop$Bytes;II)V" } : Jvm.MethodName)) ∈ lw_all := lw_g (lw_at lw_m7 44 rfl) rfl
theorem q1782 : (Jvm.Cond.methodLink "SchemaWorkshop$Meaning" (390 : Nat) ({ cls := "SchemaWorkshop$Meaning", name := "mayBeEmpty", desc := "(I)Z" } : Jvm.MethodName)) ∈ lw_all := lw_g (lw_at lw_m7 45 rfl) rfl
theorem q1783 : (Jvm.Cond.privateMethod ({ cls := "SchemaWorkshop$Meaning", name := "mayBeEmpty", desc := "(I)Z" } : Jvm.MethodName)) ∈ lw_tbl := lw_at lw_m7 46 rfl
theorem q1784 : (Jvm.Cond.instanceMethod ({ cls := "SchemaWorkshop$Meaning", name := "mayBeEmpty", desc := "(I)Z" } : Jvm.MethodName)) ∈ lw_all := lw_g (lw_at lw_m7 47 rfl) rfl
theorem q1785 : (Jvm.Cond.code ({ cls := "SchemaWorkshop$Meaning", name := "mayBeEmpty", desc := "(I)Z" } : Jvm.MethodName) prog_9_method_56_code (3 : Nat) (Option.some Jvm.ClassFile.FieldType.boolean)) ∈ lw_all := lw_g (lw_at lw_m7 48 rfl) rfl
theorem q1786 : (Jvm.Cond.methodLink "SchemaWorkshop$Meaning" (374 : Nat) ({ cls := "SchemaWorkshop$Meaning", name := "write", desc := "(III)Z" } : Jvm.MethodName)) ∈ lw_all := lw_g (lw_at lw_m7 49 rfl) rfl
theorem q1787 : (Jvm.Cond.privateMethod ({ cls := "SchemaWorkshop$Meaning", name := "write", desc := "(III)Z" } : Jvm.MethodName)) ∈ lw_tbl := lw_at lw_m7 50 rfl
theorem q1788 : (Jvm.Cond.instanceMethod ({ cls := "SchemaWorkshop$Meaning", name := "write", desc := "(III)Z" } : Jvm.MethodName)) ∈ lw_all := lw_g (lw_at lw_m7 51 rfl) rfl
theorem q1789 : (Jvm.Cond.code ({ cls := "SchemaWorkshop$Meaning", name := "write", desc := "(III)Z" } : Jvm.MethodName) prog_9_method_55_code (6 : Nat) (Option.some Jvm.ClassFile.FieldType.boolean)) ∈ lw_all := lw_g (lw_at lw_m7 52 rfl) rfl
theorem q1790 : (Jvm.Cond.methodLink "SchemaWorkshop$Meaning" (376 : Nat) ({ cls := "SchemaWorkshop$Bytes", name := "add", desc := "(I)V" } : Jvm.MethodName)) ∈ lw_all := lw_g (lw_at lw_m7 53 rfl) rfl
theorem q1791 : (Jvm.Cond.methodLink "SchemaWorkshop$Meaning" (378 : Nat) ({ cls := "SchemaWorkshop$Meaning", name := "digits", desc := "(IZZ)Z" } : Jvm.MethodName)) ∈ lw_all := lw_g (lw_at lw_m7 54 rfl) rfl
theorem q1792 : (Jvm.Cond.privateMethod ({ cls := "SchemaWorkshop$Meaning", name := "digits", desc := "(IZZ)Z" } : Jvm.MethodName)) ∈ lw_tbl := lw_at lw_m7 55 rfl
theorem q1793 : (Jvm.Cond.instanceMethod ({ cls := "SchemaWorkshop$Meaning", name := "digits", desc := "(IZZ)Z" } : Jvm.MethodName)) ∈ lw_all := lw_g (lw_at lw_m7 56 rfl) rfl
theorem q1794 : (Jvm.Cond.code ({ cls := "SchemaWorkshop$Meaning", name := "digits", desc := "(IZZ)Z" } : Jvm.MethodName) prog_9_method_57_code (9 : Nat) (Option.some Jvm.ClassFile.FieldType.boolean)) ∈ lw_all := lw_g (lw_at lw_m7 57 rfl) rfl
theorem q1795 : (Jvm.Cond.methodLink "SchemaWorkshop$Meaning" (393 : Nat) ({ cls := "SchemaWorkshop$Bytes", name := "set", desc := "(II)V" } : Jvm.MethodName)) ∈ lw_all := lw_g (lw_at lw_m7 58 rfl) rfl
theorem q1796 : (Jvm.Cond.methodLink "SchemaWorkshop$Meaning" (382 : Nat) ({ cls := "SchemaWorkshop$Meaning", name := "bitList", desc := "(II)Z" } : Jvm.MethodName)) ∈ lw_all := lw_g (lw_at lw_m7 59 rfl) rfl
theorem q1797 : (Jvm.Cond.privateMethod ({ cls := "SchemaWorkshop$Meaning", name := "bitList", desc := "(II)Z" } : Jvm.MethodName)) ∈ lw_tbl := lw_at lw_m7 60 rfl
theorem q1798 : (Jvm.Cond.instanceMethod ({ cls := "SchemaWorkshop$Meaning", name := "bitList", desc := "(II)Z" } : Jvm.MethodName)) ∈ lw_all := lw_g (lw_at lw_m7 61 rfl) rfl
theorem q1799 : (Jvm.Cond.code ({ cls := "SchemaWorkshop$Meaning", name := "bitList", desc := "(II)Z" } : Jvm.MethodName) prog_9_method_58_code (7 : Nat) (Option.some Jvm.ClassFile.FieldType.boolean)) ∈ lw_all := lw_g (lw_at lw_m7 62 rfl) rfl
theorem q1800 : (Jvm.Cond.methodLink "SchemaWorkshop$Meaning" (385 : Nat) ({ cls := "SchemaWorkshop$Meaning", name := "oid", desc := "(I)Z" } : Jvm.MethodName)) ∈ lw_all := lw_g (lw_at lw_m7 63 rfl) rfl
theorem q1801 : (Jvm.Cond.privateMethod ({ cls := "SchemaWorkshop$Meaning", name := "oid", desc := "(I)Z" } : Jvm.MethodName)) ∈ lw_tbl := lw_at lw_m7 64 rfl
theorem q1802 : (Jvm.Cond.instanceMethod ({ cls := "SchemaWorkshop$Meaning", name := "oid", desc := "(I)Z" } : Jvm.MethodName)) ∈ lw_all := lw_g (lw_at lw_m7 65 rfl) rfl
theorem q1803 : (Jvm.Cond.code ({ cls := "SchemaWorkshop$Meaning", name := "oid", desc := "(I)Z" } : Jvm.MethodName) prog_9_method_61_code (5 : Nat) (Option.some Jvm.ClassFile.FieldType.boolean)) ∈ lw_all := lw_g (lw_at lw_m7 66 rfl) rfl
theorem q1804 : (Jvm.Cond.methodLink "SchemaWorkshop$Meaning" (418 : Nat) ({ cls := "SchemaWorkshop$Forms", name := "beginOid", desc := "()V" } : Jvm.MethodName)) ∈ lw_all := lw_g (lw_at lw_m7 67 rfl) rfl
theorem q1808 : (Jvm.Cond.methodLink "SchemaWorkshop$Meaning" (421 : Nat) ({ cls := "SchemaWorkshop$Meaning", name := "firstPart", desc := "(I)I" } : Jvm.MethodName)) ∈ lw_all := lw_g (lw_at lw_m7 71 rfl) rfl
theorem q1809 : (Jvm.Cond.privateMethod ({ cls := "SchemaWorkshop$Meaning", name := "firstPart", desc := "(I)I" } : Jvm.MethodName)) ∈ lw_tbl := lw_at lw_m7 72 rfl
theorem q1810 : (Jvm.Cond.instanceMethod ({ cls := "SchemaWorkshop$Meaning", name := "firstPart", desc := "(I)I" } : Jvm.MethodName)) ∈ lw_all := lw_g (lw_at lw_m7 73 rfl) rfl
theorem q1811 : (Jvm.Cond.code ({ cls := "SchemaWorkshop$Meaning", name := "firstPart", desc := "(I)I" } : Jvm.MethodName) prog_9_method_60_code (2 : Nat) (Option.some Jvm.ClassFile.FieldType.int)) ∈ lw_all := lw_g (lw_at lw_m7 74 rfl) rfl
theorem q1812 : (Jvm.Cond.stringRef "SchemaWorkshop$Meaning" (404 : Nat) "itu-t") ∈ lw_tbl := lw_at lw_m7 75 rfl
theorem q1813 : (Jvm.Cond.methodLink "SchemaWorkshop$Meaning" (406 : Nat) ({ cls := "SchemaWorkshop$Meaning", name := "isWord", desc := "(ILjava/lang/String;)Z" } : Jvm.MethodName)) ∈ lw_all := lw_g (lw_at lw_m7 76 rfl) rfl
theorem q1814 : (Jvm.Cond.privateMethod ({ cls := "SchemaWorkshop$Meaning", name := "isWord", desc := "(ILjava/lang/String;)Z" } : Jvm.MethodName)) ∈ lw_tbl := lw_at lw_m7 77 rfl
theorem q1815 : (Jvm.Cond.instanceMethod ({ cls := "SchemaWorkshop$Meaning", name := "isWord", desc := "(ILjava/lang/String;)Z" } : Jvm.MethodName)) ∈ lw_all := lw_g (lw_at lw_m7 78 rfl) rfl
theorem q1816 : (Jvm.Cond.code ({ cls := "SchemaWorkshop$Meaning", name := "isWord", desc := "(ILjava/lang/String;)Z" } : Jvm.MethodName) prog_9_method_59_code (4 : Nat) (Option.some Jvm.ClassFile.FieldType.boolean)) ∈ lw_all := lw_g (lw_at lw_m7 79 rfl) rfl
theorem q1817 : (Jvm.Cond.methodLink "SchemaWorkshop$Meaning" (395 : Nat) ({ cls := "java/lang/String", name := "length", desc := "()I" } : Jvm.MethodName)) ∈ lw_all := lw_g (lw_at lw_m7 80 rfl) rfl
theorem q1818 : (Jvm.Cond.methodLink "SchemaWorkshop$Meaning" (400 : Nat) ({ cls := "java/lang/String", name := "charAt", desc := "(I)C" } : Jvm.MethodName)) ∈ lw_all := lw_g (lw_at lw_m7 81 rfl) rfl
theorem q1819 : (Jvm.Cond.stringRef "SchemaWorkshop$Meaning" (410 : Nat) "ccitt") ∈ lw_tbl := lw_at lw_m7 82 rfl
theorem q1820 : (Jvm.Cond.stringRef "SchemaWorkshop$Meaning" (412 : Nat) "iso") ∈ lw_tbl := lw_at lw_m7 83 rfl
theorem q1821 : (Jvm.Cond.stringRef "SchemaWorkshop$Meaning" (414 : Nat) "joint-iso-itu-t") ∈ lw_tbl := lw_at lw_m7 84 rfl
theorem q1822 : (Jvm.Cond.stringRef "SchemaWorkshop$Meaning" (416 : Nat) "joint-iso-ccitt") ∈ lw_tbl := lw_at lw_m7 85 rfl
theorem q1823 : (Jvm.Cond.methodLink "SchemaWorkshop$Meaning" (424 : Nat) ({ cls := "SchemaWorkshop$Forms", name := "addOid", desc := "(ILSchemaWorkshop$Bytes;)Z" } : Jvm.MethodName)) ∈ lw_all := lw_g (lw_at lw_m7 86 rfl) rfl
theorem q1845 : (Jvm.Cond.methodLink "SchemaWorkshop$Meaning" (428 : Nat) ({ cls := "SchemaWorkshop$Forms", name := "addOid", desc := "(LSchemaWorkshop$Bytes;IILSchemaWorkshop$Bytes;)Z" } : Jvm.MethodName)) ∈ lw_all := lw_g (lw_at lw_m7 108 rfl) rfl
theorem q1850 : (Jvm.Cond.methodLink "SchemaWorkshop$Meaning" (431 : Nat) ({ cls := "SchemaWorkshop$Forms", name := "endsOid", desc := "()Z" } : Jvm.MethodName)) ∈ lw_all := lw_g (lw_at lw_m7 113 rfl) rfl
theorem q1854 : (Jvm.Cond.methodLink "SchemaWorkshop$Meaning" (388 : Nat) ({ cls := "SchemaWorkshop$Meaning", name := "text", desc := "(II)Z" } : Jvm.MethodName)) ∈ lw_all := lw_g (lw_at lw_m7 117 rfl) rfl
theorem q1855 : (Jvm.Cond.privateMethod ({ cls := "SchemaWorkshop$Meaning", name := "text", desc := "(II)Z" } : Jvm.MethodName)) ∈ lw_tbl := lw_at lw_m7 118 rfl
theorem q1856 : (Jvm.Cond.instanceMethod ({ cls := "SchemaWorkshop$Meaning", name := "text", desc := "(II)Z" } : Jvm.MethodName)) ∈ lw_all := lw_g (lw_at lw_m7 119 rfl) rfl
theorem q1857 : (Jvm.Cond.code ({ cls := "SchemaWorkshop$Meaning", name := "text", desc := "(II)Z" } : Jvm.MethodName) prog_9_method_62_code (4 : Nat) (Option.some Jvm.ClassFile.FieldType.boolean)) ∈ lw_all := lw_g (lw_at lw_m7 120 rfl) rfl
theorem q1858 : (Jvm.Cond.methodLink "SchemaWorkshop$Meaning" (434 : Nat) ({ cls := "SchemaWorkshop$Times", name := "read", desc := "(LSchemaWorkshop$Bytes;IIZLSchemaWorkshop$Bytes;)I" } : Jvm.MethodName)) ∈ lw_all := lw_g (lw_at lw_m7 121 rfl) rfl
theorem q1909 : (Jvm.Cond.methodLink "SchemaWorkshop$Meaning" (440 : Nat) ({ cls := "SchemaWorkshop$Forms", name := "isString", desc := "(ILSchemaWorkshop$Bytes;II)Z" } : Jvm.MethodName)) ∈ lw_all := lw_g (lw_at lw_m7 172 rfl) rfl
theorem q1931 : (Jvm.Cond.instanceMethod ({ cls := "SchemaWorkshop$Meaning", name := "fault", desc := "()I" } : Jvm.MethodName)) ∈ lw_all := lw_g (lw_at lw_m7 194 rfl) rfl
theorem q1932 : (Jvm.Cond.selects "SchemaWorkshop$Meaning" ({ cls := "SchemaWorkshop$Meaning", name := "fault", desc := "()I" } : Jvm.MethodName) ({ cls := "SchemaWorkshop$Meaning", name := "fault", desc := "()I" } : Jvm.MethodName)) ∈ lw_all := lw_g (lw_at lw_m7 195 rfl) rfl
theorem q1933 : (Jvm.Cond.code ({ cls := "SchemaWorkshop$Meaning", name := "fault", desc := "()I" } : Jvm.MethodName) prog_9_method_2_code (1 : Nat) (Option.some Jvm.ClassFile.FieldType.int)) ∈ lw_all := lw_g (lw_at lw_m7 196 rfl) rfl
theorem q1935 : (Jvm.Cond.instanceMethod ({ cls := "SchemaWorkshop$Meaning", name := "place", desc := "()I" } : Jvm.MethodName)) ∈ lw_all := lw_g (lw_at lw_m7 198 rfl) rfl
theorem q1936 : (Jvm.Cond.selects "SchemaWorkshop$Meaning" ({ cls := "SchemaWorkshop$Meaning", name := "place", desc := "()I" } : Jvm.MethodName) ({ cls := "SchemaWorkshop$Meaning", name := "place", desc := "()I" } : Jvm.MethodName)) ∈ lw_all := lw_g (lw_at lw_m7 199 rfl) rfl
theorem q1937 : (Jvm.Cond.code ({ cls := "SchemaWorkshop$Meaning", name := "place", desc := "()I" } : Jvm.MethodName) prog_9_method_3_code (1 : Nat) (Option.some Jvm.ClassFile.FieldType.int)) ∈ lw_all := lw_g (lw_at lw_m7 200 rfl) rfl
theorem q2016 : (Jvm.Cond.instanceMethod ({ cls := "SchemaWorkshop$Meaning", name := "tagCount", desc := "(I)I" } : Jvm.MethodName)) ∈ lw_all := lw_g (lw_at lw_m8 39 rfl) rfl
theorem q2017 : (Jvm.Cond.selects "SchemaWorkshop$Meaning" ({ cls := "SchemaWorkshop$Meaning", name := "tagCount", desc := "(I)I" } : Jvm.MethodName) ({ cls := "SchemaWorkshop$Meaning", name := "tagCount", desc := "(I)I" } : Jvm.MethodName)) ∈ lw_all := lw_g (lw_at lw_m8 40 rfl) rfl
theorem q2018 : (Jvm.Cond.code ({ cls := "SchemaWorkshop$Meaning", name := "tagCount", desc := "(I)I" } : Jvm.MethodName) prog_9_method_29_code (2 : Nat) (Option.some Jvm.ClassFile.FieldType.int)) ∈ lw_all := lw_g (lw_at lw_m8 41 rfl) rfl
theorem q2054 : (Jvm.Cond.instanceMethod ({ cls := "SchemaWorkshop$Meaning", name := "valueTo", desc := "(I)I" } : Jvm.MethodName)) ∈ lw_all := lw_g (lw_at lw_m8 77 rfl) rfl
theorem q2055 : (Jvm.Cond.selects "SchemaWorkshop$Meaning" ({ cls := "SchemaWorkshop$Meaning", name := "valueTo", desc := "(I)I" } : Jvm.MethodName) ({ cls := "SchemaWorkshop$Meaning", name := "valueTo", desc := "(I)I" } : Jvm.MethodName)) ∈ lw_all := lw_g (lw_at lw_m8 78 rfl) rfl
theorem q2056 : (Jvm.Cond.code ({ cls := "SchemaWorkshop$Meaning", name := "valueTo", desc := "(I)I" } : Jvm.MethodName) prog_9_method_71_code (2 : Nat) (Option.some Jvm.ClassFile.FieldType.int)) ∈ lw_all := lw_g (lw_at lw_m8 79 rfl) rfl
theorem q2058 : (Jvm.Cond.instanceMethod ({ cls := "SchemaWorkshop$Meaning", name := "valueFrom", desc := "(I)I" } : Jvm.MethodName)) ∈ lw_all := lw_g (lw_at lw_m8 81 rfl) rfl
theorem q2059 : (Jvm.Cond.selects "SchemaWorkshop$Meaning" ({ cls := "SchemaWorkshop$Meaning", name := "valueFrom", desc := "(I)I" } : Jvm.MethodName) ({ cls := "SchemaWorkshop$Meaning", name := "valueFrom", desc := "(I)I" } : Jvm.MethodName)) ∈ lw_all := lw_g (lw_at lw_m8 82 rfl) rfl
theorem q2060 : (Jvm.Cond.code ({ cls := "SchemaWorkshop$Meaning", name := "valueFrom", desc := "(I)I" } : Jvm.MethodName) prog_9_method_70_code (2 : Nat) (Option.some Jvm.ClassFile.FieldType.int)) ∈ lw_all := lw_g (lw_at lw_m8 83 rfl) rfl
theorem q2300 : (Jvm.Cond.instanceMethod ({ cls := "SchemaWorkshop$Meaning", name := "pool", desc := "()LSchemaWorkshop$Bytes;" } : Jvm.MethodName)) ∈ lw_all := lw_g (lw_at lw_m9 83 rfl) rfl
theorem q2301 : (Jvm.Cond.selects "SchemaWorkshop$Meaning" ({ cls := "SchemaWorkshop$Meaning", name := "pool", desc := "()LSchemaWorkshop$Bytes;" } : Jvm.MethodName) ({ cls := "SchemaWorkshop$Meaning", name := "pool", desc := "()LSchemaWorkshop$Bytes;" } : Jvm.MethodName)) ∈ lw_all := lw_g (lw_at lw_m9 84 rfl) rfl
theorem q2302 : (Jvm.Cond.code ({ cls := "SchemaWorkshop$Meaning", name := "pool", desc := "()LSchemaWorkshop$Bytes;" } : Jvm.MethodName) prog_9_method_69_code (1 : Nat) (Option.some (Jvm.ClassFile.FieldType.object "SchemaWorkshop$Bytes"))) ∈ lw_all := lw_g (lw_at lw_m9 85 rfl) rfl
theorem in_X6 : ∀ w ∈ wsX60, w ∈ lw_all := lw_in wsX60 [652, 654, 656, 658, 660, 662, 664, 666, 668, 670, 672, 674, 676, 678, 680, 682, 684, 686, 688, 690, 692, 694, 696, 698, 700] (by decide +kernel) (by decide +kernel)
