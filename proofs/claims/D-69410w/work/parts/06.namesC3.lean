/-! SchemaWorkshop$Matcher -/
set_option maxRecDepth 100000
def RX13 : String := "SchemaWorkshop$Matcher"
def TX13 : u_T := fun k => match k with
  | 0 => ("SchemaWorkshop$Matcher", "tree", "LSchemaWorkshop$Tree;", true)
  | 1 => ("SchemaWorkshop$Matcher", "meaning", "LSchemaWorkshop$Meaning;", true)
  | 2 => ("SchemaWorkshop$Matcher", "forms", "LSchemaWorkshop$Forms;", true)
  | 3 => ("SchemaWorkshop$Matcher", "times", "LSchemaWorkshop$Times;", true)
  | 4 => ("SchemaWorkshop$Matcher", "row", "LSchemaWorkshop$Bytes;", false)
  | 5 => ("SchemaWorkshop$Matcher", "elements", "LSchemaWorkshop$Elements;", false)
  | 6 => ("SchemaWorkshop$Matcher", "fault", "I", false)
  | 7 => ("SchemaWorkshop$Matcher", "place", "I", false)
  | 8 => ("SchemaWorkshop$Matcher", "types", "[I", false)
  | 9 => ("SchemaWorkshop$Matcher", "levels", "[I", false)
  | 10 => ("SchemaWorkshop$Matcher", "components", "[I", false)
  | 11 => ("SchemaWorkshop$Matcher", "parents", "[I", false)
  | 12 => ("SchemaWorkshop$Matcher", "from", "[I", false)
  | 13 => ("SchemaWorkshop$Matcher", "lengths", "[I", false)
  | 14 => ("SchemaWorkshop$Matcher", "open", "[I", false)
  | 15 => ("SchemaWorkshop$Matcher", "nexts", "[I", false)
  | 16 => ("SchemaWorkshop$Matcher", "counts", "[I", false)
  | 17 => ("SchemaWorkshop$Matcher", "markFrom", "[I", false)
  | 18 => ("SchemaWorkshop$Matcher", "depth", "I", false)
  | 19 => ("SchemaWorkshop$Matcher", "marks", "[I", false)
  | 20 => ("SchemaWorkshop$Matcher", "search", "[I", false)
  | 21 => ("SchemaWorkshop$Matcher", "leaves", "LSchemaWorkshop$Bytes;", true)
  | 22 => ("SchemaWorkshop$Matcher", "raw", "LSchemaWorkshop$Bytes;", true)
  | 23 => ("SchemaWorkshop$Matcher", "out", "LSchemaWorkshop$Bytes;", true)
  | 24 => ("SchemaWorkshop$Matcher", "kids", "[I", false)
  | 25 => ("SchemaWorkshop$Matcher", "spots", "[I", false)
  | 26 => ("SchemaWorkshop$Matcher", "firsts", "[I", false)
  | 27 => ("SchemaWorkshop$Matcher", "kidSize", "I", false)
  | 28 => ("SchemaWorkshop$Matcher", "order", "[I", false)
  | _ => ("SchemaWorkshop$Matcher", "spare", "[I", false)
def tyX13 : Nat → FieldType := fun k => match k with
  | 0 => .object "SchemaWorkshop$Tree"
  | 1 => .object "SchemaWorkshop$Meaning"
  | 2 => .object "SchemaWorkshop$Forms"
  | 3 => .object "SchemaWorkshop$Times"
  | 4 => .object "SchemaWorkshop$Bytes"
  | 5 => .object "SchemaWorkshop$Elements"
  | 6 => .int
  | 7 => .int
  | 8 => .array .int
  | 9 => .array .int
  | 10 => .array .int
  | 11 => .array .int
  | 12 => .array .int
  | 13 => .array .int
  | 14 => .array .int
  | 15 => .array .int
  | 16 => .array .int
  | 17 => .array .int
  | 18 => .int
  | 19 => .array .int
  | 20 => .array .int
  | 21 => .object "SchemaWorkshop$Bytes"
  | 22 => .object "SchemaWorkshop$Bytes"
  | 23 => .object "SchemaWorkshop$Bytes"
  | 24 => .array .int
  | 25 => .array .int
  | 26 => .array .int
  | 27 => .int
  | 28 => .array .int
  | _ => .array .int
abbrev wsX130 : List Cond := u_ws RX13 TX13 30
set_option maxRecDepth 100000 in
theorem nmX13 : ∀ a, a < 30 → ∀ b, b < 30 → a ≠ b → (TX13 a).2.1 ≠ (TX13 b).2.1 := by decide +kernel
set_option maxRecDepth 100000 in
theorem tyX13_ok : ∀ k, k < 30 → parseFieldDescriptor (TX13 k).2.2.1 = some (tyX13 k) := by decide +kernel
abbrev cX13_init : ByteArray := prog_8_method_1_code
def yX13_init : MethodName := ⟨RX13, "<init>", "(LSchemaWorkshop$Tree;LSchemaWorkshop$Meaning;)V"⟩
def dkwX13_init_8 : List UInt8 := [188, 10, 181, 0, 89, 42, 16, 64, 188, 10, 181, 0, 92, 42, 43, 181, 0, 95, 42, 44, 181, 0, 99, 177]
abbrev dktX13_init_8 : List UInt8 := dkwX13_init_8 ++ []
def dkwX13_init_7 : List UInt8 := [188, 10, 181, 0, 80, 42, 16, 64, 188, 10, 181, 0, 83, 42, 16, 16, 188, 10, 181, 0, 86, 42, 16, 64]
abbrev dktX13_init_7 : List UInt8 := dkwX13_init_7 ++ dktX13_init_8
def dkwX13_init_6 : List UInt8 := [187, 0, 67, 89, 183, 0, 69, 181, 0, 74, 42, 187, 0, 67, 89, 183, 0, 69, 181, 0, 77, 42, 16, 64]
abbrev dktX13_init_6 : List UInt8 := dkwX13_init_6 ++ dktX13_init_7
def dkwX13_init_5 : List UInt8 := [181, 0, 61, 42, 16, 16, 188, 10, 181, 0, 64, 42, 187, 0, 67, 89, 183, 0, 69, 181, 0, 70, 42]
abbrev dktX13_init_5 : List UInt8 := dkwX13_init_5 ++ dktX13_init_6
def dkwX13_init_4 : List UInt8 := [181, 0, 52, 42, 16, 16, 188, 10, 181, 0, 55, 42, 16, 16, 188, 10, 181, 0, 58, 42, 16, 16, 188, 10]
abbrev dktX13_init_4 : List UInt8 := dkwX13_init_4 ++ dktX13_init_5
def dkwX13_init_3 : List UInt8 := [181, 0, 43, 42, 16, 64, 188, 10, 181, 0, 46, 42, 16, 16, 188, 10, 181, 0, 49, 42, 16, 16, 188, 10]
abbrev dktX13_init_3 : List UInt8 := dkwX13_init_3 ++ dktX13_init_4
def dkwX13_init_2 : List UInt8 := [181, 0, 34, 42, 16, 64, 188, 10, 181, 0, 37, 42, 16, 64, 188, 10, 181, 0, 40, 42, 16, 64, 188, 10]
abbrev dktX13_init_2 : List UInt8 := dkwX13_init_2 ++ dktX13_init_3
def dkwX13_init_1 : List UInt8 := [187, 0, 23, 89, 183, 0, 25, 181, 0, 26, 42, 16, 64, 188, 10, 181, 0, 30, 42, 16, 64, 188, 10]
abbrev dktX13_init_1 : List UInt8 := dkwX13_init_1 ++ dktX13_init_2
def dkwX13_init_0 : List UInt8 := [42, 183, 0, 3, 42, 187, 0, 9, 89, 187, 0, 11, 89, 183, 0, 13, 183, 0, 14, 181, 0, 17, 42]
abbrev dktX13_init_0 : List UInt8 := dkwX13_init_0 ++ dktX13_init_1
theorem dksX13_init_0 : cX13_init.data.toList.drop 0 = dktX13_init_0 := by decide +kernel
theorem dksX13_init_1 : cX13_init.data.toList.drop 23 = dktX13_init_1 := dk_seg dksX13_init_0 23 rfl rfl
theorem dksX13_init_2 : cX13_init.data.toList.drop 46 = dktX13_init_2 := dk_seg dksX13_init_1 23 rfl rfl
theorem dksX13_init_3 : cX13_init.data.toList.drop 70 = dktX13_init_3 := dk_seg dksX13_init_2 24 rfl rfl
theorem dksX13_init_4 : cX13_init.data.toList.drop 94 = dktX13_init_4 := dk_seg dksX13_init_3 24 rfl rfl
theorem dksX13_init_5 : cX13_init.data.toList.drop 118 = dktX13_init_5 := dk_seg dksX13_init_4 24 rfl rfl
theorem dksX13_init_6 : cX13_init.data.toList.drop 141 = dktX13_init_6 := dk_seg dksX13_init_5 23 rfl rfl
theorem dksX13_init_7 : cX13_init.data.toList.drop 165 = dktX13_init_7 := dk_seg dksX13_init_6 24 rfl rfl
theorem dksX13_init_8 : cX13_init.data.toList.drop 189 = dktX13_init_8 := dk_seg dksX13_init_7 24 rfl rfl
theorem dX13_init_0 : decode cX13_init 0 = .ok (.aload_n 0, 1) := dk_42 (dk_at dksX13_init_0 0 rfl rfl)
theorem dX13_init_1 : decode cX13_init 1 = .ok (.invokespecial 3, 3) := dk_183 0 3 (dk_at dksX13_init_0 1 rfl rfl)
theorem dX13_init_4 : decode cX13_init 4 = .ok (.aload_n 0, 1) := dk_42 (dk_at dksX13_init_0 4 rfl rfl)
theorem dX13_init_5 : decode cX13_init 5 = .ok (.new 9, 3) := dk_187 0 9 (dk_at dksX13_init_0 5 rfl rfl)
theorem dX13_init_8 : decode cX13_init 8 = .ok (.dup, 1) := dk_89 (dk_at dksX13_init_0 8 rfl rfl)
theorem dX13_init_9 : decode cX13_init 9 = .ok (.new 11, 3) := dk_187 0 11 (dk_at dksX13_init_0 9 rfl rfl)
theorem dX13_init_12 : decode cX13_init 12 = .ok (.dup, 1) := dk_89 (dk_at dksX13_init_0 12 rfl rfl)
theorem dX13_init_13 : decode cX13_init 13 = .ok (.invokespecial 13, 3) := dk_183 0 13 (dk_at dksX13_init_0 13 rfl rfl)
theorem dX13_init_16 : decode cX13_init 16 = .ok (.invokespecial 14, 3) := dk_183 0 14 (dk_at dksX13_init_0 16 rfl rfl)
theorem dX13_init_19 : decode cX13_init 19 = .ok (.putfield 17, 3) := dk_181 0 17 (dk_at dksX13_init_0 19 rfl rfl)
theorem dX13_init_22 : decode cX13_init 22 = .ok (.aload_n 0, 1) := dk_42 (dk_at dksX13_init_0 22 rfl rfl)
theorem dX13_init_23 : decode cX13_init 23 = .ok (.new 23, 3) := dk_187 0 23 (dk_at dksX13_init_1 0 rfl rfl)
theorem dX13_init_26 : decode cX13_init 26 = .ok (.dup, 1) := dk_89 (dk_at dksX13_init_1 3 rfl rfl)
theorem dX13_init_27 : decode cX13_init 27 = .ok (.invokespecial 25, 3) := dk_183 0 25 (dk_at dksX13_init_1 4 rfl rfl)
theorem dX13_init_30 : decode cX13_init 30 = .ok (.putfield 26, 3) := dk_181 0 26 (dk_at dksX13_init_1 7 rfl rfl)
theorem dX13_init_33 : decode cX13_init 33 = .ok (.aload_n 0, 1) := dk_42 (dk_at dksX13_init_1 10 rfl rfl)
theorem dX13_init_34 : decode cX13_init 34 = .ok (.bipush 64, 2) := dk_16 64 (dk_at dksX13_init_1 11 rfl rfl)
theorem dX13_init_36 : decode cX13_init 36 = .ok (.newarray .int, 2) := dk_188_10 (dk_at dksX13_init_1 13 rfl rfl)
theorem dX13_init_38 : decode cX13_init 38 = .ok (.putfield 30, 3) := dk_181 0 30 (dk_at dksX13_init_1 15 rfl rfl)
theorem dX13_init_41 : decode cX13_init 41 = .ok (.aload_n 0, 1) := dk_42 (dk_at dksX13_init_1 18 rfl rfl)
theorem dX13_init_42 : decode cX13_init 42 = .ok (.bipush 64, 2) := dk_16 64 (dk_at dksX13_init_1 19 rfl rfl)
theorem dX13_init_44 : decode cX13_init 44 = .ok (.newarray .int, 2) := dk_188_10 (dk_at dksX13_init_1 21 rfl rfl)
theorem dX13_init_46 : decode cX13_init 46 = .ok (.putfield 34, 3) := dk_181 0 34 (dk_at dksX13_init_2 0 rfl rfl)
theorem dX13_init_49 : decode cX13_init 49 = .ok (.aload_n 0, 1) := dk_42 (dk_at dksX13_init_2 3 rfl rfl)
theorem dX13_init_50 : decode cX13_init 50 = .ok (.bipush 64, 2) := dk_16 64 (dk_at dksX13_init_2 4 rfl rfl)
theorem dX13_init_52 : decode cX13_init 52 = .ok (.newarray .int, 2) := dk_188_10 (dk_at dksX13_init_2 6 rfl rfl)
theorem dX13_init_54 : decode cX13_init 54 = .ok (.putfield 37, 3) := dk_181 0 37 (dk_at dksX13_init_2 8 rfl rfl)
theorem dX13_init_57 : decode cX13_init 57 = .ok (.aload_n 0, 1) := dk_42 (dk_at dksX13_init_2 11 rfl rfl)
theorem dX13_init_58 : decode cX13_init 58 = .ok (.bipush 64, 2) := dk_16 64 (dk_at dksX13_init_2 12 rfl rfl)
theorem dX13_init_60 : decode cX13_init 60 = .ok (.newarray .int, 2) := dk_188_10 (dk_at dksX13_init_2 14 rfl rfl)
theorem dX13_init_62 : decode cX13_init 62 = .ok (.putfield 40, 3) := dk_181 0 40 (dk_at dksX13_init_2 16 rfl rfl)
theorem dX13_init_65 : decode cX13_init 65 = .ok (.aload_n 0, 1) := dk_42 (dk_at dksX13_init_2 19 rfl rfl)
theorem dX13_init_66 : decode cX13_init 66 = .ok (.bipush 64, 2) := dk_16 64 (dk_at dksX13_init_2 20 rfl rfl)
theorem dX13_init_68 : decode cX13_init 68 = .ok (.newarray .int, 2) := dk_188_10 (dk_at dksX13_init_2 22 rfl rfl)
theorem dX13_init_70 : decode cX13_init 70 = .ok (.putfield 43, 3) := dk_181 0 43 (dk_at dksX13_init_3 0 rfl rfl)
theorem dX13_init_73 : decode cX13_init 73 = .ok (.aload_n 0, 1) := dk_42 (dk_at dksX13_init_3 3 rfl rfl)
theorem dX13_init_74 : decode cX13_init 74 = .ok (.bipush 64, 2) := dk_16 64 (dk_at dksX13_init_3 4 rfl rfl)
theorem dX13_init_76 : decode cX13_init 76 = .ok (.newarray .int, 2) := dk_188_10 (dk_at dksX13_init_3 6 rfl rfl)
theorem dX13_init_78 : decode cX13_init 78 = .ok (.putfield 46, 3) := dk_181 0 46 (dk_at dksX13_init_3 8 rfl rfl)
theorem dX13_init_81 : decode cX13_init 81 = .ok (.aload_n 0, 1) := dk_42 (dk_at dksX13_init_3 11 rfl rfl)
theorem dX13_init_82 : decode cX13_init 82 = .ok (.bipush 16, 2) := dk_16 16 (dk_at dksX13_init_3 12 rfl rfl)
theorem dX13_init_84 : decode cX13_init 84 = .ok (.newarray .int, 2) := dk_188_10 (dk_at dksX13_init_3 14 rfl rfl)
theorem dX13_init_86 : decode cX13_init 86 = .ok (.putfield 49, 3) := dk_181 0 49 (dk_at dksX13_init_3 16 rfl rfl)
theorem dX13_init_89 : decode cX13_init 89 = .ok (.aload_n 0, 1) := dk_42 (dk_at dksX13_init_3 19 rfl rfl)
theorem dX13_init_90 : decode cX13_init 90 = .ok (.bipush 16, 2) := dk_16 16 (dk_at dksX13_init_3 20 rfl rfl)
theorem dX13_init_92 : decode cX13_init 92 = .ok (.newarray .int, 2) := dk_188_10 (dk_at dksX13_init_3 22 rfl rfl)
theorem dX13_init_94 : decode cX13_init 94 = .ok (.putfield 52, 3) := dk_181 0 52 (dk_at dksX13_init_4 0 rfl rfl)
theorem dX13_init_97 : decode cX13_init 97 = .ok (.aload_n 0, 1) := dk_42 (dk_at dksX13_init_4 3 rfl rfl)
theorem dX13_init_98 : decode cX13_init 98 = .ok (.bipush 16, 2) := dk_16 16 (dk_at dksX13_init_4 4 rfl rfl)
theorem dX13_init_100 : decode cX13_init 100 = .ok (.newarray .int, 2) := dk_188_10 (dk_at dksX13_init_4 6 rfl rfl)
theorem dX13_init_102 : decode cX13_init 102 = .ok (.putfield 55, 3) := dk_181 0 55 (dk_at dksX13_init_4 8 rfl rfl)
theorem dX13_init_105 : decode cX13_init 105 = .ok (.aload_n 0, 1) := dk_42 (dk_at dksX13_init_4 11 rfl rfl)
theorem dX13_init_106 : decode cX13_init 106 = .ok (.bipush 16, 2) := dk_16 16 (dk_at dksX13_init_4 12 rfl rfl)
theorem dX13_init_108 : decode cX13_init 108 = .ok (.newarray .int, 2) := dk_188_10 (dk_at dksX13_init_4 14 rfl rfl)
theorem dX13_init_110 : decode cX13_init 110 = .ok (.putfield 58, 3) := dk_181 0 58 (dk_at dksX13_init_4 16 rfl rfl)
theorem dX13_init_113 : decode cX13_init 113 = .ok (.aload_n 0, 1) := dk_42 (dk_at dksX13_init_4 19 rfl rfl)
theorem dX13_init_114 : decode cX13_init 114 = .ok (.bipush 16, 2) := dk_16 16 (dk_at dksX13_init_4 20 rfl rfl)
theorem dX13_init_116 : decode cX13_init 116 = .ok (.newarray .int, 2) := dk_188_10 (dk_at dksX13_init_4 22 rfl rfl)
theorem dX13_init_118 : decode cX13_init 118 = .ok (.putfield 61, 3) := dk_181 0 61 (dk_at dksX13_init_5 0 rfl rfl)
theorem dX13_init_121 : decode cX13_init 121 = .ok (.aload_n 0, 1) := dk_42 (dk_at dksX13_init_5 3 rfl rfl)
theorem dX13_init_122 : decode cX13_init 122 = .ok (.bipush 16, 2) := dk_16 16 (dk_at dksX13_init_5 4 rfl rfl)
theorem dX13_init_124 : decode cX13_init 124 = .ok (.newarray .int, 2) := dk_188_10 (dk_at dksX13_init_5 6 rfl rfl)
theorem dX13_init_126 : decode cX13_init 126 = .ok (.putfield 64, 3) := dk_181 0 64 (dk_at dksX13_init_5 8 rfl rfl)
theorem dX13_init_129 : decode cX13_init 129 = .ok (.aload_n 0, 1) := dk_42 (dk_at dksX13_init_5 11 rfl rfl)
theorem dX13_init_130 : decode cX13_init 130 = .ok (.new 67, 3) := dk_187 0 67 (dk_at dksX13_init_5 12 rfl rfl)
theorem dX13_init_133 : decode cX13_init 133 = .ok (.dup, 1) := dk_89 (dk_at dksX13_init_5 15 rfl rfl)
theorem dX13_init_134 : decode cX13_init 134 = .ok (.invokespecial 69, 3) := dk_183 0 69 (dk_at dksX13_init_5 16 rfl rfl)
theorem dX13_init_137 : decode cX13_init 137 = .ok (.putfield 70, 3) := dk_181 0 70 (dk_at dksX13_init_5 19 rfl rfl)
theorem dX13_init_140 : decode cX13_init 140 = .ok (.aload_n 0, 1) := dk_42 (dk_at dksX13_init_5 22 rfl rfl)
theorem dX13_init_141 : decode cX13_init 141 = .ok (.new 67, 3) := dk_187 0 67 (dk_at dksX13_init_6 0 rfl rfl)
theorem dX13_init_144 : decode cX13_init 144 = .ok (.dup, 1) := dk_89 (dk_at dksX13_init_6 3 rfl rfl)
theorem dX13_init_145 : decode cX13_init 145 = .ok (.invokespecial 69, 3) := dk_183 0 69 (dk_at dksX13_init_6 4 rfl rfl)
theorem dX13_init_148 : decode cX13_init 148 = .ok (.putfield 74, 3) := dk_181 0 74 (dk_at dksX13_init_6 7 rfl rfl)
theorem dX13_init_151 : decode cX13_init 151 = .ok (.aload_n 0, 1) := dk_42 (dk_at dksX13_init_6 10 rfl rfl)
theorem dX13_init_152 : decode cX13_init 152 = .ok (.new 67, 3) := dk_187 0 67 (dk_at dksX13_init_6 11 rfl rfl)
theorem dX13_init_155 : decode cX13_init 155 = .ok (.dup, 1) := dk_89 (dk_at dksX13_init_6 14 rfl rfl)
theorem dX13_init_156 : decode cX13_init 156 = .ok (.invokespecial 69, 3) := dk_183 0 69 (dk_at dksX13_init_6 15 rfl rfl)
theorem dX13_init_159 : decode cX13_init 159 = .ok (.putfield 77, 3) := dk_181 0 77 (dk_at dksX13_init_6 18 rfl rfl)
theorem dX13_init_162 : decode cX13_init 162 = .ok (.aload_n 0, 1) := dk_42 (dk_at dksX13_init_6 21 rfl rfl)
theorem dX13_init_163 : decode cX13_init 163 = .ok (.bipush 64, 2) := dk_16 64 (dk_at dksX13_init_6 22 rfl rfl)
theorem dX13_init_165 : decode cX13_init 165 = .ok (.newarray .int, 2) := dk_188_10 (dk_at dksX13_init_7 0 rfl rfl)
theorem dX13_init_167 : decode cX13_init 167 = .ok (.putfield 80, 3) := dk_181 0 80 (dk_at dksX13_init_7 2 rfl rfl)
theorem dX13_init_170 : decode cX13_init 170 = .ok (.aload_n 0, 1) := dk_42 (dk_at dksX13_init_7 5 rfl rfl)
theorem dX13_init_171 : decode cX13_init 171 = .ok (.bipush 64, 2) := dk_16 64 (dk_at dksX13_init_7 6 rfl rfl)
theorem dX13_init_173 : decode cX13_init 173 = .ok (.newarray .int, 2) := dk_188_10 (dk_at dksX13_init_7 8 rfl rfl)
theorem dX13_init_175 : decode cX13_init 175 = .ok (.putfield 83, 3) := dk_181 0 83 (dk_at dksX13_init_7 10 rfl rfl)
theorem dX13_init_178 : decode cX13_init 178 = .ok (.aload_n 0, 1) := dk_42 (dk_at dksX13_init_7 13 rfl rfl)
theorem dX13_init_179 : decode cX13_init 179 = .ok (.bipush 16, 2) := dk_16 16 (dk_at dksX13_init_7 14 rfl rfl)
theorem dX13_init_181 : decode cX13_init 181 = .ok (.newarray .int, 2) := dk_188_10 (dk_at dksX13_init_7 16 rfl rfl)
theorem dX13_init_183 : decode cX13_init 183 = .ok (.putfield 86, 3) := dk_181 0 86 (dk_at dksX13_init_7 18 rfl rfl)
theorem dX13_init_186 : decode cX13_init 186 = .ok (.aload_n 0, 1) := dk_42 (dk_at dksX13_init_7 21 rfl rfl)
theorem dX13_init_187 : decode cX13_init 187 = .ok (.bipush 64, 2) := dk_16 64 (dk_at dksX13_init_7 22 rfl rfl)
theorem dX13_init_189 : decode cX13_init 189 = .ok (.newarray .int, 2) := dk_188_10 (dk_at dksX13_init_8 0 rfl rfl)
theorem dX13_init_191 : decode cX13_init 191 = .ok (.putfield 89, 3) := dk_181 0 89 (dk_at dksX13_init_8 2 rfl rfl)
theorem dX13_init_194 : decode cX13_init 194 = .ok (.aload_n 0, 1) := dk_42 (dk_at dksX13_init_8 5 rfl rfl)
theorem dX13_init_195 : decode cX13_init 195 = .ok (.bipush 64, 2) := dk_16 64 (dk_at dksX13_init_8 6 rfl rfl)
theorem dX13_init_197 : decode cX13_init 197 = .ok (.newarray .int, 2) := dk_188_10 (dk_at dksX13_init_8 8 rfl rfl)
theorem dX13_init_199 : decode cX13_init 199 = .ok (.putfield 92, 3) := dk_181 0 92 (dk_at dksX13_init_8 10 rfl rfl)
theorem dX13_init_202 : decode cX13_init 202 = .ok (.aload_n 0, 1) := dk_42 (dk_at dksX13_init_8 13 rfl rfl)
theorem dX13_init_203 : decode cX13_init 203 = .ok (.aload_n 1, 1) := dk_43 (dk_at dksX13_init_8 14 rfl rfl)
theorem dX13_init_204 : decode cX13_init 204 = .ok (.putfield 95, 3) := dk_181 0 95 (dk_at dksX13_init_8 15 rfl rfl)
theorem dX13_init_207 : decode cX13_init 207 = .ok (.aload_n 0, 1) := dk_42 (dk_at dksX13_init_8 18 rfl rfl)
theorem dX13_init_208 : decode cX13_init 208 = .ok (.aload_n 2, 1) := dk_44 (dk_at dksX13_init_8 19 rfl rfl)
theorem dX13_init_209 : decode cX13_init 209 = .ok (.putfield 99, 3) := dk_181 0 99 (dk_at dksX13_init_8 20 rfl rfl)
theorem dX13_init_212 : decode cX13_init 212 = .ok (.return_, 1) := dk_177 (dk_at dksX13_init_8 23 rfl rfl)
abbrev cX13_read : ByteArray := prog_8_method_10_code
def yX13_read : MethodName := ⟨RX13, "read", "(ILSchemaWorkshop$Elements;LSchemaWorkshop$Bytes;)Z"⟩
def dkwX13_read_10 : List UInt8 := [180, 0, 103, 154, 0, 7, 4, 167, 0, 4, 3, 172]
abbrev dktX13_read_10 : List UInt8 := dkwX13_read_10 ++ []
def dkwX13_read_9 : List UInt8 := [42, 42, 180, 0, 49, 42, 180, 0, 169, 4, 100, 46, 21, 6, 182, 0, 191, 54, 6, 167, 255, 196, 42]
abbrev dktX13_read_9 : List UInt8 := dkwX13_read_9 ++ dktX13_read_10
def dkwX13_read_8 : List UInt8 := [42, 180, 0, 49, 42, 180, 0, 169, 4, 100, 46, 182, 0, 185, 160, 0, 10, 42, 182, 0, 188, 167, 255, 218]
abbrev dktX13_read_8 : List UInt8 := dkwX13_read_8 ++ dktX13_read_9
def dkwX13_read_7 : List UInt8 := [2, 2, 182, 0, 181, 54, 6, 42, 180, 0, 103, 154, 0, 59, 42, 180, 0, 169, 158, 0, 52, 21, 6, 44]
abbrev dktX13_read_7 : List UInt8 := dkwX13_read_7 ++ dktX13_read_8
def dkwX13_read_6 : List UInt8 := [182, 0, 174, 54, 5, 21, 5, 2, 160, 0, 11, 42, 16, 11, 3, 182, 0, 177, 172, 42, 3, 21, 5, 3]
abbrev dktX13_read_6 : List UInt8 := dkwX13_read_6 ++ dktX13_read_7
def dkwX13_read_5 : List UInt8 := [42, 180, 0, 70, 182, 0, 166, 42, 3, 181, 0, 169, 42, 3, 181, 0, 103, 42, 27, 44, 3, 182, 0, 172]
abbrev dktX13_read_5 : List UInt8 := dkwX13_read_5 ++ dktX13_read_6
def dkwX13_read_4 : List UInt8 := [3, 54, 5, 21, 5, 21, 4, 162, 0, 17, 42, 180, 0, 30, 21, 5, 2, 79, 132, 5, 1, 167, 255, 238]
abbrev dktX13_read_4 : List UInt8 := dkwX13_read_4 ++ dktX13_read_5
def dkwX13_read_3 : List UInt8 := [180, 0, 43, 21, 4, 184, 0, 148, 181, 0, 43, 42, 42, 180, 0, 46, 21, 4, 184, 0, 148, 181, 0, 46]
abbrev dktX13_read_3 : List UInt8 := dkwX13_read_3 ++ dktX13_read_4
def dkwX13_read_2 : List UInt8 := [21, 4, 184, 0, 148, 181, 0, 37, 42, 42, 180, 0, 40, 21, 4, 184, 0, 148, 181, 0, 40, 42, 42]
abbrev dktX13_read_2 : List UInt8 := dkwX13_read_2 ++ dktX13_read_3
def dkwX13_read_1 : List UInt8 := [184, 0, 148, 181, 0, 30, 42, 42, 180, 0, 34, 21, 4, 184, 0, 148, 181, 0, 34, 42, 42, 180, 0, 37]
abbrev dktX13_read_1 : List UInt8 := dkwX13_read_1 ++ dktX13_read_2
def dkwX13_read_0 : List UInt8 := [42, 45, 181, 0, 159, 42, 44, 181, 0, 110, 44, 182, 0, 162, 54, 4, 42, 42, 180, 0, 30, 21, 4]
abbrev dktX13_read_0 : List UInt8 := dkwX13_read_0 ++ dktX13_read_1
theorem dksX13_read_0 : cX13_read.data.toList.drop 0 = dktX13_read_0 := by decide +kernel
theorem dksX13_read_1 : cX13_read.data.toList.drop 23 = dktX13_read_1 := dk_seg dksX13_read_0 23 rfl rfl
theorem dksX13_read_2 : cX13_read.data.toList.drop 47 = dktX13_read_2 := dk_seg dksX13_read_1 24 rfl rfl
theorem dksX13_read_3 : cX13_read.data.toList.drop 70 = dktX13_read_3 := dk_seg dksX13_read_2 23 rfl rfl
theorem dksX13_read_4 : cX13_read.data.toList.drop 94 = dktX13_read_4 := dk_seg dksX13_read_3 24 rfl rfl
theorem dksX13_read_5 : cX13_read.data.toList.drop 118 = dktX13_read_5 := dk_seg dksX13_read_4 24 rfl rfl
theorem dksX13_read_6 : cX13_read.data.toList.drop 142 = dktX13_read_6 := dk_seg dksX13_read_5 24 rfl rfl
theorem dksX13_read_7 : cX13_read.data.toList.drop 166 = dktX13_read_7 := dk_seg dksX13_read_6 24 rfl rfl
theorem dksX13_read_8 : cX13_read.data.toList.drop 190 = dktX13_read_8 := dk_seg dksX13_read_7 24 rfl rfl
theorem dksX13_read_9 : cX13_read.data.toList.drop 214 = dktX13_read_9 := dk_seg dksX13_read_8 24 rfl rfl
theorem dksX13_read_10 : cX13_read.data.toList.drop 237 = dktX13_read_10 := dk_seg dksX13_read_9 23 rfl rfl
theorem dX13_read_0 : decode cX13_read 0 = .ok (.aload_n 0, 1) := dk_42 (dk_at dksX13_read_0 0 rfl rfl)
theorem dX13_read_1 : decode cX13_read 1 = .ok (.aload_n 3, 1) := dk_45 (dk_at dksX13_read_0 1 rfl rfl)
theorem dX13_read_2 : decode cX13_read 2 = .ok (.putfield 159, 3) := dk_181 0 159 (dk_at dksX13_read_0 2 rfl rfl)
theorem dX13_read_5 : decode cX13_read 5 = .ok (.aload_n 0, 1) := dk_42 (dk_at dksX13_read_0 5 rfl rfl)
theorem dX13_read_6 : decode cX13_read 6 = .ok (.aload_n 2, 1) := dk_44 (dk_at dksX13_read_0 6 rfl rfl)
theorem dX13_read_7 : decode cX13_read 7 = .ok (.putfield 110, 3) := dk_181 0 110 (dk_at dksX13_read_0 7 rfl rfl)
theorem dX13_read_10 : decode cX13_read 10 = .ok (.aload_n 2, 1) := dk_44 (dk_at dksX13_read_0 10 rfl rfl)
theorem dX13_read_11 : decode cX13_read 11 = .ok (.invokevirtual 162, 3) := dk_182 0 162 (dk_at dksX13_read_0 11 rfl rfl)
theorem dX13_read_14 : decode cX13_read 14 = .ok (.istore 4, 2) := dk_54 4 (dk_at dksX13_read_0 14 rfl rfl)
theorem dX13_read_16 : decode cX13_read 16 = .ok (.aload_n 0, 1) := dk_42 (dk_at dksX13_read_0 16 rfl rfl)
theorem dX13_read_17 : decode cX13_read 17 = .ok (.aload_n 0, 1) := dk_42 (dk_at dksX13_read_0 17 rfl rfl)
theorem dX13_read_18 : decode cX13_read 18 = .ok (.getfield 30, 3) := dk_180 0 30 (dk_at dksX13_read_0 18 rfl rfl)
theorem dX13_read_21 : decode cX13_read 21 = .ok (.iload 4, 2) := dk_21 4 (dk_at dksX13_read_0 21 rfl rfl)
theorem dX13_read_23 : decode cX13_read 23 = .ok (.invokestatic 148, 3) := dk_184 0 148 (dk_at dksX13_read_1 0 rfl rfl)
theorem dX13_read_26 : decode cX13_read 26 = .ok (.putfield 30, 3) := dk_181 0 30 (dk_at dksX13_read_1 3 rfl rfl)
theorem dX13_read_29 : decode cX13_read 29 = .ok (.aload_n 0, 1) := dk_42 (dk_at dksX13_read_1 6 rfl rfl)
theorem dX13_read_30 : decode cX13_read 30 = .ok (.aload_n 0, 1) := dk_42 (dk_at dksX13_read_1 7 rfl rfl)
theorem dX13_read_31 : decode cX13_read 31 = .ok (.getfield 34, 3) := dk_180 0 34 (dk_at dksX13_read_1 8 rfl rfl)
theorem dX13_read_34 : decode cX13_read 34 = .ok (.iload 4, 2) := dk_21 4 (dk_at dksX13_read_1 11 rfl rfl)
theorem dX13_read_36 : decode cX13_read 36 = .ok (.invokestatic 148, 3) := dk_184 0 148 (dk_at dksX13_read_1 13 rfl rfl)
theorem dX13_read_39 : decode cX13_read 39 = .ok (.putfield 34, 3) := dk_181 0 34 (dk_at dksX13_read_1 16 rfl rfl)
theorem dX13_read_42 : decode cX13_read 42 = .ok (.aload_n 0, 1) := dk_42 (dk_at dksX13_read_1 19 rfl rfl)
theorem dX13_read_43 : decode cX13_read 43 = .ok (.aload_n 0, 1) := dk_42 (dk_at dksX13_read_1 20 rfl rfl)
theorem dX13_read_44 : decode cX13_read 44 = .ok (.getfield 37, 3) := dk_180 0 37 (dk_at dksX13_read_1 21 rfl rfl)
theorem dX13_read_47 : decode cX13_read 47 = .ok (.iload 4, 2) := dk_21 4 (dk_at dksX13_read_2 0 rfl rfl)
theorem dX13_read_49 : decode cX13_read 49 = .ok (.invokestatic 148, 3) := dk_184 0 148 (dk_at dksX13_read_2 2 rfl rfl)
theorem dX13_read_52 : decode cX13_read 52 = .ok (.putfield 37, 3) := dk_181 0 37 (dk_at dksX13_read_2 5 rfl rfl)
theorem dX13_read_55 : decode cX13_read 55 = .ok (.aload_n 0, 1) := dk_42 (dk_at dksX13_read_2 8 rfl rfl)
theorem dX13_read_56 : decode cX13_read 56 = .ok (.aload_n 0, 1) := dk_42 (dk_at dksX13_read_2 9 rfl rfl)
theorem dX13_read_57 : decode cX13_read 57 = .ok (.getfield 40, 3) := dk_180 0 40 (dk_at dksX13_read_2 10 rfl rfl)
theorem dX13_read_60 : decode cX13_read 60 = .ok (.iload 4, 2) := dk_21 4 (dk_at dksX13_read_2 13 rfl rfl)
theorem dX13_read_62 : decode cX13_read 62 = .ok (.invokestatic 148, 3) := dk_184 0 148 (dk_at dksX13_read_2 15 rfl rfl)
theorem dX13_read_65 : decode cX13_read 65 = .ok (.putfield 40, 3) := dk_181 0 40 (dk_at dksX13_read_2 18 rfl rfl)
theorem dX13_read_68 : decode cX13_read 68 = .ok (.aload_n 0, 1) := dk_42 (dk_at dksX13_read_2 21 rfl rfl)
theorem dX13_read_69 : decode cX13_read 69 = .ok (.aload_n 0, 1) := dk_42 (dk_at dksX13_read_2 22 rfl rfl)
theorem dX13_read_70 : decode cX13_read 70 = .ok (.getfield 43, 3) := dk_180 0 43 (dk_at dksX13_read_3 0 rfl rfl)
theorem dX13_read_73 : decode cX13_read 73 = .ok (.iload 4, 2) := dk_21 4 (dk_at dksX13_read_3 3 rfl rfl)
theorem dX13_read_75 : decode cX13_read 75 = .ok (.invokestatic 148, 3) := dk_184 0 148 (dk_at dksX13_read_3 5 rfl rfl)
theorem dX13_read_78 : decode cX13_read 78 = .ok (.putfield 43, 3) := dk_181 0 43 (dk_at dksX13_read_3 8 rfl rfl)
theorem dX13_read_81 : decode cX13_read 81 = .ok (.aload_n 0, 1) := dk_42 (dk_at dksX13_read_3 11 rfl rfl)
theorem dX13_read_82 : decode cX13_read 82 = .ok (.aload_n 0, 1) := dk_42 (dk_at dksX13_read_3 12 rfl rfl)
theorem dX13_read_83 : decode cX13_read 83 = .ok (.getfield 46, 3) := dk_180 0 46 (dk_at dksX13_read_3 13 rfl rfl)
theorem dX13_read_86 : decode cX13_read 86 = .ok (.iload 4, 2) := dk_21 4 (dk_at dksX13_read_3 16 rfl rfl)
theorem dX13_read_88 : decode cX13_read 88 = .ok (.invokestatic 148, 3) := dk_184 0 148 (dk_at dksX13_read_3 18 rfl rfl)
theorem dX13_read_91 : decode cX13_read 91 = .ok (.putfield 46, 3) := dk_181 0 46 (dk_at dksX13_read_3 21 rfl rfl)
theorem dX13_read_94 : decode cX13_read 94 = .ok (.iconst 0, 1) := dk_3 (dk_at dksX13_read_4 0 rfl rfl)
theorem dX13_read_95 : decode cX13_read 95 = .ok (.istore 5, 2) := dk_54 5 (dk_at dksX13_read_4 1 rfl rfl)
theorem dX13_read_97 : decode cX13_read 97 = .ok (.iload 5, 2) := dk_21 5 (dk_at dksX13_read_4 3 rfl rfl)
theorem dX13_read_99 : decode cX13_read 99 = .ok (.iload 4, 2) := dk_21 4 (dk_at dksX13_read_4 5 rfl rfl)
theorem dX13_read_101 : decode cX13_read 101 = .ok (.if_icmp .ge 17, 3) := dk_162 0 17 (dk_at dksX13_read_4 7 rfl rfl)
theorem dX13_read_104 : decode cX13_read 104 = .ok (.aload_n 0, 1) := dk_42 (dk_at dksX13_read_4 10 rfl rfl)
theorem dX13_read_105 : decode cX13_read 105 = .ok (.getfield 30, 3) := dk_180 0 30 (dk_at dksX13_read_4 11 rfl rfl)
theorem dX13_read_108 : decode cX13_read 108 = .ok (.iload 5, 2) := dk_21 5 (dk_at dksX13_read_4 14 rfl rfl)
theorem dX13_read_110 : decode cX13_read 110 = .ok (.iconst (-1), 1) := dk_2 (dk_at dksX13_read_4 16 rfl rfl)
theorem dX13_read_111 : decode cX13_read 111 = .ok (.iastore, 1) := dk_79 (dk_at dksX13_read_4 17 rfl rfl)
theorem dX13_read_112 : decode cX13_read 112 = .ok (.iinc 5 1, 3) := dk_132 5 1 (dk_at dksX13_read_4 18 rfl rfl)
theorem dX13_read_115 : decode cX13_read 115 = .ok (.goto (-18), 3) := dk_167 255 238 (dk_at dksX13_read_4 21 rfl rfl)
theorem dX13_read_118 : decode cX13_read 118 = .ok (.aload_n 0, 1) := dk_42 (dk_at dksX13_read_5 0 rfl rfl)
theorem dX13_read_119 : decode cX13_read 119 = .ok (.getfield 70, 3) := dk_180 0 70 (dk_at dksX13_read_5 1 rfl rfl)
theorem dX13_read_122 : decode cX13_read 122 = .ok (.invokevirtual 166, 3) := dk_182 0 166 (dk_at dksX13_read_5 4 rfl rfl)
theorem dX13_read_125 : decode cX13_read 125 = .ok (.aload_n 0, 1) := dk_42 (dk_at dksX13_read_5 7 rfl rfl)
theorem dX13_read_126 : decode cX13_read 126 = .ok (.iconst 0, 1) := dk_3 (dk_at dksX13_read_5 8 rfl rfl)
theorem dX13_read_127 : decode cX13_read 127 = .ok (.putfield 169, 3) := dk_181 0 169 (dk_at dksX13_read_5 9 rfl rfl)
theorem dX13_read_130 : decode cX13_read 130 = .ok (.aload_n 0, 1) := dk_42 (dk_at dksX13_read_5 12 rfl rfl)
theorem dX13_read_131 : decode cX13_read 131 = .ok (.iconst 0, 1) := dk_3 (dk_at dksX13_read_5 13 rfl rfl)
theorem dX13_read_132 : decode cX13_read 132 = .ok (.putfield 103, 3) := dk_181 0 103 (dk_at dksX13_read_5 14 rfl rfl)
theorem dX13_read_135 : decode cX13_read 135 = .ok (.aload_n 0, 1) := dk_42 (dk_at dksX13_read_5 17 rfl rfl)
theorem dX13_read_136 : decode cX13_read 136 = .ok (.iload_n 1, 1) := dk_27 (dk_at dksX13_read_5 18 rfl rfl)
theorem dX13_read_137 : decode cX13_read 137 = .ok (.aload_n 2, 1) := dk_44 (dk_at dksX13_read_5 19 rfl rfl)
theorem dX13_read_138 : decode cX13_read 138 = .ok (.iconst 0, 1) := dk_3 (dk_at dksX13_read_5 20 rfl rfl)
theorem dX13_read_139 : decode cX13_read 139 = .ok (.invokevirtual 172, 3) := dk_182 0 172 (dk_at dksX13_read_5 21 rfl rfl)
theorem dX13_read_142 : decode cX13_read 142 = .ok (.invokevirtual 174, 3) := dk_182 0 174 (dk_at dksX13_read_6 0 rfl rfl)
theorem dX13_read_145 : decode cX13_read 145 = .ok (.istore 5, 2) := dk_54 5 (dk_at dksX13_read_6 3 rfl rfl)
theorem dX13_read_147 : decode cX13_read 147 = .ok (.iload 5, 2) := dk_21 5 (dk_at dksX13_read_6 5 rfl rfl)
theorem dX13_read_149 : decode cX13_read 149 = .ok (.iconst (-1), 1) := dk_2 (dk_at dksX13_read_6 7 rfl rfl)
theorem dX13_read_150 : decode cX13_read 150 = .ok (.if_icmp .ne 11, 3) := dk_160 0 11 (dk_at dksX13_read_6 8 rfl rfl)
theorem dX13_read_153 : decode cX13_read 153 = .ok (.aload_n 0, 1) := dk_42 (dk_at dksX13_read_6 11 rfl rfl)
theorem dX13_read_154 : decode cX13_read 154 = .ok (.bipush 11, 2) := dk_16 11 (dk_at dksX13_read_6 12 rfl rfl)
theorem dX13_read_156 : decode cX13_read 156 = .ok (.iconst 0, 1) := dk_3 (dk_at dksX13_read_6 14 rfl rfl)
theorem dX13_read_157 : decode cX13_read 157 = .ok (.invokevirtual 177, 3) := dk_182 0 177 (dk_at dksX13_read_6 15 rfl rfl)
theorem dX13_read_160 : decode cX13_read 160 = .ok (.ireturn, 1) := dk_172 (dk_at dksX13_read_6 18 rfl rfl)
theorem dX13_read_161 : decode cX13_read 161 = .ok (.aload_n 0, 1) := dk_42 (dk_at dksX13_read_6 19 rfl rfl)
theorem dX13_read_162 : decode cX13_read 162 = .ok (.iconst 0, 1) := dk_3 (dk_at dksX13_read_6 20 rfl rfl)
theorem dX13_read_163 : decode cX13_read 163 = .ok (.iload 5, 2) := dk_21 5 (dk_at dksX13_read_6 21 rfl rfl)
theorem dX13_read_165 : decode cX13_read 165 = .ok (.iconst 0, 1) := dk_3 (dk_at dksX13_read_6 23 rfl rfl)
theorem dX13_read_166 : decode cX13_read 166 = .ok (.iconst (-1), 1) := dk_2 (dk_at dksX13_read_7 0 rfl rfl)
theorem dX13_read_167 : decode cX13_read 167 = .ok (.iconst (-1), 1) := dk_2 (dk_at dksX13_read_7 1 rfl rfl)
theorem dX13_read_168 : decode cX13_read 168 = .ok (.invokevirtual 181, 3) := dk_182 0 181 (dk_at dksX13_read_7 2 rfl rfl)
theorem dX13_read_171 : decode cX13_read 171 = .ok (.istore 6, 2) := dk_54 6 (dk_at dksX13_read_7 5 rfl rfl)
theorem dX13_read_173 : decode cX13_read 173 = .ok (.aload_n 0, 1) := dk_42 (dk_at dksX13_read_7 7 rfl rfl)
theorem dX13_read_174 : decode cX13_read 174 = .ok (.getfield 103, 3) := dk_180 0 103 (dk_at dksX13_read_7 8 rfl rfl)
theorem dX13_read_177 : decode cX13_read 177 = .ok (.ifCond .ne 59, 3) := dk_154 0 59 (dk_at dksX13_read_7 11 rfl rfl)
theorem dX13_read_180 : decode cX13_read 180 = .ok (.aload_n 0, 1) := dk_42 (dk_at dksX13_read_7 14 rfl rfl)
theorem dX13_read_181 : decode cX13_read 181 = .ok (.getfield 169, 3) := dk_180 0 169 (dk_at dksX13_read_7 15 rfl rfl)
theorem dX13_read_184 : decode cX13_read 184 = .ok (.ifCond .le 52, 3) := dk_158 0 52 (dk_at dksX13_read_7 18 rfl rfl)
theorem dX13_read_187 : decode cX13_read 187 = .ok (.iload 6, 2) := dk_21 6 (dk_at dksX13_read_7 21 rfl rfl)
theorem dX13_read_189 : decode cX13_read 189 = .ok (.aload_n 2, 1) := dk_44 (dk_at dksX13_read_7 23 rfl rfl)
theorem dX13_read_190 : decode cX13_read 190 = .ok (.aload_n 0, 1) := dk_42 (dk_at dksX13_read_8 0 rfl rfl)
theorem dX13_read_191 : decode cX13_read 191 = .ok (.getfield 49, 3) := dk_180 0 49 (dk_at dksX13_read_8 1 rfl rfl)
theorem dX13_read_194 : decode cX13_read 194 = .ok (.aload_n 0, 1) := dk_42 (dk_at dksX13_read_8 4 rfl rfl)
theorem dX13_read_195 : decode cX13_read 195 = .ok (.getfield 169, 3) := dk_180 0 169 (dk_at dksX13_read_8 5 rfl rfl)
theorem dX13_read_198 : decode cX13_read 198 = .ok (.iconst 1, 1) := dk_4 (dk_at dksX13_read_8 8 rfl rfl)
theorem dX13_read_199 : decode cX13_read 199 = .ok (.isub, 1) := dk_100 (dk_at dksX13_read_8 9 rfl rfl)
theorem dX13_read_200 : decode cX13_read 200 = .ok (.iaload, 1) := dk_46 (dk_at dksX13_read_8 10 rfl rfl)
theorem dX13_read_201 : decode cX13_read 201 = .ok (.invokevirtual 185, 3) := dk_182 0 185 (dk_at dksX13_read_8 11 rfl rfl)
theorem dX13_read_204 : decode cX13_read 204 = .ok (.if_icmp .ne 10, 3) := dk_160 0 10 (dk_at dksX13_read_8 14 rfl rfl)
theorem dX13_read_207 : decode cX13_read 207 = .ok (.aload_n 0, 1) := dk_42 (dk_at dksX13_read_8 17 rfl rfl)
theorem dX13_read_208 : decode cX13_read 208 = .ok (.invokevirtual 188, 3) := dk_182 0 188 (dk_at dksX13_read_8 18 rfl rfl)
theorem dX13_read_211 : decode cX13_read 211 = .ok (.goto (-38), 3) := dk_167 255 218 (dk_at dksX13_read_8 21 rfl rfl)
theorem dX13_read_214 : decode cX13_read 214 = .ok (.aload_n 0, 1) := dk_42 (dk_at dksX13_read_9 0 rfl rfl)
theorem dX13_read_215 : decode cX13_read 215 = .ok (.aload_n 0, 1) := dk_42 (dk_at dksX13_read_9 1 rfl rfl)
theorem dX13_read_216 : decode cX13_read 216 = .ok (.getfield 49, 3) := dk_180 0 49 (dk_at dksX13_read_9 2 rfl rfl)
theorem dX13_read_219 : decode cX13_read 219 = .ok (.aload_n 0, 1) := dk_42 (dk_at dksX13_read_9 5 rfl rfl)
theorem dX13_read_220 : decode cX13_read 220 = .ok (.getfield 169, 3) := dk_180 0 169 (dk_at dksX13_read_9 6 rfl rfl)
theorem dX13_read_223 : decode cX13_read 223 = .ok (.iconst 1, 1) := dk_4 (dk_at dksX13_read_9 9 rfl rfl)
theorem dX13_read_224 : decode cX13_read 224 = .ok (.isub, 1) := dk_100 (dk_at dksX13_read_9 10 rfl rfl)
theorem dX13_read_225 : decode cX13_read 225 = .ok (.iaload, 1) := dk_46 (dk_at dksX13_read_9 11 rfl rfl)
theorem dX13_read_226 : decode cX13_read 226 = .ok (.iload 6, 2) := dk_21 6 (dk_at dksX13_read_9 12 rfl rfl)
theorem dX13_read_228 : decode cX13_read 228 = .ok (.invokevirtual 191, 3) := dk_182 0 191 (dk_at dksX13_read_9 14 rfl rfl)
theorem dX13_read_231 : decode cX13_read 231 = .ok (.istore 6, 2) := dk_54 6 (dk_at dksX13_read_9 17 rfl rfl)
theorem dX13_read_233 : decode cX13_read 233 = .ok (.goto (-60), 3) := dk_167 255 196 (dk_at dksX13_read_9 19 rfl rfl)
theorem dX13_read_236 : decode cX13_read 236 = .ok (.aload_n 0, 1) := dk_42 (dk_at dksX13_read_9 22 rfl rfl)
theorem dX13_read_237 : decode cX13_read 237 = .ok (.getfield 103, 3) := dk_180 0 103 (dk_at dksX13_read_10 0 rfl rfl)
theorem dX13_read_240 : decode cX13_read 240 = .ok (.ifCond .ne 7, 3) := dk_154 0 7 (dk_at dksX13_read_10 3 rfl rfl)
theorem dX13_read_243 : decode cX13_read 243 = .ok (.iconst 1, 1) := dk_4 (dk_at dksX13_read_10 6 rfl rfl)
theorem dX13_read_244 : decode cX13_read 244 = .ok (.goto 4, 3) := dk_167 0 4 (dk_at dksX13_read_10 7 rfl rfl)
theorem dX13_read_247 : decode cX13_read 247 = .ok (.iconst 0, 1) := dk_3 (dk_at dksX13_read_10 10 rfl rfl)
theorem dX13_read_248 : decode cX13_read 248 = .ok (.ireturn, 1) := dk_172 (dk_at dksX13_read_10 11 rfl rfl)
abbrev cX13_grown : ByteArray := prog_8_method_5_code
def yX13_grown : MethodName := ⟨RX13, "grown", "([II)[I"⟩
def dkwX13_grown_1 : List UInt8 := [190, 184, 0, 126, 44, 176]
abbrev dktX13_grown_1 : List UInt8 := dkwX13_grown_1 ++ []
def dkwX13_grown_0 : List UInt8 := [27, 42, 190, 163, 0, 5, 42, 176, 27, 5, 42, 190, 104, 184, 0, 120, 188, 10, 77, 42, 3, 44, 3, 42]
abbrev dktX13_grown_0 : List UInt8 := dkwX13_grown_0 ++ dktX13_grown_1
theorem dksX13_grown_0 : cX13_grown.data.toList.drop 0 = dktX13_grown_0 := by decide +kernel
theorem dksX13_grown_1 : cX13_grown.data.toList.drop 24 = dktX13_grown_1 := dk_seg dksX13_grown_0 24 rfl rfl
theorem dX13_grown_0 : decode cX13_grown 0 = .ok (.iload_n 1, 1) := dk_27 (dk_at dksX13_grown_0 0 rfl rfl)
theorem dX13_grown_1 : decode cX13_grown 1 = .ok (.aload_n 0, 1) := dk_42 (dk_at dksX13_grown_0 1 rfl rfl)
theorem dX13_grown_2 : decode cX13_grown 2 = .ok (.arraylength, 1) := dk_190 (dk_at dksX13_grown_0 2 rfl rfl)
theorem dX13_grown_3 : decode cX13_grown 3 = .ok (.if_icmp .gt 5, 3) := dk_163 0 5 (dk_at dksX13_grown_0 3 rfl rfl)
theorem dX13_grown_6 : decode cX13_grown 6 = .ok (.aload_n 0, 1) := dk_42 (dk_at dksX13_grown_0 6 rfl rfl)
theorem dX13_grown_7 : decode cX13_grown 7 = .ok (.areturn, 1) := dk_176 (dk_at dksX13_grown_0 7 rfl rfl)
theorem dX13_grown_8 : decode cX13_grown 8 = .ok (.iload_n 1, 1) := dk_27 (dk_at dksX13_grown_0 8 rfl rfl)
theorem dX13_grown_9 : decode cX13_grown 9 = .ok (.iconst 2, 1) := dk_5 (dk_at dksX13_grown_0 9 rfl rfl)
theorem dX13_grown_10 : decode cX13_grown 10 = .ok (.aload_n 0, 1) := dk_42 (dk_at dksX13_grown_0 10 rfl rfl)
theorem dX13_grown_11 : decode cX13_grown 11 = .ok (.arraylength, 1) := dk_190 (dk_at dksX13_grown_0 11 rfl rfl)
theorem dX13_grown_12 : decode cX13_grown 12 = .ok (.imul, 1) := dk_104 (dk_at dksX13_grown_0 12 rfl rfl)
theorem dX13_grown_13 : decode cX13_grown 13 = .ok (.invokestatic 120, 3) := dk_184 0 120 (dk_at dksX13_grown_0 13 rfl rfl)
theorem dX13_grown_16 : decode cX13_grown 16 = .ok (.newarray .int, 2) := dk_188_10 (dk_at dksX13_grown_0 16 rfl rfl)
theorem dX13_grown_18 : decode cX13_grown 18 = .ok (.astore_n 2, 1) := dk_77 (dk_at dksX13_grown_0 18 rfl rfl)
theorem dX13_grown_19 : decode cX13_grown 19 = .ok (.aload_n 0, 1) := dk_42 (dk_at dksX13_grown_0 19 rfl rfl)
theorem dX13_grown_20 : decode cX13_grown 20 = .ok (.iconst 0, 1) := dk_3 (dk_at dksX13_grown_0 20 rfl rfl)
theorem dX13_grown_21 : decode cX13_grown 21 = .ok (.aload_n 2, 1) := dk_44 (dk_at dksX13_grown_0 21 rfl rfl)
theorem dX13_grown_22 : decode cX13_grown 22 = .ok (.iconst 0, 1) := dk_3 (dk_at dksX13_grown_0 22 rfl rfl)
theorem dX13_grown_23 : decode cX13_grown 23 = .ok (.aload_n 0, 1) := dk_42 (dk_at dksX13_grown_0 23 rfl rfl)
theorem dX13_grown_24 : decode cX13_grown 24 = .ok (.arraylength, 1) := dk_190 (dk_at dksX13_grown_1 0 rfl rfl)
theorem dX13_grown_25 : decode cX13_grown 25 = .ok (.invokestatic 126, 3) := dk_184 0 126 (dk_at dksX13_grown_1 1 rfl rfl)
theorem dX13_grown_28 : decode cX13_grown 28 = .ok (.aload_n 2, 1) := dk_44 (dk_at dksX13_grown_1 4 rfl rfl)
theorem dX13_grown_29 : decode cX13_grown 29 = .ok (.areturn, 1) := dk_176 (dk_at dksX13_grown_1 5 rfl rfl)
abbrev cX13_find : ByteArray := prog_8_method_6_code
def yX13_find : MethodName := ⟨RX13, "find", "(II)I"⟩
def dkwX13_find_5 : List UInt8 := [54, 5, 167, 255, 207, 167, 255, 142, 2, 172]
abbrev dktX13_find_5 : List UInt8 := dkwX13_find_5 ++ []
def dkwX13_find_4 : List UInt8 := [29, 42, 180, 0, 95, 21, 5, 182, 0, 143, 79, 132, 3, 1, 42, 180, 0, 95, 21, 5, 182, 0, 152]
abbrev dktX13_find_4 : List UInt8 := dkwX13_find_4 ++ dktX13_find_5
def dkwX13_find_3 : List UInt8 := [21, 5, 2, 159, 0, 49, 42, 42, 180, 0, 64, 29, 4, 96, 184, 0, 148, 181, 0, 64, 42, 180, 0, 64]
abbrev dktX13_find_3 : List UInt8 := dkwX13_find_3 ++ dktX13_find_4
def dkwX13_find_2 : List UInt8 := [160, 0, 76, 21, 4, 172, 42, 180, 0, 95, 42, 180, 0, 99, 21, 4, 182, 0, 140, 182, 0, 143, 54, 5]
abbrev dktX13_find_2 : List UInt8 := dkwX13_find_2 ++ dktX13_find_3
def dkwX13_find_1 : List UInt8 := [42, 180, 0, 99, 21, 4, 182, 0, 132, 158, 0, 20, 42, 180, 0, 99, 21, 4, 3, 182, 0, 137, 28]
abbrev dktX13_find_1 : List UInt8 := dkwX13_find_1 ++ dktX13_find_2
def dkwX13_find_0 : List UInt8 := [4, 62, 42, 180, 0, 64, 3, 27, 79, 29, 158, 0, 116, 132, 3, 255, 42, 180, 0, 64, 29, 46, 54, 4]
abbrev dktX13_find_0 : List UInt8 := dkwX13_find_0 ++ dktX13_find_1
theorem dksX13_find_0 : cX13_find.data.toList.drop 0 = dktX13_find_0 := by decide +kernel
theorem dksX13_find_1 : cX13_find.data.toList.drop 24 = dktX13_find_1 := dk_seg dksX13_find_0 24 rfl rfl
theorem dksX13_find_2 : cX13_find.data.toList.drop 47 = dktX13_find_2 := dk_seg dksX13_find_1 23 rfl rfl
theorem dksX13_find_3 : cX13_find.data.toList.drop 71 = dktX13_find_3 := dk_seg dksX13_find_2 24 rfl rfl
theorem dksX13_find_4 : cX13_find.data.toList.drop 95 = dktX13_find_4 := dk_seg dksX13_find_3 24 rfl rfl
theorem dksX13_find_5 : cX13_find.data.toList.drop 118 = dktX13_find_5 := dk_seg dksX13_find_4 23 rfl rfl
theorem dX13_find_0 : decode cX13_find 0 = .ok (.iconst 1, 1) := dk_4 (dk_at dksX13_find_0 0 rfl rfl)
theorem dX13_find_1 : decode cX13_find 1 = .ok (.istore_n 3, 1) := dk_62 (dk_at dksX13_find_0 1 rfl rfl)
theorem dX13_find_2 : decode cX13_find 2 = .ok (.aload_n 0, 1) := dk_42 (dk_at dksX13_find_0 2 rfl rfl)
theorem dX13_find_3 : decode cX13_find 3 = .ok (.getfield 64, 3) := dk_180 0 64 (dk_at dksX13_find_0 3 rfl rfl)
theorem dX13_find_6 : decode cX13_find 6 = .ok (.iconst 0, 1) := dk_3 (dk_at dksX13_find_0 6 rfl rfl)
theorem dX13_find_7 : decode cX13_find 7 = .ok (.iload_n 1, 1) := dk_27 (dk_at dksX13_find_0 7 rfl rfl)
theorem dX13_find_8 : decode cX13_find 8 = .ok (.iastore, 1) := dk_79 (dk_at dksX13_find_0 8 rfl rfl)
theorem dX13_find_9 : decode cX13_find 9 = .ok (.iload_n 3, 1) := dk_29 (dk_at dksX13_find_0 9 rfl rfl)
theorem dX13_find_10 : decode cX13_find 10 = .ok (.ifCond .le 116, 3) := dk_158 0 116 (dk_at dksX13_find_0 10 rfl rfl)
theorem dX13_find_13 : decode cX13_find 13 = .ok (.iinc 3 (-1), 3) := dk_132 3 255 (dk_at dksX13_find_0 13 rfl rfl)
theorem dX13_find_16 : decode cX13_find 16 = .ok (.aload_n 0, 1) := dk_42 (dk_at dksX13_find_0 16 rfl rfl)
theorem dX13_find_17 : decode cX13_find 17 = .ok (.getfield 64, 3) := dk_180 0 64 (dk_at dksX13_find_0 17 rfl rfl)
theorem dX13_find_20 : decode cX13_find 20 = .ok (.iload_n 3, 1) := dk_29 (dk_at dksX13_find_0 20 rfl rfl)
theorem dX13_find_21 : decode cX13_find 21 = .ok (.iaload, 1) := dk_46 (dk_at dksX13_find_0 21 rfl rfl)
theorem dX13_find_22 : decode cX13_find 22 = .ok (.istore 4, 2) := dk_54 4 (dk_at dksX13_find_0 22 rfl rfl)
theorem dX13_find_24 : decode cX13_find 24 = .ok (.aload_n 0, 1) := dk_42 (dk_at dksX13_find_1 0 rfl rfl)
theorem dX13_find_25 : decode cX13_find 25 = .ok (.getfield 99, 3) := dk_180 0 99 (dk_at dksX13_find_1 1 rfl rfl)
theorem dX13_find_28 : decode cX13_find 28 = .ok (.iload 4, 2) := dk_21 4 (dk_at dksX13_find_1 4 rfl rfl)
theorem dX13_find_30 : decode cX13_find 30 = .ok (.invokevirtual 132, 3) := dk_182 0 132 (dk_at dksX13_find_1 6 rfl rfl)
theorem dX13_find_33 : decode cX13_find 33 = .ok (.ifCond .le 20, 3) := dk_158 0 20 (dk_at dksX13_find_1 9 rfl rfl)
theorem dX13_find_36 : decode cX13_find 36 = .ok (.aload_n 0, 1) := dk_42 (dk_at dksX13_find_1 12 rfl rfl)
theorem dX13_find_37 : decode cX13_find 37 = .ok (.getfield 99, 3) := dk_180 0 99 (dk_at dksX13_find_1 13 rfl rfl)
theorem dX13_find_40 : decode cX13_find 40 = .ok (.iload 4, 2) := dk_21 4 (dk_at dksX13_find_1 16 rfl rfl)
theorem dX13_find_42 : decode cX13_find 42 = .ok (.iconst 0, 1) := dk_3 (dk_at dksX13_find_1 18 rfl rfl)
theorem dX13_find_43 : decode cX13_find 43 = .ok (.invokevirtual 137, 3) := dk_182 0 137 (dk_at dksX13_find_1 19 rfl rfl)
theorem dX13_find_46 : decode cX13_find 46 = .ok (.iload_n 2, 1) := dk_28 (dk_at dksX13_find_1 22 rfl rfl)
theorem dX13_find_47 : decode cX13_find 47 = .ok (.if_icmp .ne 76, 3) := dk_160 0 76 (dk_at dksX13_find_2 0 rfl rfl)
theorem dX13_find_50 : decode cX13_find 50 = .ok (.iload 4, 2) := dk_21 4 (dk_at dksX13_find_2 3 rfl rfl)
theorem dX13_find_52 : decode cX13_find 52 = .ok (.ireturn, 1) := dk_172 (dk_at dksX13_find_2 5 rfl rfl)
theorem dX13_find_53 : decode cX13_find 53 = .ok (.aload_n 0, 1) := dk_42 (dk_at dksX13_find_2 6 rfl rfl)
theorem dX13_find_54 : decode cX13_find 54 = .ok (.getfield 95, 3) := dk_180 0 95 (dk_at dksX13_find_2 7 rfl rfl)
theorem dX13_find_57 : decode cX13_find 57 = .ok (.aload_n 0, 1) := dk_42 (dk_at dksX13_find_2 10 rfl rfl)
theorem dX13_find_58 : decode cX13_find 58 = .ok (.getfield 99, 3) := dk_180 0 99 (dk_at dksX13_find_2 11 rfl rfl)
theorem dX13_find_61 : decode cX13_find 61 = .ok (.iload 4, 2) := dk_21 4 (dk_at dksX13_find_2 14 rfl rfl)
theorem dX13_find_63 : decode cX13_find 63 = .ok (.invokevirtual 140, 3) := dk_182 0 140 (dk_at dksX13_find_2 16 rfl rfl)
theorem dX13_find_66 : decode cX13_find 66 = .ok (.invokevirtual 143, 3) := dk_182 0 143 (dk_at dksX13_find_2 19 rfl rfl)
theorem dX13_find_69 : decode cX13_find 69 = .ok (.istore 5, 2) := dk_54 5 (dk_at dksX13_find_2 22 rfl rfl)
theorem dX13_find_71 : decode cX13_find 71 = .ok (.iload 5, 2) := dk_21 5 (dk_at dksX13_find_3 0 rfl rfl)
theorem dX13_find_73 : decode cX13_find 73 = .ok (.iconst (-1), 1) := dk_2 (dk_at dksX13_find_3 2 rfl rfl)
theorem dX13_find_74 : decode cX13_find 74 = .ok (.if_icmp .eq 49, 3) := dk_159 0 49 (dk_at dksX13_find_3 3 rfl rfl)
theorem dX13_find_77 : decode cX13_find 77 = .ok (.aload_n 0, 1) := dk_42 (dk_at dksX13_find_3 6 rfl rfl)
theorem dX13_find_78 : decode cX13_find 78 = .ok (.aload_n 0, 1) := dk_42 (dk_at dksX13_find_3 7 rfl rfl)
theorem dX13_find_79 : decode cX13_find 79 = .ok (.getfield 64, 3) := dk_180 0 64 (dk_at dksX13_find_3 8 rfl rfl)
theorem dX13_find_82 : decode cX13_find 82 = .ok (.iload_n 3, 1) := dk_29 (dk_at dksX13_find_3 11 rfl rfl)
theorem dX13_find_83 : decode cX13_find 83 = .ok (.iconst 1, 1) := dk_4 (dk_at dksX13_find_3 12 rfl rfl)
theorem dX13_find_84 : decode cX13_find 84 = .ok (.iadd, 1) := dk_96 (dk_at dksX13_find_3 13 rfl rfl)
theorem dX13_find_85 : decode cX13_find 85 = .ok (.invokestatic 148, 3) := dk_184 0 148 (dk_at dksX13_find_3 14 rfl rfl)
theorem dX13_find_88 : decode cX13_find 88 = .ok (.putfield 64, 3) := dk_181 0 64 (dk_at dksX13_find_3 17 rfl rfl)
theorem dX13_find_91 : decode cX13_find 91 = .ok (.aload_n 0, 1) := dk_42 (dk_at dksX13_find_3 20 rfl rfl)
theorem dX13_find_92 : decode cX13_find 92 = .ok (.getfield 64, 3) := dk_180 0 64 (dk_at dksX13_find_3 21 rfl rfl)
theorem dX13_find_95 : decode cX13_find 95 = .ok (.iload_n 3, 1) := dk_29 (dk_at dksX13_find_4 0 rfl rfl)
theorem dX13_find_96 : decode cX13_find 96 = .ok (.aload_n 0, 1) := dk_42 (dk_at dksX13_find_4 1 rfl rfl)
theorem dX13_find_97 : decode cX13_find 97 = .ok (.getfield 95, 3) := dk_180 0 95 (dk_at dksX13_find_4 2 rfl rfl)
theorem dX13_find_100 : decode cX13_find 100 = .ok (.iload 5, 2) := dk_21 5 (dk_at dksX13_find_4 5 rfl rfl)
theorem dX13_find_102 : decode cX13_find 102 = .ok (.invokevirtual 143, 3) := dk_182 0 143 (dk_at dksX13_find_4 7 rfl rfl)
theorem dX13_find_105 : decode cX13_find 105 = .ok (.iastore, 1) := dk_79 (dk_at dksX13_find_4 10 rfl rfl)
theorem dX13_find_106 : decode cX13_find 106 = .ok (.iinc 3 1, 3) := dk_132 3 1 (dk_at dksX13_find_4 11 rfl rfl)
theorem dX13_find_109 : decode cX13_find 109 = .ok (.aload_n 0, 1) := dk_42 (dk_at dksX13_find_4 14 rfl rfl)
theorem dX13_find_110 : decode cX13_find 110 = .ok (.getfield 95, 3) := dk_180 0 95 (dk_at dksX13_find_4 15 rfl rfl)
theorem dX13_find_113 : decode cX13_find 113 = .ok (.iload 5, 2) := dk_21 5 (dk_at dksX13_find_4 18 rfl rfl)
theorem dX13_find_115 : decode cX13_find 115 = .ok (.invokevirtual 152, 3) := dk_182 0 152 (dk_at dksX13_find_4 20 rfl rfl)
theorem dX13_find_118 : decode cX13_find 118 = .ok (.istore 5, 2) := dk_54 5 (dk_at dksX13_find_5 0 rfl rfl)
theorem dX13_find_120 : decode cX13_find 120 = .ok (.goto (-49), 3) := dk_167 255 207 (dk_at dksX13_find_5 2 rfl rfl)
theorem dX13_find_123 : decode cX13_find 123 = .ok (.goto (-114), 3) := dk_167 255 142 (dk_at dksX13_find_5 5 rfl rfl)
theorem dX13_find_126 : decode cX13_find 126 = .ok (.iconst (-1), 1) := dk_2 (dk_at dksX13_find_5 8 rfl rfl)
theorem dX13_find_127 : decode cX13_find 127 = .ok (.ireturn, 1) := dk_172 (dk_at dksX13_find_5 9 rfl rfl)
abbrev cX13_wrong : ByteArray := prog_8_method_4_code
def yX13_wrong : MethodName := ⟨RX13, "wrong", "(II)Z"⟩
def dkwX13_wrong_0 : List UInt8 := [42, 27, 181, 0, 103, 42, 42, 180, 0, 110, 28, 182, 0, 114, 181, 0, 107, 3, 172]
abbrev dktX13_wrong_0 : List UInt8 := dkwX13_wrong_0 ++ []
theorem dksX13_wrong_0 : cX13_wrong.data.toList.drop 0 = dktX13_wrong_0 := by decide +kernel
theorem dX13_wrong_0 : decode cX13_wrong 0 = .ok (.aload_n 0, 1) := dk_42 (dk_at dksX13_wrong_0 0 rfl rfl)
theorem dX13_wrong_1 : decode cX13_wrong 1 = .ok (.iload_n 1, 1) := dk_27 (dk_at dksX13_wrong_0 1 rfl rfl)
theorem dX13_wrong_2 : decode cX13_wrong 2 = .ok (.putfield 103, 3) := dk_181 0 103 (dk_at dksX13_wrong_0 2 rfl rfl)
theorem dX13_wrong_5 : decode cX13_wrong 5 = .ok (.aload_n 0, 1) := dk_42 (dk_at dksX13_wrong_0 5 rfl rfl)
theorem dX13_wrong_6 : decode cX13_wrong 6 = .ok (.aload_n 0, 1) := dk_42 (dk_at dksX13_wrong_0 6 rfl rfl)
theorem dX13_wrong_7 : decode cX13_wrong 7 = .ok (.getfield 110, 3) := dk_180 0 110 (dk_at dksX13_wrong_0 7 rfl rfl)
theorem dX13_wrong_10 : decode cX13_wrong 10 = .ok (.iload_n 2, 1) := dk_28 (dk_at dksX13_wrong_0 10 rfl rfl)
theorem dX13_wrong_11 : decode cX13_wrong 11 = .ok (.invokevirtual 114, 3) := dk_182 0 114 (dk_at dksX13_wrong_0 11 rfl rfl)
theorem dX13_wrong_14 : decode cX13_wrong 14 = .ok (.putfield 107, 3) := dk_181 0 107 (dk_at dksX13_wrong_0 14 rfl rfl)
theorem dX13_wrong_17 : decode cX13_wrong 17 = .ok (.iconst 0, 1) := dk_3 (dk_at dksX13_wrong_0 17 rfl rfl)
theorem dX13_wrong_18 : decode cX13_wrong 18 = .ok (.ireturn, 1) := dk_172 (dk_at dksX13_wrong_0 18 rfl rfl)
abbrev cX13_begin : ByteArray := prog_8_method_11_code
def yX13_begin : MethodName := ⟨RX13, "begin", "(IIIII)I"⟩
def dkwX13_begin_6 : List UInt8 := [167, 0, 4, 3, 182, 0, 208, 27, 4, 96, 172]
abbrev dktX13_begin_6 : List UInt8 := dkwX13_begin_6 ++ []
def dkwX13_begin_5 : List UInt8 := [42, 180, 0, 99, 28, 182, 0, 140, 182, 0, 143, 21, 7, 154, 0, 14, 21, 6, 16, 13, 160, 0, 7, 4]
abbrev dktX13_begin_5 : List UInt8 := dkwX13_begin_5 ++ dktX13_begin_6
def dkwX13_begin_4 : List UInt8 := [16, 14, 27, 182, 0, 177, 87, 27, 172, 42, 27, 21, 7, 153, 0, 7, 2, 167, 0, 18, 42, 180, 0, 95]
abbrev dktX13_begin_4 : List UInt8 := dkwX13_begin_4 ++ dktX13_begin_5
def dkwX13_begin_3 : List UInt8 := [182, 0, 201, 42, 180, 0, 110, 27, 182, 0, 185, 172, 42, 180, 0, 110, 27, 182, 0, 205, 154, 0, 13, 42]
abbrev dktX13_begin_3 : List UInt8 := dkwX13_begin_3 ++ dktX13_begin_4
def dkwX13_begin_2 : List UInt8 := [182, 0, 194, 54, 7, 21, 7, 154, 0, 28, 42, 21, 6, 182, 0, 198, 154, 0, 19, 42, 27, 21, 6]
abbrev dktX13_begin_2 : List UInt8 := dkwX13_begin_2 ++ dktX13_begin_3
def dkwX13_begin_1 : List UInt8 := [180, 0, 40, 27, 21, 5, 79, 42, 180, 0, 46, 27, 3, 79, 42, 27, 182, 0, 158, 54, 6, 42, 27]
abbrev dktX13_begin_1 : List UInt8 := dkwX13_begin_1 ++ dktX13_begin_2
def dkwX13_begin_0 : List UInt8 := [42, 180, 0, 30, 27, 28, 79, 42, 180, 0, 34, 27, 29, 79, 42, 180, 0, 37, 27, 21, 4, 79, 42]
abbrev dktX13_begin_0 : List UInt8 := dkwX13_begin_0 ++ dktX13_begin_1
theorem dksX13_begin_0 : cX13_begin.data.toList.drop 0 = dktX13_begin_0 := by decide +kernel
theorem dksX13_begin_1 : cX13_begin.data.toList.drop 23 = dktX13_begin_1 := dk_seg dksX13_begin_0 23 rfl rfl
theorem dksX13_begin_2 : cX13_begin.data.toList.drop 46 = dktX13_begin_2 := dk_seg dksX13_begin_1 23 rfl rfl
theorem dksX13_begin_3 : cX13_begin.data.toList.drop 69 = dktX13_begin_3 := dk_seg dksX13_begin_2 23 rfl rfl
theorem dksX13_begin_4 : cX13_begin.data.toList.drop 93 = dktX13_begin_4 := dk_seg dksX13_begin_3 24 rfl rfl
theorem dksX13_begin_5 : cX13_begin.data.toList.drop 117 = dktX13_begin_5 := dk_seg dksX13_begin_4 24 rfl rfl
theorem dksX13_begin_6 : cX13_begin.data.toList.drop 141 = dktX13_begin_6 := dk_seg dksX13_begin_5 24 rfl rfl
theorem dX13_begin_0 : decode cX13_begin 0 = .ok (.aload_n 0, 1) := dk_42 (dk_at dksX13_begin_0 0 rfl rfl)
theorem dX13_begin_1 : decode cX13_begin 1 = .ok (.getfield 30, 3) := dk_180 0 30 (dk_at dksX13_begin_0 1 rfl rfl)
theorem dX13_begin_4 : decode cX13_begin 4 = .ok (.iload_n 1, 1) := dk_27 (dk_at dksX13_begin_0 4 rfl rfl)
theorem dX13_begin_5 : decode cX13_begin 5 = .ok (.iload_n 2, 1) := dk_28 (dk_at dksX13_begin_0 5 rfl rfl)
theorem dX13_begin_6 : decode cX13_begin 6 = .ok (.iastore, 1) := dk_79 (dk_at dksX13_begin_0 6 rfl rfl)
theorem dX13_begin_7 : decode cX13_begin 7 = .ok (.aload_n 0, 1) := dk_42 (dk_at dksX13_begin_0 7 rfl rfl)
theorem dX13_begin_8 : decode cX13_begin 8 = .ok (.getfield 34, 3) := dk_180 0 34 (dk_at dksX13_begin_0 8 rfl rfl)
theorem dX13_begin_11 : decode cX13_begin 11 = .ok (.iload_n 1, 1) := dk_27 (dk_at dksX13_begin_0 11 rfl rfl)
theorem dX13_begin_12 : decode cX13_begin 12 = .ok (.iload_n 3, 1) := dk_29 (dk_at dksX13_begin_0 12 rfl rfl)
theorem dX13_begin_13 : decode cX13_begin 13 = .ok (.iastore, 1) := dk_79 (dk_at dksX13_begin_0 13 rfl rfl)
theorem dX13_begin_14 : decode cX13_begin 14 = .ok (.aload_n 0, 1) := dk_42 (dk_at dksX13_begin_0 14 rfl rfl)
theorem dX13_begin_15 : decode cX13_begin 15 = .ok (.getfield 37, 3) := dk_180 0 37 (dk_at dksX13_begin_0 15 rfl rfl)
theorem dX13_begin_18 : decode cX13_begin 18 = .ok (.iload_n 1, 1) := dk_27 (dk_at dksX13_begin_0 18 rfl rfl)
theorem dX13_begin_19 : decode cX13_begin 19 = .ok (.iload 4, 2) := dk_21 4 (dk_at dksX13_begin_0 19 rfl rfl)
theorem dX13_begin_21 : decode cX13_begin 21 = .ok (.iastore, 1) := dk_79 (dk_at dksX13_begin_0 21 rfl rfl)
theorem dX13_begin_22 : decode cX13_begin 22 = .ok (.aload_n 0, 1) := dk_42 (dk_at dksX13_begin_0 22 rfl rfl)
theorem dX13_begin_23 : decode cX13_begin 23 = .ok (.getfield 40, 3) := dk_180 0 40 (dk_at dksX13_begin_1 0 rfl rfl)
theorem dX13_begin_26 : decode cX13_begin 26 = .ok (.iload_n 1, 1) := dk_27 (dk_at dksX13_begin_1 3 rfl rfl)
theorem dX13_begin_27 : decode cX13_begin 27 = .ok (.iload 5, 2) := dk_21 5 (dk_at dksX13_begin_1 4 rfl rfl)
theorem dX13_begin_29 : decode cX13_begin 29 = .ok (.iastore, 1) := dk_79 (dk_at dksX13_begin_1 6 rfl rfl)
theorem dX13_begin_30 : decode cX13_begin 30 = .ok (.aload_n 0, 1) := dk_42 (dk_at dksX13_begin_1 7 rfl rfl)
theorem dX13_begin_31 : decode cX13_begin 31 = .ok (.getfield 46, 3) := dk_180 0 46 (dk_at dksX13_begin_1 8 rfl rfl)
theorem dX13_begin_34 : decode cX13_begin 34 = .ok (.iload_n 1, 1) := dk_27 (dk_at dksX13_begin_1 11 rfl rfl)
theorem dX13_begin_35 : decode cX13_begin 35 = .ok (.iconst 0, 1) := dk_3 (dk_at dksX13_begin_1 12 rfl rfl)
theorem dX13_begin_36 : decode cX13_begin 36 = .ok (.iastore, 1) := dk_79 (dk_at dksX13_begin_1 13 rfl rfl)
theorem dX13_begin_37 : decode cX13_begin 37 = .ok (.aload_n 0, 1) := dk_42 (dk_at dksX13_begin_1 14 rfl rfl)
theorem dX13_begin_38 : decode cX13_begin 38 = .ok (.iload_n 1, 1) := dk_27 (dk_at dksX13_begin_1 15 rfl rfl)
theorem dX13_begin_39 : decode cX13_begin 39 = .ok (.invokevirtual 158, 3) := dk_182 0 158 (dk_at dksX13_begin_1 16 rfl rfl)
theorem dX13_begin_42 : decode cX13_begin 42 = .ok (.istore 6, 2) := dk_54 6 (dk_at dksX13_begin_1 19 rfl rfl)
theorem dX13_begin_44 : decode cX13_begin 44 = .ok (.aload_n 0, 1) := dk_42 (dk_at dksX13_begin_1 21 rfl rfl)
theorem dX13_begin_45 : decode cX13_begin 45 = .ok (.iload_n 1, 1) := dk_27 (dk_at dksX13_begin_1 22 rfl rfl)
theorem dX13_begin_46 : decode cX13_begin 46 = .ok (.invokevirtual 194, 3) := dk_182 0 194 (dk_at dksX13_begin_2 0 rfl rfl)
theorem dX13_begin_49 : decode cX13_begin 49 = .ok (.istore 7, 2) := dk_54 7 (dk_at dksX13_begin_2 3 rfl rfl)
theorem dX13_begin_51 : decode cX13_begin 51 = .ok (.iload 7, 2) := dk_21 7 (dk_at dksX13_begin_2 5 rfl rfl)
theorem dX13_begin_53 : decode cX13_begin 53 = .ok (.ifCond .ne 28, 3) := dk_154 0 28 (dk_at dksX13_begin_2 7 rfl rfl)
theorem dX13_begin_56 : decode cX13_begin 56 = .ok (.aload_n 0, 1) := dk_42 (dk_at dksX13_begin_2 10 rfl rfl)
theorem dX13_begin_57 : decode cX13_begin 57 = .ok (.iload 6, 2) := dk_21 6 (dk_at dksX13_begin_2 11 rfl rfl)
theorem dX13_begin_59 : decode cX13_begin 59 = .ok (.invokevirtual 198, 3) := dk_182 0 198 (dk_at dksX13_begin_2 13 rfl rfl)
theorem dX13_begin_62 : decode cX13_begin 62 = .ok (.ifCond .ne 19, 3) := dk_154 0 19 (dk_at dksX13_begin_2 16 rfl rfl)
theorem dX13_begin_65 : decode cX13_begin 65 = .ok (.aload_n 0, 1) := dk_42 (dk_at dksX13_begin_2 19 rfl rfl)
theorem dX13_begin_66 : decode cX13_begin 66 = .ok (.iload_n 1, 1) := dk_27 (dk_at dksX13_begin_2 20 rfl rfl)
theorem dX13_begin_67 : decode cX13_begin 67 = .ok (.iload 6, 2) := dk_21 6 (dk_at dksX13_begin_2 21 rfl rfl)
theorem dX13_begin_69 : decode cX13_begin 69 = .ok (.invokevirtual 201, 3) := dk_182 0 201 (dk_at dksX13_begin_3 0 rfl rfl)
theorem dX13_begin_72 : decode cX13_begin 72 = .ok (.aload_n 0, 1) := dk_42 (dk_at dksX13_begin_3 3 rfl rfl)
theorem dX13_begin_73 : decode cX13_begin 73 = .ok (.getfield 110, 3) := dk_180 0 110 (dk_at dksX13_begin_3 4 rfl rfl)
theorem dX13_begin_76 : decode cX13_begin 76 = .ok (.iload_n 1, 1) := dk_27 (dk_at dksX13_begin_3 7 rfl rfl)
theorem dX13_begin_77 : decode cX13_begin 77 = .ok (.invokevirtual 185, 3) := dk_182 0 185 (dk_at dksX13_begin_3 8 rfl rfl)
theorem dX13_begin_80 : decode cX13_begin 80 = .ok (.ireturn, 1) := dk_172 (dk_at dksX13_begin_3 11 rfl rfl)
theorem dX13_begin_81 : decode cX13_begin 81 = .ok (.aload_n 0, 1) := dk_42 (dk_at dksX13_begin_3 12 rfl rfl)
theorem dX13_begin_82 : decode cX13_begin 82 = .ok (.getfield 110, 3) := dk_180 0 110 (dk_at dksX13_begin_3 13 rfl rfl)
theorem dX13_begin_85 : decode cX13_begin 85 = .ok (.iload_n 1, 1) := dk_27 (dk_at dksX13_begin_3 16 rfl rfl)
theorem dX13_begin_86 : decode cX13_begin 86 = .ok (.invokevirtual 205, 3) := dk_182 0 205 (dk_at dksX13_begin_3 17 rfl rfl)
theorem dX13_begin_89 : decode cX13_begin 89 = .ok (.ifCond .ne 13, 3) := dk_154 0 13 (dk_at dksX13_begin_3 20 rfl rfl)
theorem dX13_begin_92 : decode cX13_begin 92 = .ok (.aload_n 0, 1) := dk_42 (dk_at dksX13_begin_3 23 rfl rfl)
theorem dX13_begin_93 : decode cX13_begin 93 = .ok (.bipush 14, 2) := dk_16 14 (dk_at dksX13_begin_4 0 rfl rfl)
theorem dX13_begin_95 : decode cX13_begin 95 = .ok (.iload_n 1, 1) := dk_27 (dk_at dksX13_begin_4 2 rfl rfl)
theorem dX13_begin_96 : decode cX13_begin 96 = .ok (.invokevirtual 177, 3) := dk_182 0 177 (dk_at dksX13_begin_4 3 rfl rfl)
theorem dX13_begin_99 : decode cX13_begin 99 = .ok (.pop, 1) := dk_87 (dk_at dksX13_begin_4 6 rfl rfl)
theorem dX13_begin_100 : decode cX13_begin 100 = .ok (.iload_n 1, 1) := dk_27 (dk_at dksX13_begin_4 7 rfl rfl)
theorem dX13_begin_101 : decode cX13_begin 101 = .ok (.ireturn, 1) := dk_172 (dk_at dksX13_begin_4 8 rfl rfl)
theorem dX13_begin_102 : decode cX13_begin 102 = .ok (.aload_n 0, 1) := dk_42 (dk_at dksX13_begin_4 9 rfl rfl)
theorem dX13_begin_103 : decode cX13_begin 103 = .ok (.iload_n 1, 1) := dk_27 (dk_at dksX13_begin_4 10 rfl rfl)
theorem dX13_begin_104 : decode cX13_begin 104 = .ok (.iload 7, 2) := dk_21 7 (dk_at dksX13_begin_4 11 rfl rfl)
theorem dX13_begin_106 : decode cX13_begin 106 = .ok (.ifCond .eq 7, 3) := dk_153 0 7 (dk_at dksX13_begin_4 13 rfl rfl)
theorem dX13_begin_109 : decode cX13_begin 109 = .ok (.iconst (-1), 1) := dk_2 (dk_at dksX13_begin_4 16 rfl rfl)
theorem dX13_begin_110 : decode cX13_begin 110 = .ok (.goto 18, 3) := dk_167 0 18 (dk_at dksX13_begin_4 17 rfl rfl)
theorem dX13_begin_113 : decode cX13_begin 113 = .ok (.aload_n 0, 1) := dk_42 (dk_at dksX13_begin_4 20 rfl rfl)
theorem dX13_begin_114 : decode cX13_begin 114 = .ok (.getfield 95, 3) := dk_180 0 95 (dk_at dksX13_begin_4 21 rfl rfl)
theorem dX13_begin_117 : decode cX13_begin 117 = .ok (.aload_n 0, 1) := dk_42 (dk_at dksX13_begin_5 0 rfl rfl)
theorem dX13_begin_118 : decode cX13_begin 118 = .ok (.getfield 99, 3) := dk_180 0 99 (dk_at dksX13_begin_5 1 rfl rfl)
theorem dX13_begin_121 : decode cX13_begin 121 = .ok (.iload_n 2, 1) := dk_28 (dk_at dksX13_begin_5 4 rfl rfl)
theorem dX13_begin_122 : decode cX13_begin 122 = .ok (.invokevirtual 140, 3) := dk_182 0 140 (dk_at dksX13_begin_5 5 rfl rfl)
theorem dX13_begin_125 : decode cX13_begin 125 = .ok (.invokevirtual 143, 3) := dk_182 0 143 (dk_at dksX13_begin_5 8 rfl rfl)
theorem dX13_begin_128 : decode cX13_begin 128 = .ok (.iload 7, 2) := dk_21 7 (dk_at dksX13_begin_5 11 rfl rfl)
theorem dX13_begin_130 : decode cX13_begin 130 = .ok (.ifCond .ne 14, 3) := dk_154 0 14 (dk_at dksX13_begin_5 13 rfl rfl)
theorem dX13_begin_133 : decode cX13_begin 133 = .ok (.iload 6, 2) := dk_21 6 (dk_at dksX13_begin_5 16 rfl rfl)
theorem dX13_begin_135 : decode cX13_begin 135 = .ok (.bipush 13, 2) := dk_16 13 (dk_at dksX13_begin_5 18 rfl rfl)
theorem dX13_begin_137 : decode cX13_begin 137 = .ok (.if_icmp .ne 7, 3) := dk_160 0 7 (dk_at dksX13_begin_5 20 rfl rfl)
theorem dX13_begin_140 : decode cX13_begin 140 = .ok (.iconst 1, 1) := dk_4 (dk_at dksX13_begin_5 23 rfl rfl)
theorem dX13_begin_141 : decode cX13_begin 141 = .ok (.goto 4, 3) := dk_167 0 4 (dk_at dksX13_begin_6 0 rfl rfl)
theorem dX13_begin_144 : decode cX13_begin 144 = .ok (.iconst 0, 1) := dk_3 (dk_at dksX13_begin_6 3 rfl rfl)
theorem dX13_begin_145 : decode cX13_begin 145 = .ok (.invokevirtual 208, 3) := dk_182 0 208 (dk_at dksX13_begin_6 4 rfl rfl)
theorem dX13_begin_148 : decode cX13_begin 148 = .ok (.iload_n 1, 1) := dk_27 (dk_at dksX13_begin_6 7 rfl rfl)
theorem dX13_begin_149 : decode cX13_begin 149 = .ok (.iconst 1, 1) := dk_4 (dk_at dksX13_begin_6 8 rfl rfl)
theorem dX13_begin_150 : decode cX13_begin 150 = .ok (.iadd, 1) := dk_96 (dk_at dksX13_begin_6 9 rfl rfl)
theorem dX13_begin_151 : decode cX13_begin 151 = .ok (.ireturn, 1) := dk_172 (dk_at dksX13_begin_6 10 rfl rfl)
abbrev cX13_kind : ByteArray := prog_8_method_7_code
def yX13_kind : MethodName := ⟨RX13, "kind", "(I)I"⟩
def dkwX13_kind_0 : List UInt8 := [42, 180, 0, 95, 42, 180, 0, 99, 42, 180, 0, 30, 27, 46, 182, 0, 140, 182, 0, 155, 172]
abbrev dktX13_kind_0 : List UInt8 := dkwX13_kind_0 ++ []
theorem dksX13_kind_0 : cX13_kind.data.toList.drop 0 = dktX13_kind_0 := by decide +kernel
theorem dX13_kind_0 : decode cX13_kind 0 = .ok (.aload_n 0, 1) := dk_42 (dk_at dksX13_kind_0 0 rfl rfl)
theorem dX13_kind_1 : decode cX13_kind 1 = .ok (.getfield 95, 3) := dk_180 0 95 (dk_at dksX13_kind_0 1 rfl rfl)
theorem dX13_kind_4 : decode cX13_kind 4 = .ok (.aload_n 0, 1) := dk_42 (dk_at dksX13_kind_0 4 rfl rfl)
theorem dX13_kind_5 : decode cX13_kind 5 = .ok (.getfield 99, 3) := dk_180 0 99 (dk_at dksX13_kind_0 5 rfl rfl)
theorem dX13_kind_8 : decode cX13_kind 8 = .ok (.aload_n 0, 1) := dk_42 (dk_at dksX13_kind_0 8 rfl rfl)
theorem dX13_kind_9 : decode cX13_kind 9 = .ok (.getfield 30, 3) := dk_180 0 30 (dk_at dksX13_kind_0 9 rfl rfl)
theorem dX13_kind_12 : decode cX13_kind 12 = .ok (.iload_n 1, 1) := dk_27 (dk_at dksX13_kind_0 12 rfl rfl)
theorem dX13_kind_13 : decode cX13_kind 13 = .ok (.iaload, 1) := dk_46 (dk_at dksX13_kind_0 13 rfl rfl)
theorem dX13_kind_14 : decode cX13_kind 14 = .ok (.invokevirtual 140, 3) := dk_182 0 140 (dk_at dksX13_kind_0 14 rfl rfl)
theorem dX13_kind_17 : decode cX13_kind 17 = .ok (.invokevirtual 155, 3) := dk_182 0 155 (dk_at dksX13_kind_0 17 rfl rfl)
theorem dX13_kind_20 : decode cX13_kind 20 = .ok (.ireturn, 1) := dk_172 (dk_at dksX13_kind_0 20 rfl rfl)
abbrev cX13_isAround : ByteArray := prog_8_method_8_code
def yX13_isAround : MethodName := ⟨RX13, "isAround", "(I)Z"⟩
def dkwX13_isAround_1 : List UInt8 := [42, 27, 182, 0, 158, 16, 16, 160, 0, 7, 4, 167, 0, 4, 3, 172]
abbrev dktX13_isAround_1 : List UInt8 := dkwX13_isAround_1 ++ []
def dkwX13_isAround_0 : List UInt8 := [42, 180, 0, 34, 27, 46, 4, 96, 42, 180, 0, 99, 42, 180, 0, 30, 27, 46, 182, 0, 132, 161, 0, 13]
abbrev dktX13_isAround_0 : List UInt8 := dkwX13_isAround_0 ++ dktX13_isAround_1
theorem dksX13_isAround_0 : cX13_isAround.data.toList.drop 0 = dktX13_isAround_0 := by decide +kernel
theorem dksX13_isAround_1 : cX13_isAround.data.toList.drop 24 = dktX13_isAround_1 := dk_seg dksX13_isAround_0 24 rfl rfl
theorem dX13_isAround_0 : decode cX13_isAround 0 = .ok (.aload_n 0, 1) := dk_42 (dk_at dksX13_isAround_0 0 rfl rfl)
theorem dX13_isAround_1 : decode cX13_isAround 1 = .ok (.getfield 34, 3) := dk_180 0 34 (dk_at dksX13_isAround_0 1 rfl rfl)
theorem dX13_isAround_4 : decode cX13_isAround 4 = .ok (.iload_n 1, 1) := dk_27 (dk_at dksX13_isAround_0 4 rfl rfl)
theorem dX13_isAround_5 : decode cX13_isAround 5 = .ok (.iaload, 1) := dk_46 (dk_at dksX13_isAround_0 5 rfl rfl)
theorem dX13_isAround_6 : decode cX13_isAround 6 = .ok (.iconst 1, 1) := dk_4 (dk_at dksX13_isAround_0 6 rfl rfl)
theorem dX13_isAround_7 : decode cX13_isAround 7 = .ok (.iadd, 1) := dk_96 (dk_at dksX13_isAround_0 7 rfl rfl)
theorem dX13_isAround_8 : decode cX13_isAround 8 = .ok (.aload_n 0, 1) := dk_42 (dk_at dksX13_isAround_0 8 rfl rfl)
theorem dX13_isAround_9 : decode cX13_isAround 9 = .ok (.getfield 99, 3) := dk_180 0 99 (dk_at dksX13_isAround_0 9 rfl rfl)
theorem dX13_isAround_12 : decode cX13_isAround 12 = .ok (.aload_n 0, 1) := dk_42 (dk_at dksX13_isAround_0 12 rfl rfl)
theorem dX13_isAround_13 : decode cX13_isAround 13 = .ok (.getfield 30, 3) := dk_180 0 30 (dk_at dksX13_isAround_0 13 rfl rfl)
theorem dX13_isAround_16 : decode cX13_isAround 16 = .ok (.iload_n 1, 1) := dk_27 (dk_at dksX13_isAround_0 16 rfl rfl)
theorem dX13_isAround_17 : decode cX13_isAround 17 = .ok (.iaload, 1) := dk_46 (dk_at dksX13_isAround_0 17 rfl rfl)
theorem dX13_isAround_18 : decode cX13_isAround 18 = .ok (.invokevirtual 132, 3) := dk_182 0 132 (dk_at dksX13_isAround_0 18 rfl rfl)
theorem dX13_isAround_21 : decode cX13_isAround 21 = .ok (.if_icmp .lt 13, 3) := dk_161 0 13 (dk_at dksX13_isAround_0 21 rfl rfl)
theorem dX13_isAround_24 : decode cX13_isAround 24 = .ok (.aload_n 0, 1) := dk_42 (dk_at dksX13_isAround_1 0 rfl rfl)
theorem dX13_isAround_25 : decode cX13_isAround 25 = .ok (.iload_n 1, 1) := dk_27 (dk_at dksX13_isAround_1 1 rfl rfl)
theorem dX13_isAround_26 : decode cX13_isAround 26 = .ok (.invokevirtual 158, 3) := dk_182 0 158 (dk_at dksX13_isAround_1 2 rfl rfl)
theorem dX13_isAround_29 : decode cX13_isAround 29 = .ok (.bipush 16, 2) := dk_16 16 (dk_at dksX13_isAround_1 5 rfl rfl)
theorem dX13_isAround_31 : decode cX13_isAround 31 = .ok (.if_icmp .ne 7, 3) := dk_160 0 7 (dk_at dksX13_isAround_1 7 rfl rfl)
theorem dX13_isAround_34 : decode cX13_isAround 34 = .ok (.iconst 1, 1) := dk_4 (dk_at dksX13_isAround_1 10 rfl rfl)
theorem dX13_isAround_35 : decode cX13_isAround 35 = .ok (.goto 4, 3) := dk_167 0 4 (dk_at dksX13_isAround_1 11 rfl rfl)
theorem dX13_isAround_38 : decode cX13_isAround 38 = .ok (.iconst 0, 1) := dk_3 (dk_at dksX13_isAround_1 14 rfl rfl)
theorem dX13_isAround_39 : decode cX13_isAround 39 = .ok (.ireturn, 1) := dk_172 (dk_at dksX13_isAround_1 15 rfl rfl)
abbrev cX13_isMany : ByteArray := prog_8_method_9_code
def yX13_isMany : MethodName := ⟨RX13, "isMany", "(I)Z"⟩
def dkwX13_isMany_0 : List UInt8 := [27, 16, 12, 161, 0, 13, 27, 16, 15, 163, 0, 7, 4, 167, 0, 4, 3, 172]
abbrev dktX13_isMany_0 : List UInt8 := dkwX13_isMany_0 ++ []
theorem dksX13_isMany_0 : cX13_isMany.data.toList.drop 0 = dktX13_isMany_0 := by decide +kernel
theorem dX13_isMany_0 : decode cX13_isMany 0 = .ok (.iload_n 1, 1) := dk_27 (dk_at dksX13_isMany_0 0 rfl rfl)
theorem dX13_isMany_1 : decode cX13_isMany 1 = .ok (.bipush 12, 2) := dk_16 12 (dk_at dksX13_isMany_0 1 rfl rfl)
theorem dX13_isMany_3 : decode cX13_isMany 3 = .ok (.if_icmp .lt 13, 3) := dk_161 0 13 (dk_at dksX13_isMany_0 3 rfl rfl)
theorem dX13_isMany_6 : decode cX13_isMany 6 = .ok (.iload_n 1, 1) := dk_27 (dk_at dksX13_isMany_0 6 rfl rfl)
theorem dX13_isMany_7 : decode cX13_isMany 7 = .ok (.bipush 15, 2) := dk_16 15 (dk_at dksX13_isMany_0 7 rfl rfl)
theorem dX13_isMany_9 : decode cX13_isMany 9 = .ok (.if_icmp .gt 7, 3) := dk_163 0 7 (dk_at dksX13_isMany_0 9 rfl rfl)
theorem dX13_isMany_12 : decode cX13_isMany 12 = .ok (.iconst 1, 1) := dk_4 (dk_at dksX13_isMany_0 12 rfl rfl)
theorem dX13_isMany_13 : decode cX13_isMany 13 = .ok (.goto 4, 3) := dk_167 0 4 (dk_at dksX13_isMany_0 13 rfl rfl)
theorem dX13_isMany_16 : decode cX13_isMany 16 = .ok (.iconst 0, 1) := dk_3 (dk_at dksX13_isMany_0 16 rfl rfl)
theorem dX13_isMany_17 : decode cX13_isMany 17 = .ok (.ireturn, 1) := dk_172 (dk_at dksX13_isMany_0 17 rfl rfl)
abbrev cX13_leaf : ByteArray := prog_8_method_20_code
def yX13_leaf : MethodName := ⟨RX13, "leaf", "(II)V"⟩
def dkwX13_leaf_5 : List UInt8 := [46, 100, 79, 177]
abbrev dktX13_leaf_5 : List UInt8 := dkwX13_leaf_5 ++ []
def dkwX13_leaf_4 : List UInt8 := [27, 28, 21, 4, 182, 0, 242, 42, 180, 0, 46, 27, 42, 180, 0, 70, 182, 0, 234, 42, 180, 0, 43, 27]
abbrev dktX13_leaf_4 : List UInt8 := dkwX13_leaf_4 ++ dktX13_leaf_5
def dkwX13_leaf_3 : List UInt8 := [21, 4, 182, 0, 235, 167, 0, 26, 28, 7, 160, 0, 13, 42, 27, 21, 4, 182, 0, 239, 167, 0, 11, 42]
abbrev dktX13_leaf_3 : List UInt8 := dkwX13_leaf_3 ++ dktX13_leaf_4
def dkwX13_leaf_2 : List UInt8 := [42, 180, 0, 70, 182, 0, 234, 79, 42, 180, 0, 30, 27, 46, 54, 4, 29, 153, 0, 14, 42, 27, 28]
abbrev dktX13_leaf_2 : List UInt8 := dkwX13_leaf_2 ++ dktX13_leaf_3
def dkwX13_leaf_1 : List UInt8 := [180, 0, 110, 27, 182, 0, 205, 153, 0, 12, 42, 16, 14, 27, 182, 0, 177, 87, 177, 42, 180, 0, 43, 27]
abbrev dktX13_leaf_1 : List UInt8 := dkwX13_leaf_1 ++ dktX13_leaf_2
def dkwX13_leaf_0 : List UInt8 := [28, 7, 161, 0, 9, 28, 16, 6, 160, 0, 7, 4, 167, 0, 4, 3, 62, 29, 153, 0, 23, 42]
abbrev dktX13_leaf_0 : List UInt8 := dkwX13_leaf_0 ++ dktX13_leaf_1
theorem dksX13_leaf_0 : cX13_leaf.data.toList.drop 0 = dktX13_leaf_0 := by decide +kernel
theorem dksX13_leaf_1 : cX13_leaf.data.toList.drop 22 = dktX13_leaf_1 := dk_seg dksX13_leaf_0 22 rfl rfl
theorem dksX13_leaf_2 : cX13_leaf.data.toList.drop 46 = dktX13_leaf_2 := dk_seg dksX13_leaf_1 24 rfl rfl
theorem dksX13_leaf_3 : cX13_leaf.data.toList.drop 69 = dktX13_leaf_3 := dk_seg dksX13_leaf_2 23 rfl rfl
theorem dksX13_leaf_4 : cX13_leaf.data.toList.drop 93 = dktX13_leaf_4 := dk_seg dksX13_leaf_3 24 rfl rfl
theorem dksX13_leaf_5 : cX13_leaf.data.toList.drop 117 = dktX13_leaf_5 := dk_seg dksX13_leaf_4 24 rfl rfl
theorem dX13_leaf_0 : decode cX13_leaf 0 = .ok (.iload_n 2, 1) := dk_28 (dk_at dksX13_leaf_0 0 rfl rfl)
theorem dX13_leaf_1 : decode cX13_leaf 1 = .ok (.iconst 4, 1) := dk_7 (dk_at dksX13_leaf_0 1 rfl rfl)
theorem dX13_leaf_2 : decode cX13_leaf 2 = .ok (.if_icmp .lt 9, 3) := dk_161 0 9 (dk_at dksX13_leaf_0 2 rfl rfl)
theorem dX13_leaf_5 : decode cX13_leaf 5 = .ok (.iload_n 2, 1) := dk_28 (dk_at dksX13_leaf_0 5 rfl rfl)
theorem dX13_leaf_6 : decode cX13_leaf 6 = .ok (.bipush 6, 2) := dk_16 6 (dk_at dksX13_leaf_0 6 rfl rfl)
theorem dX13_leaf_8 : decode cX13_leaf 8 = .ok (.if_icmp .ne 7, 3) := dk_160 0 7 (dk_at dksX13_leaf_0 8 rfl rfl)
theorem dX13_leaf_11 : decode cX13_leaf 11 = .ok (.iconst 1, 1) := dk_4 (dk_at dksX13_leaf_0 11 rfl rfl)
theorem dX13_leaf_12 : decode cX13_leaf 12 = .ok (.goto 4, 3) := dk_167 0 4 (dk_at dksX13_leaf_0 12 rfl rfl)
theorem dX13_leaf_15 : decode cX13_leaf 15 = .ok (.iconst 0, 1) := dk_3 (dk_at dksX13_leaf_0 15 rfl rfl)
theorem dX13_leaf_16 : decode cX13_leaf 16 = .ok (.istore_n 3, 1) := dk_62 (dk_at dksX13_leaf_0 16 rfl rfl)
theorem dX13_leaf_17 : decode cX13_leaf 17 = .ok (.iload_n 3, 1) := dk_29 (dk_at dksX13_leaf_0 17 rfl rfl)
theorem dX13_leaf_18 : decode cX13_leaf 18 = .ok (.ifCond .eq 23, 3) := dk_153 0 23 (dk_at dksX13_leaf_0 18 rfl rfl)
theorem dX13_leaf_21 : decode cX13_leaf 21 = .ok (.aload_n 0, 1) := dk_42 (dk_at dksX13_leaf_0 21 rfl rfl)
theorem dX13_leaf_22 : decode cX13_leaf 22 = .ok (.getfield 110, 3) := dk_180 0 110 (dk_at dksX13_leaf_1 0 rfl rfl)
theorem dX13_leaf_25 : decode cX13_leaf 25 = .ok (.iload_n 1, 1) := dk_27 (dk_at dksX13_leaf_1 3 rfl rfl)
theorem dX13_leaf_26 : decode cX13_leaf 26 = .ok (.invokevirtual 205, 3) := dk_182 0 205 (dk_at dksX13_leaf_1 4 rfl rfl)
theorem dX13_leaf_29 : decode cX13_leaf 29 = .ok (.ifCond .eq 12, 3) := dk_153 0 12 (dk_at dksX13_leaf_1 7 rfl rfl)
theorem dX13_leaf_32 : decode cX13_leaf 32 = .ok (.aload_n 0, 1) := dk_42 (dk_at dksX13_leaf_1 10 rfl rfl)
theorem dX13_leaf_33 : decode cX13_leaf 33 = .ok (.bipush 14, 2) := dk_16 14 (dk_at dksX13_leaf_1 11 rfl rfl)
theorem dX13_leaf_35 : decode cX13_leaf 35 = .ok (.iload_n 1, 1) := dk_27 (dk_at dksX13_leaf_1 13 rfl rfl)
theorem dX13_leaf_36 : decode cX13_leaf 36 = .ok (.invokevirtual 177, 3) := dk_182 0 177 (dk_at dksX13_leaf_1 14 rfl rfl)
theorem dX13_leaf_39 : decode cX13_leaf 39 = .ok (.pop, 1) := dk_87 (dk_at dksX13_leaf_1 17 rfl rfl)
theorem dX13_leaf_40 : decode cX13_leaf 40 = .ok (.return_, 1) := dk_177 (dk_at dksX13_leaf_1 18 rfl rfl)
theorem dX13_leaf_41 : decode cX13_leaf 41 = .ok (.aload_n 0, 1) := dk_42 (dk_at dksX13_leaf_1 19 rfl rfl)
theorem dX13_leaf_42 : decode cX13_leaf 42 = .ok (.getfield 43, 3) := dk_180 0 43 (dk_at dksX13_leaf_1 20 rfl rfl)
theorem dX13_leaf_45 : decode cX13_leaf 45 = .ok (.iload_n 1, 1) := dk_27 (dk_at dksX13_leaf_1 23 rfl rfl)
theorem dX13_leaf_46 : decode cX13_leaf 46 = .ok (.aload_n 0, 1) := dk_42 (dk_at dksX13_leaf_2 0 rfl rfl)
theorem dX13_leaf_47 : decode cX13_leaf 47 = .ok (.getfield 70, 3) := dk_180 0 70 (dk_at dksX13_leaf_2 1 rfl rfl)
theorem dX13_leaf_50 : decode cX13_leaf 50 = .ok (.invokevirtual 234, 3) := dk_182 0 234 (dk_at dksX13_leaf_2 4 rfl rfl)
theorem dX13_leaf_53 : decode cX13_leaf 53 = .ok (.iastore, 1) := dk_79 (dk_at dksX13_leaf_2 7 rfl rfl)
theorem dX13_leaf_54 : decode cX13_leaf 54 = .ok (.aload_n 0, 1) := dk_42 (dk_at dksX13_leaf_2 8 rfl rfl)
theorem dX13_leaf_55 : decode cX13_leaf 55 = .ok (.getfield 30, 3) := dk_180 0 30 (dk_at dksX13_leaf_2 9 rfl rfl)
theorem dX13_leaf_58 : decode cX13_leaf 58 = .ok (.iload_n 1, 1) := dk_27 (dk_at dksX13_leaf_2 12 rfl rfl)
theorem dX13_leaf_59 : decode cX13_leaf 59 = .ok (.iaload, 1) := dk_46 (dk_at dksX13_leaf_2 13 rfl rfl)
theorem dX13_leaf_60 : decode cX13_leaf 60 = .ok (.istore 4, 2) := dk_54 4 (dk_at dksX13_leaf_2 14 rfl rfl)
theorem dX13_leaf_62 : decode cX13_leaf 62 = .ok (.iload_n 3, 1) := dk_29 (dk_at dksX13_leaf_2 16 rfl rfl)
theorem dX13_leaf_63 : decode cX13_leaf 63 = .ok (.ifCond .eq 14, 3) := dk_153 0 14 (dk_at dksX13_leaf_2 17 rfl rfl)
theorem dX13_leaf_66 : decode cX13_leaf 66 = .ok (.aload_n 0, 1) := dk_42 (dk_at dksX13_leaf_2 20 rfl rfl)
theorem dX13_leaf_67 : decode cX13_leaf 67 = .ok (.iload_n 1, 1) := dk_27 (dk_at dksX13_leaf_2 21 rfl rfl)
theorem dX13_leaf_68 : decode cX13_leaf 68 = .ok (.iload_n 2, 1) := dk_28 (dk_at dksX13_leaf_2 22 rfl rfl)
theorem dX13_leaf_69 : decode cX13_leaf 69 = .ok (.iload 4, 2) := dk_21 4 (dk_at dksX13_leaf_3 0 rfl rfl)
theorem dX13_leaf_71 : decode cX13_leaf 71 = .ok (.invokevirtual 235, 3) := dk_182 0 235 (dk_at dksX13_leaf_3 2 rfl rfl)
theorem dX13_leaf_74 : decode cX13_leaf 74 = .ok (.goto 26, 3) := dk_167 0 26 (dk_at dksX13_leaf_3 5 rfl rfl)
theorem dX13_leaf_77 : decode cX13_leaf 77 = .ok (.iload_n 2, 1) := dk_28 (dk_at dksX13_leaf_3 8 rfl rfl)
theorem dX13_leaf_78 : decode cX13_leaf 78 = .ok (.iconst 4, 1) := dk_7 (dk_at dksX13_leaf_3 9 rfl rfl)
theorem dX13_leaf_79 : decode cX13_leaf 79 = .ok (.if_icmp .ne 13, 3) := dk_160 0 13 (dk_at dksX13_leaf_3 10 rfl rfl)
theorem dX13_leaf_82 : decode cX13_leaf 82 = .ok (.aload_n 0, 1) := dk_42 (dk_at dksX13_leaf_3 13 rfl rfl)
theorem dX13_leaf_83 : decode cX13_leaf 83 = .ok (.iload_n 1, 1) := dk_27 (dk_at dksX13_leaf_3 14 rfl rfl)
theorem dX13_leaf_84 : decode cX13_leaf 84 = .ok (.iload 4, 2) := dk_21 4 (dk_at dksX13_leaf_3 15 rfl rfl)
theorem dX13_leaf_86 : decode cX13_leaf 86 = .ok (.invokevirtual 239, 3) := dk_182 0 239 (dk_at dksX13_leaf_3 17 rfl rfl)
theorem dX13_leaf_89 : decode cX13_leaf 89 = .ok (.goto 11, 3) := dk_167 0 11 (dk_at dksX13_leaf_3 20 rfl rfl)
theorem dX13_leaf_92 : decode cX13_leaf 92 = .ok (.aload_n 0, 1) := dk_42 (dk_at dksX13_leaf_3 23 rfl rfl)
theorem dX13_leaf_93 : decode cX13_leaf 93 = .ok (.iload_n 1, 1) := dk_27 (dk_at dksX13_leaf_4 0 rfl rfl)
theorem dX13_leaf_94 : decode cX13_leaf 94 = .ok (.iload_n 2, 1) := dk_28 (dk_at dksX13_leaf_4 1 rfl rfl)
theorem dX13_leaf_95 : decode cX13_leaf 95 = .ok (.iload 4, 2) := dk_21 4 (dk_at dksX13_leaf_4 2 rfl rfl)
theorem dX13_leaf_97 : decode cX13_leaf 97 = .ok (.invokevirtual 242, 3) := dk_182 0 242 (dk_at dksX13_leaf_4 4 rfl rfl)
theorem dX13_leaf_100 : decode cX13_leaf 100 = .ok (.aload_n 0, 1) := dk_42 (dk_at dksX13_leaf_4 7 rfl rfl)
theorem dX13_leaf_101 : decode cX13_leaf 101 = .ok (.getfield 46, 3) := dk_180 0 46 (dk_at dksX13_leaf_4 8 rfl rfl)
theorem dX13_leaf_104 : decode cX13_leaf 104 = .ok (.iload_n 1, 1) := dk_27 (dk_at dksX13_leaf_4 11 rfl rfl)
theorem dX13_leaf_105 : decode cX13_leaf 105 = .ok (.aload_n 0, 1) := dk_42 (dk_at dksX13_leaf_4 12 rfl rfl)
theorem dX13_leaf_106 : decode cX13_leaf 106 = .ok (.getfield 70, 3) := dk_180 0 70 (dk_at dksX13_leaf_4 13 rfl rfl)
theorem dX13_leaf_109 : decode cX13_leaf 109 = .ok (.invokevirtual 234, 3) := dk_182 0 234 (dk_at dksX13_leaf_4 16 rfl rfl)
theorem dX13_leaf_112 : decode cX13_leaf 112 = .ok (.aload_n 0, 1) := dk_42 (dk_at dksX13_leaf_4 19 rfl rfl)
theorem dX13_leaf_113 : decode cX13_leaf 113 = .ok (.getfield 43, 3) := dk_180 0 43 (dk_at dksX13_leaf_4 20 rfl rfl)
theorem dX13_leaf_116 : decode cX13_leaf 116 = .ok (.iload_n 1, 1) := dk_27 (dk_at dksX13_leaf_4 23 rfl rfl)
theorem dX13_leaf_117 : decode cX13_leaf 117 = .ok (.iaload, 1) := dk_46 (dk_at dksX13_leaf_5 0 rfl rfl)
theorem dX13_leaf_118 : decode cX13_leaf 118 = .ok (.isub, 1) := dk_100 (dk_at dksX13_leaf_5 1 rfl rfl)
theorem dX13_leaf_119 : decode cX13_leaf 119 = .ok (.iastore, 1) := dk_79 (dk_at dksX13_leaf_5 2 rfl rfl)
theorem dX13_leaf_120 : decode cX13_leaf 120 = .ok (.return_, 1) := dk_177 (dk_at dksX13_leaf_5 3 rfl rfl)
abbrev cX13_plain : ByteArray := prog_8_method_21_code
def yX13_plain : MethodName := ⟨RX13, "plain", "(III)V"⟩
def dkwX13_plain_7 : List UInt8 := [180, 0, 70, 42, 180, 0, 159, 21, 4, 21, 5, 182, 1, 9, 177]
abbrev dktX13_plain_7 : List UInt8 := dkwX13_plain_7 ++ []
def dkwX13_plain_6 : List UInt8 := [21, 4, 182, 1, 4, 154, 0, 7, 3, 167, 0, 6, 17, 0, 255, 182, 1, 6, 167, 0, 18, 42]
abbrev dktX13_plain_6 : List UInt8 := dkwX13_plain_6 ++ dktX13_plain_7
def dkwX13_plain_5 : List UInt8 := [42, 16, 21, 27, 182, 0, 177, 87, 167, 0, 51, 28, 154, 0, 32, 42, 180, 0, 70, 42, 180, 0, 159]
abbrev dktX13_plain_5 : List UInt8 := dkwX13_plain_5 ++ dktX13_plain_6
def dkwX13_plain_4 : List UInt8 := [28, 5, 160, 0, 33, 42, 180, 0, 99, 29, 42, 180, 0, 159, 21, 4, 21, 5, 182, 1, 1, 154, 0, 14]
abbrev dktX13_plain_4 : List UInt8 := dkwX13_plain_4 ++ dktX13_plain_5
def dkwX13_plain_3 : List UInt8 := [180, 0, 159, 21, 4, 21, 5, 182, 0, 253, 154, 0, 14, 42, 16, 23, 27, 182, 0, 177, 87, 167, 0, 86]
abbrev dktX13_plain_3 : List UInt8 := dkwX13_plain_3 ++ dktX13_plain_4
def dkwX13_plain_2 : List UInt8 := [87, 167, 0, 128, 28, 6, 160, 0, 40, 42, 180, 0, 99, 42, 180, 0, 99, 29, 182, 0, 140, 42]
abbrev dktX13_plain_2 : List UInt8 := dkwX13_plain_2 ++ dktX13_plain_3
def dkwX13_plain_1 : List UInt8 := [180, 0, 159, 21, 4, 21, 5, 184, 0, 250, 54, 6, 21, 6, 153, 0, 14, 42, 21, 6, 27, 182, 0, 177]
abbrev dktX13_plain_1 : List UInt8 := dkwX13_plain_1 ++ dktX13_plain_2
def dkwX13_plain_0 : List UInt8 := [42, 180, 0, 110, 27, 182, 0, 245, 54, 4, 42, 180, 0, 110, 27, 182, 0, 247, 54, 5, 28, 42]
abbrev dktX13_plain_0 : List UInt8 := dkwX13_plain_0 ++ dktX13_plain_1
theorem dksX13_plain_0 : cX13_plain.data.toList.drop 0 = dktX13_plain_0 := by decide +kernel
theorem dksX13_plain_1 : cX13_plain.data.toList.drop 22 = dktX13_plain_1 := dk_seg dksX13_plain_0 22 rfl rfl
theorem dksX13_plain_2 : cX13_plain.data.toList.drop 46 = dktX13_plain_2 := dk_seg dksX13_plain_1 24 rfl rfl
theorem dksX13_plain_3 : cX13_plain.data.toList.drop 68 = dktX13_plain_3 := dk_seg dksX13_plain_2 22 rfl rfl
theorem dksX13_plain_4 : cX13_plain.data.toList.drop 92 = dktX13_plain_4 := dk_seg dksX13_plain_3 24 rfl rfl
theorem dksX13_plain_5 : cX13_plain.data.toList.drop 116 = dktX13_plain_5 := dk_seg dksX13_plain_4 24 rfl rfl
theorem dksX13_plain_6 : cX13_plain.data.toList.drop 139 = dktX13_plain_6 := dk_seg dksX13_plain_5 23 rfl rfl
theorem dksX13_plain_7 : cX13_plain.data.toList.drop 161 = dktX13_plain_7 := dk_seg dksX13_plain_6 22 rfl rfl
theorem dX13_plain_0 : decode cX13_plain 0 = .ok (.aload_n 0, 1) := dk_42 (dk_at dksX13_plain_0 0 rfl rfl)
theorem dX13_plain_1 : decode cX13_plain 1 = .ok (.getfield 110, 3) := dk_180 0 110 (dk_at dksX13_plain_0 1 rfl rfl)
theorem dX13_plain_4 : decode cX13_plain 4 = .ok (.iload_n 1, 1) := dk_27 (dk_at dksX13_plain_0 4 rfl rfl)
theorem dX13_plain_5 : decode cX13_plain 5 = .ok (.invokevirtual 245, 3) := dk_182 0 245 (dk_at dksX13_plain_0 5 rfl rfl)
theorem dX13_plain_8 : decode cX13_plain 8 = .ok (.istore 4, 2) := dk_54 4 (dk_at dksX13_plain_0 8 rfl rfl)
theorem dX13_plain_10 : decode cX13_plain 10 = .ok (.aload_n 0, 1) := dk_42 (dk_at dksX13_plain_0 10 rfl rfl)
theorem dX13_plain_11 : decode cX13_plain 11 = .ok (.getfield 110, 3) := dk_180 0 110 (dk_at dksX13_plain_0 11 rfl rfl)
theorem dX13_plain_14 : decode cX13_plain 14 = .ok (.iload_n 1, 1) := dk_27 (dk_at dksX13_plain_0 14 rfl rfl)
theorem dX13_plain_15 : decode cX13_plain 15 = .ok (.invokevirtual 247, 3) := dk_182 0 247 (dk_at dksX13_plain_0 15 rfl rfl)
theorem dX13_plain_18 : decode cX13_plain 18 = .ok (.istore 5, 2) := dk_54 5 (dk_at dksX13_plain_0 18 rfl rfl)
theorem dX13_plain_20 : decode cX13_plain 20 = .ok (.iload_n 2, 1) := dk_28 (dk_at dksX13_plain_0 20 rfl rfl)
theorem dX13_plain_21 : decode cX13_plain 21 = .ok (.aload_n 0, 1) := dk_42 (dk_at dksX13_plain_0 21 rfl rfl)
theorem dX13_plain_22 : decode cX13_plain 22 = .ok (.getfield 159, 3) := dk_180 0 159 (dk_at dksX13_plain_1 0 rfl rfl)
theorem dX13_plain_25 : decode cX13_plain 25 = .ok (.iload 4, 2) := dk_21 4 (dk_at dksX13_plain_1 3 rfl rfl)
theorem dX13_plain_27 : decode cX13_plain 27 = .ok (.iload 5, 2) := dk_21 5 (dk_at dksX13_plain_1 5 rfl rfl)
theorem dX13_plain_29 : decode cX13_plain 29 = .ok (.invokestatic 250, 3) := dk_184 0 250 (dk_at dksX13_plain_1 7 rfl rfl)
theorem dX13_plain_32 : decode cX13_plain 32 = .ok (.istore 6, 2) := dk_54 6 (dk_at dksX13_plain_1 10 rfl rfl)
theorem dX13_plain_34 : decode cX13_plain 34 = .ok (.iload 6, 2) := dk_21 6 (dk_at dksX13_plain_1 12 rfl rfl)
theorem dX13_plain_36 : decode cX13_plain 36 = .ok (.ifCond .eq 14, 3) := dk_153 0 14 (dk_at dksX13_plain_1 14 rfl rfl)
theorem dX13_plain_39 : decode cX13_plain 39 = .ok (.aload_n 0, 1) := dk_42 (dk_at dksX13_plain_1 17 rfl rfl)
theorem dX13_plain_40 : decode cX13_plain 40 = .ok (.iload 6, 2) := dk_21 6 (dk_at dksX13_plain_1 18 rfl rfl)
theorem dX13_plain_42 : decode cX13_plain 42 = .ok (.iload_n 1, 1) := dk_27 (dk_at dksX13_plain_1 20 rfl rfl)
theorem dX13_plain_43 : decode cX13_plain 43 = .ok (.invokevirtual 177, 3) := dk_182 0 177 (dk_at dksX13_plain_1 21 rfl rfl)
theorem dX13_plain_46 : decode cX13_plain 46 = .ok (.pop, 1) := dk_87 (dk_at dksX13_plain_2 0 rfl rfl)
theorem dX13_plain_47 : decode cX13_plain 47 = .ok (.goto 128, 3) := dk_167 0 128 (dk_at dksX13_plain_2 1 rfl rfl)
theorem dX13_plain_50 : decode cX13_plain 50 = .ok (.iload_n 2, 1) := dk_28 (dk_at dksX13_plain_2 4 rfl rfl)
theorem dX13_plain_51 : decode cX13_plain 51 = .ok (.iconst 3, 1) := dk_6 (dk_at dksX13_plain_2 5 rfl rfl)
theorem dX13_plain_52 : decode cX13_plain 52 = .ok (.if_icmp .ne 40, 3) := dk_160 0 40 (dk_at dksX13_plain_2 6 rfl rfl)
theorem dX13_plain_55 : decode cX13_plain 55 = .ok (.aload_n 0, 1) := dk_42 (dk_at dksX13_plain_2 9 rfl rfl)
theorem dX13_plain_56 : decode cX13_plain 56 = .ok (.getfield 99, 3) := dk_180 0 99 (dk_at dksX13_plain_2 10 rfl rfl)
theorem dX13_plain_59 : decode cX13_plain 59 = .ok (.aload_n 0, 1) := dk_42 (dk_at dksX13_plain_2 13 rfl rfl)
theorem dX13_plain_60 : decode cX13_plain 60 = .ok (.getfield 99, 3) := dk_180 0 99 (dk_at dksX13_plain_2 14 rfl rfl)
theorem dX13_plain_63 : decode cX13_plain 63 = .ok (.iload_n 3, 1) := dk_29 (dk_at dksX13_plain_2 17 rfl rfl)
theorem dX13_plain_64 : decode cX13_plain 64 = .ok (.invokevirtual 140, 3) := dk_182 0 140 (dk_at dksX13_plain_2 18 rfl rfl)
theorem dX13_plain_67 : decode cX13_plain 67 = .ok (.aload_n 0, 1) := dk_42 (dk_at dksX13_plain_2 21 rfl rfl)
theorem dX13_plain_68 : decode cX13_plain 68 = .ok (.getfield 159, 3) := dk_180 0 159 (dk_at dksX13_plain_3 0 rfl rfl)
theorem dX13_plain_71 : decode cX13_plain 71 = .ok (.iload 4, 2) := dk_21 4 (dk_at dksX13_plain_3 3 rfl rfl)
theorem dX13_plain_73 : decode cX13_plain 73 = .ok (.iload 5, 2) := dk_21 5 (dk_at dksX13_plain_3 5 rfl rfl)
theorem dX13_plain_75 : decode cX13_plain 75 = .ok (.invokevirtual 253, 3) := dk_182 0 253 (dk_at dksX13_plain_3 7 rfl rfl)
theorem dX13_plain_78 : decode cX13_plain 78 = .ok (.ifCond .ne 14, 3) := dk_154 0 14 (dk_at dksX13_plain_3 10 rfl rfl)
theorem dX13_plain_81 : decode cX13_plain 81 = .ok (.aload_n 0, 1) := dk_42 (dk_at dksX13_plain_3 13 rfl rfl)
theorem dX13_plain_82 : decode cX13_plain 82 = .ok (.bipush 23, 2) := dk_16 23 (dk_at dksX13_plain_3 14 rfl rfl)
theorem dX13_plain_84 : decode cX13_plain 84 = .ok (.iload_n 1, 1) := dk_27 (dk_at dksX13_plain_3 16 rfl rfl)
theorem dX13_plain_85 : decode cX13_plain 85 = .ok (.invokevirtual 177, 3) := dk_182 0 177 (dk_at dksX13_plain_3 17 rfl rfl)
theorem dX13_plain_88 : decode cX13_plain 88 = .ok (.pop, 1) := dk_87 (dk_at dksX13_plain_3 20 rfl rfl)
theorem dX13_plain_89 : decode cX13_plain 89 = .ok (.goto 86, 3) := dk_167 0 86 (dk_at dksX13_plain_3 21 rfl rfl)
theorem dX13_plain_92 : decode cX13_plain 92 = .ok (.iload_n 2, 1) := dk_28 (dk_at dksX13_plain_4 0 rfl rfl)
theorem dX13_plain_93 : decode cX13_plain 93 = .ok (.iconst 2, 1) := dk_5 (dk_at dksX13_plain_4 1 rfl rfl)
theorem dX13_plain_94 : decode cX13_plain 94 = .ok (.if_icmp .ne 33, 3) := dk_160 0 33 (dk_at dksX13_plain_4 2 rfl rfl)
theorem dX13_plain_97 : decode cX13_plain 97 = .ok (.aload_n 0, 1) := dk_42 (dk_at dksX13_plain_4 5 rfl rfl)
theorem dX13_plain_98 : decode cX13_plain 98 = .ok (.getfield 99, 3) := dk_180 0 99 (dk_at dksX13_plain_4 6 rfl rfl)
theorem dX13_plain_101 : decode cX13_plain 101 = .ok (.iload_n 3, 1) := dk_29 (dk_at dksX13_plain_4 9 rfl rfl)
theorem dX13_plain_102 : decode cX13_plain 102 = .ok (.aload_n 0, 1) := dk_42 (dk_at dksX13_plain_4 10 rfl rfl)
theorem dX13_plain_103 : decode cX13_plain 103 = .ok (.getfield 159, 3) := dk_180 0 159 (dk_at dksX13_plain_4 11 rfl rfl)
theorem dX13_plain_106 : decode cX13_plain 106 = .ok (.iload 4, 2) := dk_21 4 (dk_at dksX13_plain_4 14 rfl rfl)
theorem dX13_plain_108 : decode cX13_plain 108 = .ok (.iload 5, 2) := dk_21 5 (dk_at dksX13_plain_4 16 rfl rfl)
theorem dX13_plain_110 : decode cX13_plain 110 = .ok (.invokevirtual 257, 3) := dk_182 1 1 (dk_at dksX13_plain_4 18 rfl rfl)
theorem dX13_plain_113 : decode cX13_plain 113 = .ok (.ifCond .ne 14, 3) := dk_154 0 14 (dk_at dksX13_plain_4 21 rfl rfl)
theorem dX13_plain_116 : decode cX13_plain 116 = .ok (.aload_n 0, 1) := dk_42 (dk_at dksX13_plain_5 0 rfl rfl)
theorem dX13_plain_117 : decode cX13_plain 117 = .ok (.bipush 21, 2) := dk_16 21 (dk_at dksX13_plain_5 1 rfl rfl)
theorem dX13_plain_119 : decode cX13_plain 119 = .ok (.iload_n 1, 1) := dk_27 (dk_at dksX13_plain_5 3 rfl rfl)
theorem dX13_plain_120 : decode cX13_plain 120 = .ok (.invokevirtual 177, 3) := dk_182 0 177 (dk_at dksX13_plain_5 4 rfl rfl)
theorem dX13_plain_123 : decode cX13_plain 123 = .ok (.pop, 1) := dk_87 (dk_at dksX13_plain_5 7 rfl rfl)
theorem dX13_plain_124 : decode cX13_plain 124 = .ok (.goto 51, 3) := dk_167 0 51 (dk_at dksX13_plain_5 8 rfl rfl)
theorem dX13_plain_127 : decode cX13_plain 127 = .ok (.iload_n 2, 1) := dk_28 (dk_at dksX13_plain_5 11 rfl rfl)
theorem dX13_plain_128 : decode cX13_plain 128 = .ok (.ifCond .ne 32, 3) := dk_154 0 32 (dk_at dksX13_plain_5 12 rfl rfl)
theorem dX13_plain_131 : decode cX13_plain 131 = .ok (.aload_n 0, 1) := dk_42 (dk_at dksX13_plain_5 15 rfl rfl)
theorem dX13_plain_132 : decode cX13_plain 132 = .ok (.getfield 70, 3) := dk_180 0 70 (dk_at dksX13_plain_5 16 rfl rfl)
theorem dX13_plain_135 : decode cX13_plain 135 = .ok (.aload_n 0, 1) := dk_42 (dk_at dksX13_plain_5 19 rfl rfl)
theorem dX13_plain_136 : decode cX13_plain 136 = .ok (.getfield 159, 3) := dk_180 0 159 (dk_at dksX13_plain_5 20 rfl rfl)
theorem dX13_plain_139 : decode cX13_plain 139 = .ok (.iload 4, 2) := dk_21 4 (dk_at dksX13_plain_6 0 rfl rfl)
theorem dX13_plain_141 : decode cX13_plain 141 = .ok (.invokevirtual 260, 3) := dk_182 1 4 (dk_at dksX13_plain_6 2 rfl rfl)
theorem dX13_plain_144 : decode cX13_plain 144 = .ok (.ifCond .ne 7, 3) := dk_154 0 7 (dk_at dksX13_plain_6 5 rfl rfl)
theorem dX13_plain_147 : decode cX13_plain 147 = .ok (.iconst 0, 1) := dk_3 (dk_at dksX13_plain_6 8 rfl rfl)
theorem dX13_plain_148 : decode cX13_plain 148 = .ok (.goto 6, 3) := dk_167 0 6 (dk_at dksX13_plain_6 9 rfl rfl)
theorem dX13_plain_151 : decode cX13_plain 151 = .ok (.sipush 255, 3) := dk_17 0 255 (dk_at dksX13_plain_6 12 rfl rfl)
theorem dX13_plain_154 : decode cX13_plain 154 = .ok (.invokevirtual 262, 3) := dk_182 1 6 (dk_at dksX13_plain_6 15 rfl rfl)
theorem dX13_plain_157 : decode cX13_plain 157 = .ok (.goto 18, 3) := dk_167 0 18 (dk_at dksX13_plain_6 18 rfl rfl)
theorem dX13_plain_160 : decode cX13_plain 160 = .ok (.aload_n 0, 1) := dk_42 (dk_at dksX13_plain_6 21 rfl rfl)
theorem dX13_plain_161 : decode cX13_plain 161 = .ok (.getfield 70, 3) := dk_180 0 70 (dk_at dksX13_plain_7 0 rfl rfl)
theorem dX13_plain_164 : decode cX13_plain 164 = .ok (.aload_n 0, 1) := dk_42 (dk_at dksX13_plain_7 3 rfl rfl)
theorem dX13_plain_165 : decode cX13_plain 165 = .ok (.getfield 159, 3) := dk_180 0 159 (dk_at dksX13_plain_7 4 rfl rfl)
theorem dX13_plain_168 : decode cX13_plain 168 = .ok (.iload 4, 2) := dk_21 4 (dk_at dksX13_plain_7 7 rfl rfl)
theorem dX13_plain_170 : decode cX13_plain 170 = .ok (.iload 5, 2) := dk_21 5 (dk_at dksX13_plain_7 9 rfl rfl)
theorem dX13_plain_172 : decode cX13_plain 172 = .ok (.invokevirtual 265, 3) := dk_182 1 9 (dk_at dksX13_plain_7 11 rfl rfl)
theorem dX13_plain_175 : decode cX13_plain 175 = .ok (.return_, 1) := dk_177 (dk_at dksX13_plain_7 14 rfl rfl)
abbrev cX13_bits : ByteArray := prog_8_method_22_code
def yX13_bits : MethodName := ⟨RX13, "bits", "(II)V"⟩
def dkwX13_bits_10 : List UInt8 := [42, 180, 0, 70, 184, 1, 20, 177]
abbrev dktX13_bits_10 : List UInt8 := dkwX13_bits_10 ++ []
def dkwX13_bits_9 : List UInt8 := [16, 22, 27, 182, 0, 177, 87, 167, 0, 24, 42, 180, 0, 74, 3, 42, 180, 0, 74, 182, 0, 234, 21, 5]
abbrev dktX13_bits_9 : List UInt8 := dkwX13_bits_9 ++ dktX13_bits_10
def dkwX13_bits_8 : List UInt8 := [42, 180, 0, 74, 3, 42, 180, 0, 74, 182, 0, 234, 182, 1, 16, 54, 5, 21, 5, 2, 160, 0, 14, 42]
abbrev dktX13_bits_8 : List UInt8 := dkwX13_bits_8 ++ dktX13_bits_9
def dkwX13_bits_7 : List UInt8 := [167, 255, 161, 42, 180, 0, 103, 153, 0, 4, 177, 42, 180, 0, 99, 28, 42, 180, 0, 99, 28, 182, 0, 140]
abbrev dktX13_bits_7 : List UInt8 := dkwX13_bits_7 ++ dktX13_bits_8
def dkwX13_bits_6 : List UInt8 := [21, 5, 182, 1, 13, 154, 0, 11, 42, 16, 16, 27, 182, 0, 177, 87, 21, 5, 62, 132, 5, 1]
abbrev dktX13_bits_6 : List UInt8 := dkwX13_bits_6 ++ dktX13_bits_7
def dkwX13_bits_5 : List UInt8 := [182, 0, 205, 154, 0, 39, 29, 2, 159, 0, 14, 42, 180, 0, 74, 3, 182, 1, 4, 157, 0, 12, 42]
abbrev dktX13_bits_5 : List UInt8 := dkwX13_bits_5 ++ dktX13_bits_6
def dkwX13_bits_4 : List UInt8 := [182, 0, 172, 6, 159, 0, 14, 42, 16, 16, 27, 182, 0, 177, 87, 167, 0, 51, 42, 180, 0, 110, 21, 5]
abbrev dktX13_bits_4 : List UInt8 := dkwX13_bits_4 ++ dktX13_bits_5
def dkwX13_bits_3 : List UInt8 := [162, 0, 94, 42, 180, 0, 103, 154, 0, 87, 21, 5, 27, 164, 0, 27, 42, 180, 0, 110, 21, 5]
abbrev dktX13_bits_3 : List UInt8 := dkwX13_bits_3 ++ dktX13_bits_4
def dkwX13_bits_2 : List UInt8 := [180, 0, 110, 27, 182, 0, 205, 153, 0, 9, 27, 4, 96, 167, 0, 4, 27, 54, 5, 21, 5, 21, 4]
abbrev dktX13_bits_2 : List UInt8 := dkwX13_bits_2 ++ dktX13_bits_3
def dkwX13_bits_1 : List UInt8 := [182, 0, 205, 153, 0, 14, 42, 180, 0, 110, 27, 182, 0, 185, 167, 0, 6, 27, 4, 96, 54, 4, 42]
abbrev dktX13_bits_1 : List UInt8 := dkwX13_bits_1 ++ dktX13_bits_2
def dkwX13_bits_0 : List UInt8 := [42, 180, 0, 74, 182, 0, 166, 42, 180, 0, 74, 3, 182, 1, 6, 2, 62, 42, 180, 0, 110, 27]
abbrev dktX13_bits_0 : List UInt8 := dkwX13_bits_0 ++ dktX13_bits_1
theorem dksX13_bits_0 : cX13_bits.data.toList.drop 0 = dktX13_bits_0 := by decide +kernel
theorem dksX13_bits_1 : cX13_bits.data.toList.drop 22 = dktX13_bits_1 := dk_seg dksX13_bits_0 22 rfl rfl
theorem dksX13_bits_2 : cX13_bits.data.toList.drop 45 = dktX13_bits_2 := dk_seg dksX13_bits_1 23 rfl rfl
theorem dksX13_bits_3 : cX13_bits.data.toList.drop 68 = dktX13_bits_3 := dk_seg dksX13_bits_2 23 rfl rfl
theorem dksX13_bits_4 : cX13_bits.data.toList.drop 90 = dktX13_bits_4 := dk_seg dksX13_bits_3 22 rfl rfl
theorem dksX13_bits_5 : cX13_bits.data.toList.drop 114 = dktX13_bits_5 := dk_seg dksX13_bits_4 24 rfl rfl
theorem dksX13_bits_6 : cX13_bits.data.toList.drop 137 = dktX13_bits_6 := dk_seg dksX13_bits_5 23 rfl rfl
theorem dksX13_bits_7 : cX13_bits.data.toList.drop 159 = dktX13_bits_7 := dk_seg dksX13_bits_6 22 rfl rfl
theorem dksX13_bits_8 : cX13_bits.data.toList.drop 183 = dktX13_bits_8 := dk_seg dksX13_bits_7 24 rfl rfl
theorem dksX13_bits_9 : cX13_bits.data.toList.drop 207 = dktX13_bits_9 := dk_seg dksX13_bits_8 24 rfl rfl
theorem dksX13_bits_10 : cX13_bits.data.toList.drop 231 = dktX13_bits_10 := dk_seg dksX13_bits_9 24 rfl rfl
theorem dX13_bits_0 : decode cX13_bits 0 = .ok (.aload_n 0, 1) := dk_42 (dk_at dksX13_bits_0 0 rfl rfl)
theorem dX13_bits_1 : decode cX13_bits 1 = .ok (.getfield 74, 3) := dk_180 0 74 (dk_at dksX13_bits_0 1 rfl rfl)
theorem dX13_bits_4 : decode cX13_bits 4 = .ok (.invokevirtual 166, 3) := dk_182 0 166 (dk_at dksX13_bits_0 4 rfl rfl)
theorem dX13_bits_7 : decode cX13_bits 7 = .ok (.aload_n 0, 1) := dk_42 (dk_at dksX13_bits_0 7 rfl rfl)
theorem dX13_bits_8 : decode cX13_bits 8 = .ok (.getfield 74, 3) := dk_180 0 74 (dk_at dksX13_bits_0 8 rfl rfl)
theorem dX13_bits_11 : decode cX13_bits 11 = .ok (.iconst 0, 1) := dk_3 (dk_at dksX13_bits_0 11 rfl rfl)
theorem dX13_bits_12 : decode cX13_bits 12 = .ok (.invokevirtual 262, 3) := dk_182 1 6 (dk_at dksX13_bits_0 12 rfl rfl)
theorem dX13_bits_15 : decode cX13_bits 15 = .ok (.iconst (-1), 1) := dk_2 (dk_at dksX13_bits_0 15 rfl rfl)
theorem dX13_bits_16 : decode cX13_bits 16 = .ok (.istore_n 3, 1) := dk_62 (dk_at dksX13_bits_0 16 rfl rfl)
theorem dX13_bits_17 : decode cX13_bits 17 = .ok (.aload_n 0, 1) := dk_42 (dk_at dksX13_bits_0 17 rfl rfl)
theorem dX13_bits_18 : decode cX13_bits 18 = .ok (.getfield 110, 3) := dk_180 0 110 (dk_at dksX13_bits_0 18 rfl rfl)
theorem dX13_bits_21 : decode cX13_bits 21 = .ok (.iload_n 1, 1) := dk_27 (dk_at dksX13_bits_0 21 rfl rfl)
theorem dX13_bits_22 : decode cX13_bits 22 = .ok (.invokevirtual 205, 3) := dk_182 0 205 (dk_at dksX13_bits_1 0 rfl rfl)
theorem dX13_bits_25 : decode cX13_bits 25 = .ok (.ifCond .eq 14, 3) := dk_153 0 14 (dk_at dksX13_bits_1 3 rfl rfl)
theorem dX13_bits_28 : decode cX13_bits 28 = .ok (.aload_n 0, 1) := dk_42 (dk_at dksX13_bits_1 6 rfl rfl)
theorem dX13_bits_29 : decode cX13_bits 29 = .ok (.getfield 110, 3) := dk_180 0 110 (dk_at dksX13_bits_1 7 rfl rfl)
theorem dX13_bits_32 : decode cX13_bits 32 = .ok (.iload_n 1, 1) := dk_27 (dk_at dksX13_bits_1 10 rfl rfl)
theorem dX13_bits_33 : decode cX13_bits 33 = .ok (.invokevirtual 185, 3) := dk_182 0 185 (dk_at dksX13_bits_1 11 rfl rfl)
theorem dX13_bits_36 : decode cX13_bits 36 = .ok (.goto 6, 3) := dk_167 0 6 (dk_at dksX13_bits_1 14 rfl rfl)
theorem dX13_bits_39 : decode cX13_bits 39 = .ok (.iload_n 1, 1) := dk_27 (dk_at dksX13_bits_1 17 rfl rfl)
theorem dX13_bits_40 : decode cX13_bits 40 = .ok (.iconst 1, 1) := dk_4 (dk_at dksX13_bits_1 18 rfl rfl)
theorem dX13_bits_41 : decode cX13_bits 41 = .ok (.iadd, 1) := dk_96 (dk_at dksX13_bits_1 19 rfl rfl)
theorem dX13_bits_42 : decode cX13_bits 42 = .ok (.istore 4, 2) := dk_54 4 (dk_at dksX13_bits_1 20 rfl rfl)
theorem dX13_bits_44 : decode cX13_bits 44 = .ok (.aload_n 0, 1) := dk_42 (dk_at dksX13_bits_1 22 rfl rfl)
theorem dX13_bits_45 : decode cX13_bits 45 = .ok (.getfield 110, 3) := dk_180 0 110 (dk_at dksX13_bits_2 0 rfl rfl)
theorem dX13_bits_48 : decode cX13_bits 48 = .ok (.iload_n 1, 1) := dk_27 (dk_at dksX13_bits_2 3 rfl rfl)
theorem dX13_bits_49 : decode cX13_bits 49 = .ok (.invokevirtual 205, 3) := dk_182 0 205 (dk_at dksX13_bits_2 4 rfl rfl)
theorem dX13_bits_52 : decode cX13_bits 52 = .ok (.ifCond .eq 9, 3) := dk_153 0 9 (dk_at dksX13_bits_2 7 rfl rfl)
theorem dX13_bits_55 : decode cX13_bits 55 = .ok (.iload_n 1, 1) := dk_27 (dk_at dksX13_bits_2 10 rfl rfl)
theorem dX13_bits_56 : decode cX13_bits 56 = .ok (.iconst 1, 1) := dk_4 (dk_at dksX13_bits_2 11 rfl rfl)
theorem dX13_bits_57 : decode cX13_bits 57 = .ok (.iadd, 1) := dk_96 (dk_at dksX13_bits_2 12 rfl rfl)
theorem dX13_bits_58 : decode cX13_bits 58 = .ok (.goto 4, 3) := dk_167 0 4 (dk_at dksX13_bits_2 13 rfl rfl)
theorem dX13_bits_61 : decode cX13_bits 61 = .ok (.iload_n 1, 1) := dk_27 (dk_at dksX13_bits_2 16 rfl rfl)
theorem dX13_bits_62 : decode cX13_bits 62 = .ok (.istore 5, 2) := dk_54 5 (dk_at dksX13_bits_2 17 rfl rfl)
theorem dX13_bits_64 : decode cX13_bits 64 = .ok (.iload 5, 2) := dk_21 5 (dk_at dksX13_bits_2 19 rfl rfl)
theorem dX13_bits_66 : decode cX13_bits 66 = .ok (.iload 4, 2) := dk_21 4 (dk_at dksX13_bits_2 21 rfl rfl)
theorem dX13_bits_68 : decode cX13_bits 68 = .ok (.if_icmp .ge 94, 3) := dk_162 0 94 (dk_at dksX13_bits_3 0 rfl rfl)
theorem dX13_bits_71 : decode cX13_bits 71 = .ok (.aload_n 0, 1) := dk_42 (dk_at dksX13_bits_3 3 rfl rfl)
theorem dX13_bits_72 : decode cX13_bits 72 = .ok (.getfield 103, 3) := dk_180 0 103 (dk_at dksX13_bits_3 4 rfl rfl)
theorem dX13_bits_75 : decode cX13_bits 75 = .ok (.ifCond .ne 87, 3) := dk_154 0 87 (dk_at dksX13_bits_3 7 rfl rfl)
theorem dX13_bits_78 : decode cX13_bits 78 = .ok (.iload 5, 2) := dk_21 5 (dk_at dksX13_bits_3 10 rfl rfl)
theorem dX13_bits_80 : decode cX13_bits 80 = .ok (.iload_n 1, 1) := dk_27 (dk_at dksX13_bits_3 12 rfl rfl)
theorem dX13_bits_81 : decode cX13_bits 81 = .ok (.if_icmp .le 27, 3) := dk_164 0 27 (dk_at dksX13_bits_3 13 rfl rfl)
theorem dX13_bits_84 : decode cX13_bits 84 = .ok (.aload_n 0, 1) := dk_42 (dk_at dksX13_bits_3 16 rfl rfl)
theorem dX13_bits_85 : decode cX13_bits 85 = .ok (.getfield 110, 3) := dk_180 0 110 (dk_at dksX13_bits_3 17 rfl rfl)
theorem dX13_bits_88 : decode cX13_bits 88 = .ok (.iload 5, 2) := dk_21 5 (dk_at dksX13_bits_3 20 rfl rfl)
theorem dX13_bits_90 : decode cX13_bits 90 = .ok (.invokevirtual 172, 3) := dk_182 0 172 (dk_at dksX13_bits_4 0 rfl rfl)
theorem dX13_bits_93 : decode cX13_bits 93 = .ok (.iconst 3, 1) := dk_6 (dk_at dksX13_bits_4 3 rfl rfl)
theorem dX13_bits_94 : decode cX13_bits 94 = .ok (.if_icmp .eq 14, 3) := dk_159 0 14 (dk_at dksX13_bits_4 4 rfl rfl)
theorem dX13_bits_97 : decode cX13_bits 97 = .ok (.aload_n 0, 1) := dk_42 (dk_at dksX13_bits_4 7 rfl rfl)
theorem dX13_bits_98 : decode cX13_bits 98 = .ok (.bipush 16, 2) := dk_16 16 (dk_at dksX13_bits_4 8 rfl rfl)
theorem dX13_bits_100 : decode cX13_bits 100 = .ok (.iload_n 1, 1) := dk_27 (dk_at dksX13_bits_4 10 rfl rfl)
theorem dX13_bits_101 : decode cX13_bits 101 = .ok (.invokevirtual 177, 3) := dk_182 0 177 (dk_at dksX13_bits_4 11 rfl rfl)
theorem dX13_bits_104 : decode cX13_bits 104 = .ok (.pop, 1) := dk_87 (dk_at dksX13_bits_4 14 rfl rfl)
theorem dX13_bits_105 : decode cX13_bits 105 = .ok (.goto 51, 3) := dk_167 0 51 (dk_at dksX13_bits_4 15 rfl rfl)
theorem dX13_bits_108 : decode cX13_bits 108 = .ok (.aload_n 0, 1) := dk_42 (dk_at dksX13_bits_4 18 rfl rfl)
theorem dX13_bits_109 : decode cX13_bits 109 = .ok (.getfield 110, 3) := dk_180 0 110 (dk_at dksX13_bits_4 19 rfl rfl)
theorem dX13_bits_112 : decode cX13_bits 112 = .ok (.iload 5, 2) := dk_21 5 (dk_at dksX13_bits_4 22 rfl rfl)
theorem dX13_bits_114 : decode cX13_bits 114 = .ok (.invokevirtual 205, 3) := dk_182 0 205 (dk_at dksX13_bits_5 0 rfl rfl)
theorem dX13_bits_117 : decode cX13_bits 117 = .ok (.ifCond .ne 39, 3) := dk_154 0 39 (dk_at dksX13_bits_5 3 rfl rfl)
theorem dX13_bits_120 : decode cX13_bits 120 = .ok (.iload_n 3, 1) := dk_29 (dk_at dksX13_bits_5 6 rfl rfl)
theorem dX13_bits_121 : decode cX13_bits 121 = .ok (.iconst (-1), 1) := dk_2 (dk_at dksX13_bits_5 7 rfl rfl)
theorem dX13_bits_122 : decode cX13_bits 122 = .ok (.if_icmp .eq 14, 3) := dk_159 0 14 (dk_at dksX13_bits_5 8 rfl rfl)
theorem dX13_bits_125 : decode cX13_bits 125 = .ok (.aload_n 0, 1) := dk_42 (dk_at dksX13_bits_5 11 rfl rfl)
theorem dX13_bits_126 : decode cX13_bits 126 = .ok (.getfield 74, 3) := dk_180 0 74 (dk_at dksX13_bits_5 12 rfl rfl)
theorem dX13_bits_129 : decode cX13_bits 129 = .ok (.iconst 0, 1) := dk_3 (dk_at dksX13_bits_5 15 rfl rfl)
theorem dX13_bits_130 : decode cX13_bits 130 = .ok (.invokevirtual 260, 3) := dk_182 1 4 (dk_at dksX13_bits_5 16 rfl rfl)
theorem dX13_bits_133 : decode cX13_bits 133 = .ok (.ifCond .gt 12, 3) := dk_157 0 12 (dk_at dksX13_bits_5 19 rfl rfl)
theorem dX13_bits_136 : decode cX13_bits 136 = .ok (.aload_n 0, 1) := dk_42 (dk_at dksX13_bits_5 22 rfl rfl)
theorem dX13_bits_137 : decode cX13_bits 137 = .ok (.iload 5, 2) := dk_21 5 (dk_at dksX13_bits_6 0 rfl rfl)
theorem dX13_bits_139 : decode cX13_bits 139 = .ok (.invokevirtual 269, 3) := dk_182 1 13 (dk_at dksX13_bits_6 2 rfl rfl)
theorem dX13_bits_142 : decode cX13_bits 142 = .ok (.ifCond .ne 11, 3) := dk_154 0 11 (dk_at dksX13_bits_6 5 rfl rfl)
theorem dX13_bits_145 : decode cX13_bits 145 = .ok (.aload_n 0, 1) := dk_42 (dk_at dksX13_bits_6 8 rfl rfl)
theorem dX13_bits_146 : decode cX13_bits 146 = .ok (.bipush 16, 2) := dk_16 16 (dk_at dksX13_bits_6 9 rfl rfl)
theorem dX13_bits_148 : decode cX13_bits 148 = .ok (.iload_n 1, 1) := dk_27 (dk_at dksX13_bits_6 11 rfl rfl)
theorem dX13_bits_149 : decode cX13_bits 149 = .ok (.invokevirtual 177, 3) := dk_182 0 177 (dk_at dksX13_bits_6 12 rfl rfl)
theorem dX13_bits_152 : decode cX13_bits 152 = .ok (.pop, 1) := dk_87 (dk_at dksX13_bits_6 15 rfl rfl)
theorem dX13_bits_153 : decode cX13_bits 153 = .ok (.iload 5, 2) := dk_21 5 (dk_at dksX13_bits_6 16 rfl rfl)
theorem dX13_bits_155 : decode cX13_bits 155 = .ok (.istore_n 3, 1) := dk_62 (dk_at dksX13_bits_6 18 rfl rfl)
theorem dX13_bits_156 : decode cX13_bits 156 = .ok (.iinc 5 1, 3) := dk_132 5 1 (dk_at dksX13_bits_6 19 rfl rfl)
theorem dX13_bits_159 : decode cX13_bits 159 = .ok (.goto (-95), 3) := dk_167 255 161 (dk_at dksX13_bits_7 0 rfl rfl)
theorem dX13_bits_162 : decode cX13_bits 162 = .ok (.aload_n 0, 1) := dk_42 (dk_at dksX13_bits_7 3 rfl rfl)
theorem dX13_bits_163 : decode cX13_bits 163 = .ok (.getfield 103, 3) := dk_180 0 103 (dk_at dksX13_bits_7 4 rfl rfl)
theorem dX13_bits_166 : decode cX13_bits 166 = .ok (.ifCond .eq 4, 3) := dk_153 0 4 (dk_at dksX13_bits_7 7 rfl rfl)
theorem dX13_bits_169 : decode cX13_bits 169 = .ok (.return_, 1) := dk_177 (dk_at dksX13_bits_7 10 rfl rfl)
theorem dX13_bits_170 : decode cX13_bits 170 = .ok (.aload_n 0, 1) := dk_42 (dk_at dksX13_bits_7 11 rfl rfl)
theorem dX13_bits_171 : decode cX13_bits 171 = .ok (.getfield 99, 3) := dk_180 0 99 (dk_at dksX13_bits_7 12 rfl rfl)
theorem dX13_bits_174 : decode cX13_bits 174 = .ok (.iload_n 2, 1) := dk_28 (dk_at dksX13_bits_7 15 rfl rfl)
theorem dX13_bits_175 : decode cX13_bits 175 = .ok (.aload_n 0, 1) := dk_42 (dk_at dksX13_bits_7 16 rfl rfl)
theorem dX13_bits_176 : decode cX13_bits 176 = .ok (.getfield 99, 3) := dk_180 0 99 (dk_at dksX13_bits_7 17 rfl rfl)
theorem dX13_bits_179 : decode cX13_bits 179 = .ok (.iload_n 2, 1) := dk_28 (dk_at dksX13_bits_7 20 rfl rfl)
theorem dX13_bits_180 : decode cX13_bits 180 = .ok (.invokevirtual 140, 3) := dk_182 0 140 (dk_at dksX13_bits_7 21 rfl rfl)
theorem dX13_bits_183 : decode cX13_bits 183 = .ok (.aload_n 0, 1) := dk_42 (dk_at dksX13_bits_8 0 rfl rfl)
theorem dX13_bits_184 : decode cX13_bits 184 = .ok (.getfield 74, 3) := dk_180 0 74 (dk_at dksX13_bits_8 1 rfl rfl)
theorem dX13_bits_187 : decode cX13_bits 187 = .ok (.iconst 0, 1) := dk_3 (dk_at dksX13_bits_8 4 rfl rfl)
theorem dX13_bits_188 : decode cX13_bits 188 = .ok (.aload_n 0, 1) := dk_42 (dk_at dksX13_bits_8 5 rfl rfl)
theorem dX13_bits_189 : decode cX13_bits 189 = .ok (.getfield 74, 3) := dk_180 0 74 (dk_at dksX13_bits_8 6 rfl rfl)
theorem dX13_bits_192 : decode cX13_bits 192 = .ok (.invokevirtual 234, 3) := dk_182 0 234 (dk_at dksX13_bits_8 9 rfl rfl)
theorem dX13_bits_195 : decode cX13_bits 195 = .ok (.invokevirtual 272, 3) := dk_182 1 16 (dk_at dksX13_bits_8 12 rfl rfl)
theorem dX13_bits_198 : decode cX13_bits 198 = .ok (.istore 5, 2) := dk_54 5 (dk_at dksX13_bits_8 15 rfl rfl)
theorem dX13_bits_200 : decode cX13_bits 200 = .ok (.iload 5, 2) := dk_21 5 (dk_at dksX13_bits_8 17 rfl rfl)
theorem dX13_bits_202 : decode cX13_bits 202 = .ok (.iconst (-1), 1) := dk_2 (dk_at dksX13_bits_8 19 rfl rfl)
theorem dX13_bits_203 : decode cX13_bits 203 = .ok (.if_icmp .ne 14, 3) := dk_160 0 14 (dk_at dksX13_bits_8 20 rfl rfl)
theorem dX13_bits_206 : decode cX13_bits 206 = .ok (.aload_n 0, 1) := dk_42 (dk_at dksX13_bits_8 23 rfl rfl)
theorem dX13_bits_207 : decode cX13_bits 207 = .ok (.bipush 22, 2) := dk_16 22 (dk_at dksX13_bits_9 0 rfl rfl)
theorem dX13_bits_209 : decode cX13_bits 209 = .ok (.iload_n 1, 1) := dk_27 (dk_at dksX13_bits_9 2 rfl rfl)
theorem dX13_bits_210 : decode cX13_bits 210 = .ok (.invokevirtual 177, 3) := dk_182 0 177 (dk_at dksX13_bits_9 3 rfl rfl)
theorem dX13_bits_213 : decode cX13_bits 213 = .ok (.pop, 1) := dk_87 (dk_at dksX13_bits_9 6 rfl rfl)
theorem dX13_bits_214 : decode cX13_bits 214 = .ok (.goto 24, 3) := dk_167 0 24 (dk_at dksX13_bits_9 7 rfl rfl)
theorem dX13_bits_217 : decode cX13_bits 217 = .ok (.aload_n 0, 1) := dk_42 (dk_at dksX13_bits_9 10 rfl rfl)
theorem dX13_bits_218 : decode cX13_bits 218 = .ok (.getfield 74, 3) := dk_180 0 74 (dk_at dksX13_bits_9 11 rfl rfl)
theorem dX13_bits_221 : decode cX13_bits 221 = .ok (.iconst 0, 1) := dk_3 (dk_at dksX13_bits_9 14 rfl rfl)
theorem dX13_bits_222 : decode cX13_bits 222 = .ok (.aload_n 0, 1) := dk_42 (dk_at dksX13_bits_9 15 rfl rfl)
theorem dX13_bits_223 : decode cX13_bits 223 = .ok (.getfield 74, 3) := dk_180 0 74 (dk_at dksX13_bits_9 16 rfl rfl)
theorem dX13_bits_226 : decode cX13_bits 226 = .ok (.invokevirtual 234, 3) := dk_182 0 234 (dk_at dksX13_bits_9 19 rfl rfl)
theorem dX13_bits_229 : decode cX13_bits 229 = .ok (.iload 5, 2) := dk_21 5 (dk_at dksX13_bits_9 22 rfl rfl)
theorem dX13_bits_231 : decode cX13_bits 231 = .ok (.aload_n 0, 1) := dk_42 (dk_at dksX13_bits_10 0 rfl rfl)
theorem dX13_bits_232 : decode cX13_bits 232 = .ok (.getfield 70, 3) := dk_180 0 70 (dk_at dksX13_bits_10 1 rfl rfl)
theorem dX13_bits_235 : decode cX13_bits 235 = .ok (.invokestatic 276, 3) := dk_184 1 20 (dk_at dksX13_bits_10 4 rfl rfl)
theorem dX13_bits_238 : decode cX13_bits 238 = .ok (.return_, 1) := dk_177 (dk_at dksX13_bits_10 7 rfl rfl)
abbrev cX13_addBits : ByteArray := prog_8_method_23_code
def yX13_addBits : MethodName := ⟨RX13, "addBits", "(I)Z"⟩
def dkwX13_addBits_3 : List UInt8 := [42, 180, 0, 74, 42, 180, 0, 159, 28, 4, 96, 29, 182, 1, 9, 4, 172]
abbrev dktX13_addBits_3 : List UInt8 := dkwX13_addBits_3 ++ []
def dkwX13_addBits_2 : List UInt8 := [28, 100, 4, 160, 0, 5, 3, 172, 42, 180, 0, 74, 3, 42, 180, 0, 159, 28, 182, 1, 4, 182, 1, 24]
abbrev dktX13_addBits_2 : List UInt8 := dkwX13_addBits_2 ++ dktX13_addBits_3
def dkwX13_addBits_1 : List UInt8 := [180, 0, 159, 28, 182, 1, 4, 16, 7, 163, 0, 21, 42, 180, 0, 159, 28, 182, 1, 4, 158, 0, 12, 29]
abbrev dktX13_addBits_1 : List UInt8 := dkwX13_addBits_1 ++ dktX13_addBits_2
def dkwX13_addBits_0 : List UInt8 := [42, 180, 0, 110, 27, 182, 0, 245, 61, 42, 180, 0, 110, 27, 182, 0, 247, 62, 28, 29, 159, 0, 34, 42]
abbrev dktX13_addBits_0 : List UInt8 := dkwX13_addBits_0 ++ dktX13_addBits_1
theorem dksX13_addBits_0 : cX13_addBits.data.toList.drop 0 = dktX13_addBits_0 := by decide +kernel
theorem dksX13_addBits_1 : cX13_addBits.data.toList.drop 24 = dktX13_addBits_1 := dk_seg dksX13_addBits_0 24 rfl rfl
theorem dksX13_addBits_2 : cX13_addBits.data.toList.drop 48 = dktX13_addBits_2 := dk_seg dksX13_addBits_1 24 rfl rfl
theorem dksX13_addBits_3 : cX13_addBits.data.toList.drop 72 = dktX13_addBits_3 := dk_seg dksX13_addBits_2 24 rfl rfl
theorem dX13_addBits_0 : decode cX13_addBits 0 = .ok (.aload_n 0, 1) := dk_42 (dk_at dksX13_addBits_0 0 rfl rfl)
theorem dX13_addBits_1 : decode cX13_addBits 1 = .ok (.getfield 110, 3) := dk_180 0 110 (dk_at dksX13_addBits_0 1 rfl rfl)
theorem dX13_addBits_4 : decode cX13_addBits 4 = .ok (.iload_n 1, 1) := dk_27 (dk_at dksX13_addBits_0 4 rfl rfl)
theorem dX13_addBits_5 : decode cX13_addBits 5 = .ok (.invokevirtual 245, 3) := dk_182 0 245 (dk_at dksX13_addBits_0 5 rfl rfl)
theorem dX13_addBits_8 : decode cX13_addBits 8 = .ok (.istore_n 2, 1) := dk_61 (dk_at dksX13_addBits_0 8 rfl rfl)
theorem dX13_addBits_9 : decode cX13_addBits 9 = .ok (.aload_n 0, 1) := dk_42 (dk_at dksX13_addBits_0 9 rfl rfl)
theorem dX13_addBits_10 : decode cX13_addBits 10 = .ok (.getfield 110, 3) := dk_180 0 110 (dk_at dksX13_addBits_0 10 rfl rfl)
theorem dX13_addBits_13 : decode cX13_addBits 13 = .ok (.iload_n 1, 1) := dk_27 (dk_at dksX13_addBits_0 13 rfl rfl)
theorem dX13_addBits_14 : decode cX13_addBits 14 = .ok (.invokevirtual 247, 3) := dk_182 0 247 (dk_at dksX13_addBits_0 14 rfl rfl)
theorem dX13_addBits_17 : decode cX13_addBits 17 = .ok (.istore_n 3, 1) := dk_62 (dk_at dksX13_addBits_0 17 rfl rfl)
theorem dX13_addBits_18 : decode cX13_addBits 18 = .ok (.iload_n 2, 1) := dk_28 (dk_at dksX13_addBits_0 18 rfl rfl)
theorem dX13_addBits_19 : decode cX13_addBits 19 = .ok (.iload_n 3, 1) := dk_29 (dk_at dksX13_addBits_0 19 rfl rfl)
theorem dX13_addBits_20 : decode cX13_addBits 20 = .ok (.if_icmp .eq 34, 3) := dk_159 0 34 (dk_at dksX13_addBits_0 20 rfl rfl)
theorem dX13_addBits_23 : decode cX13_addBits 23 = .ok (.aload_n 0, 1) := dk_42 (dk_at dksX13_addBits_0 23 rfl rfl)
theorem dX13_addBits_24 : decode cX13_addBits 24 = .ok (.getfield 159, 3) := dk_180 0 159 (dk_at dksX13_addBits_1 0 rfl rfl)
theorem dX13_addBits_27 : decode cX13_addBits 27 = .ok (.iload_n 2, 1) := dk_28 (dk_at dksX13_addBits_1 3 rfl rfl)
theorem dX13_addBits_28 : decode cX13_addBits 28 = .ok (.invokevirtual 260, 3) := dk_182 1 4 (dk_at dksX13_addBits_1 4 rfl rfl)
theorem dX13_addBits_31 : decode cX13_addBits 31 = .ok (.bipush 7, 2) := dk_16 7 (dk_at dksX13_addBits_1 7 rfl rfl)
theorem dX13_addBits_33 : decode cX13_addBits 33 = .ok (.if_icmp .gt 21, 3) := dk_163 0 21 (dk_at dksX13_addBits_1 9 rfl rfl)
theorem dX13_addBits_36 : decode cX13_addBits 36 = .ok (.aload_n 0, 1) := dk_42 (dk_at dksX13_addBits_1 12 rfl rfl)
theorem dX13_addBits_37 : decode cX13_addBits 37 = .ok (.getfield 159, 3) := dk_180 0 159 (dk_at dksX13_addBits_1 13 rfl rfl)
theorem dX13_addBits_40 : decode cX13_addBits 40 = .ok (.iload_n 2, 1) := dk_28 (dk_at dksX13_addBits_1 16 rfl rfl)
theorem dX13_addBits_41 : decode cX13_addBits 41 = .ok (.invokevirtual 260, 3) := dk_182 1 4 (dk_at dksX13_addBits_1 17 rfl rfl)
theorem dX13_addBits_44 : decode cX13_addBits 44 = .ok (.ifCond .le 12, 3) := dk_158 0 12 (dk_at dksX13_addBits_1 20 rfl rfl)
theorem dX13_addBits_47 : decode cX13_addBits 47 = .ok (.iload_n 3, 1) := dk_29 (dk_at dksX13_addBits_1 23 rfl rfl)
theorem dX13_addBits_48 : decode cX13_addBits 48 = .ok (.iload_n 2, 1) := dk_28 (dk_at dksX13_addBits_2 0 rfl rfl)
theorem dX13_addBits_49 : decode cX13_addBits 49 = .ok (.isub, 1) := dk_100 (dk_at dksX13_addBits_2 1 rfl rfl)
theorem dX13_addBits_50 : decode cX13_addBits 50 = .ok (.iconst 1, 1) := dk_4 (dk_at dksX13_addBits_2 2 rfl rfl)
theorem dX13_addBits_51 : decode cX13_addBits 51 = .ok (.if_icmp .ne 5, 3) := dk_160 0 5 (dk_at dksX13_addBits_2 3 rfl rfl)
theorem dX13_addBits_54 : decode cX13_addBits 54 = .ok (.iconst 0, 1) := dk_3 (dk_at dksX13_addBits_2 6 rfl rfl)
theorem dX13_addBits_55 : decode cX13_addBits 55 = .ok (.ireturn, 1) := dk_172 (dk_at dksX13_addBits_2 7 rfl rfl)
theorem dX13_addBits_56 : decode cX13_addBits 56 = .ok (.aload_n 0, 1) := dk_42 (dk_at dksX13_addBits_2 8 rfl rfl)
theorem dX13_addBits_57 : decode cX13_addBits 57 = .ok (.getfield 74, 3) := dk_180 0 74 (dk_at dksX13_addBits_2 9 rfl rfl)
theorem dX13_addBits_60 : decode cX13_addBits 60 = .ok (.iconst 0, 1) := dk_3 (dk_at dksX13_addBits_2 12 rfl rfl)
theorem dX13_addBits_61 : decode cX13_addBits 61 = .ok (.aload_n 0, 1) := dk_42 (dk_at dksX13_addBits_2 13 rfl rfl)
theorem dX13_addBits_62 : decode cX13_addBits 62 = .ok (.getfield 159, 3) := dk_180 0 159 (dk_at dksX13_addBits_2 14 rfl rfl)
theorem dX13_addBits_65 : decode cX13_addBits 65 = .ok (.iload_n 2, 1) := dk_28 (dk_at dksX13_addBits_2 17 rfl rfl)
theorem dX13_addBits_66 : decode cX13_addBits 66 = .ok (.invokevirtual 260, 3) := dk_182 1 4 (dk_at dksX13_addBits_2 18 rfl rfl)
theorem dX13_addBits_69 : decode cX13_addBits 69 = .ok (.invokevirtual 280, 3) := dk_182 1 24 (dk_at dksX13_addBits_2 21 rfl rfl)
theorem dX13_addBits_72 : decode cX13_addBits 72 = .ok (.aload_n 0, 1) := dk_42 (dk_at dksX13_addBits_3 0 rfl rfl)
theorem dX13_addBits_73 : decode cX13_addBits 73 = .ok (.getfield 74, 3) := dk_180 0 74 (dk_at dksX13_addBits_3 1 rfl rfl)
theorem dX13_addBits_76 : decode cX13_addBits 76 = .ok (.aload_n 0, 1) := dk_42 (dk_at dksX13_addBits_3 4 rfl rfl)
theorem dX13_addBits_77 : decode cX13_addBits 77 = .ok (.getfield 159, 3) := dk_180 0 159 (dk_at dksX13_addBits_3 5 rfl rfl)
theorem dX13_addBits_80 : decode cX13_addBits 80 = .ok (.iload_n 2, 1) := dk_28 (dk_at dksX13_addBits_3 8 rfl rfl)
theorem dX13_addBits_81 : decode cX13_addBits 81 = .ok (.iconst 1, 1) := dk_4 (dk_at dksX13_addBits_3 9 rfl rfl)
theorem dX13_addBits_82 : decode cX13_addBits 82 = .ok (.iadd, 1) := dk_96 (dk_at dksX13_addBits_3 10 rfl rfl)
theorem dX13_addBits_83 : decode cX13_addBits 83 = .ok (.iload_n 3, 1) := dk_29 (dk_at dksX13_addBits_3 11 rfl rfl)
theorem dX13_addBits_84 : decode cX13_addBits 84 = .ok (.invokevirtual 265, 3) := dk_182 1 9 (dk_at dksX13_addBits_3 12 rfl rfl)
theorem dX13_addBits_87 : decode cX13_addBits 87 = .ok (.iconst 1, 1) := dk_4 (dk_at dksX13_addBits_3 15 rfl rfl)
theorem dX13_addBits_88 : decode cX13_addBits 88 = .ok (.ireturn, 1) := dk_172 (dk_at dksX13_addBits_3 16 rfl rfl)
abbrev cX13_string : ByteArray := prog_8_method_24_code
def yX13_string : MethodName := ⟨RX13, "string", "(III)V"⟩
def dkwX13_string_11 : List UInt8 := [87, 167, 0, 16, 42, 180, 0, 70, 25, 4, 21, 5, 21, 6, 182, 1, 9, 177]
abbrev dktX13_string_11 : List UInt8 := dkwX13_string_11 ++ []
def dkwX13_string_10 : List UInt8 := [180, 0, 99, 29, 42, 180, 0, 17, 182, 1, 34, 182, 0, 231, 154, 0, 14, 42, 16, 22, 27, 182, 0, 177]
abbrev dktX13_string_10 : List UInt8 := dkwX13_string_10 ++ dktX13_string_11
def dkwX13_string_9 : List UInt8 := [25, 4, 21, 5, 21, 6, 182, 1, 31, 154, 0, 14, 42, 16, 17, 27, 182, 0, 177, 87, 167, 0, 45, 42]
abbrev dktX13_string_9 : List UInt8 := dkwX13_string_9 ++ dktX13_string_10
def dkwX13_string_8 : List UInt8 := [54, 7, 21, 7, 153, 0, 11, 42, 21, 7, 27, 182, 0, 177, 87, 167, 0, 73, 42, 180, 0, 17, 28]
abbrev dktX13_string_8 : List UInt8 := dkwX13_string_8 ++ dktX13_string_9
def dkwX13_string_7 : List UInt8 := [25, 4, 21, 5, 21, 6, 28, 16, 11, 160, 0, 7, 4, 167, 0, 4, 3, 42, 180, 0, 70, 182, 1, 27]
abbrev dktX13_string_7 : List UInt8 := dkwX13_string_7 ++ dktX13_string_8
def dkwX13_string_6 : List UInt8 := [180, 0, 74, 182, 0, 234, 54, 6, 28, 16, 10, 159, 0, 9, 28, 16, 11, 160, 0, 49, 42, 180, 0, 26]
abbrev dktX13_string_6 : List UInt8 := dkwX13_string_6 ++ dktX13_string_7
def dkwX13_string_5 : List UInt8 := [21, 7, 182, 0, 247, 182, 1, 9, 132, 7, 1, 167, 255, 177, 42, 180, 0, 74, 58, 4, 3, 54, 5, 42]
abbrev dktX13_string_5 : List UInt8 := dkwX13_string_5 ++ dktX13_string_6
def dkwX13_string_4 : List UInt8 := [154, 0, 32, 42, 180, 0, 74, 42, 180, 0, 159, 42, 180, 0, 110, 21, 7, 182, 0, 245, 42, 180, 0, 110]
abbrev dktX13_string_4 : List UInt8 := dkwX13_string_4 ++ dktX13_string_5
def dkwX13_string_3 : List UInt8 := [7, 159, 0, 12, 42, 16, 16, 27, 182, 0, 177, 87, 177, 42, 180, 0, 110, 21, 7, 182, 0, 205]
abbrev dktX13_string_3 : List UInt8 := dkwX13_string_3 ++ dktX13_string_4
def dkwX13_string_2 : List UInt8 := [54, 7, 21, 7, 42, 180, 0, 110, 27, 182, 0, 185, 162, 0, 72, 42, 180, 0, 110, 21, 7, 182, 0, 172]
abbrev dktX13_string_2 : List UInt8 := dkwX13_string_2 ++ dktX13_string_3
def dkwX13_string_1 : List UInt8 := [54, 6, 42, 180, 0, 110, 27, 182, 0, 205, 153, 0, 115, 42, 180, 0, 74, 182, 0, 166, 27, 4, 96]
abbrev dktX13_string_1 : List UInt8 := dkwX13_string_1 ++ dktX13_string_2
def dkwX13_string_0 : List UInt8 := [42, 180, 0, 159, 58, 4, 42, 180, 0, 110, 27, 182, 0, 245, 54, 5, 42, 180, 0, 110, 27, 182, 0, 247]
abbrev dktX13_string_0 : List UInt8 := dkwX13_string_0 ++ dktX13_string_1
theorem dksX13_string_0 : cX13_string.data.toList.drop 0 = dktX13_string_0 := by decide +kernel
theorem dksX13_string_1 : cX13_string.data.toList.drop 24 = dktX13_string_1 := dk_seg dksX13_string_0 24 rfl rfl
theorem dksX13_string_2 : cX13_string.data.toList.drop 47 = dktX13_string_2 := dk_seg dksX13_string_1 23 rfl rfl
theorem dksX13_string_3 : cX13_string.data.toList.drop 71 = dktX13_string_3 := dk_seg dksX13_string_2 24 rfl rfl
theorem dksX13_string_4 : cX13_string.data.toList.drop 93 = dktX13_string_4 := dk_seg dksX13_string_3 22 rfl rfl
theorem dksX13_string_5 : cX13_string.data.toList.drop 117 = dktX13_string_5 := dk_seg dksX13_string_4 24 rfl rfl
theorem dksX13_string_6 : cX13_string.data.toList.drop 141 = dktX13_string_6 := dk_seg dksX13_string_5 24 rfl rfl
theorem dksX13_string_7 : cX13_string.data.toList.drop 165 = dktX13_string_7 := dk_seg dksX13_string_6 24 rfl rfl
theorem dksX13_string_8 : cX13_string.data.toList.drop 189 = dktX13_string_8 := dk_seg dksX13_string_7 24 rfl rfl
theorem dksX13_string_9 : cX13_string.data.toList.drop 212 = dktX13_string_9 := dk_seg dksX13_string_8 23 rfl rfl
theorem dksX13_string_10 : cX13_string.data.toList.drop 236 = dktX13_string_10 := dk_seg dksX13_string_9 24 rfl rfl
theorem dksX13_string_11 : cX13_string.data.toList.drop 260 = dktX13_string_11 := dk_seg dksX13_string_10 24 rfl rfl
theorem dX13_string_0 : decode cX13_string 0 = .ok (.aload_n 0, 1) := dk_42 (dk_at dksX13_string_0 0 rfl rfl)
theorem dX13_string_1 : decode cX13_string 1 = .ok (.getfield 159, 3) := dk_180 0 159 (dk_at dksX13_string_0 1 rfl rfl)
theorem dX13_string_4 : decode cX13_string 4 = .ok (.astore 4, 2) := dk_58 4 (dk_at dksX13_string_0 4 rfl rfl)
theorem dX13_string_6 : decode cX13_string 6 = .ok (.aload_n 0, 1) := dk_42 (dk_at dksX13_string_0 6 rfl rfl)
theorem dX13_string_7 : decode cX13_string 7 = .ok (.getfield 110, 3) := dk_180 0 110 (dk_at dksX13_string_0 7 rfl rfl)
theorem dX13_string_10 : decode cX13_string 10 = .ok (.iload_n 1, 1) := dk_27 (dk_at dksX13_string_0 10 rfl rfl)
theorem dX13_string_11 : decode cX13_string 11 = .ok (.invokevirtual 245, 3) := dk_182 0 245 (dk_at dksX13_string_0 11 rfl rfl)
theorem dX13_string_14 : decode cX13_string 14 = .ok (.istore 5, 2) := dk_54 5 (dk_at dksX13_string_0 14 rfl rfl)
theorem dX13_string_16 : decode cX13_string 16 = .ok (.aload_n 0, 1) := dk_42 (dk_at dksX13_string_0 16 rfl rfl)
theorem dX13_string_17 : decode cX13_string 17 = .ok (.getfield 110, 3) := dk_180 0 110 (dk_at dksX13_string_0 17 rfl rfl)
theorem dX13_string_20 : decode cX13_string 20 = .ok (.iload_n 1, 1) := dk_27 (dk_at dksX13_string_0 20 rfl rfl)
theorem dX13_string_21 : decode cX13_string 21 = .ok (.invokevirtual 247, 3) := dk_182 0 247 (dk_at dksX13_string_0 21 rfl rfl)
theorem dX13_string_24 : decode cX13_string 24 = .ok (.istore 6, 2) := dk_54 6 (dk_at dksX13_string_1 0 rfl rfl)
theorem dX13_string_26 : decode cX13_string 26 = .ok (.aload_n 0, 1) := dk_42 (dk_at dksX13_string_1 2 rfl rfl)
theorem dX13_string_27 : decode cX13_string 27 = .ok (.getfield 110, 3) := dk_180 0 110 (dk_at dksX13_string_1 3 rfl rfl)
theorem dX13_string_30 : decode cX13_string 30 = .ok (.iload_n 1, 1) := dk_27 (dk_at dksX13_string_1 6 rfl rfl)
theorem dX13_string_31 : decode cX13_string 31 = .ok (.invokevirtual 205, 3) := dk_182 0 205 (dk_at dksX13_string_1 7 rfl rfl)
theorem dX13_string_34 : decode cX13_string 34 = .ok (.ifCond .eq 115, 3) := dk_153 0 115 (dk_at dksX13_string_1 10 rfl rfl)
theorem dX13_string_37 : decode cX13_string 37 = .ok (.aload_n 0, 1) := dk_42 (dk_at dksX13_string_1 13 rfl rfl)
theorem dX13_string_38 : decode cX13_string 38 = .ok (.getfield 74, 3) := dk_180 0 74 (dk_at dksX13_string_1 14 rfl rfl)
theorem dX13_string_41 : decode cX13_string 41 = .ok (.invokevirtual 166, 3) := dk_182 0 166 (dk_at dksX13_string_1 17 rfl rfl)
theorem dX13_string_44 : decode cX13_string 44 = .ok (.iload_n 1, 1) := dk_27 (dk_at dksX13_string_1 20 rfl rfl)
theorem dX13_string_45 : decode cX13_string 45 = .ok (.iconst 1, 1) := dk_4 (dk_at dksX13_string_1 21 rfl rfl)
theorem dX13_string_46 : decode cX13_string 46 = .ok (.iadd, 1) := dk_96 (dk_at dksX13_string_1 22 rfl rfl)
theorem dX13_string_47 : decode cX13_string 47 = .ok (.istore 7, 2) := dk_54 7 (dk_at dksX13_string_2 0 rfl rfl)
theorem dX13_string_49 : decode cX13_string 49 = .ok (.iload 7, 2) := dk_21 7 (dk_at dksX13_string_2 2 rfl rfl)
theorem dX13_string_51 : decode cX13_string 51 = .ok (.aload_n 0, 1) := dk_42 (dk_at dksX13_string_2 4 rfl rfl)
theorem dX13_string_52 : decode cX13_string 52 = .ok (.getfield 110, 3) := dk_180 0 110 (dk_at dksX13_string_2 5 rfl rfl)
theorem dX13_string_55 : decode cX13_string 55 = .ok (.iload_n 1, 1) := dk_27 (dk_at dksX13_string_2 8 rfl rfl)
theorem dX13_string_56 : decode cX13_string 56 = .ok (.invokevirtual 185, 3) := dk_182 0 185 (dk_at dksX13_string_2 9 rfl rfl)
theorem dX13_string_59 : decode cX13_string 59 = .ok (.if_icmp .ge 72, 3) := dk_162 0 72 (dk_at dksX13_string_2 12 rfl rfl)
theorem dX13_string_62 : decode cX13_string 62 = .ok (.aload_n 0, 1) := dk_42 (dk_at dksX13_string_2 15 rfl rfl)
theorem dX13_string_63 : decode cX13_string 63 = .ok (.getfield 110, 3) := dk_180 0 110 (dk_at dksX13_string_2 16 rfl rfl)
theorem dX13_string_66 : decode cX13_string 66 = .ok (.iload 7, 2) := dk_21 7 (dk_at dksX13_string_2 19 rfl rfl)
theorem dX13_string_68 : decode cX13_string 68 = .ok (.invokevirtual 172, 3) := dk_182 0 172 (dk_at dksX13_string_2 21 rfl rfl)
theorem dX13_string_71 : decode cX13_string 71 = .ok (.iconst 4, 1) := dk_7 (dk_at dksX13_string_3 0 rfl rfl)
theorem dX13_string_72 : decode cX13_string 72 = .ok (.if_icmp .eq 12, 3) := dk_159 0 12 (dk_at dksX13_string_3 1 rfl rfl)
theorem dX13_string_75 : decode cX13_string 75 = .ok (.aload_n 0, 1) := dk_42 (dk_at dksX13_string_3 4 rfl rfl)
theorem dX13_string_76 : decode cX13_string 76 = .ok (.bipush 16, 2) := dk_16 16 (dk_at dksX13_string_3 5 rfl rfl)
theorem dX13_string_78 : decode cX13_string 78 = .ok (.iload_n 1, 1) := dk_27 (dk_at dksX13_string_3 7 rfl rfl)
theorem dX13_string_79 : decode cX13_string 79 = .ok (.invokevirtual 177, 3) := dk_182 0 177 (dk_at dksX13_string_3 8 rfl rfl)
theorem dX13_string_82 : decode cX13_string 82 = .ok (.pop, 1) := dk_87 (dk_at dksX13_string_3 11 rfl rfl)
theorem dX13_string_83 : decode cX13_string 83 = .ok (.return_, 1) := dk_177 (dk_at dksX13_string_3 12 rfl rfl)
theorem dX13_string_84 : decode cX13_string 84 = .ok (.aload_n 0, 1) := dk_42 (dk_at dksX13_string_3 13 rfl rfl)
theorem dX13_string_85 : decode cX13_string 85 = .ok (.getfield 110, 3) := dk_180 0 110 (dk_at dksX13_string_3 14 rfl rfl)
theorem dX13_string_88 : decode cX13_string 88 = .ok (.iload 7, 2) := dk_21 7 (dk_at dksX13_string_3 17 rfl rfl)
theorem dX13_string_90 : decode cX13_string 90 = .ok (.invokevirtual 205, 3) := dk_182 0 205 (dk_at dksX13_string_3 19 rfl rfl)
theorem dX13_string_93 : decode cX13_string 93 = .ok (.ifCond .ne 32, 3) := dk_154 0 32 (dk_at dksX13_string_4 0 rfl rfl)
theorem dX13_string_96 : decode cX13_string 96 = .ok (.aload_n 0, 1) := dk_42 (dk_at dksX13_string_4 3 rfl rfl)
theorem dX13_string_97 : decode cX13_string 97 = .ok (.getfield 74, 3) := dk_180 0 74 (dk_at dksX13_string_4 4 rfl rfl)
theorem dX13_string_100 : decode cX13_string 100 = .ok (.aload_n 0, 1) := dk_42 (dk_at dksX13_string_4 7 rfl rfl)
theorem dX13_string_101 : decode cX13_string 101 = .ok (.getfield 159, 3) := dk_180 0 159 (dk_at dksX13_string_4 8 rfl rfl)
theorem dX13_string_104 : decode cX13_string 104 = .ok (.aload_n 0, 1) := dk_42 (dk_at dksX13_string_4 11 rfl rfl)
theorem dX13_string_105 : decode cX13_string 105 = .ok (.getfield 110, 3) := dk_180 0 110 (dk_at dksX13_string_4 12 rfl rfl)
theorem dX13_string_108 : decode cX13_string 108 = .ok (.iload 7, 2) := dk_21 7 (dk_at dksX13_string_4 15 rfl rfl)
theorem dX13_string_110 : decode cX13_string 110 = .ok (.invokevirtual 245, 3) := dk_182 0 245 (dk_at dksX13_string_4 17 rfl rfl)
theorem dX13_string_113 : decode cX13_string 113 = .ok (.aload_n 0, 1) := dk_42 (dk_at dksX13_string_4 20 rfl rfl)
theorem dX13_string_114 : decode cX13_string 114 = .ok (.getfield 110, 3) := dk_180 0 110 (dk_at dksX13_string_4 21 rfl rfl)
theorem dX13_string_117 : decode cX13_string 117 = .ok (.iload 7, 2) := dk_21 7 (dk_at dksX13_string_5 0 rfl rfl)
theorem dX13_string_119 : decode cX13_string 119 = .ok (.invokevirtual 247, 3) := dk_182 0 247 (dk_at dksX13_string_5 2 rfl rfl)
theorem dX13_string_122 : decode cX13_string 122 = .ok (.invokevirtual 265, 3) := dk_182 1 9 (dk_at dksX13_string_5 5 rfl rfl)
theorem dX13_string_125 : decode cX13_string 125 = .ok (.iinc 7 1, 3) := dk_132 7 1 (dk_at dksX13_string_5 8 rfl rfl)
theorem dX13_string_128 : decode cX13_string 128 = .ok (.goto (-79), 3) := dk_167 255 177 (dk_at dksX13_string_5 11 rfl rfl)
theorem dX13_string_131 : decode cX13_string 131 = .ok (.aload_n 0, 1) := dk_42 (dk_at dksX13_string_5 14 rfl rfl)
theorem dX13_string_132 : decode cX13_string 132 = .ok (.getfield 74, 3) := dk_180 0 74 (dk_at dksX13_string_5 15 rfl rfl)
theorem dX13_string_135 : decode cX13_string 135 = .ok (.astore 4, 2) := dk_58 4 (dk_at dksX13_string_5 18 rfl rfl)
theorem dX13_string_137 : decode cX13_string 137 = .ok (.iconst 0, 1) := dk_3 (dk_at dksX13_string_5 20 rfl rfl)
theorem dX13_string_138 : decode cX13_string 138 = .ok (.istore 5, 2) := dk_54 5 (dk_at dksX13_string_5 21 rfl rfl)
theorem dX13_string_140 : decode cX13_string 140 = .ok (.aload_n 0, 1) := dk_42 (dk_at dksX13_string_5 23 rfl rfl)
theorem dX13_string_141 : decode cX13_string 141 = .ok (.getfield 74, 3) := dk_180 0 74 (dk_at dksX13_string_6 0 rfl rfl)
theorem dX13_string_144 : decode cX13_string 144 = .ok (.invokevirtual 234, 3) := dk_182 0 234 (dk_at dksX13_string_6 3 rfl rfl)
theorem dX13_string_147 : decode cX13_string 147 = .ok (.istore 6, 2) := dk_54 6 (dk_at dksX13_string_6 6 rfl rfl)
theorem dX13_string_149 : decode cX13_string 149 = .ok (.iload_n 2, 1) := dk_28 (dk_at dksX13_string_6 8 rfl rfl)
theorem dX13_string_150 : decode cX13_string 150 = .ok (.bipush 10, 2) := dk_16 10 (dk_at dksX13_string_6 9 rfl rfl)
theorem dX13_string_152 : decode cX13_string 152 = .ok (.if_icmp .eq 9, 3) := dk_159 0 9 (dk_at dksX13_string_6 11 rfl rfl)
theorem dX13_string_155 : decode cX13_string 155 = .ok (.iload_n 2, 1) := dk_28 (dk_at dksX13_string_6 14 rfl rfl)
theorem dX13_string_156 : decode cX13_string 156 = .ok (.bipush 11, 2) := dk_16 11 (dk_at dksX13_string_6 15 rfl rfl)
theorem dX13_string_158 : decode cX13_string 158 = .ok (.if_icmp .ne 49, 3) := dk_160 0 49 (dk_at dksX13_string_6 17 rfl rfl)
theorem dX13_string_161 : decode cX13_string 161 = .ok (.aload_n 0, 1) := dk_42 (dk_at dksX13_string_6 20 rfl rfl)
theorem dX13_string_162 : decode cX13_string 162 = .ok (.getfield 26, 3) := dk_180 0 26 (dk_at dksX13_string_6 21 rfl rfl)
theorem dX13_string_165 : decode cX13_string 165 = .ok (.aload 4, 2) := dk_25 4 (dk_at dksX13_string_7 0 rfl rfl)
theorem dX13_string_167 : decode cX13_string 167 = .ok (.iload 5, 2) := dk_21 5 (dk_at dksX13_string_7 2 rfl rfl)
theorem dX13_string_169 : decode cX13_string 169 = .ok (.iload 6, 2) := dk_21 6 (dk_at dksX13_string_7 4 rfl rfl)
theorem dX13_string_171 : decode cX13_string 171 = .ok (.iload_n 2, 1) := dk_28 (dk_at dksX13_string_7 6 rfl rfl)
theorem dX13_string_172 : decode cX13_string 172 = .ok (.bipush 11, 2) := dk_16 11 (dk_at dksX13_string_7 7 rfl rfl)
theorem dX13_string_174 : decode cX13_string 174 = .ok (.if_icmp .ne 7, 3) := dk_160 0 7 (dk_at dksX13_string_7 9 rfl rfl)
theorem dX13_string_177 : decode cX13_string 177 = .ok (.iconst 1, 1) := dk_4 (dk_at dksX13_string_7 12 rfl rfl)
theorem dX13_string_178 : decode cX13_string 178 = .ok (.goto 4, 3) := dk_167 0 4 (dk_at dksX13_string_7 13 rfl rfl)
theorem dX13_string_181 : decode cX13_string 181 = .ok (.iconst 0, 1) := dk_3 (dk_at dksX13_string_7 16 rfl rfl)
theorem dX13_string_182 : decode cX13_string 182 = .ok (.aload_n 0, 1) := dk_42 (dk_at dksX13_string_7 17 rfl rfl)
theorem dX13_string_183 : decode cX13_string 183 = .ok (.getfield 70, 3) := dk_180 0 70 (dk_at dksX13_string_7 18 rfl rfl)
theorem dX13_string_186 : decode cX13_string 186 = .ok (.invokevirtual 283, 3) := dk_182 1 27 (dk_at dksX13_string_7 21 rfl rfl)
theorem dX13_string_189 : decode cX13_string 189 = .ok (.istore 7, 2) := dk_54 7 (dk_at dksX13_string_8 0 rfl rfl)
theorem dX13_string_191 : decode cX13_string 191 = .ok (.iload 7, 2) := dk_21 7 (dk_at dksX13_string_8 2 rfl rfl)
theorem dX13_string_193 : decode cX13_string 193 = .ok (.ifCond .eq 11, 3) := dk_153 0 11 (dk_at dksX13_string_8 4 rfl rfl)
theorem dX13_string_196 : decode cX13_string 196 = .ok (.aload_n 0, 1) := dk_42 (dk_at dksX13_string_8 7 rfl rfl)
theorem dX13_string_197 : decode cX13_string 197 = .ok (.iload 7, 2) := dk_21 7 (dk_at dksX13_string_8 8 rfl rfl)
theorem dX13_string_199 : decode cX13_string 199 = .ok (.iload_n 1, 1) := dk_27 (dk_at dksX13_string_8 10 rfl rfl)
theorem dX13_string_200 : decode cX13_string 200 = .ok (.invokevirtual 177, 3) := dk_182 0 177 (dk_at dksX13_string_8 11 rfl rfl)
theorem dX13_string_203 : decode cX13_string 203 = .ok (.pop, 1) := dk_87 (dk_at dksX13_string_8 14 rfl rfl)
theorem dX13_string_204 : decode cX13_string 204 = .ok (.goto 73, 3) := dk_167 0 73 (dk_at dksX13_string_8 15 rfl rfl)
theorem dX13_string_207 : decode cX13_string 207 = .ok (.aload_n 0, 1) := dk_42 (dk_at dksX13_string_8 18 rfl rfl)
theorem dX13_string_208 : decode cX13_string 208 = .ok (.getfield 17, 3) := dk_180 0 17 (dk_at dksX13_string_8 19 rfl rfl)
theorem dX13_string_211 : decode cX13_string 211 = .ok (.iload_n 2, 1) := dk_28 (dk_at dksX13_string_8 22 rfl rfl)
theorem dX13_string_212 : decode cX13_string 212 = .ok (.aload 4, 2) := dk_25 4 (dk_at dksX13_string_9 0 rfl rfl)
theorem dX13_string_214 : decode cX13_string 214 = .ok (.iload 5, 2) := dk_21 5 (dk_at dksX13_string_9 2 rfl rfl)
theorem dX13_string_216 : decode cX13_string 216 = .ok (.iload 6, 2) := dk_21 6 (dk_at dksX13_string_9 4 rfl rfl)
theorem dX13_string_218 : decode cX13_string 218 = .ok (.invokevirtual 287, 3) := dk_182 1 31 (dk_at dksX13_string_9 6 rfl rfl)
theorem dX13_string_221 : decode cX13_string 221 = .ok (.ifCond .ne 14, 3) := dk_154 0 14 (dk_at dksX13_string_9 9 rfl rfl)
theorem dX13_string_224 : decode cX13_string 224 = .ok (.aload_n 0, 1) := dk_42 (dk_at dksX13_string_9 12 rfl rfl)
theorem dX13_string_225 : decode cX13_string 225 = .ok (.bipush 17, 2) := dk_16 17 (dk_at dksX13_string_9 13 rfl rfl)
theorem dX13_string_227 : decode cX13_string 227 = .ok (.iload_n 1, 1) := dk_27 (dk_at dksX13_string_9 15 rfl rfl)
theorem dX13_string_228 : decode cX13_string 228 = .ok (.invokevirtual 177, 3) := dk_182 0 177 (dk_at dksX13_string_9 16 rfl rfl)
theorem dX13_string_231 : decode cX13_string 231 = .ok (.pop, 1) := dk_87 (dk_at dksX13_string_9 19 rfl rfl)
theorem dX13_string_232 : decode cX13_string 232 = .ok (.goto 45, 3) := dk_167 0 45 (dk_at dksX13_string_9 20 rfl rfl)
theorem dX13_string_235 : decode cX13_string 235 = .ok (.aload_n 0, 1) := dk_42 (dk_at dksX13_string_9 23 rfl rfl)
theorem dX13_string_236 : decode cX13_string 236 = .ok (.getfield 99, 3) := dk_180 0 99 (dk_at dksX13_string_10 0 rfl rfl)
theorem dX13_string_239 : decode cX13_string 239 = .ok (.iload_n 3, 1) := dk_29 (dk_at dksX13_string_10 3 rfl rfl)
theorem dX13_string_240 : decode cX13_string 240 = .ok (.aload_n 0, 1) := dk_42 (dk_at dksX13_string_10 4 rfl rfl)
theorem dX13_string_241 : decode cX13_string 241 = .ok (.getfield 17, 3) := dk_180 0 17 (dk_at dksX13_string_10 5 rfl rfl)
theorem dX13_string_244 : decode cX13_string 244 = .ok (.invokevirtual 290, 3) := dk_182 1 34 (dk_at dksX13_string_10 8 rfl rfl)
theorem dX13_string_247 : decode cX13_string 247 = .ok (.invokevirtual 231, 3) := dk_182 0 231 (dk_at dksX13_string_10 11 rfl rfl)
theorem dX13_string_250 : decode cX13_string 250 = .ok (.ifCond .ne 14, 3) := dk_154 0 14 (dk_at dksX13_string_10 14 rfl rfl)
theorem dX13_string_253 : decode cX13_string 253 = .ok (.aload_n 0, 1) := dk_42 (dk_at dksX13_string_10 17 rfl rfl)
theorem dX13_string_254 : decode cX13_string 254 = .ok (.bipush 22, 2) := dk_16 22 (dk_at dksX13_string_10 18 rfl rfl)
theorem dX13_string_256 : decode cX13_string 256 = .ok (.iload_n 1, 1) := dk_27 (dk_at dksX13_string_10 20 rfl rfl)
theorem dX13_string_257 : decode cX13_string 257 = .ok (.invokevirtual 177, 3) := dk_182 0 177 (dk_at dksX13_string_10 21 rfl rfl)
theorem dX13_string_260 : decode cX13_string 260 = .ok (.pop, 1) := dk_87 (dk_at dksX13_string_11 0 rfl rfl)
theorem dX13_string_261 : decode cX13_string 261 = .ok (.goto 16, 3) := dk_167 0 16 (dk_at dksX13_string_11 1 rfl rfl)
theorem dX13_string_264 : decode cX13_string 264 = .ok (.aload_n 0, 1) := dk_42 (dk_at dksX13_string_11 4 rfl rfl)
theorem dX13_string_265 : decode cX13_string 265 = .ok (.getfield 70, 3) := dk_180 0 70 (dk_at dksX13_string_11 5 rfl rfl)
theorem dX13_string_268 : decode cX13_string 268 = .ok (.aload 4, 2) := dk_25 4 (dk_at dksX13_string_11 8 rfl rfl)
theorem dX13_string_270 : decode cX13_string 270 = .ok (.iload 5, 2) := dk_21 5 (dk_at dksX13_string_11 10 rfl rfl)
theorem dX13_string_272 : decode cX13_string 272 = .ok (.iload 6, 2) := dk_21 6 (dk_at dksX13_string_11 12 rfl rfl)
theorem dX13_string_274 : decode cX13_string 274 = .ok (.invokevirtual 265, 3) := dk_182 1 9 (dk_at dksX13_string_11 14 rfl rfl)
theorem dX13_string_277 : decode cX13_string 277 = .ok (.return_, 1) := dk_177 (dk_at dksX13_string_11 17 rfl rfl)
abbrev cX13_enter : ByteArray := prog_8_method_12_code
def yX13_enter : MethodName := ⟨RX13, "enter", "(IIZ)V"⟩
def dkwX13_enter_10 : List UInt8 := [21, 6, 79, 177]
abbrev dktX13_enter_10 : List UInt8 := dkwX13_enter_10 ++ []
def dkwX13_enter_9 : List UInt8 := [180, 0, 169, 21, 4, 79, 42, 89, 180, 0, 169, 4, 96, 181, 0, 169, 42, 180, 0, 58, 42, 180, 0, 169]
abbrev dktX13_enter_9 : List UInt8 := dkwX13_enter_9 ++ dktX13_enter_10
def dkwX13_enter_8 : List UInt8 := [180, 0, 52, 42, 180, 0, 169, 28, 79, 42, 180, 0, 55, 42, 180, 0, 169, 3, 79, 42, 180, 0, 58, 42]
abbrev dktX13_enter_8 : List UInt8 := dkwX13_enter_8 ++ dktX13_enter_9
def dkwX13_enter_7 : List UInt8 := [180, 0, 61, 21, 7, 3, 79, 132, 7, 1, 167, 255, 238, 42, 180, 0, 49, 42, 180, 0, 169, 27, 79, 42]
abbrev dktX13_enter_7 : List UInt8 := dkwX13_enter_7 ++ dktX13_enter_8
def dkwX13_enter_6 : List UInt8 := [42, 180, 0, 61, 21, 6, 184, 0, 148, 181, 0, 61, 21, 4, 54, 7, 21, 7, 21, 6, 162, 0, 17, 42]
abbrev dktX13_enter_6 : List UInt8 := dkwX13_enter_6 ++ dktX13_enter_7
def dkwX13_enter_5 : List UInt8 := [21, 6, 182, 0, 152, 54, 6, 167, 255, 236, 21, 4, 21, 5, 16, 31, 96, 16, 32, 108, 96, 54, 6, 42]
abbrev dktX13_enter_5 : List UInt8 := dkwX13_enter_5 ++ dktX13_enter_6
def dkwX13_enter_4 : List UInt8 := [29, 153, 0, 7, 28, 167, 0, 4, 2, 54, 6, 21, 6, 2, 159, 0, 20, 132, 5, 1, 42, 180, 0, 95]
abbrev dktX13_enter_4 : List UInt8 := dkwX13_enter_4 ++ dktX13_enter_5
def dkwX13_enter_3 : List UInt8 := [180, 0, 169, 154, 0, 7, 3, 167, 0, 12, 42, 180, 0, 58, 42, 180, 0, 169, 46, 54, 4, 3, 54, 5]
abbrev dktX13_enter_3 : List UInt8 := dkwX13_enter_3 ++ dktX13_enter_4
def dkwX13_enter_2 : List UInt8 := [184, 0, 148, 181, 0, 55, 42, 42, 180, 0, 58, 42, 180, 0, 169, 5, 96, 184, 0, 148, 181, 0, 58, 42]
abbrev dktX13_enter_2 : List UInt8 := dkwX13_enter_2 ++ dktX13_enter_3
def dkwX13_enter_1 : List UInt8 := [180, 0, 169, 4, 96, 184, 0, 148, 181, 0, 52, 42, 42, 180, 0, 55, 42, 180, 0, 169, 4, 96]
abbrev dktX13_enter_1 : List UInt8 := dkwX13_enter_1 ++ dktX13_enter_2
def dkwX13_enter_0 : List UInt8 := [42, 42, 180, 0, 49, 42, 180, 0, 169, 4, 96, 184, 0, 148, 181, 0, 49, 42, 42, 180, 0, 52, 42]
abbrev dktX13_enter_0 : List UInt8 := dkwX13_enter_0 ++ dktX13_enter_1
theorem dksX13_enter_0 : cX13_enter.data.toList.drop 0 = dktX13_enter_0 := by decide +kernel
theorem dksX13_enter_1 : cX13_enter.data.toList.drop 23 = dktX13_enter_1 := dk_seg dksX13_enter_0 23 rfl rfl
theorem dksX13_enter_2 : cX13_enter.data.toList.drop 45 = dktX13_enter_2 := dk_seg dksX13_enter_1 22 rfl rfl
theorem dksX13_enter_3 : cX13_enter.data.toList.drop 69 = dktX13_enter_3 := dk_seg dksX13_enter_2 24 rfl rfl
theorem dksX13_enter_4 : cX13_enter.data.toList.drop 93 = dktX13_enter_4 := dk_seg dksX13_enter_3 24 rfl rfl
theorem dksX13_enter_5 : cX13_enter.data.toList.drop 117 = dktX13_enter_5 := dk_seg dksX13_enter_4 24 rfl rfl
theorem dksX13_enter_6 : cX13_enter.data.toList.drop 141 = dktX13_enter_6 := dk_seg dksX13_enter_5 24 rfl rfl
theorem dksX13_enter_7 : cX13_enter.data.toList.drop 165 = dktX13_enter_7 := dk_seg dksX13_enter_6 24 rfl rfl
theorem dksX13_enter_8 : cX13_enter.data.toList.drop 189 = dktX13_enter_8 := dk_seg dksX13_enter_7 24 rfl rfl
theorem dksX13_enter_9 : cX13_enter.data.toList.drop 213 = dktX13_enter_9 := dk_seg dksX13_enter_8 24 rfl rfl
theorem dksX13_enter_10 : cX13_enter.data.toList.drop 237 = dktX13_enter_10 := dk_seg dksX13_enter_9 24 rfl rfl
theorem dX13_enter_0 : decode cX13_enter 0 = .ok (.aload_n 0, 1) := dk_42 (dk_at dksX13_enter_0 0 rfl rfl)
theorem dX13_enter_1 : decode cX13_enter 1 = .ok (.aload_n 0, 1) := dk_42 (dk_at dksX13_enter_0 1 rfl rfl)
theorem dX13_enter_2 : decode cX13_enter 2 = .ok (.getfield 49, 3) := dk_180 0 49 (dk_at dksX13_enter_0 2 rfl rfl)
theorem dX13_enter_5 : decode cX13_enter 5 = .ok (.aload_n 0, 1) := dk_42 (dk_at dksX13_enter_0 5 rfl rfl)
theorem dX13_enter_6 : decode cX13_enter 6 = .ok (.getfield 169, 3) := dk_180 0 169 (dk_at dksX13_enter_0 6 rfl rfl)
theorem dX13_enter_9 : decode cX13_enter 9 = .ok (.iconst 1, 1) := dk_4 (dk_at dksX13_enter_0 9 rfl rfl)
theorem dX13_enter_10 : decode cX13_enter 10 = .ok (.iadd, 1) := dk_96 (dk_at dksX13_enter_0 10 rfl rfl)
theorem dX13_enter_11 : decode cX13_enter 11 = .ok (.invokestatic 148, 3) := dk_184 0 148 (dk_at dksX13_enter_0 11 rfl rfl)
theorem dX13_enter_14 : decode cX13_enter 14 = .ok (.putfield 49, 3) := dk_181 0 49 (dk_at dksX13_enter_0 14 rfl rfl)
theorem dX13_enter_17 : decode cX13_enter 17 = .ok (.aload_n 0, 1) := dk_42 (dk_at dksX13_enter_0 17 rfl rfl)
theorem dX13_enter_18 : decode cX13_enter 18 = .ok (.aload_n 0, 1) := dk_42 (dk_at dksX13_enter_0 18 rfl rfl)
theorem dX13_enter_19 : decode cX13_enter 19 = .ok (.getfield 52, 3) := dk_180 0 52 (dk_at dksX13_enter_0 19 rfl rfl)
theorem dX13_enter_22 : decode cX13_enter 22 = .ok (.aload_n 0, 1) := dk_42 (dk_at dksX13_enter_0 22 rfl rfl)
theorem dX13_enter_23 : decode cX13_enter 23 = .ok (.getfield 169, 3) := dk_180 0 169 (dk_at dksX13_enter_1 0 rfl rfl)
theorem dX13_enter_26 : decode cX13_enter 26 = .ok (.iconst 1, 1) := dk_4 (dk_at dksX13_enter_1 3 rfl rfl)
theorem dX13_enter_27 : decode cX13_enter 27 = .ok (.iadd, 1) := dk_96 (dk_at dksX13_enter_1 4 rfl rfl)
theorem dX13_enter_28 : decode cX13_enter 28 = .ok (.invokestatic 148, 3) := dk_184 0 148 (dk_at dksX13_enter_1 5 rfl rfl)
theorem dX13_enter_31 : decode cX13_enter 31 = .ok (.putfield 52, 3) := dk_181 0 52 (dk_at dksX13_enter_1 8 rfl rfl)
theorem dX13_enter_34 : decode cX13_enter 34 = .ok (.aload_n 0, 1) := dk_42 (dk_at dksX13_enter_1 11 rfl rfl)
theorem dX13_enter_35 : decode cX13_enter 35 = .ok (.aload_n 0, 1) := dk_42 (dk_at dksX13_enter_1 12 rfl rfl)
theorem dX13_enter_36 : decode cX13_enter 36 = .ok (.getfield 55, 3) := dk_180 0 55 (dk_at dksX13_enter_1 13 rfl rfl)
theorem dX13_enter_39 : decode cX13_enter 39 = .ok (.aload_n 0, 1) := dk_42 (dk_at dksX13_enter_1 16 rfl rfl)
theorem dX13_enter_40 : decode cX13_enter 40 = .ok (.getfield 169, 3) := dk_180 0 169 (dk_at dksX13_enter_1 17 rfl rfl)
theorem dX13_enter_43 : decode cX13_enter 43 = .ok (.iconst 1, 1) := dk_4 (dk_at dksX13_enter_1 20 rfl rfl)
theorem dX13_enter_44 : decode cX13_enter 44 = .ok (.iadd, 1) := dk_96 (dk_at dksX13_enter_1 21 rfl rfl)
theorem dX13_enter_45 : decode cX13_enter 45 = .ok (.invokestatic 148, 3) := dk_184 0 148 (dk_at dksX13_enter_2 0 rfl rfl)
theorem dX13_enter_48 : decode cX13_enter 48 = .ok (.putfield 55, 3) := dk_181 0 55 (dk_at dksX13_enter_2 3 rfl rfl)
theorem dX13_enter_51 : decode cX13_enter 51 = .ok (.aload_n 0, 1) := dk_42 (dk_at dksX13_enter_2 6 rfl rfl)
theorem dX13_enter_52 : decode cX13_enter 52 = .ok (.aload_n 0, 1) := dk_42 (dk_at dksX13_enter_2 7 rfl rfl)
theorem dX13_enter_53 : decode cX13_enter 53 = .ok (.getfield 58, 3) := dk_180 0 58 (dk_at dksX13_enter_2 8 rfl rfl)
theorem dX13_enter_56 : decode cX13_enter 56 = .ok (.aload_n 0, 1) := dk_42 (dk_at dksX13_enter_2 11 rfl rfl)
theorem dX13_enter_57 : decode cX13_enter 57 = .ok (.getfield 169, 3) := dk_180 0 169 (dk_at dksX13_enter_2 12 rfl rfl)
theorem dX13_enter_60 : decode cX13_enter 60 = .ok (.iconst 2, 1) := dk_5 (dk_at dksX13_enter_2 15 rfl rfl)
theorem dX13_enter_61 : decode cX13_enter 61 = .ok (.iadd, 1) := dk_96 (dk_at dksX13_enter_2 16 rfl rfl)
theorem dX13_enter_62 : decode cX13_enter 62 = .ok (.invokestatic 148, 3) := dk_184 0 148 (dk_at dksX13_enter_2 17 rfl rfl)
theorem dX13_enter_65 : decode cX13_enter 65 = .ok (.putfield 58, 3) := dk_181 0 58 (dk_at dksX13_enter_2 20 rfl rfl)
theorem dX13_enter_68 : decode cX13_enter 68 = .ok (.aload_n 0, 1) := dk_42 (dk_at dksX13_enter_2 23 rfl rfl)
theorem dX13_enter_69 : decode cX13_enter 69 = .ok (.getfield 169, 3) := dk_180 0 169 (dk_at dksX13_enter_3 0 rfl rfl)
theorem dX13_enter_72 : decode cX13_enter 72 = .ok (.ifCond .ne 7, 3) := dk_154 0 7 (dk_at dksX13_enter_3 3 rfl rfl)
theorem dX13_enter_75 : decode cX13_enter 75 = .ok (.iconst 0, 1) := dk_3 (dk_at dksX13_enter_3 6 rfl rfl)
theorem dX13_enter_76 : decode cX13_enter 76 = .ok (.goto 12, 3) := dk_167 0 12 (dk_at dksX13_enter_3 7 rfl rfl)
theorem dX13_enter_79 : decode cX13_enter 79 = .ok (.aload_n 0, 1) := dk_42 (dk_at dksX13_enter_3 10 rfl rfl)
theorem dX13_enter_80 : decode cX13_enter 80 = .ok (.getfield 58, 3) := dk_180 0 58 (dk_at dksX13_enter_3 11 rfl rfl)
theorem dX13_enter_83 : decode cX13_enter 83 = .ok (.aload_n 0, 1) := dk_42 (dk_at dksX13_enter_3 14 rfl rfl)
theorem dX13_enter_84 : decode cX13_enter 84 = .ok (.getfield 169, 3) := dk_180 0 169 (dk_at dksX13_enter_3 15 rfl rfl)
theorem dX13_enter_87 : decode cX13_enter 87 = .ok (.iaload, 1) := dk_46 (dk_at dksX13_enter_3 18 rfl rfl)
theorem dX13_enter_88 : decode cX13_enter 88 = .ok (.istore 4, 2) := dk_54 4 (dk_at dksX13_enter_3 19 rfl rfl)
theorem dX13_enter_90 : decode cX13_enter 90 = .ok (.iconst 0, 1) := dk_3 (dk_at dksX13_enter_3 21 rfl rfl)
theorem dX13_enter_91 : decode cX13_enter 91 = .ok (.istore 5, 2) := dk_54 5 (dk_at dksX13_enter_3 22 rfl rfl)
theorem dX13_enter_93 : decode cX13_enter 93 = .ok (.iload_n 3, 1) := dk_29 (dk_at dksX13_enter_4 0 rfl rfl)
theorem dX13_enter_94 : decode cX13_enter 94 = .ok (.ifCond .eq 7, 3) := dk_153 0 7 (dk_at dksX13_enter_4 1 rfl rfl)
theorem dX13_enter_97 : decode cX13_enter 97 = .ok (.iload_n 2, 1) := dk_28 (dk_at dksX13_enter_4 4 rfl rfl)
theorem dX13_enter_98 : decode cX13_enter 98 = .ok (.goto 4, 3) := dk_167 0 4 (dk_at dksX13_enter_4 5 rfl rfl)
theorem dX13_enter_101 : decode cX13_enter 101 = .ok (.iconst (-1), 1) := dk_2 (dk_at dksX13_enter_4 8 rfl rfl)
theorem dX13_enter_102 : decode cX13_enter 102 = .ok (.istore 6, 2) := dk_54 6 (dk_at dksX13_enter_4 9 rfl rfl)
theorem dX13_enter_104 : decode cX13_enter 104 = .ok (.iload 6, 2) := dk_21 6 (dk_at dksX13_enter_4 11 rfl rfl)
theorem dX13_enter_106 : decode cX13_enter 106 = .ok (.iconst (-1), 1) := dk_2 (dk_at dksX13_enter_4 13 rfl rfl)
theorem dX13_enter_107 : decode cX13_enter 107 = .ok (.if_icmp .eq 20, 3) := dk_159 0 20 (dk_at dksX13_enter_4 14 rfl rfl)
theorem dX13_enter_110 : decode cX13_enter 110 = .ok (.iinc 5 1, 3) := dk_132 5 1 (dk_at dksX13_enter_4 17 rfl rfl)
theorem dX13_enter_113 : decode cX13_enter 113 = .ok (.aload_n 0, 1) := dk_42 (dk_at dksX13_enter_4 20 rfl rfl)
theorem dX13_enter_114 : decode cX13_enter 114 = .ok (.getfield 95, 3) := dk_180 0 95 (dk_at dksX13_enter_4 21 rfl rfl)
theorem dX13_enter_117 : decode cX13_enter 117 = .ok (.iload 6, 2) := dk_21 6 (dk_at dksX13_enter_5 0 rfl rfl)
theorem dX13_enter_119 : decode cX13_enter 119 = .ok (.invokevirtual 152, 3) := dk_182 0 152 (dk_at dksX13_enter_5 2 rfl rfl)
theorem dX13_enter_122 : decode cX13_enter 122 = .ok (.istore 6, 2) := dk_54 6 (dk_at dksX13_enter_5 5 rfl rfl)
theorem dX13_enter_124 : decode cX13_enter 124 = .ok (.goto (-20), 3) := dk_167 255 236 (dk_at dksX13_enter_5 7 rfl rfl)
theorem dX13_enter_127 : decode cX13_enter 127 = .ok (.iload 4, 2) := dk_21 4 (dk_at dksX13_enter_5 10 rfl rfl)
theorem dX13_enter_129 : decode cX13_enter 129 = .ok (.iload 5, 2) := dk_21 5 (dk_at dksX13_enter_5 12 rfl rfl)
theorem dX13_enter_131 : decode cX13_enter 131 = .ok (.bipush 31, 2) := dk_16 31 (dk_at dksX13_enter_5 14 rfl rfl)
theorem dX13_enter_133 : decode cX13_enter 133 = .ok (.iadd, 1) := dk_96 (dk_at dksX13_enter_5 16 rfl rfl)
theorem dX13_enter_134 : decode cX13_enter 134 = .ok (.bipush 32, 2) := dk_16 32 (dk_at dksX13_enter_5 17 rfl rfl)
theorem dX13_enter_136 : decode cX13_enter 136 = .ok (.idiv, 1) := dk_108 (dk_at dksX13_enter_5 19 rfl rfl)
theorem dX13_enter_137 : decode cX13_enter 137 = .ok (.iadd, 1) := dk_96 (dk_at dksX13_enter_5 20 rfl rfl)
theorem dX13_enter_138 : decode cX13_enter 138 = .ok (.istore 6, 2) := dk_54 6 (dk_at dksX13_enter_5 21 rfl rfl)
theorem dX13_enter_140 : decode cX13_enter 140 = .ok (.aload_n 0, 1) := dk_42 (dk_at dksX13_enter_5 23 rfl rfl)
theorem dX13_enter_141 : decode cX13_enter 141 = .ok (.aload_n 0, 1) := dk_42 (dk_at dksX13_enter_6 0 rfl rfl)
theorem dX13_enter_142 : decode cX13_enter 142 = .ok (.getfield 61, 3) := dk_180 0 61 (dk_at dksX13_enter_6 1 rfl rfl)
theorem dX13_enter_145 : decode cX13_enter 145 = .ok (.iload 6, 2) := dk_21 6 (dk_at dksX13_enter_6 4 rfl rfl)
theorem dX13_enter_147 : decode cX13_enter 147 = .ok (.invokestatic 148, 3) := dk_184 0 148 (dk_at dksX13_enter_6 6 rfl rfl)
theorem dX13_enter_150 : decode cX13_enter 150 = .ok (.putfield 61, 3) := dk_181 0 61 (dk_at dksX13_enter_6 9 rfl rfl)
theorem dX13_enter_153 : decode cX13_enter 153 = .ok (.iload 4, 2) := dk_21 4 (dk_at dksX13_enter_6 12 rfl rfl)
theorem dX13_enter_155 : decode cX13_enter 155 = .ok (.istore 7, 2) := dk_54 7 (dk_at dksX13_enter_6 14 rfl rfl)
theorem dX13_enter_157 : decode cX13_enter 157 = .ok (.iload 7, 2) := dk_21 7 (dk_at dksX13_enter_6 16 rfl rfl)
theorem dX13_enter_159 : decode cX13_enter 159 = .ok (.iload 6, 2) := dk_21 6 (dk_at dksX13_enter_6 18 rfl rfl)
theorem dX13_enter_161 : decode cX13_enter 161 = .ok (.if_icmp .ge 17, 3) := dk_162 0 17 (dk_at dksX13_enter_6 20 rfl rfl)
theorem dX13_enter_164 : decode cX13_enter 164 = .ok (.aload_n 0, 1) := dk_42 (dk_at dksX13_enter_6 23 rfl rfl)
theorem dX13_enter_165 : decode cX13_enter 165 = .ok (.getfield 61, 3) := dk_180 0 61 (dk_at dksX13_enter_7 0 rfl rfl)
theorem dX13_enter_168 : decode cX13_enter 168 = .ok (.iload 7, 2) := dk_21 7 (dk_at dksX13_enter_7 3 rfl rfl)
theorem dX13_enter_170 : decode cX13_enter 170 = .ok (.iconst 0, 1) := dk_3 (dk_at dksX13_enter_7 5 rfl rfl)
theorem dX13_enter_171 : decode cX13_enter 171 = .ok (.iastore, 1) := dk_79 (dk_at dksX13_enter_7 6 rfl rfl)
theorem dX13_enter_172 : decode cX13_enter 172 = .ok (.iinc 7 1, 3) := dk_132 7 1 (dk_at dksX13_enter_7 7 rfl rfl)
theorem dX13_enter_175 : decode cX13_enter 175 = .ok (.goto (-18), 3) := dk_167 255 238 (dk_at dksX13_enter_7 10 rfl rfl)
theorem dX13_enter_178 : decode cX13_enter 178 = .ok (.aload_n 0, 1) := dk_42 (dk_at dksX13_enter_7 13 rfl rfl)
theorem dX13_enter_179 : decode cX13_enter 179 = .ok (.getfield 49, 3) := dk_180 0 49 (dk_at dksX13_enter_7 14 rfl rfl)
theorem dX13_enter_182 : decode cX13_enter 182 = .ok (.aload_n 0, 1) := dk_42 (dk_at dksX13_enter_7 17 rfl rfl)
theorem dX13_enter_183 : decode cX13_enter 183 = .ok (.getfield 169, 3) := dk_180 0 169 (dk_at dksX13_enter_7 18 rfl rfl)
theorem dX13_enter_186 : decode cX13_enter 186 = .ok (.iload_n 1, 1) := dk_27 (dk_at dksX13_enter_7 21 rfl rfl)
theorem dX13_enter_187 : decode cX13_enter 187 = .ok (.iastore, 1) := dk_79 (dk_at dksX13_enter_7 22 rfl rfl)
theorem dX13_enter_188 : decode cX13_enter 188 = .ok (.aload_n 0, 1) := dk_42 (dk_at dksX13_enter_7 23 rfl rfl)
theorem dX13_enter_189 : decode cX13_enter 189 = .ok (.getfield 52, 3) := dk_180 0 52 (dk_at dksX13_enter_8 0 rfl rfl)
theorem dX13_enter_192 : decode cX13_enter 192 = .ok (.aload_n 0, 1) := dk_42 (dk_at dksX13_enter_8 3 rfl rfl)
theorem dX13_enter_193 : decode cX13_enter 193 = .ok (.getfield 169, 3) := dk_180 0 169 (dk_at dksX13_enter_8 4 rfl rfl)
theorem dX13_enter_196 : decode cX13_enter 196 = .ok (.iload_n 2, 1) := dk_28 (dk_at dksX13_enter_8 7 rfl rfl)
theorem dX13_enter_197 : decode cX13_enter 197 = .ok (.iastore, 1) := dk_79 (dk_at dksX13_enter_8 8 rfl rfl)
theorem dX13_enter_198 : decode cX13_enter 198 = .ok (.aload_n 0, 1) := dk_42 (dk_at dksX13_enter_8 9 rfl rfl)
theorem dX13_enter_199 : decode cX13_enter 199 = .ok (.getfield 55, 3) := dk_180 0 55 (dk_at dksX13_enter_8 10 rfl rfl)
theorem dX13_enter_202 : decode cX13_enter 202 = .ok (.aload_n 0, 1) := dk_42 (dk_at dksX13_enter_8 13 rfl rfl)
theorem dX13_enter_203 : decode cX13_enter 203 = .ok (.getfield 169, 3) := dk_180 0 169 (dk_at dksX13_enter_8 14 rfl rfl)
theorem dX13_enter_206 : decode cX13_enter 206 = .ok (.iconst 0, 1) := dk_3 (dk_at dksX13_enter_8 17 rfl rfl)
theorem dX13_enter_207 : decode cX13_enter 207 = .ok (.iastore, 1) := dk_79 (dk_at dksX13_enter_8 18 rfl rfl)
theorem dX13_enter_208 : decode cX13_enter 208 = .ok (.aload_n 0, 1) := dk_42 (dk_at dksX13_enter_8 19 rfl rfl)
theorem dX13_enter_209 : decode cX13_enter 209 = .ok (.getfield 58, 3) := dk_180 0 58 (dk_at dksX13_enter_8 20 rfl rfl)
theorem dX13_enter_212 : decode cX13_enter 212 = .ok (.aload_n 0, 1) := dk_42 (dk_at dksX13_enter_8 23 rfl rfl)
theorem dX13_enter_213 : decode cX13_enter 213 = .ok (.getfield 169, 3) := dk_180 0 169 (dk_at dksX13_enter_9 0 rfl rfl)
theorem dX13_enter_216 : decode cX13_enter 216 = .ok (.iload 4, 2) := dk_21 4 (dk_at dksX13_enter_9 3 rfl rfl)
theorem dX13_enter_218 : decode cX13_enter 218 = .ok (.iastore, 1) := dk_79 (dk_at dksX13_enter_9 5 rfl rfl)
theorem dX13_enter_219 : decode cX13_enter 219 = .ok (.aload_n 0, 1) := dk_42 (dk_at dksX13_enter_9 6 rfl rfl)
theorem dX13_enter_220 : decode cX13_enter 220 = .ok (.dup, 1) := dk_89 (dk_at dksX13_enter_9 7 rfl rfl)
theorem dX13_enter_221 : decode cX13_enter 221 = .ok (.getfield 169, 3) := dk_180 0 169 (dk_at dksX13_enter_9 8 rfl rfl)
theorem dX13_enter_224 : decode cX13_enter 224 = .ok (.iconst 1, 1) := dk_4 (dk_at dksX13_enter_9 11 rfl rfl)
theorem dX13_enter_225 : decode cX13_enter 225 = .ok (.iadd, 1) := dk_96 (dk_at dksX13_enter_9 12 rfl rfl)
theorem dX13_enter_226 : decode cX13_enter 226 = .ok (.putfield 169, 3) := dk_181 0 169 (dk_at dksX13_enter_9 13 rfl rfl)
theorem dX13_enter_229 : decode cX13_enter 229 = .ok (.aload_n 0, 1) := dk_42 (dk_at dksX13_enter_9 16 rfl rfl)
theorem dX13_enter_230 : decode cX13_enter 230 = .ok (.getfield 58, 3) := dk_180 0 58 (dk_at dksX13_enter_9 17 rfl rfl)
theorem dX13_enter_233 : decode cX13_enter 233 = .ok (.aload_n 0, 1) := dk_42 (dk_at dksX13_enter_9 20 rfl rfl)
theorem dX13_enter_234 : decode cX13_enter 234 = .ok (.getfield 169, 3) := dk_180 0 169 (dk_at dksX13_enter_9 21 rfl rfl)
theorem dX13_enter_237 : decode cX13_enter 237 = .ok (.iload 6, 2) := dk_21 6 (dk_at dksX13_enter_10 0 rfl rfl)
theorem dX13_enter_239 : decode cX13_enter 239 = .ok (.iastore, 1) := dk_79 (dk_at dksX13_enter_10 2 rfl rfl)
theorem dX13_enter_240 : decode cX13_enter 240 = .ok (.return_, 1) := dk_177 (dk_at dksX13_enter_10 3 rfl rfl)
abbrev cX13_close : ByteArray := prog_8_method_18_code
def yX13_close : MethodName := ⟨RX13, "close", "()V"⟩
def dkwX13_close_6 : List UInt8 := [154, 0, 11, 42, 16, 22, 28, 182, 0, 177, 87, 42, 89, 180, 0, 169, 4, 100, 181, 0, 169, 177]
abbrev dktX13_close_6 : List UInt8 := dkwX13_close_6 ++ []
def dkwX13_close_5 : List UInt8 := [167, 0, 33, 42, 180, 0, 99, 42, 180, 0, 30, 28, 46, 42, 180, 0, 55, 27, 46, 182, 0, 231]
abbrev dktX13_close_5 : List UInt8 := dkwX13_close_5 ++ dktX13_close_6
def dkwX13_close_4 : List UInt8 := [21, 4, 182, 0, 152, 54, 4, 167, 255, 218, 167, 0, 47, 29, 16, 13, 160, 0, 11, 42, 28, 182, 0, 227]
abbrev dktX13_close_4 : List UInt8 := dkwX13_close_4 ++ dktX13_close_5
def dkwX13_close_3 : List UInt8 := [180, 0, 95, 21, 4, 8, 182, 0, 224, 154, 0, 11, 42, 16, 12, 28, 182, 0, 177, 87, 42, 180, 0, 95]
abbrev dktX13_close_3 : List UInt8 := dkwX13_close_3 ++ dktX13_close_4
def dkwX13_close_2 : List UInt8 := [167, 0, 105, 29, 16, 12, 160, 0, 55, 42, 180, 0, 52, 27, 46, 54, 4, 21, 4, 2, 159, 0, 38, 42]
abbrev dktX13_close_2 : List UInt8 := dkwX13_close_2 ++ dktX13_close_3
def dkwX13_close_1 : List UInt8 := [182, 0, 194, 153, 0, 23, 42, 180, 0, 55, 27, 46, 154, 0, 116, 42, 16, 15, 28, 182, 0, 177, 87]
abbrev dktX13_close_1 : List UInt8 := dkwX13_close_1 ++ dktX13_close_2
def dkwX13_close_0 : List UInt8 := [42, 180, 0, 169, 4, 100, 60, 42, 180, 0, 49, 27, 46, 61, 42, 28, 182, 0, 158, 62, 42, 28]
abbrev dktX13_close_0 : List UInt8 := dkwX13_close_0 ++ dktX13_close_1
theorem dksX13_close_0 : cX13_close.data.toList.drop 0 = dktX13_close_0 := by decide +kernel
theorem dksX13_close_1 : cX13_close.data.toList.drop 22 = dktX13_close_1 := dk_seg dksX13_close_0 22 rfl rfl
theorem dksX13_close_2 : cX13_close.data.toList.drop 45 = dktX13_close_2 := dk_seg dksX13_close_1 23 rfl rfl
theorem dksX13_close_3 : cX13_close.data.toList.drop 69 = dktX13_close_3 := dk_seg dksX13_close_2 24 rfl rfl
theorem dksX13_close_4 : cX13_close.data.toList.drop 93 = dktX13_close_4 := dk_seg dksX13_close_3 24 rfl rfl
theorem dksX13_close_5 : cX13_close.data.toList.drop 117 = dktX13_close_5 := dk_seg dksX13_close_4 24 rfl rfl
theorem dksX13_close_6 : cX13_close.data.toList.drop 139 = dktX13_close_6 := dk_seg dksX13_close_5 22 rfl rfl
theorem dX13_close_0 : decode cX13_close 0 = .ok (.aload_n 0, 1) := dk_42 (dk_at dksX13_close_0 0 rfl rfl)
theorem dX13_close_1 : decode cX13_close 1 = .ok (.getfield 169, 3) := dk_180 0 169 (dk_at dksX13_close_0 1 rfl rfl)
theorem dX13_close_4 : decode cX13_close 4 = .ok (.iconst 1, 1) := dk_4 (dk_at dksX13_close_0 4 rfl rfl)
theorem dX13_close_5 : decode cX13_close 5 = .ok (.isub, 1) := dk_100 (dk_at dksX13_close_0 5 rfl rfl)
theorem dX13_close_6 : decode cX13_close 6 = .ok (.istore_n 1, 1) := dk_60 (dk_at dksX13_close_0 6 rfl rfl)
theorem dX13_close_7 : decode cX13_close 7 = .ok (.aload_n 0, 1) := dk_42 (dk_at dksX13_close_0 7 rfl rfl)
theorem dX13_close_8 : decode cX13_close 8 = .ok (.getfield 49, 3) := dk_180 0 49 (dk_at dksX13_close_0 8 rfl rfl)
theorem dX13_close_11 : decode cX13_close 11 = .ok (.iload_n 1, 1) := dk_27 (dk_at dksX13_close_0 11 rfl rfl)
theorem dX13_close_12 : decode cX13_close 12 = .ok (.iaload, 1) := dk_46 (dk_at dksX13_close_0 12 rfl rfl)
theorem dX13_close_13 : decode cX13_close 13 = .ok (.istore_n 2, 1) := dk_61 (dk_at dksX13_close_0 13 rfl rfl)
theorem dX13_close_14 : decode cX13_close 14 = .ok (.aload_n 0, 1) := dk_42 (dk_at dksX13_close_0 14 rfl rfl)
theorem dX13_close_15 : decode cX13_close 15 = .ok (.iload_n 2, 1) := dk_28 (dk_at dksX13_close_0 15 rfl rfl)
theorem dX13_close_16 : decode cX13_close 16 = .ok (.invokevirtual 158, 3) := dk_182 0 158 (dk_at dksX13_close_0 16 rfl rfl)
theorem dX13_close_19 : decode cX13_close 19 = .ok (.istore_n 3, 1) := dk_62 (dk_at dksX13_close_0 19 rfl rfl)
theorem dX13_close_20 : decode cX13_close 20 = .ok (.aload_n 0, 1) := dk_42 (dk_at dksX13_close_0 20 rfl rfl)
theorem dX13_close_21 : decode cX13_close 21 = .ok (.iload_n 2, 1) := dk_28 (dk_at dksX13_close_0 21 rfl rfl)
theorem dX13_close_22 : decode cX13_close 22 = .ok (.invokevirtual 194, 3) := dk_182 0 194 (dk_at dksX13_close_1 0 rfl rfl)
theorem dX13_close_25 : decode cX13_close 25 = .ok (.ifCond .eq 23, 3) := dk_153 0 23 (dk_at dksX13_close_1 3 rfl rfl)
theorem dX13_close_28 : decode cX13_close 28 = .ok (.aload_n 0, 1) := dk_42 (dk_at dksX13_close_1 6 rfl rfl)
theorem dX13_close_29 : decode cX13_close 29 = .ok (.getfield 55, 3) := dk_180 0 55 (dk_at dksX13_close_1 7 rfl rfl)
theorem dX13_close_32 : decode cX13_close 32 = .ok (.iload_n 1, 1) := dk_27 (dk_at dksX13_close_1 10 rfl rfl)
theorem dX13_close_33 : decode cX13_close 33 = .ok (.iaload, 1) := dk_46 (dk_at dksX13_close_1 11 rfl rfl)
theorem dX13_close_34 : decode cX13_close 34 = .ok (.ifCond .ne 116, 3) := dk_154 0 116 (dk_at dksX13_close_1 12 rfl rfl)
theorem dX13_close_37 : decode cX13_close 37 = .ok (.aload_n 0, 1) := dk_42 (dk_at dksX13_close_1 15 rfl rfl)
theorem dX13_close_38 : decode cX13_close 38 = .ok (.bipush 15, 2) := dk_16 15 (dk_at dksX13_close_1 16 rfl rfl)
theorem dX13_close_40 : decode cX13_close 40 = .ok (.iload_n 2, 1) := dk_28 (dk_at dksX13_close_1 18 rfl rfl)
theorem dX13_close_41 : decode cX13_close 41 = .ok (.invokevirtual 177, 3) := dk_182 0 177 (dk_at dksX13_close_1 19 rfl rfl)
theorem dX13_close_44 : decode cX13_close 44 = .ok (.pop, 1) := dk_87 (dk_at dksX13_close_1 22 rfl rfl)
theorem dX13_close_45 : decode cX13_close 45 = .ok (.goto 105, 3) := dk_167 0 105 (dk_at dksX13_close_2 0 rfl rfl)
theorem dX13_close_48 : decode cX13_close 48 = .ok (.iload_n 3, 1) := dk_29 (dk_at dksX13_close_2 3 rfl rfl)
theorem dX13_close_49 : decode cX13_close 49 = .ok (.bipush 12, 2) := dk_16 12 (dk_at dksX13_close_2 4 rfl rfl)
theorem dX13_close_51 : decode cX13_close 51 = .ok (.if_icmp .ne 55, 3) := dk_160 0 55 (dk_at dksX13_close_2 6 rfl rfl)
theorem dX13_close_54 : decode cX13_close 54 = .ok (.aload_n 0, 1) := dk_42 (dk_at dksX13_close_2 9 rfl rfl)
theorem dX13_close_55 : decode cX13_close 55 = .ok (.getfield 52, 3) := dk_180 0 52 (dk_at dksX13_close_2 10 rfl rfl)
theorem dX13_close_58 : decode cX13_close 58 = .ok (.iload_n 1, 1) := dk_27 (dk_at dksX13_close_2 13 rfl rfl)
theorem dX13_close_59 : decode cX13_close 59 = .ok (.iaload, 1) := dk_46 (dk_at dksX13_close_2 14 rfl rfl)
theorem dX13_close_60 : decode cX13_close 60 = .ok (.istore 4, 2) := dk_54 4 (dk_at dksX13_close_2 15 rfl rfl)
theorem dX13_close_62 : decode cX13_close 62 = .ok (.iload 4, 2) := dk_21 4 (dk_at dksX13_close_2 17 rfl rfl)
theorem dX13_close_64 : decode cX13_close 64 = .ok (.iconst (-1), 1) := dk_2 (dk_at dksX13_close_2 19 rfl rfl)
theorem dX13_close_65 : decode cX13_close 65 = .ok (.if_icmp .eq 38, 3) := dk_159 0 38 (dk_at dksX13_close_2 20 rfl rfl)
theorem dX13_close_68 : decode cX13_close 68 = .ok (.aload_n 0, 1) := dk_42 (dk_at dksX13_close_2 23 rfl rfl)
theorem dX13_close_69 : decode cX13_close 69 = .ok (.getfield 95, 3) := dk_180 0 95 (dk_at dksX13_close_3 0 rfl rfl)
theorem dX13_close_72 : decode cX13_close 72 = .ok (.iload 4, 2) := dk_21 4 (dk_at dksX13_close_3 3 rfl rfl)
theorem dX13_close_74 : decode cX13_close 74 = .ok (.iconst 5, 1) := dk_8 (dk_at dksX13_close_3 5 rfl rfl)
theorem dX13_close_75 : decode cX13_close 75 = .ok (.invokevirtual 224, 3) := dk_182 0 224 (dk_at dksX13_close_3 6 rfl rfl)
theorem dX13_close_78 : decode cX13_close 78 = .ok (.ifCond .ne 11, 3) := dk_154 0 11 (dk_at dksX13_close_3 9 rfl rfl)
theorem dX13_close_81 : decode cX13_close 81 = .ok (.aload_n 0, 1) := dk_42 (dk_at dksX13_close_3 12 rfl rfl)
theorem dX13_close_82 : decode cX13_close 82 = .ok (.bipush 12, 2) := dk_16 12 (dk_at dksX13_close_3 13 rfl rfl)
theorem dX13_close_84 : decode cX13_close 84 = .ok (.iload_n 2, 1) := dk_28 (dk_at dksX13_close_3 15 rfl rfl)
theorem dX13_close_85 : decode cX13_close 85 = .ok (.invokevirtual 177, 3) := dk_182 0 177 (dk_at dksX13_close_3 16 rfl rfl)
theorem dX13_close_88 : decode cX13_close 88 = .ok (.pop, 1) := dk_87 (dk_at dksX13_close_3 19 rfl rfl)
theorem dX13_close_89 : decode cX13_close 89 = .ok (.aload_n 0, 1) := dk_42 (dk_at dksX13_close_3 20 rfl rfl)
theorem dX13_close_90 : decode cX13_close 90 = .ok (.getfield 95, 3) := dk_180 0 95 (dk_at dksX13_close_3 21 rfl rfl)
theorem dX13_close_93 : decode cX13_close 93 = .ok (.iload 4, 2) := dk_21 4 (dk_at dksX13_close_4 0 rfl rfl)
theorem dX13_close_95 : decode cX13_close 95 = .ok (.invokevirtual 152, 3) := dk_182 0 152 (dk_at dksX13_close_4 2 rfl rfl)
theorem dX13_close_98 : decode cX13_close 98 = .ok (.istore 4, 2) := dk_54 4 (dk_at dksX13_close_4 5 rfl rfl)
theorem dX13_close_100 : decode cX13_close 100 = .ok (.goto (-38), 3) := dk_167 255 218 (dk_at dksX13_close_4 7 rfl rfl)
theorem dX13_close_103 : decode cX13_close 103 = .ok (.goto 47, 3) := dk_167 0 47 (dk_at dksX13_close_4 10 rfl rfl)
theorem dX13_close_106 : decode cX13_close 106 = .ok (.iload_n 3, 1) := dk_29 (dk_at dksX13_close_4 13 rfl rfl)
theorem dX13_close_107 : decode cX13_close 107 = .ok (.bipush 13, 2) := dk_16 13 (dk_at dksX13_close_4 14 rfl rfl)
theorem dX13_close_109 : decode cX13_close 109 = .ok (.if_icmp .ne 11, 3) := dk_160 0 11 (dk_at dksX13_close_4 16 rfl rfl)
theorem dX13_close_112 : decode cX13_close 112 = .ok (.aload_n 0, 1) := dk_42 (dk_at dksX13_close_4 19 rfl rfl)
theorem dX13_close_113 : decode cX13_close 113 = .ok (.iload_n 2, 1) := dk_28 (dk_at dksX13_close_4 20 rfl rfl)
theorem dX13_close_114 : decode cX13_close 114 = .ok (.invokevirtual 227, 3) := dk_182 0 227 (dk_at dksX13_close_4 21 rfl rfl)
theorem dX13_close_117 : decode cX13_close 117 = .ok (.goto 33, 3) := dk_167 0 33 (dk_at dksX13_close_5 0 rfl rfl)
theorem dX13_close_120 : decode cX13_close 120 = .ok (.aload_n 0, 1) := dk_42 (dk_at dksX13_close_5 3 rfl rfl)
theorem dX13_close_121 : decode cX13_close 121 = .ok (.getfield 99, 3) := dk_180 0 99 (dk_at dksX13_close_5 4 rfl rfl)
theorem dX13_close_124 : decode cX13_close 124 = .ok (.aload_n 0, 1) := dk_42 (dk_at dksX13_close_5 7 rfl rfl)
theorem dX13_close_125 : decode cX13_close 125 = .ok (.getfield 30, 3) := dk_180 0 30 (dk_at dksX13_close_5 8 rfl rfl)
theorem dX13_close_128 : decode cX13_close 128 = .ok (.iload_n 2, 1) := dk_28 (dk_at dksX13_close_5 11 rfl rfl)
theorem dX13_close_129 : decode cX13_close 129 = .ok (.iaload, 1) := dk_46 (dk_at dksX13_close_5 12 rfl rfl)
theorem dX13_close_130 : decode cX13_close 130 = .ok (.aload_n 0, 1) := dk_42 (dk_at dksX13_close_5 13 rfl rfl)
theorem dX13_close_131 : decode cX13_close 131 = .ok (.getfield 55, 3) := dk_180 0 55 (dk_at dksX13_close_5 14 rfl rfl)
theorem dX13_close_134 : decode cX13_close 134 = .ok (.iload_n 1, 1) := dk_27 (dk_at dksX13_close_5 17 rfl rfl)
theorem dX13_close_135 : decode cX13_close 135 = .ok (.iaload, 1) := dk_46 (dk_at dksX13_close_5 18 rfl rfl)
theorem dX13_close_136 : decode cX13_close 136 = .ok (.invokevirtual 231, 3) := dk_182 0 231 (dk_at dksX13_close_5 19 rfl rfl)
theorem dX13_close_139 : decode cX13_close 139 = .ok (.ifCond .ne 11, 3) := dk_154 0 11 (dk_at dksX13_close_6 0 rfl rfl)
theorem dX13_close_142 : decode cX13_close 142 = .ok (.aload_n 0, 1) := dk_42 (dk_at dksX13_close_6 3 rfl rfl)
theorem dX13_close_143 : decode cX13_close 143 = .ok (.bipush 22, 2) := dk_16 22 (dk_at dksX13_close_6 4 rfl rfl)
theorem dX13_close_145 : decode cX13_close 145 = .ok (.iload_n 2, 1) := dk_28 (dk_at dksX13_close_6 6 rfl rfl)
theorem dX13_close_146 : decode cX13_close 146 = .ok (.invokevirtual 177, 3) := dk_182 0 177 (dk_at dksX13_close_6 7 rfl rfl)
theorem dX13_close_149 : decode cX13_close 149 = .ok (.pop, 1) := dk_87 (dk_at dksX13_close_6 10 rfl rfl)
theorem dX13_close_150 : decode cX13_close 150 = .ok (.aload_n 0, 1) := dk_42 (dk_at dksX13_close_6 11 rfl rfl)
theorem dX13_close_151 : decode cX13_close 151 = .ok (.dup, 1) := dk_89 (dk_at dksX13_close_6 12 rfl rfl)
theorem dX13_close_152 : decode cX13_close 152 = .ok (.getfield 169, 3) := dk_180 0 169 (dk_at dksX13_close_6 13 rfl rfl)
theorem dX13_close_155 : decode cX13_close 155 = .ok (.iconst 1, 1) := dk_4 (dk_at dksX13_close_6 16 rfl rfl)
theorem dX13_close_156 : decode cX13_close 156 = .ok (.isub, 1) := dk_100 (dk_at dksX13_close_6 17 rfl rfl)
theorem dX13_close_157 : decode cX13_close 157 = .ok (.putfield 169, 3) := dk_181 0 169 (dk_at dksX13_close_6 18 rfl rfl)
theorem dX13_close_160 : decode cX13_close 160 = .ok (.return_, 1) := dk_177 (dk_at dksX13_close_6 21 rfl rfl)
abbrev cX13_missing : ByteArray := prog_8_method_19_code
def yX13_missing : MethodName := ⟨RX13, "missing", "(I)V"⟩
def dkwX13_missing_3 : List UInt8 := [16, 12, 27, 182, 0, 177, 87, 132, 2, 1, 42, 180, 0, 95, 29, 182, 0, 152, 62, 167, 255, 188, 177]
abbrev dktX13_missing_3 : List UInt8 := dkwX13_missing_3 ++ []
def dkwX13_missing_2 : List UInt8 := [42, 180, 0, 169, 4, 100, 46, 28, 16, 32, 108, 96, 46, 28, 16, 32, 112, 122, 4, 126, 154, 0, 11, 42]
abbrev dktX13_missing_2 : List UInt8 := dkwX13_missing_2 ++ dktX13_missing_3
def dkwX13_missing_1 : List UInt8 := [2, 159, 0, 69, 42, 180, 0, 95, 29, 8, 182, 0, 224, 154, 0, 42, 42, 180, 0, 61, 42, 180, 0, 58]
abbrev dktX13_missing_1 : List UInt8 := dkwX13_missing_1 ++ dktX13_missing_2
def dkwX13_missing_0 : List UInt8 := [3, 61, 42, 180, 0, 95, 42, 180, 0, 99, 42, 180, 0, 30, 27, 46, 182, 0, 140, 182, 0, 143, 62, 29]
abbrev dktX13_missing_0 : List UInt8 := dkwX13_missing_0 ++ dktX13_missing_1
theorem dksX13_missing_0 : cX13_missing.data.toList.drop 0 = dktX13_missing_0 := by decide +kernel
theorem dksX13_missing_1 : cX13_missing.data.toList.drop 24 = dktX13_missing_1 := dk_seg dksX13_missing_0 24 rfl rfl
theorem dksX13_missing_2 : cX13_missing.data.toList.drop 48 = dktX13_missing_2 := dk_seg dksX13_missing_1 24 rfl rfl
theorem dksX13_missing_3 : cX13_missing.data.toList.drop 72 = dktX13_missing_3 := dk_seg dksX13_missing_2 24 rfl rfl
theorem dX13_missing_0 : decode cX13_missing 0 = .ok (.iconst 0, 1) := dk_3 (dk_at dksX13_missing_0 0 rfl rfl)
theorem dX13_missing_1 : decode cX13_missing 1 = .ok (.istore_n 2, 1) := dk_61 (dk_at dksX13_missing_0 1 rfl rfl)
theorem dX13_missing_2 : decode cX13_missing 2 = .ok (.aload_n 0, 1) := dk_42 (dk_at dksX13_missing_0 2 rfl rfl)
theorem dX13_missing_3 : decode cX13_missing 3 = .ok (.getfield 95, 3) := dk_180 0 95 (dk_at dksX13_missing_0 3 rfl rfl)
theorem dX13_missing_6 : decode cX13_missing 6 = .ok (.aload_n 0, 1) := dk_42 (dk_at dksX13_missing_0 6 rfl rfl)
theorem dX13_missing_7 : decode cX13_missing 7 = .ok (.getfield 99, 3) := dk_180 0 99 (dk_at dksX13_missing_0 7 rfl rfl)
theorem dX13_missing_10 : decode cX13_missing 10 = .ok (.aload_n 0, 1) := dk_42 (dk_at dksX13_missing_0 10 rfl rfl)
theorem dX13_missing_11 : decode cX13_missing 11 = .ok (.getfield 30, 3) := dk_180 0 30 (dk_at dksX13_missing_0 11 rfl rfl)
theorem dX13_missing_14 : decode cX13_missing 14 = .ok (.iload_n 1, 1) := dk_27 (dk_at dksX13_missing_0 14 rfl rfl)
theorem dX13_missing_15 : decode cX13_missing 15 = .ok (.iaload, 1) := dk_46 (dk_at dksX13_missing_0 15 rfl rfl)
theorem dX13_missing_16 : decode cX13_missing 16 = .ok (.invokevirtual 140, 3) := dk_182 0 140 (dk_at dksX13_missing_0 16 rfl rfl)
theorem dX13_missing_19 : decode cX13_missing 19 = .ok (.invokevirtual 143, 3) := dk_182 0 143 (dk_at dksX13_missing_0 19 rfl rfl)
theorem dX13_missing_22 : decode cX13_missing 22 = .ok (.istore_n 3, 1) := dk_62 (dk_at dksX13_missing_0 22 rfl rfl)
theorem dX13_missing_23 : decode cX13_missing 23 = .ok (.iload_n 3, 1) := dk_29 (dk_at dksX13_missing_0 23 rfl rfl)
theorem dX13_missing_24 : decode cX13_missing 24 = .ok (.iconst (-1), 1) := dk_2 (dk_at dksX13_missing_1 0 rfl rfl)
theorem dX13_missing_25 : decode cX13_missing 25 = .ok (.if_icmp .eq 69, 3) := dk_159 0 69 (dk_at dksX13_missing_1 1 rfl rfl)
theorem dX13_missing_28 : decode cX13_missing 28 = .ok (.aload_n 0, 1) := dk_42 (dk_at dksX13_missing_1 4 rfl rfl)
theorem dX13_missing_29 : decode cX13_missing 29 = .ok (.getfield 95, 3) := dk_180 0 95 (dk_at dksX13_missing_1 5 rfl rfl)
theorem dX13_missing_32 : decode cX13_missing 32 = .ok (.iload_n 3, 1) := dk_29 (dk_at dksX13_missing_1 8 rfl rfl)
theorem dX13_missing_33 : decode cX13_missing 33 = .ok (.iconst 5, 1) := dk_8 (dk_at dksX13_missing_1 9 rfl rfl)
theorem dX13_missing_34 : decode cX13_missing 34 = .ok (.invokevirtual 224, 3) := dk_182 0 224 (dk_at dksX13_missing_1 10 rfl rfl)
theorem dX13_missing_37 : decode cX13_missing 37 = .ok (.ifCond .ne 42, 3) := dk_154 0 42 (dk_at dksX13_missing_1 13 rfl rfl)
theorem dX13_missing_40 : decode cX13_missing 40 = .ok (.aload_n 0, 1) := dk_42 (dk_at dksX13_missing_1 16 rfl rfl)
theorem dX13_missing_41 : decode cX13_missing 41 = .ok (.getfield 61, 3) := dk_180 0 61 (dk_at dksX13_missing_1 17 rfl rfl)
theorem dX13_missing_44 : decode cX13_missing 44 = .ok (.aload_n 0, 1) := dk_42 (dk_at dksX13_missing_1 20 rfl rfl)
theorem dX13_missing_45 : decode cX13_missing 45 = .ok (.getfield 58, 3) := dk_180 0 58 (dk_at dksX13_missing_1 21 rfl rfl)
theorem dX13_missing_48 : decode cX13_missing 48 = .ok (.aload_n 0, 1) := dk_42 (dk_at dksX13_missing_2 0 rfl rfl)
theorem dX13_missing_49 : decode cX13_missing 49 = .ok (.getfield 169, 3) := dk_180 0 169 (dk_at dksX13_missing_2 1 rfl rfl)
theorem dX13_missing_52 : decode cX13_missing 52 = .ok (.iconst 1, 1) := dk_4 (dk_at dksX13_missing_2 4 rfl rfl)
theorem dX13_missing_53 : decode cX13_missing 53 = .ok (.isub, 1) := dk_100 (dk_at dksX13_missing_2 5 rfl rfl)
theorem dX13_missing_54 : decode cX13_missing 54 = .ok (.iaload, 1) := dk_46 (dk_at dksX13_missing_2 6 rfl rfl)
theorem dX13_missing_55 : decode cX13_missing 55 = .ok (.iload_n 2, 1) := dk_28 (dk_at dksX13_missing_2 7 rfl rfl)
theorem dX13_missing_56 : decode cX13_missing 56 = .ok (.bipush 32, 2) := dk_16 32 (dk_at dksX13_missing_2 8 rfl rfl)
theorem dX13_missing_58 : decode cX13_missing 58 = .ok (.idiv, 1) := dk_108 (dk_at dksX13_missing_2 10 rfl rfl)
theorem dX13_missing_59 : decode cX13_missing 59 = .ok (.iadd, 1) := dk_96 (dk_at dksX13_missing_2 11 rfl rfl)
theorem dX13_missing_60 : decode cX13_missing 60 = .ok (.iaload, 1) := dk_46 (dk_at dksX13_missing_2 12 rfl rfl)
theorem dX13_missing_61 : decode cX13_missing 61 = .ok (.iload_n 2, 1) := dk_28 (dk_at dksX13_missing_2 13 rfl rfl)
theorem dX13_missing_62 : decode cX13_missing 62 = .ok (.bipush 32, 2) := dk_16 32 (dk_at dksX13_missing_2 14 rfl rfl)
theorem dX13_missing_64 : decode cX13_missing 64 = .ok (.irem, 1) := dk_112 (dk_at dksX13_missing_2 16 rfl rfl)
theorem dX13_missing_65 : decode cX13_missing 65 = .ok (.ishr, 1) := dk_122 (dk_at dksX13_missing_2 17 rfl rfl)
theorem dX13_missing_66 : decode cX13_missing 66 = .ok (.iconst 1, 1) := dk_4 (dk_at dksX13_missing_2 18 rfl rfl)
theorem dX13_missing_67 : decode cX13_missing 67 = .ok (.iand, 1) := dk_126 (dk_at dksX13_missing_2 19 rfl rfl)
theorem dX13_missing_68 : decode cX13_missing 68 = .ok (.ifCond .ne 11, 3) := dk_154 0 11 (dk_at dksX13_missing_2 20 rfl rfl)
theorem dX13_missing_71 : decode cX13_missing 71 = .ok (.aload_n 0, 1) := dk_42 (dk_at dksX13_missing_2 23 rfl rfl)
theorem dX13_missing_72 : decode cX13_missing 72 = .ok (.bipush 12, 2) := dk_16 12 (dk_at dksX13_missing_3 0 rfl rfl)
theorem dX13_missing_74 : decode cX13_missing 74 = .ok (.iload_n 1, 1) := dk_27 (dk_at dksX13_missing_3 2 rfl rfl)
theorem dX13_missing_75 : decode cX13_missing 75 = .ok (.invokevirtual 177, 3) := dk_182 0 177 (dk_at dksX13_missing_3 3 rfl rfl)
theorem dX13_missing_78 : decode cX13_missing 78 = .ok (.pop, 1) := dk_87 (dk_at dksX13_missing_3 6 rfl rfl)
theorem dX13_missing_79 : decode cX13_missing 79 = .ok (.iinc 2 1, 3) := dk_132 2 1 (dk_at dksX13_missing_3 7 rfl rfl)
theorem dX13_missing_82 : decode cX13_missing 82 = .ok (.aload_n 0, 1) := dk_42 (dk_at dksX13_missing_3 10 rfl rfl)
theorem dX13_missing_83 : decode cX13_missing 83 = .ok (.getfield 95, 3) := dk_180 0 95 (dk_at dksX13_missing_3 11 rfl rfl)
theorem dX13_missing_86 : decode cX13_missing 86 = .ok (.iload_n 3, 1) := dk_29 (dk_at dksX13_missing_3 14 rfl rfl)
theorem dX13_missing_87 : decode cX13_missing 87 = .ok (.invokevirtual 152, 3) := dk_182 0 152 (dk_at dksX13_missing_3 15 rfl rfl)
theorem dX13_missing_90 : decode cX13_missing 90 = .ok (.istore_n 3, 1) := dk_62 (dk_at dksX13_missing_3 18 rfl rfl)
theorem dX13_missing_91 : decode cX13_missing 91 = .ok (.goto (-68), 3) := dk_167 255 188 (dk_at dksX13_missing_3 19 rfl rfl)
theorem dX13_missing_94 : decode cX13_missing 94 = .ok (.return_, 1) := dk_177 (dk_at dksX13_missing_3 22 rfl rfl)
abbrev cX13_child : ByteArray := prog_8_method_13_code
def yX13_child : MethodName := ⟨RX13, "child", "(II)I"⟩
def dkwX13_child_5 : List UInt8 := [2, 27, 182, 0, 181, 172]
abbrev dktX13_child_5 : List UInt8 := dkwX13_child_5 ++ []
def dkwX13_child_4 : List UInt8 := [182, 0, 174, 54, 5, 21, 5, 2, 160, 0, 11, 42, 28, 182, 0, 221, 167, 0, 13, 42, 28, 21, 5, 3]
abbrev dktX13_child_4 : List UInt8 := dkwX13_child_4 ++ dktX13_child_5
def dkwX13_child_3 : List UInt8 := [42, 180, 0, 99, 42, 180, 0, 30, 27, 46, 182, 0, 140, 182, 0, 143, 42, 180, 0, 110, 28, 182, 0, 172]
abbrev dktX13_child_3 : List UInt8 := dkwX13_child_3 ++ dktX13_child_4
def dkwX13_child_2 : List UInt8 := [28, 182, 0, 215, 172, 21, 4, 16, 13, 160, 0, 10, 42, 27, 28, 182, 0, 218, 172, 42, 42, 180, 0, 95]
abbrev dktX13_child_2 : List UInt8 := dkwX13_child_2 ++ dktX13_child_3
def dkwX13_child_1 : List UInt8 := [42, 27, 182, 0, 194, 153, 0, 10, 42, 27, 28, 182, 0, 212, 172, 21, 4, 16, 12, 160, 0, 10, 42, 27]
abbrev dktX13_child_1 : List UInt8 := dkwX13_child_1 ++ dktX13_child_2
def dkwX13_child_0 : List UInt8 := [42, 180, 0, 169, 4, 100, 62, 42, 180, 0, 55, 29, 92, 46, 4, 96, 79, 42, 27, 182, 0, 158, 54, 4]
abbrev dktX13_child_0 : List UInt8 := dkwX13_child_0 ++ dktX13_child_1
theorem dksX13_child_0 : cX13_child.data.toList.drop 0 = dktX13_child_0 := by decide +kernel
theorem dksX13_child_1 : cX13_child.data.toList.drop 24 = dktX13_child_1 := dk_seg dksX13_child_0 24 rfl rfl
theorem dksX13_child_2 : cX13_child.data.toList.drop 48 = dktX13_child_2 := dk_seg dksX13_child_1 24 rfl rfl
theorem dksX13_child_3 : cX13_child.data.toList.drop 72 = dktX13_child_3 := dk_seg dksX13_child_2 24 rfl rfl
theorem dksX13_child_4 : cX13_child.data.toList.drop 96 = dktX13_child_4 := dk_seg dksX13_child_3 24 rfl rfl
theorem dksX13_child_5 : cX13_child.data.toList.drop 120 = dktX13_child_5 := dk_seg dksX13_child_4 24 rfl rfl
theorem dX13_child_0 : decode cX13_child 0 = .ok (.aload_n 0, 1) := dk_42 (dk_at dksX13_child_0 0 rfl rfl)
theorem dX13_child_1 : decode cX13_child 1 = .ok (.getfield 169, 3) := dk_180 0 169 (dk_at dksX13_child_0 1 rfl rfl)
theorem dX13_child_4 : decode cX13_child 4 = .ok (.iconst 1, 1) := dk_4 (dk_at dksX13_child_0 4 rfl rfl)
theorem dX13_child_5 : decode cX13_child 5 = .ok (.isub, 1) := dk_100 (dk_at dksX13_child_0 5 rfl rfl)
theorem dX13_child_6 : decode cX13_child 6 = .ok (.istore_n 3, 1) := dk_62 (dk_at dksX13_child_0 6 rfl rfl)
theorem dX13_child_7 : decode cX13_child 7 = .ok (.aload_n 0, 1) := dk_42 (dk_at dksX13_child_0 7 rfl rfl)
theorem dX13_child_8 : decode cX13_child 8 = .ok (.getfield 55, 3) := dk_180 0 55 (dk_at dksX13_child_0 8 rfl rfl)
theorem dX13_child_11 : decode cX13_child 11 = .ok (.iload_n 3, 1) := dk_29 (dk_at dksX13_child_0 11 rfl rfl)
theorem dX13_child_12 : decode cX13_child 12 = .ok (.dup2, 1) := dk_92 (dk_at dksX13_child_0 12 rfl rfl)
theorem dX13_child_13 : decode cX13_child 13 = .ok (.iaload, 1) := dk_46 (dk_at dksX13_child_0 13 rfl rfl)
theorem dX13_child_14 : decode cX13_child 14 = .ok (.iconst 1, 1) := dk_4 (dk_at dksX13_child_0 14 rfl rfl)
theorem dX13_child_15 : decode cX13_child 15 = .ok (.iadd, 1) := dk_96 (dk_at dksX13_child_0 15 rfl rfl)
theorem dX13_child_16 : decode cX13_child 16 = .ok (.iastore, 1) := dk_79 (dk_at dksX13_child_0 16 rfl rfl)
theorem dX13_child_17 : decode cX13_child 17 = .ok (.aload_n 0, 1) := dk_42 (dk_at dksX13_child_0 17 rfl rfl)
theorem dX13_child_18 : decode cX13_child 18 = .ok (.iload_n 1, 1) := dk_27 (dk_at dksX13_child_0 18 rfl rfl)
theorem dX13_child_19 : decode cX13_child 19 = .ok (.invokevirtual 158, 3) := dk_182 0 158 (dk_at dksX13_child_0 19 rfl rfl)
theorem dX13_child_22 : decode cX13_child 22 = .ok (.istore 4, 2) := dk_54 4 (dk_at dksX13_child_0 22 rfl rfl)
theorem dX13_child_24 : decode cX13_child 24 = .ok (.aload_n 0, 1) := dk_42 (dk_at dksX13_child_1 0 rfl rfl)
theorem dX13_child_25 : decode cX13_child 25 = .ok (.iload_n 1, 1) := dk_27 (dk_at dksX13_child_1 1 rfl rfl)
theorem dX13_child_26 : decode cX13_child 26 = .ok (.invokevirtual 194, 3) := dk_182 0 194 (dk_at dksX13_child_1 2 rfl rfl)
theorem dX13_child_29 : decode cX13_child 29 = .ok (.ifCond .eq 10, 3) := dk_153 0 10 (dk_at dksX13_child_1 5 rfl rfl)
theorem dX13_child_32 : decode cX13_child 32 = .ok (.aload_n 0, 1) := dk_42 (dk_at dksX13_child_1 8 rfl rfl)
theorem dX13_child_33 : decode cX13_child 33 = .ok (.iload_n 1, 1) := dk_27 (dk_at dksX13_child_1 9 rfl rfl)
theorem dX13_child_34 : decode cX13_child 34 = .ok (.iload_n 2, 1) := dk_28 (dk_at dksX13_child_1 10 rfl rfl)
theorem dX13_child_35 : decode cX13_child 35 = .ok (.invokevirtual 212, 3) := dk_182 0 212 (dk_at dksX13_child_1 11 rfl rfl)
theorem dX13_child_38 : decode cX13_child 38 = .ok (.ireturn, 1) := dk_172 (dk_at dksX13_child_1 14 rfl rfl)
theorem dX13_child_39 : decode cX13_child 39 = .ok (.iload 4, 2) := dk_21 4 (dk_at dksX13_child_1 15 rfl rfl)
theorem dX13_child_41 : decode cX13_child 41 = .ok (.bipush 12, 2) := dk_16 12 (dk_at dksX13_child_1 17 rfl rfl)
theorem dX13_child_43 : decode cX13_child 43 = .ok (.if_icmp .ne 10, 3) := dk_160 0 10 (dk_at dksX13_child_1 19 rfl rfl)
theorem dX13_child_46 : decode cX13_child 46 = .ok (.aload_n 0, 1) := dk_42 (dk_at dksX13_child_1 22 rfl rfl)
theorem dX13_child_47 : decode cX13_child 47 = .ok (.iload_n 1, 1) := dk_27 (dk_at dksX13_child_1 23 rfl rfl)
theorem dX13_child_48 : decode cX13_child 48 = .ok (.iload_n 2, 1) := dk_28 (dk_at dksX13_child_2 0 rfl rfl)
theorem dX13_child_49 : decode cX13_child 49 = .ok (.invokevirtual 215, 3) := dk_182 0 215 (dk_at dksX13_child_2 1 rfl rfl)
theorem dX13_child_52 : decode cX13_child 52 = .ok (.ireturn, 1) := dk_172 (dk_at dksX13_child_2 4 rfl rfl)
theorem dX13_child_53 : decode cX13_child 53 = .ok (.iload 4, 2) := dk_21 4 (dk_at dksX13_child_2 5 rfl rfl)
theorem dX13_child_55 : decode cX13_child 55 = .ok (.bipush 13, 2) := dk_16 13 (dk_at dksX13_child_2 7 rfl rfl)
theorem dX13_child_57 : decode cX13_child 57 = .ok (.if_icmp .ne 10, 3) := dk_160 0 10 (dk_at dksX13_child_2 9 rfl rfl)
theorem dX13_child_60 : decode cX13_child 60 = .ok (.aload_n 0, 1) := dk_42 (dk_at dksX13_child_2 12 rfl rfl)
theorem dX13_child_61 : decode cX13_child 61 = .ok (.iload_n 1, 1) := dk_27 (dk_at dksX13_child_2 13 rfl rfl)
theorem dX13_child_62 : decode cX13_child 62 = .ok (.iload_n 2, 1) := dk_28 (dk_at dksX13_child_2 14 rfl rfl)
theorem dX13_child_63 : decode cX13_child 63 = .ok (.invokevirtual 218, 3) := dk_182 0 218 (dk_at dksX13_child_2 15 rfl rfl)
theorem dX13_child_66 : decode cX13_child 66 = .ok (.ireturn, 1) := dk_172 (dk_at dksX13_child_2 18 rfl rfl)
theorem dX13_child_67 : decode cX13_child 67 = .ok (.aload_n 0, 1) := dk_42 (dk_at dksX13_child_2 19 rfl rfl)
theorem dX13_child_68 : decode cX13_child 68 = .ok (.aload_n 0, 1) := dk_42 (dk_at dksX13_child_2 20 rfl rfl)
theorem dX13_child_69 : decode cX13_child 69 = .ok (.getfield 95, 3) := dk_180 0 95 (dk_at dksX13_child_2 21 rfl rfl)
theorem dX13_child_72 : decode cX13_child 72 = .ok (.aload_n 0, 1) := dk_42 (dk_at dksX13_child_3 0 rfl rfl)
theorem dX13_child_73 : decode cX13_child 73 = .ok (.getfield 99, 3) := dk_180 0 99 (dk_at dksX13_child_3 1 rfl rfl)
theorem dX13_child_76 : decode cX13_child 76 = .ok (.aload_n 0, 1) := dk_42 (dk_at dksX13_child_3 4 rfl rfl)
theorem dX13_child_77 : decode cX13_child 77 = .ok (.getfield 30, 3) := dk_180 0 30 (dk_at dksX13_child_3 5 rfl rfl)
theorem dX13_child_80 : decode cX13_child 80 = .ok (.iload_n 1, 1) := dk_27 (dk_at dksX13_child_3 8 rfl rfl)
theorem dX13_child_81 : decode cX13_child 81 = .ok (.iaload, 1) := dk_46 (dk_at dksX13_child_3 9 rfl rfl)
theorem dX13_child_82 : decode cX13_child 82 = .ok (.invokevirtual 140, 3) := dk_182 0 140 (dk_at dksX13_child_3 10 rfl rfl)
theorem dX13_child_85 : decode cX13_child 85 = .ok (.invokevirtual 143, 3) := dk_182 0 143 (dk_at dksX13_child_3 13 rfl rfl)
theorem dX13_child_88 : decode cX13_child 88 = .ok (.aload_n 0, 1) := dk_42 (dk_at dksX13_child_3 16 rfl rfl)
theorem dX13_child_89 : decode cX13_child 89 = .ok (.getfield 110, 3) := dk_180 0 110 (dk_at dksX13_child_3 17 rfl rfl)
theorem dX13_child_92 : decode cX13_child 92 = .ok (.iload_n 2, 1) := dk_28 (dk_at dksX13_child_3 20 rfl rfl)
theorem dX13_child_93 : decode cX13_child 93 = .ok (.invokevirtual 172, 3) := dk_182 0 172 (dk_at dksX13_child_3 21 rfl rfl)
theorem dX13_child_96 : decode cX13_child 96 = .ok (.invokevirtual 174, 3) := dk_182 0 174 (dk_at dksX13_child_4 0 rfl rfl)
theorem dX13_child_99 : decode cX13_child 99 = .ok (.istore 5, 2) := dk_54 5 (dk_at dksX13_child_4 3 rfl rfl)
theorem dX13_child_101 : decode cX13_child 101 = .ok (.iload 5, 2) := dk_21 5 (dk_at dksX13_child_4 5 rfl rfl)
theorem dX13_child_103 : decode cX13_child 103 = .ok (.iconst (-1), 1) := dk_2 (dk_at dksX13_child_4 7 rfl rfl)
theorem dX13_child_104 : decode cX13_child 104 = .ok (.if_icmp .ne 11, 3) := dk_160 0 11 (dk_at dksX13_child_4 8 rfl rfl)
theorem dX13_child_107 : decode cX13_child 107 = .ok (.aload_n 0, 1) := dk_42 (dk_at dksX13_child_4 11 rfl rfl)
theorem dX13_child_108 : decode cX13_child 108 = .ok (.iload_n 2, 1) := dk_28 (dk_at dksX13_child_4 12 rfl rfl)
theorem dX13_child_109 : decode cX13_child 109 = .ok (.invokevirtual 221, 3) := dk_182 0 221 (dk_at dksX13_child_4 13 rfl rfl)
theorem dX13_child_112 : decode cX13_child 112 = .ok (.goto 13, 3) := dk_167 0 13 (dk_at dksX13_child_4 16 rfl rfl)
theorem dX13_child_115 : decode cX13_child 115 = .ok (.aload_n 0, 1) := dk_42 (dk_at dksX13_child_4 19 rfl rfl)
theorem dX13_child_116 : decode cX13_child 116 = .ok (.iload_n 2, 1) := dk_28 (dk_at dksX13_child_4 20 rfl rfl)
theorem dX13_child_117 : decode cX13_child 117 = .ok (.iload 5, 2) := dk_21 5 (dk_at dksX13_child_4 21 rfl rfl)
theorem dX13_child_119 : decode cX13_child 119 = .ok (.iconst 0, 1) := dk_3 (dk_at dksX13_child_4 23 rfl rfl)
theorem dX13_child_120 : decode cX13_child 120 = .ok (.iconst (-1), 1) := dk_2 (dk_at dksX13_child_5 0 rfl rfl)
theorem dX13_child_121 : decode cX13_child 121 = .ok (.iload_n 1, 1) := dk_27 (dk_at dksX13_child_5 1 rfl rfl)
theorem dX13_child_122 : decode cX13_child 122 = .ok (.invokevirtual 181, 3) := dk_182 0 181 (dk_at dksX13_child_5 2 rfl rfl)
theorem dX13_child_125 : decode cX13_child 125 = .ok (.ireturn, 1) := dk_172 (dk_at dksX13_child_5 5 rfl rfl)
abbrev cX13_inner : ByteArray := prog_8_method_15_code
def yX13_inner : MethodName := ⟨RX13, "inner", "(II)I"⟩
def dkwX13_inner_7 : List UInt8 := [180, 0, 95, 21, 6, 182, 0, 152, 54, 6, 167, 255, 199, 42, 28, 182, 0, 221, 172]
abbrev dktX13_inner_7 : List UInt8 := dkwX13_inner_7 ++ []
def dkwX13_inner_6 : List UInt8 := [182, 0, 174, 54, 7, 21, 7, 2, 159, 0, 14, 42, 28, 21, 7, 3, 2, 27, 182, 0, 181, 172, 42]
abbrev dktX13_inner_6 : List UInt8 := dkwX13_inner_6 ++ dktX13_inner_7
def dkwX13_inner_5 : List UInt8 := [2, 159, 0, 57, 42, 42, 180, 0, 95, 21, 6, 182, 0, 143, 42, 180, 0, 110, 28, 182, 0, 172]
abbrev dktX13_inner_5 : List UInt8 := dkwX13_inner_5 ++ dktX13_inner_6
def dkwX13_inner_4 : List UInt8 := [172, 42, 180, 0, 99, 29, 182, 0, 140, 54, 5, 42, 180, 0, 95, 21, 5, 182, 0, 143, 54, 6, 21, 6]
abbrev dktX13_inner_4 : List UInt8 := dkwX13_inner_4 ++ dktX13_inner_5
def dkwX13_inner_3 : List UInt8 := [182, 0, 172, 160, 0, 16, 42, 28, 29, 21, 4, 2, 27, 182, 0, 181, 167, 0, 8, 42, 28, 182, 0, 221]
abbrev dktX13_inner_3 : List UInt8 := dkwX13_inner_3 ++ dktX13_inner_4
def dkwX13_inner_2 : List UInt8 := [29, 182, 0, 132, 162, 0, 43, 42, 180, 0, 99, 29, 21, 4, 182, 0, 137, 42, 180, 0, 110, 28]
abbrev dktX13_inner_2 : List UInt8 := dkwX13_inner_2 ++ dktX13_inner_3
def dkwX13_inner_1 : List UInt8 := [172, 42, 180, 0, 30, 27, 46, 62, 42, 180, 0, 34, 27, 46, 4, 96, 54, 4, 21, 4, 42, 180, 0, 99]
abbrev dktX13_inner_1 : List UInt8 := dkwX13_inner_1 ++ dktX13_inner_2
def dkwX13_inner_0 : List UInt8 := [42, 180, 0, 55, 42, 180, 0, 169, 4, 100, 46, 4, 164, 0, 13, 42, 16, 15, 27, 182, 0, 177, 87, 28]
abbrev dktX13_inner_0 : List UInt8 := dkwX13_inner_0 ++ dktX13_inner_1
theorem dksX13_inner_0 : cX13_inner.data.toList.drop 0 = dktX13_inner_0 := by decide +kernel
theorem dksX13_inner_1 : cX13_inner.data.toList.drop 24 = dktX13_inner_1 := dk_seg dksX13_inner_0 24 rfl rfl
theorem dksX13_inner_2 : cX13_inner.data.toList.drop 48 = dktX13_inner_2 := dk_seg dksX13_inner_1 24 rfl rfl
theorem dksX13_inner_3 : cX13_inner.data.toList.drop 70 = dktX13_inner_3 := dk_seg dksX13_inner_2 22 rfl rfl
theorem dksX13_inner_4 : cX13_inner.data.toList.drop 94 = dktX13_inner_4 := dk_seg dksX13_inner_3 24 rfl rfl
theorem dksX13_inner_5 : cX13_inner.data.toList.drop 118 = dktX13_inner_5 := dk_seg dksX13_inner_4 24 rfl rfl
theorem dksX13_inner_6 : cX13_inner.data.toList.drop 140 = dktX13_inner_6 := dk_seg dksX13_inner_5 22 rfl rfl
theorem dksX13_inner_7 : cX13_inner.data.toList.drop 163 = dktX13_inner_7 := dk_seg dksX13_inner_6 23 rfl rfl
theorem dX13_inner_0 : decode cX13_inner 0 = .ok (.aload_n 0, 1) := dk_42 (dk_at dksX13_inner_0 0 rfl rfl)
theorem dX13_inner_1 : decode cX13_inner 1 = .ok (.getfield 55, 3) := dk_180 0 55 (dk_at dksX13_inner_0 1 rfl rfl)
theorem dX13_inner_4 : decode cX13_inner 4 = .ok (.aload_n 0, 1) := dk_42 (dk_at dksX13_inner_0 4 rfl rfl)
theorem dX13_inner_5 : decode cX13_inner 5 = .ok (.getfield 169, 3) := dk_180 0 169 (dk_at dksX13_inner_0 5 rfl rfl)
theorem dX13_inner_8 : decode cX13_inner 8 = .ok (.iconst 1, 1) := dk_4 (dk_at dksX13_inner_0 8 rfl rfl)
theorem dX13_inner_9 : decode cX13_inner 9 = .ok (.isub, 1) := dk_100 (dk_at dksX13_inner_0 9 rfl rfl)
theorem dX13_inner_10 : decode cX13_inner 10 = .ok (.iaload, 1) := dk_46 (dk_at dksX13_inner_0 10 rfl rfl)
theorem dX13_inner_11 : decode cX13_inner 11 = .ok (.iconst 1, 1) := dk_4 (dk_at dksX13_inner_0 11 rfl rfl)
theorem dX13_inner_12 : decode cX13_inner 12 = .ok (.if_icmp .le 13, 3) := dk_164 0 13 (dk_at dksX13_inner_0 12 rfl rfl)
theorem dX13_inner_15 : decode cX13_inner 15 = .ok (.aload_n 0, 1) := dk_42 (dk_at dksX13_inner_0 15 rfl rfl)
theorem dX13_inner_16 : decode cX13_inner 16 = .ok (.bipush 15, 2) := dk_16 15 (dk_at dksX13_inner_0 16 rfl rfl)
theorem dX13_inner_18 : decode cX13_inner 18 = .ok (.iload_n 1, 1) := dk_27 (dk_at dksX13_inner_0 18 rfl rfl)
theorem dX13_inner_19 : decode cX13_inner 19 = .ok (.invokevirtual 177, 3) := dk_182 0 177 (dk_at dksX13_inner_0 19 rfl rfl)
theorem dX13_inner_22 : decode cX13_inner 22 = .ok (.pop, 1) := dk_87 (dk_at dksX13_inner_0 22 rfl rfl)
theorem dX13_inner_23 : decode cX13_inner 23 = .ok (.iload_n 2, 1) := dk_28 (dk_at dksX13_inner_0 23 rfl rfl)
theorem dX13_inner_24 : decode cX13_inner 24 = .ok (.ireturn, 1) := dk_172 (dk_at dksX13_inner_1 0 rfl rfl)
theorem dX13_inner_25 : decode cX13_inner 25 = .ok (.aload_n 0, 1) := dk_42 (dk_at dksX13_inner_1 1 rfl rfl)
theorem dX13_inner_26 : decode cX13_inner 26 = .ok (.getfield 30, 3) := dk_180 0 30 (dk_at dksX13_inner_1 2 rfl rfl)
theorem dX13_inner_29 : decode cX13_inner 29 = .ok (.iload_n 1, 1) := dk_27 (dk_at dksX13_inner_1 5 rfl rfl)
theorem dX13_inner_30 : decode cX13_inner 30 = .ok (.iaload, 1) := dk_46 (dk_at dksX13_inner_1 6 rfl rfl)
theorem dX13_inner_31 : decode cX13_inner 31 = .ok (.istore_n 3, 1) := dk_62 (dk_at dksX13_inner_1 7 rfl rfl)
theorem dX13_inner_32 : decode cX13_inner 32 = .ok (.aload_n 0, 1) := dk_42 (dk_at dksX13_inner_1 8 rfl rfl)
theorem dX13_inner_33 : decode cX13_inner 33 = .ok (.getfield 34, 3) := dk_180 0 34 (dk_at dksX13_inner_1 9 rfl rfl)
theorem dX13_inner_36 : decode cX13_inner 36 = .ok (.iload_n 1, 1) := dk_27 (dk_at dksX13_inner_1 12 rfl rfl)
theorem dX13_inner_37 : decode cX13_inner 37 = .ok (.iaload, 1) := dk_46 (dk_at dksX13_inner_1 13 rfl rfl)
theorem dX13_inner_38 : decode cX13_inner 38 = .ok (.iconst 1, 1) := dk_4 (dk_at dksX13_inner_1 14 rfl rfl)
theorem dX13_inner_39 : decode cX13_inner 39 = .ok (.iadd, 1) := dk_96 (dk_at dksX13_inner_1 15 rfl rfl)
theorem dX13_inner_40 : decode cX13_inner 40 = .ok (.istore 4, 2) := dk_54 4 (dk_at dksX13_inner_1 16 rfl rfl)
theorem dX13_inner_42 : decode cX13_inner 42 = .ok (.iload 4, 2) := dk_21 4 (dk_at dksX13_inner_1 18 rfl rfl)
theorem dX13_inner_44 : decode cX13_inner 44 = .ok (.aload_n 0, 1) := dk_42 (dk_at dksX13_inner_1 20 rfl rfl)
theorem dX13_inner_45 : decode cX13_inner 45 = .ok (.getfield 99, 3) := dk_180 0 99 (dk_at dksX13_inner_1 21 rfl rfl)
theorem dX13_inner_48 : decode cX13_inner 48 = .ok (.iload_n 3, 1) := dk_29 (dk_at dksX13_inner_2 0 rfl rfl)
theorem dX13_inner_49 : decode cX13_inner 49 = .ok (.invokevirtual 132, 3) := dk_182 0 132 (dk_at dksX13_inner_2 1 rfl rfl)
theorem dX13_inner_52 : decode cX13_inner 52 = .ok (.if_icmp .ge 43, 3) := dk_162 0 43 (dk_at dksX13_inner_2 4 rfl rfl)
theorem dX13_inner_55 : decode cX13_inner 55 = .ok (.aload_n 0, 1) := dk_42 (dk_at dksX13_inner_2 7 rfl rfl)
theorem dX13_inner_56 : decode cX13_inner 56 = .ok (.getfield 99, 3) := dk_180 0 99 (dk_at dksX13_inner_2 8 rfl rfl)
theorem dX13_inner_59 : decode cX13_inner 59 = .ok (.iload_n 3, 1) := dk_29 (dk_at dksX13_inner_2 11 rfl rfl)
theorem dX13_inner_60 : decode cX13_inner 60 = .ok (.iload 4, 2) := dk_21 4 (dk_at dksX13_inner_2 12 rfl rfl)
theorem dX13_inner_62 : decode cX13_inner 62 = .ok (.invokevirtual 137, 3) := dk_182 0 137 (dk_at dksX13_inner_2 14 rfl rfl)
theorem dX13_inner_65 : decode cX13_inner 65 = .ok (.aload_n 0, 1) := dk_42 (dk_at dksX13_inner_2 17 rfl rfl)
theorem dX13_inner_66 : decode cX13_inner 66 = .ok (.getfield 110, 3) := dk_180 0 110 (dk_at dksX13_inner_2 18 rfl rfl)
theorem dX13_inner_69 : decode cX13_inner 69 = .ok (.iload_n 2, 1) := dk_28 (dk_at dksX13_inner_2 21 rfl rfl)
theorem dX13_inner_70 : decode cX13_inner 70 = .ok (.invokevirtual 172, 3) := dk_182 0 172 (dk_at dksX13_inner_3 0 rfl rfl)
theorem dX13_inner_73 : decode cX13_inner 73 = .ok (.if_icmp .ne 16, 3) := dk_160 0 16 (dk_at dksX13_inner_3 3 rfl rfl)
theorem dX13_inner_76 : decode cX13_inner 76 = .ok (.aload_n 0, 1) := dk_42 (dk_at dksX13_inner_3 6 rfl rfl)
theorem dX13_inner_77 : decode cX13_inner 77 = .ok (.iload_n 2, 1) := dk_28 (dk_at dksX13_inner_3 7 rfl rfl)
theorem dX13_inner_78 : decode cX13_inner 78 = .ok (.iload_n 3, 1) := dk_29 (dk_at dksX13_inner_3 8 rfl rfl)
theorem dX13_inner_79 : decode cX13_inner 79 = .ok (.iload 4, 2) := dk_21 4 (dk_at dksX13_inner_3 9 rfl rfl)
theorem dX13_inner_81 : decode cX13_inner 81 = .ok (.iconst (-1), 1) := dk_2 (dk_at dksX13_inner_3 11 rfl rfl)
theorem dX13_inner_82 : decode cX13_inner 82 = .ok (.iload_n 1, 1) := dk_27 (dk_at dksX13_inner_3 12 rfl rfl)
theorem dX13_inner_83 : decode cX13_inner 83 = .ok (.invokevirtual 181, 3) := dk_182 0 181 (dk_at dksX13_inner_3 13 rfl rfl)
theorem dX13_inner_86 : decode cX13_inner 86 = .ok (.goto 8, 3) := dk_167 0 8 (dk_at dksX13_inner_3 16 rfl rfl)
theorem dX13_inner_89 : decode cX13_inner 89 = .ok (.aload_n 0, 1) := dk_42 (dk_at dksX13_inner_3 19 rfl rfl)
theorem dX13_inner_90 : decode cX13_inner 90 = .ok (.iload_n 2, 1) := dk_28 (dk_at dksX13_inner_3 20 rfl rfl)
theorem dX13_inner_91 : decode cX13_inner 91 = .ok (.invokevirtual 221, 3) := dk_182 0 221 (dk_at dksX13_inner_3 21 rfl rfl)
theorem dX13_inner_94 : decode cX13_inner 94 = .ok (.ireturn, 1) := dk_172 (dk_at dksX13_inner_4 0 rfl rfl)
theorem dX13_inner_95 : decode cX13_inner 95 = .ok (.aload_n 0, 1) := dk_42 (dk_at dksX13_inner_4 1 rfl rfl)
theorem dX13_inner_96 : decode cX13_inner 96 = .ok (.getfield 99, 3) := dk_180 0 99 (dk_at dksX13_inner_4 2 rfl rfl)
theorem dX13_inner_99 : decode cX13_inner 99 = .ok (.iload_n 3, 1) := dk_29 (dk_at dksX13_inner_4 5 rfl rfl)
theorem dX13_inner_100 : decode cX13_inner 100 = .ok (.invokevirtual 140, 3) := dk_182 0 140 (dk_at dksX13_inner_4 6 rfl rfl)
theorem dX13_inner_103 : decode cX13_inner 103 = .ok (.istore 5, 2) := dk_54 5 (dk_at dksX13_inner_4 9 rfl rfl)
theorem dX13_inner_105 : decode cX13_inner 105 = .ok (.aload_n 0, 1) := dk_42 (dk_at dksX13_inner_4 11 rfl rfl)
theorem dX13_inner_106 : decode cX13_inner 106 = .ok (.getfield 95, 3) := dk_180 0 95 (dk_at dksX13_inner_4 12 rfl rfl)
theorem dX13_inner_109 : decode cX13_inner 109 = .ok (.iload 5, 2) := dk_21 5 (dk_at dksX13_inner_4 15 rfl rfl)
theorem dX13_inner_111 : decode cX13_inner 111 = .ok (.invokevirtual 143, 3) := dk_182 0 143 (dk_at dksX13_inner_4 17 rfl rfl)
theorem dX13_inner_114 : decode cX13_inner 114 = .ok (.istore 6, 2) := dk_54 6 (dk_at dksX13_inner_4 20 rfl rfl)
theorem dX13_inner_116 : decode cX13_inner 116 = .ok (.iload 6, 2) := dk_21 6 (dk_at dksX13_inner_4 22 rfl rfl)
theorem dX13_inner_118 : decode cX13_inner 118 = .ok (.iconst (-1), 1) := dk_2 (dk_at dksX13_inner_5 0 rfl rfl)
theorem dX13_inner_119 : decode cX13_inner 119 = .ok (.if_icmp .eq 57, 3) := dk_159 0 57 (dk_at dksX13_inner_5 1 rfl rfl)
theorem dX13_inner_122 : decode cX13_inner 122 = .ok (.aload_n 0, 1) := dk_42 (dk_at dksX13_inner_5 4 rfl rfl)
theorem dX13_inner_123 : decode cX13_inner 123 = .ok (.aload_n 0, 1) := dk_42 (dk_at dksX13_inner_5 5 rfl rfl)
theorem dX13_inner_124 : decode cX13_inner 124 = .ok (.getfield 95, 3) := dk_180 0 95 (dk_at dksX13_inner_5 6 rfl rfl)
theorem dX13_inner_127 : decode cX13_inner 127 = .ok (.iload 6, 2) := dk_21 6 (dk_at dksX13_inner_5 9 rfl rfl)
theorem dX13_inner_129 : decode cX13_inner 129 = .ok (.invokevirtual 143, 3) := dk_182 0 143 (dk_at dksX13_inner_5 11 rfl rfl)
theorem dX13_inner_132 : decode cX13_inner 132 = .ok (.aload_n 0, 1) := dk_42 (dk_at dksX13_inner_5 14 rfl rfl)
theorem dX13_inner_133 : decode cX13_inner 133 = .ok (.getfield 110, 3) := dk_180 0 110 (dk_at dksX13_inner_5 15 rfl rfl)
theorem dX13_inner_136 : decode cX13_inner 136 = .ok (.iload_n 2, 1) := dk_28 (dk_at dksX13_inner_5 18 rfl rfl)
theorem dX13_inner_137 : decode cX13_inner 137 = .ok (.invokevirtual 172, 3) := dk_182 0 172 (dk_at dksX13_inner_5 19 rfl rfl)
theorem dX13_inner_140 : decode cX13_inner 140 = .ok (.invokevirtual 174, 3) := dk_182 0 174 (dk_at dksX13_inner_6 0 rfl rfl)
theorem dX13_inner_143 : decode cX13_inner 143 = .ok (.istore 7, 2) := dk_54 7 (dk_at dksX13_inner_6 3 rfl rfl)
theorem dX13_inner_145 : decode cX13_inner 145 = .ok (.iload 7, 2) := dk_21 7 (dk_at dksX13_inner_6 5 rfl rfl)
theorem dX13_inner_147 : decode cX13_inner 147 = .ok (.iconst (-1), 1) := dk_2 (dk_at dksX13_inner_6 7 rfl rfl)
theorem dX13_inner_148 : decode cX13_inner 148 = .ok (.if_icmp .eq 14, 3) := dk_159 0 14 (dk_at dksX13_inner_6 8 rfl rfl)
theorem dX13_inner_151 : decode cX13_inner 151 = .ok (.aload_n 0, 1) := dk_42 (dk_at dksX13_inner_6 11 rfl rfl)
theorem dX13_inner_152 : decode cX13_inner 152 = .ok (.iload_n 2, 1) := dk_28 (dk_at dksX13_inner_6 12 rfl rfl)
theorem dX13_inner_153 : decode cX13_inner 153 = .ok (.iload 7, 2) := dk_21 7 (dk_at dksX13_inner_6 13 rfl rfl)
theorem dX13_inner_155 : decode cX13_inner 155 = .ok (.iconst 0, 1) := dk_3 (dk_at dksX13_inner_6 15 rfl rfl)
theorem dX13_inner_156 : decode cX13_inner 156 = .ok (.iconst (-1), 1) := dk_2 (dk_at dksX13_inner_6 16 rfl rfl)
theorem dX13_inner_157 : decode cX13_inner 157 = .ok (.iload_n 1, 1) := dk_27 (dk_at dksX13_inner_6 17 rfl rfl)
theorem dX13_inner_158 : decode cX13_inner 158 = .ok (.invokevirtual 181, 3) := dk_182 0 181 (dk_at dksX13_inner_6 18 rfl rfl)
theorem dX13_inner_161 : decode cX13_inner 161 = .ok (.ireturn, 1) := dk_172 (dk_at dksX13_inner_6 21 rfl rfl)
theorem dX13_inner_162 : decode cX13_inner 162 = .ok (.aload_n 0, 1) := dk_42 (dk_at dksX13_inner_6 22 rfl rfl)
theorem dX13_inner_163 : decode cX13_inner 163 = .ok (.getfield 95, 3) := dk_180 0 95 (dk_at dksX13_inner_7 0 rfl rfl)
theorem dX13_inner_166 : decode cX13_inner 166 = .ok (.iload 6, 2) := dk_21 6 (dk_at dksX13_inner_7 3 rfl rfl)
theorem dX13_inner_168 : decode cX13_inner 168 = .ok (.invokevirtual 152, 3) := dk_182 0 152 (dk_at dksX13_inner_7 5 rfl rfl)
theorem dX13_inner_171 : decode cX13_inner 171 = .ok (.istore 6, 2) := dk_54 6 (dk_at dksX13_inner_7 8 rfl rfl)
theorem dX13_inner_173 : decode cX13_inner 173 = .ok (.goto (-57), 3) := dk_167 255 199 (dk_at dksX13_inner_7 10 rfl rfl)
theorem dX13_inner_176 : decode cX13_inner 176 = .ok (.aload_n 0, 1) := dk_42 (dk_at dksX13_inner_7 13 rfl rfl)
theorem dX13_inner_177 : decode cX13_inner 177 = .ok (.iload_n 2, 1) := dk_28 (dk_at dksX13_inner_7 14 rfl rfl)
theorem dX13_inner_178 : decode cX13_inner 178 = .ok (.invokevirtual 221, 3) := dk_182 0 221 (dk_at dksX13_inner_7 15 rfl rfl)
theorem dX13_inner_181 : decode cX13_inner 181 = .ok (.ireturn, 1) := dk_172 (dk_at dksX13_inner_7 18 rfl rfl)
abbrev cX13_unexpected : ByteArray := prog_8_method_14_code
def yX13_unexpected : MethodName := ⟨RX13, "unexpected", "(I)I"⟩
def dkwX13_unexpected_0 : List UInt8 := [42, 16, 11, 27, 182, 0, 177, 87, 27, 172]
abbrev dktX13_unexpected_0 : List UInt8 := dkwX13_unexpected_0 ++ []
theorem dksX13_unexpected_0 : cX13_unexpected.data.toList.drop 0 = dktX13_unexpected_0 := by decide +kernel
theorem dX13_unexpected_0 : decode cX13_unexpected 0 = .ok (.aload_n 0, 1) := dk_42 (dk_at dksX13_unexpected_0 0 rfl rfl)
theorem dX13_unexpected_1 : decode cX13_unexpected 1 = .ok (.bipush 11, 2) := dk_16 11 (dk_at dksX13_unexpected_0 1 rfl rfl)
theorem dX13_unexpected_3 : decode cX13_unexpected 3 = .ok (.iload_n 1, 1) := dk_27 (dk_at dksX13_unexpected_0 3 rfl rfl)
theorem dX13_unexpected_4 : decode cX13_unexpected 4 = .ok (.invokevirtual 177, 3) := dk_182 0 177 (dk_at dksX13_unexpected_0 4 rfl rfl)
theorem dX13_unexpected_7 : decode cX13_unexpected 7 = .ok (.pop, 1) := dk_87 (dk_at dksX13_unexpected_0 7 rfl rfl)
theorem dX13_unexpected_8 : decode cX13_unexpected 8 = .ok (.iload_n 1, 1) := dk_27 (dk_at dksX13_unexpected_0 8 rfl rfl)
theorem dX13_unexpected_9 : decode cX13_unexpected 9 = .ok (.ireturn, 1) := dk_172 (dk_at dksX13_unexpected_0 9 rfl rfl)
abbrev cX13_inOrder : ByteArray := prog_8_method_16_code
def yX13_inOrder : MethodName := ⟨RX13, "inOrder", "(II)I"⟩
def dkwX13_inOrder_4 : List UInt8 := [180, 0, 95, 29, 182, 0, 152, 62, 167, 255, 166, 42, 28, 182, 0, 221, 172]
abbrev dktX13_inOrder_4 : List UInt8 := dkwX13_inOrder_4 ++ []
def dkwX13_inOrder_3 : List UInt8 := [27, 182, 0, 181, 172, 42, 180, 0, 95, 29, 8, 182, 0, 224, 154, 0, 9, 42, 28, 182, 0, 221, 172, 42]
abbrev dktX13_inOrder_3 : List UInt8 := dkwX13_inOrder_3 ++ dktX13_inOrder_4
def dkwX13_inOrder_2 : List UInt8 := [180, 0, 52, 42, 180, 0, 169, 4, 100, 42, 180, 0, 95, 29, 182, 0, 152, 79, 42, 28, 21, 4, 3, 29]
abbrev dktX13_inOrder_2 : List UInt8 := dkwX13_inOrder_2 ++ dktX13_inOrder_3
def dkwX13_inOrder_1 : List UInt8 := [182, 0, 143, 42, 180, 0, 110, 28, 182, 0, 172, 182, 0, 174, 54, 4, 21, 4, 2, 159, 0, 33, 42]
abbrev dktX13_inOrder_1 : List UInt8 := dkwX13_inOrder_1 ++ dktX13_inOrder_2
def dkwX13_inOrder_0 : List UInt8 := [42, 180, 0, 52, 42, 180, 0, 169, 4, 100, 46, 62, 29, 2, 159, 0, 91, 42, 42, 180, 0, 95, 29]
abbrev dktX13_inOrder_0 : List UInt8 := dkwX13_inOrder_0 ++ dktX13_inOrder_1
theorem dksX13_inOrder_0 : cX13_inOrder.data.toList.drop 0 = dktX13_inOrder_0 := by decide +kernel
theorem dksX13_inOrder_1 : cX13_inOrder.data.toList.drop 23 = dktX13_inOrder_1 := dk_seg dksX13_inOrder_0 23 rfl rfl
theorem dksX13_inOrder_2 : cX13_inOrder.data.toList.drop 46 = dktX13_inOrder_2 := dk_seg dksX13_inOrder_1 23 rfl rfl
theorem dksX13_inOrder_3 : cX13_inOrder.data.toList.drop 70 = dktX13_inOrder_3 := dk_seg dksX13_inOrder_2 24 rfl rfl
theorem dksX13_inOrder_4 : cX13_inOrder.data.toList.drop 94 = dktX13_inOrder_4 := dk_seg dksX13_inOrder_3 24 rfl rfl
theorem dX13_inOrder_0 : decode cX13_inOrder 0 = .ok (.aload_n 0, 1) := dk_42 (dk_at dksX13_inOrder_0 0 rfl rfl)
theorem dX13_inOrder_1 : decode cX13_inOrder 1 = .ok (.getfield 52, 3) := dk_180 0 52 (dk_at dksX13_inOrder_0 1 rfl rfl)
theorem dX13_inOrder_4 : decode cX13_inOrder 4 = .ok (.aload_n 0, 1) := dk_42 (dk_at dksX13_inOrder_0 4 rfl rfl)
theorem dX13_inOrder_5 : decode cX13_inOrder 5 = .ok (.getfield 169, 3) := dk_180 0 169 (dk_at dksX13_inOrder_0 5 rfl rfl)
theorem dX13_inOrder_8 : decode cX13_inOrder 8 = .ok (.iconst 1, 1) := dk_4 (dk_at dksX13_inOrder_0 8 rfl rfl)
theorem dX13_inOrder_9 : decode cX13_inOrder 9 = .ok (.isub, 1) := dk_100 (dk_at dksX13_inOrder_0 9 rfl rfl)
theorem dX13_inOrder_10 : decode cX13_inOrder 10 = .ok (.iaload, 1) := dk_46 (dk_at dksX13_inOrder_0 10 rfl rfl)
theorem dX13_inOrder_11 : decode cX13_inOrder 11 = .ok (.istore_n 3, 1) := dk_62 (dk_at dksX13_inOrder_0 11 rfl rfl)
theorem dX13_inOrder_12 : decode cX13_inOrder 12 = .ok (.iload_n 3, 1) := dk_29 (dk_at dksX13_inOrder_0 12 rfl rfl)
theorem dX13_inOrder_13 : decode cX13_inOrder 13 = .ok (.iconst (-1), 1) := dk_2 (dk_at dksX13_inOrder_0 13 rfl rfl)
theorem dX13_inOrder_14 : decode cX13_inOrder 14 = .ok (.if_icmp .eq 91, 3) := dk_159 0 91 (dk_at dksX13_inOrder_0 14 rfl rfl)
theorem dX13_inOrder_17 : decode cX13_inOrder 17 = .ok (.aload_n 0, 1) := dk_42 (dk_at dksX13_inOrder_0 17 rfl rfl)
theorem dX13_inOrder_18 : decode cX13_inOrder 18 = .ok (.aload_n 0, 1) := dk_42 (dk_at dksX13_inOrder_0 18 rfl rfl)
theorem dX13_inOrder_19 : decode cX13_inOrder 19 = .ok (.getfield 95, 3) := dk_180 0 95 (dk_at dksX13_inOrder_0 19 rfl rfl)
theorem dX13_inOrder_22 : decode cX13_inOrder 22 = .ok (.iload_n 3, 1) := dk_29 (dk_at dksX13_inOrder_0 22 rfl rfl)
theorem dX13_inOrder_23 : decode cX13_inOrder 23 = .ok (.invokevirtual 143, 3) := dk_182 0 143 (dk_at dksX13_inOrder_1 0 rfl rfl)
theorem dX13_inOrder_26 : decode cX13_inOrder 26 = .ok (.aload_n 0, 1) := dk_42 (dk_at dksX13_inOrder_1 3 rfl rfl)
theorem dX13_inOrder_27 : decode cX13_inOrder 27 = .ok (.getfield 110, 3) := dk_180 0 110 (dk_at dksX13_inOrder_1 4 rfl rfl)
theorem dX13_inOrder_30 : decode cX13_inOrder 30 = .ok (.iload_n 2, 1) := dk_28 (dk_at dksX13_inOrder_1 7 rfl rfl)
theorem dX13_inOrder_31 : decode cX13_inOrder 31 = .ok (.invokevirtual 172, 3) := dk_182 0 172 (dk_at dksX13_inOrder_1 8 rfl rfl)
theorem dX13_inOrder_34 : decode cX13_inOrder 34 = .ok (.invokevirtual 174, 3) := dk_182 0 174 (dk_at dksX13_inOrder_1 11 rfl rfl)
theorem dX13_inOrder_37 : decode cX13_inOrder 37 = .ok (.istore 4, 2) := dk_54 4 (dk_at dksX13_inOrder_1 14 rfl rfl)
theorem dX13_inOrder_39 : decode cX13_inOrder 39 = .ok (.iload 4, 2) := dk_21 4 (dk_at dksX13_inOrder_1 16 rfl rfl)
theorem dX13_inOrder_41 : decode cX13_inOrder 41 = .ok (.iconst (-1), 1) := dk_2 (dk_at dksX13_inOrder_1 18 rfl rfl)
theorem dX13_inOrder_42 : decode cX13_inOrder 42 = .ok (.if_icmp .eq 33, 3) := dk_159 0 33 (dk_at dksX13_inOrder_1 19 rfl rfl)
theorem dX13_inOrder_45 : decode cX13_inOrder 45 = .ok (.aload_n 0, 1) := dk_42 (dk_at dksX13_inOrder_1 22 rfl rfl)
theorem dX13_inOrder_46 : decode cX13_inOrder 46 = .ok (.getfield 52, 3) := dk_180 0 52 (dk_at dksX13_inOrder_2 0 rfl rfl)
theorem dX13_inOrder_49 : decode cX13_inOrder 49 = .ok (.aload_n 0, 1) := dk_42 (dk_at dksX13_inOrder_2 3 rfl rfl)
theorem dX13_inOrder_50 : decode cX13_inOrder 50 = .ok (.getfield 169, 3) := dk_180 0 169 (dk_at dksX13_inOrder_2 4 rfl rfl)
theorem dX13_inOrder_53 : decode cX13_inOrder 53 = .ok (.iconst 1, 1) := dk_4 (dk_at dksX13_inOrder_2 7 rfl rfl)
theorem dX13_inOrder_54 : decode cX13_inOrder 54 = .ok (.isub, 1) := dk_100 (dk_at dksX13_inOrder_2 8 rfl rfl)
theorem dX13_inOrder_55 : decode cX13_inOrder 55 = .ok (.aload_n 0, 1) := dk_42 (dk_at dksX13_inOrder_2 9 rfl rfl)
theorem dX13_inOrder_56 : decode cX13_inOrder 56 = .ok (.getfield 95, 3) := dk_180 0 95 (dk_at dksX13_inOrder_2 10 rfl rfl)
theorem dX13_inOrder_59 : decode cX13_inOrder 59 = .ok (.iload_n 3, 1) := dk_29 (dk_at dksX13_inOrder_2 13 rfl rfl)
theorem dX13_inOrder_60 : decode cX13_inOrder 60 = .ok (.invokevirtual 152, 3) := dk_182 0 152 (dk_at dksX13_inOrder_2 14 rfl rfl)
theorem dX13_inOrder_63 : decode cX13_inOrder 63 = .ok (.iastore, 1) := dk_79 (dk_at dksX13_inOrder_2 17 rfl rfl)
theorem dX13_inOrder_64 : decode cX13_inOrder 64 = .ok (.aload_n 0, 1) := dk_42 (dk_at dksX13_inOrder_2 18 rfl rfl)
theorem dX13_inOrder_65 : decode cX13_inOrder 65 = .ok (.iload_n 2, 1) := dk_28 (dk_at dksX13_inOrder_2 19 rfl rfl)
theorem dX13_inOrder_66 : decode cX13_inOrder 66 = .ok (.iload 4, 2) := dk_21 4 (dk_at dksX13_inOrder_2 20 rfl rfl)
theorem dX13_inOrder_68 : decode cX13_inOrder 68 = .ok (.iconst 0, 1) := dk_3 (dk_at dksX13_inOrder_2 22 rfl rfl)
theorem dX13_inOrder_69 : decode cX13_inOrder 69 = .ok (.iload_n 3, 1) := dk_29 (dk_at dksX13_inOrder_2 23 rfl rfl)
theorem dX13_inOrder_70 : decode cX13_inOrder 70 = .ok (.iload_n 1, 1) := dk_27 (dk_at dksX13_inOrder_3 0 rfl rfl)
theorem dX13_inOrder_71 : decode cX13_inOrder 71 = .ok (.invokevirtual 181, 3) := dk_182 0 181 (dk_at dksX13_inOrder_3 1 rfl rfl)
theorem dX13_inOrder_74 : decode cX13_inOrder 74 = .ok (.ireturn, 1) := dk_172 (dk_at dksX13_inOrder_3 4 rfl rfl)
theorem dX13_inOrder_75 : decode cX13_inOrder 75 = .ok (.aload_n 0, 1) := dk_42 (dk_at dksX13_inOrder_3 5 rfl rfl)
theorem dX13_inOrder_76 : decode cX13_inOrder 76 = .ok (.getfield 95, 3) := dk_180 0 95 (dk_at dksX13_inOrder_3 6 rfl rfl)
theorem dX13_inOrder_79 : decode cX13_inOrder 79 = .ok (.iload_n 3, 1) := dk_29 (dk_at dksX13_inOrder_3 9 rfl rfl)
theorem dX13_inOrder_80 : decode cX13_inOrder 80 = .ok (.iconst 5, 1) := dk_8 (dk_at dksX13_inOrder_3 10 rfl rfl)
theorem dX13_inOrder_81 : decode cX13_inOrder 81 = .ok (.invokevirtual 224, 3) := dk_182 0 224 (dk_at dksX13_inOrder_3 11 rfl rfl)
theorem dX13_inOrder_84 : decode cX13_inOrder 84 = .ok (.ifCond .ne 9, 3) := dk_154 0 9 (dk_at dksX13_inOrder_3 14 rfl rfl)
theorem dX13_inOrder_87 : decode cX13_inOrder 87 = .ok (.aload_n 0, 1) := dk_42 (dk_at dksX13_inOrder_3 17 rfl rfl)
theorem dX13_inOrder_88 : decode cX13_inOrder 88 = .ok (.iload_n 2, 1) := dk_28 (dk_at dksX13_inOrder_3 18 rfl rfl)
theorem dX13_inOrder_89 : decode cX13_inOrder 89 = .ok (.invokevirtual 221, 3) := dk_182 0 221 (dk_at dksX13_inOrder_3 19 rfl rfl)
theorem dX13_inOrder_92 : decode cX13_inOrder 92 = .ok (.ireturn, 1) := dk_172 (dk_at dksX13_inOrder_3 22 rfl rfl)
theorem dX13_inOrder_93 : decode cX13_inOrder 93 = .ok (.aload_n 0, 1) := dk_42 (dk_at dksX13_inOrder_3 23 rfl rfl)
theorem dX13_inOrder_94 : decode cX13_inOrder 94 = .ok (.getfield 95, 3) := dk_180 0 95 (dk_at dksX13_inOrder_4 0 rfl rfl)
theorem dX13_inOrder_97 : decode cX13_inOrder 97 = .ok (.iload_n 3, 1) := dk_29 (dk_at dksX13_inOrder_4 3 rfl rfl)
theorem dX13_inOrder_98 : decode cX13_inOrder 98 = .ok (.invokevirtual 152, 3) := dk_182 0 152 (dk_at dksX13_inOrder_4 4 rfl rfl)
theorem dX13_inOrder_101 : decode cX13_inOrder 101 = .ok (.istore_n 3, 1) := dk_62 (dk_at dksX13_inOrder_4 7 rfl rfl)
theorem dX13_inOrder_102 : decode cX13_inOrder 102 = .ok (.goto (-90), 3) := dk_167 255 166 (dk_at dksX13_inOrder_4 8 rfl rfl)
theorem dX13_inOrder_105 : decode cX13_inOrder 105 = .ok (.aload_n 0, 1) := dk_42 (dk_at dksX13_inOrder_4 11 rfl rfl)
theorem dX13_inOrder_106 : decode cX13_inOrder 106 = .ok (.iload_n 2, 1) := dk_28 (dk_at dksX13_inOrder_4 12 rfl rfl)
theorem dX13_inOrder_107 : decode cX13_inOrder 107 = .ok (.invokevirtual 221, 3) := dk_182 0 221 (dk_at dksX13_inOrder_4 13 rfl rfl)
theorem dX13_inOrder_110 : decode cX13_inOrder 110 = .ok (.ireturn, 1) := dk_172 (dk_at dksX13_inOrder_4 16 rfl rfl)
abbrev cX13_anywhere : ByteArray := prog_8_method_17_code
def yX13_anywhere : MethodName := ⟨RX13, "anywhere", "(II)I"⟩
def dkwX13_anywhere_6 : List UInt8 := [182, 0, 152, 54, 4, 167, 255, 133, 42, 28, 182, 0, 221, 172]
abbrev dktX13_anywhere_6 : List UInt8 := dkwX13_anywhere_6 ++ []
def dkwX13_anywhere_5 : List UInt8 := [128, 79, 42, 28, 21, 5, 3, 21, 4, 27, 182, 0, 181, 172, 132, 3, 1, 42, 180, 0, 95, 21, 4]
abbrev dktX13_anywhere_5 : List UInt8 := dkwX13_anywhere_5 ++ dktX13_anywhere_6
def dkwX13_anywhere_4 : List UInt8 := [42, 16, 13, 28, 182, 0, 177, 87, 28, 172, 42, 180, 0, 61, 21, 6, 92, 46, 4, 29, 16, 32, 112, 120]
abbrev dktX13_anywhere_4 : List UInt8 := dkwX13_anywhere_4 ++ dktX13_anywhere_5
def dkwX13_anywhere_3 : List UInt8 := [16, 32, 108, 96, 54, 6, 42, 180, 0, 61, 21, 6, 46, 29, 16, 32, 112, 122, 4, 126, 4, 160, 0, 13]
abbrev dktX13_anywhere_3 : List UInt8 := dkwX13_anywhere_3 ++ dktX13_anywhere_4
def dkwX13_anywhere_2 : List UInt8 := [182, 0, 174, 54, 5, 21, 5, 2, 159, 0, 77, 42, 180, 0, 58, 42, 180, 0, 169, 4, 100, 46, 29]
abbrev dktX13_anywhere_2 : List UInt8 := dkwX13_anywhere_2 ++ dktX13_anywhere_3
def dkwX13_anywhere_1 : List UInt8 := [21, 4, 2, 159, 0, 123, 42, 42, 180, 0, 95, 21, 4, 182, 0, 143, 42, 180, 0, 110, 28, 182, 0, 172]
abbrev dktX13_anywhere_1 : List UInt8 := dkwX13_anywhere_1 ++ dktX13_anywhere_2
def dkwX13_anywhere_0 : List UInt8 := [3, 62, 42, 180, 0, 95, 42, 180, 0, 99, 42, 180, 0, 30, 27, 46, 182, 0, 140, 182, 0, 143, 54, 4]
abbrev dktX13_anywhere_0 : List UInt8 := dkwX13_anywhere_0 ++ dktX13_anywhere_1
theorem dksX13_anywhere_0 : cX13_anywhere.data.toList.drop 0 = dktX13_anywhere_0 := by decide +kernel
theorem dksX13_anywhere_1 : cX13_anywhere.data.toList.drop 24 = dktX13_anywhere_1 := dk_seg dksX13_anywhere_0 24 rfl rfl
theorem dksX13_anywhere_2 : cX13_anywhere.data.toList.drop 48 = dktX13_anywhere_2 := dk_seg dksX13_anywhere_1 24 rfl rfl
theorem dksX13_anywhere_3 : cX13_anywhere.data.toList.drop 71 = dktX13_anywhere_3 := dk_seg dksX13_anywhere_2 23 rfl rfl
theorem dksX13_anywhere_4 : cX13_anywhere.data.toList.drop 95 = dktX13_anywhere_4 := dk_seg dksX13_anywhere_3 24 rfl rfl
theorem dksX13_anywhere_5 : cX13_anywhere.data.toList.drop 119 = dktX13_anywhere_5 := dk_seg dksX13_anywhere_4 24 rfl rfl
theorem dksX13_anywhere_6 : cX13_anywhere.data.toList.drop 142 = dktX13_anywhere_6 := dk_seg dksX13_anywhere_5 23 rfl rfl
theorem dX13_anywhere_0 : decode cX13_anywhere 0 = .ok (.iconst 0, 1) := dk_3 (dk_at dksX13_anywhere_0 0 rfl rfl)
theorem dX13_anywhere_1 : decode cX13_anywhere 1 = .ok (.istore_n 3, 1) := dk_62 (dk_at dksX13_anywhere_0 1 rfl rfl)
theorem dX13_anywhere_2 : decode cX13_anywhere 2 = .ok (.aload_n 0, 1) := dk_42 (dk_at dksX13_anywhere_0 2 rfl rfl)
theorem dX13_anywhere_3 : decode cX13_anywhere 3 = .ok (.getfield 95, 3) := dk_180 0 95 (dk_at dksX13_anywhere_0 3 rfl rfl)
theorem dX13_anywhere_6 : decode cX13_anywhere 6 = .ok (.aload_n 0, 1) := dk_42 (dk_at dksX13_anywhere_0 6 rfl rfl)
theorem dX13_anywhere_7 : decode cX13_anywhere 7 = .ok (.getfield 99, 3) := dk_180 0 99 (dk_at dksX13_anywhere_0 7 rfl rfl)
theorem dX13_anywhere_10 : decode cX13_anywhere 10 = .ok (.aload_n 0, 1) := dk_42 (dk_at dksX13_anywhere_0 10 rfl rfl)
theorem dX13_anywhere_11 : decode cX13_anywhere 11 = .ok (.getfield 30, 3) := dk_180 0 30 (dk_at dksX13_anywhere_0 11 rfl rfl)
theorem dX13_anywhere_14 : decode cX13_anywhere 14 = .ok (.iload_n 1, 1) := dk_27 (dk_at dksX13_anywhere_0 14 rfl rfl)
theorem dX13_anywhere_15 : decode cX13_anywhere 15 = .ok (.iaload, 1) := dk_46 (dk_at dksX13_anywhere_0 15 rfl rfl)
theorem dX13_anywhere_16 : decode cX13_anywhere 16 = .ok (.invokevirtual 140, 3) := dk_182 0 140 (dk_at dksX13_anywhere_0 16 rfl rfl)
theorem dX13_anywhere_19 : decode cX13_anywhere 19 = .ok (.invokevirtual 143, 3) := dk_182 0 143 (dk_at dksX13_anywhere_0 19 rfl rfl)
theorem dX13_anywhere_22 : decode cX13_anywhere 22 = .ok (.istore 4, 2) := dk_54 4 (dk_at dksX13_anywhere_0 22 rfl rfl)
theorem dX13_anywhere_24 : decode cX13_anywhere 24 = .ok (.iload 4, 2) := dk_21 4 (dk_at dksX13_anywhere_1 0 rfl rfl)
theorem dX13_anywhere_26 : decode cX13_anywhere 26 = .ok (.iconst (-1), 1) := dk_2 (dk_at dksX13_anywhere_1 2 rfl rfl)
theorem dX13_anywhere_27 : decode cX13_anywhere 27 = .ok (.if_icmp .eq 123, 3) := dk_159 0 123 (dk_at dksX13_anywhere_1 3 rfl rfl)
theorem dX13_anywhere_30 : decode cX13_anywhere 30 = .ok (.aload_n 0, 1) := dk_42 (dk_at dksX13_anywhere_1 6 rfl rfl)
theorem dX13_anywhere_31 : decode cX13_anywhere 31 = .ok (.aload_n 0, 1) := dk_42 (dk_at dksX13_anywhere_1 7 rfl rfl)
theorem dX13_anywhere_32 : decode cX13_anywhere 32 = .ok (.getfield 95, 3) := dk_180 0 95 (dk_at dksX13_anywhere_1 8 rfl rfl)
theorem dX13_anywhere_35 : decode cX13_anywhere 35 = .ok (.iload 4, 2) := dk_21 4 (dk_at dksX13_anywhere_1 11 rfl rfl)
theorem dX13_anywhere_37 : decode cX13_anywhere 37 = .ok (.invokevirtual 143, 3) := dk_182 0 143 (dk_at dksX13_anywhere_1 13 rfl rfl)
theorem dX13_anywhere_40 : decode cX13_anywhere 40 = .ok (.aload_n 0, 1) := dk_42 (dk_at dksX13_anywhere_1 16 rfl rfl)
theorem dX13_anywhere_41 : decode cX13_anywhere 41 = .ok (.getfield 110, 3) := dk_180 0 110 (dk_at dksX13_anywhere_1 17 rfl rfl)
theorem dX13_anywhere_44 : decode cX13_anywhere 44 = .ok (.iload_n 2, 1) := dk_28 (dk_at dksX13_anywhere_1 20 rfl rfl)
theorem dX13_anywhere_45 : decode cX13_anywhere 45 = .ok (.invokevirtual 172, 3) := dk_182 0 172 (dk_at dksX13_anywhere_1 21 rfl rfl)
theorem dX13_anywhere_48 : decode cX13_anywhere 48 = .ok (.invokevirtual 174, 3) := dk_182 0 174 (dk_at dksX13_anywhere_2 0 rfl rfl)
theorem dX13_anywhere_51 : decode cX13_anywhere 51 = .ok (.istore 5, 2) := dk_54 5 (dk_at dksX13_anywhere_2 3 rfl rfl)
theorem dX13_anywhere_53 : decode cX13_anywhere 53 = .ok (.iload 5, 2) := dk_21 5 (dk_at dksX13_anywhere_2 5 rfl rfl)
theorem dX13_anywhere_55 : decode cX13_anywhere 55 = .ok (.iconst (-1), 1) := dk_2 (dk_at dksX13_anywhere_2 7 rfl rfl)
theorem dX13_anywhere_56 : decode cX13_anywhere 56 = .ok (.if_icmp .eq 77, 3) := dk_159 0 77 (dk_at dksX13_anywhere_2 8 rfl rfl)
theorem dX13_anywhere_59 : decode cX13_anywhere 59 = .ok (.aload_n 0, 1) := dk_42 (dk_at dksX13_anywhere_2 11 rfl rfl)
theorem dX13_anywhere_60 : decode cX13_anywhere 60 = .ok (.getfield 58, 3) := dk_180 0 58 (dk_at dksX13_anywhere_2 12 rfl rfl)
theorem dX13_anywhere_63 : decode cX13_anywhere 63 = .ok (.aload_n 0, 1) := dk_42 (dk_at dksX13_anywhere_2 15 rfl rfl)
theorem dX13_anywhere_64 : decode cX13_anywhere 64 = .ok (.getfield 169, 3) := dk_180 0 169 (dk_at dksX13_anywhere_2 16 rfl rfl)
theorem dX13_anywhere_67 : decode cX13_anywhere 67 = .ok (.iconst 1, 1) := dk_4 (dk_at dksX13_anywhere_2 19 rfl rfl)
theorem dX13_anywhere_68 : decode cX13_anywhere 68 = .ok (.isub, 1) := dk_100 (dk_at dksX13_anywhere_2 20 rfl rfl)
theorem dX13_anywhere_69 : decode cX13_anywhere 69 = .ok (.iaload, 1) := dk_46 (dk_at dksX13_anywhere_2 21 rfl rfl)
theorem dX13_anywhere_70 : decode cX13_anywhere 70 = .ok (.iload_n 3, 1) := dk_29 (dk_at dksX13_anywhere_2 22 rfl rfl)
theorem dX13_anywhere_71 : decode cX13_anywhere 71 = .ok (.bipush 32, 2) := dk_16 32 (dk_at dksX13_anywhere_3 0 rfl rfl)
theorem dX13_anywhere_73 : decode cX13_anywhere 73 = .ok (.idiv, 1) := dk_108 (dk_at dksX13_anywhere_3 2 rfl rfl)
theorem dX13_anywhere_74 : decode cX13_anywhere 74 = .ok (.iadd, 1) := dk_96 (dk_at dksX13_anywhere_3 3 rfl rfl)
theorem dX13_anywhere_75 : decode cX13_anywhere 75 = .ok (.istore 6, 2) := dk_54 6 (dk_at dksX13_anywhere_3 4 rfl rfl)
theorem dX13_anywhere_77 : decode cX13_anywhere 77 = .ok (.aload_n 0, 1) := dk_42 (dk_at dksX13_anywhere_3 6 rfl rfl)
theorem dX13_anywhere_78 : decode cX13_anywhere 78 = .ok (.getfield 61, 3) := dk_180 0 61 (dk_at dksX13_anywhere_3 7 rfl rfl)
theorem dX13_anywhere_81 : decode cX13_anywhere 81 = .ok (.iload 6, 2) := dk_21 6 (dk_at dksX13_anywhere_3 10 rfl rfl)
theorem dX13_anywhere_83 : decode cX13_anywhere 83 = .ok (.iaload, 1) := dk_46 (dk_at dksX13_anywhere_3 12 rfl rfl)
theorem dX13_anywhere_84 : decode cX13_anywhere 84 = .ok (.iload_n 3, 1) := dk_29 (dk_at dksX13_anywhere_3 13 rfl rfl)
theorem dX13_anywhere_85 : decode cX13_anywhere 85 = .ok (.bipush 32, 2) := dk_16 32 (dk_at dksX13_anywhere_3 14 rfl rfl)
theorem dX13_anywhere_87 : decode cX13_anywhere 87 = .ok (.irem, 1) := dk_112 (dk_at dksX13_anywhere_3 16 rfl rfl)
theorem dX13_anywhere_88 : decode cX13_anywhere 88 = .ok (.ishr, 1) := dk_122 (dk_at dksX13_anywhere_3 17 rfl rfl)
theorem dX13_anywhere_89 : decode cX13_anywhere 89 = .ok (.iconst 1, 1) := dk_4 (dk_at dksX13_anywhere_3 18 rfl rfl)
theorem dX13_anywhere_90 : decode cX13_anywhere 90 = .ok (.iand, 1) := dk_126 (dk_at dksX13_anywhere_3 19 rfl rfl)
theorem dX13_anywhere_91 : decode cX13_anywhere 91 = .ok (.iconst 1, 1) := dk_4 (dk_at dksX13_anywhere_3 20 rfl rfl)
theorem dX13_anywhere_92 : decode cX13_anywhere 92 = .ok (.if_icmp .ne 13, 3) := dk_160 0 13 (dk_at dksX13_anywhere_3 21 rfl rfl)
theorem dX13_anywhere_95 : decode cX13_anywhere 95 = .ok (.aload_n 0, 1) := dk_42 (dk_at dksX13_anywhere_4 0 rfl rfl)
theorem dX13_anywhere_96 : decode cX13_anywhere 96 = .ok (.bipush 13, 2) := dk_16 13 (dk_at dksX13_anywhere_4 1 rfl rfl)
theorem dX13_anywhere_98 : decode cX13_anywhere 98 = .ok (.iload_n 2, 1) := dk_28 (dk_at dksX13_anywhere_4 3 rfl rfl)
theorem dX13_anywhere_99 : decode cX13_anywhere 99 = .ok (.invokevirtual 177, 3) := dk_182 0 177 (dk_at dksX13_anywhere_4 4 rfl rfl)
theorem dX13_anywhere_102 : decode cX13_anywhere 102 = .ok (.pop, 1) := dk_87 (dk_at dksX13_anywhere_4 7 rfl rfl)
theorem dX13_anywhere_103 : decode cX13_anywhere 103 = .ok (.iload_n 2, 1) := dk_28 (dk_at dksX13_anywhere_4 8 rfl rfl)
theorem dX13_anywhere_104 : decode cX13_anywhere 104 = .ok (.ireturn, 1) := dk_172 (dk_at dksX13_anywhere_4 9 rfl rfl)
theorem dX13_anywhere_105 : decode cX13_anywhere 105 = .ok (.aload_n 0, 1) := dk_42 (dk_at dksX13_anywhere_4 10 rfl rfl)
theorem dX13_anywhere_106 : decode cX13_anywhere 106 = .ok (.getfield 61, 3) := dk_180 0 61 (dk_at dksX13_anywhere_4 11 rfl rfl)
theorem dX13_anywhere_109 : decode cX13_anywhere 109 = .ok (.iload 6, 2) := dk_21 6 (dk_at dksX13_anywhere_4 14 rfl rfl)
theorem dX13_anywhere_111 : decode cX13_anywhere 111 = .ok (.dup2, 1) := dk_92 (dk_at dksX13_anywhere_4 16 rfl rfl)
theorem dX13_anywhere_112 : decode cX13_anywhere 112 = .ok (.iaload, 1) := dk_46 (dk_at dksX13_anywhere_4 17 rfl rfl)
theorem dX13_anywhere_113 : decode cX13_anywhere 113 = .ok (.iconst 1, 1) := dk_4 (dk_at dksX13_anywhere_4 18 rfl rfl)
theorem dX13_anywhere_114 : decode cX13_anywhere 114 = .ok (.iload_n 3, 1) := dk_29 (dk_at dksX13_anywhere_4 19 rfl rfl)
theorem dX13_anywhere_115 : decode cX13_anywhere 115 = .ok (.bipush 32, 2) := dk_16 32 (dk_at dksX13_anywhere_4 20 rfl rfl)
theorem dX13_anywhere_117 : decode cX13_anywhere 117 = .ok (.irem, 1) := dk_112 (dk_at dksX13_anywhere_4 22 rfl rfl)
theorem dX13_anywhere_118 : decode cX13_anywhere 118 = .ok (.ishl, 1) := dk_120 (dk_at dksX13_anywhere_4 23 rfl rfl)
theorem dX13_anywhere_119 : decode cX13_anywhere 119 = .ok (.ior, 1) := dk_128 (dk_at dksX13_anywhere_5 0 rfl rfl)
theorem dX13_anywhere_120 : decode cX13_anywhere 120 = .ok (.iastore, 1) := dk_79 (dk_at dksX13_anywhere_5 1 rfl rfl)
theorem dX13_anywhere_121 : decode cX13_anywhere 121 = .ok (.aload_n 0, 1) := dk_42 (dk_at dksX13_anywhere_5 2 rfl rfl)
theorem dX13_anywhere_122 : decode cX13_anywhere 122 = .ok (.iload_n 2, 1) := dk_28 (dk_at dksX13_anywhere_5 3 rfl rfl)
theorem dX13_anywhere_123 : decode cX13_anywhere 123 = .ok (.iload 5, 2) := dk_21 5 (dk_at dksX13_anywhere_5 4 rfl rfl)
theorem dX13_anywhere_125 : decode cX13_anywhere 125 = .ok (.iconst 0, 1) := dk_3 (dk_at dksX13_anywhere_5 6 rfl rfl)
theorem dX13_anywhere_126 : decode cX13_anywhere 126 = .ok (.iload 4, 2) := dk_21 4 (dk_at dksX13_anywhere_5 7 rfl rfl)
theorem dX13_anywhere_128 : decode cX13_anywhere 128 = .ok (.iload_n 1, 1) := dk_27 (dk_at dksX13_anywhere_5 9 rfl rfl)
theorem dX13_anywhere_129 : decode cX13_anywhere 129 = .ok (.invokevirtual 181, 3) := dk_182 0 181 (dk_at dksX13_anywhere_5 10 rfl rfl)
theorem dX13_anywhere_132 : decode cX13_anywhere 132 = .ok (.ireturn, 1) := dk_172 (dk_at dksX13_anywhere_5 13 rfl rfl)
theorem dX13_anywhere_133 : decode cX13_anywhere 133 = .ok (.iinc 3 1, 3) := dk_132 3 1 (dk_at dksX13_anywhere_5 14 rfl rfl)
theorem dX13_anywhere_136 : decode cX13_anywhere 136 = .ok (.aload_n 0, 1) := dk_42 (dk_at dksX13_anywhere_5 17 rfl rfl)
theorem dX13_anywhere_137 : decode cX13_anywhere 137 = .ok (.getfield 95, 3) := dk_180 0 95 (dk_at dksX13_anywhere_5 18 rfl rfl)
theorem dX13_anywhere_140 : decode cX13_anywhere 140 = .ok (.iload 4, 2) := dk_21 4 (dk_at dksX13_anywhere_5 21 rfl rfl)
theorem dX13_anywhere_142 : decode cX13_anywhere 142 = .ok (.invokevirtual 152, 3) := dk_182 0 152 (dk_at dksX13_anywhere_6 0 rfl rfl)
theorem dX13_anywhere_145 : decode cX13_anywhere 145 = .ok (.istore 4, 2) := dk_54 4 (dk_at dksX13_anywhere_6 3 rfl rfl)
theorem dX13_anywhere_147 : decode cX13_anywhere 147 = .ok (.goto (-123), 3) := dk_167 255 133 (dk_at dksX13_anywhere_6 5 rfl rfl)
theorem dX13_anywhere_150 : decode cX13_anywhere 150 = .ok (.aload_n 0, 1) := dk_42 (dk_at dksX13_anywhere_6 8 rfl rfl)
theorem dX13_anywhere_151 : decode cX13_anywhere 151 = .ok (.iload_n 2, 1) := dk_28 (dk_at dksX13_anywhere_6 9 rfl rfl)
theorem dX13_anywhere_152 : decode cX13_anywhere 152 = .ok (.invokevirtual 221, 3) := dk_182 0 221 (dk_at dksX13_anywhere_6 10 rfl rfl)
theorem dX13_anywhere_155 : decode cX13_anywhere 155 = .ok (.ireturn, 1) := dk_172 (dk_at dksX13_anywhere_6 13 rfl rfl)
abbrev cX13_fault : ByteArray := prog_8_method_2_code
def yX13_fault : MethodName := ⟨RX13, "fault", "()I"⟩
theorem dX13_fault_0 : decode cX13_fault 0 = .ok (.aload_n 0, 1) := by decide +kernel
theorem dX13_fault_1 : decode cX13_fault 1 = .ok (.getfield 103, 3) := by decide +kernel
theorem dX13_fault_4 : decode cX13_fault 4 = .ok (.ireturn, 1) := by decide +kernel
abbrev cX13_place : ByteArray := prog_8_method_3_code
def yX13_place : MethodName := ⟨RX13, "place", "()I"⟩
theorem dX13_place_0 : decode cX13_place 0 = .ok (.aload_n 0, 1) := by decide +kernel
theorem dX13_place_1 : decode cX13_place 1 = .ok (.getfield 107, 3) := by decide +kernel
theorem dX13_place_4 : decode cX13_place 4 = .ok (.ireturn, 1) := by decide +kernel
abbrev cX13_write : ByteArray := prog_8_method_32_code
def yX13_write : MethodName := ⟨RX13, "write", "()LSchemaWorkshop$Bytes;"⟩
def dkwX13_write_4 : List UInt8 := [182, 1, 72, 167, 255, 186, 42, 180, 0, 77, 176]
abbrev dktX13_write_4 : List UInt8 := dkwX13_write_4 ++ []
def dkwX13_write_3 : List UInt8 := [96, 79, 42, 180, 0, 83, 28, 42, 180, 0, 77, 182, 0, 234, 79, 42, 42, 180, 0, 80, 28, 46]
abbrev dktX13_write_3 : List UInt8 := dkwX13_write_3 ++ dktX13_write_4
def dkwX13_write_2 : List UInt8 := [28, 42, 180, 1, 69, 160, 0, 11, 42, 27, 182, 1, 75, 167, 0, 36, 42, 180, 0, 52, 27, 92, 46, 4]
abbrev dktX13_write_2 : List UInt8 := dkwX13_write_2 ++ dktX13_write_3
def dkwX13_write_1 : List UInt8 := [182, 1, 72, 42, 180, 0, 169, 158, 0, 69, 42, 180, 0, 169, 4, 100, 60, 42, 180, 0, 52, 27, 46, 61]
abbrev dktX13_write_1 : List UInt8 := dkwX13_write_1 ++ dktX13_write_2
def dkwX13_write_0 : List UInt8 := [42, 180, 0, 77, 182, 0, 166, 42, 182, 1, 66, 42, 3, 181, 0, 169, 42, 3, 181, 1, 69, 42, 3]
abbrev dktX13_write_0 : List UInt8 := dkwX13_write_0 ++ dktX13_write_1
theorem dksX13_write_0 : cX13_write.data.toList.drop 0 = dktX13_write_0 := by decide +kernel
theorem dksX13_write_1 : cX13_write.data.toList.drop 23 = dktX13_write_1 := dk_seg dksX13_write_0 23 rfl rfl
theorem dksX13_write_2 : cX13_write.data.toList.drop 47 = dktX13_write_2 := dk_seg dksX13_write_1 24 rfl rfl
theorem dksX13_write_3 : cX13_write.data.toList.drop 71 = dktX13_write_3 := dk_seg dksX13_write_2 24 rfl rfl
theorem dksX13_write_4 : cX13_write.data.toList.drop 93 = dktX13_write_4 := dk_seg dksX13_write_3 22 rfl rfl
theorem dX13_write_0 : decode cX13_write 0 = .ok (.aload_n 0, 1) := dk_42 (dk_at dksX13_write_0 0 rfl rfl)
theorem dX13_write_1 : decode cX13_write 1 = .ok (.getfield 77, 3) := dk_180 0 77 (dk_at dksX13_write_0 1 rfl rfl)
theorem dX13_write_4 : decode cX13_write 4 = .ok (.invokevirtual 166, 3) := dk_182 0 166 (dk_at dksX13_write_0 4 rfl rfl)
theorem dX13_write_7 : decode cX13_write 7 = .ok (.aload_n 0, 1) := dk_42 (dk_at dksX13_write_0 7 rfl rfl)
theorem dX13_write_8 : decode cX13_write 8 = .ok (.invokevirtual 322, 3) := dk_182 1 66 (dk_at dksX13_write_0 8 rfl rfl)
theorem dX13_write_11 : decode cX13_write 11 = .ok (.aload_n 0, 1) := dk_42 (dk_at dksX13_write_0 11 rfl rfl)
theorem dX13_write_12 : decode cX13_write 12 = .ok (.iconst 0, 1) := dk_3 (dk_at dksX13_write_0 12 rfl rfl)
theorem dX13_write_13 : decode cX13_write 13 = .ok (.putfield 169, 3) := dk_181 0 169 (dk_at dksX13_write_0 13 rfl rfl)
theorem dX13_write_16 : decode cX13_write 16 = .ok (.aload_n 0, 1) := dk_42 (dk_at dksX13_write_0 16 rfl rfl)
theorem dX13_write_17 : decode cX13_write 17 = .ok (.iconst 0, 1) := dk_3 (dk_at dksX13_write_0 17 rfl rfl)
theorem dX13_write_18 : decode cX13_write 18 = .ok (.putfield 325, 3) := dk_181 1 69 (dk_at dksX13_write_0 18 rfl rfl)
theorem dX13_write_21 : decode cX13_write 21 = .ok (.aload_n 0, 1) := dk_42 (dk_at dksX13_write_0 21 rfl rfl)
theorem dX13_write_22 : decode cX13_write 22 = .ok (.iconst 0, 1) := dk_3 (dk_at dksX13_write_0 22 rfl rfl)
theorem dX13_write_23 : decode cX13_write 23 = .ok (.invokevirtual 328, 3) := dk_182 1 72 (dk_at dksX13_write_1 0 rfl rfl)
theorem dX13_write_26 : decode cX13_write 26 = .ok (.aload_n 0, 1) := dk_42 (dk_at dksX13_write_1 3 rfl rfl)
theorem dX13_write_27 : decode cX13_write 27 = .ok (.getfield 169, 3) := dk_180 0 169 (dk_at dksX13_write_1 4 rfl rfl)
theorem dX13_write_30 : decode cX13_write 30 = .ok (.ifCond .le 69, 3) := dk_158 0 69 (dk_at dksX13_write_1 7 rfl rfl)
theorem dX13_write_33 : decode cX13_write 33 = .ok (.aload_n 0, 1) := dk_42 (dk_at dksX13_write_1 10 rfl rfl)
theorem dX13_write_34 : decode cX13_write 34 = .ok (.getfield 169, 3) := dk_180 0 169 (dk_at dksX13_write_1 11 rfl rfl)
theorem dX13_write_37 : decode cX13_write 37 = .ok (.iconst 1, 1) := dk_4 (dk_at dksX13_write_1 14 rfl rfl)
theorem dX13_write_38 : decode cX13_write 38 = .ok (.isub, 1) := dk_100 (dk_at dksX13_write_1 15 rfl rfl)
theorem dX13_write_39 : decode cX13_write 39 = .ok (.istore_n 1, 1) := dk_60 (dk_at dksX13_write_1 16 rfl rfl)
theorem dX13_write_40 : decode cX13_write 40 = .ok (.aload_n 0, 1) := dk_42 (dk_at dksX13_write_1 17 rfl rfl)
theorem dX13_write_41 : decode cX13_write 41 = .ok (.getfield 52, 3) := dk_180 0 52 (dk_at dksX13_write_1 18 rfl rfl)
theorem dX13_write_44 : decode cX13_write 44 = .ok (.iload_n 1, 1) := dk_27 (dk_at dksX13_write_1 21 rfl rfl)
theorem dX13_write_45 : decode cX13_write 45 = .ok (.iaload, 1) := dk_46 (dk_at dksX13_write_1 22 rfl rfl)
theorem dX13_write_46 : decode cX13_write 46 = .ok (.istore_n 2, 1) := dk_61 (dk_at dksX13_write_1 23 rfl rfl)
theorem dX13_write_47 : decode cX13_write 47 = .ok (.iload_n 2, 1) := dk_28 (dk_at dksX13_write_2 0 rfl rfl)
theorem dX13_write_48 : decode cX13_write 48 = .ok (.aload_n 0, 1) := dk_42 (dk_at dksX13_write_2 1 rfl rfl)
theorem dX13_write_49 : decode cX13_write 49 = .ok (.getfield 325, 3) := dk_180 1 69 (dk_at dksX13_write_2 2 rfl rfl)
theorem dX13_write_52 : decode cX13_write 52 = .ok (.if_icmp .ne 11, 3) := dk_160 0 11 (dk_at dksX13_write_2 5 rfl rfl)
theorem dX13_write_55 : decode cX13_write 55 = .ok (.aload_n 0, 1) := dk_42 (dk_at dksX13_write_2 8 rfl rfl)
theorem dX13_write_56 : decode cX13_write 56 = .ok (.iload_n 1, 1) := dk_27 (dk_at dksX13_write_2 9 rfl rfl)
theorem dX13_write_57 : decode cX13_write 57 = .ok (.invokevirtual 331, 3) := dk_182 1 75 (dk_at dksX13_write_2 10 rfl rfl)
theorem dX13_write_60 : decode cX13_write 60 = .ok (.goto 36, 3) := dk_167 0 36 (dk_at dksX13_write_2 13 rfl rfl)
theorem dX13_write_63 : decode cX13_write 63 = .ok (.aload_n 0, 1) := dk_42 (dk_at dksX13_write_2 16 rfl rfl)
theorem dX13_write_64 : decode cX13_write 64 = .ok (.getfield 52, 3) := dk_180 0 52 (dk_at dksX13_write_2 17 rfl rfl)
theorem dX13_write_67 : decode cX13_write 67 = .ok (.iload_n 1, 1) := dk_27 (dk_at dksX13_write_2 20 rfl rfl)
theorem dX13_write_68 : decode cX13_write 68 = .ok (.dup2, 1) := dk_92 (dk_at dksX13_write_2 21 rfl rfl)
theorem dX13_write_69 : decode cX13_write 69 = .ok (.iaload, 1) := dk_46 (dk_at dksX13_write_2 22 rfl rfl)
theorem dX13_write_70 : decode cX13_write 70 = .ok (.iconst 1, 1) := dk_4 (dk_at dksX13_write_2 23 rfl rfl)
theorem dX13_write_71 : decode cX13_write 71 = .ok (.iadd, 1) := dk_96 (dk_at dksX13_write_3 0 rfl rfl)
theorem dX13_write_72 : decode cX13_write 72 = .ok (.iastore, 1) := dk_79 (dk_at dksX13_write_3 1 rfl rfl)
theorem dX13_write_73 : decode cX13_write 73 = .ok (.aload_n 0, 1) := dk_42 (dk_at dksX13_write_3 2 rfl rfl)
theorem dX13_write_74 : decode cX13_write 74 = .ok (.getfield 83, 3) := dk_180 0 83 (dk_at dksX13_write_3 3 rfl rfl)
theorem dX13_write_77 : decode cX13_write 77 = .ok (.iload_n 2, 1) := dk_28 (dk_at dksX13_write_3 6 rfl rfl)
theorem dX13_write_78 : decode cX13_write 78 = .ok (.aload_n 0, 1) := dk_42 (dk_at dksX13_write_3 7 rfl rfl)
theorem dX13_write_79 : decode cX13_write 79 = .ok (.getfield 77, 3) := dk_180 0 77 (dk_at dksX13_write_3 8 rfl rfl)
theorem dX13_write_82 : decode cX13_write 82 = .ok (.invokevirtual 234, 3) := dk_182 0 234 (dk_at dksX13_write_3 11 rfl rfl)
theorem dX13_write_85 : decode cX13_write 85 = .ok (.iastore, 1) := dk_79 (dk_at dksX13_write_3 14 rfl rfl)
theorem dX13_write_86 : decode cX13_write 86 = .ok (.aload_n 0, 1) := dk_42 (dk_at dksX13_write_3 15 rfl rfl)
theorem dX13_write_87 : decode cX13_write 87 = .ok (.aload_n 0, 1) := dk_42 (dk_at dksX13_write_3 16 rfl rfl)
theorem dX13_write_88 : decode cX13_write 88 = .ok (.getfield 80, 3) := dk_180 0 80 (dk_at dksX13_write_3 17 rfl rfl)
theorem dX13_write_91 : decode cX13_write 91 = .ok (.iload_n 2, 1) := dk_28 (dk_at dksX13_write_3 20 rfl rfl)
theorem dX13_write_92 : decode cX13_write 92 = .ok (.iaload, 1) := dk_46 (dk_at dksX13_write_3 21 rfl rfl)
theorem dX13_write_93 : decode cX13_write 93 = .ok (.invokevirtual 328, 3) := dk_182 1 72 (dk_at dksX13_write_4 0 rfl rfl)
theorem dX13_write_96 : decode cX13_write 96 = .ok (.goto (-70), 3) := dk_167 255 186 (dk_at dksX13_write_4 3 rfl rfl)
theorem dX13_write_99 : decode cX13_write 99 = .ok (.aload_n 0, 1) := dk_42 (dk_at dksX13_write_4 6 rfl rfl)
theorem dX13_write_100 : decode cX13_write 100 = .ok (.getfield 77, 3) := dk_180 0 77 (dk_at dksX13_write_4 7 rfl rfl)
theorem dX13_write_103 : decode cX13_write 103 = .ok (.areturn, 1) := dk_176 (dk_at dksX13_write_4 10 rfl rfl)
abbrev cX13_measure : ByteArray := prog_8_method_29_code
def yX13_measure : MethodName := ⟨RX13, "measure", "()V"⟩
def dkwX13_measure_3 : List UInt8 := [132, 1, 255, 167, 255, 192, 177]
abbrev dktX13_measure_3 : List UInt8 := dkwX13_measure_3 ++ []
def dkwX13_measure_2 : List UInt8 := [2, 159, 0, 22, 42, 180, 0, 46, 42, 180, 0, 40, 27, 46, 92, 46, 42, 27, 182, 1, 63, 96, 79]
abbrev dktX13_measure_2 : List UInt8 := dkwX13_measure_2 ++ dktX13_measure_3
def dkwX13_measure_1 : List UInt8 := [42, 27, 182, 1, 60, 153, 0, 13, 42, 180, 0, 30, 27, 2, 79, 167, 0, 32, 42, 180, 0, 40, 27, 46]
abbrev dktX13_measure_1 : List UInt8 := dkwX13_measure_1 ++ dktX13_measure_2
def dkwX13_measure_0 : List UInt8 := [42, 180, 0, 110, 182, 0, 162, 4, 100, 60, 27, 155, 0, 66, 42, 180, 0, 30, 27, 46, 2, 159, 0, 50]
abbrev dktX13_measure_0 : List UInt8 := dkwX13_measure_0 ++ dktX13_measure_1
theorem dksX13_measure_0 : cX13_measure.data.toList.drop 0 = dktX13_measure_0 := by decide +kernel
theorem dksX13_measure_1 : cX13_measure.data.toList.drop 24 = dktX13_measure_1 := dk_seg dksX13_measure_0 24 rfl rfl
theorem dksX13_measure_2 : cX13_measure.data.toList.drop 48 = dktX13_measure_2 := dk_seg dksX13_measure_1 24 rfl rfl
theorem dksX13_measure_3 : cX13_measure.data.toList.drop 71 = dktX13_measure_3 := dk_seg dksX13_measure_2 23 rfl rfl
theorem dX13_measure_0 : decode cX13_measure 0 = .ok (.aload_n 0, 1) := dk_42 (dk_at dksX13_measure_0 0 rfl rfl)
theorem dX13_measure_1 : decode cX13_measure 1 = .ok (.getfield 110, 3) := dk_180 0 110 (dk_at dksX13_measure_0 1 rfl rfl)
theorem dX13_measure_4 : decode cX13_measure 4 = .ok (.invokevirtual 162, 3) := dk_182 0 162 (dk_at dksX13_measure_0 4 rfl rfl)
theorem dX13_measure_7 : decode cX13_measure 7 = .ok (.iconst 1, 1) := dk_4 (dk_at dksX13_measure_0 7 rfl rfl)
theorem dX13_measure_8 : decode cX13_measure 8 = .ok (.isub, 1) := dk_100 (dk_at dksX13_measure_0 8 rfl rfl)
theorem dX13_measure_9 : decode cX13_measure 9 = .ok (.istore_n 1, 1) := dk_60 (dk_at dksX13_measure_0 9 rfl rfl)
theorem dX13_measure_10 : decode cX13_measure 10 = .ok (.iload_n 1, 1) := dk_27 (dk_at dksX13_measure_0 10 rfl rfl)
theorem dX13_measure_11 : decode cX13_measure 11 = .ok (.ifCond .lt 66, 3) := dk_155 0 66 (dk_at dksX13_measure_0 11 rfl rfl)
theorem dX13_measure_14 : decode cX13_measure 14 = .ok (.aload_n 0, 1) := dk_42 (dk_at dksX13_measure_0 14 rfl rfl)
theorem dX13_measure_15 : decode cX13_measure 15 = .ok (.getfield 30, 3) := dk_180 0 30 (dk_at dksX13_measure_0 15 rfl rfl)
theorem dX13_measure_18 : decode cX13_measure 18 = .ok (.iload_n 1, 1) := dk_27 (dk_at dksX13_measure_0 18 rfl rfl)
theorem dX13_measure_19 : decode cX13_measure 19 = .ok (.iaload, 1) := dk_46 (dk_at dksX13_measure_0 19 rfl rfl)
theorem dX13_measure_20 : decode cX13_measure 20 = .ok (.iconst (-1), 1) := dk_2 (dk_at dksX13_measure_0 20 rfl rfl)
theorem dX13_measure_21 : decode cX13_measure 21 = .ok (.if_icmp .eq 50, 3) := dk_159 0 50 (dk_at dksX13_measure_0 21 rfl rfl)
theorem dX13_measure_24 : decode cX13_measure 24 = .ok (.aload_n 0, 1) := dk_42 (dk_at dksX13_measure_1 0 rfl rfl)
theorem dX13_measure_25 : decode cX13_measure 25 = .ok (.iload_n 1, 1) := dk_27 (dk_at dksX13_measure_1 1 rfl rfl)
theorem dX13_measure_26 : decode cX13_measure 26 = .ok (.invokevirtual 316, 3) := dk_182 1 60 (dk_at dksX13_measure_1 2 rfl rfl)
theorem dX13_measure_29 : decode cX13_measure 29 = .ok (.ifCond .eq 13, 3) := dk_153 0 13 (dk_at dksX13_measure_1 5 rfl rfl)
theorem dX13_measure_32 : decode cX13_measure 32 = .ok (.aload_n 0, 1) := dk_42 (dk_at dksX13_measure_1 8 rfl rfl)
theorem dX13_measure_33 : decode cX13_measure 33 = .ok (.getfield 30, 3) := dk_180 0 30 (dk_at dksX13_measure_1 9 rfl rfl)
theorem dX13_measure_36 : decode cX13_measure 36 = .ok (.iload_n 1, 1) := dk_27 (dk_at dksX13_measure_1 12 rfl rfl)
theorem dX13_measure_37 : decode cX13_measure 37 = .ok (.iconst (-1), 1) := dk_2 (dk_at dksX13_measure_1 13 rfl rfl)
theorem dX13_measure_38 : decode cX13_measure 38 = .ok (.iastore, 1) := dk_79 (dk_at dksX13_measure_1 14 rfl rfl)
theorem dX13_measure_39 : decode cX13_measure 39 = .ok (.goto 32, 3) := dk_167 0 32 (dk_at dksX13_measure_1 15 rfl rfl)
theorem dX13_measure_42 : decode cX13_measure 42 = .ok (.aload_n 0, 1) := dk_42 (dk_at dksX13_measure_1 18 rfl rfl)
theorem dX13_measure_43 : decode cX13_measure 43 = .ok (.getfield 40, 3) := dk_180 0 40 (dk_at dksX13_measure_1 19 rfl rfl)
theorem dX13_measure_46 : decode cX13_measure 46 = .ok (.iload_n 1, 1) := dk_27 (dk_at dksX13_measure_1 22 rfl rfl)
theorem dX13_measure_47 : decode cX13_measure 47 = .ok (.iaload, 1) := dk_46 (dk_at dksX13_measure_1 23 rfl rfl)
theorem dX13_measure_48 : decode cX13_measure 48 = .ok (.iconst (-1), 1) := dk_2 (dk_at dksX13_measure_2 0 rfl rfl)
theorem dX13_measure_49 : decode cX13_measure 49 = .ok (.if_icmp .eq 22, 3) := dk_159 0 22 (dk_at dksX13_measure_2 1 rfl rfl)
theorem dX13_measure_52 : decode cX13_measure 52 = .ok (.aload_n 0, 1) := dk_42 (dk_at dksX13_measure_2 4 rfl rfl)
theorem dX13_measure_53 : decode cX13_measure 53 = .ok (.getfield 46, 3) := dk_180 0 46 (dk_at dksX13_measure_2 5 rfl rfl)
theorem dX13_measure_56 : decode cX13_measure 56 = .ok (.aload_n 0, 1) := dk_42 (dk_at dksX13_measure_2 8 rfl rfl)
theorem dX13_measure_57 : decode cX13_measure 57 = .ok (.getfield 40, 3) := dk_180 0 40 (dk_at dksX13_measure_2 9 rfl rfl)
theorem dX13_measure_60 : decode cX13_measure 60 = .ok (.iload_n 1, 1) := dk_27 (dk_at dksX13_measure_2 12 rfl rfl)
theorem dX13_measure_61 : decode cX13_measure 61 = .ok (.iaload, 1) := dk_46 (dk_at dksX13_measure_2 13 rfl rfl)
theorem dX13_measure_62 : decode cX13_measure 62 = .ok (.dup2, 1) := dk_92 (dk_at dksX13_measure_2 14 rfl rfl)
theorem dX13_measure_63 : decode cX13_measure 63 = .ok (.iaload, 1) := dk_46 (dk_at dksX13_measure_2 15 rfl rfl)
theorem dX13_measure_64 : decode cX13_measure 64 = .ok (.aload_n 0, 1) := dk_42 (dk_at dksX13_measure_2 16 rfl rfl)
theorem dX13_measure_65 : decode cX13_measure 65 = .ok (.iload_n 1, 1) := dk_27 (dk_at dksX13_measure_2 17 rfl rfl)
theorem dX13_measure_66 : decode cX13_measure 66 = .ok (.invokevirtual 319, 3) := dk_182 1 63 (dk_at dksX13_measure_2 18 rfl rfl)
theorem dX13_measure_69 : decode cX13_measure 69 = .ok (.iadd, 1) := dk_96 (dk_at dksX13_measure_2 21 rfl rfl)
theorem dX13_measure_70 : decode cX13_measure 70 = .ok (.iastore, 1) := dk_79 (dk_at dksX13_measure_2 22 rfl rfl)
theorem dX13_measure_71 : decode cX13_measure 71 = .ok (.iinc 1 (-1), 3) := dk_132 1 255 (dk_at dksX13_measure_3 0 rfl rfl)
theorem dX13_measure_74 : decode cX13_measure 74 = .ok (.goto (-64), 3) := dk_167 255 192 (dk_at dksX13_measure_3 3 rfl rfl)
theorem dX13_measure_77 : decode cX13_measure 77 = .ok (.return_, 1) := dk_177 (dk_at dksX13_measure_3 6 rfl rfl)
abbrev cX13_isDefault : ByteArray := prog_8_method_28_code
def yX13_isDefault : MethodName := ⟨RX13, "isDefault", "(I)Z"⟩
def dkwX13_isDefault_5 : List UInt8 := [180, 0, 99, 182, 1, 53, 21, 4, 21, 5, 182, 1, 57, 154, 0, 7, 4, 167, 0, 4, 3, 172]
abbrev dktX13_isDefault_5 : List UInt8 := dkwX13_isDefault_5 ++ []
def dkwX13_isDefault_4 : List UInt8 := [42, 180, 0, 70, 42, 180, 0, 43, 29, 46, 42, 180, 0, 43, 29, 46, 42, 180, 0, 46, 29, 46, 96, 42]
abbrev dktX13_isDefault_4 : List UInt8 := dkwX13_isDefault_4 ++ dktX13_isDefault_5
def dkwX13_isDefault_3 : List UInt8 := [182, 0, 158, 182, 0, 198, 153, 0, 18, 42, 180, 0, 46, 29, 46, 154, 0, 7, 4, 167, 0, 4, 3, 172]
abbrev dktX13_isDefault_3 : List UInt8 := dkwX13_isDefault_3 ++ dktX13_isDefault_4
def dkwX13_isDefault_2 : List UInt8 := [180, 0, 99, 28, 182, 1, 47, 54, 4, 42, 180, 0, 99, 28, 182, 1, 50, 54, 5, 42, 42, 29]
abbrev dktX13_isDefault_2 : List UInt8 := dkwX13_isDefault_2 ++ dktX13_isDefault_3
def dkwX13_isDefault_1 : List UInt8 := [159, 0, 5, 3, 172, 27, 62, 42, 29, 182, 0, 194, 153, 0, 9, 132, 3, 1, 167, 255, 245, 42]
abbrev dktX13_isDefault_1 : List UInt8 := dkwX13_isDefault_1 ++ dktX13_isDefault_2
def dkwX13_isDefault_0 : List UInt8 := [42, 180, 0, 37, 27, 46, 61, 28, 2, 159, 0, 16, 42, 180, 0, 95, 28, 8, 182, 0, 224, 5]
abbrev dktX13_isDefault_0 : List UInt8 := dkwX13_isDefault_0 ++ dktX13_isDefault_1
theorem dksX13_isDefault_0 : cX13_isDefault.data.toList.drop 0 = dktX13_isDefault_0 := by decide +kernel
theorem dksX13_isDefault_1 : cX13_isDefault.data.toList.drop 22 = dktX13_isDefault_1 := dk_seg dksX13_isDefault_0 22 rfl rfl
theorem dksX13_isDefault_2 : cX13_isDefault.data.toList.drop 44 = dktX13_isDefault_2 := dk_seg dksX13_isDefault_1 22 rfl rfl
theorem dksX13_isDefault_3 : cX13_isDefault.data.toList.drop 66 = dktX13_isDefault_3 := dk_seg dksX13_isDefault_2 22 rfl rfl
theorem dksX13_isDefault_4 : cX13_isDefault.data.toList.drop 90 = dktX13_isDefault_4 := dk_seg dksX13_isDefault_3 24 rfl rfl
theorem dksX13_isDefault_5 : cX13_isDefault.data.toList.drop 114 = dktX13_isDefault_5 := dk_seg dksX13_isDefault_4 24 rfl rfl
theorem dX13_isDefault_0 : decode cX13_isDefault 0 = .ok (.aload_n 0, 1) := dk_42 (dk_at dksX13_isDefault_0 0 rfl rfl)
theorem dX13_isDefault_1 : decode cX13_isDefault 1 = .ok (.getfield 37, 3) := dk_180 0 37 (dk_at dksX13_isDefault_0 1 rfl rfl)
theorem dX13_isDefault_4 : decode cX13_isDefault 4 = .ok (.iload_n 1, 1) := dk_27 (dk_at dksX13_isDefault_0 4 rfl rfl)
theorem dX13_isDefault_5 : decode cX13_isDefault 5 = .ok (.iaload, 1) := dk_46 (dk_at dksX13_isDefault_0 5 rfl rfl)
theorem dX13_isDefault_6 : decode cX13_isDefault 6 = .ok (.istore_n 2, 1) := dk_61 (dk_at dksX13_isDefault_0 6 rfl rfl)
theorem dX13_isDefault_7 : decode cX13_isDefault 7 = .ok (.iload_n 2, 1) := dk_28 (dk_at dksX13_isDefault_0 7 rfl rfl)
theorem dX13_isDefault_8 : decode cX13_isDefault 8 = .ok (.iconst (-1), 1) := dk_2 (dk_at dksX13_isDefault_0 8 rfl rfl)
theorem dX13_isDefault_9 : decode cX13_isDefault 9 = .ok (.if_icmp .eq 16, 3) := dk_159 0 16 (dk_at dksX13_isDefault_0 9 rfl rfl)
theorem dX13_isDefault_12 : decode cX13_isDefault 12 = .ok (.aload_n 0, 1) := dk_42 (dk_at dksX13_isDefault_0 12 rfl rfl)
theorem dX13_isDefault_13 : decode cX13_isDefault 13 = .ok (.getfield 95, 3) := dk_180 0 95 (dk_at dksX13_isDefault_0 13 rfl rfl)
theorem dX13_isDefault_16 : decode cX13_isDefault 16 = .ok (.iload_n 2, 1) := dk_28 (dk_at dksX13_isDefault_0 16 rfl rfl)
theorem dX13_isDefault_17 : decode cX13_isDefault 17 = .ok (.iconst 5, 1) := dk_8 (dk_at dksX13_isDefault_0 17 rfl rfl)
theorem dX13_isDefault_18 : decode cX13_isDefault 18 = .ok (.invokevirtual 224, 3) := dk_182 0 224 (dk_at dksX13_isDefault_0 18 rfl rfl)
theorem dX13_isDefault_21 : decode cX13_isDefault 21 = .ok (.iconst 2, 1) := dk_5 (dk_at dksX13_isDefault_0 21 rfl rfl)
theorem dX13_isDefault_22 : decode cX13_isDefault 22 = .ok (.if_icmp .eq 5, 3) := dk_159 0 5 (dk_at dksX13_isDefault_1 0 rfl rfl)
theorem dX13_isDefault_25 : decode cX13_isDefault 25 = .ok (.iconst 0, 1) := dk_3 (dk_at dksX13_isDefault_1 3 rfl rfl)
theorem dX13_isDefault_26 : decode cX13_isDefault 26 = .ok (.ireturn, 1) := dk_172 (dk_at dksX13_isDefault_1 4 rfl rfl)
theorem dX13_isDefault_27 : decode cX13_isDefault 27 = .ok (.iload_n 1, 1) := dk_27 (dk_at dksX13_isDefault_1 5 rfl rfl)
theorem dX13_isDefault_28 : decode cX13_isDefault 28 = .ok (.istore_n 3, 1) := dk_62 (dk_at dksX13_isDefault_1 6 rfl rfl)
theorem dX13_isDefault_29 : decode cX13_isDefault 29 = .ok (.aload_n 0, 1) := dk_42 (dk_at dksX13_isDefault_1 7 rfl rfl)
theorem dX13_isDefault_30 : decode cX13_isDefault 30 = .ok (.iload_n 3, 1) := dk_29 (dk_at dksX13_isDefault_1 8 rfl rfl)
theorem dX13_isDefault_31 : decode cX13_isDefault 31 = .ok (.invokevirtual 194, 3) := dk_182 0 194 (dk_at dksX13_isDefault_1 9 rfl rfl)
theorem dX13_isDefault_34 : decode cX13_isDefault 34 = .ok (.ifCond .eq 9, 3) := dk_153 0 9 (dk_at dksX13_isDefault_1 12 rfl rfl)
theorem dX13_isDefault_37 : decode cX13_isDefault 37 = .ok (.iinc 3 1, 3) := dk_132 3 1 (dk_at dksX13_isDefault_1 15 rfl rfl)
theorem dX13_isDefault_40 : decode cX13_isDefault 40 = .ok (.goto (-11), 3) := dk_167 255 245 (dk_at dksX13_isDefault_1 18 rfl rfl)
theorem dX13_isDefault_43 : decode cX13_isDefault 43 = .ok (.aload_n 0, 1) := dk_42 (dk_at dksX13_isDefault_1 21 rfl rfl)
theorem dX13_isDefault_44 : decode cX13_isDefault 44 = .ok (.getfield 99, 3) := dk_180 0 99 (dk_at dksX13_isDefault_2 0 rfl rfl)
theorem dX13_isDefault_47 : decode cX13_isDefault 47 = .ok (.iload_n 2, 1) := dk_28 (dk_at dksX13_isDefault_2 3 rfl rfl)
theorem dX13_isDefault_48 : decode cX13_isDefault 48 = .ok (.invokevirtual 303, 3) := dk_182 1 47 (dk_at dksX13_isDefault_2 4 rfl rfl)
theorem dX13_isDefault_51 : decode cX13_isDefault 51 = .ok (.istore 4, 2) := dk_54 4 (dk_at dksX13_isDefault_2 7 rfl rfl)
theorem dX13_isDefault_53 : decode cX13_isDefault 53 = .ok (.aload_n 0, 1) := dk_42 (dk_at dksX13_isDefault_2 9 rfl rfl)
theorem dX13_isDefault_54 : decode cX13_isDefault 54 = .ok (.getfield 99, 3) := dk_180 0 99 (dk_at dksX13_isDefault_2 10 rfl rfl)
theorem dX13_isDefault_57 : decode cX13_isDefault 57 = .ok (.iload_n 2, 1) := dk_28 (dk_at dksX13_isDefault_2 13 rfl rfl)
theorem dX13_isDefault_58 : decode cX13_isDefault 58 = .ok (.invokevirtual 306, 3) := dk_182 1 50 (dk_at dksX13_isDefault_2 14 rfl rfl)
theorem dX13_isDefault_61 : decode cX13_isDefault 61 = .ok (.istore 5, 2) := dk_54 5 (dk_at dksX13_isDefault_2 17 rfl rfl)
theorem dX13_isDefault_63 : decode cX13_isDefault 63 = .ok (.aload_n 0, 1) := dk_42 (dk_at dksX13_isDefault_2 19 rfl rfl)
theorem dX13_isDefault_64 : decode cX13_isDefault 64 = .ok (.aload_n 0, 1) := dk_42 (dk_at dksX13_isDefault_2 20 rfl rfl)
theorem dX13_isDefault_65 : decode cX13_isDefault 65 = .ok (.iload_n 3, 1) := dk_29 (dk_at dksX13_isDefault_2 21 rfl rfl)
theorem dX13_isDefault_66 : decode cX13_isDefault 66 = .ok (.invokevirtual 158, 3) := dk_182 0 158 (dk_at dksX13_isDefault_3 0 rfl rfl)
theorem dX13_isDefault_69 : decode cX13_isDefault 69 = .ok (.invokevirtual 198, 3) := dk_182 0 198 (dk_at dksX13_isDefault_3 3 rfl rfl)
theorem dX13_isDefault_72 : decode cX13_isDefault 72 = .ok (.ifCond .eq 18, 3) := dk_153 0 18 (dk_at dksX13_isDefault_3 6 rfl rfl)
theorem dX13_isDefault_75 : decode cX13_isDefault 75 = .ok (.aload_n 0, 1) := dk_42 (dk_at dksX13_isDefault_3 9 rfl rfl)
theorem dX13_isDefault_76 : decode cX13_isDefault 76 = .ok (.getfield 46, 3) := dk_180 0 46 (dk_at dksX13_isDefault_3 10 rfl rfl)
theorem dX13_isDefault_79 : decode cX13_isDefault 79 = .ok (.iload_n 3, 1) := dk_29 (dk_at dksX13_isDefault_3 13 rfl rfl)
theorem dX13_isDefault_80 : decode cX13_isDefault 80 = .ok (.iaload, 1) := dk_46 (dk_at dksX13_isDefault_3 14 rfl rfl)
theorem dX13_isDefault_81 : decode cX13_isDefault 81 = .ok (.ifCond .ne 7, 3) := dk_154 0 7 (dk_at dksX13_isDefault_3 15 rfl rfl)
theorem dX13_isDefault_84 : decode cX13_isDefault 84 = .ok (.iconst 1, 1) := dk_4 (dk_at dksX13_isDefault_3 18 rfl rfl)
theorem dX13_isDefault_85 : decode cX13_isDefault 85 = .ok (.goto 4, 3) := dk_167 0 4 (dk_at dksX13_isDefault_3 19 rfl rfl)
theorem dX13_isDefault_88 : decode cX13_isDefault 88 = .ok (.iconst 0, 1) := dk_3 (dk_at dksX13_isDefault_3 22 rfl rfl)
theorem dX13_isDefault_89 : decode cX13_isDefault 89 = .ok (.ireturn, 1) := dk_172 (dk_at dksX13_isDefault_3 23 rfl rfl)
theorem dX13_isDefault_90 : decode cX13_isDefault 90 = .ok (.aload_n 0, 1) := dk_42 (dk_at dksX13_isDefault_4 0 rfl rfl)
theorem dX13_isDefault_91 : decode cX13_isDefault 91 = .ok (.getfield 70, 3) := dk_180 0 70 (dk_at dksX13_isDefault_4 1 rfl rfl)
theorem dX13_isDefault_94 : decode cX13_isDefault 94 = .ok (.aload_n 0, 1) := dk_42 (dk_at dksX13_isDefault_4 4 rfl rfl)
theorem dX13_isDefault_95 : decode cX13_isDefault 95 = .ok (.getfield 43, 3) := dk_180 0 43 (dk_at dksX13_isDefault_4 5 rfl rfl)
theorem dX13_isDefault_98 : decode cX13_isDefault 98 = .ok (.iload_n 3, 1) := dk_29 (dk_at dksX13_isDefault_4 8 rfl rfl)
theorem dX13_isDefault_99 : decode cX13_isDefault 99 = .ok (.iaload, 1) := dk_46 (dk_at dksX13_isDefault_4 9 rfl rfl)
theorem dX13_isDefault_100 : decode cX13_isDefault 100 = .ok (.aload_n 0, 1) := dk_42 (dk_at dksX13_isDefault_4 10 rfl rfl)
theorem dX13_isDefault_101 : decode cX13_isDefault 101 = .ok (.getfield 43, 3) := dk_180 0 43 (dk_at dksX13_isDefault_4 11 rfl rfl)
theorem dX13_isDefault_104 : decode cX13_isDefault 104 = .ok (.iload_n 3, 1) := dk_29 (dk_at dksX13_isDefault_4 14 rfl rfl)
theorem dX13_isDefault_105 : decode cX13_isDefault 105 = .ok (.iaload, 1) := dk_46 (dk_at dksX13_isDefault_4 15 rfl rfl)
theorem dX13_isDefault_106 : decode cX13_isDefault 106 = .ok (.aload_n 0, 1) := dk_42 (dk_at dksX13_isDefault_4 16 rfl rfl)
theorem dX13_isDefault_107 : decode cX13_isDefault 107 = .ok (.getfield 46, 3) := dk_180 0 46 (dk_at dksX13_isDefault_4 17 rfl rfl)
theorem dX13_isDefault_110 : decode cX13_isDefault 110 = .ok (.iload_n 3, 1) := dk_29 (dk_at dksX13_isDefault_4 20 rfl rfl)
theorem dX13_isDefault_111 : decode cX13_isDefault 111 = .ok (.iaload, 1) := dk_46 (dk_at dksX13_isDefault_4 21 rfl rfl)
theorem dX13_isDefault_112 : decode cX13_isDefault 112 = .ok (.iadd, 1) := dk_96 (dk_at dksX13_isDefault_4 22 rfl rfl)
theorem dX13_isDefault_113 : decode cX13_isDefault 113 = .ok (.aload_n 0, 1) := dk_42 (dk_at dksX13_isDefault_4 23 rfl rfl)
theorem dX13_isDefault_114 : decode cX13_isDefault 114 = .ok (.getfield 99, 3) := dk_180 0 99 (dk_at dksX13_isDefault_5 0 rfl rfl)
theorem dX13_isDefault_117 : decode cX13_isDefault 117 = .ok (.invokevirtual 309, 3) := dk_182 1 53 (dk_at dksX13_isDefault_5 3 rfl rfl)
theorem dX13_isDefault_120 : decode cX13_isDefault 120 = .ok (.iload 4, 2) := dk_21 4 (dk_at dksX13_isDefault_5 6 rfl rfl)
theorem dX13_isDefault_122 : decode cX13_isDefault 122 = .ok (.iload 5, 2) := dk_21 5 (dk_at dksX13_isDefault_5 8 rfl rfl)
theorem dX13_isDefault_124 : decode cX13_isDefault 124 = .ok (.invokevirtual 313, 3) := dk_182 1 57 (dk_at dksX13_isDefault_5 10 rfl rfl)
theorem dX13_isDefault_127 : decode cX13_isDefault 127 = .ok (.ifCond .ne 7, 3) := dk_154 0 7 (dk_at dksX13_isDefault_5 13 rfl rfl)
theorem dX13_isDefault_130 : decode cX13_isDefault 130 = .ok (.iconst 1, 1) := dk_4 (dk_at dksX13_isDefault_5 16 rfl rfl)
theorem dX13_isDefault_131 : decode cX13_isDefault 131 = .ok (.goto 4, 3) := dk_167 0 4 (dk_at dksX13_isDefault_5 17 rfl rfl)
theorem dX13_isDefault_134 : decode cX13_isDefault 134 = .ok (.iconst 0, 1) := dk_3 (dk_at dksX13_isDefault_5 20 rfl rfl)
theorem dX13_isDefault_135 : decode cX13_isDefault 135 = .ok (.ireturn, 1) := dk_172 (dk_at dksX13_isDefault_5 21 rfl rfl)
abbrev cX13_total : ByteArray := prog_8_method_27_code
def yX13_total : MethodName := ⟨RX13, "total", "(I)I"⟩
def dkwX13_total_1 : List UInt8 := [180, 0, 46, 27, 46, 96, 172]
abbrev dktX13_total_1 : List UInt8 := dkwX13_total_1 ++ []
def dkwX13_total_0 : List UInt8 := [42, 180, 0, 110, 27, 182, 0, 172, 184, 1, 41, 42, 180, 0, 46, 27, 46, 184, 1, 44, 96, 42]
abbrev dktX13_total_0 : List UInt8 := dkwX13_total_0 ++ dktX13_total_1
theorem dksX13_total_0 : cX13_total.data.toList.drop 0 = dktX13_total_0 := by decide +kernel
theorem dksX13_total_1 : cX13_total.data.toList.drop 22 = dktX13_total_1 := dk_seg dksX13_total_0 22 rfl rfl
theorem dX13_total_0 : decode cX13_total 0 = .ok (.aload_n 0, 1) := dk_42 (dk_at dksX13_total_0 0 rfl rfl)
theorem dX13_total_1 : decode cX13_total 1 = .ok (.getfield 110, 3) := dk_180 0 110 (dk_at dksX13_total_0 1 rfl rfl)
theorem dX13_total_4 : decode cX13_total 4 = .ok (.iload_n 1, 1) := dk_27 (dk_at dksX13_total_0 4 rfl rfl)
theorem dX13_total_5 : decode cX13_total 5 = .ok (.invokevirtual 172, 3) := dk_182 0 172 (dk_at dksX13_total_0 5 rfl rfl)
theorem dX13_total_8 : decode cX13_total 8 = .ok (.invokestatic 297, 3) := dk_184 1 41 (dk_at dksX13_total_0 8 rfl rfl)
theorem dX13_total_11 : decode cX13_total 11 = .ok (.aload_n 0, 1) := dk_42 (dk_at dksX13_total_0 11 rfl rfl)
theorem dX13_total_12 : decode cX13_total 12 = .ok (.getfield 46, 3) := dk_180 0 46 (dk_at dksX13_total_0 12 rfl rfl)
theorem dX13_total_15 : decode cX13_total 15 = .ok (.iload_n 1, 1) := dk_27 (dk_at dksX13_total_0 15 rfl rfl)
theorem dX13_total_16 : decode cX13_total 16 = .ok (.iaload, 1) := dk_46 (dk_at dksX13_total_0 16 rfl rfl)
theorem dX13_total_17 : decode cX13_total 17 = .ok (.invokestatic 300, 3) := dk_184 1 44 (dk_at dksX13_total_0 17 rfl rfl)
theorem dX13_total_20 : decode cX13_total 20 = .ok (.iadd, 1) := dk_96 (dk_at dksX13_total_0 20 rfl rfl)
theorem dX13_total_21 : decode cX13_total 21 = .ok (.aload_n 0, 1) := dk_42 (dk_at dksX13_total_0 21 rfl rfl)
theorem dX13_total_22 : decode cX13_total 22 = .ok (.getfield 46, 3) := dk_180 0 46 (dk_at dksX13_total_1 0 rfl rfl)
theorem dX13_total_25 : decode cX13_total 25 = .ok (.iload_n 1, 1) := dk_27 (dk_at dksX13_total_1 3 rfl rfl)
theorem dX13_total_26 : decode cX13_total 26 = .ok (.iaload, 1) := dk_46 (dk_at dksX13_total_1 4 rfl rfl)
theorem dX13_total_27 : decode cX13_total 27 = .ok (.iadd, 1) := dk_96 (dk_at dksX13_total_1 5 rfl rfl)
theorem dX13_total_28 : decode cX13_total 28 = .ok (.ireturn, 1) := dk_172 (dk_at dksX13_total_1 6 rfl rfl)
abbrev cX13_tagBytes : ByteArray := prog_8_method_25_code
def yX13_tagBytes : MethodName := ⟨RX13, "tagBytes", "(I)I"⟩
def dkwX13_tagBytes_2 : List UInt8 := [167, 0, 4, 8, 172]
abbrev dktX13_tagBytes_2 : List UInt8 := dkwX13_tagBytes_2 ++ []
def dkwX13_tagBytes_1 : List UInt8 := [167, 0, 26, 27, 17, 64, 0, 162, 0, 7, 6, 167, 0, 15, 27, 19, 1, 38, 162, 0, 7, 7]
abbrev dktX13_tagBytes_1 : List UInt8 := dkwX13_tagBytes_1 ++ dktX13_tagBytes_2
def dkwX13_tagBytes_0 : List UInt8 := [26, 19, 1, 37, 126, 60, 27, 16, 31, 162, 0, 7, 4, 167, 0, 37, 27, 17, 0, 128, 162, 0, 7, 5]
abbrev dktX13_tagBytes_0 : List UInt8 := dkwX13_tagBytes_0 ++ dktX13_tagBytes_1
theorem dksX13_tagBytes_0 : cX13_tagBytes.data.toList.drop 0 = dktX13_tagBytes_0 := by decide +kernel
theorem dksX13_tagBytes_1 : cX13_tagBytes.data.toList.drop 24 = dktX13_tagBytes_1 := dk_seg dksX13_tagBytes_0 24 rfl rfl
theorem dksX13_tagBytes_2 : cX13_tagBytes.data.toList.drop 46 = dktX13_tagBytes_2 := dk_seg dksX13_tagBytes_1 22 rfl rfl
theorem dX13_tagBytes_0 : decode cX13_tagBytes 0 = .ok (.iload_n 0, 1) := dk_26 (dk_at dksX13_tagBytes_0 0 rfl rfl)
theorem dX13_tagBytes_1 : decode cX13_tagBytes 1 = .ok (.ldc_w 293, 3) := dk_19 1 37 (dk_at dksX13_tagBytes_0 1 rfl rfl)
theorem dX13_tagBytes_4 : decode cX13_tagBytes 4 = .ok (.iand, 1) := dk_126 (dk_at dksX13_tagBytes_0 4 rfl rfl)
theorem dX13_tagBytes_5 : decode cX13_tagBytes 5 = .ok (.istore_n 1, 1) := dk_60 (dk_at dksX13_tagBytes_0 5 rfl rfl)
theorem dX13_tagBytes_6 : decode cX13_tagBytes 6 = .ok (.iload_n 1, 1) := dk_27 (dk_at dksX13_tagBytes_0 6 rfl rfl)
theorem dX13_tagBytes_7 : decode cX13_tagBytes 7 = .ok (.bipush 31, 2) := dk_16 31 (dk_at dksX13_tagBytes_0 7 rfl rfl)
theorem dX13_tagBytes_9 : decode cX13_tagBytes 9 = .ok (.if_icmp .ge 7, 3) := dk_162 0 7 (dk_at dksX13_tagBytes_0 9 rfl rfl)
theorem dX13_tagBytes_12 : decode cX13_tagBytes 12 = .ok (.iconst 1, 1) := dk_4 (dk_at dksX13_tagBytes_0 12 rfl rfl)
theorem dX13_tagBytes_13 : decode cX13_tagBytes 13 = .ok (.goto 37, 3) := dk_167 0 37 (dk_at dksX13_tagBytes_0 13 rfl rfl)
theorem dX13_tagBytes_16 : decode cX13_tagBytes 16 = .ok (.iload_n 1, 1) := dk_27 (dk_at dksX13_tagBytes_0 16 rfl rfl)
theorem dX13_tagBytes_17 : decode cX13_tagBytes 17 = .ok (.sipush 128, 3) := dk_17 0 128 (dk_at dksX13_tagBytes_0 17 rfl rfl)
theorem dX13_tagBytes_20 : decode cX13_tagBytes 20 = .ok (.if_icmp .ge 7, 3) := dk_162 0 7 (dk_at dksX13_tagBytes_0 20 rfl rfl)
theorem dX13_tagBytes_23 : decode cX13_tagBytes 23 = .ok (.iconst 2, 1) := dk_5 (dk_at dksX13_tagBytes_0 23 rfl rfl)
theorem dX13_tagBytes_24 : decode cX13_tagBytes 24 = .ok (.goto 26, 3) := dk_167 0 26 (dk_at dksX13_tagBytes_1 0 rfl rfl)
theorem dX13_tagBytes_27 : decode cX13_tagBytes 27 = .ok (.iload_n 1, 1) := dk_27 (dk_at dksX13_tagBytes_1 3 rfl rfl)
theorem dX13_tagBytes_28 : decode cX13_tagBytes 28 = .ok (.sipush 16384, 3) := dk_17 64 0 (dk_at dksX13_tagBytes_1 4 rfl rfl)
theorem dX13_tagBytes_31 : decode cX13_tagBytes 31 = .ok (.if_icmp .ge 7, 3) := dk_162 0 7 (dk_at dksX13_tagBytes_1 7 rfl rfl)
theorem dX13_tagBytes_34 : decode cX13_tagBytes 34 = .ok (.iconst 3, 1) := dk_6 (dk_at dksX13_tagBytes_1 10 rfl rfl)
theorem dX13_tagBytes_35 : decode cX13_tagBytes 35 = .ok (.goto 15, 3) := dk_167 0 15 (dk_at dksX13_tagBytes_1 11 rfl rfl)
theorem dX13_tagBytes_38 : decode cX13_tagBytes 38 = .ok (.iload_n 1, 1) := dk_27 (dk_at dksX13_tagBytes_1 14 rfl rfl)
theorem dX13_tagBytes_39 : decode cX13_tagBytes 39 = .ok (.ldc_w 294, 3) := dk_19 1 38 (dk_at dksX13_tagBytes_1 15 rfl rfl)
theorem dX13_tagBytes_42 : decode cX13_tagBytes 42 = .ok (.if_icmp .ge 7, 3) := dk_162 0 7 (dk_at dksX13_tagBytes_1 18 rfl rfl)
theorem dX13_tagBytes_45 : decode cX13_tagBytes 45 = .ok (.iconst 4, 1) := dk_7 (dk_at dksX13_tagBytes_1 21 rfl rfl)
theorem dX13_tagBytes_46 : decode cX13_tagBytes 46 = .ok (.goto 4, 3) := dk_167 0 4 (dk_at dksX13_tagBytes_2 0 rfl rfl)
theorem dX13_tagBytes_49 : decode cX13_tagBytes 49 = .ok (.iconst 5, 1) := dk_8 (dk_at dksX13_tagBytes_2 3 rfl rfl)
theorem dX13_tagBytes_50 : decode cX13_tagBytes 50 = .ok (.ireturn, 1) := dk_172 (dk_at dksX13_tagBytes_2 4 rfl rfl)
abbrev cX13_lengthBytes : ByteArray := prog_8_method_26_code
def yX13_lengthBytes : MethodName := ⟨RX13, "lengthBytes", "(I)I"⟩
def dkwX13_lengthBytes_1 : List UInt8 := [19, 1, 39, 162, 0, 7, 6, 167, 0, 15, 26, 19, 1, 40, 162, 0, 7, 7, 167, 0, 4, 8, 172]
abbrev dktX13_lengthBytes_1 : List UInt8 := dkwX13_lengthBytes_1 ++ []
def dkwX13_lengthBytes_0 : List UInt8 := [26, 17, 0, 128, 162, 0, 7, 4, 167, 0, 37, 26, 17, 1, 0, 162, 0, 7, 5, 167, 0, 26, 26]
abbrev dktX13_lengthBytes_0 : List UInt8 := dkwX13_lengthBytes_0 ++ dktX13_lengthBytes_1
theorem dksX13_lengthBytes_0 : cX13_lengthBytes.data.toList.drop 0 = dktX13_lengthBytes_0 := by decide +kernel
theorem dksX13_lengthBytes_1 : cX13_lengthBytes.data.toList.drop 23 = dktX13_lengthBytes_1 := dk_seg dksX13_lengthBytes_0 23 rfl rfl
theorem dX13_lengthBytes_0 : decode cX13_lengthBytes 0 = .ok (.iload_n 0, 1) := dk_26 (dk_at dksX13_lengthBytes_0 0 rfl rfl)
theorem dX13_lengthBytes_1 : decode cX13_lengthBytes 1 = .ok (.sipush 128, 3) := dk_17 0 128 (dk_at dksX13_lengthBytes_0 1 rfl rfl)
theorem dX13_lengthBytes_4 : decode cX13_lengthBytes 4 = .ok (.if_icmp .ge 7, 3) := dk_162 0 7 (dk_at dksX13_lengthBytes_0 4 rfl rfl)
theorem dX13_lengthBytes_7 : decode cX13_lengthBytes 7 = .ok (.iconst 1, 1) := dk_4 (dk_at dksX13_lengthBytes_0 7 rfl rfl)
theorem dX13_lengthBytes_8 : decode cX13_lengthBytes 8 = .ok (.goto 37, 3) := dk_167 0 37 (dk_at dksX13_lengthBytes_0 8 rfl rfl)
theorem dX13_lengthBytes_11 : decode cX13_lengthBytes 11 = .ok (.iload_n 0, 1) := dk_26 (dk_at dksX13_lengthBytes_0 11 rfl rfl)
theorem dX13_lengthBytes_12 : decode cX13_lengthBytes 12 = .ok (.sipush 256, 3) := dk_17 1 0 (dk_at dksX13_lengthBytes_0 12 rfl rfl)
theorem dX13_lengthBytes_15 : decode cX13_lengthBytes 15 = .ok (.if_icmp .ge 7, 3) := dk_162 0 7 (dk_at dksX13_lengthBytes_0 15 rfl rfl)
theorem dX13_lengthBytes_18 : decode cX13_lengthBytes 18 = .ok (.iconst 2, 1) := dk_5 (dk_at dksX13_lengthBytes_0 18 rfl rfl)
theorem dX13_lengthBytes_19 : decode cX13_lengthBytes 19 = .ok (.goto 26, 3) := dk_167 0 26 (dk_at dksX13_lengthBytes_0 19 rfl rfl)
theorem dX13_lengthBytes_22 : decode cX13_lengthBytes 22 = .ok (.iload_n 0, 1) := dk_26 (dk_at dksX13_lengthBytes_0 22 rfl rfl)
theorem dX13_lengthBytes_23 : decode cX13_lengthBytes 23 = .ok (.ldc_w 295, 3) := dk_19 1 39 (dk_at dksX13_lengthBytes_1 0 rfl rfl)
theorem dX13_lengthBytes_26 : decode cX13_lengthBytes 26 = .ok (.if_icmp .ge 7, 3) := dk_162 0 7 (dk_at dksX13_lengthBytes_1 3 rfl rfl)
theorem dX13_lengthBytes_29 : decode cX13_lengthBytes 29 = .ok (.iconst 3, 1) := dk_6 (dk_at dksX13_lengthBytes_1 6 rfl rfl)
theorem dX13_lengthBytes_30 : decode cX13_lengthBytes 30 = .ok (.goto 15, 3) := dk_167 0 15 (dk_at dksX13_lengthBytes_1 7 rfl rfl)
theorem dX13_lengthBytes_33 : decode cX13_lengthBytes 33 = .ok (.iload_n 0, 1) := dk_26 (dk_at dksX13_lengthBytes_1 10 rfl rfl)
theorem dX13_lengthBytes_34 : decode cX13_lengthBytes 34 = .ok (.ldc_w 296, 3) := dk_19 1 40 (dk_at dksX13_lengthBytes_1 11 rfl rfl)
theorem dX13_lengthBytes_37 : decode cX13_lengthBytes 37 = .ok (.if_icmp .ge 7, 3) := dk_162 0 7 (dk_at dksX13_lengthBytes_1 14 rfl rfl)
theorem dX13_lengthBytes_40 : decode cX13_lengthBytes 40 = .ok (.iconst 4, 1) := dk_7 (dk_at dksX13_lengthBytes_1 17 rfl rfl)
theorem dX13_lengthBytes_41 : decode cX13_lengthBytes 41 = .ok (.goto 4, 3) := dk_167 0 4 (dk_at dksX13_lengthBytes_1 18 rfl rfl)
theorem dX13_lengthBytes_44 : decode cX13_lengthBytes 44 = .ok (.iconst 5, 1) := dk_8 (dk_at dksX13_lengthBytes_1 21 rfl rfl)
theorem dX13_lengthBytes_45 : decode cX13_lengthBytes 45 = .ok (.ireturn, 1) := dk_172 (dk_at dksX13_lengthBytes_1 22 rfl rfl)
abbrev cX13_put : ByteArray := prog_8_method_33_code
def yX13_put : MethodName := ⟨RX13, "put", "(I)V"⟩
def dkwX13_put_12 : List UInt8 := [180, 0, 169, 46, 42, 180, 1, 69, 4, 182, 1, 85, 42, 89, 180, 0, 169, 4, 96, 181, 0, 169, 177]
abbrev dktX13_put_12 : List UInt8 := dkwX13_put_12 ++ []
def dkwX13_put_11 : List UInt8 := [27, 182, 0, 194, 154, 0, 31, 42, 27, 182, 0, 158, 16, 13, 160, 0, 21, 42, 42, 180, 0, 86, 42]
abbrev dktX13_put_11 : List UInt8 := dkwX13_put_11 ++ dktX13_put_12
def dkwX13_put_10 : List UInt8 := [79, 42, 89, 180, 1, 69, 4, 96, 181, 1, 69, 42, 180, 0, 110, 29, 182, 0, 185, 62, 167, 255, 171, 42]
abbrev dktX13_put_10 : List UInt8 := dkwX13_put_10 ++ dktX13_put_11
def dkwX13_put_9 : List UInt8 := [180, 0, 83, 42, 180, 1, 69, 5, 96, 184, 0, 148, 181, 0, 83, 42, 180, 0, 80, 42, 180, 1, 69, 29]
abbrev dktX13_put_9 : List UInt8 := dkwX13_put_9 ++ dktX13_put_10
def dkwX13_put_8 : List UInt8 := [159, 0, 57, 42, 42, 180, 0, 80, 42, 180, 1, 69, 4, 96, 184, 0, 148, 181, 0, 80, 42, 42]
abbrev dktX13_put_8 : List UInt8 := dkwX13_put_8 ++ dktX13_put_9
def dkwX13_put_7 : List UInt8 := [79, 27, 4, 96, 62, 29, 42, 180, 0, 110, 27, 182, 0, 185, 162, 0, 79, 42, 180, 0, 30, 29, 46, 2]
abbrev dktX13_put_7 : List UInt8 := dkwX13_put_7 ++ dktX13_put_8
def dkwX13_put_6 : List UInt8 := [180, 0, 86, 42, 180, 0, 169, 42, 180, 1, 69, 79, 42, 180, 0, 52, 42, 180, 0, 169, 42, 180, 1, 69]
abbrev dktX13_put_6 : List UInt8 := dkwX13_put_6 ++ dktX13_put_7
def dkwX13_put_5 : List UInt8 := [180, 0, 169, 4, 96, 184, 0, 148, 181, 0, 86, 42, 180, 0, 49, 42, 180, 0, 169, 27, 79, 42]
abbrev dktX13_put_5 : List UInt8 := dkwX13_put_5 ++ dktX13_put_6
def dkwX13_put_4 : List UInt8 := [42, 180, 0, 52, 42, 180, 0, 169, 4, 96, 184, 0, 148, 181, 0, 52, 42, 42, 180, 0, 86, 42]
abbrev dktX13_put_4 : List UInt8 := dkwX13_put_4 ++ dktX13_put_5
def dkwX13_put_3 : List UInt8 := [46, 96, 182, 1, 9, 177, 42, 42, 180, 0, 49, 42, 180, 0, 169, 4, 96, 184, 0, 148, 181, 0, 49, 42]
abbrev dktX13_put_3 : List UInt8 := dkwX13_put_3 ++ dktX13_put_4
def dkwX13_put_2 : List UInt8 := [180, 0, 77, 42, 180, 0, 70, 42, 180, 0, 43, 27, 46, 42, 180, 0, 43, 27, 46, 42, 180, 0, 46, 27]
abbrev dktX13_put_2 : List UInt8 := dkwX13_put_2 ++ dktX13_put_3
def dkwX13_put_1 : List UInt8 := [3, 61, 42, 27, 28, 182, 1, 78, 42, 42, 180, 0, 46, 27, 46, 182, 1, 82, 28, 154, 0, 34, 42]
abbrev dktX13_put_1 : List UInt8 := dkwX13_put_1 ++ dktX13_put_2
def dkwX13_put_0 : List UInt8 := [42, 27, 182, 0, 194, 154, 0, 15, 42, 42, 27, 182, 0, 158, 182, 0, 198, 153, 0, 7, 4, 167, 0, 4]
abbrev dktX13_put_0 : List UInt8 := dkwX13_put_0 ++ dktX13_put_1
theorem dksX13_put_0 : cX13_put.data.toList.drop 0 = dktX13_put_0 := by decide +kernel
theorem dksX13_put_1 : cX13_put.data.toList.drop 24 = dktX13_put_1 := dk_seg dksX13_put_0 24 rfl rfl
theorem dksX13_put_2 : cX13_put.data.toList.drop 47 = dktX13_put_2 := dk_seg dksX13_put_1 23 rfl rfl
theorem dksX13_put_3 : cX13_put.data.toList.drop 71 = dktX13_put_3 := dk_seg dksX13_put_2 24 rfl rfl
theorem dksX13_put_4 : cX13_put.data.toList.drop 95 = dktX13_put_4 := dk_seg dksX13_put_3 24 rfl rfl
theorem dksX13_put_5 : cX13_put.data.toList.drop 117 = dktX13_put_5 := dk_seg dksX13_put_4 22 rfl rfl
theorem dksX13_put_6 : cX13_put.data.toList.drop 139 = dktX13_put_6 := dk_seg dksX13_put_5 22 rfl rfl
theorem dksX13_put_7 : cX13_put.data.toList.drop 163 = dktX13_put_7 := dk_seg dksX13_put_6 24 rfl rfl
theorem dksX13_put_8 : cX13_put.data.toList.drop 187 = dktX13_put_8 := dk_seg dksX13_put_7 24 rfl rfl
theorem dksX13_put_9 : cX13_put.data.toList.drop 209 = dktX13_put_9 := dk_seg dksX13_put_8 22 rfl rfl
theorem dksX13_put_10 : cX13_put.data.toList.drop 233 = dktX13_put_10 := dk_seg dksX13_put_9 24 rfl rfl
theorem dksX13_put_11 : cX13_put.data.toList.drop 257 = dktX13_put_11 := dk_seg dksX13_put_10 24 rfl rfl
theorem dksX13_put_12 : cX13_put.data.toList.drop 280 = dktX13_put_12 := dk_seg dksX13_put_11 23 rfl rfl
theorem dX13_put_0 : decode cX13_put 0 = .ok (.aload_n 0, 1) := dk_42 (dk_at dksX13_put_0 0 rfl rfl)
theorem dX13_put_1 : decode cX13_put 1 = .ok (.iload_n 1, 1) := dk_27 (dk_at dksX13_put_0 1 rfl rfl)
theorem dX13_put_2 : decode cX13_put 2 = .ok (.invokevirtual 194, 3) := dk_182 0 194 (dk_at dksX13_put_0 2 rfl rfl)
theorem dX13_put_5 : decode cX13_put 5 = .ok (.ifCond .ne 15, 3) := dk_154 0 15 (dk_at dksX13_put_0 5 rfl rfl)
theorem dX13_put_8 : decode cX13_put 8 = .ok (.aload_n 0, 1) := dk_42 (dk_at dksX13_put_0 8 rfl rfl)
theorem dX13_put_9 : decode cX13_put 9 = .ok (.aload_n 0, 1) := dk_42 (dk_at dksX13_put_0 9 rfl rfl)
theorem dX13_put_10 : decode cX13_put 10 = .ok (.iload_n 1, 1) := dk_27 (dk_at dksX13_put_0 10 rfl rfl)
theorem dX13_put_11 : decode cX13_put 11 = .ok (.invokevirtual 158, 3) := dk_182 0 158 (dk_at dksX13_put_0 11 rfl rfl)
theorem dX13_put_14 : decode cX13_put 14 = .ok (.invokevirtual 198, 3) := dk_182 0 198 (dk_at dksX13_put_0 14 rfl rfl)
theorem dX13_put_17 : decode cX13_put 17 = .ok (.ifCond .eq 7, 3) := dk_153 0 7 (dk_at dksX13_put_0 17 rfl rfl)
theorem dX13_put_20 : decode cX13_put 20 = .ok (.iconst 1, 1) := dk_4 (dk_at dksX13_put_0 20 rfl rfl)
theorem dX13_put_21 : decode cX13_put 21 = .ok (.goto 4, 3) := dk_167 0 4 (dk_at dksX13_put_0 21 rfl rfl)
theorem dX13_put_24 : decode cX13_put 24 = .ok (.iconst 0, 1) := dk_3 (dk_at dksX13_put_1 0 rfl rfl)
theorem dX13_put_25 : decode cX13_put 25 = .ok (.istore_n 2, 1) := dk_61 (dk_at dksX13_put_1 1 rfl rfl)
theorem dX13_put_26 : decode cX13_put 26 = .ok (.aload_n 0, 1) := dk_42 (dk_at dksX13_put_1 2 rfl rfl)
theorem dX13_put_27 : decode cX13_put 27 = .ok (.iload_n 1, 1) := dk_27 (dk_at dksX13_put_1 3 rfl rfl)
theorem dX13_put_28 : decode cX13_put 28 = .ok (.iload_n 2, 1) := dk_28 (dk_at dksX13_put_1 4 rfl rfl)
theorem dX13_put_29 : decode cX13_put 29 = .ok (.invokevirtual 334, 3) := dk_182 1 78 (dk_at dksX13_put_1 5 rfl rfl)
theorem dX13_put_32 : decode cX13_put 32 = .ok (.aload_n 0, 1) := dk_42 (dk_at dksX13_put_1 8 rfl rfl)
theorem dX13_put_33 : decode cX13_put 33 = .ok (.aload_n 0, 1) := dk_42 (dk_at dksX13_put_1 9 rfl rfl)
theorem dX13_put_34 : decode cX13_put 34 = .ok (.getfield 46, 3) := dk_180 0 46 (dk_at dksX13_put_1 10 rfl rfl)
theorem dX13_put_37 : decode cX13_put 37 = .ok (.iload_n 1, 1) := dk_27 (dk_at dksX13_put_1 13 rfl rfl)
theorem dX13_put_38 : decode cX13_put 38 = .ok (.iaload, 1) := dk_46 (dk_at dksX13_put_1 14 rfl rfl)
theorem dX13_put_39 : decode cX13_put 39 = .ok (.invokevirtual 338, 3) := dk_182 1 82 (dk_at dksX13_put_1 15 rfl rfl)
theorem dX13_put_42 : decode cX13_put 42 = .ok (.iload_n 2, 1) := dk_28 (dk_at dksX13_put_1 18 rfl rfl)
theorem dX13_put_43 : decode cX13_put 43 = .ok (.ifCond .ne 34, 3) := dk_154 0 34 (dk_at dksX13_put_1 19 rfl rfl)
theorem dX13_put_46 : decode cX13_put 46 = .ok (.aload_n 0, 1) := dk_42 (dk_at dksX13_put_1 22 rfl rfl)
theorem dX13_put_47 : decode cX13_put 47 = .ok (.getfield 77, 3) := dk_180 0 77 (dk_at dksX13_put_2 0 rfl rfl)
theorem dX13_put_50 : decode cX13_put 50 = .ok (.aload_n 0, 1) := dk_42 (dk_at dksX13_put_2 3 rfl rfl)
theorem dX13_put_51 : decode cX13_put 51 = .ok (.getfield 70, 3) := dk_180 0 70 (dk_at dksX13_put_2 4 rfl rfl)
theorem dX13_put_54 : decode cX13_put 54 = .ok (.aload_n 0, 1) := dk_42 (dk_at dksX13_put_2 7 rfl rfl)
theorem dX13_put_55 : decode cX13_put 55 = .ok (.getfield 43, 3) := dk_180 0 43 (dk_at dksX13_put_2 8 rfl rfl)
theorem dX13_put_58 : decode cX13_put 58 = .ok (.iload_n 1, 1) := dk_27 (dk_at dksX13_put_2 11 rfl rfl)
theorem dX13_put_59 : decode cX13_put 59 = .ok (.iaload, 1) := dk_46 (dk_at dksX13_put_2 12 rfl rfl)
theorem dX13_put_60 : decode cX13_put 60 = .ok (.aload_n 0, 1) := dk_42 (dk_at dksX13_put_2 13 rfl rfl)
theorem dX13_put_61 : decode cX13_put 61 = .ok (.getfield 43, 3) := dk_180 0 43 (dk_at dksX13_put_2 14 rfl rfl)
theorem dX13_put_64 : decode cX13_put 64 = .ok (.iload_n 1, 1) := dk_27 (dk_at dksX13_put_2 17 rfl rfl)
theorem dX13_put_65 : decode cX13_put 65 = .ok (.iaload, 1) := dk_46 (dk_at dksX13_put_2 18 rfl rfl)
theorem dX13_put_66 : decode cX13_put 66 = .ok (.aload_n 0, 1) := dk_42 (dk_at dksX13_put_2 19 rfl rfl)
theorem dX13_put_67 : decode cX13_put 67 = .ok (.getfield 46, 3) := dk_180 0 46 (dk_at dksX13_put_2 20 rfl rfl)
theorem dX13_put_70 : decode cX13_put 70 = .ok (.iload_n 1, 1) := dk_27 (dk_at dksX13_put_2 23 rfl rfl)
theorem dX13_put_71 : decode cX13_put 71 = .ok (.iaload, 1) := dk_46 (dk_at dksX13_put_3 0 rfl rfl)
theorem dX13_put_72 : decode cX13_put 72 = .ok (.iadd, 1) := dk_96 (dk_at dksX13_put_3 1 rfl rfl)
theorem dX13_put_73 : decode cX13_put 73 = .ok (.invokevirtual 265, 3) := dk_182 1 9 (dk_at dksX13_put_3 2 rfl rfl)
theorem dX13_put_76 : decode cX13_put 76 = .ok (.return_, 1) := dk_177 (dk_at dksX13_put_3 5 rfl rfl)
theorem dX13_put_77 : decode cX13_put 77 = .ok (.aload_n 0, 1) := dk_42 (dk_at dksX13_put_3 6 rfl rfl)
theorem dX13_put_78 : decode cX13_put 78 = .ok (.aload_n 0, 1) := dk_42 (dk_at dksX13_put_3 7 rfl rfl)
theorem dX13_put_79 : decode cX13_put 79 = .ok (.getfield 49, 3) := dk_180 0 49 (dk_at dksX13_put_3 8 rfl rfl)
theorem dX13_put_82 : decode cX13_put 82 = .ok (.aload_n 0, 1) := dk_42 (dk_at dksX13_put_3 11 rfl rfl)
theorem dX13_put_83 : decode cX13_put 83 = .ok (.getfield 169, 3) := dk_180 0 169 (dk_at dksX13_put_3 12 rfl rfl)
theorem dX13_put_86 : decode cX13_put 86 = .ok (.iconst 1, 1) := dk_4 (dk_at dksX13_put_3 15 rfl rfl)
theorem dX13_put_87 : decode cX13_put 87 = .ok (.iadd, 1) := dk_96 (dk_at dksX13_put_3 16 rfl rfl)
theorem dX13_put_88 : decode cX13_put 88 = .ok (.invokestatic 148, 3) := dk_184 0 148 (dk_at dksX13_put_3 17 rfl rfl)
theorem dX13_put_91 : decode cX13_put 91 = .ok (.putfield 49, 3) := dk_181 0 49 (dk_at dksX13_put_3 20 rfl rfl)
theorem dX13_put_94 : decode cX13_put 94 = .ok (.aload_n 0, 1) := dk_42 (dk_at dksX13_put_3 23 rfl rfl)
theorem dX13_put_95 : decode cX13_put 95 = .ok (.aload_n 0, 1) := dk_42 (dk_at dksX13_put_4 0 rfl rfl)
theorem dX13_put_96 : decode cX13_put 96 = .ok (.getfield 52, 3) := dk_180 0 52 (dk_at dksX13_put_4 1 rfl rfl)
theorem dX13_put_99 : decode cX13_put 99 = .ok (.aload_n 0, 1) := dk_42 (dk_at dksX13_put_4 4 rfl rfl)
theorem dX13_put_100 : decode cX13_put 100 = .ok (.getfield 169, 3) := dk_180 0 169 (dk_at dksX13_put_4 5 rfl rfl)
theorem dX13_put_103 : decode cX13_put 103 = .ok (.iconst 1, 1) := dk_4 (dk_at dksX13_put_4 8 rfl rfl)
theorem dX13_put_104 : decode cX13_put 104 = .ok (.iadd, 1) := dk_96 (dk_at dksX13_put_4 9 rfl rfl)
theorem dX13_put_105 : decode cX13_put 105 = .ok (.invokestatic 148, 3) := dk_184 0 148 (dk_at dksX13_put_4 10 rfl rfl)
theorem dX13_put_108 : decode cX13_put 108 = .ok (.putfield 52, 3) := dk_181 0 52 (dk_at dksX13_put_4 13 rfl rfl)
theorem dX13_put_111 : decode cX13_put 111 = .ok (.aload_n 0, 1) := dk_42 (dk_at dksX13_put_4 16 rfl rfl)
theorem dX13_put_112 : decode cX13_put 112 = .ok (.aload_n 0, 1) := dk_42 (dk_at dksX13_put_4 17 rfl rfl)
theorem dX13_put_113 : decode cX13_put 113 = .ok (.getfield 86, 3) := dk_180 0 86 (dk_at dksX13_put_4 18 rfl rfl)
theorem dX13_put_116 : decode cX13_put 116 = .ok (.aload_n 0, 1) := dk_42 (dk_at dksX13_put_4 21 rfl rfl)
theorem dX13_put_117 : decode cX13_put 117 = .ok (.getfield 169, 3) := dk_180 0 169 (dk_at dksX13_put_5 0 rfl rfl)
theorem dX13_put_120 : decode cX13_put 120 = .ok (.iconst 1, 1) := dk_4 (dk_at dksX13_put_5 3 rfl rfl)
theorem dX13_put_121 : decode cX13_put 121 = .ok (.iadd, 1) := dk_96 (dk_at dksX13_put_5 4 rfl rfl)
theorem dX13_put_122 : decode cX13_put 122 = .ok (.invokestatic 148, 3) := dk_184 0 148 (dk_at dksX13_put_5 5 rfl rfl)
theorem dX13_put_125 : decode cX13_put 125 = .ok (.putfield 86, 3) := dk_181 0 86 (dk_at dksX13_put_5 8 rfl rfl)
theorem dX13_put_128 : decode cX13_put 128 = .ok (.aload_n 0, 1) := dk_42 (dk_at dksX13_put_5 11 rfl rfl)
theorem dX13_put_129 : decode cX13_put 129 = .ok (.getfield 49, 3) := dk_180 0 49 (dk_at dksX13_put_5 12 rfl rfl)
theorem dX13_put_132 : decode cX13_put 132 = .ok (.aload_n 0, 1) := dk_42 (dk_at dksX13_put_5 15 rfl rfl)
theorem dX13_put_133 : decode cX13_put 133 = .ok (.getfield 169, 3) := dk_180 0 169 (dk_at dksX13_put_5 16 rfl rfl)
theorem dX13_put_136 : decode cX13_put 136 = .ok (.iload_n 1, 1) := dk_27 (dk_at dksX13_put_5 19 rfl rfl)
theorem dX13_put_137 : decode cX13_put 137 = .ok (.iastore, 1) := dk_79 (dk_at dksX13_put_5 20 rfl rfl)
theorem dX13_put_138 : decode cX13_put 138 = .ok (.aload_n 0, 1) := dk_42 (dk_at dksX13_put_5 21 rfl rfl)
theorem dX13_put_139 : decode cX13_put 139 = .ok (.getfield 86, 3) := dk_180 0 86 (dk_at dksX13_put_6 0 rfl rfl)
theorem dX13_put_142 : decode cX13_put 142 = .ok (.aload_n 0, 1) := dk_42 (dk_at dksX13_put_6 3 rfl rfl)
theorem dX13_put_143 : decode cX13_put 143 = .ok (.getfield 169, 3) := dk_180 0 169 (dk_at dksX13_put_6 4 rfl rfl)
theorem dX13_put_146 : decode cX13_put 146 = .ok (.aload_n 0, 1) := dk_42 (dk_at dksX13_put_6 7 rfl rfl)
theorem dX13_put_147 : decode cX13_put 147 = .ok (.getfield 325, 3) := dk_180 1 69 (dk_at dksX13_put_6 8 rfl rfl)
theorem dX13_put_150 : decode cX13_put 150 = .ok (.iastore, 1) := dk_79 (dk_at dksX13_put_6 11 rfl rfl)
theorem dX13_put_151 : decode cX13_put 151 = .ok (.aload_n 0, 1) := dk_42 (dk_at dksX13_put_6 12 rfl rfl)
theorem dX13_put_152 : decode cX13_put 152 = .ok (.getfield 52, 3) := dk_180 0 52 (dk_at dksX13_put_6 13 rfl rfl)
theorem dX13_put_155 : decode cX13_put 155 = .ok (.aload_n 0, 1) := dk_42 (dk_at dksX13_put_6 16 rfl rfl)
theorem dX13_put_156 : decode cX13_put 156 = .ok (.getfield 169, 3) := dk_180 0 169 (dk_at dksX13_put_6 17 rfl rfl)
theorem dX13_put_159 : decode cX13_put 159 = .ok (.aload_n 0, 1) := dk_42 (dk_at dksX13_put_6 20 rfl rfl)
theorem dX13_put_160 : decode cX13_put 160 = .ok (.getfield 325, 3) := dk_180 1 69 (dk_at dksX13_put_6 21 rfl rfl)
theorem dX13_put_163 : decode cX13_put 163 = .ok (.iastore, 1) := dk_79 (dk_at dksX13_put_7 0 rfl rfl)
theorem dX13_put_164 : decode cX13_put 164 = .ok (.iload_n 1, 1) := dk_27 (dk_at dksX13_put_7 1 rfl rfl)
theorem dX13_put_165 : decode cX13_put 165 = .ok (.iconst 1, 1) := dk_4 (dk_at dksX13_put_7 2 rfl rfl)
theorem dX13_put_166 : decode cX13_put 166 = .ok (.iadd, 1) := dk_96 (dk_at dksX13_put_7 3 rfl rfl)
theorem dX13_put_167 : decode cX13_put 167 = .ok (.istore_n 3, 1) := dk_62 (dk_at dksX13_put_7 4 rfl rfl)
theorem dX13_put_168 : decode cX13_put 168 = .ok (.iload_n 3, 1) := dk_29 (dk_at dksX13_put_7 5 rfl rfl)
theorem dX13_put_169 : decode cX13_put 169 = .ok (.aload_n 0, 1) := dk_42 (dk_at dksX13_put_7 6 rfl rfl)
theorem dX13_put_170 : decode cX13_put 170 = .ok (.getfield 110, 3) := dk_180 0 110 (dk_at dksX13_put_7 7 rfl rfl)
theorem dX13_put_173 : decode cX13_put 173 = .ok (.iload_n 1, 1) := dk_27 (dk_at dksX13_put_7 10 rfl rfl)
theorem dX13_put_174 : decode cX13_put 174 = .ok (.invokevirtual 185, 3) := dk_182 0 185 (dk_at dksX13_put_7 11 rfl rfl)
theorem dX13_put_177 : decode cX13_put 177 = .ok (.if_icmp .ge 79, 3) := dk_162 0 79 (dk_at dksX13_put_7 14 rfl rfl)
theorem dX13_put_180 : decode cX13_put 180 = .ok (.aload_n 0, 1) := dk_42 (dk_at dksX13_put_7 17 rfl rfl)
theorem dX13_put_181 : decode cX13_put 181 = .ok (.getfield 30, 3) := dk_180 0 30 (dk_at dksX13_put_7 18 rfl rfl)
theorem dX13_put_184 : decode cX13_put 184 = .ok (.iload_n 3, 1) := dk_29 (dk_at dksX13_put_7 21 rfl rfl)
theorem dX13_put_185 : decode cX13_put 185 = .ok (.iaload, 1) := dk_46 (dk_at dksX13_put_7 22 rfl rfl)
theorem dX13_put_186 : decode cX13_put 186 = .ok (.iconst (-1), 1) := dk_2 (dk_at dksX13_put_7 23 rfl rfl)
theorem dX13_put_187 : decode cX13_put 187 = .ok (.if_icmp .eq 57, 3) := dk_159 0 57 (dk_at dksX13_put_8 0 rfl rfl)
theorem dX13_put_190 : decode cX13_put 190 = .ok (.aload_n 0, 1) := dk_42 (dk_at dksX13_put_8 3 rfl rfl)
theorem dX13_put_191 : decode cX13_put 191 = .ok (.aload_n 0, 1) := dk_42 (dk_at dksX13_put_8 4 rfl rfl)
theorem dX13_put_192 : decode cX13_put 192 = .ok (.getfield 80, 3) := dk_180 0 80 (dk_at dksX13_put_8 5 rfl rfl)
theorem dX13_put_195 : decode cX13_put 195 = .ok (.aload_n 0, 1) := dk_42 (dk_at dksX13_put_8 8 rfl rfl)
theorem dX13_put_196 : decode cX13_put 196 = .ok (.getfield 325, 3) := dk_180 1 69 (dk_at dksX13_put_8 9 rfl rfl)
theorem dX13_put_199 : decode cX13_put 199 = .ok (.iconst 1, 1) := dk_4 (dk_at dksX13_put_8 12 rfl rfl)
theorem dX13_put_200 : decode cX13_put 200 = .ok (.iadd, 1) := dk_96 (dk_at dksX13_put_8 13 rfl rfl)
theorem dX13_put_201 : decode cX13_put 201 = .ok (.invokestatic 148, 3) := dk_184 0 148 (dk_at dksX13_put_8 14 rfl rfl)
theorem dX13_put_204 : decode cX13_put 204 = .ok (.putfield 80, 3) := dk_181 0 80 (dk_at dksX13_put_8 17 rfl rfl)
theorem dX13_put_207 : decode cX13_put 207 = .ok (.aload_n 0, 1) := dk_42 (dk_at dksX13_put_8 20 rfl rfl)
theorem dX13_put_208 : decode cX13_put 208 = .ok (.aload_n 0, 1) := dk_42 (dk_at dksX13_put_8 21 rfl rfl)
theorem dX13_put_209 : decode cX13_put 209 = .ok (.getfield 83, 3) := dk_180 0 83 (dk_at dksX13_put_9 0 rfl rfl)
theorem dX13_put_212 : decode cX13_put 212 = .ok (.aload_n 0, 1) := dk_42 (dk_at dksX13_put_9 3 rfl rfl)
theorem dX13_put_213 : decode cX13_put 213 = .ok (.getfield 325, 3) := dk_180 1 69 (dk_at dksX13_put_9 4 rfl rfl)
theorem dX13_put_216 : decode cX13_put 216 = .ok (.iconst 2, 1) := dk_5 (dk_at dksX13_put_9 7 rfl rfl)
theorem dX13_put_217 : decode cX13_put 217 = .ok (.iadd, 1) := dk_96 (dk_at dksX13_put_9 8 rfl rfl)
theorem dX13_put_218 : decode cX13_put 218 = .ok (.invokestatic 148, 3) := dk_184 0 148 (dk_at dksX13_put_9 9 rfl rfl)
theorem dX13_put_221 : decode cX13_put 221 = .ok (.putfield 83, 3) := dk_181 0 83 (dk_at dksX13_put_9 12 rfl rfl)
theorem dX13_put_224 : decode cX13_put 224 = .ok (.aload_n 0, 1) := dk_42 (dk_at dksX13_put_9 15 rfl rfl)
theorem dX13_put_225 : decode cX13_put 225 = .ok (.getfield 80, 3) := dk_180 0 80 (dk_at dksX13_put_9 16 rfl rfl)
theorem dX13_put_228 : decode cX13_put 228 = .ok (.aload_n 0, 1) := dk_42 (dk_at dksX13_put_9 19 rfl rfl)
theorem dX13_put_229 : decode cX13_put 229 = .ok (.getfield 325, 3) := dk_180 1 69 (dk_at dksX13_put_9 20 rfl rfl)
theorem dX13_put_232 : decode cX13_put 232 = .ok (.iload_n 3, 1) := dk_29 (dk_at dksX13_put_9 23 rfl rfl)
theorem dX13_put_233 : decode cX13_put 233 = .ok (.iastore, 1) := dk_79 (dk_at dksX13_put_10 0 rfl rfl)
theorem dX13_put_234 : decode cX13_put 234 = .ok (.aload_n 0, 1) := dk_42 (dk_at dksX13_put_10 1 rfl rfl)
theorem dX13_put_235 : decode cX13_put 235 = .ok (.dup, 1) := dk_89 (dk_at dksX13_put_10 2 rfl rfl)
theorem dX13_put_236 : decode cX13_put 236 = .ok (.getfield 325, 3) := dk_180 1 69 (dk_at dksX13_put_10 3 rfl rfl)
theorem dX13_put_239 : decode cX13_put 239 = .ok (.iconst 1, 1) := dk_4 (dk_at dksX13_put_10 6 rfl rfl)
theorem dX13_put_240 : decode cX13_put 240 = .ok (.iadd, 1) := dk_96 (dk_at dksX13_put_10 7 rfl rfl)
theorem dX13_put_241 : decode cX13_put 241 = .ok (.putfield 325, 3) := dk_181 1 69 (dk_at dksX13_put_10 8 rfl rfl)
theorem dX13_put_244 : decode cX13_put 244 = .ok (.aload_n 0, 1) := dk_42 (dk_at dksX13_put_10 11 rfl rfl)
theorem dX13_put_245 : decode cX13_put 245 = .ok (.getfield 110, 3) := dk_180 0 110 (dk_at dksX13_put_10 12 rfl rfl)
theorem dX13_put_248 : decode cX13_put 248 = .ok (.iload_n 3, 1) := dk_29 (dk_at dksX13_put_10 15 rfl rfl)
theorem dX13_put_249 : decode cX13_put 249 = .ok (.invokevirtual 185, 3) := dk_182 0 185 (dk_at dksX13_put_10 16 rfl rfl)
theorem dX13_put_252 : decode cX13_put 252 = .ok (.istore_n 3, 1) := dk_62 (dk_at dksX13_put_10 19 rfl rfl)
theorem dX13_put_253 : decode cX13_put 253 = .ok (.goto (-85), 3) := dk_167 255 171 (dk_at dksX13_put_10 20 rfl rfl)
theorem dX13_put_256 : decode cX13_put 256 = .ok (.aload_n 0, 1) := dk_42 (dk_at dksX13_put_10 23 rfl rfl)
theorem dX13_put_257 : decode cX13_put 257 = .ok (.iload_n 1, 1) := dk_27 (dk_at dksX13_put_11 0 rfl rfl)
theorem dX13_put_258 : decode cX13_put 258 = .ok (.invokevirtual 194, 3) := dk_182 0 194 (dk_at dksX13_put_11 1 rfl rfl)
theorem dX13_put_261 : decode cX13_put 261 = .ok (.ifCond .ne 31, 3) := dk_154 0 31 (dk_at dksX13_put_11 4 rfl rfl)
theorem dX13_put_264 : decode cX13_put 264 = .ok (.aload_n 0, 1) := dk_42 (dk_at dksX13_put_11 7 rfl rfl)
theorem dX13_put_265 : decode cX13_put 265 = .ok (.iload_n 1, 1) := dk_27 (dk_at dksX13_put_11 8 rfl rfl)
theorem dX13_put_266 : decode cX13_put 266 = .ok (.invokevirtual 158, 3) := dk_182 0 158 (dk_at dksX13_put_11 9 rfl rfl)
theorem dX13_put_269 : decode cX13_put 269 = .ok (.bipush 13, 2) := dk_16 13 (dk_at dksX13_put_11 12 rfl rfl)
theorem dX13_put_271 : decode cX13_put 271 = .ok (.if_icmp .ne 21, 3) := dk_160 0 21 (dk_at dksX13_put_11 14 rfl rfl)
theorem dX13_put_274 : decode cX13_put 274 = .ok (.aload_n 0, 1) := dk_42 (dk_at dksX13_put_11 17 rfl rfl)
theorem dX13_put_275 : decode cX13_put 275 = .ok (.aload_n 0, 1) := dk_42 (dk_at dksX13_put_11 18 rfl rfl)
theorem dX13_put_276 : decode cX13_put 276 = .ok (.getfield 86, 3) := dk_180 0 86 (dk_at dksX13_put_11 19 rfl rfl)
theorem dX13_put_279 : decode cX13_put 279 = .ok (.aload_n 0, 1) := dk_42 (dk_at dksX13_put_11 22 rfl rfl)
theorem dX13_put_280 : decode cX13_put 280 = .ok (.getfield 169, 3) := dk_180 0 169 (dk_at dksX13_put_12 0 rfl rfl)
theorem dX13_put_283 : decode cX13_put 283 = .ok (.iaload, 1) := dk_46 (dk_at dksX13_put_12 3 rfl rfl)
theorem dX13_put_284 : decode cX13_put 284 = .ok (.aload_n 0, 1) := dk_42 (dk_at dksX13_put_12 4 rfl rfl)
theorem dX13_put_285 : decode cX13_put 285 = .ok (.getfield 325, 3) := dk_180 1 69 (dk_at dksX13_put_12 5 rfl rfl)
theorem dX13_put_288 : decode cX13_put 288 = .ok (.iconst 1, 1) := dk_4 (dk_at dksX13_put_12 8 rfl rfl)
theorem dX13_put_289 : decode cX13_put 289 = .ok (.invokevirtual 341, 3) := dk_182 1 85 (dk_at dksX13_put_12 9 rfl rfl)
theorem dX13_put_292 : decode cX13_put 292 = .ok (.aload_n 0, 1) := dk_42 (dk_at dksX13_put_12 12 rfl rfl)
theorem dX13_put_293 : decode cX13_put 293 = .ok (.dup, 1) := dk_89 (dk_at dksX13_put_12 13 rfl rfl)
theorem dX13_put_294 : decode cX13_put 294 = .ok (.getfield 169, 3) := dk_180 0 169 (dk_at dksX13_put_12 14 rfl rfl)
theorem dX13_put_297 : decode cX13_put 297 = .ok (.iconst 1, 1) := dk_4 (dk_at dksX13_put_12 17 rfl rfl)
theorem dX13_put_298 : decode cX13_put 298 = .ok (.iadd, 1) := dk_96 (dk_at dksX13_put_12 18 rfl rfl)
theorem dX13_put_299 : decode cX13_put 299 = .ok (.putfield 169, 3) := dk_181 0 169 (dk_at dksX13_put_12 19 rfl rfl)
theorem dX13_put_302 : decode cX13_put 302 = .ok (.return_, 1) := dk_177 (dk_at dksX13_put_12 22 rfl rfl)
abbrev cX13_writeTag : ByteArray := prog_8_method_30_code
def yX13_writeTag : MethodName := ⟨RX13, "writeTag", "(IZ)V"⟩
def dkwX13_writeTag_5 : List UInt8 := [167, 255, 217, 177]
abbrev dktX13_writeTag_5 : List UInt8 := dkwX13_writeTag_5 ++ []
def dkwX13_writeTag_4 : List UInt8 := [16, 127, 126, 21, 6, 158, 0, 9, 17, 0, 128, 167, 0, 4, 3, 128, 182, 1, 6, 132, 6, 255]
abbrev dktX13_writeTag_4 : List UInt8 := dkwX13_writeTag_4 ++ dktX13_writeTag_5
def dkwX13_writeTag_3 : List UInt8 := [184, 1, 41, 5, 100, 54, 6, 21, 6, 155, 0, 40, 42, 180, 0, 77, 21, 4, 16, 7, 21, 6, 104, 122]
abbrev dktX13_writeTag_3 : List UInt8 := dkwX13_writeTag_3 ++ dktX13_writeTag_4
def dkwX13_writeTag_2 : List UInt8 := [21, 5, 21, 4, 128, 182, 1, 6, 177, 42, 180, 0, 77, 21, 5, 16, 31, 128, 182, 1, 6, 29]
abbrev dktX13_writeTag_2 : List UInt8 := dkwX13_writeTag_2 ++ dktX13_writeTag_3
def dkwX13_writeTag_1 : List UInt8 := [153, 0, 8, 16, 32, 167, 0, 4, 3, 128, 54, 5, 21, 4, 16, 31, 162, 0, 16, 42, 180, 0, 77]
abbrev dktX13_writeTag_1 : List UInt8 := dkwX13_writeTag_1 ++ dktX13_writeTag_2
def dkwX13_writeTag_0 : List UInt8 := [42, 180, 0, 110, 27, 182, 0, 172, 62, 29, 19, 1, 37, 126, 54, 4, 29, 16, 28, 122, 16, 6, 120, 28]
abbrev dktX13_writeTag_0 : List UInt8 := dkwX13_writeTag_0 ++ dktX13_writeTag_1
theorem dksX13_writeTag_0 : cX13_writeTag.data.toList.drop 0 = dktX13_writeTag_0 := by decide +kernel
theorem dksX13_writeTag_1 : cX13_writeTag.data.toList.drop 24 = dktX13_writeTag_1 := dk_seg dksX13_writeTag_0 24 rfl rfl
theorem dksX13_writeTag_2 : cX13_writeTag.data.toList.drop 47 = dktX13_writeTag_2 := dk_seg dksX13_writeTag_1 23 rfl rfl
theorem dksX13_writeTag_3 : cX13_writeTag.data.toList.drop 69 = dktX13_writeTag_3 := dk_seg dksX13_writeTag_2 22 rfl rfl
theorem dksX13_writeTag_4 : cX13_writeTag.data.toList.drop 93 = dktX13_writeTag_4 := dk_seg dksX13_writeTag_3 24 rfl rfl
theorem dksX13_writeTag_5 : cX13_writeTag.data.toList.drop 115 = dktX13_writeTag_5 := dk_seg dksX13_writeTag_4 22 rfl rfl
theorem dX13_writeTag_0 : decode cX13_writeTag 0 = .ok (.aload_n 0, 1) := dk_42 (dk_at dksX13_writeTag_0 0 rfl rfl)
theorem dX13_writeTag_1 : decode cX13_writeTag 1 = .ok (.getfield 110, 3) := dk_180 0 110 (dk_at dksX13_writeTag_0 1 rfl rfl)
theorem dX13_writeTag_4 : decode cX13_writeTag 4 = .ok (.iload_n 1, 1) := dk_27 (dk_at dksX13_writeTag_0 4 rfl rfl)
theorem dX13_writeTag_5 : decode cX13_writeTag 5 = .ok (.invokevirtual 172, 3) := dk_182 0 172 (dk_at dksX13_writeTag_0 5 rfl rfl)
theorem dX13_writeTag_8 : decode cX13_writeTag 8 = .ok (.istore_n 3, 1) := dk_62 (dk_at dksX13_writeTag_0 8 rfl rfl)
theorem dX13_writeTag_9 : decode cX13_writeTag 9 = .ok (.iload_n 3, 1) := dk_29 (dk_at dksX13_writeTag_0 9 rfl rfl)
theorem dX13_writeTag_10 : decode cX13_writeTag 10 = .ok (.ldc_w 293, 3) := dk_19 1 37 (dk_at dksX13_writeTag_0 10 rfl rfl)
theorem dX13_writeTag_13 : decode cX13_writeTag 13 = .ok (.iand, 1) := dk_126 (dk_at dksX13_writeTag_0 13 rfl rfl)
theorem dX13_writeTag_14 : decode cX13_writeTag 14 = .ok (.istore 4, 2) := dk_54 4 (dk_at dksX13_writeTag_0 14 rfl rfl)
theorem dX13_writeTag_16 : decode cX13_writeTag 16 = .ok (.iload_n 3, 1) := dk_29 (dk_at dksX13_writeTag_0 16 rfl rfl)
theorem dX13_writeTag_17 : decode cX13_writeTag 17 = .ok (.bipush 28, 2) := dk_16 28 (dk_at dksX13_writeTag_0 17 rfl rfl)
theorem dX13_writeTag_19 : decode cX13_writeTag 19 = .ok (.ishr, 1) := dk_122 (dk_at dksX13_writeTag_0 19 rfl rfl)
theorem dX13_writeTag_20 : decode cX13_writeTag 20 = .ok (.bipush 6, 2) := dk_16 6 (dk_at dksX13_writeTag_0 20 rfl rfl)
theorem dX13_writeTag_22 : decode cX13_writeTag 22 = .ok (.ishl, 1) := dk_120 (dk_at dksX13_writeTag_0 22 rfl rfl)
theorem dX13_writeTag_23 : decode cX13_writeTag 23 = .ok (.iload_n 2, 1) := dk_28 (dk_at dksX13_writeTag_0 23 rfl rfl)
theorem dX13_writeTag_24 : decode cX13_writeTag 24 = .ok (.ifCond .eq 8, 3) := dk_153 0 8 (dk_at dksX13_writeTag_1 0 rfl rfl)
theorem dX13_writeTag_27 : decode cX13_writeTag 27 = .ok (.bipush 32, 2) := dk_16 32 (dk_at dksX13_writeTag_1 3 rfl rfl)
theorem dX13_writeTag_29 : decode cX13_writeTag 29 = .ok (.goto 4, 3) := dk_167 0 4 (dk_at dksX13_writeTag_1 5 rfl rfl)
theorem dX13_writeTag_32 : decode cX13_writeTag 32 = .ok (.iconst 0, 1) := dk_3 (dk_at dksX13_writeTag_1 8 rfl rfl)
theorem dX13_writeTag_33 : decode cX13_writeTag 33 = .ok (.ior, 1) := dk_128 (dk_at dksX13_writeTag_1 9 rfl rfl)
theorem dX13_writeTag_34 : decode cX13_writeTag 34 = .ok (.istore 5, 2) := dk_54 5 (dk_at dksX13_writeTag_1 10 rfl rfl)
theorem dX13_writeTag_36 : decode cX13_writeTag 36 = .ok (.iload 4, 2) := dk_21 4 (dk_at dksX13_writeTag_1 12 rfl rfl)
theorem dX13_writeTag_38 : decode cX13_writeTag 38 = .ok (.bipush 31, 2) := dk_16 31 (dk_at dksX13_writeTag_1 14 rfl rfl)
theorem dX13_writeTag_40 : decode cX13_writeTag 40 = .ok (.if_icmp .ge 16, 3) := dk_162 0 16 (dk_at dksX13_writeTag_1 16 rfl rfl)
theorem dX13_writeTag_43 : decode cX13_writeTag 43 = .ok (.aload_n 0, 1) := dk_42 (dk_at dksX13_writeTag_1 19 rfl rfl)
theorem dX13_writeTag_44 : decode cX13_writeTag 44 = .ok (.getfield 77, 3) := dk_180 0 77 (dk_at dksX13_writeTag_1 20 rfl rfl)
theorem dX13_writeTag_47 : decode cX13_writeTag 47 = .ok (.iload 5, 2) := dk_21 5 (dk_at dksX13_writeTag_2 0 rfl rfl)
theorem dX13_writeTag_49 : decode cX13_writeTag 49 = .ok (.iload 4, 2) := dk_21 4 (dk_at dksX13_writeTag_2 2 rfl rfl)
theorem dX13_writeTag_51 : decode cX13_writeTag 51 = .ok (.ior, 1) := dk_128 (dk_at dksX13_writeTag_2 4 rfl rfl)
theorem dX13_writeTag_52 : decode cX13_writeTag 52 = .ok (.invokevirtual 262, 3) := dk_182 1 6 (dk_at dksX13_writeTag_2 5 rfl rfl)
theorem dX13_writeTag_55 : decode cX13_writeTag 55 = .ok (.return_, 1) := dk_177 (dk_at dksX13_writeTag_2 8 rfl rfl)
theorem dX13_writeTag_56 : decode cX13_writeTag 56 = .ok (.aload_n 0, 1) := dk_42 (dk_at dksX13_writeTag_2 9 rfl rfl)
theorem dX13_writeTag_57 : decode cX13_writeTag 57 = .ok (.getfield 77, 3) := dk_180 0 77 (dk_at dksX13_writeTag_2 10 rfl rfl)
theorem dX13_writeTag_60 : decode cX13_writeTag 60 = .ok (.iload 5, 2) := dk_21 5 (dk_at dksX13_writeTag_2 13 rfl rfl)
theorem dX13_writeTag_62 : decode cX13_writeTag 62 = .ok (.bipush 31, 2) := dk_16 31 (dk_at dksX13_writeTag_2 15 rfl rfl)
theorem dX13_writeTag_64 : decode cX13_writeTag 64 = .ok (.ior, 1) := dk_128 (dk_at dksX13_writeTag_2 17 rfl rfl)
theorem dX13_writeTag_65 : decode cX13_writeTag 65 = .ok (.invokevirtual 262, 3) := dk_182 1 6 (dk_at dksX13_writeTag_2 18 rfl rfl)
theorem dX13_writeTag_68 : decode cX13_writeTag 68 = .ok (.iload_n 3, 1) := dk_29 (dk_at dksX13_writeTag_2 21 rfl rfl)
theorem dX13_writeTag_69 : decode cX13_writeTag 69 = .ok (.invokestatic 297, 3) := dk_184 1 41 (dk_at dksX13_writeTag_3 0 rfl rfl)
theorem dX13_writeTag_72 : decode cX13_writeTag 72 = .ok (.iconst 2, 1) := dk_5 (dk_at dksX13_writeTag_3 3 rfl rfl)
theorem dX13_writeTag_73 : decode cX13_writeTag 73 = .ok (.isub, 1) := dk_100 (dk_at dksX13_writeTag_3 4 rfl rfl)
theorem dX13_writeTag_74 : decode cX13_writeTag 74 = .ok (.istore 6, 2) := dk_54 6 (dk_at dksX13_writeTag_3 5 rfl rfl)
theorem dX13_writeTag_76 : decode cX13_writeTag 76 = .ok (.iload 6, 2) := dk_21 6 (dk_at dksX13_writeTag_3 7 rfl rfl)
theorem dX13_writeTag_78 : decode cX13_writeTag 78 = .ok (.ifCond .lt 40, 3) := dk_155 0 40 (dk_at dksX13_writeTag_3 9 rfl rfl)
theorem dX13_writeTag_81 : decode cX13_writeTag 81 = .ok (.aload_n 0, 1) := dk_42 (dk_at dksX13_writeTag_3 12 rfl rfl)
theorem dX13_writeTag_82 : decode cX13_writeTag 82 = .ok (.getfield 77, 3) := dk_180 0 77 (dk_at dksX13_writeTag_3 13 rfl rfl)
theorem dX13_writeTag_85 : decode cX13_writeTag 85 = .ok (.iload 4, 2) := dk_21 4 (dk_at dksX13_writeTag_3 16 rfl rfl)
theorem dX13_writeTag_87 : decode cX13_writeTag 87 = .ok (.bipush 7, 2) := dk_16 7 (dk_at dksX13_writeTag_3 18 rfl rfl)
theorem dX13_writeTag_89 : decode cX13_writeTag 89 = .ok (.iload 6, 2) := dk_21 6 (dk_at dksX13_writeTag_3 20 rfl rfl)
theorem dX13_writeTag_91 : decode cX13_writeTag 91 = .ok (.imul, 1) := dk_104 (dk_at dksX13_writeTag_3 22 rfl rfl)
theorem dX13_writeTag_92 : decode cX13_writeTag 92 = .ok (.ishr, 1) := dk_122 (dk_at dksX13_writeTag_3 23 rfl rfl)
theorem dX13_writeTag_93 : decode cX13_writeTag 93 = .ok (.bipush 127, 2) := dk_16 127 (dk_at dksX13_writeTag_4 0 rfl rfl)
theorem dX13_writeTag_95 : decode cX13_writeTag 95 = .ok (.iand, 1) := dk_126 (dk_at dksX13_writeTag_4 2 rfl rfl)
theorem dX13_writeTag_96 : decode cX13_writeTag 96 = .ok (.iload 6, 2) := dk_21 6 (dk_at dksX13_writeTag_4 3 rfl rfl)
theorem dX13_writeTag_98 : decode cX13_writeTag 98 = .ok (.ifCond .le 9, 3) := dk_158 0 9 (dk_at dksX13_writeTag_4 5 rfl rfl)
theorem dX13_writeTag_101 : decode cX13_writeTag 101 = .ok (.sipush 128, 3) := dk_17 0 128 (dk_at dksX13_writeTag_4 8 rfl rfl)
theorem dX13_writeTag_104 : decode cX13_writeTag 104 = .ok (.goto 4, 3) := dk_167 0 4 (dk_at dksX13_writeTag_4 11 rfl rfl)
theorem dX13_writeTag_107 : decode cX13_writeTag 107 = .ok (.iconst 0, 1) := dk_3 (dk_at dksX13_writeTag_4 14 rfl rfl)
theorem dX13_writeTag_108 : decode cX13_writeTag 108 = .ok (.ior, 1) := dk_128 (dk_at dksX13_writeTag_4 15 rfl rfl)
theorem dX13_writeTag_109 : decode cX13_writeTag 109 = .ok (.invokevirtual 262, 3) := dk_182 1 6 (dk_at dksX13_writeTag_4 16 rfl rfl)
theorem dX13_writeTag_112 : decode cX13_writeTag 112 = .ok (.iinc 6 (-1), 3) := dk_132 6 255 (dk_at dksX13_writeTag_4 19 rfl rfl)
theorem dX13_writeTag_115 : decode cX13_writeTag 115 = .ok (.goto (-39), 3) := dk_167 255 217 (dk_at dksX13_writeTag_5 0 rfl rfl)
theorem dX13_writeTag_118 : decode cX13_writeTag 118 = .ok (.return_, 1) := dk_177 (dk_at dksX13_writeTag_5 3 rfl rfl)
abbrev cX13_writeLength : ByteArray := prog_8_method_31_code
def yX13_writeLength : MethodName := ⟨RX13, "writeLength", "(I)V"⟩
def dkwX13_writeLength_2 : List UInt8 := [126, 182, 1, 6, 132, 3, 255, 167, 255, 232, 177]
abbrev dktX13_writeLength_2 : List UInt8 := dkwX13_writeLength_2 ++ []
def dkwX13_writeLength_1 : List UInt8 := [182, 1, 6, 28, 4, 100, 62, 29, 155, 0, 26, 42, 180, 0, 77, 27, 16, 8, 29, 104, 122, 17, 0, 255]
abbrev dktX13_writeLength_1 : List UInt8 := dkwX13_writeLength_1 ++ dktX13_writeLength_2
def dkwX13_writeLength_0 : List UInt8 := [27, 184, 1, 44, 4, 100, 61, 42, 180, 0, 77, 28, 154, 0, 7, 27, 167, 0, 8, 17, 0, 128, 28, 96]
abbrev dktX13_writeLength_0 : List UInt8 := dkwX13_writeLength_0 ++ dktX13_writeLength_1
theorem dksX13_writeLength_0 : cX13_writeLength.data.toList.drop 0 = dktX13_writeLength_0 := by decide +kernel
theorem dksX13_writeLength_1 : cX13_writeLength.data.toList.drop 24 = dktX13_writeLength_1 := dk_seg dksX13_writeLength_0 24 rfl rfl
theorem dksX13_writeLength_2 : cX13_writeLength.data.toList.drop 48 = dktX13_writeLength_2 := dk_seg dksX13_writeLength_1 24 rfl rfl
theorem dX13_writeLength_0 : decode cX13_writeLength 0 = .ok (.iload_n 1, 1) := dk_27 (dk_at dksX13_writeLength_0 0 rfl rfl)
theorem dX13_writeLength_1 : decode cX13_writeLength 1 = .ok (.invokestatic 300, 3) := dk_184 1 44 (dk_at dksX13_writeLength_0 1 rfl rfl)
theorem dX13_writeLength_4 : decode cX13_writeLength 4 = .ok (.iconst 1, 1) := dk_4 (dk_at dksX13_writeLength_0 4 rfl rfl)
theorem dX13_writeLength_5 : decode cX13_writeLength 5 = .ok (.isub, 1) := dk_100 (dk_at dksX13_writeLength_0 5 rfl rfl)
theorem dX13_writeLength_6 : decode cX13_writeLength 6 = .ok (.istore_n 2, 1) := dk_61 (dk_at dksX13_writeLength_0 6 rfl rfl)
theorem dX13_writeLength_7 : decode cX13_writeLength 7 = .ok (.aload_n 0, 1) := dk_42 (dk_at dksX13_writeLength_0 7 rfl rfl)
theorem dX13_writeLength_8 : decode cX13_writeLength 8 = .ok (.getfield 77, 3) := dk_180 0 77 (dk_at dksX13_writeLength_0 8 rfl rfl)
theorem dX13_writeLength_11 : decode cX13_writeLength 11 = .ok (.iload_n 2, 1) := dk_28 (dk_at dksX13_writeLength_0 11 rfl rfl)
theorem dX13_writeLength_12 : decode cX13_writeLength 12 = .ok (.ifCond .ne 7, 3) := dk_154 0 7 (dk_at dksX13_writeLength_0 12 rfl rfl)
theorem dX13_writeLength_15 : decode cX13_writeLength 15 = .ok (.iload_n 1, 1) := dk_27 (dk_at dksX13_writeLength_0 15 rfl rfl)
theorem dX13_writeLength_16 : decode cX13_writeLength 16 = .ok (.goto 8, 3) := dk_167 0 8 (dk_at dksX13_writeLength_0 16 rfl rfl)
theorem dX13_writeLength_19 : decode cX13_writeLength 19 = .ok (.sipush 128, 3) := dk_17 0 128 (dk_at dksX13_writeLength_0 19 rfl rfl)
theorem dX13_writeLength_22 : decode cX13_writeLength 22 = .ok (.iload_n 2, 1) := dk_28 (dk_at dksX13_writeLength_0 22 rfl rfl)
theorem dX13_writeLength_23 : decode cX13_writeLength 23 = .ok (.iadd, 1) := dk_96 (dk_at dksX13_writeLength_0 23 rfl rfl)
theorem dX13_writeLength_24 : decode cX13_writeLength 24 = .ok (.invokevirtual 262, 3) := dk_182 1 6 (dk_at dksX13_writeLength_1 0 rfl rfl)
theorem dX13_writeLength_27 : decode cX13_writeLength 27 = .ok (.iload_n 2, 1) := dk_28 (dk_at dksX13_writeLength_1 3 rfl rfl)
theorem dX13_writeLength_28 : decode cX13_writeLength 28 = .ok (.iconst 1, 1) := dk_4 (dk_at dksX13_writeLength_1 4 rfl rfl)
theorem dX13_writeLength_29 : decode cX13_writeLength 29 = .ok (.isub, 1) := dk_100 (dk_at dksX13_writeLength_1 5 rfl rfl)
theorem dX13_writeLength_30 : decode cX13_writeLength 30 = .ok (.istore_n 3, 1) := dk_62 (dk_at dksX13_writeLength_1 6 rfl rfl)
theorem dX13_writeLength_31 : decode cX13_writeLength 31 = .ok (.iload_n 3, 1) := dk_29 (dk_at dksX13_writeLength_1 7 rfl rfl)
theorem dX13_writeLength_32 : decode cX13_writeLength 32 = .ok (.ifCond .lt 26, 3) := dk_155 0 26 (dk_at dksX13_writeLength_1 8 rfl rfl)
theorem dX13_writeLength_35 : decode cX13_writeLength 35 = .ok (.aload_n 0, 1) := dk_42 (dk_at dksX13_writeLength_1 11 rfl rfl)
theorem dX13_writeLength_36 : decode cX13_writeLength 36 = .ok (.getfield 77, 3) := dk_180 0 77 (dk_at dksX13_writeLength_1 12 rfl rfl)
theorem dX13_writeLength_39 : decode cX13_writeLength 39 = .ok (.iload_n 1, 1) := dk_27 (dk_at dksX13_writeLength_1 15 rfl rfl)
theorem dX13_writeLength_40 : decode cX13_writeLength 40 = .ok (.bipush 8, 2) := dk_16 8 (dk_at dksX13_writeLength_1 16 rfl rfl)
theorem dX13_writeLength_42 : decode cX13_writeLength 42 = .ok (.iload_n 3, 1) := dk_29 (dk_at dksX13_writeLength_1 18 rfl rfl)
theorem dX13_writeLength_43 : decode cX13_writeLength 43 = .ok (.imul, 1) := dk_104 (dk_at dksX13_writeLength_1 19 rfl rfl)
theorem dX13_writeLength_44 : decode cX13_writeLength 44 = .ok (.ishr, 1) := dk_122 (dk_at dksX13_writeLength_1 20 rfl rfl)
theorem dX13_writeLength_45 : decode cX13_writeLength 45 = .ok (.sipush 255, 3) := dk_17 0 255 (dk_at dksX13_writeLength_1 21 rfl rfl)
theorem dX13_writeLength_48 : decode cX13_writeLength 48 = .ok (.iand, 1) := dk_126 (dk_at dksX13_writeLength_2 0 rfl rfl)
theorem dX13_writeLength_49 : decode cX13_writeLength 49 = .ok (.invokevirtual 262, 3) := dk_182 1 6 (dk_at dksX13_writeLength_2 1 rfl rfl)
theorem dX13_writeLength_52 : decode cX13_writeLength 52 = .ok (.iinc 3 (-1), 3) := dk_132 3 255 (dk_at dksX13_writeLength_2 4 rfl rfl)
theorem dX13_writeLength_55 : decode cX13_writeLength 55 = .ok (.goto (-24), 3) := dk_167 255 232 (dk_at dksX13_writeLength_2 7 rfl rfl)
theorem dX13_writeLength_58 : decode cX13_writeLength 58 = .ok (.return_, 1) := dk_177 (dk_at dksX13_writeLength_2 10 rfl rfl)
abbrev cX13_sort : ByteArray := prog_8_method_36_code
def yX13_sort : MethodName := ⟨RX13, "sort", "(IIZ)V"⟩
def dkwX13_sort_8 : List UInt8 := [180, 0, 92, 3, 42, 180, 0, 80, 27, 21, 4, 184, 0, 126, 177]
abbrev dktX13_sort_8 : List UInt8 := dkwX13_sort_8 ++ []
def dkwX13_sort_7 : List UInt8 := [21, 5, 42, 180, 0, 80, 42, 180, 0, 89, 21, 5, 46, 46, 79, 132, 5, 1, 167, 255, 227, 42]
abbrev dktX13_sort_7 : List UInt8 := dkwX13_sort_7 ++ dktX13_sort_8
def dkwX13_sort_6 : List UInt8 := [54, 5, 167, 255, 172, 29, 153, 0, 53, 3, 54, 5, 21, 5, 21, 4, 162, 0, 28, 42, 180, 0, 92]
abbrev dktX13_sort_6 : List UInt8 := dkwX13_sort_6 ++ dktX13_sort_7
def dkwX13_sort_5 : List UInt8 := [42, 180, 0, 89, 58, 6, 42, 42, 180, 0, 92, 181, 0, 89, 42, 25, 6, 181, 0, 92, 21, 5, 5, 104]
abbrev dktX13_sort_5 : List UInt8 := dkwX13_sort_5 ++ dktX13_sort_6
def dkwX13_sort_4 : List UInt8 := [5, 21, 5, 104, 96, 184, 1, 91, 29, 182, 1, 94, 21, 6, 5, 21, 5, 104, 96, 54, 6, 167, 255, 211]
abbrev dktX13_sort_4 : List UInt8 := dkwX13_sort_4 ++ dktX13_sort_5
def dkwX13_sort_3 : List UInt8 := [21, 6, 21, 4, 162, 0, 44, 42, 21, 6, 21, 4, 21, 6, 21, 5, 96, 184, 1, 91, 21, 4, 21, 6]
abbrev dktX13_sort_3 : List UInt8 := dkwX13_sort_3 ++ dktX13_sort_4
def dkwX13_sort_2 : List UInt8 := [27, 21, 5, 96, 79, 132, 5, 1, 167, 255, 235, 4, 54, 5, 21, 5, 21, 4, 162, 0, 83, 3, 54, 6]
abbrev dktX13_sort_2 : List UInt8 := dkwX13_sort_2 ++ dktX13_sort_3
def dkwX13_sort_1 : List UInt8 := [21, 4, 184, 0, 148, 181, 0, 92, 3, 54, 5, 21, 5, 21, 4, 162, 0, 20, 42, 180, 0, 89, 21, 5]
abbrev dktX13_sort_1 : List UInt8 := dkwX13_sort_1 ++ dktX13_sort_2
def dkwX13_sort_0 : List UInt8 := [28, 27, 100, 54, 4, 42, 42, 180, 0, 89, 21, 4, 184, 0, 148, 181, 0, 89, 42, 42, 180, 0, 92]
abbrev dktX13_sort_0 : List UInt8 := dkwX13_sort_0 ++ dktX13_sort_1
theorem dksX13_sort_0 : cX13_sort.data.toList.drop 0 = dktX13_sort_0 := by decide +kernel
theorem dksX13_sort_1 : cX13_sort.data.toList.drop 23 = dktX13_sort_1 := dk_seg dksX13_sort_0 23 rfl rfl
theorem dksX13_sort_2 : cX13_sort.data.toList.drop 47 = dktX13_sort_2 := dk_seg dksX13_sort_1 24 rfl rfl
theorem dksX13_sort_3 : cX13_sort.data.toList.drop 71 = dktX13_sort_3 := dk_seg dksX13_sort_2 24 rfl rfl
theorem dksX13_sort_4 : cX13_sort.data.toList.drop 95 = dktX13_sort_4 := dk_seg dksX13_sort_3 24 rfl rfl
theorem dksX13_sort_5 : cX13_sort.data.toList.drop 119 = dktX13_sort_5 := dk_seg dksX13_sort_4 24 rfl rfl
theorem dksX13_sort_6 : cX13_sort.data.toList.drop 143 = dktX13_sort_6 := dk_seg dksX13_sort_5 24 rfl rfl
theorem dksX13_sort_7 : cX13_sort.data.toList.drop 166 = dktX13_sort_7 := dk_seg dksX13_sort_6 23 rfl rfl
theorem dksX13_sort_8 : cX13_sort.data.toList.drop 188 = dktX13_sort_8 := dk_seg dksX13_sort_7 22 rfl rfl
theorem dX13_sort_0 : decode cX13_sort 0 = .ok (.iload_n 2, 1) := dk_28 (dk_at dksX13_sort_0 0 rfl rfl)
theorem dX13_sort_1 : decode cX13_sort 1 = .ok (.iload_n 1, 1) := dk_27 (dk_at dksX13_sort_0 1 rfl rfl)
theorem dX13_sort_2 : decode cX13_sort 2 = .ok (.isub, 1) := dk_100 (dk_at dksX13_sort_0 2 rfl rfl)
theorem dX13_sort_3 : decode cX13_sort 3 = .ok (.istore 4, 2) := dk_54 4 (dk_at dksX13_sort_0 3 rfl rfl)
theorem dX13_sort_5 : decode cX13_sort 5 = .ok (.aload_n 0, 1) := dk_42 (dk_at dksX13_sort_0 5 rfl rfl)
theorem dX13_sort_6 : decode cX13_sort 6 = .ok (.aload_n 0, 1) := dk_42 (dk_at dksX13_sort_0 6 rfl rfl)
theorem dX13_sort_7 : decode cX13_sort 7 = .ok (.getfield 89, 3) := dk_180 0 89 (dk_at dksX13_sort_0 7 rfl rfl)
theorem dX13_sort_10 : decode cX13_sort 10 = .ok (.iload 4, 2) := dk_21 4 (dk_at dksX13_sort_0 10 rfl rfl)
theorem dX13_sort_12 : decode cX13_sort 12 = .ok (.invokestatic 148, 3) := dk_184 0 148 (dk_at dksX13_sort_0 12 rfl rfl)
theorem dX13_sort_15 : decode cX13_sort 15 = .ok (.putfield 89, 3) := dk_181 0 89 (dk_at dksX13_sort_0 15 rfl rfl)
theorem dX13_sort_18 : decode cX13_sort 18 = .ok (.aload_n 0, 1) := dk_42 (dk_at dksX13_sort_0 18 rfl rfl)
theorem dX13_sort_19 : decode cX13_sort 19 = .ok (.aload_n 0, 1) := dk_42 (dk_at dksX13_sort_0 19 rfl rfl)
theorem dX13_sort_20 : decode cX13_sort 20 = .ok (.getfield 92, 3) := dk_180 0 92 (dk_at dksX13_sort_0 20 rfl rfl)
theorem dX13_sort_23 : decode cX13_sort 23 = .ok (.iload 4, 2) := dk_21 4 (dk_at dksX13_sort_1 0 rfl rfl)
theorem dX13_sort_25 : decode cX13_sort 25 = .ok (.invokestatic 148, 3) := dk_184 0 148 (dk_at dksX13_sort_1 2 rfl rfl)
theorem dX13_sort_28 : decode cX13_sort 28 = .ok (.putfield 92, 3) := dk_181 0 92 (dk_at dksX13_sort_1 5 rfl rfl)
theorem dX13_sort_31 : decode cX13_sort 31 = .ok (.iconst 0, 1) := dk_3 (dk_at dksX13_sort_1 8 rfl rfl)
theorem dX13_sort_32 : decode cX13_sort 32 = .ok (.istore 5, 2) := dk_54 5 (dk_at dksX13_sort_1 9 rfl rfl)
theorem dX13_sort_34 : decode cX13_sort 34 = .ok (.iload 5, 2) := dk_21 5 (dk_at dksX13_sort_1 11 rfl rfl)
theorem dX13_sort_36 : decode cX13_sort 36 = .ok (.iload 4, 2) := dk_21 4 (dk_at dksX13_sort_1 13 rfl rfl)
theorem dX13_sort_38 : decode cX13_sort 38 = .ok (.if_icmp .ge 20, 3) := dk_162 0 20 (dk_at dksX13_sort_1 15 rfl rfl)
theorem dX13_sort_41 : decode cX13_sort 41 = .ok (.aload_n 0, 1) := dk_42 (dk_at dksX13_sort_1 18 rfl rfl)
theorem dX13_sort_42 : decode cX13_sort 42 = .ok (.getfield 89, 3) := dk_180 0 89 (dk_at dksX13_sort_1 19 rfl rfl)
theorem dX13_sort_45 : decode cX13_sort 45 = .ok (.iload 5, 2) := dk_21 5 (dk_at dksX13_sort_1 22 rfl rfl)
theorem dX13_sort_47 : decode cX13_sort 47 = .ok (.iload_n 1, 1) := dk_27 (dk_at dksX13_sort_2 0 rfl rfl)
theorem dX13_sort_48 : decode cX13_sort 48 = .ok (.iload 5, 2) := dk_21 5 (dk_at dksX13_sort_2 1 rfl rfl)
theorem dX13_sort_50 : decode cX13_sort 50 = .ok (.iadd, 1) := dk_96 (dk_at dksX13_sort_2 3 rfl rfl)
theorem dX13_sort_51 : decode cX13_sort 51 = .ok (.iastore, 1) := dk_79 (dk_at dksX13_sort_2 4 rfl rfl)
theorem dX13_sort_52 : decode cX13_sort 52 = .ok (.iinc 5 1, 3) := dk_132 5 1 (dk_at dksX13_sort_2 5 rfl rfl)
theorem dX13_sort_55 : decode cX13_sort 55 = .ok (.goto (-21), 3) := dk_167 255 235 (dk_at dksX13_sort_2 8 rfl rfl)
theorem dX13_sort_58 : decode cX13_sort 58 = .ok (.iconst 1, 1) := dk_4 (dk_at dksX13_sort_2 11 rfl rfl)
theorem dX13_sort_59 : decode cX13_sort 59 = .ok (.istore 5, 2) := dk_54 5 (dk_at dksX13_sort_2 12 rfl rfl)
theorem dX13_sort_61 : decode cX13_sort 61 = .ok (.iload 5, 2) := dk_21 5 (dk_at dksX13_sort_2 14 rfl rfl)
theorem dX13_sort_63 : decode cX13_sort 63 = .ok (.iload 4, 2) := dk_21 4 (dk_at dksX13_sort_2 16 rfl rfl)
theorem dX13_sort_65 : decode cX13_sort 65 = .ok (.if_icmp .ge 83, 3) := dk_162 0 83 (dk_at dksX13_sort_2 18 rfl rfl)
theorem dX13_sort_68 : decode cX13_sort 68 = .ok (.iconst 0, 1) := dk_3 (dk_at dksX13_sort_2 21 rfl rfl)
theorem dX13_sort_69 : decode cX13_sort 69 = .ok (.istore 6, 2) := dk_54 6 (dk_at dksX13_sort_2 22 rfl rfl)
theorem dX13_sort_71 : decode cX13_sort 71 = .ok (.iload 6, 2) := dk_21 6 (dk_at dksX13_sort_3 0 rfl rfl)
theorem dX13_sort_73 : decode cX13_sort 73 = .ok (.iload 4, 2) := dk_21 4 (dk_at dksX13_sort_3 2 rfl rfl)
theorem dX13_sort_75 : decode cX13_sort 75 = .ok (.if_icmp .ge 44, 3) := dk_162 0 44 (dk_at dksX13_sort_3 4 rfl rfl)
theorem dX13_sort_78 : decode cX13_sort 78 = .ok (.aload_n 0, 1) := dk_42 (dk_at dksX13_sort_3 7 rfl rfl)
theorem dX13_sort_79 : decode cX13_sort 79 = .ok (.iload 6, 2) := dk_21 6 (dk_at dksX13_sort_3 8 rfl rfl)
theorem dX13_sort_81 : decode cX13_sort 81 = .ok (.iload 4, 2) := dk_21 4 (dk_at dksX13_sort_3 10 rfl rfl)
theorem dX13_sort_83 : decode cX13_sort 83 = .ok (.iload 6, 2) := dk_21 6 (dk_at dksX13_sort_3 12 rfl rfl)
theorem dX13_sort_85 : decode cX13_sort 85 = .ok (.iload 5, 2) := dk_21 5 (dk_at dksX13_sort_3 14 rfl rfl)
theorem dX13_sort_87 : decode cX13_sort 87 = .ok (.iadd, 1) := dk_96 (dk_at dksX13_sort_3 16 rfl rfl)
theorem dX13_sort_88 : decode cX13_sort 88 = .ok (.invokestatic 347, 3) := dk_184 1 91 (dk_at dksX13_sort_3 17 rfl rfl)
theorem dX13_sort_91 : decode cX13_sort 91 = .ok (.iload 4, 2) := dk_21 4 (dk_at dksX13_sort_3 20 rfl rfl)
theorem dX13_sort_93 : decode cX13_sort 93 = .ok (.iload 6, 2) := dk_21 6 (dk_at dksX13_sort_3 22 rfl rfl)
theorem dX13_sort_95 : decode cX13_sort 95 = .ok (.iconst 2, 1) := dk_5 (dk_at dksX13_sort_4 0 rfl rfl)
theorem dX13_sort_96 : decode cX13_sort 96 = .ok (.iload 5, 2) := dk_21 5 (dk_at dksX13_sort_4 1 rfl rfl)
theorem dX13_sort_98 : decode cX13_sort 98 = .ok (.imul, 1) := dk_104 (dk_at dksX13_sort_4 3 rfl rfl)
theorem dX13_sort_99 : decode cX13_sort 99 = .ok (.iadd, 1) := dk_96 (dk_at dksX13_sort_4 4 rfl rfl)
theorem dX13_sort_100 : decode cX13_sort 100 = .ok (.invokestatic 347, 3) := dk_184 1 91 (dk_at dksX13_sort_4 5 rfl rfl)
theorem dX13_sort_103 : decode cX13_sort 103 = .ok (.iload_n 3, 1) := dk_29 (dk_at dksX13_sort_4 8 rfl rfl)
theorem dX13_sort_104 : decode cX13_sort 104 = .ok (.invokevirtual 350, 3) := dk_182 1 94 (dk_at dksX13_sort_4 9 rfl rfl)
theorem dX13_sort_107 : decode cX13_sort 107 = .ok (.iload 6, 2) := dk_21 6 (dk_at dksX13_sort_4 12 rfl rfl)
theorem dX13_sort_109 : decode cX13_sort 109 = .ok (.iconst 2, 1) := dk_5 (dk_at dksX13_sort_4 14 rfl rfl)
theorem dX13_sort_110 : decode cX13_sort 110 = .ok (.iload 5, 2) := dk_21 5 (dk_at dksX13_sort_4 15 rfl rfl)
theorem dX13_sort_112 : decode cX13_sort 112 = .ok (.imul, 1) := dk_104 (dk_at dksX13_sort_4 17 rfl rfl)
theorem dX13_sort_113 : decode cX13_sort 113 = .ok (.iadd, 1) := dk_96 (dk_at dksX13_sort_4 18 rfl rfl)
theorem dX13_sort_114 : decode cX13_sort 114 = .ok (.istore 6, 2) := dk_54 6 (dk_at dksX13_sort_4 19 rfl rfl)
theorem dX13_sort_116 : decode cX13_sort 116 = .ok (.goto (-45), 3) := dk_167 255 211 (dk_at dksX13_sort_4 21 rfl rfl)
theorem dX13_sort_119 : decode cX13_sort 119 = .ok (.aload_n 0, 1) := dk_42 (dk_at dksX13_sort_5 0 rfl rfl)
theorem dX13_sort_120 : decode cX13_sort 120 = .ok (.getfield 89, 3) := dk_180 0 89 (dk_at dksX13_sort_5 1 rfl rfl)
theorem dX13_sort_123 : decode cX13_sort 123 = .ok (.astore 6, 2) := dk_58 6 (dk_at dksX13_sort_5 4 rfl rfl)
theorem dX13_sort_125 : decode cX13_sort 125 = .ok (.aload_n 0, 1) := dk_42 (dk_at dksX13_sort_5 6 rfl rfl)
theorem dX13_sort_126 : decode cX13_sort 126 = .ok (.aload_n 0, 1) := dk_42 (dk_at dksX13_sort_5 7 rfl rfl)
theorem dX13_sort_127 : decode cX13_sort 127 = .ok (.getfield 92, 3) := dk_180 0 92 (dk_at dksX13_sort_5 8 rfl rfl)
theorem dX13_sort_130 : decode cX13_sort 130 = .ok (.putfield 89, 3) := dk_181 0 89 (dk_at dksX13_sort_5 11 rfl rfl)
theorem dX13_sort_133 : decode cX13_sort 133 = .ok (.aload_n 0, 1) := dk_42 (dk_at dksX13_sort_5 14 rfl rfl)
theorem dX13_sort_134 : decode cX13_sort 134 = .ok (.aload 6, 2) := dk_25 6 (dk_at dksX13_sort_5 15 rfl rfl)
theorem dX13_sort_136 : decode cX13_sort 136 = .ok (.putfield 92, 3) := dk_181 0 92 (dk_at dksX13_sort_5 17 rfl rfl)
theorem dX13_sort_139 : decode cX13_sort 139 = .ok (.iload 5, 2) := dk_21 5 (dk_at dksX13_sort_5 20 rfl rfl)
theorem dX13_sort_141 : decode cX13_sort 141 = .ok (.iconst 2, 1) := dk_5 (dk_at dksX13_sort_5 22 rfl rfl)
theorem dX13_sort_142 : decode cX13_sort 142 = .ok (.imul, 1) := dk_104 (dk_at dksX13_sort_5 23 rfl rfl)
theorem dX13_sort_143 : decode cX13_sort 143 = .ok (.istore 5, 2) := dk_54 5 (dk_at dksX13_sort_6 0 rfl rfl)
theorem dX13_sort_145 : decode cX13_sort 145 = .ok (.goto (-84), 3) := dk_167 255 172 (dk_at dksX13_sort_6 2 rfl rfl)
theorem dX13_sort_148 : decode cX13_sort 148 = .ok (.iload_n 3, 1) := dk_29 (dk_at dksX13_sort_6 5 rfl rfl)
theorem dX13_sort_149 : decode cX13_sort 149 = .ok (.ifCond .eq 53, 3) := dk_153 0 53 (dk_at dksX13_sort_6 6 rfl rfl)
theorem dX13_sort_152 : decode cX13_sort 152 = .ok (.iconst 0, 1) := dk_3 (dk_at dksX13_sort_6 9 rfl rfl)
theorem dX13_sort_153 : decode cX13_sort 153 = .ok (.istore 5, 2) := dk_54 5 (dk_at dksX13_sort_6 10 rfl rfl)
theorem dX13_sort_155 : decode cX13_sort 155 = .ok (.iload 5, 2) := dk_21 5 (dk_at dksX13_sort_6 12 rfl rfl)
theorem dX13_sort_157 : decode cX13_sort 157 = .ok (.iload 4, 2) := dk_21 4 (dk_at dksX13_sort_6 14 rfl rfl)
theorem dX13_sort_159 : decode cX13_sort 159 = .ok (.if_icmp .ge 28, 3) := dk_162 0 28 (dk_at dksX13_sort_6 16 rfl rfl)
theorem dX13_sort_162 : decode cX13_sort 162 = .ok (.aload_n 0, 1) := dk_42 (dk_at dksX13_sort_6 19 rfl rfl)
theorem dX13_sort_163 : decode cX13_sort 163 = .ok (.getfield 92, 3) := dk_180 0 92 (dk_at dksX13_sort_6 20 rfl rfl)
theorem dX13_sort_166 : decode cX13_sort 166 = .ok (.iload 5, 2) := dk_21 5 (dk_at dksX13_sort_7 0 rfl rfl)
theorem dX13_sort_168 : decode cX13_sort 168 = .ok (.aload_n 0, 1) := dk_42 (dk_at dksX13_sort_7 2 rfl rfl)
theorem dX13_sort_169 : decode cX13_sort 169 = .ok (.getfield 80, 3) := dk_180 0 80 (dk_at dksX13_sort_7 3 rfl rfl)
theorem dX13_sort_172 : decode cX13_sort 172 = .ok (.aload_n 0, 1) := dk_42 (dk_at dksX13_sort_7 6 rfl rfl)
theorem dX13_sort_173 : decode cX13_sort 173 = .ok (.getfield 89, 3) := dk_180 0 89 (dk_at dksX13_sort_7 7 rfl rfl)
theorem dX13_sort_176 : decode cX13_sort 176 = .ok (.iload 5, 2) := dk_21 5 (dk_at dksX13_sort_7 10 rfl rfl)
theorem dX13_sort_178 : decode cX13_sort 178 = .ok (.iaload, 1) := dk_46 (dk_at dksX13_sort_7 12 rfl rfl)
theorem dX13_sort_179 : decode cX13_sort 179 = .ok (.iaload, 1) := dk_46 (dk_at dksX13_sort_7 13 rfl rfl)
theorem dX13_sort_180 : decode cX13_sort 180 = .ok (.iastore, 1) := dk_79 (dk_at dksX13_sort_7 14 rfl rfl)
theorem dX13_sort_181 : decode cX13_sort 181 = .ok (.iinc 5 1, 3) := dk_132 5 1 (dk_at dksX13_sort_7 15 rfl rfl)
theorem dX13_sort_184 : decode cX13_sort 184 = .ok (.goto (-29), 3) := dk_167 255 227 (dk_at dksX13_sort_7 18 rfl rfl)
theorem dX13_sort_187 : decode cX13_sort 187 = .ok (.aload_n 0, 1) := dk_42 (dk_at dksX13_sort_7 21 rfl rfl)
theorem dX13_sort_188 : decode cX13_sort 188 = .ok (.getfield 92, 3) := dk_180 0 92 (dk_at dksX13_sort_8 0 rfl rfl)
theorem dX13_sort_191 : decode cX13_sort 191 = .ok (.iconst 0, 1) := dk_3 (dk_at dksX13_sort_8 3 rfl rfl)
theorem dX13_sort_192 : decode cX13_sort 192 = .ok (.aload_n 0, 1) := dk_42 (dk_at dksX13_sort_8 4 rfl rfl)
theorem dX13_sort_193 : decode cX13_sort 193 = .ok (.getfield 80, 3) := dk_180 0 80 (dk_at dksX13_sort_8 5 rfl rfl)
theorem dX13_sort_196 : decode cX13_sort 196 = .ok (.iload_n 1, 1) := dk_27 (dk_at dksX13_sort_8 8 rfl rfl)
theorem dX13_sort_197 : decode cX13_sort 197 = .ok (.iload 4, 2) := dk_21 4 (dk_at dksX13_sort_8 9 rfl rfl)
theorem dX13_sort_199 : decode cX13_sort 199 = .ok (.invokestatic 126, 3) := dk_184 0 126 (dk_at dksX13_sort_8 11 rfl rfl)
theorem dX13_sort_202 : decode cX13_sort 202 = .ok (.return_, 1) := dk_177 (dk_at dksX13_sort_8 14 rfl rfl)
abbrev cX13_merge : ByteArray := prog_8_method_37_code
def yX13_merge : MethodName := ⟨RX13, "merge", "(IIIZ)V"⟩
def dkwX13_merge_4 : List UInt8 := [132, 5, 1, 167, 0, 6, 132, 6, 1, 132, 7, 1, 167, 255, 162, 177]
abbrev dktX13_merge_4 : List UInt8 := dkwX13_merge_4 ++ []
def dkwX13_merge_3 : List UInt8 := [180, 0, 89, 21, 5, 46, 167, 0, 10, 42, 180, 0, 89, 21, 6, 46, 79, 21, 8, 153, 0, 9]
abbrev dktX13_merge_3 : List UInt8 := dkwX13_merge_3 ++ dktX13_merge_4
def dkwX13_merge_2 : List UInt8 := [154, 0, 7, 4, 167, 0, 4, 3, 54, 8, 42, 180, 0, 92, 21, 7, 21, 8, 153, 0, 13, 42]
abbrev dktX13_merge_2 : List UInt8 := dkwX13_merge_2 ++ dktX13_merge_3
def dkwX13_merge_1 : List UInt8 := [162, 0, 30, 42, 42, 180, 0, 89, 21, 6, 46, 42, 180, 0, 89, 21, 5, 46, 21, 4, 182, 1, 98]
abbrev dktX13_merge_1 : List UInt8 := dkwX13_merge_1 ++ dktX13_merge_2
def dkwX13_merge_0 : List UInt8 := [27, 54, 5, 28, 54, 6, 27, 54, 7, 21, 7, 29, 162, 0, 94, 21, 6, 29, 159, 0, 32, 21, 5, 28]
abbrev dktX13_merge_0 : List UInt8 := dkwX13_merge_0 ++ dktX13_merge_1
theorem dksX13_merge_0 : cX13_merge.data.toList.drop 0 = dktX13_merge_0 := by decide +kernel
theorem dksX13_merge_1 : cX13_merge.data.toList.drop 24 = dktX13_merge_1 := dk_seg dksX13_merge_0 24 rfl rfl
theorem dksX13_merge_2 : cX13_merge.data.toList.drop 47 = dktX13_merge_2 := dk_seg dksX13_merge_1 23 rfl rfl
theorem dksX13_merge_3 : cX13_merge.data.toList.drop 69 = dktX13_merge_3 := dk_seg dksX13_merge_2 22 rfl rfl
theorem dksX13_merge_4 : cX13_merge.data.toList.drop 91 = dktX13_merge_4 := dk_seg dksX13_merge_3 22 rfl rfl
theorem dX13_merge_0 : decode cX13_merge 0 = .ok (.iload_n 1, 1) := dk_27 (dk_at dksX13_merge_0 0 rfl rfl)
theorem dX13_merge_1 : decode cX13_merge 1 = .ok (.istore 5, 2) := dk_54 5 (dk_at dksX13_merge_0 1 rfl rfl)
theorem dX13_merge_3 : decode cX13_merge 3 = .ok (.iload_n 2, 1) := dk_28 (dk_at dksX13_merge_0 3 rfl rfl)
theorem dX13_merge_4 : decode cX13_merge 4 = .ok (.istore 6, 2) := dk_54 6 (dk_at dksX13_merge_0 4 rfl rfl)
theorem dX13_merge_6 : decode cX13_merge 6 = .ok (.iload_n 1, 1) := dk_27 (dk_at dksX13_merge_0 6 rfl rfl)
theorem dX13_merge_7 : decode cX13_merge 7 = .ok (.istore 7, 2) := dk_54 7 (dk_at dksX13_merge_0 7 rfl rfl)
theorem dX13_merge_9 : decode cX13_merge 9 = .ok (.iload 7, 2) := dk_21 7 (dk_at dksX13_merge_0 9 rfl rfl)
theorem dX13_merge_11 : decode cX13_merge 11 = .ok (.iload_n 3, 1) := dk_29 (dk_at dksX13_merge_0 11 rfl rfl)
theorem dX13_merge_12 : decode cX13_merge 12 = .ok (.if_icmp .ge 94, 3) := dk_162 0 94 (dk_at dksX13_merge_0 12 rfl rfl)
theorem dX13_merge_15 : decode cX13_merge 15 = .ok (.iload 6, 2) := dk_21 6 (dk_at dksX13_merge_0 15 rfl rfl)
theorem dX13_merge_17 : decode cX13_merge 17 = .ok (.iload_n 3, 1) := dk_29 (dk_at dksX13_merge_0 17 rfl rfl)
theorem dX13_merge_18 : decode cX13_merge 18 = .ok (.if_icmp .eq 32, 3) := dk_159 0 32 (dk_at dksX13_merge_0 18 rfl rfl)
theorem dX13_merge_21 : decode cX13_merge 21 = .ok (.iload 5, 2) := dk_21 5 (dk_at dksX13_merge_0 21 rfl rfl)
theorem dX13_merge_23 : decode cX13_merge 23 = .ok (.iload_n 2, 1) := dk_28 (dk_at dksX13_merge_0 23 rfl rfl)
theorem dX13_merge_24 : decode cX13_merge 24 = .ok (.if_icmp .ge 30, 3) := dk_162 0 30 (dk_at dksX13_merge_1 0 rfl rfl)
theorem dX13_merge_27 : decode cX13_merge 27 = .ok (.aload_n 0, 1) := dk_42 (dk_at dksX13_merge_1 3 rfl rfl)
theorem dX13_merge_28 : decode cX13_merge 28 = .ok (.aload_n 0, 1) := dk_42 (dk_at dksX13_merge_1 4 rfl rfl)
theorem dX13_merge_29 : decode cX13_merge 29 = .ok (.getfield 89, 3) := dk_180 0 89 (dk_at dksX13_merge_1 5 rfl rfl)
theorem dX13_merge_32 : decode cX13_merge 32 = .ok (.iload 6, 2) := dk_21 6 (dk_at dksX13_merge_1 8 rfl rfl)
theorem dX13_merge_34 : decode cX13_merge 34 = .ok (.iaload, 1) := dk_46 (dk_at dksX13_merge_1 10 rfl rfl)
theorem dX13_merge_35 : decode cX13_merge 35 = .ok (.aload_n 0, 1) := dk_42 (dk_at dksX13_merge_1 11 rfl rfl)
theorem dX13_merge_36 : decode cX13_merge 36 = .ok (.getfield 89, 3) := dk_180 0 89 (dk_at dksX13_merge_1 12 rfl rfl)
theorem dX13_merge_39 : decode cX13_merge 39 = .ok (.iload 5, 2) := dk_21 5 (dk_at dksX13_merge_1 15 rfl rfl)
theorem dX13_merge_41 : decode cX13_merge 41 = .ok (.iaload, 1) := dk_46 (dk_at dksX13_merge_1 17 rfl rfl)
theorem dX13_merge_42 : decode cX13_merge 42 = .ok (.iload 4, 2) := dk_21 4 (dk_at dksX13_merge_1 18 rfl rfl)
theorem dX13_merge_44 : decode cX13_merge 44 = .ok (.invokevirtual 354, 3) := dk_182 1 98 (dk_at dksX13_merge_1 20 rfl rfl)
theorem dX13_merge_47 : decode cX13_merge 47 = .ok (.ifCond .ne 7, 3) := dk_154 0 7 (dk_at dksX13_merge_2 0 rfl rfl)
theorem dX13_merge_50 : decode cX13_merge 50 = .ok (.iconst 1, 1) := dk_4 (dk_at dksX13_merge_2 3 rfl rfl)
theorem dX13_merge_51 : decode cX13_merge 51 = .ok (.goto 4, 3) := dk_167 0 4 (dk_at dksX13_merge_2 4 rfl rfl)
theorem dX13_merge_54 : decode cX13_merge 54 = .ok (.iconst 0, 1) := dk_3 (dk_at dksX13_merge_2 7 rfl rfl)
theorem dX13_merge_55 : decode cX13_merge 55 = .ok (.istore 8, 2) := dk_54 8 (dk_at dksX13_merge_2 8 rfl rfl)
theorem dX13_merge_57 : decode cX13_merge 57 = .ok (.aload_n 0, 1) := dk_42 (dk_at dksX13_merge_2 10 rfl rfl)
theorem dX13_merge_58 : decode cX13_merge 58 = .ok (.getfield 92, 3) := dk_180 0 92 (dk_at dksX13_merge_2 11 rfl rfl)
theorem dX13_merge_61 : decode cX13_merge 61 = .ok (.iload 7, 2) := dk_21 7 (dk_at dksX13_merge_2 14 rfl rfl)
theorem dX13_merge_63 : decode cX13_merge 63 = .ok (.iload 8, 2) := dk_21 8 (dk_at dksX13_merge_2 16 rfl rfl)
theorem dX13_merge_65 : decode cX13_merge 65 = .ok (.ifCond .eq 13, 3) := dk_153 0 13 (dk_at dksX13_merge_2 18 rfl rfl)
theorem dX13_merge_68 : decode cX13_merge 68 = .ok (.aload_n 0, 1) := dk_42 (dk_at dksX13_merge_2 21 rfl rfl)
theorem dX13_merge_69 : decode cX13_merge 69 = .ok (.getfield 89, 3) := dk_180 0 89 (dk_at dksX13_merge_3 0 rfl rfl)
theorem dX13_merge_72 : decode cX13_merge 72 = .ok (.iload 5, 2) := dk_21 5 (dk_at dksX13_merge_3 3 rfl rfl)
theorem dX13_merge_74 : decode cX13_merge 74 = .ok (.iaload, 1) := dk_46 (dk_at dksX13_merge_3 5 rfl rfl)
theorem dX13_merge_75 : decode cX13_merge 75 = .ok (.goto 10, 3) := dk_167 0 10 (dk_at dksX13_merge_3 6 rfl rfl)
theorem dX13_merge_78 : decode cX13_merge 78 = .ok (.aload_n 0, 1) := dk_42 (dk_at dksX13_merge_3 9 rfl rfl)
theorem dX13_merge_79 : decode cX13_merge 79 = .ok (.getfield 89, 3) := dk_180 0 89 (dk_at dksX13_merge_3 10 rfl rfl)
theorem dX13_merge_82 : decode cX13_merge 82 = .ok (.iload 6, 2) := dk_21 6 (dk_at dksX13_merge_3 13 rfl rfl)
theorem dX13_merge_84 : decode cX13_merge 84 = .ok (.iaload, 1) := dk_46 (dk_at dksX13_merge_3 15 rfl rfl)
theorem dX13_merge_85 : decode cX13_merge 85 = .ok (.iastore, 1) := dk_79 (dk_at dksX13_merge_3 16 rfl rfl)
theorem dX13_merge_86 : decode cX13_merge 86 = .ok (.iload 8, 2) := dk_21 8 (dk_at dksX13_merge_3 17 rfl rfl)
theorem dX13_merge_88 : decode cX13_merge 88 = .ok (.ifCond .eq 9, 3) := dk_153 0 9 (dk_at dksX13_merge_3 19 rfl rfl)
theorem dX13_merge_91 : decode cX13_merge 91 = .ok (.iinc 5 1, 3) := dk_132 5 1 (dk_at dksX13_merge_4 0 rfl rfl)
theorem dX13_merge_94 : decode cX13_merge 94 = .ok (.goto 6, 3) := dk_167 0 6 (dk_at dksX13_merge_4 3 rfl rfl)
theorem dX13_merge_97 : decode cX13_merge 97 = .ok (.iinc 6 1, 3) := dk_132 6 1 (dk_at dksX13_merge_4 6 rfl rfl)
theorem dX13_merge_100 : decode cX13_merge 100 = .ok (.iinc 7 1, 3) := dk_132 7 1 (dk_at dksX13_merge_4 9 rfl rfl)
theorem dX13_merge_103 : decode cX13_merge 103 = .ok (.goto (-94), 3) := dk_167 255 162 (dk_at dksX13_merge_4 12 rfl rfl)
theorem dX13_merge_106 : decode cX13_merge 106 = .ok (.return_, 1) := dk_177 (dk_at dksX13_merge_4 15 rfl rfl)
abbrev cX13_isBefore : ByteArray := prog_8_method_35_code
def yX13_isBefore : MethodName := ⟨RX13, "isBefore", "(IIZ)Z"⟩
def dkwX13_isBefore_3 : List UInt8 := [180, 0, 83, 28, 4, 96, 46, 182, 1, 57, 156, 0, 7, 4, 167, 0, 4, 3, 172]
abbrev dktX13_isBefore_3 : List UInt8 := dkwX13_isBefore_3 ++ []
def dkwX13_isBefore_2 : List UInt8 := [180, 0, 83, 27, 46, 42, 180, 0, 83, 27, 4, 96, 46, 42, 180, 0, 77, 42, 180, 0, 83, 28, 46, 42]
abbrev dktX13_isBefore_2 : List UInt8 := dkwX13_isBefore_2 ++ dktX13_isBefore_3
def dkwX13_isBefore_1 : List UInt8 := [180, 0, 80, 28, 46, 182, 0, 172, 162, 0, 7, 4, 167, 0, 4, 3, 172, 42, 180, 0, 77, 42]
abbrev dktX13_isBefore_1 : List UInt8 := dkwX13_isBefore_1 ++ dktX13_isBefore_2
def dkwX13_isBefore_0 : List UInt8 := [29, 153, 0, 38, 42, 180, 0, 110, 42, 180, 0, 80, 27, 46, 182, 0, 172, 42, 180, 0, 110, 42]
abbrev dktX13_isBefore_0 : List UInt8 := dkwX13_isBefore_0 ++ dktX13_isBefore_1
theorem dksX13_isBefore_0 : cX13_isBefore.data.toList.drop 0 = dktX13_isBefore_0 := by decide +kernel
theorem dksX13_isBefore_1 : cX13_isBefore.data.toList.drop 22 = dktX13_isBefore_1 := dk_seg dksX13_isBefore_0 22 rfl rfl
theorem dksX13_isBefore_2 : cX13_isBefore.data.toList.drop 44 = dktX13_isBefore_2 := dk_seg dksX13_isBefore_1 22 rfl rfl
theorem dksX13_isBefore_3 : cX13_isBefore.data.toList.drop 68 = dktX13_isBefore_3 := dk_seg dksX13_isBefore_2 24 rfl rfl
theorem dX13_isBefore_0 : decode cX13_isBefore 0 = .ok (.iload_n 3, 1) := dk_29 (dk_at dksX13_isBefore_0 0 rfl rfl)
theorem dX13_isBefore_1 : decode cX13_isBefore 1 = .ok (.ifCond .eq 38, 3) := dk_153 0 38 (dk_at dksX13_isBefore_0 1 rfl rfl)
theorem dX13_isBefore_4 : decode cX13_isBefore 4 = .ok (.aload_n 0, 1) := dk_42 (dk_at dksX13_isBefore_0 4 rfl rfl)
theorem dX13_isBefore_5 : decode cX13_isBefore 5 = .ok (.getfield 110, 3) := dk_180 0 110 (dk_at dksX13_isBefore_0 5 rfl rfl)
theorem dX13_isBefore_8 : decode cX13_isBefore 8 = .ok (.aload_n 0, 1) := dk_42 (dk_at dksX13_isBefore_0 8 rfl rfl)
theorem dX13_isBefore_9 : decode cX13_isBefore 9 = .ok (.getfield 80, 3) := dk_180 0 80 (dk_at dksX13_isBefore_0 9 rfl rfl)
theorem dX13_isBefore_12 : decode cX13_isBefore 12 = .ok (.iload_n 1, 1) := dk_27 (dk_at dksX13_isBefore_0 12 rfl rfl)
theorem dX13_isBefore_13 : decode cX13_isBefore 13 = .ok (.iaload, 1) := dk_46 (dk_at dksX13_isBefore_0 13 rfl rfl)
theorem dX13_isBefore_14 : decode cX13_isBefore 14 = .ok (.invokevirtual 172, 3) := dk_182 0 172 (dk_at dksX13_isBefore_0 14 rfl rfl)
theorem dX13_isBefore_17 : decode cX13_isBefore 17 = .ok (.aload_n 0, 1) := dk_42 (dk_at dksX13_isBefore_0 17 rfl rfl)
theorem dX13_isBefore_18 : decode cX13_isBefore 18 = .ok (.getfield 110, 3) := dk_180 0 110 (dk_at dksX13_isBefore_0 18 rfl rfl)
theorem dX13_isBefore_21 : decode cX13_isBefore 21 = .ok (.aload_n 0, 1) := dk_42 (dk_at dksX13_isBefore_0 21 rfl rfl)
theorem dX13_isBefore_22 : decode cX13_isBefore 22 = .ok (.getfield 80, 3) := dk_180 0 80 (dk_at dksX13_isBefore_1 0 rfl rfl)
theorem dX13_isBefore_25 : decode cX13_isBefore 25 = .ok (.iload_n 2, 1) := dk_28 (dk_at dksX13_isBefore_1 3 rfl rfl)
theorem dX13_isBefore_26 : decode cX13_isBefore 26 = .ok (.iaload, 1) := dk_46 (dk_at dksX13_isBefore_1 4 rfl rfl)
theorem dX13_isBefore_27 : decode cX13_isBefore 27 = .ok (.invokevirtual 172, 3) := dk_182 0 172 (dk_at dksX13_isBefore_1 5 rfl rfl)
theorem dX13_isBefore_30 : decode cX13_isBefore 30 = .ok (.if_icmp .ge 7, 3) := dk_162 0 7 (dk_at dksX13_isBefore_1 8 rfl rfl)
theorem dX13_isBefore_33 : decode cX13_isBefore 33 = .ok (.iconst 1, 1) := dk_4 (dk_at dksX13_isBefore_1 11 rfl rfl)
theorem dX13_isBefore_34 : decode cX13_isBefore 34 = .ok (.goto 4, 3) := dk_167 0 4 (dk_at dksX13_isBefore_1 12 rfl rfl)
theorem dX13_isBefore_37 : decode cX13_isBefore 37 = .ok (.iconst 0, 1) := dk_3 (dk_at dksX13_isBefore_1 15 rfl rfl)
theorem dX13_isBefore_38 : decode cX13_isBefore 38 = .ok (.ireturn, 1) := dk_172 (dk_at dksX13_isBefore_1 16 rfl rfl)
theorem dX13_isBefore_39 : decode cX13_isBefore 39 = .ok (.aload_n 0, 1) := dk_42 (dk_at dksX13_isBefore_1 17 rfl rfl)
theorem dX13_isBefore_40 : decode cX13_isBefore 40 = .ok (.getfield 77, 3) := dk_180 0 77 (dk_at dksX13_isBefore_1 18 rfl rfl)
theorem dX13_isBefore_43 : decode cX13_isBefore 43 = .ok (.aload_n 0, 1) := dk_42 (dk_at dksX13_isBefore_1 21 rfl rfl)
theorem dX13_isBefore_44 : decode cX13_isBefore 44 = .ok (.getfield 83, 3) := dk_180 0 83 (dk_at dksX13_isBefore_2 0 rfl rfl)
theorem dX13_isBefore_47 : decode cX13_isBefore 47 = .ok (.iload_n 1, 1) := dk_27 (dk_at dksX13_isBefore_2 3 rfl rfl)
theorem dX13_isBefore_48 : decode cX13_isBefore 48 = .ok (.iaload, 1) := dk_46 (dk_at dksX13_isBefore_2 4 rfl rfl)
theorem dX13_isBefore_49 : decode cX13_isBefore 49 = .ok (.aload_n 0, 1) := dk_42 (dk_at dksX13_isBefore_2 5 rfl rfl)
theorem dX13_isBefore_50 : decode cX13_isBefore 50 = .ok (.getfield 83, 3) := dk_180 0 83 (dk_at dksX13_isBefore_2 6 rfl rfl)
theorem dX13_isBefore_53 : decode cX13_isBefore 53 = .ok (.iload_n 1, 1) := dk_27 (dk_at dksX13_isBefore_2 9 rfl rfl)
theorem dX13_isBefore_54 : decode cX13_isBefore 54 = .ok (.iconst 1, 1) := dk_4 (dk_at dksX13_isBefore_2 10 rfl rfl)
theorem dX13_isBefore_55 : decode cX13_isBefore 55 = .ok (.iadd, 1) := dk_96 (dk_at dksX13_isBefore_2 11 rfl rfl)
theorem dX13_isBefore_56 : decode cX13_isBefore 56 = .ok (.iaload, 1) := dk_46 (dk_at dksX13_isBefore_2 12 rfl rfl)
theorem dX13_isBefore_57 : decode cX13_isBefore 57 = .ok (.aload_n 0, 1) := dk_42 (dk_at dksX13_isBefore_2 13 rfl rfl)
theorem dX13_isBefore_58 : decode cX13_isBefore 58 = .ok (.getfield 77, 3) := dk_180 0 77 (dk_at dksX13_isBefore_2 14 rfl rfl)
theorem dX13_isBefore_61 : decode cX13_isBefore 61 = .ok (.aload_n 0, 1) := dk_42 (dk_at dksX13_isBefore_2 17 rfl rfl)
theorem dX13_isBefore_62 : decode cX13_isBefore 62 = .ok (.getfield 83, 3) := dk_180 0 83 (dk_at dksX13_isBefore_2 18 rfl rfl)
theorem dX13_isBefore_65 : decode cX13_isBefore 65 = .ok (.iload_n 2, 1) := dk_28 (dk_at dksX13_isBefore_2 21 rfl rfl)
theorem dX13_isBefore_66 : decode cX13_isBefore 66 = .ok (.iaload, 1) := dk_46 (dk_at dksX13_isBefore_2 22 rfl rfl)
theorem dX13_isBefore_67 : decode cX13_isBefore 67 = .ok (.aload_n 0, 1) := dk_42 (dk_at dksX13_isBefore_2 23 rfl rfl)
theorem dX13_isBefore_68 : decode cX13_isBefore 68 = .ok (.getfield 83, 3) := dk_180 0 83 (dk_at dksX13_isBefore_3 0 rfl rfl)
theorem dX13_isBefore_71 : decode cX13_isBefore 71 = .ok (.iload_n 2, 1) := dk_28 (dk_at dksX13_isBefore_3 3 rfl rfl)
theorem dX13_isBefore_72 : decode cX13_isBefore 72 = .ok (.iconst 1, 1) := dk_4 (dk_at dksX13_isBefore_3 4 rfl rfl)
theorem dX13_isBefore_73 : decode cX13_isBefore 73 = .ok (.iadd, 1) := dk_96 (dk_at dksX13_isBefore_3 5 rfl rfl)
theorem dX13_isBefore_74 : decode cX13_isBefore 74 = .ok (.iaload, 1) := dk_46 (dk_at dksX13_isBefore_3 6 rfl rfl)
theorem dX13_isBefore_75 : decode cX13_isBefore 75 = .ok (.invokevirtual 313, 3) := dk_182 1 57 (dk_at dksX13_isBefore_3 7 rfl rfl)
theorem dX13_isBefore_78 : decode cX13_isBefore 78 = .ok (.ifCond .ge 7, 3) := dk_156 0 7 (dk_at dksX13_isBefore_3 10 rfl rfl)
theorem dX13_isBefore_81 : decode cX13_isBefore 81 = .ok (.iconst 1, 1) := dk_4 (dk_at dksX13_isBefore_3 13 rfl rfl)
theorem dX13_isBefore_82 : decode cX13_isBefore 82 = .ok (.goto 4, 3) := dk_167 0 4 (dk_at dksX13_isBefore_3 14 rfl rfl)
theorem dX13_isBefore_85 : decode cX13_isBefore 85 = .ok (.iconst 0, 1) := dk_3 (dk_at dksX13_isBefore_3 17 rfl rfl)
theorem dX13_isBefore_86 : decode cX13_isBefore 86 = .ok (.ireturn, 1) := dk_172 (dk_at dksX13_isBefore_3 18 rfl rfl)
abbrev cX13_finish : ByteArray := prog_8_method_34_code
def yX13_finish : MethodName := ⟨RX13, "finish", "(I)V"⟩
def dkwX13_finish_8 : List UInt8 := [89, 180, 0, 169, 4, 100, 181, 0, 169, 177]
abbrev dktX13_finish_8 : List UInt8 := dkwX13_finish_8 ++ []
def dkwX13_finish_7 : List UInt8 := [21, 5, 46, 4, 96, 46, 21, 4, 100, 182, 1, 9, 132, 5, 1, 167, 255, 195, 42, 29, 181, 1, 69, 42]
abbrev dktX13_finish_7 : List UInt8 := dkwX13_finish_7 ++ dktX13_finish_8
def dkwX13_finish_6 : List UInt8 := [46, 54, 6, 42, 180, 0, 77, 42, 180, 0, 74, 21, 6, 21, 4, 100, 42, 180, 0, 83, 42, 180, 0, 89]
abbrev dktX13_finish_6 : List UInt8 := dkwX13_finish_6 ++ dktX13_finish_7
def dkwX13_finish_5 : List UInt8 := [54, 5, 21, 5, 42, 180, 1, 69, 29, 100, 162, 0, 56, 42, 180, 0, 83, 42, 180, 0, 89, 21, 5, 46]
abbrev dktX13_finish_5 : List UInt8 := dkwX13_finish_5 ++ dktX13_finish_6
def dkwX13_finish_4 : List UInt8 := [182, 0, 234, 182, 1, 9, 42, 180, 0, 83, 29, 46, 54, 4, 42, 180, 0, 77, 21, 4, 182, 1, 88, 3]
abbrev dktX13_finish_4 : List UInt8 := dkwX13_finish_4 ++ dktX13_finish_5
def dkwX13_finish_3 : List UInt8 := [180, 0, 74, 182, 0, 166, 42, 180, 0, 74, 42, 180, 0, 77, 42, 180, 0, 83, 29, 46, 42, 180, 0, 77]
abbrev dktX13_finish_3 : List UInt8 := dkwX13_finish_3 ++ dktX13_finish_4
def dkwX13_finish_2 : List UInt8 := [180, 1, 69, 42, 180, 0, 77, 182, 0, 234, 79, 42, 29, 42, 180, 1, 69, 3, 182, 1, 85, 42]
abbrev dktX13_finish_2 : List UInt8 := dkwX13_finish_2 ++ dktX13_finish_3
def dkwX13_finish_1 : List UInt8 := [182, 0, 158, 16, 15, 160, 0, 154, 42, 180, 1, 69, 29, 100, 4, 164, 0, 144, 42, 180, 0, 83, 42]
abbrev dktX13_finish_1 : List UInt8 := dkwX13_finish_1 ++ dktX13_finish_2
def dkwX13_finish_0 : List UInt8 := [42, 180, 0, 49, 27, 46, 61, 42, 180, 0, 86, 27, 46, 62, 42, 28, 182, 0, 194, 154, 0, 164, 42, 28]
abbrev dktX13_finish_0 : List UInt8 := dkwX13_finish_0 ++ dktX13_finish_1
theorem dksX13_finish_0 : cX13_finish.data.toList.drop 0 = dktX13_finish_0 := by decide +kernel
theorem dksX13_finish_1 : cX13_finish.data.toList.drop 24 = dktX13_finish_1 := dk_seg dksX13_finish_0 24 rfl rfl
theorem dksX13_finish_2 : cX13_finish.data.toList.drop 47 = dktX13_finish_2 := dk_seg dksX13_finish_1 23 rfl rfl
theorem dksX13_finish_3 : cX13_finish.data.toList.drop 69 = dktX13_finish_3 := dk_seg dksX13_finish_2 22 rfl rfl
theorem dksX13_finish_4 : cX13_finish.data.toList.drop 93 = dktX13_finish_4 := dk_seg dksX13_finish_3 24 rfl rfl
theorem dksX13_finish_5 : cX13_finish.data.toList.drop 117 = dktX13_finish_5 := dk_seg dksX13_finish_4 24 rfl rfl
theorem dksX13_finish_6 : cX13_finish.data.toList.drop 141 = dktX13_finish_6 := dk_seg dksX13_finish_5 24 rfl rfl
theorem dksX13_finish_7 : cX13_finish.data.toList.drop 165 = dktX13_finish_7 := dk_seg dksX13_finish_6 24 rfl rfl
theorem dksX13_finish_8 : cX13_finish.data.toList.drop 189 = dktX13_finish_8 := dk_seg dksX13_finish_7 24 rfl rfl
theorem dX13_finish_0 : decode cX13_finish 0 = .ok (.aload_n 0, 1) := dk_42 (dk_at dksX13_finish_0 0 rfl rfl)
theorem dX13_finish_1 : decode cX13_finish 1 = .ok (.getfield 49, 3) := dk_180 0 49 (dk_at dksX13_finish_0 1 rfl rfl)
theorem dX13_finish_4 : decode cX13_finish 4 = .ok (.iload_n 1, 1) := dk_27 (dk_at dksX13_finish_0 4 rfl rfl)
theorem dX13_finish_5 : decode cX13_finish 5 = .ok (.iaload, 1) := dk_46 (dk_at dksX13_finish_0 5 rfl rfl)
theorem dX13_finish_6 : decode cX13_finish 6 = .ok (.istore_n 2, 1) := dk_61 (dk_at dksX13_finish_0 6 rfl rfl)
theorem dX13_finish_7 : decode cX13_finish 7 = .ok (.aload_n 0, 1) := dk_42 (dk_at dksX13_finish_0 7 rfl rfl)
theorem dX13_finish_8 : decode cX13_finish 8 = .ok (.getfield 86, 3) := dk_180 0 86 (dk_at dksX13_finish_0 8 rfl rfl)
theorem dX13_finish_11 : decode cX13_finish 11 = .ok (.iload_n 1, 1) := dk_27 (dk_at dksX13_finish_0 11 rfl rfl)
theorem dX13_finish_12 : decode cX13_finish 12 = .ok (.iaload, 1) := dk_46 (dk_at dksX13_finish_0 12 rfl rfl)
theorem dX13_finish_13 : decode cX13_finish 13 = .ok (.istore_n 3, 1) := dk_62 (dk_at dksX13_finish_0 13 rfl rfl)
theorem dX13_finish_14 : decode cX13_finish 14 = .ok (.aload_n 0, 1) := dk_42 (dk_at dksX13_finish_0 14 rfl rfl)
theorem dX13_finish_15 : decode cX13_finish 15 = .ok (.iload_n 2, 1) := dk_28 (dk_at dksX13_finish_0 15 rfl rfl)
theorem dX13_finish_16 : decode cX13_finish 16 = .ok (.invokevirtual 194, 3) := dk_182 0 194 (dk_at dksX13_finish_0 16 rfl rfl)
theorem dX13_finish_19 : decode cX13_finish 19 = .ok (.ifCond .ne 164, 3) := dk_154 0 164 (dk_at dksX13_finish_0 19 rfl rfl)
theorem dX13_finish_22 : decode cX13_finish 22 = .ok (.aload_n 0, 1) := dk_42 (dk_at dksX13_finish_0 22 rfl rfl)
theorem dX13_finish_23 : decode cX13_finish 23 = .ok (.iload_n 2, 1) := dk_28 (dk_at dksX13_finish_0 23 rfl rfl)
theorem dX13_finish_24 : decode cX13_finish 24 = .ok (.invokevirtual 158, 3) := dk_182 0 158 (dk_at dksX13_finish_1 0 rfl rfl)
theorem dX13_finish_27 : decode cX13_finish 27 = .ok (.bipush 15, 2) := dk_16 15 (dk_at dksX13_finish_1 3 rfl rfl)
theorem dX13_finish_29 : decode cX13_finish 29 = .ok (.if_icmp .ne 154, 3) := dk_160 0 154 (dk_at dksX13_finish_1 5 rfl rfl)
theorem dX13_finish_32 : decode cX13_finish 32 = .ok (.aload_n 0, 1) := dk_42 (dk_at dksX13_finish_1 8 rfl rfl)
theorem dX13_finish_33 : decode cX13_finish 33 = .ok (.getfield 325, 3) := dk_180 1 69 (dk_at dksX13_finish_1 9 rfl rfl)
theorem dX13_finish_36 : decode cX13_finish 36 = .ok (.iload_n 3, 1) := dk_29 (dk_at dksX13_finish_1 12 rfl rfl)
theorem dX13_finish_37 : decode cX13_finish 37 = .ok (.isub, 1) := dk_100 (dk_at dksX13_finish_1 13 rfl rfl)
theorem dX13_finish_38 : decode cX13_finish 38 = .ok (.iconst 1, 1) := dk_4 (dk_at dksX13_finish_1 14 rfl rfl)
theorem dX13_finish_39 : decode cX13_finish 39 = .ok (.if_icmp .le 144, 3) := dk_164 0 144 (dk_at dksX13_finish_1 15 rfl rfl)
theorem dX13_finish_42 : decode cX13_finish 42 = .ok (.aload_n 0, 1) := dk_42 (dk_at dksX13_finish_1 18 rfl rfl)
theorem dX13_finish_43 : decode cX13_finish 43 = .ok (.getfield 83, 3) := dk_180 0 83 (dk_at dksX13_finish_1 19 rfl rfl)
theorem dX13_finish_46 : decode cX13_finish 46 = .ok (.aload_n 0, 1) := dk_42 (dk_at dksX13_finish_1 22 rfl rfl)
theorem dX13_finish_47 : decode cX13_finish 47 = .ok (.getfield 325, 3) := dk_180 1 69 (dk_at dksX13_finish_2 0 rfl rfl)
theorem dX13_finish_50 : decode cX13_finish 50 = .ok (.aload_n 0, 1) := dk_42 (dk_at dksX13_finish_2 3 rfl rfl)
theorem dX13_finish_51 : decode cX13_finish 51 = .ok (.getfield 77, 3) := dk_180 0 77 (dk_at dksX13_finish_2 4 rfl rfl)
theorem dX13_finish_54 : decode cX13_finish 54 = .ok (.invokevirtual 234, 3) := dk_182 0 234 (dk_at dksX13_finish_2 7 rfl rfl)
theorem dX13_finish_57 : decode cX13_finish 57 = .ok (.iastore, 1) := dk_79 (dk_at dksX13_finish_2 10 rfl rfl)
theorem dX13_finish_58 : decode cX13_finish 58 = .ok (.aload_n 0, 1) := dk_42 (dk_at dksX13_finish_2 11 rfl rfl)
theorem dX13_finish_59 : decode cX13_finish 59 = .ok (.iload_n 3, 1) := dk_29 (dk_at dksX13_finish_2 12 rfl rfl)
theorem dX13_finish_60 : decode cX13_finish 60 = .ok (.aload_n 0, 1) := dk_42 (dk_at dksX13_finish_2 13 rfl rfl)
theorem dX13_finish_61 : decode cX13_finish 61 = .ok (.getfield 325, 3) := dk_180 1 69 (dk_at dksX13_finish_2 14 rfl rfl)
theorem dX13_finish_64 : decode cX13_finish 64 = .ok (.iconst 0, 1) := dk_3 (dk_at dksX13_finish_2 17 rfl rfl)
theorem dX13_finish_65 : decode cX13_finish 65 = .ok (.invokevirtual 341, 3) := dk_182 1 85 (dk_at dksX13_finish_2 18 rfl rfl)
theorem dX13_finish_68 : decode cX13_finish 68 = .ok (.aload_n 0, 1) := dk_42 (dk_at dksX13_finish_2 21 rfl rfl)
theorem dX13_finish_69 : decode cX13_finish 69 = .ok (.getfield 74, 3) := dk_180 0 74 (dk_at dksX13_finish_3 0 rfl rfl)
theorem dX13_finish_72 : decode cX13_finish 72 = .ok (.invokevirtual 166, 3) := dk_182 0 166 (dk_at dksX13_finish_3 3 rfl rfl)
theorem dX13_finish_75 : decode cX13_finish 75 = .ok (.aload_n 0, 1) := dk_42 (dk_at dksX13_finish_3 6 rfl rfl)
theorem dX13_finish_76 : decode cX13_finish 76 = .ok (.getfield 74, 3) := dk_180 0 74 (dk_at dksX13_finish_3 7 rfl rfl)
theorem dX13_finish_79 : decode cX13_finish 79 = .ok (.aload_n 0, 1) := dk_42 (dk_at dksX13_finish_3 10 rfl rfl)
theorem dX13_finish_80 : decode cX13_finish 80 = .ok (.getfield 77, 3) := dk_180 0 77 (dk_at dksX13_finish_3 11 rfl rfl)
theorem dX13_finish_83 : decode cX13_finish 83 = .ok (.aload_n 0, 1) := dk_42 (dk_at dksX13_finish_3 14 rfl rfl)
theorem dX13_finish_84 : decode cX13_finish 84 = .ok (.getfield 83, 3) := dk_180 0 83 (dk_at dksX13_finish_3 15 rfl rfl)
theorem dX13_finish_87 : decode cX13_finish 87 = .ok (.iload_n 3, 1) := dk_29 (dk_at dksX13_finish_3 18 rfl rfl)
theorem dX13_finish_88 : decode cX13_finish 88 = .ok (.iaload, 1) := dk_46 (dk_at dksX13_finish_3 19 rfl rfl)
theorem dX13_finish_89 : decode cX13_finish 89 = .ok (.aload_n 0, 1) := dk_42 (dk_at dksX13_finish_3 20 rfl rfl)
theorem dX13_finish_90 : decode cX13_finish 90 = .ok (.getfield 77, 3) := dk_180 0 77 (dk_at dksX13_finish_3 21 rfl rfl)
theorem dX13_finish_93 : decode cX13_finish 93 = .ok (.invokevirtual 234, 3) := dk_182 0 234 (dk_at dksX13_finish_4 0 rfl rfl)
theorem dX13_finish_96 : decode cX13_finish 96 = .ok (.invokevirtual 265, 3) := dk_182 1 9 (dk_at dksX13_finish_4 3 rfl rfl)
theorem dX13_finish_99 : decode cX13_finish 99 = .ok (.aload_n 0, 1) := dk_42 (dk_at dksX13_finish_4 6 rfl rfl)
theorem dX13_finish_100 : decode cX13_finish 100 = .ok (.getfield 83, 3) := dk_180 0 83 (dk_at dksX13_finish_4 7 rfl rfl)
theorem dX13_finish_103 : decode cX13_finish 103 = .ok (.iload_n 3, 1) := dk_29 (dk_at dksX13_finish_4 10 rfl rfl)
theorem dX13_finish_104 : decode cX13_finish 104 = .ok (.iaload, 1) := dk_46 (dk_at dksX13_finish_4 11 rfl rfl)
theorem dX13_finish_105 : decode cX13_finish 105 = .ok (.istore 4, 2) := dk_54 4 (dk_at dksX13_finish_4 12 rfl rfl)
theorem dX13_finish_107 : decode cX13_finish 107 = .ok (.aload_n 0, 1) := dk_42 (dk_at dksX13_finish_4 14 rfl rfl)
theorem dX13_finish_108 : decode cX13_finish 108 = .ok (.getfield 77, 3) := dk_180 0 77 (dk_at dksX13_finish_4 15 rfl rfl)
theorem dX13_finish_111 : decode cX13_finish 111 = .ok (.iload 4, 2) := dk_21 4 (dk_at dksX13_finish_4 18 rfl rfl)
theorem dX13_finish_113 : decode cX13_finish 113 = .ok (.invokevirtual 344, 3) := dk_182 1 88 (dk_at dksX13_finish_4 20 rfl rfl)
theorem dX13_finish_116 : decode cX13_finish 116 = .ok (.iconst 0, 1) := dk_3 (dk_at dksX13_finish_4 23 rfl rfl)
theorem dX13_finish_117 : decode cX13_finish 117 = .ok (.istore 5, 2) := dk_54 5 (dk_at dksX13_finish_5 0 rfl rfl)
theorem dX13_finish_119 : decode cX13_finish 119 = .ok (.iload 5, 2) := dk_21 5 (dk_at dksX13_finish_5 2 rfl rfl)
theorem dX13_finish_121 : decode cX13_finish 121 = .ok (.aload_n 0, 1) := dk_42 (dk_at dksX13_finish_5 4 rfl rfl)
theorem dX13_finish_122 : decode cX13_finish 122 = .ok (.getfield 325, 3) := dk_180 1 69 (dk_at dksX13_finish_5 5 rfl rfl)
theorem dX13_finish_125 : decode cX13_finish 125 = .ok (.iload_n 3, 1) := dk_29 (dk_at dksX13_finish_5 8 rfl rfl)
theorem dX13_finish_126 : decode cX13_finish 126 = .ok (.isub, 1) := dk_100 (dk_at dksX13_finish_5 9 rfl rfl)
theorem dX13_finish_127 : decode cX13_finish 127 = .ok (.if_icmp .ge 56, 3) := dk_162 0 56 (dk_at dksX13_finish_5 10 rfl rfl)
theorem dX13_finish_130 : decode cX13_finish 130 = .ok (.aload_n 0, 1) := dk_42 (dk_at dksX13_finish_5 13 rfl rfl)
theorem dX13_finish_131 : decode cX13_finish 131 = .ok (.getfield 83, 3) := dk_180 0 83 (dk_at dksX13_finish_5 14 rfl rfl)
theorem dX13_finish_134 : decode cX13_finish 134 = .ok (.aload_n 0, 1) := dk_42 (dk_at dksX13_finish_5 17 rfl rfl)
theorem dX13_finish_135 : decode cX13_finish 135 = .ok (.getfield 89, 3) := dk_180 0 89 (dk_at dksX13_finish_5 18 rfl rfl)
theorem dX13_finish_138 : decode cX13_finish 138 = .ok (.iload 5, 2) := dk_21 5 (dk_at dksX13_finish_5 21 rfl rfl)
theorem dX13_finish_140 : decode cX13_finish 140 = .ok (.iaload, 1) := dk_46 (dk_at dksX13_finish_5 23 rfl rfl)
theorem dX13_finish_141 : decode cX13_finish 141 = .ok (.iaload, 1) := dk_46 (dk_at dksX13_finish_6 0 rfl rfl)
theorem dX13_finish_142 : decode cX13_finish 142 = .ok (.istore 6, 2) := dk_54 6 (dk_at dksX13_finish_6 1 rfl rfl)
theorem dX13_finish_144 : decode cX13_finish 144 = .ok (.aload_n 0, 1) := dk_42 (dk_at dksX13_finish_6 3 rfl rfl)
theorem dX13_finish_145 : decode cX13_finish 145 = .ok (.getfield 77, 3) := dk_180 0 77 (dk_at dksX13_finish_6 4 rfl rfl)
theorem dX13_finish_148 : decode cX13_finish 148 = .ok (.aload_n 0, 1) := dk_42 (dk_at dksX13_finish_6 7 rfl rfl)
theorem dX13_finish_149 : decode cX13_finish 149 = .ok (.getfield 74, 3) := dk_180 0 74 (dk_at dksX13_finish_6 8 rfl rfl)
theorem dX13_finish_152 : decode cX13_finish 152 = .ok (.iload 6, 2) := dk_21 6 (dk_at dksX13_finish_6 11 rfl rfl)
theorem dX13_finish_154 : decode cX13_finish 154 = .ok (.iload 4, 2) := dk_21 4 (dk_at dksX13_finish_6 13 rfl rfl)
theorem dX13_finish_156 : decode cX13_finish 156 = .ok (.isub, 1) := dk_100 (dk_at dksX13_finish_6 15 rfl rfl)
theorem dX13_finish_157 : decode cX13_finish 157 = .ok (.aload_n 0, 1) := dk_42 (dk_at dksX13_finish_6 16 rfl rfl)
theorem dX13_finish_158 : decode cX13_finish 158 = .ok (.getfield 83, 3) := dk_180 0 83 (dk_at dksX13_finish_6 17 rfl rfl)
theorem dX13_finish_161 : decode cX13_finish 161 = .ok (.aload_n 0, 1) := dk_42 (dk_at dksX13_finish_6 20 rfl rfl)
theorem dX13_finish_162 : decode cX13_finish 162 = .ok (.getfield 89, 3) := dk_180 0 89 (dk_at dksX13_finish_6 21 rfl rfl)
theorem dX13_finish_165 : decode cX13_finish 165 = .ok (.iload 5, 2) := dk_21 5 (dk_at dksX13_finish_7 0 rfl rfl)
theorem dX13_finish_167 : decode cX13_finish 167 = .ok (.iaload, 1) := dk_46 (dk_at dksX13_finish_7 2 rfl rfl)
theorem dX13_finish_168 : decode cX13_finish 168 = .ok (.iconst 1, 1) := dk_4 (dk_at dksX13_finish_7 3 rfl rfl)
theorem dX13_finish_169 : decode cX13_finish 169 = .ok (.iadd, 1) := dk_96 (dk_at dksX13_finish_7 4 rfl rfl)
theorem dX13_finish_170 : decode cX13_finish 170 = .ok (.iaload, 1) := dk_46 (dk_at dksX13_finish_7 5 rfl rfl)
theorem dX13_finish_171 : decode cX13_finish 171 = .ok (.iload 4, 2) := dk_21 4 (dk_at dksX13_finish_7 6 rfl rfl)
theorem dX13_finish_173 : decode cX13_finish 173 = .ok (.isub, 1) := dk_100 (dk_at dksX13_finish_7 8 rfl rfl)
theorem dX13_finish_174 : decode cX13_finish 174 = .ok (.invokevirtual 265, 3) := dk_182 1 9 (dk_at dksX13_finish_7 9 rfl rfl)
theorem dX13_finish_177 : decode cX13_finish 177 = .ok (.iinc 5 1, 3) := dk_132 5 1 (dk_at dksX13_finish_7 12 rfl rfl)
theorem dX13_finish_180 : decode cX13_finish 180 = .ok (.goto (-61), 3) := dk_167 255 195 (dk_at dksX13_finish_7 15 rfl rfl)
theorem dX13_finish_183 : decode cX13_finish 183 = .ok (.aload_n 0, 1) := dk_42 (dk_at dksX13_finish_7 18 rfl rfl)
theorem dX13_finish_184 : decode cX13_finish 184 = .ok (.iload_n 3, 1) := dk_29 (dk_at dksX13_finish_7 19 rfl rfl)
theorem dX13_finish_185 : decode cX13_finish 185 = .ok (.putfield 325, 3) := dk_181 1 69 (dk_at dksX13_finish_7 20 rfl rfl)
theorem dX13_finish_188 : decode cX13_finish 188 = .ok (.aload_n 0, 1) := dk_42 (dk_at dksX13_finish_7 23 rfl rfl)
theorem dX13_finish_189 : decode cX13_finish 189 = .ok (.dup, 1) := dk_89 (dk_at dksX13_finish_8 0 rfl rfl)
theorem dX13_finish_190 : decode cX13_finish 190 = .ok (.getfield 169, 3) := dk_180 0 169 (dk_at dksX13_finish_8 1 rfl rfl)
theorem dX13_finish_193 : decode cX13_finish 193 = .ok (.iconst 1, 1) := dk_4 (dk_at dksX13_finish_8 4 rfl rfl)
theorem dX13_finish_194 : decode cX13_finish 194 = .ok (.isub, 1) := dk_100 (dk_at dksX13_finish_8 5 rfl rfl)
theorem dX13_finish_195 : decode cX13_finish 195 = .ok (.putfield 169, 3) := dk_181 0 169 (dk_at dksX13_finish_8 6 rfl rfl)
theorem dX13_finish_198 : decode cX13_finish 198 = .ok (.return_, 1) := dk_177 (dk_at dksX13_finish_8 9 rfl rfl)
theorem q310 : (Jvm.Cond.initialized "SchemaWorkshop$Matcher") ∈ lw_all := lw_g (lw_at lw_m1 13 rfl) rfl
theorem q757 : (Jvm.Cond.instantiable "SchemaWorkshop$Matcher" (30 : Nat)) ∈ lw_all := lw_g (lw_at lw_m2 220 rfl) rfl
theorem q759 : (Jvm.Cond.instanceMethod ({ cls := "SchemaWorkshop$Matcher", name := "<init>", desc := "(LSchemaWorkshop$Tree;LSchemaWorkshop$Meaning;)V" } : Jvm.MethodName)) ∈ lw_all := lw_g (lw_at lw_m2 222 rfl) rfl
theorem q760 : (Jvm.Cond.code ({ cls := "SchemaWorkshop$Matcher", name := "<init>", desc := "(LSchemaWorkshop$Tree;LSchemaWorkshop$Meaning;)V" } : Jvm.MethodName) prog_8_method_1_code (3 : Nat) (Option.none : Option Jvm.ClassFile.FieldType)) ∈ lw_all := lw_g (lw_at lw_m2 223 rfl) rfl
theorem q761 : (Jvm.Cond.methodLink "SchemaWorkshop$Matcher" (3 : Nat) ({ cls := "java/lang/Object", name := "<init>", desc := "()V" } : Jvm.MethodName)) ∈ lw_all := lw_g (lw_at lw_m2 224 rfl) rfl
theorem q762 : (Jvm.Cond.classLink "SchemaWorkshop$Matcher" (9 : Nat) "SchemaWorkshop$Forms") ∈ lw_all := lw_g (lw_at lw_m2 225 rfl) rfl
theorem q763 : (Jvm.Cond.classLink "SchemaWorkshop$Matcher" (11 : Nat) "SchemaWorkshop$Numbers") ∈ lw_all := lw_g (lw_at lw_m2 226 rfl) rfl
theorem q764 : (Jvm.Cond.methodLinkNest "SchemaWorkshop$Matcher" (13 : Nat) ({ cls := "SchemaWorkshop$Numbers", name := "<init>", desc := "()V" } : Jvm.MethodName) "SchemaWorkshop") ∈ lw_tbl := lw_at lw_m2 227 rfl
theorem q765 : (Jvm.Cond.methodLink "SchemaWorkshop$Matcher" (14 : Nat) ({ cls := "SchemaWorkshop$Forms", name := "<init>", desc := "(LSchemaWorkshop$Numbers;)V" } : Jvm.MethodName)) ∈ lw_all := lw_g (lw_at lw_m2 228 rfl) rfl
theorem q766 : (Jvm.Cond.classLink "SchemaWorkshop$Matcher" (23 : Nat) "SchemaWorkshop$Times") ∈ lw_all := lw_g (lw_at lw_m2 229 rfl) rfl
theorem q767 : (Jvm.Cond.methodLinkNest "SchemaWorkshop$Matcher" (25 : Nat) ({ cls := "SchemaWorkshop$Times", name := "<init>", desc := "()V" } : Jvm.MethodName) "SchemaWorkshop") ∈ lw_tbl := lw_at lw_m2 230 rfl
theorem q768 : (Jvm.Cond.classLink "SchemaWorkshop$Matcher" (67 : Nat) "SchemaWorkshop$Bytes") ∈ lw_all := lw_g (lw_at lw_m2 231 rfl) rfl
theorem q769 : (Jvm.Cond.methodLinkNest "SchemaWorkshop$Matcher" (69 : Nat) ({ cls := "SchemaWorkshop$Bytes", name := "<init>", desc := "()V" } : Jvm.MethodName) "SchemaWorkshop") ∈ lw_tbl := lw_at lw_m2 232 rfl
theorem q770 : (Jvm.Cond.fieldLink "SchemaWorkshop$Matcher" (95 : Nat) "SchemaWorkshop$Matcher" "tree" "LSchemaWorkshop$Tree;") ∈ lw_all := lw_g (lw_at lw_m2 233 rfl) rfl
theorem q771 : (Jvm.Cond.fieldLink "SchemaWorkshop$Matcher" (99 : Nat) "SchemaWorkshop$Matcher" "meaning" "LSchemaWorkshop$Meaning;") ∈ lw_all := lw_g (lw_at lw_m2 234 rfl) rfl
theorem q772 : (Jvm.Cond.fieldLink "SchemaWorkshop$Matcher" (17 : Nat) "SchemaWorkshop$Matcher" "forms" "LSchemaWorkshop$Forms;") ∈ lw_all := lw_g (lw_at lw_m2 235 rfl) rfl
theorem q773 : (Jvm.Cond.fieldLink "SchemaWorkshop$Matcher" (26 : Nat) "SchemaWorkshop$Matcher" "times" "LSchemaWorkshop$Times;") ∈ lw_all := lw_g (lw_at lw_m2 236 rfl) rfl
theorem q774 : (Jvm.Cond.fieldLink "SchemaWorkshop$Matcher" (159 : Nat) "SchemaWorkshop$Matcher" "row" "LSchemaWorkshop$Bytes;") ∈ lw_all := lw_g (lw_at lw_m2 237 rfl) rfl
theorem q775 : (Jvm.Cond.fieldLink "SchemaWorkshop$Matcher" (110 : Nat) "SchemaWorkshop$Matcher" "elements" "LSchemaWorkshop$Elements;") ∈ lw_all := lw_g (lw_at lw_m2 238 rfl) rfl
theorem q776 : (Jvm.Cond.fieldLink "SchemaWorkshop$Matcher" (103 : Nat) "SchemaWorkshop$Matcher" "fault" "I") ∈ lw_all := lw_g (lw_at lw_m2 239 rfl) rfl
theorem q777 : (Jvm.Cond.fieldLink "SchemaWorkshop$Matcher" (107 : Nat) "SchemaWorkshop$Matcher" "place" "I") ∈ lw_all := lw_g (lw_at lw_m3 0 rfl) rfl
theorem q778 : (Jvm.Cond.fieldLink "SchemaWorkshop$Matcher" (30 : Nat) "SchemaWorkshop$Matcher" "types" "[I") ∈ lw_all := lw_g (lw_at lw_m3 1 rfl) rfl
theorem q779 : (Jvm.Cond.fieldLink "SchemaWorkshop$Matcher" (34 : Nat) "SchemaWorkshop$Matcher" "levels" "[I") ∈ lw_all := lw_g (lw_at lw_m3 2 rfl) rfl
theorem q780 : (Jvm.Cond.fieldLink "SchemaWorkshop$Matcher" (37 : Nat) "SchemaWorkshop$Matcher" "components" "[I") ∈ lw_all := lw_g (lw_at lw_m3 3 rfl) rfl
theorem q781 : (Jvm.Cond.fieldLink "SchemaWorkshop$Matcher" (40 : Nat) "SchemaWorkshop$Matcher" "parents" "[I") ∈ lw_all := lw_g (lw_at lw_m3 4 rfl) rfl
theorem q782 : (Jvm.Cond.fieldLink "SchemaWorkshop$Matcher" (43 : Nat) "SchemaWorkshop$Matcher" "from" "[I") ∈ lw_all := lw_g (lw_at lw_m3 5 rfl) rfl
theorem q783 : (Jvm.Cond.fieldLink "SchemaWorkshop$Matcher" (46 : Nat) "SchemaWorkshop$Matcher" "lengths" "[I") ∈ lw_all := lw_g (lw_at lw_m3 6 rfl) rfl
theorem q784 : (Jvm.Cond.fieldLink "SchemaWorkshop$Matcher" (49 : Nat) "SchemaWorkshop$Matcher" "open" "[I") ∈ lw_all := lw_g (lw_at lw_m3 7 rfl) rfl
theorem q785 : (Jvm.Cond.fieldLink "SchemaWorkshop$Matcher" (52 : Nat) "SchemaWorkshop$Matcher" "nexts" "[I") ∈ lw_all := lw_g (lw_at lw_m3 8 rfl) rfl
theorem q786 : (Jvm.Cond.fieldLink "SchemaWorkshop$Matcher" (55 : Nat) "SchemaWorkshop$Matcher" "counts" "[I") ∈ lw_all := lw_g (lw_at lw_m3 9 rfl) rfl
theorem q787 : (Jvm.Cond.fieldLink "SchemaWorkshop$Matcher" (58 : Nat) "SchemaWorkshop$Matcher" "markFrom" "[I") ∈ lw_all := lw_g (lw_at lw_m3 10 rfl) rfl
theorem q788 : (Jvm.Cond.fieldLink "SchemaWorkshop$Matcher" (169 : Nat) "SchemaWorkshop$Matcher" "depth" "I") ∈ lw_all := lw_g (lw_at lw_m3 11 rfl) rfl
theorem q789 : (Jvm.Cond.fieldLink "SchemaWorkshop$Matcher" (61 : Nat) "SchemaWorkshop$Matcher" "marks" "[I") ∈ lw_all := lw_g (lw_at lw_m3 12 rfl) rfl
theorem q790 : (Jvm.Cond.fieldLink "SchemaWorkshop$Matcher" (64 : Nat) "SchemaWorkshop$Matcher" "search" "[I") ∈ lw_all := lw_g (lw_at lw_m3 13 rfl) rfl
theorem q791 : (Jvm.Cond.fieldLink "SchemaWorkshop$Matcher" (70 : Nat) "SchemaWorkshop$Matcher" "leaves" "LSchemaWorkshop$Bytes;") ∈ lw_all := lw_g (lw_at lw_m3 14 rfl) rfl
theorem q792 : (Jvm.Cond.fieldLink "SchemaWorkshop$Matcher" (74 : Nat) "SchemaWorkshop$Matcher" "raw" "LSchemaWorkshop$Bytes;") ∈ lw_all := lw_g (lw_at lw_m3 15 rfl) rfl
theorem q793 : (Jvm.Cond.fieldLink "SchemaWorkshop$Matcher" (77 : Nat) "SchemaWorkshop$Matcher" "out" "LSchemaWorkshop$Bytes;") ∈ lw_all := lw_g (lw_at lw_m3 16 rfl) rfl
theorem q794 : (Jvm.Cond.fieldLink "SchemaWorkshop$Matcher" (80 : Nat) "SchemaWorkshop$Matcher" "kids" "[I") ∈ lw_all := lw_g (lw_at lw_m3 17 rfl) rfl
theorem q795 : (Jvm.Cond.fieldLink "SchemaWorkshop$Matcher" (83 : Nat) "SchemaWorkshop$Matcher" "spots" "[I") ∈ lw_all := lw_g (lw_at lw_m3 18 rfl) rfl
theorem q796 : (Jvm.Cond.fieldLink "SchemaWorkshop$Matcher" (86 : Nat) "SchemaWorkshop$Matcher" "firsts" "[I") ∈ lw_all := lw_g (lw_at lw_m3 19 rfl) rfl
theorem q797 : (Jvm.Cond.fieldLink "SchemaWorkshop$Matcher" (325 : Nat) "SchemaWorkshop$Matcher" "kidSize" "I") ∈ lw_all := lw_g (lw_at lw_m3 20 rfl) rfl
theorem q798 : (Jvm.Cond.fieldLink "SchemaWorkshop$Matcher" (89 : Nat) "SchemaWorkshop$Matcher" "order" "[I") ∈ lw_all := lw_g (lw_at lw_m3 21 rfl) rfl
theorem q799 : (Jvm.Cond.fieldLink "SchemaWorkshop$Matcher" (92 : Nat) "SchemaWorkshop$Matcher" "spare" "[I") ∈ lw_all := lw_g (lw_at lw_m3 22 rfl) rfl
theorem q800 : (Jvm.Cond.laysFinal "SchemaWorkshop$Matcher" "SchemaWorkshop$Matcher" "tree" "LSchemaWorkshop$Tree;") ∈ lw_all := lw_g (lw_at lw_m3 23 rfl) rfl
theorem q801 : (Jvm.Cond.soleField "SchemaWorkshop$Matcher" "tree") ∈ lw_all := lw_g (lw_at lw_m3 24 rfl) rfl
theorem q802 : (Jvm.Cond.laysFinal "SchemaWorkshop$Matcher" "SchemaWorkshop$Matcher" "meaning" "LSchemaWorkshop$Meaning;") ∈ lw_all := lw_g (lw_at lw_m3 25 rfl) rfl
theorem q803 : (Jvm.Cond.soleField "SchemaWorkshop$Matcher" "meaning") ∈ lw_all := lw_g (lw_at lw_m3 26 rfl) rfl
theorem q804 : (Jvm.Cond.laysFinal "SchemaWorkshop$Matcher" "SchemaWorkshop$Matcher" "forms" "LSchemaWorkshop$Forms;") ∈ lw_all := lw_g (lw_at lw_m3 27 rfl) rfl
theorem q805 : (Jvm.Cond.soleField "SchemaWorkshop$Matcher" "forms") ∈ lw_all := lw_g (lw_at lw_m3 28 rfl) rfl
theorem q806 : (Jvm.Cond.laysFinal "SchemaWorkshop$Matcher" "SchemaWorkshop$Matcher" "times" "LSchemaWorkshop$Times;") ∈ lw_all := lw_g (lw_at lw_m3 29 rfl) rfl
theorem q807 : (Jvm.Cond.soleField "SchemaWorkshop$Matcher" "times") ∈ lw_all := lw_g (lw_at lw_m3 30 rfl) rfl
theorem q808 : (Jvm.Cond.lays "SchemaWorkshop$Matcher" "SchemaWorkshop$Matcher" "row" "LSchemaWorkshop$Bytes;") ∈ lw_all := lw_g (lw_at lw_m3 31 rfl) rfl
theorem q809 : (Jvm.Cond.soleField "SchemaWorkshop$Matcher" "row") ∈ lw_all := lw_g (lw_at lw_m3 32 rfl) rfl
theorem q810 : (Jvm.Cond.lays "SchemaWorkshop$Matcher" "SchemaWorkshop$Matcher" "elements" "LSchemaWorkshop$Elements;") ∈ lw_all := lw_g (lw_at lw_m3 33 rfl) rfl
theorem q811 : (Jvm.Cond.soleField "SchemaWorkshop$Matcher" "elements") ∈ lw_all := lw_g (lw_at lw_m3 34 rfl) rfl
theorem q812 : (Jvm.Cond.lays "SchemaWorkshop$Matcher" "SchemaWorkshop$Matcher" "fault" "I") ∈ lw_all := lw_g (lw_at lw_m3 35 rfl) rfl
theorem q813 : (Jvm.Cond.soleField "SchemaWorkshop$Matcher" "fault") ∈ lw_all := lw_g (lw_at lw_m3 36 rfl) rfl
theorem q814 : (Jvm.Cond.lays "SchemaWorkshop$Matcher" "SchemaWorkshop$Matcher" "place" "I") ∈ lw_all := lw_g (lw_at lw_m3 37 rfl) rfl
theorem q815 : (Jvm.Cond.soleField "SchemaWorkshop$Matcher" "place") ∈ lw_all := lw_g (lw_at lw_m3 38 rfl) rfl
theorem q816 : (Jvm.Cond.lays "SchemaWorkshop$Matcher" "SchemaWorkshop$Matcher" "types" "[I") ∈ lw_all := lw_g (lw_at lw_m3 39 rfl) rfl
theorem q817 : (Jvm.Cond.soleField "SchemaWorkshop$Matcher" "types") ∈ lw_all := lw_g (lw_at lw_m3 40 rfl) rfl
theorem q818 : (Jvm.Cond.lays "SchemaWorkshop$Matcher" "SchemaWorkshop$Matcher" "levels" "[I") ∈ lw_all := lw_g (lw_at lw_m3 41 rfl) rfl
theorem q819 : (Jvm.Cond.soleField "SchemaWorkshop$Matcher" "levels") ∈ lw_all := lw_g (lw_at lw_m3 42 rfl) rfl
theorem q820 : (Jvm.Cond.lays "SchemaWorkshop$Matcher" "SchemaWorkshop$Matcher" "components" "[I") ∈ lw_all := lw_g (lw_at lw_m3 43 rfl) rfl
theorem q821 : (Jvm.Cond.soleField "SchemaWorkshop$Matcher" "components") ∈ lw_all := lw_g (lw_at lw_m3 44 rfl) rfl
theorem q822 : (Jvm.Cond.lays "SchemaWorkshop$Matcher" "SchemaWorkshop$Matcher" "parents" "[I") ∈ lw_all := lw_g (lw_at lw_m3 45 rfl) rfl
theorem q823 : (Jvm.Cond.soleField "SchemaWorkshop$Matcher" "parents") ∈ lw_all := lw_g (lw_at lw_m3 46 rfl) rfl
theorem q824 : (Jvm.Cond.lays "SchemaWorkshop$Matcher" "SchemaWorkshop$Matcher" "from" "[I") ∈ lw_all := lw_g (lw_at lw_m3 47 rfl) rfl
theorem q825 : (Jvm.Cond.soleField "SchemaWorkshop$Matcher" "from") ∈ lw_all := lw_g (lw_at lw_m3 48 rfl) rfl
theorem q826 : (Jvm.Cond.lays "SchemaWorkshop$Matcher" "SchemaWorkshop$Matcher" "lengths" "[I") ∈ lw_all := lw_g (lw_at lw_m3 49 rfl) rfl
theorem q827 : (Jvm.Cond.soleField "SchemaWorkshop$Matcher" "lengths") ∈ lw_all := lw_g (lw_at lw_m3 50 rfl) rfl
theorem q828 : (Jvm.Cond.lays "SchemaWorkshop$Matcher" "SchemaWorkshop$Matcher" "open" "[I") ∈ lw_all := lw_g (lw_at lw_m3 51 rfl) rfl
theorem q829 : (Jvm.Cond.soleField "SchemaWorkshop$Matcher" "open") ∈ lw_all := lw_g (lw_at lw_m3 52 rfl) rfl
theorem q830 : (Jvm.Cond.lays "SchemaWorkshop$Matcher" "SchemaWorkshop$Matcher" "nexts" "[I") ∈ lw_all := lw_g (lw_at lw_m3 53 rfl) rfl
theorem q831 : (Jvm.Cond.soleField "SchemaWorkshop$Matcher" "nexts") ∈ lw_all := lw_g (lw_at lw_m3 54 rfl) rfl
theorem q832 : (Jvm.Cond.lays "SchemaWorkshop$Matcher" "SchemaWorkshop$Matcher" "counts" "[I") ∈ lw_all := lw_g (lw_at lw_m3 55 rfl) rfl
theorem q833 : (Jvm.Cond.soleField "SchemaWorkshop$Matcher" "counts") ∈ lw_all := lw_g (lw_at lw_m3 56 rfl) rfl
theorem q834 : (Jvm.Cond.lays "SchemaWorkshop$Matcher" "SchemaWorkshop$Matcher" "markFrom" "[I") ∈ lw_all := lw_g (lw_at lw_m3 57 rfl) rfl
theorem q835 : (Jvm.Cond.soleField "SchemaWorkshop$Matcher" "markFrom") ∈ lw_all := lw_g (lw_at lw_m3 58 rfl) rfl
theorem q836 : (Jvm.Cond.lays "SchemaWorkshop$Matcher" "SchemaWorkshop$Matcher" "depth" "I") ∈ lw_all := lw_g (lw_at lw_m3 59 rfl) rfl
theorem q837 : (Jvm.Cond.soleField "SchemaWorkshop$Matcher" "depth") ∈ lw_all := lw_g (lw_at lw_m3 60 rfl) rfl
theorem q838 : (Jvm.Cond.lays "SchemaWorkshop$Matcher" "SchemaWorkshop$Matcher" "marks" "[I") ∈ lw_all := lw_g (lw_at lw_m3 61 rfl) rfl
theorem q839 : (Jvm.Cond.soleField "SchemaWorkshop$Matcher" "marks") ∈ lw_all := lw_g (lw_at lw_m3 62 rfl) rfl
theorem q840 : (Jvm.Cond.lays "SchemaWorkshop$Matcher" "SchemaWorkshop$Matcher" "search" "[I") ∈ lw_all := lw_g (lw_at lw_m3 63 rfl) rfl
theorem q841 : (Jvm.Cond.soleField "SchemaWorkshop$Matcher" "search") ∈ lw_all := lw_g (lw_at lw_m3 64 rfl) rfl
theorem q842 : (Jvm.Cond.laysFinal "SchemaWorkshop$Matcher" "SchemaWorkshop$Matcher" "leaves" "LSchemaWorkshop$Bytes;") ∈ lw_all := lw_g (lw_at lw_m3 65 rfl) rfl
theorem q843 : (Jvm.Cond.soleField "SchemaWorkshop$Matcher" "leaves") ∈ lw_all := lw_g (lw_at lw_m3 66 rfl) rfl
theorem q844 : (Jvm.Cond.laysFinal "SchemaWorkshop$Matcher" "SchemaWorkshop$Matcher" "raw" "LSchemaWorkshop$Bytes;") ∈ lw_all := lw_g (lw_at lw_m3 67 rfl) rfl
theorem q845 : (Jvm.Cond.soleField "SchemaWorkshop$Matcher" "raw") ∈ lw_all := lw_g (lw_at lw_m3 68 rfl) rfl
theorem q846 : (Jvm.Cond.laysFinal "SchemaWorkshop$Matcher" "SchemaWorkshop$Matcher" "out" "LSchemaWorkshop$Bytes;") ∈ lw_all := lw_g (lw_at lw_m3 69 rfl) rfl
theorem q847 : (Jvm.Cond.soleField "SchemaWorkshop$Matcher" "out") ∈ lw_all := lw_g (lw_at lw_m3 70 rfl) rfl
theorem q848 : (Jvm.Cond.lays "SchemaWorkshop$Matcher" "SchemaWorkshop$Matcher" "kids" "[I") ∈ lw_all := lw_g (lw_at lw_m3 71 rfl) rfl
theorem q849 : (Jvm.Cond.soleField "SchemaWorkshop$Matcher" "kids") ∈ lw_all := lw_g (lw_at lw_m3 72 rfl) rfl
theorem q850 : (Jvm.Cond.lays "SchemaWorkshop$Matcher" "SchemaWorkshop$Matcher" "spots" "[I") ∈ lw_all := lw_g (lw_at lw_m3 73 rfl) rfl
theorem q851 : (Jvm.Cond.soleField "SchemaWorkshop$Matcher" "spots") ∈ lw_all := lw_g (lw_at lw_m3 74 rfl) rfl
theorem q852 : (Jvm.Cond.lays "SchemaWorkshop$Matcher" "SchemaWorkshop$Matcher" "firsts" "[I") ∈ lw_all := lw_g (lw_at lw_m3 75 rfl) rfl
theorem q853 : (Jvm.Cond.soleField "SchemaWorkshop$Matcher" "firsts") ∈ lw_all := lw_g (lw_at lw_m3 76 rfl) rfl
theorem q854 : (Jvm.Cond.lays "SchemaWorkshop$Matcher" "SchemaWorkshop$Matcher" "kidSize" "I") ∈ lw_all := lw_g (lw_at lw_m3 77 rfl) rfl
theorem q855 : (Jvm.Cond.soleField "SchemaWorkshop$Matcher" "kidSize") ∈ lw_all := lw_g (lw_at lw_m3 78 rfl) rfl
theorem q856 : (Jvm.Cond.lays "SchemaWorkshop$Matcher" "SchemaWorkshop$Matcher" "order" "[I") ∈ lw_all := lw_g (lw_at lw_m3 79 rfl) rfl
theorem q857 : (Jvm.Cond.soleField "SchemaWorkshop$Matcher" "order") ∈ lw_all := lw_g (lw_at lw_m3 80 rfl) rfl
theorem q858 : (Jvm.Cond.lays "SchemaWorkshop$Matcher" "SchemaWorkshop$Matcher" "spare" "[I") ∈ lw_all := lw_g (lw_at lw_m3 81 rfl) rfl
theorem q859 : (Jvm.Cond.soleField "SchemaWorkshop$Matcher" "spare") ∈ lw_all := lw_g (lw_at lw_m3 82 rfl) rfl
theorem q860 : (Jvm.Cond.superclass "SchemaWorkshop$Matcher" "java/lang/Object") ∈ lw_all := lw_g (lw_at lw_m3 83 rfl) rfl
theorem q2132 : (Jvm.Cond.instanceMethod ({ cls := "SchemaWorkshop$Matcher", name := "read", desc := "(ILSchemaWorkshop$Elements;LSchemaWorkshop$Bytes;)Z" } : Jvm.MethodName)) ∈ lw_all := lw_g (lw_at lw_m8 155 rfl) rfl
theorem q2133 : (Jvm.Cond.selects "SchemaWorkshop$Matcher" ({ cls := "SchemaWorkshop$Matcher", name := "read", desc := "(ILSchemaWorkshop$Elements;LSchemaWorkshop$Bytes;)Z" } : Jvm.MethodName) ({ cls := "SchemaWorkshop$Matcher", name := "read", desc := "(ILSchemaWorkshop$Elements;LSchemaWorkshop$Bytes;)Z" } : Jvm.MethodName)) ∈ lw_all := lw_g (lw_at lw_m8 156 rfl) rfl
theorem q2134 : (Jvm.Cond.code ({ cls := "SchemaWorkshop$Matcher", name := "read", desc := "(ILSchemaWorkshop$Elements;LSchemaWorkshop$Bytes;)Z" } : Jvm.MethodName) prog_8_method_10_code (7 : Nat) (Option.some Jvm.ClassFile.FieldType.boolean)) ∈ lw_all := lw_g (lw_at lw_m8 157 rfl) rfl
theorem q2135 : (Jvm.Cond.methodLink "SchemaWorkshop$Matcher" (162 : Nat) ({ cls := "SchemaWorkshop$Elements", name := "size", desc := "()I" } : Jvm.MethodName)) ∈ lw_all := lw_g (lw_at lw_m8 158 rfl) rfl
theorem q2139 : (Jvm.Cond.methodLink "SchemaWorkshop$Matcher" (148 : Nat) ({ cls := "SchemaWorkshop$Matcher", name := "grown", desc := "([II)[I" } : Jvm.MethodName)) ∈ lw_all := lw_g (lw_at lw_m8 162 rfl) rfl
theorem q2140 : (Jvm.Cond.static ({ cls := "SchemaWorkshop$Matcher", name := "grown", desc := "([II)[I" } : Jvm.MethodName)) ∈ lw_all := lw_g (lw_at lw_m8 163 rfl) rfl
theorem q2141 : (Jvm.Cond.code ({ cls := "SchemaWorkshop$Matcher", name := "grown", desc := "([II)[I" } : Jvm.MethodName) prog_8_method_5_code (3 : Nat) (Option.some (Jvm.ClassFile.FieldType.array Jvm.ClassFile.FieldType.int))) ∈ lw_all := lw_g (lw_at lw_m8 164 rfl) rfl
theorem q2142 : (Jvm.Cond.methodLink "SchemaWorkshop$Matcher" (120 : Nat) ({ cls := "java/lang/Math", name := "max", desc := "(II)I" } : Jvm.MethodName)) ∈ lw_all := lw_g (lw_at lw_m8 165 rfl) rfl
theorem q2143 : (Jvm.Cond.methodLink "SchemaWorkshop$Matcher" (126 : Nat) ({ cls := "java/lang/System", name := "arraycopy", desc := "(Ljava/lang/Object;ILjava/lang/Object;II)V" } : Jvm.MethodName)) ∈ lw_all := lw_g (lw_at lw_m8 166 rfl) rfl
theorem q2144 : (Jvm.Cond.methodLink "SchemaWorkshop$Matcher" (166 : Nat) ({ cls := "SchemaWorkshop$Bytes", name := "clear", desc := "()V" } : Jvm.MethodName)) ∈ lw_all := lw_g (lw_at lw_m8 167 rfl) rfl
theorem q2145 : (Jvm.Cond.methodLink "SchemaWorkshop$Matcher" (172 : Nat) ({ cls := "SchemaWorkshop$Elements", name := "tag", desc := "(I)I" } : Jvm.MethodName)) ∈ lw_all := lw_g (lw_at lw_m8 168 rfl) rfl
theorem q2149 : (Jvm.Cond.methodLink "SchemaWorkshop$Matcher" (174 : Nat) ({ cls := "SchemaWorkshop$Matcher", name := "find", desc := "(II)I" } : Jvm.MethodName)) ∈ lw_all := lw_g (lw_at lw_m8 172 rfl) rfl
theorem q2150 : (Jvm.Cond.privateMethod ({ cls := "SchemaWorkshop$Matcher", name := "find", desc := "(II)I" } : Jvm.MethodName)) ∈ lw_tbl := lw_at lw_m8 173 rfl
theorem q2151 : (Jvm.Cond.instanceMethod ({ cls := "SchemaWorkshop$Matcher", name := "find", desc := "(II)I" } : Jvm.MethodName)) ∈ lw_all := lw_g (lw_at lw_m8 174 rfl) rfl
theorem q2152 : (Jvm.Cond.code ({ cls := "SchemaWorkshop$Matcher", name := "find", desc := "(II)I" } : Jvm.MethodName) prog_8_method_6_code (6 : Nat) (Option.some Jvm.ClassFile.FieldType.int)) ∈ lw_all := lw_g (lw_at lw_m8 175 rfl) rfl
theorem q2153 : (Jvm.Cond.methodLink "SchemaWorkshop$Matcher" (132 : Nat) ({ cls := "SchemaWorkshop$Meaning", name := "tagCount", desc := "(I)I" } : Jvm.MethodName)) ∈ lw_all := lw_g (lw_at lw_m8 176 rfl) rfl
theorem q2154 : (Jvm.Cond.methodLink "SchemaWorkshop$Matcher" (137 : Nat) ({ cls := "SchemaWorkshop$Meaning", name := "tag", desc := "(II)I" } : Jvm.MethodName)) ∈ lw_all := lw_g (lw_at lw_m8 177 rfl) rfl
theorem q2155 : (Jvm.Cond.methodLinkNest "SchemaWorkshop$Matcher" (140 : Nat) ({ cls := "SchemaWorkshop$Meaning", name := "base", desc := "(I)I" } : Jvm.MethodName) "SchemaWorkshop") ∈ lw_tbl := lw_at lw_m8 178 rfl
theorem q2156 : (Jvm.Cond.methodLink "SchemaWorkshop$Matcher" (143 : Nat) ({ cls := "SchemaWorkshop$Tree", name := "parts", desc := "(I)I" } : Jvm.MethodName)) ∈ lw_all := lw_g (lw_at lw_m8 179 rfl) rfl
theorem q2157 : (Jvm.Cond.methodLink "SchemaWorkshop$Matcher" (152 : Nat) ({ cls := "SchemaWorkshop$Tree", name := "next", desc := "(I)I" } : Jvm.MethodName)) ∈ lw_all := lw_g (lw_at lw_m8 180 rfl) rfl
theorem q2158 : (Jvm.Cond.methodLink "SchemaWorkshop$Matcher" (177 : Nat) ({ cls := "SchemaWorkshop$Matcher", name := "wrong", desc := "(II)Z" } : Jvm.MethodName)) ∈ lw_all := lw_g (lw_at lw_m8 181 rfl) rfl
theorem q2159 : (Jvm.Cond.privateMethod ({ cls := "SchemaWorkshop$Matcher", name := "wrong", desc := "(II)Z" } : Jvm.MethodName)) ∈ lw_tbl := lw_at lw_m8 182 rfl
theorem q2160 : (Jvm.Cond.instanceMethod ({ cls := "SchemaWorkshop$Matcher", name := "wrong", desc := "(II)Z" } : Jvm.MethodName)) ∈ lw_all := lw_g (lw_at lw_m8 183 rfl) rfl
theorem q2161 : (Jvm.Cond.code ({ cls := "SchemaWorkshop$Matcher", name := "wrong", desc := "(II)Z" } : Jvm.MethodName) prog_8_method_4_code (3 : Nat) (Option.some Jvm.ClassFile.FieldType.boolean)) ∈ lw_all := lw_g (lw_at lw_m8 184 rfl) rfl
theorem q2162 : (Jvm.Cond.methodLink "SchemaWorkshop$Matcher" (114 : Nat) ({ cls := "SchemaWorkshop$Elements", name := "start", desc := "(I)I" } : Jvm.MethodName)) ∈ lw_all := lw_g (lw_at lw_m8 185 rfl) rfl
theorem q2166 : (Jvm.Cond.methodLink "SchemaWorkshop$Matcher" (181 : Nat) ({ cls := "SchemaWorkshop$Matcher", name := "begin", desc := "(IIIII)I" } : Jvm.MethodName)) ∈ lw_all := lw_g (lw_at lw_m8 189 rfl) rfl
theorem q2167 : (Jvm.Cond.privateMethod ({ cls := "SchemaWorkshop$Matcher", name := "begin", desc := "(IIIII)I" } : Jvm.MethodName)) ∈ lw_tbl := lw_at lw_m8 190 rfl
theorem q2168 : (Jvm.Cond.instanceMethod ({ cls := "SchemaWorkshop$Matcher", name := "begin", desc := "(IIIII)I" } : Jvm.MethodName)) ∈ lw_all := lw_g (lw_at lw_m8 191 rfl) rfl
theorem q2169 : (Jvm.Cond.code ({ cls := "SchemaWorkshop$Matcher", name := "begin", desc := "(IIIII)I" } : Jvm.MethodName) prog_8_method_11_code (8 : Nat) (Option.some Jvm.ClassFile.FieldType.int)) ∈ lw_all := lw_g (lw_at lw_m8 192 rfl) rfl
theorem q2170 : (Jvm.Cond.methodLink "SchemaWorkshop$Matcher" (158 : Nat) ({ cls := "SchemaWorkshop$Matcher", name := "kind", desc := "(I)I" } : Jvm.MethodName)) ∈ lw_all := lw_g (lw_at lw_m8 193 rfl) rfl
theorem q2171 : (Jvm.Cond.privateMethod ({ cls := "SchemaWorkshop$Matcher", name := "kind", desc := "(I)I" } : Jvm.MethodName)) ∈ lw_tbl := lw_at lw_m8 194 rfl
theorem q2172 : (Jvm.Cond.instanceMethod ({ cls := "SchemaWorkshop$Matcher", name := "kind", desc := "(I)I" } : Jvm.MethodName)) ∈ lw_all := lw_g (lw_at lw_m8 195 rfl) rfl
theorem q2173 : (Jvm.Cond.code ({ cls := "SchemaWorkshop$Matcher", name := "kind", desc := "(I)I" } : Jvm.MethodName) prog_8_method_7_code (2 : Nat) (Option.some Jvm.ClassFile.FieldType.int)) ∈ lw_all := lw_g (lw_at lw_m8 196 rfl) rfl
theorem q2174 : (Jvm.Cond.methodLink "SchemaWorkshop$Matcher" (155 : Nat) ({ cls := "SchemaWorkshop$Tree", name := "kind", desc := "(I)I" } : Jvm.MethodName)) ∈ lw_all := lw_g (lw_at lw_m8 197 rfl) rfl
theorem q2175 : (Jvm.Cond.methodLink "SchemaWorkshop$Matcher" (194 : Nat) ({ cls := "SchemaWorkshop$Matcher", name := "isAround", desc := "(I)Z" } : Jvm.MethodName)) ∈ lw_all := lw_g (lw_at lw_m8 198 rfl) rfl
theorem q2176 : (Jvm.Cond.privateMethod ({ cls := "SchemaWorkshop$Matcher", name := "isAround", desc := "(I)Z" } : Jvm.MethodName)) ∈ lw_tbl := lw_at lw_m8 199 rfl
theorem q2177 : (Jvm.Cond.instanceMethod ({ cls := "SchemaWorkshop$Matcher", name := "isAround", desc := "(I)Z" } : Jvm.MethodName)) ∈ lw_all := lw_g (lw_at lw_m8 200 rfl) rfl
theorem q2178 : (Jvm.Cond.code ({ cls := "SchemaWorkshop$Matcher", name := "isAround", desc := "(I)Z" } : Jvm.MethodName) prog_8_method_8_code (2 : Nat) (Option.some Jvm.ClassFile.FieldType.boolean)) ∈ lw_all := lw_g (lw_at lw_m8 201 rfl) rfl
theorem q2179 : (Jvm.Cond.methodLink "SchemaWorkshop$Matcher" (198 : Nat) ({ cls := "SchemaWorkshop$Matcher", name := "isMany", desc := "(I)Z" } : Jvm.MethodName)) ∈ lw_all := lw_g (lw_at lw_m8 202 rfl) rfl
theorem q2180 : (Jvm.Cond.privateMethod ({ cls := "SchemaWorkshop$Matcher", name := "isMany", desc := "(I)Z" } : Jvm.MethodName)) ∈ lw_tbl := lw_at lw_m8 203 rfl
theorem q2181 : (Jvm.Cond.instanceMethod ({ cls := "SchemaWorkshop$Matcher", name := "isMany", desc := "(I)Z" } : Jvm.MethodName)) ∈ lw_all := lw_g (lw_at lw_m8 204 rfl) rfl
theorem q2182 : (Jvm.Cond.code ({ cls := "SchemaWorkshop$Matcher", name := "isMany", desc := "(I)Z" } : Jvm.MethodName) prog_8_method_9_code (2 : Nat) (Option.some Jvm.ClassFile.FieldType.boolean)) ∈ lw_all := lw_g (lw_at lw_m8 205 rfl) rfl
theorem q2183 : (Jvm.Cond.methodLink "SchemaWorkshop$Matcher" (201 : Nat) ({ cls := "SchemaWorkshop$Matcher", name := "leaf", desc := "(II)V" } : Jvm.MethodName)) ∈ lw_all := lw_g (lw_at lw_m8 206 rfl) rfl
theorem q2184 : (Jvm.Cond.privateMethod ({ cls := "SchemaWorkshop$Matcher", name := "leaf", desc := "(II)V" } : Jvm.MethodName)) ∈ lw_tbl := lw_at lw_m8 207 rfl
theorem q2185 : (Jvm.Cond.instanceMethod ({ cls := "SchemaWorkshop$Matcher", name := "leaf", desc := "(II)V" } : Jvm.MethodName)) ∈ lw_all := lw_g (lw_at lw_m8 208 rfl) rfl
theorem q2186 : (Jvm.Cond.code ({ cls := "SchemaWorkshop$Matcher", name := "leaf", desc := "(II)V" } : Jvm.MethodName) prog_8_method_20_code (5 : Nat) (Option.none : Option Jvm.ClassFile.FieldType)) ∈ lw_all := lw_g (lw_at lw_m8 209 rfl) rfl
theorem q2187 : (Jvm.Cond.methodLink "SchemaWorkshop$Matcher" (205 : Nat) ({ cls := "SchemaWorkshop$Elements", name := "hasParts", desc := "(I)Z" } : Jvm.MethodName)) ∈ lw_all := lw_g (lw_at lw_m8 210 rfl) rfl
theorem q2191 : (Jvm.Cond.methodLink "SchemaWorkshop$Matcher" (234 : Nat) ({ cls := "SchemaWorkshop$Bytes", name := "size", desc := "()I" } : Jvm.MethodName)) ∈ lw_all := lw_g (lw_at lw_m8 214 rfl) rfl
theorem q2192 : (Jvm.Cond.methodLink "SchemaWorkshop$Matcher" (235 : Nat) ({ cls := "SchemaWorkshop$Matcher", name := "plain", desc := "(III)V" } : Jvm.MethodName)) ∈ lw_all := lw_g (lw_at lw_m8 215 rfl) rfl
theorem q2193 : (Jvm.Cond.privateMethod ({ cls := "SchemaWorkshop$Matcher", name := "plain", desc := "(III)V" } : Jvm.MethodName)) ∈ lw_tbl := lw_at lw_m8 216 rfl
theorem q2194 : (Jvm.Cond.instanceMethod ({ cls := "SchemaWorkshop$Matcher", name := "plain", desc := "(III)V" } : Jvm.MethodName)) ∈ lw_all := lw_g (lw_at lw_m8 217 rfl) rfl
theorem q2195 : (Jvm.Cond.code ({ cls := "SchemaWorkshop$Matcher", name := "plain", desc := "(III)V" } : Jvm.MethodName) prog_8_method_21_code (7 : Nat) (Option.none : Option Jvm.ClassFile.FieldType)) ∈ lw_all := lw_g (lw_at lw_m8 218 rfl) rfl
theorem q2196 : (Jvm.Cond.methodLink "SchemaWorkshop$Matcher" (245 : Nat) ({ cls := "SchemaWorkshop$Elements", name := "from", desc := "(I)I" } : Jvm.MethodName)) ∈ lw_all := lw_g (lw_at lw_m8 219 rfl) rfl
theorem q2200 : (Jvm.Cond.methodLink "SchemaWorkshop$Matcher" (247 : Nat) ({ cls := "SchemaWorkshop$Elements", name := "to", desc := "(I)I" } : Jvm.MethodName)) ∈ lw_all := lw_g (lw_at lw_m8 223 rfl) rfl
theorem q2204 : (Jvm.Cond.methodLink "SchemaWorkshop$Matcher" (250 : Nat) ({ cls := "SchemaWorkshop$Forms", name := "fault", desc := "(ILSchemaWorkshop$Bytes;II)I" } : Jvm.MethodName)) ∈ lw_all := lw_g (lw_at lw_m8 227 rfl) rfl
theorem q2213 : (Jvm.Cond.methodLink "SchemaWorkshop$Matcher" (253 : Nat) ({ cls := "SchemaWorkshop$Meaning", name := "isItem", desc := "(ILSchemaWorkshop$Bytes;II)Z" } : Jvm.MethodName)) ∈ lw_all := lw_g (lw_at lw_m8 236 rfl) rfl
theorem q2214 : (Jvm.Cond.methodLink "SchemaWorkshop$Matcher" (257 : Nat) ({ cls := "SchemaWorkshop$Meaning", name := "isInRange", desc := "(ILSchemaWorkshop$Bytes;II)Z" } : Jvm.MethodName)) ∈ lw_all := lw_g (lw_at lw_m8 237 rfl) rfl
theorem q2215 : (Jvm.Cond.methodLink "SchemaWorkshop$Matcher" (260 : Nat) ({ cls := "SchemaWorkshop$Bytes", name := "at", desc := "(I)I" } : Jvm.MethodName)) ∈ lw_all := lw_g (lw_at lw_m8 238 rfl) rfl
theorem q2216 : (Jvm.Cond.methodLink "SchemaWorkshop$Matcher" (262 : Nat) ({ cls := "SchemaWorkshop$Bytes", name := "add", desc := "(I)V" } : Jvm.MethodName)) ∈ lw_all := lw_g (lw_at lw_m8 239 rfl) rfl
theorem q2217 : (Jvm.Cond.methodLink "SchemaWorkshop$Matcher" (265 : Nat) ({ cls := "SchemaWorkshop$Bytes", name := "all", desc := "(LSchemaWorkshop$Bytes;II)V" } : Jvm.MethodName)) ∈ lw_all := lw_g (lw_at lw_m9 0 rfl) rfl
theorem q2218 : (Jvm.Cond.methodLink "SchemaWorkshop$Matcher" (239 : Nat) ({ cls := "SchemaWorkshop$Matcher", name := "bits", desc := "(II)V" } : Jvm.MethodName)) ∈ lw_all := lw_g (lw_at lw_m9 1 rfl) rfl
theorem q2219 : (Jvm.Cond.privateMethod ({ cls := "SchemaWorkshop$Matcher", name := "bits", desc := "(II)V" } : Jvm.MethodName)) ∈ lw_tbl := lw_at lw_m9 2 rfl
theorem q2220 : (Jvm.Cond.instanceMethod ({ cls := "SchemaWorkshop$Matcher", name := "bits", desc := "(II)V" } : Jvm.MethodName)) ∈ lw_all := lw_g (lw_at lw_m9 3 rfl) rfl
theorem q2221 : (Jvm.Cond.code ({ cls := "SchemaWorkshop$Matcher", name := "bits", desc := "(II)V" } : Jvm.MethodName) prog_8_method_22_code (6 : Nat) (Option.none : Option Jvm.ClassFile.FieldType)) ∈ lw_all := lw_g (lw_at lw_m9 4 rfl) rfl
theorem q2222 : (Jvm.Cond.methodLink "SchemaWorkshop$Matcher" (185 : Nat) ({ cls := "SchemaWorkshop$Elements", name := "behind", desc := "(I)I" } : Jvm.MethodName)) ∈ lw_all := lw_g (lw_at lw_m9 5 rfl) rfl
theorem q2226 : (Jvm.Cond.methodLink "SchemaWorkshop$Matcher" (269 : Nat) ({ cls := "SchemaWorkshop$Matcher", name := "addBits", desc := "(I)Z" } : Jvm.MethodName)) ∈ lw_all := lw_g (lw_at lw_m9 9 rfl) rfl
theorem q2227 : (Jvm.Cond.privateMethod ({ cls := "SchemaWorkshop$Matcher", name := "addBits", desc := "(I)Z" } : Jvm.MethodName)) ∈ lw_tbl := lw_at lw_m9 10 rfl
theorem q2228 : (Jvm.Cond.instanceMethod ({ cls := "SchemaWorkshop$Matcher", name := "addBits", desc := "(I)Z" } : Jvm.MethodName)) ∈ lw_all := lw_g (lw_at lw_m9 11 rfl) rfl
theorem q2229 : (Jvm.Cond.code ({ cls := "SchemaWorkshop$Matcher", name := "addBits", desc := "(I)Z" } : Jvm.MethodName) prog_8_method_23_code (4 : Nat) (Option.some Jvm.ClassFile.FieldType.boolean)) ∈ lw_all := lw_g (lw_at lw_m9 12 rfl) rfl
theorem q2230 : (Jvm.Cond.methodLink "SchemaWorkshop$Matcher" (280 : Nat) ({ cls := "SchemaWorkshop$Bytes", name := "set", desc := "(II)V" } : Jvm.MethodName)) ∈ lw_all := lw_g (lw_at lw_m9 13 rfl) rfl
theorem q2231 : (Jvm.Cond.methodLink "SchemaWorkshop$Matcher" (272 : Nat) ({ cls := "SchemaWorkshop$Meaning", name := "bitsOf", desc := "(IILSchemaWorkshop$Bytes;II)I" } : Jvm.MethodName)) ∈ lw_all := lw_g (lw_at lw_m9 14 rfl) rfl
theorem q2232 : (Jvm.Cond.methodLink "SchemaWorkshop$Matcher" (276 : Nat) ({ cls := "SchemaWorkshop$Forms", name := "write", desc := "(LSchemaWorkshop$Bytes;IIILSchemaWorkshop$Bytes;)V" } : Jvm.MethodName)) ∈ lw_all := lw_g (lw_at lw_m9 15 rfl) rfl
theorem q2233 : (Jvm.Cond.methodLink "SchemaWorkshop$Matcher" (242 : Nat) ({ cls := "SchemaWorkshop$Matcher", name := "string", desc := "(III)V" } : Jvm.MethodName)) ∈ lw_all := lw_g (lw_at lw_m9 16 rfl) rfl
theorem q2234 : (Jvm.Cond.privateMethod ({ cls := "SchemaWorkshop$Matcher", name := "string", desc := "(III)V" } : Jvm.MethodName)) ∈ lw_tbl := lw_at lw_m9 17 rfl
theorem q2235 : (Jvm.Cond.instanceMethod ({ cls := "SchemaWorkshop$Matcher", name := "string", desc := "(III)V" } : Jvm.MethodName)) ∈ lw_all := lw_g (lw_at lw_m9 18 rfl) rfl
theorem q2236 : (Jvm.Cond.code ({ cls := "SchemaWorkshop$Matcher", name := "string", desc := "(III)V" } : Jvm.MethodName) prog_8_method_24_code (8 : Nat) (Option.none : Option Jvm.ClassFile.FieldType)) ∈ lw_all := lw_g (lw_at lw_m9 19 rfl) rfl
theorem q2237 : (Jvm.Cond.methodLink "SchemaWorkshop$Matcher" (283 : Nat) ({ cls := "SchemaWorkshop$Times", name := "read", desc := "(LSchemaWorkshop$Bytes;IIZLSchemaWorkshop$Bytes;)I" } : Jvm.MethodName)) ∈ lw_all := lw_g (lw_at lw_m9 20 rfl) rfl
theorem q2238 : (Jvm.Cond.methodLink "SchemaWorkshop$Matcher" (287 : Nat) ({ cls := "SchemaWorkshop$Forms", name := "isString", desc := "(ILSchemaWorkshop$Bytes;II)Z" } : Jvm.MethodName)) ∈ lw_all := lw_g (lw_at lw_m9 21 rfl) rfl
theorem q2239 : (Jvm.Cond.methodLink "SchemaWorkshop$Matcher" (290 : Nat) ({ cls := "SchemaWorkshop$Forms", name := "characters", desc := "()I" } : Jvm.MethodName)) ∈ lw_all := lw_g (lw_at lw_m9 22 rfl) rfl
theorem q2243 : (Jvm.Cond.methodLink "SchemaWorkshop$Matcher" (231 : Nat) ({ cls := "SchemaWorkshop$Meaning", name := "isSize", desc := "(II)Z" } : Jvm.MethodName)) ∈ lw_all := lw_g (lw_at lw_m9 26 rfl) rfl
theorem q2244 : (Jvm.Cond.methodLink "SchemaWorkshop$Matcher" (208 : Nat) ({ cls := "SchemaWorkshop$Matcher", name := "enter", desc := "(IIZ)V" } : Jvm.MethodName)) ∈ lw_all := lw_g (lw_at lw_m9 27 rfl) rfl
theorem q2245 : (Jvm.Cond.privateMethod ({ cls := "SchemaWorkshop$Matcher", name := "enter", desc := "(IIZ)V" } : Jvm.MethodName)) ∈ lw_tbl := lw_at lw_m9 28 rfl
theorem q2246 : (Jvm.Cond.instanceMethod ({ cls := "SchemaWorkshop$Matcher", name := "enter", desc := "(IIZ)V" } : Jvm.MethodName)) ∈ lw_all := lw_g (lw_at lw_m9 29 rfl) rfl
theorem q2247 : (Jvm.Cond.code ({ cls := "SchemaWorkshop$Matcher", name := "enter", desc := "(IIZ)V" } : Jvm.MethodName) prog_8_method_12_code (8 : Nat) (Option.none : Option Jvm.ClassFile.FieldType)) ∈ lw_all := lw_g (lw_at lw_m9 30 rfl) rfl
theorem q2248 : (Jvm.Cond.methodLink "SchemaWorkshop$Matcher" (188 : Nat) ({ cls := "SchemaWorkshop$Matcher", name := "close", desc := "()V" } : Jvm.MethodName)) ∈ lw_all := lw_g (lw_at lw_m9 31 rfl) rfl
theorem q2249 : (Jvm.Cond.privateMethod ({ cls := "SchemaWorkshop$Matcher", name := "close", desc := "()V" } : Jvm.MethodName)) ∈ lw_tbl := lw_at lw_m9 32 rfl
theorem q2250 : (Jvm.Cond.instanceMethod ({ cls := "SchemaWorkshop$Matcher", name := "close", desc := "()V" } : Jvm.MethodName)) ∈ lw_all := lw_g (lw_at lw_m9 33 rfl) rfl
theorem q2251 : (Jvm.Cond.code ({ cls := "SchemaWorkshop$Matcher", name := "close", desc := "()V" } : Jvm.MethodName) prog_8_method_18_code (5 : Nat) (Option.none : Option Jvm.ClassFile.FieldType)) ∈ lw_all := lw_g (lw_at lw_m9 34 rfl) rfl
theorem q2252 : (Jvm.Cond.methodLink "SchemaWorkshop$Matcher" (224 : Nat) ({ cls := "SchemaWorkshop$Tree", name := "at", desc := "(II)I" } : Jvm.MethodName)) ∈ lw_all := lw_g (lw_at lw_m9 35 rfl) rfl
theorem q2253 : (Jvm.Cond.methodLink "SchemaWorkshop$Matcher" (227 : Nat) ({ cls := "SchemaWorkshop$Matcher", name := "missing", desc := "(I)V" } : Jvm.MethodName)) ∈ lw_all := lw_g (lw_at lw_m9 36 rfl) rfl
theorem q2254 : (Jvm.Cond.privateMethod ({ cls := "SchemaWorkshop$Matcher", name := "missing", desc := "(I)V" } : Jvm.MethodName)) ∈ lw_tbl := lw_at lw_m9 37 rfl
theorem q2255 : (Jvm.Cond.instanceMethod ({ cls := "SchemaWorkshop$Matcher", name := "missing", desc := "(I)V" } : Jvm.MethodName)) ∈ lw_all := lw_g (lw_at lw_m9 38 rfl) rfl
theorem q2256 : (Jvm.Cond.code ({ cls := "SchemaWorkshop$Matcher", name := "missing", desc := "(I)V" } : Jvm.MethodName) prog_8_method_19_code (4 : Nat) (Option.none : Option Jvm.ClassFile.FieldType)) ∈ lw_all := lw_g (lw_at lw_m9 39 rfl) rfl
theorem q2257 : (Jvm.Cond.methodLink "SchemaWorkshop$Matcher" (191 : Nat) ({ cls := "SchemaWorkshop$Matcher", name := "child", desc := "(II)I" } : Jvm.MethodName)) ∈ lw_all := lw_g (lw_at lw_m9 40 rfl) rfl
theorem q2258 : (Jvm.Cond.privateMethod ({ cls := "SchemaWorkshop$Matcher", name := "child", desc := "(II)I" } : Jvm.MethodName)) ∈ lw_tbl := lw_at lw_m9 41 rfl
theorem q2259 : (Jvm.Cond.instanceMethod ({ cls := "SchemaWorkshop$Matcher", name := "child", desc := "(II)I" } : Jvm.MethodName)) ∈ lw_all := lw_g (lw_at lw_m9 42 rfl) rfl
theorem q2260 : (Jvm.Cond.code ({ cls := "SchemaWorkshop$Matcher", name := "child", desc := "(II)I" } : Jvm.MethodName) prog_8_method_13_code (6 : Nat) (Option.some Jvm.ClassFile.FieldType.int)) ∈ lw_all := lw_g (lw_at lw_m9 43 rfl) rfl
theorem q2261 : (Jvm.Cond.methodLink "SchemaWorkshop$Matcher" (212 : Nat) ({ cls := "SchemaWorkshop$Matcher", name := "inner", desc := "(II)I" } : Jvm.MethodName)) ∈ lw_all := lw_g (lw_at lw_m9 44 rfl) rfl
theorem q2262 : (Jvm.Cond.privateMethod ({ cls := "SchemaWorkshop$Matcher", name := "inner", desc := "(II)I" } : Jvm.MethodName)) ∈ lw_tbl := lw_at lw_m9 45 rfl
theorem q2263 : (Jvm.Cond.instanceMethod ({ cls := "SchemaWorkshop$Matcher", name := "inner", desc := "(II)I" } : Jvm.MethodName)) ∈ lw_all := lw_g (lw_at lw_m9 46 rfl) rfl
theorem q2264 : (Jvm.Cond.code ({ cls := "SchemaWorkshop$Matcher", name := "inner", desc := "(II)I" } : Jvm.MethodName) prog_8_method_15_code (8 : Nat) (Option.some Jvm.ClassFile.FieldType.int)) ∈ lw_all := lw_g (lw_at lw_m9 47 rfl) rfl
theorem q2265 : (Jvm.Cond.methodLink "SchemaWorkshop$Matcher" (221 : Nat) ({ cls := "SchemaWorkshop$Matcher", name := "unexpected", desc := "(I)I" } : Jvm.MethodName)) ∈ lw_all := lw_g (lw_at lw_m9 48 rfl) rfl
theorem q2266 : (Jvm.Cond.privateMethod ({ cls := "SchemaWorkshop$Matcher", name := "unexpected", desc := "(I)I" } : Jvm.MethodName)) ∈ lw_tbl := lw_at lw_m9 49 rfl
theorem q2267 : (Jvm.Cond.instanceMethod ({ cls := "SchemaWorkshop$Matcher", name := "unexpected", desc := "(I)I" } : Jvm.MethodName)) ∈ lw_all := lw_g (lw_at lw_m9 50 rfl) rfl
theorem q2268 : (Jvm.Cond.code ({ cls := "SchemaWorkshop$Matcher", name := "unexpected", desc := "(I)I" } : Jvm.MethodName) prog_8_method_14_code (2 : Nat) (Option.some Jvm.ClassFile.FieldType.int)) ∈ lw_all := lw_g (lw_at lw_m9 51 rfl) rfl
theorem q2269 : (Jvm.Cond.methodLink "SchemaWorkshop$Matcher" (215 : Nat) ({ cls := "SchemaWorkshop$Matcher", name := "inOrder", desc := "(II)I" } : Jvm.MethodName)) ∈ lw_all := lw_g (lw_at lw_m9 52 rfl) rfl
theorem q2270 : (Jvm.Cond.privateMethod ({ cls := "SchemaWorkshop$Matcher", name := "inOrder", desc := "(II)I" } : Jvm.MethodName)) ∈ lw_tbl := lw_at lw_m9 53 rfl
theorem q2271 : (Jvm.Cond.instanceMethod ({ cls := "SchemaWorkshop$Matcher", name := "inOrder", desc := "(II)I" } : Jvm.MethodName)) ∈ lw_all := lw_g (lw_at lw_m9 54 rfl) rfl
theorem q2272 : (Jvm.Cond.code ({ cls := "SchemaWorkshop$Matcher", name := "inOrder", desc := "(II)I" } : Jvm.MethodName) prog_8_method_16_code (5 : Nat) (Option.some Jvm.ClassFile.FieldType.int)) ∈ lw_all := lw_g (lw_at lw_m9 55 rfl) rfl
theorem q2273 : (Jvm.Cond.methodLink "SchemaWorkshop$Matcher" (218 : Nat) ({ cls := "SchemaWorkshop$Matcher", name := "anywhere", desc := "(II)I" } : Jvm.MethodName)) ∈ lw_all := lw_g (lw_at lw_m9 56 rfl) rfl
theorem q2274 : (Jvm.Cond.privateMethod ({ cls := "SchemaWorkshop$Matcher", name := "anywhere", desc := "(II)I" } : Jvm.MethodName)) ∈ lw_tbl := lw_at lw_m9 57 rfl
theorem q2275 : (Jvm.Cond.instanceMethod ({ cls := "SchemaWorkshop$Matcher", name := "anywhere", desc := "(II)I" } : Jvm.MethodName)) ∈ lw_all := lw_g (lw_at lw_m9 58 rfl) rfl
theorem q2276 : (Jvm.Cond.code ({ cls := "SchemaWorkshop$Matcher", name := "anywhere", desc := "(II)I" } : Jvm.MethodName) prog_8_method_17_code (7 : Nat) (Option.some Jvm.ClassFile.FieldType.int)) ∈ lw_all := lw_g (lw_at lw_m9 59 rfl) rfl
theorem q2278 : (Jvm.Cond.instanceMethod ({ cls := "SchemaWorkshop$Matcher", name := "fault", desc := "()I" } : Jvm.MethodName)) ∈ lw_all := lw_g (lw_at lw_m9 61 rfl) rfl
theorem q2279 : (Jvm.Cond.selects "SchemaWorkshop$Matcher" ({ cls := "SchemaWorkshop$Matcher", name := "fault", desc := "()I" } : Jvm.MethodName) ({ cls := "SchemaWorkshop$Matcher", name := "fault", desc := "()I" } : Jvm.MethodName)) ∈ lw_all := lw_g (lw_at lw_m9 62 rfl) rfl
theorem q2280 : (Jvm.Cond.code ({ cls := "SchemaWorkshop$Matcher", name := "fault", desc := "()I" } : Jvm.MethodName) prog_8_method_2_code (1 : Nat) (Option.some Jvm.ClassFile.FieldType.int)) ∈ lw_all := lw_g (lw_at lw_m9 63 rfl) rfl
theorem q2282 : (Jvm.Cond.instanceMethod ({ cls := "SchemaWorkshop$Matcher", name := "place", desc := "()I" } : Jvm.MethodName)) ∈ lw_all := lw_g (lw_at lw_m9 65 rfl) rfl
theorem q2283 : (Jvm.Cond.selects "SchemaWorkshop$Matcher" ({ cls := "SchemaWorkshop$Matcher", name := "place", desc := "()I" } : Jvm.MethodName) ({ cls := "SchemaWorkshop$Matcher", name := "place", desc := "()I" } : Jvm.MethodName)) ∈ lw_all := lw_g (lw_at lw_m9 66 rfl) rfl
theorem q2284 : (Jvm.Cond.code ({ cls := "SchemaWorkshop$Matcher", name := "place", desc := "()I" } : Jvm.MethodName) prog_8_method_3_code (1 : Nat) (Option.some Jvm.ClassFile.FieldType.int)) ∈ lw_all := lw_g (lw_at lw_m9 67 rfl) rfl
theorem q2286 : (Jvm.Cond.instanceMethod ({ cls := "SchemaWorkshop$Matcher", name := "write", desc := "()LSchemaWorkshop$Bytes;" } : Jvm.MethodName)) ∈ lw_all := lw_g (lw_at lw_m9 69 rfl) rfl
theorem q2287 : (Jvm.Cond.selects "SchemaWorkshop$Matcher" ({ cls := "SchemaWorkshop$Matcher", name := "write", desc := "()LSchemaWorkshop$Bytes;" } : Jvm.MethodName) ({ cls := "SchemaWorkshop$Matcher", name := "write", desc := "()LSchemaWorkshop$Bytes;" } : Jvm.MethodName)) ∈ lw_all := lw_g (lw_at lw_m9 70 rfl) rfl
theorem q2288 : (Jvm.Cond.code ({ cls := "SchemaWorkshop$Matcher", name := "write", desc := "()LSchemaWorkshop$Bytes;" } : Jvm.MethodName) prog_8_method_32_code (3 : Nat) (Option.some (Jvm.ClassFile.FieldType.object "SchemaWorkshop$Bytes"))) ∈ lw_all := lw_g (lw_at lw_m9 71 rfl) rfl
theorem q2289 : (Jvm.Cond.methodLink "SchemaWorkshop$Matcher" (322 : Nat) ({ cls := "SchemaWorkshop$Matcher", name := "measure", desc := "()V" } : Jvm.MethodName)) ∈ lw_all := lw_g (lw_at lw_m9 72 rfl) rfl
theorem q2290 : (Jvm.Cond.privateMethod ({ cls := "SchemaWorkshop$Matcher", name := "measure", desc := "()V" } : Jvm.MethodName)) ∈ lw_tbl := lw_at lw_m9 73 rfl
theorem q2291 : (Jvm.Cond.instanceMethod ({ cls := "SchemaWorkshop$Matcher", name := "measure", desc := "()V" } : Jvm.MethodName)) ∈ lw_all := lw_g (lw_at lw_m9 74 rfl) rfl
theorem q2292 : (Jvm.Cond.code ({ cls := "SchemaWorkshop$Matcher", name := "measure", desc := "()V" } : Jvm.MethodName) prog_8_method_29_code (2 : Nat) (Option.none : Option Jvm.ClassFile.FieldType)) ∈ lw_all := lw_g (lw_at lw_m9 75 rfl) rfl
theorem q2293 : (Jvm.Cond.methodLink "SchemaWorkshop$Matcher" (316 : Nat) ({ cls := "SchemaWorkshop$Matcher", name := "isDefault", desc := "(I)Z" } : Jvm.MethodName)) ∈ lw_all := lw_g (lw_at lw_m9 76 rfl) rfl
theorem q2294 : (Jvm.Cond.privateMethod ({ cls := "SchemaWorkshop$Matcher", name := "isDefault", desc := "(I)Z" } : Jvm.MethodName)) ∈ lw_tbl := lw_at lw_m9 77 rfl
theorem q2295 : (Jvm.Cond.instanceMethod ({ cls := "SchemaWorkshop$Matcher", name := "isDefault", desc := "(I)Z" } : Jvm.MethodName)) ∈ lw_all := lw_g (lw_at lw_m9 78 rfl) rfl
theorem q2296 : (Jvm.Cond.code ({ cls := "SchemaWorkshop$Matcher", name := "isDefault", desc := "(I)Z" } : Jvm.MethodName) prog_8_method_28_code (6 : Nat) (Option.some Jvm.ClassFile.FieldType.boolean)) ∈ lw_all := lw_g (lw_at lw_m9 79 rfl) rfl
theorem q2297 : (Jvm.Cond.methodLink "SchemaWorkshop$Matcher" (303 : Nat) ({ cls := "SchemaWorkshop$Meaning", name := "valueFrom", desc := "(I)I" } : Jvm.MethodName)) ∈ lw_all := lw_g (lw_at lw_m9 80 rfl) rfl
theorem q2298 : (Jvm.Cond.methodLink "SchemaWorkshop$Matcher" (306 : Nat) ({ cls := "SchemaWorkshop$Meaning", name := "valueTo", desc := "(I)I" } : Jvm.MethodName)) ∈ lw_all := lw_g (lw_at lw_m9 81 rfl) rfl
theorem q2299 : (Jvm.Cond.methodLink "SchemaWorkshop$Matcher" (309 : Nat) ({ cls := "SchemaWorkshop$Meaning", name := "pool", desc := "()LSchemaWorkshop$Bytes;" } : Jvm.MethodName)) ∈ lw_all := lw_g (lw_at lw_m9 82 rfl) rfl
theorem q2303 : (Jvm.Cond.methodLink "SchemaWorkshop$Matcher" (313 : Nat) ({ cls := "SchemaWorkshop$Bytes", name := "compare", desc := "(IILSchemaWorkshop$Bytes;II)I" } : Jvm.MethodName)) ∈ lw_all := lw_g (lw_at lw_m9 86 rfl) rfl
theorem q2304 : (Jvm.Cond.methodLink "SchemaWorkshop$Matcher" (319 : Nat) ({ cls := "SchemaWorkshop$Matcher", name := "total", desc := "(I)I" } : Jvm.MethodName)) ∈ lw_all := lw_g (lw_at lw_m9 87 rfl) rfl
theorem q2305 : (Jvm.Cond.privateMethod ({ cls := "SchemaWorkshop$Matcher", name := "total", desc := "(I)I" } : Jvm.MethodName)) ∈ lw_tbl := lw_at lw_m9 88 rfl
theorem q2306 : (Jvm.Cond.instanceMethod ({ cls := "SchemaWorkshop$Matcher", name := "total", desc := "(I)I" } : Jvm.MethodName)) ∈ lw_all := lw_g (lw_at lw_m9 89 rfl) rfl
theorem q2307 : (Jvm.Cond.code ({ cls := "SchemaWorkshop$Matcher", name := "total", desc := "(I)I" } : Jvm.MethodName) prog_8_method_27_code (2 : Nat) (Option.some Jvm.ClassFile.FieldType.int)) ∈ lw_all := lw_g (lw_at lw_m9 90 rfl) rfl
theorem q2308 : (Jvm.Cond.methodLink "SchemaWorkshop$Matcher" (297 : Nat) ({ cls := "SchemaWorkshop$Matcher", name := "tagBytes", desc := "(I)I" } : Jvm.MethodName)) ∈ lw_all := lw_g (lw_at lw_m9 91 rfl) rfl
theorem q2309 : (Jvm.Cond.static ({ cls := "SchemaWorkshop$Matcher", name := "tagBytes", desc := "(I)I" } : Jvm.MethodName)) ∈ lw_all := lw_g (lw_at lw_m9 92 rfl) rfl
theorem q2310 : (Jvm.Cond.code ({ cls := "SchemaWorkshop$Matcher", name := "tagBytes", desc := "(I)I" } : Jvm.MethodName) prog_8_method_25_code (2 : Nat) (Option.some Jvm.ClassFile.FieldType.int)) ∈ lw_all := lw_g (lw_at lw_m9 93 rfl) rfl
theorem q2311 : (Jvm.Cond.constant "SchemaWorkshop$Matcher" (293 : Nat) (268435455 : Int32)) ∈ lw_all := lw_g (lw_at lw_m9 94 rfl) rfl
theorem q2312 : (Jvm.Cond.constant "SchemaWorkshop$Matcher" (294 : Nat) (2097152 : Int32)) ∈ lw_all := lw_g (lw_at lw_m9 95 rfl) rfl
theorem q2313 : (Jvm.Cond.methodLink "SchemaWorkshop$Matcher" (300 : Nat) ({ cls := "SchemaWorkshop$Matcher", name := "lengthBytes", desc := "(I)I" } : Jvm.MethodName)) ∈ lw_all := lw_g (lw_at lw_m9 96 rfl) rfl
theorem q2314 : (Jvm.Cond.static ({ cls := "SchemaWorkshop$Matcher", name := "lengthBytes", desc := "(I)I" } : Jvm.MethodName)) ∈ lw_all := lw_g (lw_at lw_m9 97 rfl) rfl
theorem q2315 : (Jvm.Cond.code ({ cls := "SchemaWorkshop$Matcher", name := "lengthBytes", desc := "(I)I" } : Jvm.MethodName) prog_8_method_26_code (1 : Nat) (Option.some Jvm.ClassFile.FieldType.int)) ∈ lw_all := lw_g (lw_at lw_m9 98 rfl) rfl
theorem q2316 : (Jvm.Cond.constant "SchemaWorkshop$Matcher" (295 : Nat) (65536 : Int32)) ∈ lw_all := lw_g (lw_at lw_m9 99 rfl) rfl
theorem q2317 : (Jvm.Cond.constant "SchemaWorkshop$Matcher" (296 : Nat) (16777216 : Int32)) ∈ lw_all := lw_g (lw_at lw_m9 100 rfl) rfl
theorem q2318 : (Jvm.Cond.methodLink "SchemaWorkshop$Matcher" (328 : Nat) ({ cls := "SchemaWorkshop$Matcher", name := "put", desc := "(I)V" } : Jvm.MethodName)) ∈ lw_all := lw_g (lw_at lw_m9 101 rfl) rfl
theorem q2319 : (Jvm.Cond.privateMethod ({ cls := "SchemaWorkshop$Matcher", name := "put", desc := "(I)V" } : Jvm.MethodName)) ∈ lw_tbl := lw_at lw_m9 102 rfl
theorem q2320 : (Jvm.Cond.instanceMethod ({ cls := "SchemaWorkshop$Matcher", name := "put", desc := "(I)V" } : Jvm.MethodName)) ∈ lw_all := lw_g (lw_at lw_m9 103 rfl) rfl
theorem q2321 : (Jvm.Cond.code ({ cls := "SchemaWorkshop$Matcher", name := "put", desc := "(I)V" } : Jvm.MethodName) prog_8_method_33_code (4 : Nat) (Option.none : Option Jvm.ClassFile.FieldType)) ∈ lw_all := lw_g (lw_at lw_m9 104 rfl) rfl
theorem q2322 : (Jvm.Cond.methodLink "SchemaWorkshop$Matcher" (334 : Nat) ({ cls := "SchemaWorkshop$Matcher", name := "writeTag", desc := "(IZ)V" } : Jvm.MethodName)) ∈ lw_all := lw_g (lw_at lw_m9 105 rfl) rfl
theorem q2323 : (Jvm.Cond.privateMethod ({ cls := "SchemaWorkshop$Matcher", name := "writeTag", desc := "(IZ)V" } : Jvm.MethodName)) ∈ lw_tbl := lw_at lw_m9 106 rfl
theorem q2324 : (Jvm.Cond.instanceMethod ({ cls := "SchemaWorkshop$Matcher", name := "writeTag", desc := "(IZ)V" } : Jvm.MethodName)) ∈ lw_all := lw_g (lw_at lw_m9 107 rfl) rfl
theorem q2325 : (Jvm.Cond.code ({ cls := "SchemaWorkshop$Matcher", name := "writeTag", desc := "(IZ)V" } : Jvm.MethodName) prog_8_method_30_code (7 : Nat) (Option.none : Option Jvm.ClassFile.FieldType)) ∈ lw_all := lw_g (lw_at lw_m9 108 rfl) rfl
theorem q2326 : (Jvm.Cond.methodLink "SchemaWorkshop$Matcher" (338 : Nat) ({ cls := "SchemaWorkshop$Matcher", name := "writeLength", desc := "(I)V" } : Jvm.MethodName)) ∈ lw_all := lw_g (lw_at lw_m9 109 rfl) rfl
theorem q2327 : (Jvm.Cond.privateMethod ({ cls := "SchemaWorkshop$Matcher", name := "writeLength", desc := "(I)V" } : Jvm.MethodName)) ∈ lw_tbl := lw_at lw_m9 110 rfl
theorem q2328 : (Jvm.Cond.instanceMethod ({ cls := "SchemaWorkshop$Matcher", name := "writeLength", desc := "(I)V" } : Jvm.MethodName)) ∈ lw_all := lw_g (lw_at lw_m9 111 rfl) rfl
theorem q2329 : (Jvm.Cond.code ({ cls := "SchemaWorkshop$Matcher", name := "writeLength", desc := "(I)V" } : Jvm.MethodName) prog_8_method_31_code (4 : Nat) (Option.none : Option Jvm.ClassFile.FieldType)) ∈ lw_all := lw_g (lw_at lw_m9 112 rfl) rfl
theorem q2330 : (Jvm.Cond.methodLink "SchemaWorkshop$Matcher" (341 : Nat) ({ cls := "SchemaWorkshop$Matcher", name := "sort", desc := "(IIZ)V" } : Jvm.MethodName)) ∈ lw_all := lw_g (lw_at lw_m9 113 rfl) rfl
theorem q2331 : (Jvm.Cond.privateMethod ({ cls := "SchemaWorkshop$Matcher", name := "sort", desc := "(IIZ)V" } : Jvm.MethodName)) ∈ lw_tbl := lw_at lw_m9 114 rfl
theorem q2332 : (Jvm.Cond.instanceMethod ({ cls := "SchemaWorkshop$Matcher", name := "sort", desc := "(IIZ)V" } : Jvm.MethodName)) ∈ lw_all := lw_g (lw_at lw_m9 115 rfl) rfl
theorem q2333 : (Jvm.Cond.code ({ cls := "SchemaWorkshop$Matcher", name := "sort", desc := "(IIZ)V" } : Jvm.MethodName) prog_8_method_36_code (7 : Nat) (Option.none : Option Jvm.ClassFile.FieldType)) ∈ lw_all := lw_g (lw_at lw_m9 116 rfl) rfl
theorem q2334 : (Jvm.Cond.methodLink "SchemaWorkshop$Matcher" (347 : Nat) ({ cls := "java/lang/Math", name := "min", desc := "(II)I" } : Jvm.MethodName)) ∈ lw_all := lw_g (lw_at lw_m9 117 rfl) rfl
theorem q2335 : (Jvm.Cond.methodLink "SchemaWorkshop$Matcher" (350 : Nat) ({ cls := "SchemaWorkshop$Matcher", name := "merge", desc := "(IIIZ)V" } : Jvm.MethodName)) ∈ lw_all := lw_g (lw_at lw_m9 118 rfl) rfl
theorem q2336 : (Jvm.Cond.privateMethod ({ cls := "SchemaWorkshop$Matcher", name := "merge", desc := "(IIIZ)V" } : Jvm.MethodName)) ∈ lw_tbl := lw_at lw_m9 119 rfl
theorem q2337 : (Jvm.Cond.instanceMethod ({ cls := "SchemaWorkshop$Matcher", name := "merge", desc := "(IIIZ)V" } : Jvm.MethodName)) ∈ lw_all := lw_g (lw_at lw_m9 120 rfl) rfl
theorem q2338 : (Jvm.Cond.code ({ cls := "SchemaWorkshop$Matcher", name := "merge", desc := "(IIIZ)V" } : Jvm.MethodName) prog_8_method_37_code (9 : Nat) (Option.none : Option Jvm.ClassFile.FieldType)) ∈ lw_all := lw_g (lw_at lw_m9 121 rfl) rfl
theorem q2339 : (Jvm.Cond.methodLink "SchemaWorkshop$Matcher" (354 : Nat) ({ cls := "SchemaWorkshop$Matcher", name := "isBefore", desc := "(IIZ)Z" } : Jvm.MethodName)) ∈ lw_all := lw_g (lw_at lw_m9 122 rfl) rfl
theorem q2340 : (Jvm.Cond.privateMethod ({ cls := "SchemaWorkshop$Matcher", name := "isBefore", desc := "(IIZ)Z" } : Jvm.MethodName)) ∈ lw_tbl := lw_at lw_m9 123 rfl
theorem q2341 : (Jvm.Cond.instanceMethod ({ cls := "SchemaWorkshop$Matcher", name := "isBefore", desc := "(IIZ)Z" } : Jvm.MethodName)) ∈ lw_all := lw_g (lw_at lw_m9 124 rfl) rfl
theorem q2342 : (Jvm.Cond.code ({ cls := "SchemaWorkshop$Matcher", name := "isBefore", desc := "(IIZ)Z" } : Jvm.MethodName) prog_8_method_35_code (4 : Nat) (Option.some Jvm.ClassFile.FieldType.boolean)) ∈ lw_all := lw_g (lw_at lw_m9 125 rfl) rfl
theorem q2343 : (Jvm.Cond.methodLink "SchemaWorkshop$Matcher" (331 : Nat) ({ cls := "SchemaWorkshop$Matcher", name := "finish", desc := "(I)V" } : Jvm.MethodName)) ∈ lw_all := lw_g (lw_at lw_m9 126 rfl) rfl
theorem q2344 : (Jvm.Cond.privateMethod ({ cls := "SchemaWorkshop$Matcher", name := "finish", desc := "(I)V" } : Jvm.MethodName)) ∈ lw_tbl := lw_at lw_m9 127 rfl
theorem q2345 : (Jvm.Cond.instanceMethod ({ cls := "SchemaWorkshop$Matcher", name := "finish", desc := "(I)V" } : Jvm.MethodName)) ∈ lw_all := lw_g (lw_at lw_m9 128 rfl) rfl
theorem q2346 : (Jvm.Cond.code ({ cls := "SchemaWorkshop$Matcher", name := "finish", desc := "(I)V" } : Jvm.MethodName) prog_8_method_34_code (7 : Nat) (Option.none : Option Jvm.ClassFile.FieldType)) ∈ lw_all := lw_g (lw_at lw_m9 129 rfl) rfl
theorem q2347 : (Jvm.Cond.methodLink "SchemaWorkshop$Matcher" (344 : Nat) ({ cls := "SchemaWorkshop$Bytes", name := "cut", desc := "(I)V" } : Jvm.MethodName)) ∈ lw_all := lw_g (lw_at lw_m9 130 rfl) rfl
theorem in_X13 : ∀ w ∈ wsX130, w ∈ lw_all := lw_in wsX130 [800, 802, 804, 806, 808, 810, 812, 814, 816, 818, 820, 822, 824, 826, 828, 830, 832, 834, 836, 838, 840, 842, 844, 846, 848, 850, 852, 854, 856, 858] (by decide +kernel) (by decide +kernel)

/-! SchemaWorkshop -/
set_option maxRecDepth 100000
def RX1 : String := "SchemaWorkshop"
def TX1 : u_T := fun k => match k with
  | 0 => ("SchemaWorkshop", "tape", "LSchemaWorkshop$Bytes;", true)
  | 1 => ("SchemaWorkshop", "text", "LSchemaWorkshop$Bytes;", true)
  | 2 => ("SchemaWorkshop", "lexemes", "LSchemaWorkshop$Lexemes;", true)
  | 3 => ("SchemaWorkshop", "tree", "LSchemaWorkshop$Tree;", true)
  | 4 => ("SchemaWorkshop", "grammar", "LSchemaWorkshop$Grammar;", true)
  | 5 => ("SchemaWorkshop", "meaning", "LSchemaWorkshop$Meaning;", true)
  | 6 => ("SchemaWorkshop", "elements", "LSchemaWorkshop$Elements;", true)
  | 7 => ("SchemaWorkshop", "matcher", "LSchemaWorkshop$Matcher;", true)
  | 8 => ("SchemaWorkshop", "result", "LSchemaWorkshop$Bytes;", true)
  | 9 => ("SchemaWorkshop", "assigned", "[I", false)
  | 10 => ("SchemaWorkshop", "types", "I", false)
  | 11 => ("SchemaWorkshop", "constants", "I", false)
  | 12 => ("SchemaWorkshop", "cut", "I", false)
  | 13 => ("SchemaWorkshop", "read", "I", false)
  | 14 => ("SchemaWorkshop", "fault", "I", false)
  | 15 => ("SchemaWorkshop", "place", "I", false)
  | _ => ("SchemaWorkshop", "limit", "I", false)
def tyX1 : Nat → FieldType := fun k => match k with
  | 0 => .object "SchemaWorkshop$Bytes"
  | 1 => .object "SchemaWorkshop$Bytes"
  | 2 => .object "SchemaWorkshop$Lexemes"
  | 3 => .object "SchemaWorkshop$Tree"
  | 4 => .object "SchemaWorkshop$Grammar"
  | 5 => .object "SchemaWorkshop$Meaning"
  | 6 => .object "SchemaWorkshop$Elements"
  | 7 => .object "SchemaWorkshop$Matcher"
  | 8 => .object "SchemaWorkshop$Bytes"
  | 9 => .array .int
  | 10 => .int
  | 11 => .int
  | 12 => .int
  | 13 => .int
  | 14 => .int
  | 15 => .int
  | _ => .int
abbrev wsX10 : List Cond := u_ws RX1 TX1 17
set_option maxRecDepth 100000 in
theorem nmX1 : ∀ a, a < 17 → ∀ b, b < 17 → a ≠ b → (TX1 a).2.1 ≠ (TX1 b).2.1 := by decide +kernel
set_option maxRecDepth 100000 in
theorem tyX1_ok : ∀ k, k < 17 → parseFieldDescriptor (TX1 k).2.2.1 = some (tyX1 k) := by decide +kernel
abbrev cX1_init : ByteArray := prog_1_method_1_code
def yX1_init : MethodName := ⟨RX1, "<init>", "()V"⟩
def dkwX1_init_5 : List UInt8 := [181, 0, 65, 42, 16, 16, 188, 10, 181, 0, 68, 42, 16, 64, 181, 0, 72, 177]
abbrev dktX1_init_5 : List UInt8 := dkwX1_init_5 ++ []
def dkwX1_init_4 : List UInt8 := [89, 42, 180, 0, 29, 42, 180, 0, 45, 183, 0, 58, 181, 0, 61, 42, 187, 0, 7, 89, 183, 0, 9]
abbrev dktX1_init_4 : List UInt8 := dkwX1_init_4 ++ dktX1_init_5
def dkwX1_init_3 : List UInt8 := [180, 0, 29, 183, 0, 44, 181, 0, 45, 42, 187, 0, 49, 89, 183, 0, 51, 181, 0, 52, 42, 187, 0, 56]
abbrev dktX1_init_3 : List UInt8 := dkwX1_init_3 ++ dktX1_init_4
def dkwX1_init_2 : List UInt8 := [181, 0, 29, 42, 187, 0, 33, 89, 42, 180, 0, 29, 183, 0, 35, 181, 0, 38, 42, 187, 0, 42, 89, 42]
abbrev dktX1_init_2 : List UInt8 := dkwX1_init_2 ++ dktX1_init_3
def dkwX1_init_1 : List UInt8 := [181, 0, 16, 42, 187, 0, 19, 89, 183, 0, 21, 181, 0, 22, 42, 187, 0, 26, 89, 183, 0, 28]
abbrev dktX1_init_1 : List UInt8 := dkwX1_init_1 ++ dktX1_init_2
def dkwX1_init_0 : List UInt8 := [42, 183, 0, 1, 42, 187, 0, 7, 89, 183, 0, 9, 181, 0, 10, 42, 187, 0, 7, 89, 183, 0, 9]
abbrev dktX1_init_0 : List UInt8 := dkwX1_init_0 ++ dktX1_init_1
theorem dksX1_init_0 : cX1_init.data.toList.drop 0 = dktX1_init_0 := by decide +kernel
theorem dksX1_init_1 : cX1_init.data.toList.drop 23 = dktX1_init_1 := dk_seg dksX1_init_0 23 rfl rfl
theorem dksX1_init_2 : cX1_init.data.toList.drop 45 = dktX1_init_2 := dk_seg dksX1_init_1 22 rfl rfl
theorem dksX1_init_3 : cX1_init.data.toList.drop 69 = dktX1_init_3 := dk_seg dksX1_init_2 24 rfl rfl
theorem dksX1_init_4 : cX1_init.data.toList.drop 93 = dktX1_init_4 := dk_seg dksX1_init_3 24 rfl rfl
theorem dksX1_init_5 : cX1_init.data.toList.drop 116 = dktX1_init_5 := dk_seg dksX1_init_4 23 rfl rfl
theorem dX1_init_0 : decode cX1_init 0 = .ok (.aload_n 0, 1) := dk_42 (dk_at dksX1_init_0 0 rfl rfl)
theorem dX1_init_1 : decode cX1_init 1 = .ok (.invokespecial 1, 3) := dk_183 0 1 (dk_at dksX1_init_0 1 rfl rfl)
theorem dX1_init_4 : decode cX1_init 4 = .ok (.aload_n 0, 1) := dk_42 (dk_at dksX1_init_0 4 rfl rfl)
theorem dX1_init_5 : decode cX1_init 5 = .ok (.new 7, 3) := dk_187 0 7 (dk_at dksX1_init_0 5 rfl rfl)
theorem dX1_init_8 : decode cX1_init 8 = .ok (.dup, 1) := dk_89 (dk_at dksX1_init_0 8 rfl rfl)
theorem dX1_init_9 : decode cX1_init 9 = .ok (.invokespecial 9, 3) := dk_183 0 9 (dk_at dksX1_init_0 9 rfl rfl)
theorem dX1_init_12 : decode cX1_init 12 = .ok (.putfield 10, 3) := dk_181 0 10 (dk_at dksX1_init_0 12 rfl rfl)
theorem dX1_init_15 : decode cX1_init 15 = .ok (.aload_n 0, 1) := dk_42 (dk_at dksX1_init_0 15 rfl rfl)
theorem dX1_init_16 : decode cX1_init 16 = .ok (.new 7, 3) := dk_187 0 7 (dk_at dksX1_init_0 16 rfl rfl)
theorem dX1_init_19 : decode cX1_init 19 = .ok (.dup, 1) := dk_89 (dk_at dksX1_init_0 19 rfl rfl)
theorem dX1_init_20 : decode cX1_init 20 = .ok (.invokespecial 9, 3) := dk_183 0 9 (dk_at dksX1_init_0 20 rfl rfl)
theorem dX1_init_23 : decode cX1_init 23 = .ok (.putfield 16, 3) := dk_181 0 16 (dk_at dksX1_init_1 0 rfl rfl)
theorem dX1_init_26 : decode cX1_init 26 = .ok (.aload_n 0, 1) := dk_42 (dk_at dksX1_init_1 3 rfl rfl)
theorem dX1_init_27 : decode cX1_init 27 = .ok (.new 19, 3) := dk_187 0 19 (dk_at dksX1_init_1 4 rfl rfl)
theorem dX1_init_30 : decode cX1_init 30 = .ok (.dup, 1) := dk_89 (dk_at dksX1_init_1 7 rfl rfl)
theorem dX1_init_31 : decode cX1_init 31 = .ok (.invokespecial 21, 3) := dk_183 0 21 (dk_at dksX1_init_1 8 rfl rfl)
theorem dX1_init_34 : decode cX1_init 34 = .ok (.putfield 22, 3) := dk_181 0 22 (dk_at dksX1_init_1 11 rfl rfl)
theorem dX1_init_37 : decode cX1_init 37 = .ok (.aload_n 0, 1) := dk_42 (dk_at dksX1_init_1 14 rfl rfl)
theorem dX1_init_38 : decode cX1_init 38 = .ok (.new 26, 3) := dk_187 0 26 (dk_at dksX1_init_1 15 rfl rfl)
theorem dX1_init_41 : decode cX1_init 41 = .ok (.dup, 1) := dk_89 (dk_at dksX1_init_1 18 rfl rfl)
theorem dX1_init_42 : decode cX1_init 42 = .ok (.invokespecial 28, 3) := dk_183 0 28 (dk_at dksX1_init_1 19 rfl rfl)
theorem dX1_init_45 : decode cX1_init 45 = .ok (.putfield 29, 3) := dk_181 0 29 (dk_at dksX1_init_2 0 rfl rfl)
theorem dX1_init_48 : decode cX1_init 48 = .ok (.aload_n 0, 1) := dk_42 (dk_at dksX1_init_2 3 rfl rfl)
theorem dX1_init_49 : decode cX1_init 49 = .ok (.new 33, 3) := dk_187 0 33 (dk_at dksX1_init_2 4 rfl rfl)
theorem dX1_init_52 : decode cX1_init 52 = .ok (.dup, 1) := dk_89 (dk_at dksX1_init_2 7 rfl rfl)
theorem dX1_init_53 : decode cX1_init 53 = .ok (.aload_n 0, 1) := dk_42 (dk_at dksX1_init_2 8 rfl rfl)
theorem dX1_init_54 : decode cX1_init 54 = .ok (.getfield 29, 3) := dk_180 0 29 (dk_at dksX1_init_2 9 rfl rfl)
theorem dX1_init_57 : decode cX1_init 57 = .ok (.invokespecial 35, 3) := dk_183 0 35 (dk_at dksX1_init_2 12 rfl rfl)
theorem dX1_init_60 : decode cX1_init 60 = .ok (.putfield 38, 3) := dk_181 0 38 (dk_at dksX1_init_2 15 rfl rfl)
theorem dX1_init_63 : decode cX1_init 63 = .ok (.aload_n 0, 1) := dk_42 (dk_at dksX1_init_2 18 rfl rfl)
theorem dX1_init_64 : decode cX1_init 64 = .ok (.new 42, 3) := dk_187 0 42 (dk_at dksX1_init_2 19 rfl rfl)
theorem dX1_init_67 : decode cX1_init 67 = .ok (.dup, 1) := dk_89 (dk_at dksX1_init_2 22 rfl rfl)
theorem dX1_init_68 : decode cX1_init 68 = .ok (.aload_n 0, 1) := dk_42 (dk_at dksX1_init_2 23 rfl rfl)
theorem dX1_init_69 : decode cX1_init 69 = .ok (.getfield 29, 3) := dk_180 0 29 (dk_at dksX1_init_3 0 rfl rfl)
theorem dX1_init_72 : decode cX1_init 72 = .ok (.invokespecial 44, 3) := dk_183 0 44 (dk_at dksX1_init_3 3 rfl rfl)
theorem dX1_init_75 : decode cX1_init 75 = .ok (.putfield 45, 3) := dk_181 0 45 (dk_at dksX1_init_3 6 rfl rfl)
theorem dX1_init_78 : decode cX1_init 78 = .ok (.aload_n 0, 1) := dk_42 (dk_at dksX1_init_3 9 rfl rfl)
theorem dX1_init_79 : decode cX1_init 79 = .ok (.new 49, 3) := dk_187 0 49 (dk_at dksX1_init_3 10 rfl rfl)
theorem dX1_init_82 : decode cX1_init 82 = .ok (.dup, 1) := dk_89 (dk_at dksX1_init_3 13 rfl rfl)
theorem dX1_init_83 : decode cX1_init 83 = .ok (.invokespecial 51, 3) := dk_183 0 51 (dk_at dksX1_init_3 14 rfl rfl)
theorem dX1_init_86 : decode cX1_init 86 = .ok (.putfield 52, 3) := dk_181 0 52 (dk_at dksX1_init_3 17 rfl rfl)
theorem dX1_init_89 : decode cX1_init 89 = .ok (.aload_n 0, 1) := dk_42 (dk_at dksX1_init_3 20 rfl rfl)
theorem dX1_init_90 : decode cX1_init 90 = .ok (.new 56, 3) := dk_187 0 56 (dk_at dksX1_init_3 21 rfl rfl)
theorem dX1_init_93 : decode cX1_init 93 = .ok (.dup, 1) := dk_89 (dk_at dksX1_init_4 0 rfl rfl)
theorem dX1_init_94 : decode cX1_init 94 = .ok (.aload_n 0, 1) := dk_42 (dk_at dksX1_init_4 1 rfl rfl)
theorem dX1_init_95 : decode cX1_init 95 = .ok (.getfield 29, 3) := dk_180 0 29 (dk_at dksX1_init_4 2 rfl rfl)
theorem dX1_init_98 : decode cX1_init 98 = .ok (.aload_n 0, 1) := dk_42 (dk_at dksX1_init_4 5 rfl rfl)
theorem dX1_init_99 : decode cX1_init 99 = .ok (.getfield 45, 3) := dk_180 0 45 (dk_at dksX1_init_4 6 rfl rfl)
theorem dX1_init_102 : decode cX1_init 102 = .ok (.invokespecial 58, 3) := dk_183 0 58 (dk_at dksX1_init_4 9 rfl rfl)
theorem dX1_init_105 : decode cX1_init 105 = .ok (.putfield 61, 3) := dk_181 0 61 (dk_at dksX1_init_4 12 rfl rfl)
theorem dX1_init_108 : decode cX1_init 108 = .ok (.aload_n 0, 1) := dk_42 (dk_at dksX1_init_4 15 rfl rfl)
theorem dX1_init_109 : decode cX1_init 109 = .ok (.new 7, 3) := dk_187 0 7 (dk_at dksX1_init_4 16 rfl rfl)
theorem dX1_init_112 : decode cX1_init 112 = .ok (.dup, 1) := dk_89 (dk_at dksX1_init_4 19 rfl rfl)
theorem dX1_init_113 : decode cX1_init 113 = .ok (.invokespecial 9, 3) := dk_183 0 9 (dk_at dksX1_init_4 20 rfl rfl)
theorem dX1_init_116 : decode cX1_init 116 = .ok (.putfield 65, 3) := dk_181 0 65 (dk_at dksX1_init_5 0 rfl rfl)
theorem dX1_init_119 : decode cX1_init 119 = .ok (.aload_n 0, 1) := dk_42 (dk_at dksX1_init_5 3 rfl rfl)
theorem dX1_init_120 : decode cX1_init 120 = .ok (.bipush 16, 2) := dk_16 16 (dk_at dksX1_init_5 4 rfl rfl)
theorem dX1_init_122 : decode cX1_init 122 = .ok (.newarray .int, 2) := dk_188_10 (dk_at dksX1_init_5 6 rfl rfl)
theorem dX1_init_124 : decode cX1_init 124 = .ok (.putfield 68, 3) := dk_181 0 68 (dk_at dksX1_init_5 8 rfl rfl)
theorem dX1_init_127 : decode cX1_init 127 = .ok (.aload_n 0, 1) := dk_42 (dk_at dksX1_init_5 11 rfl rfl)
theorem dX1_init_128 : decode cX1_init 128 = .ok (.bipush 64, 2) := dk_16 64 (dk_at dksX1_init_5 12 rfl rfl)
theorem dX1_init_130 : decode cX1_init 130 = .ok (.putfield 72, 3) := dk_181 0 72 (dk_at dksX1_init_5 14 rfl rfl)
theorem dX1_init_133 : decode cX1_init 133 = .ok (.return_, 1) := dk_177 (dk_at dksX1_init_5 17 rfl rfl)
abbrev cX1_count : ByteArray := prog_1_method_24_code
def yX1_count : MethodName := ⟨RX1, "count", "(I)I"⟩
def dkwX1_count_3 : List UInt8 := [180, 0, 65, 182, 0, 85, 172, 42, 180, 0, 234, 172, 2, 172]
abbrev dktX1_count_3 : List UInt8 := dkwX1_count_3 ++ []
def dkwX1_count_2 : List UInt8 := [42, 180, 0, 10, 182, 0, 85, 172, 42, 180, 0, 113, 172, 42, 180, 0, 107, 172, 42, 180, 0, 110, 172, 42]
abbrev dktX1_count_2 : List UInt8 := dkwX1_count_2 ++ dktX1_count_3
def dkwX1_count_1 : List UInt8 := [170, 0, 0, 0, 0, 0, 75, 0, 0, 0, 0, 0, 0, 0, 5, 0, 0, 0, 39, 0, 0, 0, 47, 0, 0, 0, 52, 0, 0, 0, 57, 0, 0, 0, 62, 0, 0, 0, 70]
abbrev dktX1_count_1 : List UInt8 := dkwX1_count_1 ++ dktX1_count_2
def dkwX1_count_0 : List UInt8 := [27]
abbrev dktX1_count_0 : List UInt8 := dkwX1_count_0 ++ dktX1_count_1
theorem dksX1_count_0 : cX1_count.data.toList.drop 0 = dktX1_count_0 := by decide +kernel
theorem dksX1_count_1 : cX1_count.data.toList.drop 1 = dktX1_count_1 := dk_seg dksX1_count_0 1 rfl rfl
theorem dksX1_count_2 : cX1_count.data.toList.drop 40 = dktX1_count_2 := dk_seg dksX1_count_1 39 rfl rfl
theorem dksX1_count_3 : cX1_count.data.toList.drop 64 = dktX1_count_3 := dk_seg dksX1_count_2 24 rfl rfl
theorem dX1_count_0 : decode cX1_count 0 = .ok (.iload_n 1, 1) := dk_27 (dk_at dksX1_count_0 0 rfl rfl)
theorem dX1_count_1 : decode cX1_count 1 = .ok (.tableswitch 75 0 5 #[39, 47, 52, 57, 62, 70], 39) := by decide +kernel
theorem dX1_count_40 : decode cX1_count 40 = .ok (.aload_n 0, 1) := dk_42 (dk_at dksX1_count_2 0 rfl rfl)
theorem dX1_count_41 : decode cX1_count 41 = .ok (.getfield 10, 3) := dk_180 0 10 (dk_at dksX1_count_2 1 rfl rfl)
theorem dX1_count_44 : decode cX1_count 44 = .ok (.invokevirtual 85, 3) := dk_182 0 85 (dk_at dksX1_count_2 4 rfl rfl)
theorem dX1_count_47 : decode cX1_count 47 = .ok (.ireturn, 1) := dk_172 (dk_at dksX1_count_2 7 rfl rfl)
theorem dX1_count_48 : decode cX1_count 48 = .ok (.aload_n 0, 1) := dk_42 (dk_at dksX1_count_2 8 rfl rfl)
theorem dX1_count_49 : decode cX1_count 49 = .ok (.getfield 113, 3) := dk_180 0 113 (dk_at dksX1_count_2 9 rfl rfl)
theorem dX1_count_52 : decode cX1_count 52 = .ok (.ireturn, 1) := dk_172 (dk_at dksX1_count_2 12 rfl rfl)
theorem dX1_count_53 : decode cX1_count 53 = .ok (.aload_n 0, 1) := dk_42 (dk_at dksX1_count_2 13 rfl rfl)
theorem dX1_count_54 : decode cX1_count 54 = .ok (.getfield 107, 3) := dk_180 0 107 (dk_at dksX1_count_2 14 rfl rfl)
theorem dX1_count_57 : decode cX1_count 57 = .ok (.ireturn, 1) := dk_172 (dk_at dksX1_count_2 17 rfl rfl)
theorem dX1_count_58 : decode cX1_count 58 = .ok (.aload_n 0, 1) := dk_42 (dk_at dksX1_count_2 18 rfl rfl)
theorem dX1_count_59 : decode cX1_count 59 = .ok (.getfield 110, 3) := dk_180 0 110 (dk_at dksX1_count_2 19 rfl rfl)
theorem dX1_count_62 : decode cX1_count 62 = .ok (.ireturn, 1) := dk_172 (dk_at dksX1_count_2 22 rfl rfl)
theorem dX1_count_63 : decode cX1_count 63 = .ok (.aload_n 0, 1) := dk_42 (dk_at dksX1_count_2 23 rfl rfl)
theorem dX1_count_64 : decode cX1_count 64 = .ok (.getfield 65, 3) := dk_180 0 65 (dk_at dksX1_count_3 0 rfl rfl)
theorem dX1_count_67 : decode cX1_count 67 = .ok (.invokevirtual 85, 3) := dk_182 0 85 (dk_at dksX1_count_3 3 rfl rfl)
theorem dX1_count_70 : decode cX1_count 70 = .ok (.ireturn, 1) := dk_172 (dk_at dksX1_count_3 6 rfl rfl)
theorem dX1_count_71 : decode cX1_count 71 = .ok (.aload_n 0, 1) := dk_42 (dk_at dksX1_count_3 7 rfl rfl)
theorem dX1_count_72 : decode cX1_count 72 = .ok (.getfield 234, 3) := dk_180 0 234 (dk_at dksX1_count_3 8 rfl rfl)
theorem dX1_count_75 : decode cX1_count 75 = .ok (.ireturn, 1) := dk_172 (dk_at dksX1_count_3 11 rfl rfl)
theorem dX1_count_76 : decode cX1_count 76 = .ok (.iconst (-1), 1) := dk_2 (dk_at dksX1_count_3 12 rfl rfl)
theorem dX1_count_77 : decode cX1_count 77 = .ok (.ireturn, 1) := dk_172 (dk_at dksX1_count_3 13 rfl rfl)
abbrev cX1_feed : ByteArray := prog_1_method_5_code
def yX1_feed : MethodName := ⟨RX1, "feed", "(IIIII)I"⟩
def dkwX1_feed_2 : List UInt8 := [182, 0, 94, 42, 180, 0, 10, 182, 0, 85, 172]
abbrev dktX1_feed_2 : List UInt8 := dkwX1_feed_2 ++ []
def dkwX1_feed_1 : List UInt8 := [27, 182, 0, 94, 42, 28, 182, 0, 94, 42, 29, 182, 0, 94, 42, 21, 4, 182, 0, 94, 42, 21, 5]
abbrev dktX1_feed_1 : List UInt8 := dkwX1_feed_1 ++ dktX1_feed_2
def dkwX1_feed_0 : List UInt8 := [42, 180, 0, 10, 182, 0, 85, 16, 20, 96, 18, 89, 163, 0, 7, 4, 167, 0, 4, 3, 184, 0, 90, 42]
abbrev dktX1_feed_0 : List UInt8 := dkwX1_feed_0 ++ dktX1_feed_1
theorem dksX1_feed_0 : cX1_feed.data.toList.drop 0 = dktX1_feed_0 := by decide +kernel
theorem dksX1_feed_1 : cX1_feed.data.toList.drop 24 = dktX1_feed_1 := dk_seg dksX1_feed_0 24 rfl rfl
theorem dksX1_feed_2 : cX1_feed.data.toList.drop 47 = dktX1_feed_2 := dk_seg dksX1_feed_1 23 rfl rfl
theorem dX1_feed_0 : decode cX1_feed 0 = .ok (.aload_n 0, 1) := dk_42 (dk_at dksX1_feed_0 0 rfl rfl)
theorem dX1_feed_1 : decode cX1_feed 1 = .ok (.getfield 10, 3) := dk_180 0 10 (dk_at dksX1_feed_0 1 rfl rfl)
theorem dX1_feed_4 : decode cX1_feed 4 = .ok (.invokevirtual 85, 3) := dk_182 0 85 (dk_at dksX1_feed_0 4 rfl rfl)
theorem dX1_feed_7 : decode cX1_feed 7 = .ok (.bipush 20, 2) := dk_16 20 (dk_at dksX1_feed_0 7 rfl rfl)
theorem dX1_feed_9 : decode cX1_feed 9 = .ok (.iadd, 1) := dk_96 (dk_at dksX1_feed_0 9 rfl rfl)
theorem dX1_feed_10 : decode cX1_feed 10 = .ok (.ldc 89, 2) := dk_18 89 (dk_at dksX1_feed_0 10 rfl rfl)
theorem dX1_feed_12 : decode cX1_feed 12 = .ok (.if_icmp .gt 7, 3) := dk_163 0 7 (dk_at dksX1_feed_0 12 rfl rfl)
theorem dX1_feed_15 : decode cX1_feed 15 = .ok (.iconst 1, 1) := dk_4 (dk_at dksX1_feed_0 15 rfl rfl)
theorem dX1_feed_16 : decode cX1_feed 16 = .ok (.goto 4, 3) := dk_167 0 4 (dk_at dksX1_feed_0 16 rfl rfl)
theorem dX1_feed_19 : decode cX1_feed 19 = .ok (.iconst 0, 1) := dk_3 (dk_at dksX1_feed_0 19 rfl rfl)
theorem dX1_feed_20 : decode cX1_feed 20 = .ok (.invokestatic 90, 3) := dk_184 0 90 (dk_at dksX1_feed_0 20 rfl rfl)
theorem dX1_feed_23 : decode cX1_feed 23 = .ok (.aload_n 0, 1) := dk_42 (dk_at dksX1_feed_0 23 rfl rfl)
theorem dX1_feed_24 : decode cX1_feed 24 = .ok (.iload_n 1, 1) := dk_27 (dk_at dksX1_feed_1 0 rfl rfl)
theorem dX1_feed_25 : decode cX1_feed 25 = .ok (.invokevirtual 94, 3) := dk_182 0 94 (dk_at dksX1_feed_1 1 rfl rfl)
theorem dX1_feed_28 : decode cX1_feed 28 = .ok (.aload_n 0, 1) := dk_42 (dk_at dksX1_feed_1 4 rfl rfl)
theorem dX1_feed_29 : decode cX1_feed 29 = .ok (.iload_n 2, 1) := dk_28 (dk_at dksX1_feed_1 5 rfl rfl)
theorem dX1_feed_30 : decode cX1_feed 30 = .ok (.invokevirtual 94, 3) := dk_182 0 94 (dk_at dksX1_feed_1 6 rfl rfl)
theorem dX1_feed_33 : decode cX1_feed 33 = .ok (.aload_n 0, 1) := dk_42 (dk_at dksX1_feed_1 9 rfl rfl)
theorem dX1_feed_34 : decode cX1_feed 34 = .ok (.iload_n 3, 1) := dk_29 (dk_at dksX1_feed_1 10 rfl rfl)
theorem dX1_feed_35 : decode cX1_feed 35 = .ok (.invokevirtual 94, 3) := dk_182 0 94 (dk_at dksX1_feed_1 11 rfl rfl)
theorem dX1_feed_38 : decode cX1_feed 38 = .ok (.aload_n 0, 1) := dk_42 (dk_at dksX1_feed_1 14 rfl rfl)
theorem dX1_feed_39 : decode cX1_feed 39 = .ok (.iload 4, 2) := dk_21 4 (dk_at dksX1_feed_1 15 rfl rfl)
theorem dX1_feed_41 : decode cX1_feed 41 = .ok (.invokevirtual 94, 3) := dk_182 0 94 (dk_at dksX1_feed_1 17 rfl rfl)
theorem dX1_feed_44 : decode cX1_feed 44 = .ok (.aload_n 0, 1) := dk_42 (dk_at dksX1_feed_1 20 rfl rfl)
theorem dX1_feed_45 : decode cX1_feed 45 = .ok (.iload 5, 2) := dk_21 5 (dk_at dksX1_feed_1 21 rfl rfl)
theorem dX1_feed_47 : decode cX1_feed 47 = .ok (.invokevirtual 94, 3) := dk_182 0 94 (dk_at dksX1_feed_2 0 rfl rfl)
theorem dX1_feed_50 : decode cX1_feed 50 = .ok (.aload_n 0, 1) := dk_42 (dk_at dksX1_feed_2 3 rfl rfl)
theorem dX1_feed_51 : decode cX1_feed 51 = .ok (.getfield 10, 3) := dk_180 0 10 (dk_at dksX1_feed_2 4 rfl rfl)
theorem dX1_feed_54 : decode cX1_feed 54 = .ok (.invokevirtual 85, 3) := dk_182 0 85 (dk_at dksX1_feed_2 7 rfl rfl)
theorem dX1_feed_57 : decode cX1_feed 57 = .ok (.ireturn, 1) := dk_172 (dk_at dksX1_feed_2 10 rfl rfl)
abbrev cX1_can : ByteArray := prog_1_method_4_code
def yX1_can : MethodName := ⟨RX1, "can", "(Z)V"⟩
def dkwX1_can_0 : List UInt8 := [26, 154, 0, 11, 187, 0, 82, 89, 183, 0, 84, 191, 177]
abbrev dktX1_can_0 : List UInt8 := dkwX1_can_0 ++ []
theorem dksX1_can_0 : cX1_can.data.toList.drop 0 = dktX1_can_0 := by decide +kernel
theorem dX1_can_0 : decode cX1_can 0 = .ok (.iload_n 0, 1) := dk_26 (dk_at dksX1_can_0 0 rfl rfl)
theorem dX1_can_1 : decode cX1_can 1 = .ok (.ifCond .ne 11, 3) := dk_154 0 11 (dk_at dksX1_can_0 1 rfl rfl)
theorem dX1_can_4 : decode cX1_can 4 = .ok (.new 82, 3) := dk_187 0 82 (dk_at dksX1_can_0 4 rfl rfl)
theorem dX1_can_7 : decode cX1_can 7 = .ok (.dup, 1) := dk_89 (dk_at dksX1_can_0 7 rfl rfl)
theorem dX1_can_8 : decode cX1_can 8 = .ok (.invokespecial 84, 3) := dk_183 0 84 (dk_at dksX1_can_0 8 rfl rfl)
theorem dX1_can_11 : decode cX1_can 11 = .ok (.athrow, 1) := dk_191 (dk_at dksX1_can_0 11 rfl rfl)
theorem dX1_can_12 : decode cX1_can 12 = .ok (.return_, 1) := dk_177 (dk_at dksX1_can_0 12 rfl rfl)
abbrev cX1_word : ByteArray := prog_1_method_6_code
def yX1_word : MethodName := ⟨RX1, "word", "(I)V"⟩
def dkwX1_word_1 : List UInt8 := [167, 255, 235, 177]
abbrev dktX1_word_1 : List UInt8 := dkwX1_word_1 ++ []
def dkwX1_word_0 : List UInt8 := [16, 24, 61, 28, 155, 0, 23, 42, 180, 0, 10, 27, 28, 122, 17, 0, 255, 126, 182, 0, 98, 132, 2, 248]
abbrev dktX1_word_0 : List UInt8 := dkwX1_word_0 ++ dktX1_word_1
theorem dksX1_word_0 : cX1_word.data.toList.drop 0 = dktX1_word_0 := by decide +kernel
theorem dksX1_word_1 : cX1_word.data.toList.drop 24 = dktX1_word_1 := dk_seg dksX1_word_0 24 rfl rfl
theorem dX1_word_0 : decode cX1_word 0 = .ok (.bipush 24, 2) := dk_16 24 (dk_at dksX1_word_0 0 rfl rfl)
theorem dX1_word_2 : decode cX1_word 2 = .ok (.istore_n 2, 1) := dk_61 (dk_at dksX1_word_0 2 rfl rfl)
theorem dX1_word_3 : decode cX1_word 3 = .ok (.iload_n 2, 1) := dk_28 (dk_at dksX1_word_0 3 rfl rfl)
theorem dX1_word_4 : decode cX1_word 4 = .ok (.ifCond .lt 23, 3) := dk_155 0 23 (dk_at dksX1_word_0 4 rfl rfl)
theorem dX1_word_7 : decode cX1_word 7 = .ok (.aload_n 0, 1) := dk_42 (dk_at dksX1_word_0 7 rfl rfl)
theorem dX1_word_8 : decode cX1_word 8 = .ok (.getfield 10, 3) := dk_180 0 10 (dk_at dksX1_word_0 8 rfl rfl)
theorem dX1_word_11 : decode cX1_word 11 = .ok (.iload_n 1, 1) := dk_27 (dk_at dksX1_word_0 11 rfl rfl)
theorem dX1_word_12 : decode cX1_word 12 = .ok (.iload_n 2, 1) := dk_28 (dk_at dksX1_word_0 12 rfl rfl)
theorem dX1_word_13 : decode cX1_word 13 = .ok (.ishr, 1) := dk_122 (dk_at dksX1_word_0 13 rfl rfl)
theorem dX1_word_14 : decode cX1_word 14 = .ok (.sipush 255, 3) := dk_17 0 255 (dk_at dksX1_word_0 14 rfl rfl)
theorem dX1_word_17 : decode cX1_word 17 = .ok (.iand, 1) := dk_126 (dk_at dksX1_word_0 17 rfl rfl)
theorem dX1_word_18 : decode cX1_word 18 = .ok (.invokevirtual 98, 3) := dk_182 0 98 (dk_at dksX1_word_0 18 rfl rfl)
theorem dX1_word_21 : decode cX1_word 21 = .ok (.iinc 2 (-8), 3) := dk_132 2 248 (dk_at dksX1_word_0 21 rfl rfl)
theorem dX1_word_24 : decode cX1_word 24 = .ok (.goto (-21), 3) := dk_167 255 235 (dk_at dksX1_word_1 0 rfl rfl)
theorem dX1_word_27 : decode cX1_word 27 = .ok (.return_, 1) := dk_177 (dk_at dksX1_word_1 3 rfl rfl)
abbrev cX1_end : ByteArray := prog_1_method_7_code
def yX1_end : MethodName := ⟨RX1, "end", "(I)I"⟩
def dkwX1_end_2 : List UInt8 := [182, 0, 85, 16, 20, 100, 27, 96, 182, 0, 104, 42, 180, 0, 10, 182, 0, 85, 172]
abbrev dktX1_end_2 : List UInt8 := dkwX1_end_2 ++ []
def dkwX1_end_1 : List UInt8 := [182, 0, 85, 16, 20, 161, 0, 7, 4, 167, 0, 4, 3, 184, 0, 90, 42, 180, 0, 10, 42, 180, 0, 10]
abbrev dktX1_end_1 : List UInt8 := dkwX1_end_1 ++ dktX1_end_2
def dkwX1_end_0 : List UInt8 := [27, 155, 0, 13, 27, 16, 20, 163, 0, 7, 4, 167, 0, 4, 3, 184, 0, 101, 42, 180, 0, 10]
abbrev dktX1_end_0 : List UInt8 := dkwX1_end_0 ++ dktX1_end_1
theorem dksX1_end_0 : cX1_end.data.toList.drop 0 = dktX1_end_0 := by decide +kernel
theorem dksX1_end_1 : cX1_end.data.toList.drop 22 = dktX1_end_1 := dk_seg dksX1_end_0 22 rfl rfl
theorem dksX1_end_2 : cX1_end.data.toList.drop 46 = dktX1_end_2 := dk_seg dksX1_end_1 24 rfl rfl
theorem dX1_end_0 : decode cX1_end 0 = .ok (.iload_n 1, 1) := dk_27 (dk_at dksX1_end_0 0 rfl rfl)
theorem dX1_end_1 : decode cX1_end 1 = .ok (.ifCond .lt 13, 3) := dk_155 0 13 (dk_at dksX1_end_0 1 rfl rfl)
theorem dX1_end_4 : decode cX1_end 4 = .ok (.iload_n 1, 1) := dk_27 (dk_at dksX1_end_0 4 rfl rfl)
theorem dX1_end_5 : decode cX1_end 5 = .ok (.bipush 20, 2) := dk_16 20 (dk_at dksX1_end_0 5 rfl rfl)
theorem dX1_end_7 : decode cX1_end 7 = .ok (.if_icmp .gt 7, 3) := dk_163 0 7 (dk_at dksX1_end_0 7 rfl rfl)
theorem dX1_end_10 : decode cX1_end 10 = .ok (.iconst 1, 1) := dk_4 (dk_at dksX1_end_0 10 rfl rfl)
theorem dX1_end_11 : decode cX1_end 11 = .ok (.goto 4, 3) := dk_167 0 4 (dk_at dksX1_end_0 11 rfl rfl)
theorem dX1_end_14 : decode cX1_end 14 = .ok (.iconst 0, 1) := dk_3 (dk_at dksX1_end_0 14 rfl rfl)
theorem dX1_end_15 : decode cX1_end 15 = .ok (.invokestatic 101, 3) := dk_184 0 101 (dk_at dksX1_end_0 15 rfl rfl)
theorem dX1_end_18 : decode cX1_end 18 = .ok (.aload_n 0, 1) := dk_42 (dk_at dksX1_end_0 18 rfl rfl)
theorem dX1_end_19 : decode cX1_end 19 = .ok (.getfield 10, 3) := dk_180 0 10 (dk_at dksX1_end_0 19 rfl rfl)
theorem dX1_end_22 : decode cX1_end 22 = .ok (.invokevirtual 85, 3) := dk_182 0 85 (dk_at dksX1_end_1 0 rfl rfl)
theorem dX1_end_25 : decode cX1_end 25 = .ok (.bipush 20, 2) := dk_16 20 (dk_at dksX1_end_1 3 rfl rfl)
theorem dX1_end_27 : decode cX1_end 27 = .ok (.if_icmp .lt 7, 3) := dk_161 0 7 (dk_at dksX1_end_1 5 rfl rfl)
theorem dX1_end_30 : decode cX1_end 30 = .ok (.iconst 1, 1) := dk_4 (dk_at dksX1_end_1 8 rfl rfl)
theorem dX1_end_31 : decode cX1_end 31 = .ok (.goto 4, 3) := dk_167 0 4 (dk_at dksX1_end_1 9 rfl rfl)
theorem dX1_end_34 : decode cX1_end 34 = .ok (.iconst 0, 1) := dk_3 (dk_at dksX1_end_1 12 rfl rfl)
theorem dX1_end_35 : decode cX1_end 35 = .ok (.invokestatic 90, 3) := dk_184 0 90 (dk_at dksX1_end_1 13 rfl rfl)
theorem dX1_end_38 : decode cX1_end 38 = .ok (.aload_n 0, 1) := dk_42 (dk_at dksX1_end_1 16 rfl rfl)
theorem dX1_end_39 : decode cX1_end 39 = .ok (.getfield 10, 3) := dk_180 0 10 (dk_at dksX1_end_1 17 rfl rfl)
theorem dX1_end_42 : decode cX1_end 42 = .ok (.aload_n 0, 1) := dk_42 (dk_at dksX1_end_1 20 rfl rfl)
theorem dX1_end_43 : decode cX1_end 43 = .ok (.getfield 10, 3) := dk_180 0 10 (dk_at dksX1_end_1 21 rfl rfl)
theorem dX1_end_46 : decode cX1_end 46 = .ok (.invokevirtual 85, 3) := dk_182 0 85 (dk_at dksX1_end_2 0 rfl rfl)
theorem dX1_end_49 : decode cX1_end 49 = .ok (.bipush 20, 2) := dk_16 20 (dk_at dksX1_end_2 3 rfl rfl)
theorem dX1_end_51 : decode cX1_end 51 = .ok (.isub, 1) := dk_100 (dk_at dksX1_end_2 5 rfl rfl)
theorem dX1_end_52 : decode cX1_end 52 = .ok (.iload_n 1, 1) := dk_27 (dk_at dksX1_end_2 6 rfl rfl)
theorem dX1_end_53 : decode cX1_end 53 = .ok (.iadd, 1) := dk_96 (dk_at dksX1_end_2 7 rfl rfl)
theorem dX1_end_54 : decode cX1_end 54 = .ok (.invokevirtual 104, 3) := dk_182 0 104 (dk_at dksX1_end_2 8 rfl rfl)
theorem dX1_end_57 : decode cX1_end 57 = .ok (.aload_n 0, 1) := dk_42 (dk_at dksX1_end_2 11 rfl rfl)
theorem dX1_end_58 : decode cX1_end 58 = .ok (.getfield 10, 3) := dk_180 0 10 (dk_at dksX1_end_2 12 rfl rfl)
theorem dX1_end_61 : decode cX1_end 61 = .ok (.invokevirtual 85, 3) := dk_182 0 85 (dk_at dksX1_end_2 15 rfl rfl)
theorem dX1_end_64 : decode cX1_end 64 = .ok (.ireturn, 1) := dk_172 (dk_at dksX1_end_2 18 rfl rfl)
abbrev cX1_right : ByteArray := prog_1_method_3_code
def yX1_right : MethodName := ⟨RX1, "right", "(Z)V"⟩
def dkwX1_right_0 : List UInt8 := [26, 154, 0, 11, 187, 0, 79, 89, 183, 0, 81, 191, 177]
abbrev dktX1_right_0 : List UInt8 := dkwX1_right_0 ++ []
theorem dksX1_right_0 : cX1_right.data.toList.drop 0 = dktX1_right_0 := by decide +kernel
theorem dX1_right_0 : decode cX1_right 0 = .ok (.iload_n 0, 1) := dk_26 (dk_at dksX1_right_0 0 rfl rfl)
theorem dX1_right_1 : decode cX1_right 1 = .ok (.ifCond .ne 11, 3) := dk_154 0 11 (dk_at dksX1_right_0 1 rfl rfl)
theorem dX1_right_4 : decode cX1_right 4 = .ok (.new 79, 3) := dk_187 0 79 (dk_at dksX1_right_0 4 rfl rfl)
theorem dX1_right_7 : decode cX1_right 7 = .ok (.dup, 1) := dk_89 (dk_at dksX1_right_0 7 rfl rfl)
theorem dX1_right_8 : decode cX1_right 8 = .ok (.invokespecial 81, 3) := dk_183 0 81 (dk_at dksX1_right_0 8 rfl rfl)
theorem dX1_right_11 : decode cX1_right 11 = .ok (.athrow, 1) := dk_191 (dk_at dksX1_right_0 11 rfl rfl)
theorem dX1_right_12 : decode cX1_right 12 = .ok (.return_, 1) := dk_177 (dk_at dksX1_right_0 12 rfl rfl)
abbrev cX1_compile : ByteArray := prog_1_method_10_code
def yX1_compile : MethodName := ⟨RX1, "compile", "()I"⟩
def dkwX1_compile_8 : List UInt8 := [180, 0, 22, 182, 0, 165, 181, 0, 113, 42, 180, 0, 107, 172]
abbrev dktX1_compile_8 : List UInt8 := dkwX1_compile_8 ++ []
def dkwX1_compile_7 : List UInt8 := [180, 0, 29, 28, 182, 0, 161, 61, 167, 255, 224, 42, 42, 180, 0, 29, 180, 0, 164, 181, 0, 110, 42, 42]
abbrev dktX1_compile_7 : List UInt8 := dkwX1_compile_7 ++ dktX1_compile_8
def dkwX1_compile_6 : List UInt8 := [2, 159, 0, 33, 42, 180, 0, 29, 28, 182, 0, 154, 16, 28, 160, 0, 8, 42, 28, 182, 0, 158, 42]
abbrev dktX1_compile_6 : List UInt8 := dkwX1_compile_6 ++ dktX1_compile_7
def dkwX1_compile_5 : List UInt8 := [180, 0, 45, 182, 0, 150, 182, 0, 134, 42, 3, 3, 182, 0, 134, 42, 180, 0, 29, 180, 0, 151, 61, 28]
abbrev dktX1_compile_5 : List UInt8 := dkwX1_compile_5 ++ dktX1_compile_6
def dkwX1_compile_4 : List UInt8 := [180, 0, 45, 42, 180, 0, 22, 182, 0, 146, 154, 0, 21, 42, 42, 180, 0, 45, 182, 0, 149, 42]
abbrev dktX1_compile_4 : List UInt8 := dkwX1_compile_4 ++ dktX1_compile_5
def dkwX1_compile_3 : List UInt8 := [154, 0, 21, 42, 42, 180, 0, 38, 182, 0, 142, 42, 180, 0, 38, 182, 0, 144, 182, 0, 134, 42]
abbrev dktX1_compile_3 : List UInt8 := dkwX1_compile_3 ++ dktX1_compile_4
def dkwX1_compile_2 : List UInt8 := [60, 27, 2, 159, 0, 9, 42, 4, 27, 182, 0, 134, 42, 180, 0, 38, 42, 180, 0, 22, 182, 0, 138]
abbrev dktX1_compile_2 : List UInt8 := dkwX1_compile_2 ++ dktX1_compile_3
def dkwX1_compile_1 : List UInt8 := [182, 0, 85, 182, 0, 127, 42, 180, 0, 10, 182, 0, 124, 42, 180, 0, 22, 42, 180, 0, 16, 182, 0, 131]
abbrev dktX1_compile_1 : List UInt8 := dkwX1_compile_1 ++ dktX1_compile_2
def dkwX1_compile_0 : List UInt8 := [42, 182, 0, 121, 42, 180, 0, 16, 182, 0, 124, 42, 180, 0, 16, 42, 180, 0, 10, 3, 42, 180, 0, 10]
abbrev dktX1_compile_0 : List UInt8 := dkwX1_compile_0 ++ dktX1_compile_1
theorem dksX1_compile_0 : cX1_compile.data.toList.drop 0 = dktX1_compile_0 := by decide +kernel
theorem dksX1_compile_1 : cX1_compile.data.toList.drop 24 = dktX1_compile_1 := dk_seg dksX1_compile_0 24 rfl rfl
theorem dksX1_compile_2 : cX1_compile.data.toList.drop 48 = dktX1_compile_2 := dk_seg dksX1_compile_1 24 rfl rfl
theorem dksX1_compile_3 : cX1_compile.data.toList.drop 71 = dktX1_compile_3 := dk_seg dksX1_compile_2 23 rfl rfl
theorem dksX1_compile_4 : cX1_compile.data.toList.drop 93 = dktX1_compile_4 := dk_seg dksX1_compile_3 22 rfl rfl
theorem dksX1_compile_5 : cX1_compile.data.toList.drop 115 = dktX1_compile_5 := dk_seg dksX1_compile_4 22 rfl rfl
theorem dksX1_compile_6 : cX1_compile.data.toList.drop 139 = dktX1_compile_6 := dk_seg dksX1_compile_5 24 rfl rfl
theorem dksX1_compile_7 : cX1_compile.data.toList.drop 162 = dktX1_compile_7 := dk_seg dksX1_compile_6 23 rfl rfl
theorem dksX1_compile_8 : cX1_compile.data.toList.drop 186 = dktX1_compile_8 := dk_seg dksX1_compile_7 24 rfl rfl
theorem dX1_compile_0 : decode cX1_compile 0 = .ok (.aload_n 0, 1) := dk_42 (dk_at dksX1_compile_0 0 rfl rfl)
theorem dX1_compile_1 : decode cX1_compile 1 = .ok (.invokevirtual 121, 3) := dk_182 0 121 (dk_at dksX1_compile_0 1 rfl rfl)
theorem dX1_compile_4 : decode cX1_compile 4 = .ok (.aload_n 0, 1) := dk_42 (dk_at dksX1_compile_0 4 rfl rfl)
theorem dX1_compile_5 : decode cX1_compile 5 = .ok (.getfield 16, 3) := dk_180 0 16 (dk_at dksX1_compile_0 5 rfl rfl)
theorem dX1_compile_8 : decode cX1_compile 8 = .ok (.invokevirtual 124, 3) := dk_182 0 124 (dk_at dksX1_compile_0 8 rfl rfl)
theorem dX1_compile_11 : decode cX1_compile 11 = .ok (.aload_n 0, 1) := dk_42 (dk_at dksX1_compile_0 11 rfl rfl)
theorem dX1_compile_12 : decode cX1_compile 12 = .ok (.getfield 16, 3) := dk_180 0 16 (dk_at dksX1_compile_0 12 rfl rfl)
theorem dX1_compile_15 : decode cX1_compile 15 = .ok (.aload_n 0, 1) := dk_42 (dk_at dksX1_compile_0 15 rfl rfl)
theorem dX1_compile_16 : decode cX1_compile 16 = .ok (.getfield 10, 3) := dk_180 0 10 (dk_at dksX1_compile_0 16 rfl rfl)
theorem dX1_compile_19 : decode cX1_compile 19 = .ok (.iconst 0, 1) := dk_3 (dk_at dksX1_compile_0 19 rfl rfl)
theorem dX1_compile_20 : decode cX1_compile 20 = .ok (.aload_n 0, 1) := dk_42 (dk_at dksX1_compile_0 20 rfl rfl)
theorem dX1_compile_21 : decode cX1_compile 21 = .ok (.getfield 10, 3) := dk_180 0 10 (dk_at dksX1_compile_0 21 rfl rfl)
theorem dX1_compile_24 : decode cX1_compile 24 = .ok (.invokevirtual 85, 3) := dk_182 0 85 (dk_at dksX1_compile_1 0 rfl rfl)
theorem dX1_compile_27 : decode cX1_compile 27 = .ok (.invokevirtual 127, 3) := dk_182 0 127 (dk_at dksX1_compile_1 3 rfl rfl)
theorem dX1_compile_30 : decode cX1_compile 30 = .ok (.aload_n 0, 1) := dk_42 (dk_at dksX1_compile_1 6 rfl rfl)
theorem dX1_compile_31 : decode cX1_compile 31 = .ok (.getfield 10, 3) := dk_180 0 10 (dk_at dksX1_compile_1 7 rfl rfl)
theorem dX1_compile_34 : decode cX1_compile 34 = .ok (.invokevirtual 124, 3) := dk_182 0 124 (dk_at dksX1_compile_1 10 rfl rfl)
theorem dX1_compile_37 : decode cX1_compile 37 = .ok (.aload_n 0, 1) := dk_42 (dk_at dksX1_compile_1 13 rfl rfl)
theorem dX1_compile_38 : decode cX1_compile 38 = .ok (.getfield 22, 3) := dk_180 0 22 (dk_at dksX1_compile_1 14 rfl rfl)
theorem dX1_compile_41 : decode cX1_compile 41 = .ok (.aload_n 0, 1) := dk_42 (dk_at dksX1_compile_1 17 rfl rfl)
theorem dX1_compile_42 : decode cX1_compile 42 = .ok (.getfield 16, 3) := dk_180 0 16 (dk_at dksX1_compile_1 18 rfl rfl)
theorem dX1_compile_45 : decode cX1_compile 45 = .ok (.invokevirtual 131, 3) := dk_182 0 131 (dk_at dksX1_compile_1 21 rfl rfl)
theorem dX1_compile_48 : decode cX1_compile 48 = .ok (.istore_n 1, 1) := dk_60 (dk_at dksX1_compile_2 0 rfl rfl)
theorem dX1_compile_49 : decode cX1_compile 49 = .ok (.iload_n 1, 1) := dk_27 (dk_at dksX1_compile_2 1 rfl rfl)
theorem dX1_compile_50 : decode cX1_compile 50 = .ok (.iconst (-1), 1) := dk_2 (dk_at dksX1_compile_2 2 rfl rfl)
theorem dX1_compile_51 : decode cX1_compile 51 = .ok (.if_icmp .eq 9, 3) := dk_159 0 9 (dk_at dksX1_compile_2 3 rfl rfl)
theorem dX1_compile_54 : decode cX1_compile 54 = .ok (.aload_n 0, 1) := dk_42 (dk_at dksX1_compile_2 6 rfl rfl)
theorem dX1_compile_55 : decode cX1_compile 55 = .ok (.iconst 1, 1) := dk_4 (dk_at dksX1_compile_2 7 rfl rfl)
theorem dX1_compile_56 : decode cX1_compile 56 = .ok (.iload_n 1, 1) := dk_27 (dk_at dksX1_compile_2 8 rfl rfl)
theorem dX1_compile_57 : decode cX1_compile 57 = .ok (.invokevirtual 134, 3) := dk_182 0 134 (dk_at dksX1_compile_2 9 rfl rfl)
theorem dX1_compile_60 : decode cX1_compile 60 = .ok (.aload_n 0, 1) := dk_42 (dk_at dksX1_compile_2 12 rfl rfl)
theorem dX1_compile_61 : decode cX1_compile 61 = .ok (.getfield 38, 3) := dk_180 0 38 (dk_at dksX1_compile_2 13 rfl rfl)
theorem dX1_compile_64 : decode cX1_compile 64 = .ok (.aload_n 0, 1) := dk_42 (dk_at dksX1_compile_2 16 rfl rfl)
theorem dX1_compile_65 : decode cX1_compile 65 = .ok (.getfield 22, 3) := dk_180 0 22 (dk_at dksX1_compile_2 17 rfl rfl)
theorem dX1_compile_68 : decode cX1_compile 68 = .ok (.invokevirtual 138, 3) := dk_182 0 138 (dk_at dksX1_compile_2 20 rfl rfl)
theorem dX1_compile_71 : decode cX1_compile 71 = .ok (.ifCond .ne 21, 3) := dk_154 0 21 (dk_at dksX1_compile_3 0 rfl rfl)
theorem dX1_compile_74 : decode cX1_compile 74 = .ok (.aload_n 0, 1) := dk_42 (dk_at dksX1_compile_3 3 rfl rfl)
theorem dX1_compile_75 : decode cX1_compile 75 = .ok (.aload_n 0, 1) := dk_42 (dk_at dksX1_compile_3 4 rfl rfl)
theorem dX1_compile_76 : decode cX1_compile 76 = .ok (.getfield 38, 3) := dk_180 0 38 (dk_at dksX1_compile_3 5 rfl rfl)
theorem dX1_compile_79 : decode cX1_compile 79 = .ok (.invokevirtual 142, 3) := dk_182 0 142 (dk_at dksX1_compile_3 8 rfl rfl)
theorem dX1_compile_82 : decode cX1_compile 82 = .ok (.aload_n 0, 1) := dk_42 (dk_at dksX1_compile_3 11 rfl rfl)
theorem dX1_compile_83 : decode cX1_compile 83 = .ok (.getfield 38, 3) := dk_180 0 38 (dk_at dksX1_compile_3 12 rfl rfl)
theorem dX1_compile_86 : decode cX1_compile 86 = .ok (.invokevirtual 144, 3) := dk_182 0 144 (dk_at dksX1_compile_3 15 rfl rfl)
theorem dX1_compile_89 : decode cX1_compile 89 = .ok (.invokevirtual 134, 3) := dk_182 0 134 (dk_at dksX1_compile_3 18 rfl rfl)
theorem dX1_compile_92 : decode cX1_compile 92 = .ok (.aload_n 0, 1) := dk_42 (dk_at dksX1_compile_3 21 rfl rfl)
theorem dX1_compile_93 : decode cX1_compile 93 = .ok (.getfield 45, 3) := dk_180 0 45 (dk_at dksX1_compile_4 0 rfl rfl)
theorem dX1_compile_96 : decode cX1_compile 96 = .ok (.aload_n 0, 1) := dk_42 (dk_at dksX1_compile_4 3 rfl rfl)
theorem dX1_compile_97 : decode cX1_compile 97 = .ok (.getfield 22, 3) := dk_180 0 22 (dk_at dksX1_compile_4 4 rfl rfl)
theorem dX1_compile_100 : decode cX1_compile 100 = .ok (.invokevirtual 146, 3) := dk_182 0 146 (dk_at dksX1_compile_4 7 rfl rfl)
theorem dX1_compile_103 : decode cX1_compile 103 = .ok (.ifCond .ne 21, 3) := dk_154 0 21 (dk_at dksX1_compile_4 10 rfl rfl)
theorem dX1_compile_106 : decode cX1_compile 106 = .ok (.aload_n 0, 1) := dk_42 (dk_at dksX1_compile_4 13 rfl rfl)
theorem dX1_compile_107 : decode cX1_compile 107 = .ok (.aload_n 0, 1) := dk_42 (dk_at dksX1_compile_4 14 rfl rfl)
theorem dX1_compile_108 : decode cX1_compile 108 = .ok (.getfield 45, 3) := dk_180 0 45 (dk_at dksX1_compile_4 15 rfl rfl)
theorem dX1_compile_111 : decode cX1_compile 111 = .ok (.invokevirtual 149, 3) := dk_182 0 149 (dk_at dksX1_compile_4 18 rfl rfl)
theorem dX1_compile_114 : decode cX1_compile 114 = .ok (.aload_n 0, 1) := dk_42 (dk_at dksX1_compile_4 21 rfl rfl)
theorem dX1_compile_115 : decode cX1_compile 115 = .ok (.getfield 45, 3) := dk_180 0 45 (dk_at dksX1_compile_5 0 rfl rfl)
theorem dX1_compile_118 : decode cX1_compile 118 = .ok (.invokevirtual 150, 3) := dk_182 0 150 (dk_at dksX1_compile_5 3 rfl rfl)
theorem dX1_compile_121 : decode cX1_compile 121 = .ok (.invokevirtual 134, 3) := dk_182 0 134 (dk_at dksX1_compile_5 6 rfl rfl)
theorem dX1_compile_124 : decode cX1_compile 124 = .ok (.aload_n 0, 1) := dk_42 (dk_at dksX1_compile_5 9 rfl rfl)
theorem dX1_compile_125 : decode cX1_compile 125 = .ok (.iconst 0, 1) := dk_3 (dk_at dksX1_compile_5 10 rfl rfl)
theorem dX1_compile_126 : decode cX1_compile 126 = .ok (.iconst 0, 1) := dk_3 (dk_at dksX1_compile_5 11 rfl rfl)
theorem dX1_compile_127 : decode cX1_compile 127 = .ok (.invokevirtual 134, 3) := dk_182 0 134 (dk_at dksX1_compile_5 12 rfl rfl)
theorem dX1_compile_130 : decode cX1_compile 130 = .ok (.aload_n 0, 1) := dk_42 (dk_at dksX1_compile_5 15 rfl rfl)
theorem dX1_compile_131 : decode cX1_compile 131 = .ok (.getfield 29, 3) := dk_180 0 29 (dk_at dksX1_compile_5 16 rfl rfl)
theorem dX1_compile_134 : decode cX1_compile 134 = .ok (.getfield 151, 3) := dk_180 0 151 (dk_at dksX1_compile_5 19 rfl rfl)
theorem dX1_compile_137 : decode cX1_compile 137 = .ok (.istore_n 2, 1) := dk_61 (dk_at dksX1_compile_5 22 rfl rfl)
theorem dX1_compile_138 : decode cX1_compile 138 = .ok (.iload_n 2, 1) := dk_28 (dk_at dksX1_compile_5 23 rfl rfl)
theorem dX1_compile_139 : decode cX1_compile 139 = .ok (.iconst (-1), 1) := dk_2 (dk_at dksX1_compile_6 0 rfl rfl)
theorem dX1_compile_140 : decode cX1_compile 140 = .ok (.if_icmp .eq 33, 3) := dk_159 0 33 (dk_at dksX1_compile_6 1 rfl rfl)
theorem dX1_compile_143 : decode cX1_compile 143 = .ok (.aload_n 0, 1) := dk_42 (dk_at dksX1_compile_6 4 rfl rfl)
theorem dX1_compile_144 : decode cX1_compile 144 = .ok (.getfield 29, 3) := dk_180 0 29 (dk_at dksX1_compile_6 5 rfl rfl)
theorem dX1_compile_147 : decode cX1_compile 147 = .ok (.iload_n 2, 1) := dk_28 (dk_at dksX1_compile_6 8 rfl rfl)
theorem dX1_compile_148 : decode cX1_compile 148 = .ok (.invokevirtual 154, 3) := dk_182 0 154 (dk_at dksX1_compile_6 9 rfl rfl)
theorem dX1_compile_151 : decode cX1_compile 151 = .ok (.bipush 28, 2) := dk_16 28 (dk_at dksX1_compile_6 12 rfl rfl)
theorem dX1_compile_153 : decode cX1_compile 153 = .ok (.if_icmp .ne 8, 3) := dk_160 0 8 (dk_at dksX1_compile_6 14 rfl rfl)
theorem dX1_compile_156 : decode cX1_compile 156 = .ok (.aload_n 0, 1) := dk_42 (dk_at dksX1_compile_6 17 rfl rfl)
theorem dX1_compile_157 : decode cX1_compile 157 = .ok (.iload_n 2, 1) := dk_28 (dk_at dksX1_compile_6 18 rfl rfl)
theorem dX1_compile_158 : decode cX1_compile 158 = .ok (.invokevirtual 158, 3) := dk_182 0 158 (dk_at dksX1_compile_6 19 rfl rfl)
theorem dX1_compile_161 : decode cX1_compile 161 = .ok (.aload_n 0, 1) := dk_42 (dk_at dksX1_compile_6 22 rfl rfl)
theorem dX1_compile_162 : decode cX1_compile 162 = .ok (.getfield 29, 3) := dk_180 0 29 (dk_at dksX1_compile_7 0 rfl rfl)
theorem dX1_compile_165 : decode cX1_compile 165 = .ok (.iload_n 2, 1) := dk_28 (dk_at dksX1_compile_7 3 rfl rfl)
theorem dX1_compile_166 : decode cX1_compile 166 = .ok (.invokevirtual 161, 3) := dk_182 0 161 (dk_at dksX1_compile_7 4 rfl rfl)
theorem dX1_compile_169 : decode cX1_compile 169 = .ok (.istore_n 2, 1) := dk_61 (dk_at dksX1_compile_7 7 rfl rfl)
theorem dX1_compile_170 : decode cX1_compile 170 = .ok (.goto (-32), 3) := dk_167 255 224 (dk_at dksX1_compile_7 8 rfl rfl)
theorem dX1_compile_173 : decode cX1_compile 173 = .ok (.aload_n 0, 1) := dk_42 (dk_at dksX1_compile_7 11 rfl rfl)
theorem dX1_compile_174 : decode cX1_compile 174 = .ok (.aload_n 0, 1) := dk_42 (dk_at dksX1_compile_7 12 rfl rfl)
theorem dX1_compile_175 : decode cX1_compile 175 = .ok (.getfield 29, 3) := dk_180 0 29 (dk_at dksX1_compile_7 13 rfl rfl)
theorem dX1_compile_178 : decode cX1_compile 178 = .ok (.getfield 164, 3) := dk_180 0 164 (dk_at dksX1_compile_7 16 rfl rfl)
theorem dX1_compile_181 : decode cX1_compile 181 = .ok (.putfield 110, 3) := dk_181 0 110 (dk_at dksX1_compile_7 19 rfl rfl)
theorem dX1_compile_184 : decode cX1_compile 184 = .ok (.aload_n 0, 1) := dk_42 (dk_at dksX1_compile_7 22 rfl rfl)
theorem dX1_compile_185 : decode cX1_compile 185 = .ok (.aload_n 0, 1) := dk_42 (dk_at dksX1_compile_7 23 rfl rfl)
theorem dX1_compile_186 : decode cX1_compile 186 = .ok (.getfield 22, 3) := dk_180 0 22 (dk_at dksX1_compile_8 0 rfl rfl)
theorem dX1_compile_189 : decode cX1_compile 189 = .ok (.invokevirtual 165, 3) := dk_182 0 165 (dk_at dksX1_compile_8 3 rfl rfl)
theorem dX1_compile_192 : decode cX1_compile 192 = .ok (.putfield 113, 3) := dk_181 0 113 (dk_at dksX1_compile_8 6 rfl rfl)
theorem dX1_compile_195 : decode cX1_compile 195 = .ok (.aload_n 0, 1) := dk_42 (dk_at dksX1_compile_8 9 rfl rfl)
theorem dX1_compile_196 : decode cX1_compile 196 = .ok (.getfield 107, 3) := dk_180 0 107 (dk_at dksX1_compile_8 10 rfl rfl)
theorem dX1_compile_199 : decode cX1_compile 199 = .ok (.ireturn, 1) := dk_172 (dk_at dksX1_compile_8 13 rfl rfl)
abbrev cX1_forget : ByteArray := prog_1_method_8_code
def yX1_forget : MethodName := ⟨RX1, "forget", "()V"⟩
def dkwX1_forget_0 : List UInt8 := [42, 3, 181, 0, 107, 42, 3, 181, 0, 110, 42, 3, 181, 0, 113, 177]
abbrev dktX1_forget_0 : List UInt8 := dkwX1_forget_0 ++ []
theorem dksX1_forget_0 : cX1_forget.data.toList.drop 0 = dktX1_forget_0 := by decide +kernel
theorem dX1_forget_0 : decode cX1_forget 0 = .ok (.aload_n 0, 1) := dk_42 (dk_at dksX1_forget_0 0 rfl rfl)
theorem dX1_forget_1 : decode cX1_forget 1 = .ok (.iconst 0, 1) := dk_3 (dk_at dksX1_forget_0 1 rfl rfl)
theorem dX1_forget_2 : decode cX1_forget 2 = .ok (.putfield 107, 3) := dk_181 0 107 (dk_at dksX1_forget_0 2 rfl rfl)
theorem dX1_forget_5 : decode cX1_forget 5 = .ok (.aload_n 0, 1) := dk_42 (dk_at dksX1_forget_0 5 rfl rfl)
theorem dX1_forget_6 : decode cX1_forget 6 = .ok (.iconst 0, 1) := dk_3 (dk_at dksX1_forget_0 6 rfl rfl)
theorem dX1_forget_7 : decode cX1_forget 7 = .ok (.putfield 110, 3) := dk_181 0 110 (dk_at dksX1_forget_0 7 rfl rfl)
theorem dX1_forget_10 : decode cX1_forget 10 = .ok (.aload_n 0, 1) := dk_42 (dk_at dksX1_forget_0 10 rfl rfl)
theorem dX1_forget_11 : decode cX1_forget 11 = .ok (.iconst 0, 1) := dk_3 (dk_at dksX1_forget_0 11 rfl rfl)
theorem dX1_forget_12 : decode cX1_forget 12 = .ok (.putfield 113, 3) := dk_181 0 113 (dk_at dksX1_forget_0 12 rfl rfl)
theorem dX1_forget_15 : decode cX1_forget 15 = .ok (.return_, 1) := dk_177 (dk_at dksX1_forget_0 15 rfl rfl)
abbrev cX1_tell : ByteArray := prog_1_method_9_code
def yX1_tell : MethodName := ⟨RX1, "tell", "(II)V"⟩
def dkwX1_tell_0 : List UInt8 := [42, 27, 181, 0, 115, 42, 28, 181, 0, 118, 27, 154, 0, 7, 4, 167, 0, 4, 3, 184, 0, 101, 177]
abbrev dktX1_tell_0 : List UInt8 := dkwX1_tell_0 ++ []
theorem dksX1_tell_0 : cX1_tell.data.toList.drop 0 = dktX1_tell_0 := by decide +kernel
theorem dX1_tell_0 : decode cX1_tell 0 = .ok (.aload_n 0, 1) := dk_42 (dk_at dksX1_tell_0 0 rfl rfl)
theorem dX1_tell_1 : decode cX1_tell 1 = .ok (.iload_n 1, 1) := dk_27 (dk_at dksX1_tell_0 1 rfl rfl)
theorem dX1_tell_2 : decode cX1_tell 2 = .ok (.putfield 115, 3) := dk_181 0 115 (dk_at dksX1_tell_0 2 rfl rfl)
theorem dX1_tell_5 : decode cX1_tell 5 = .ok (.aload_n 0, 1) := dk_42 (dk_at dksX1_tell_0 5 rfl rfl)
theorem dX1_tell_6 : decode cX1_tell 6 = .ok (.iload_n 2, 1) := dk_28 (dk_at dksX1_tell_0 6 rfl rfl)
theorem dX1_tell_7 : decode cX1_tell 7 = .ok (.putfield 118, 3) := dk_181 0 118 (dk_at dksX1_tell_0 7 rfl rfl)
theorem dX1_tell_10 : decode cX1_tell 10 = .ok (.iload_n 1, 1) := dk_27 (dk_at dksX1_tell_0 10 rfl rfl)
theorem dX1_tell_11 : decode cX1_tell 11 = .ok (.ifCond .ne 7, 3) := dk_154 0 7 (dk_at dksX1_tell_0 11 rfl rfl)
theorem dX1_tell_14 : decode cX1_tell 14 = .ok (.iconst 1, 1) := dk_4 (dk_at dksX1_tell_0 14 rfl rfl)
theorem dX1_tell_15 : decode cX1_tell 15 = .ok (.goto 4, 3) := dk_167 0 4 (dk_at dksX1_tell_0 15 rfl rfl)
theorem dX1_tell_18 : decode cX1_tell 18 = .ok (.iconst 0, 1) := dk_3 (dk_at dksX1_tell_0 18 rfl rfl)
theorem dX1_tell_19 : decode cX1_tell 19 = .ok (.invokestatic 101, 3) := dk_184 0 101 (dk_at dksX1_tell_0 19 rfl rfl)
theorem dX1_tell_22 : decode cX1_tell 22 = .ok (.return_, 1) := dk_177 (dk_at dksX1_tell_0 22 rfl rfl)
abbrev cX1_assign : ByteArray := prog_1_method_11_code
def yX1_assign : MethodName := ⟨RX1, "assign", "(I)V"⟩
def dkwX1_assign_2 : List UInt8 := [180, 0, 107, 27, 79, 42, 89, 180, 0, 107, 4, 96, 181, 0, 107, 177]
abbrev dktX1_assign_2 : List UInt8 := dkwX1_assign_2 ++ []
def dkwX1_assign_1 : List UInt8 := [180, 0, 68, 3, 44, 3, 42, 180, 0, 107, 184, 0, 166, 42, 44, 181, 0, 68, 42, 180, 0, 68, 42]
abbrev dktX1_assign_1 : List UInt8 := dkwX1_assign_1 ++ dktX1_assign_2
def dkwX1_assign_0 : List UInt8 := [42, 180, 0, 107, 42, 180, 0, 68, 190, 160, 0, 31, 5, 42, 180, 0, 107, 104, 188, 10, 77, 42]
abbrev dktX1_assign_0 : List UInt8 := dkwX1_assign_0 ++ dktX1_assign_1
theorem dksX1_assign_0 : cX1_assign.data.toList.drop 0 = dktX1_assign_0 := by decide +kernel
theorem dksX1_assign_1 : cX1_assign.data.toList.drop 22 = dktX1_assign_1 := dk_seg dksX1_assign_0 22 rfl rfl
theorem dksX1_assign_2 : cX1_assign.data.toList.drop 45 = dktX1_assign_2 := dk_seg dksX1_assign_1 23 rfl rfl
theorem dX1_assign_0 : decode cX1_assign 0 = .ok (.aload_n 0, 1) := dk_42 (dk_at dksX1_assign_0 0 rfl rfl)
theorem dX1_assign_1 : decode cX1_assign 1 = .ok (.getfield 107, 3) := dk_180 0 107 (dk_at dksX1_assign_0 1 rfl rfl)
theorem dX1_assign_4 : decode cX1_assign 4 = .ok (.aload_n 0, 1) := dk_42 (dk_at dksX1_assign_0 4 rfl rfl)
theorem dX1_assign_5 : decode cX1_assign 5 = .ok (.getfield 68, 3) := dk_180 0 68 (dk_at dksX1_assign_0 5 rfl rfl)
theorem dX1_assign_8 : decode cX1_assign 8 = .ok (.arraylength, 1) := dk_190 (dk_at dksX1_assign_0 8 rfl rfl)
theorem dX1_assign_9 : decode cX1_assign 9 = .ok (.if_icmp .ne 31, 3) := dk_160 0 31 (dk_at dksX1_assign_0 9 rfl rfl)
theorem dX1_assign_12 : decode cX1_assign 12 = .ok (.iconst 2, 1) := dk_5 (dk_at dksX1_assign_0 12 rfl rfl)
theorem dX1_assign_13 : decode cX1_assign 13 = .ok (.aload_n 0, 1) := dk_42 (dk_at dksX1_assign_0 13 rfl rfl)
theorem dX1_assign_14 : decode cX1_assign 14 = .ok (.getfield 107, 3) := dk_180 0 107 (dk_at dksX1_assign_0 14 rfl rfl)
theorem dX1_assign_17 : decode cX1_assign 17 = .ok (.imul, 1) := dk_104 (dk_at dksX1_assign_0 17 rfl rfl)
theorem dX1_assign_18 : decode cX1_assign 18 = .ok (.newarray .int, 2) := dk_188_10 (dk_at dksX1_assign_0 18 rfl rfl)
theorem dX1_assign_20 : decode cX1_assign 20 = .ok (.astore_n 2, 1) := dk_77 (dk_at dksX1_assign_0 20 rfl rfl)
theorem dX1_assign_21 : decode cX1_assign 21 = .ok (.aload_n 0, 1) := dk_42 (dk_at dksX1_assign_0 21 rfl rfl)
theorem dX1_assign_22 : decode cX1_assign 22 = .ok (.getfield 68, 3) := dk_180 0 68 (dk_at dksX1_assign_1 0 rfl rfl)
theorem dX1_assign_25 : decode cX1_assign 25 = .ok (.iconst 0, 1) := dk_3 (dk_at dksX1_assign_1 3 rfl rfl)
theorem dX1_assign_26 : decode cX1_assign 26 = .ok (.aload_n 2, 1) := dk_44 (dk_at dksX1_assign_1 4 rfl rfl)
theorem dX1_assign_27 : decode cX1_assign 27 = .ok (.iconst 0, 1) := dk_3 (dk_at dksX1_assign_1 5 rfl rfl)
theorem dX1_assign_28 : decode cX1_assign 28 = .ok (.aload_n 0, 1) := dk_42 (dk_at dksX1_assign_1 6 rfl rfl)
theorem dX1_assign_29 : decode cX1_assign 29 = .ok (.getfield 107, 3) := dk_180 0 107 (dk_at dksX1_assign_1 7 rfl rfl)
theorem dX1_assign_32 : decode cX1_assign 32 = .ok (.invokestatic 166, 3) := dk_184 0 166 (dk_at dksX1_assign_1 10 rfl rfl)
theorem dX1_assign_35 : decode cX1_assign 35 = .ok (.aload_n 0, 1) := dk_42 (dk_at dksX1_assign_1 13 rfl rfl)
theorem dX1_assign_36 : decode cX1_assign 36 = .ok (.aload_n 2, 1) := dk_44 (dk_at dksX1_assign_1 14 rfl rfl)
theorem dX1_assign_37 : decode cX1_assign 37 = .ok (.putfield 68, 3) := dk_181 0 68 (dk_at dksX1_assign_1 15 rfl rfl)
theorem dX1_assign_40 : decode cX1_assign 40 = .ok (.aload_n 0, 1) := dk_42 (dk_at dksX1_assign_1 18 rfl rfl)
theorem dX1_assign_41 : decode cX1_assign 41 = .ok (.getfield 68, 3) := dk_180 0 68 (dk_at dksX1_assign_1 19 rfl rfl)
theorem dX1_assign_44 : decode cX1_assign 44 = .ok (.aload_n 0, 1) := dk_42 (dk_at dksX1_assign_1 22 rfl rfl)
theorem dX1_assign_45 : decode cX1_assign 45 = .ok (.getfield 107, 3) := dk_180 0 107 (dk_at dksX1_assign_2 0 rfl rfl)
theorem dX1_assign_48 : decode cX1_assign 48 = .ok (.iload_n 1, 1) := dk_27 (dk_at dksX1_assign_2 3 rfl rfl)
theorem dX1_assign_49 : decode cX1_assign 49 = .ok (.iastore, 1) := dk_79 (dk_at dksX1_assign_2 4 rfl rfl)
theorem dX1_assign_50 : decode cX1_assign 50 = .ok (.aload_n 0, 1) := dk_42 (dk_at dksX1_assign_2 5 rfl rfl)
theorem dX1_assign_51 : decode cX1_assign 51 = .ok (.dup, 1) := dk_89 (dk_at dksX1_assign_2 6 rfl rfl)
theorem dX1_assign_52 : decode cX1_assign 52 = .ok (.getfield 107, 3) := dk_180 0 107 (dk_at dksX1_assign_2 7 rfl rfl)
theorem dX1_assign_55 : decode cX1_assign 55 = .ok (.iconst 1, 1) := dk_4 (dk_at dksX1_assign_2 10 rfl rfl)
theorem dX1_assign_56 : decode cX1_assign 56 = .ok (.iadd, 1) := dk_96 (dk_at dksX1_assign_2 11 rfl rfl)
theorem dX1_assign_57 : decode cX1_assign 57 = .ok (.putfield 107, 3) := dk_181 0 107 (dk_at dksX1_assign_2 12 rfl rfl)
theorem dX1_assign_60 : decode cX1_assign 60 = .ok (.return_, 1) := dk_177 (dk_at dksX1_assign_2 15 rfl rfl)
abbrev cX1_fault : ByteArray := prog_1_method_12_code
def yX1_fault : MethodName := ⟨RX1, "fault", "(I)I"⟩
def dkwX1_fault_0 : List UInt8 := [27, 5, 184, 0, 172, 27, 154, 0, 10, 42, 180, 0, 115, 167, 0, 7, 42, 180, 0, 118, 172]
abbrev dktX1_fault_0 : List UInt8 := dkwX1_fault_0 ++ []
theorem dksX1_fault_0 : cX1_fault.data.toList.drop 0 = dktX1_fault_0 := by decide +kernel
theorem dX1_fault_0 : decode cX1_fault 0 = .ok (.iload_n 1, 1) := dk_27 (dk_at dksX1_fault_0 0 rfl rfl)
theorem dX1_fault_1 : decode cX1_fault 1 = .ok (.iconst 2, 1) := dk_5 (dk_at dksX1_fault_0 1 rfl rfl)
theorem dX1_fault_2 : decode cX1_fault 2 = .ok (.invokestatic 172, 3) := dk_184 0 172 (dk_at dksX1_fault_0 2 rfl rfl)
theorem dX1_fault_5 : decode cX1_fault 5 = .ok (.iload_n 1, 1) := dk_27 (dk_at dksX1_fault_0 5 rfl rfl)
theorem dX1_fault_6 : decode cX1_fault 6 = .ok (.ifCond .ne 10, 3) := dk_154 0 10 (dk_at dksX1_fault_0 6 rfl rfl)
theorem dX1_fault_9 : decode cX1_fault 9 = .ok (.aload_n 0, 1) := dk_42 (dk_at dksX1_fault_0 9 rfl rfl)
theorem dX1_fault_10 : decode cX1_fault 10 = .ok (.getfield 115, 3) := dk_180 0 115 (dk_at dksX1_fault_0 10 rfl rfl)
theorem dX1_fault_13 : decode cX1_fault 13 = .ok (.goto 7, 3) := dk_167 0 7 (dk_at dksX1_fault_0 13 rfl rfl)
theorem dX1_fault_16 : decode cX1_fault 16 = .ok (.aload_n 0, 1) := dk_42 (dk_at dksX1_fault_0 16 rfl rfl)
theorem dX1_fault_17 : decode cX1_fault 17 = .ok (.getfield 118, 3) := dk_180 0 118 (dk_at dksX1_fault_0 17 rfl rfl)
theorem dX1_fault_20 : decode cX1_fault 20 = .ok (.ireturn, 1) := dk_172 (dk_at dksX1_fault_0 20 rfl rfl)
abbrev cX1_within : ByteArray := prog_1_method_2_code
def yX1_within : MethodName := ⟨RX1, "within", "(II)V"⟩
def dkwX1_within_0 : List UInt8 := [26, 155, 0, 8, 26, 27, 161, 0, 11, 187, 0, 76, 89, 183, 0, 78, 191, 177]
abbrev dktX1_within_0 : List UInt8 := dkwX1_within_0 ++ []
theorem dksX1_within_0 : cX1_within.data.toList.drop 0 = dktX1_within_0 := by decide +kernel
theorem dX1_within_0 : decode cX1_within 0 = .ok (.iload_n 0, 1) := dk_26 (dk_at dksX1_within_0 0 rfl rfl)
theorem dX1_within_1 : decode cX1_within 1 = .ok (.ifCond .lt 8, 3) := dk_155 0 8 (dk_at dksX1_within_0 1 rfl rfl)
theorem dX1_within_4 : decode cX1_within 4 = .ok (.iload_n 0, 1) := dk_26 (dk_at dksX1_within_0 4 rfl rfl)
theorem dX1_within_5 : decode cX1_within 5 = .ok (.iload_n 1, 1) := dk_27 (dk_at dksX1_within_0 5 rfl rfl)
theorem dX1_within_6 : decode cX1_within 6 = .ok (.if_icmp .lt 11, 3) := dk_161 0 11 (dk_at dksX1_within_0 6 rfl rfl)
theorem dX1_within_9 : decode cX1_within 9 = .ok (.new 76, 3) := dk_187 0 76 (dk_at dksX1_within_0 9 rfl rfl)
theorem dX1_within_12 : decode cX1_within 12 = .ok (.dup, 1) := dk_89 (dk_at dksX1_within_0 12 rfl rfl)
theorem dX1_within_13 : decode cX1_within 13 = .ok (.invokespecial 78, 3) := dk_183 0 78 (dk_at dksX1_within_0 13 rfl rfl)
theorem dX1_within_16 : decode cX1_within 16 = .ok (.athrow, 1) := dk_191 (dk_at dksX1_within_0 16 rfl rfl)
theorem dX1_within_17 : decode cX1_within 17 = .ok (.return_, 1) := dk_177 (dk_at dksX1_within_0 17 rfl rfl)
abbrev cX1_type : ByteArray := prog_1_method_17_code
def yX1_type : MethodName := ⟨RX1, "type", "(II)I"⟩
def dkwX1_type_6 : List UInt8 := [180, 0, 45, 29, 182, 0, 199, 182, 0, 207, 172]
abbrev dktX1_type_6 : List UInt8 := dkwX1_type_6 ++ []
def dkwX1_type_5 : List UInt8 := [21, 4, 154, 0, 7, 2, 167, 0, 15, 42, 180, 0, 45, 29, 3, 182, 0, 202, 18, 206, 126, 172, 42, 42]
abbrev dktX1_type_5 : List UInt8 := dkwX1_type_5 ++ dktX1_type_6
def dkwX1_type_4 : List UInt8 := [172, 21, 4, 154, 0, 7, 2, 167, 0, 15, 42, 180, 0, 45, 29, 3, 182, 0, 202, 16, 28, 122, 172]
abbrev dktX1_type_4 : List UInt8 := dkwX1_type_4 ++ dktX1_type_5
def dkwX1_type_3 : List UInt8 := [42, 27, 182, 0, 196, 172, 42, 180, 0, 29, 42, 180, 0, 45, 29, 182, 0, 199, 182, 0, 154, 172, 21, 4]
abbrev dktX1_type_3 : List UInt8 := dkwX1_type_3 ++ dktX1_type_4
def dkwX1_type_2 : List UInt8 := [170, 0, 0, 0, 102, 0, 0, 0, 0, 0, 0, 0, 4, 0, 0, 0, 33, 0, 0, 0, 39, 0, 0, 0, 55, 0, 0, 0, 58, 0, 0, 0, 80]
abbrev dktX1_type_2 : List UInt8 := dkwX1_type_2 ++ dktX1_type_3
def dkwX1_type_1 : List UInt8 := [29, 182, 0, 193, 54, 4, 28]
abbrev dktX1_type_1 : List UInt8 := dkwX1_type_1 ++ dktX1_type_2
def dkwX1_type_0 : List UInt8 := [27, 42, 180, 0, 107, 184, 0, 172, 28, 16, 6, 184, 0, 172, 42, 27, 182, 0, 190, 62, 42, 180, 0, 45]
abbrev dktX1_type_0 : List UInt8 := dkwX1_type_0 ++ dktX1_type_1
theorem dksX1_type_0 : cX1_type.data.toList.drop 0 = dktX1_type_0 := by decide +kernel
theorem dksX1_type_1 : cX1_type.data.toList.drop 24 = dktX1_type_1 := dk_seg dksX1_type_0 24 rfl rfl
theorem dksX1_type_2 : cX1_type.data.toList.drop 31 = dktX1_type_2 := dk_seg dksX1_type_1 7 rfl rfl
theorem dksX1_type_3 : cX1_type.data.toList.drop 64 = dktX1_type_3 := dk_seg dksX1_type_2 33 rfl rfl
theorem dksX1_type_4 : cX1_type.data.toList.drop 88 = dktX1_type_4 := dk_seg dksX1_type_3 24 rfl rfl
theorem dksX1_type_5 : cX1_type.data.toList.drop 111 = dktX1_type_5 := dk_seg dksX1_type_4 23 rfl rfl
theorem dksX1_type_6 : cX1_type.data.toList.drop 135 = dktX1_type_6 := dk_seg dksX1_type_5 24 rfl rfl
theorem dX1_type_0 : decode cX1_type 0 = .ok (.iload_n 1, 1) := dk_27 (dk_at dksX1_type_0 0 rfl rfl)
theorem dX1_type_1 : decode cX1_type 1 = .ok (.aload_n 0, 1) := dk_42 (dk_at dksX1_type_0 1 rfl rfl)
theorem dX1_type_2 : decode cX1_type 2 = .ok (.getfield 107, 3) := dk_180 0 107 (dk_at dksX1_type_0 2 rfl rfl)
theorem dX1_type_5 : decode cX1_type 5 = .ok (.invokestatic 172, 3) := dk_184 0 172 (dk_at dksX1_type_0 5 rfl rfl)
theorem dX1_type_8 : decode cX1_type 8 = .ok (.iload_n 2, 1) := dk_28 (dk_at dksX1_type_0 8 rfl rfl)
theorem dX1_type_9 : decode cX1_type 9 = .ok (.bipush 6, 2) := dk_16 6 (dk_at dksX1_type_0 9 rfl rfl)
theorem dX1_type_11 : decode cX1_type 11 = .ok (.invokestatic 172, 3) := dk_184 0 172 (dk_at dksX1_type_0 11 rfl rfl)
theorem dX1_type_14 : decode cX1_type 14 = .ok (.aload_n 0, 1) := dk_42 (dk_at dksX1_type_0 14 rfl rfl)
theorem dX1_type_15 : decode cX1_type 15 = .ok (.iload_n 1, 1) := dk_27 (dk_at dksX1_type_0 15 rfl rfl)
theorem dX1_type_16 : decode cX1_type 16 = .ok (.invokevirtual 190, 3) := dk_182 0 190 (dk_at dksX1_type_0 16 rfl rfl)
theorem dX1_type_19 : decode cX1_type 19 = .ok (.istore_n 3, 1) := dk_62 (dk_at dksX1_type_0 19 rfl rfl)
theorem dX1_type_20 : decode cX1_type 20 = .ok (.aload_n 0, 1) := dk_42 (dk_at dksX1_type_0 20 rfl rfl)
theorem dX1_type_21 : decode cX1_type 21 = .ok (.getfield 45, 3) := dk_180 0 45 (dk_at dksX1_type_0 21 rfl rfl)
theorem dX1_type_24 : decode cX1_type 24 = .ok (.iload_n 3, 1) := dk_29 (dk_at dksX1_type_1 0 rfl rfl)
theorem dX1_type_25 : decode cX1_type 25 = .ok (.invokevirtual 193, 3) := dk_182 0 193 (dk_at dksX1_type_1 1 rfl rfl)
theorem dX1_type_28 : decode cX1_type 28 = .ok (.istore 4, 2) := dk_54 4 (dk_at dksX1_type_1 4 rfl rfl)
theorem dX1_type_30 : decode cX1_type 30 = .ok (.iload_n 2, 1) := dk_28 (dk_at dksX1_type_1 6 rfl rfl)
theorem dX1_type_31 : decode cX1_type 31 = .ok (.tableswitch 102 0 4 #[33, 39, 55, 58, 80], 33) := by decide +kernel
theorem dX1_type_64 : decode cX1_type 64 = .ok (.aload_n 0, 1) := dk_42 (dk_at dksX1_type_3 0 rfl rfl)
theorem dX1_type_65 : decode cX1_type 65 = .ok (.iload_n 1, 1) := dk_27 (dk_at dksX1_type_3 1 rfl rfl)
theorem dX1_type_66 : decode cX1_type 66 = .ok (.invokevirtual 196, 3) := dk_182 0 196 (dk_at dksX1_type_3 2 rfl rfl)
theorem dX1_type_69 : decode cX1_type 69 = .ok (.ireturn, 1) := dk_172 (dk_at dksX1_type_3 5 rfl rfl)
theorem dX1_type_70 : decode cX1_type 70 = .ok (.aload_n 0, 1) := dk_42 (dk_at dksX1_type_3 6 rfl rfl)
theorem dX1_type_71 : decode cX1_type 71 = .ok (.getfield 29, 3) := dk_180 0 29 (dk_at dksX1_type_3 7 rfl rfl)
theorem dX1_type_74 : decode cX1_type 74 = .ok (.aload_n 0, 1) := dk_42 (dk_at dksX1_type_3 10 rfl rfl)
theorem dX1_type_75 : decode cX1_type 75 = .ok (.getfield 45, 3) := dk_180 0 45 (dk_at dksX1_type_3 11 rfl rfl)
theorem dX1_type_78 : decode cX1_type 78 = .ok (.iload_n 3, 1) := dk_29 (dk_at dksX1_type_3 14 rfl rfl)
theorem dX1_type_79 : decode cX1_type 79 = .ok (.invokevirtual 199, 3) := dk_182 0 199 (dk_at dksX1_type_3 15 rfl rfl)
theorem dX1_type_82 : decode cX1_type 82 = .ok (.invokevirtual 154, 3) := dk_182 0 154 (dk_at dksX1_type_3 18 rfl rfl)
theorem dX1_type_85 : decode cX1_type 85 = .ok (.ireturn, 1) := dk_172 (dk_at dksX1_type_3 21 rfl rfl)
theorem dX1_type_86 : decode cX1_type 86 = .ok (.iload 4, 2) := dk_21 4 (dk_at dksX1_type_3 22 rfl rfl)
theorem dX1_type_88 : decode cX1_type 88 = .ok (.ireturn, 1) := dk_172 (dk_at dksX1_type_4 0 rfl rfl)
theorem dX1_type_89 : decode cX1_type 89 = .ok (.iload 4, 2) := dk_21 4 (dk_at dksX1_type_4 1 rfl rfl)
theorem dX1_type_91 : decode cX1_type 91 = .ok (.ifCond .ne 7, 3) := dk_154 0 7 (dk_at dksX1_type_4 3 rfl rfl)
theorem dX1_type_94 : decode cX1_type 94 = .ok (.iconst (-1), 1) := dk_2 (dk_at dksX1_type_4 6 rfl rfl)
theorem dX1_type_95 : decode cX1_type 95 = .ok (.goto 15, 3) := dk_167 0 15 (dk_at dksX1_type_4 7 rfl rfl)
theorem dX1_type_98 : decode cX1_type 98 = .ok (.aload_n 0, 1) := dk_42 (dk_at dksX1_type_4 10 rfl rfl)
theorem dX1_type_99 : decode cX1_type 99 = .ok (.getfield 45, 3) := dk_180 0 45 (dk_at dksX1_type_4 11 rfl rfl)
theorem dX1_type_102 : decode cX1_type 102 = .ok (.iload_n 3, 1) := dk_29 (dk_at dksX1_type_4 14 rfl rfl)
theorem dX1_type_103 : decode cX1_type 103 = .ok (.iconst 0, 1) := dk_3 (dk_at dksX1_type_4 15 rfl rfl)
theorem dX1_type_104 : decode cX1_type 104 = .ok (.invokevirtual 202, 3) := dk_182 0 202 (dk_at dksX1_type_4 16 rfl rfl)
theorem dX1_type_107 : decode cX1_type 107 = .ok (.bipush 28, 2) := dk_16 28 (dk_at dksX1_type_4 19 rfl rfl)
theorem dX1_type_109 : decode cX1_type 109 = .ok (.ishr, 1) := dk_122 (dk_at dksX1_type_4 21 rfl rfl)
theorem dX1_type_110 : decode cX1_type 110 = .ok (.ireturn, 1) := dk_172 (dk_at dksX1_type_4 22 rfl rfl)
theorem dX1_type_111 : decode cX1_type 111 = .ok (.iload 4, 2) := dk_21 4 (dk_at dksX1_type_5 0 rfl rfl)
theorem dX1_type_113 : decode cX1_type 113 = .ok (.ifCond .ne 7, 3) := dk_154 0 7 (dk_at dksX1_type_5 2 rfl rfl)
theorem dX1_type_116 : decode cX1_type 116 = .ok (.iconst (-1), 1) := dk_2 (dk_at dksX1_type_5 5 rfl rfl)
theorem dX1_type_117 : decode cX1_type 117 = .ok (.goto 15, 3) := dk_167 0 15 (dk_at dksX1_type_5 6 rfl rfl)
theorem dX1_type_120 : decode cX1_type 120 = .ok (.aload_n 0, 1) := dk_42 (dk_at dksX1_type_5 9 rfl rfl)
theorem dX1_type_121 : decode cX1_type 121 = .ok (.getfield 45, 3) := dk_180 0 45 (dk_at dksX1_type_5 10 rfl rfl)
theorem dX1_type_124 : decode cX1_type 124 = .ok (.iload_n 3, 1) := dk_29 (dk_at dksX1_type_5 13 rfl rfl)
theorem dX1_type_125 : decode cX1_type 125 = .ok (.iconst 0, 1) := dk_3 (dk_at dksX1_type_5 14 rfl rfl)
theorem dX1_type_126 : decode cX1_type 126 = .ok (.invokevirtual 202, 3) := dk_182 0 202 (dk_at dksX1_type_5 15 rfl rfl)
theorem dX1_type_129 : decode cX1_type 129 = .ok (.ldc 206, 2) := dk_18 206 (dk_at dksX1_type_5 18 rfl rfl)
theorem dX1_type_131 : decode cX1_type 131 = .ok (.iand, 1) := dk_126 (dk_at dksX1_type_5 20 rfl rfl)
theorem dX1_type_132 : decode cX1_type 132 = .ok (.ireturn, 1) := dk_172 (dk_at dksX1_type_5 21 rfl rfl)
theorem dX1_type_133 : decode cX1_type 133 = .ok (.aload_n 0, 1) := dk_42 (dk_at dksX1_type_5 22 rfl rfl)
theorem dX1_type_134 : decode cX1_type 134 = .ok (.aload_n 0, 1) := dk_42 (dk_at dksX1_type_5 23 rfl rfl)
theorem dX1_type_135 : decode cX1_type 135 = .ok (.getfield 45, 3) := dk_180 0 45 (dk_at dksX1_type_6 0 rfl rfl)
theorem dX1_type_138 : decode cX1_type 138 = .ok (.iload_n 3, 1) := dk_29 (dk_at dksX1_type_6 3 rfl rfl)
theorem dX1_type_139 : decode cX1_type 139 = .ok (.invokevirtual 199, 3) := dk_182 0 199 (dk_at dksX1_type_6 4 rfl rfl)
theorem dX1_type_142 : decode cX1_type 142 = .ok (.invokevirtual 207, 3) := dk_182 0 207 (dk_at dksX1_type_6 7 rfl rfl)
theorem dX1_type_145 : decode cX1_type 145 = .ok (.ireturn, 1) := dk_172 (dk_at dksX1_type_6 10 rfl rfl)
abbrev cX1_typeOf : ByteArray := prog_1_method_13_code
def yX1_typeOf : MethodName := ⟨RX1, "typeOf", "(I)I"⟩
def dkwX1_typeOf_0 : List UInt8 := [42, 180, 0, 29, 42, 180, 0, 68, 27, 46, 182, 0, 175, 172]
abbrev dktX1_typeOf_0 : List UInt8 := dkwX1_typeOf_0 ++ []
theorem dksX1_typeOf_0 : cX1_typeOf.data.toList.drop 0 = dktX1_typeOf_0 := by decide +kernel
theorem dX1_typeOf_0 : decode cX1_typeOf 0 = .ok (.aload_n 0, 1) := dk_42 (dk_at dksX1_typeOf_0 0 rfl rfl)
theorem dX1_typeOf_1 : decode cX1_typeOf 1 = .ok (.getfield 29, 3) := dk_180 0 29 (dk_at dksX1_typeOf_0 1 rfl rfl)
theorem dX1_typeOf_4 : decode cX1_typeOf 4 = .ok (.aload_n 0, 1) := dk_42 (dk_at dksX1_typeOf_0 4 rfl rfl)
theorem dX1_typeOf_5 : decode cX1_typeOf 5 = .ok (.getfield 68, 3) := dk_180 0 68 (dk_at dksX1_typeOf_0 5 rfl rfl)
theorem dX1_typeOf_8 : decode cX1_typeOf 8 = .ok (.iload_n 1, 1) := dk_27 (dk_at dksX1_typeOf_0 8 rfl rfl)
theorem dX1_typeOf_9 : decode cX1_typeOf 9 = .ok (.iaload, 1) := dk_46 (dk_at dksX1_typeOf_0 9 rfl rfl)
theorem dX1_typeOf_10 : decode cX1_typeOf 10 = .ok (.invokevirtual 175, 3) := dk_182 0 175 (dk_at dksX1_typeOf_0 10 rfl rfl)
theorem dX1_typeOf_13 : decode cX1_typeOf 13 = .ok (.ireturn, 1) := dk_172 (dk_at dksX1_typeOf_0 13 rfl rfl)
abbrev cX1_nameLength : ByteArray := prog_1_method_15_code
def yX1_nameLength : MethodName := ⟨RX1, "nameLength", "(I)I"⟩
def dkwX1_nameLength_1 : List UInt8 := [182, 0, 187, 100, 172]
abbrev dktX1_nameLength_1 : List UInt8 := dkwX1_nameLength_1 ++ []
def dkwX1_nameLength_0 : List UInt8 := [42, 180, 0, 22, 42, 180, 0, 29, 42, 180, 0, 68, 27, 46, 182, 0, 178, 182, 0, 184, 42, 27]
abbrev dktX1_nameLength_0 : List UInt8 := dkwX1_nameLength_0 ++ dktX1_nameLength_1
theorem dksX1_nameLength_0 : cX1_nameLength.data.toList.drop 0 = dktX1_nameLength_0 := by decide +kernel
theorem dksX1_nameLength_1 : cX1_nameLength.data.toList.drop 22 = dktX1_nameLength_1 := dk_seg dksX1_nameLength_0 22 rfl rfl
theorem dX1_nameLength_0 : decode cX1_nameLength 0 = .ok (.aload_n 0, 1) := dk_42 (dk_at dksX1_nameLength_0 0 rfl rfl)
theorem dX1_nameLength_1 : decode cX1_nameLength 1 = .ok (.getfield 22, 3) := dk_180 0 22 (dk_at dksX1_nameLength_0 1 rfl rfl)
theorem dX1_nameLength_4 : decode cX1_nameLength 4 = .ok (.aload_n 0, 1) := dk_42 (dk_at dksX1_nameLength_0 4 rfl rfl)
theorem dX1_nameLength_5 : decode cX1_nameLength 5 = .ok (.getfield 29, 3) := dk_180 0 29 (dk_at dksX1_nameLength_0 5 rfl rfl)
theorem dX1_nameLength_8 : decode cX1_nameLength 8 = .ok (.aload_n 0, 1) := dk_42 (dk_at dksX1_nameLength_0 8 rfl rfl)
theorem dX1_nameLength_9 : decode cX1_nameLength 9 = .ok (.getfield 68, 3) := dk_180 0 68 (dk_at dksX1_nameLength_0 9 rfl rfl)
theorem dX1_nameLength_12 : decode cX1_nameLength 12 = .ok (.iload_n 1, 1) := dk_27 (dk_at dksX1_nameLength_0 12 rfl rfl)
theorem dX1_nameLength_13 : decode cX1_nameLength 13 = .ok (.iaload, 1) := dk_46 (dk_at dksX1_nameLength_0 13 rfl rfl)
theorem dX1_nameLength_14 : decode cX1_nameLength 14 = .ok (.invokevirtual 178, 3) := dk_182 0 178 (dk_at dksX1_nameLength_0 14 rfl rfl)
theorem dX1_nameLength_17 : decode cX1_nameLength 17 = .ok (.invokevirtual 184, 3) := dk_182 0 184 (dk_at dksX1_nameLength_0 17 rfl rfl)
theorem dX1_nameLength_20 : decode cX1_nameLength 20 = .ok (.aload_n 0, 1) := dk_42 (dk_at dksX1_nameLength_0 20 rfl rfl)
theorem dX1_nameLength_21 : decode cX1_nameLength 21 = .ok (.iload_n 1, 1) := dk_27 (dk_at dksX1_nameLength_0 21 rfl rfl)
theorem dX1_nameLength_22 : decode cX1_nameLength 22 = .ok (.invokevirtual 187, 3) := dk_182 0 187 (dk_at dksX1_nameLength_1 0 rfl rfl)
theorem dX1_nameLength_25 : decode cX1_nameLength 25 = .ok (.isub, 1) := dk_100 (dk_at dksX1_nameLength_1 3 rfl rfl)
theorem dX1_nameLength_26 : decode cX1_nameLength 26 = .ok (.ireturn, 1) := dk_172 (dk_at dksX1_nameLength_1 4 rfl rfl)
abbrev cX1_nameFrom : ByteArray := prog_1_method_14_code
def yX1_nameFrom : MethodName := ⟨RX1, "nameFrom", "(I)I"⟩
def dkwX1_nameFrom_0 : List UInt8 := [42, 180, 0, 22, 42, 180, 0, 29, 42, 180, 0, 68, 27, 46, 182, 0, 178, 182, 0, 181, 172]
abbrev dktX1_nameFrom_0 : List UInt8 := dkwX1_nameFrom_0 ++ []
theorem dksX1_nameFrom_0 : cX1_nameFrom.data.toList.drop 0 = dktX1_nameFrom_0 := by decide +kernel
theorem dX1_nameFrom_0 : decode cX1_nameFrom 0 = .ok (.aload_n 0, 1) := dk_42 (dk_at dksX1_nameFrom_0 0 rfl rfl)
theorem dX1_nameFrom_1 : decode cX1_nameFrom 1 = .ok (.getfield 22, 3) := dk_180 0 22 (dk_at dksX1_nameFrom_0 1 rfl rfl)
theorem dX1_nameFrom_4 : decode cX1_nameFrom 4 = .ok (.aload_n 0, 1) := dk_42 (dk_at dksX1_nameFrom_0 4 rfl rfl)
theorem dX1_nameFrom_5 : decode cX1_nameFrom 5 = .ok (.getfield 29, 3) := dk_180 0 29 (dk_at dksX1_nameFrom_0 5 rfl rfl)
theorem dX1_nameFrom_8 : decode cX1_nameFrom 8 = .ok (.aload_n 0, 1) := dk_42 (dk_at dksX1_nameFrom_0 8 rfl rfl)
theorem dX1_nameFrom_9 : decode cX1_nameFrom 9 = .ok (.getfield 68, 3) := dk_180 0 68 (dk_at dksX1_nameFrom_0 9 rfl rfl)
theorem dX1_nameFrom_12 : decode cX1_nameFrom 12 = .ok (.iload_n 1, 1) := dk_27 (dk_at dksX1_nameFrom_0 12 rfl rfl)
theorem dX1_nameFrom_13 : decode cX1_nameFrom 13 = .ok (.iaload, 1) := dk_46 (dk_at dksX1_nameFrom_0 13 rfl rfl)
theorem dX1_nameFrom_14 : decode cX1_nameFrom 14 = .ok (.invokevirtual 178, 3) := dk_182 0 178 (dk_at dksX1_nameFrom_0 14 rfl rfl)
theorem dX1_nameFrom_17 : decode cX1_nameFrom 17 = .ok (.invokevirtual 181, 3) := dk_182 0 181 (dk_at dksX1_nameFrom_0 17 rfl rfl)
theorem dX1_nameFrom_20 : decode cX1_nameFrom 20 = .ok (.ireturn, 1) := dk_172 (dk_at dksX1_nameFrom_0 20 rfl rfl)
abbrev cX1_parts : ByteArray := prog_1_method_16_code
def yX1_parts : MethodName := ⟨RX1, "parts", "(I)I"⟩
def dkwX1_parts_2 : List UInt8 := [180, 0, 29, 29, 182, 0, 161, 62, 167, 255, 239, 28, 172]
abbrev dktX1_parts_2 : List UInt8 := dkwX1_parts_2 ++ []
def dkwX1_parts_1 : List UInt8 := [16, 15, 159, 0, 32, 42, 180, 0, 29, 27, 182, 0, 175, 62, 29, 2, 159, 0, 18, 132, 2, 1, 42]
abbrev dktX1_parts_1 : List UInt8 := dkwX1_parts_1 ++ dktX1_parts_2
def dkwX1_parts_0 : List UInt8 := [3, 61, 42, 180, 0, 29, 27, 182, 0, 154, 16, 14, 159, 0, 45, 42, 180, 0, 29, 27, 182, 0, 154]
abbrev dktX1_parts_0 : List UInt8 := dkwX1_parts_0 ++ dktX1_parts_1
theorem dksX1_parts_0 : cX1_parts.data.toList.drop 0 = dktX1_parts_0 := by decide +kernel
theorem dksX1_parts_1 : cX1_parts.data.toList.drop 23 = dktX1_parts_1 := dk_seg dksX1_parts_0 23 rfl rfl
theorem dksX1_parts_2 : cX1_parts.data.toList.drop 46 = dktX1_parts_2 := dk_seg dksX1_parts_1 23 rfl rfl
theorem dX1_parts_0 : decode cX1_parts 0 = .ok (.iconst 0, 1) := dk_3 (dk_at dksX1_parts_0 0 rfl rfl)
theorem dX1_parts_1 : decode cX1_parts 1 = .ok (.istore_n 2, 1) := dk_61 (dk_at dksX1_parts_0 1 rfl rfl)
theorem dX1_parts_2 : decode cX1_parts 2 = .ok (.aload_n 0, 1) := dk_42 (dk_at dksX1_parts_0 2 rfl rfl)
theorem dX1_parts_3 : decode cX1_parts 3 = .ok (.getfield 29, 3) := dk_180 0 29 (dk_at dksX1_parts_0 3 rfl rfl)
theorem dX1_parts_6 : decode cX1_parts 6 = .ok (.iload_n 1, 1) := dk_27 (dk_at dksX1_parts_0 6 rfl rfl)
theorem dX1_parts_7 : decode cX1_parts 7 = .ok (.invokevirtual 154, 3) := dk_182 0 154 (dk_at dksX1_parts_0 7 rfl rfl)
theorem dX1_parts_10 : decode cX1_parts 10 = .ok (.bipush 14, 2) := dk_16 14 (dk_at dksX1_parts_0 10 rfl rfl)
theorem dX1_parts_12 : decode cX1_parts 12 = .ok (.if_icmp .eq 45, 3) := dk_159 0 45 (dk_at dksX1_parts_0 12 rfl rfl)
theorem dX1_parts_15 : decode cX1_parts 15 = .ok (.aload_n 0, 1) := dk_42 (dk_at dksX1_parts_0 15 rfl rfl)
theorem dX1_parts_16 : decode cX1_parts 16 = .ok (.getfield 29, 3) := dk_180 0 29 (dk_at dksX1_parts_0 16 rfl rfl)
theorem dX1_parts_19 : decode cX1_parts 19 = .ok (.iload_n 1, 1) := dk_27 (dk_at dksX1_parts_0 19 rfl rfl)
theorem dX1_parts_20 : decode cX1_parts 20 = .ok (.invokevirtual 154, 3) := dk_182 0 154 (dk_at dksX1_parts_0 20 rfl rfl)
theorem dX1_parts_23 : decode cX1_parts 23 = .ok (.bipush 15, 2) := dk_16 15 (dk_at dksX1_parts_1 0 rfl rfl)
theorem dX1_parts_25 : decode cX1_parts 25 = .ok (.if_icmp .eq 32, 3) := dk_159 0 32 (dk_at dksX1_parts_1 2 rfl rfl)
theorem dX1_parts_28 : decode cX1_parts 28 = .ok (.aload_n 0, 1) := dk_42 (dk_at dksX1_parts_1 5 rfl rfl)
theorem dX1_parts_29 : decode cX1_parts 29 = .ok (.getfield 29, 3) := dk_180 0 29 (dk_at dksX1_parts_1 6 rfl rfl)
theorem dX1_parts_32 : decode cX1_parts 32 = .ok (.iload_n 1, 1) := dk_27 (dk_at dksX1_parts_1 9 rfl rfl)
theorem dX1_parts_33 : decode cX1_parts 33 = .ok (.invokevirtual 175, 3) := dk_182 0 175 (dk_at dksX1_parts_1 10 rfl rfl)
theorem dX1_parts_36 : decode cX1_parts 36 = .ok (.istore_n 3, 1) := dk_62 (dk_at dksX1_parts_1 13 rfl rfl)
theorem dX1_parts_37 : decode cX1_parts 37 = .ok (.iload_n 3, 1) := dk_29 (dk_at dksX1_parts_1 14 rfl rfl)
theorem dX1_parts_38 : decode cX1_parts 38 = .ok (.iconst (-1), 1) := dk_2 (dk_at dksX1_parts_1 15 rfl rfl)
theorem dX1_parts_39 : decode cX1_parts 39 = .ok (.if_icmp .eq 18, 3) := dk_159 0 18 (dk_at dksX1_parts_1 16 rfl rfl)
theorem dX1_parts_42 : decode cX1_parts 42 = .ok (.iinc 2 1, 3) := dk_132 2 1 (dk_at dksX1_parts_1 19 rfl rfl)
theorem dX1_parts_45 : decode cX1_parts 45 = .ok (.aload_n 0, 1) := dk_42 (dk_at dksX1_parts_1 22 rfl rfl)
theorem dX1_parts_46 : decode cX1_parts 46 = .ok (.getfield 29, 3) := dk_180 0 29 (dk_at dksX1_parts_2 0 rfl rfl)
theorem dX1_parts_49 : decode cX1_parts 49 = .ok (.iload_n 3, 1) := dk_29 (dk_at dksX1_parts_2 3 rfl rfl)
theorem dX1_parts_50 : decode cX1_parts 50 = .ok (.invokevirtual 161, 3) := dk_182 0 161 (dk_at dksX1_parts_2 4 rfl rfl)
theorem dX1_parts_53 : decode cX1_parts 53 = .ok (.istore_n 3, 1) := dk_62 (dk_at dksX1_parts_2 7 rfl rfl)
theorem dX1_parts_54 : decode cX1_parts 54 = .ok (.goto (-17), 3) := dk_167 255 239 (dk_at dksX1_parts_2 8 rfl rfl)
theorem dX1_parts_57 : decode cX1_parts 57 = .ok (.iload_n 2, 1) := dk_28 (dk_at dksX1_parts_2 11 rfl rfl)
theorem dX1_parts_58 : decode cX1_parts 58 = .ok (.ireturn, 1) := dk_172 (dk_at dksX1_parts_2 12 rfl rfl)
abbrev cX1_name : ByteArray := prog_1_method_18_code
def yX1_name : MethodName := ⟨RX1, "name", "(II)I"⟩
def dkwX1_name_1 : List UInt8 := [182, 0, 187, 28, 96, 182, 0, 208, 172]
abbrev dktX1_name_1 : List UInt8 := dkwX1_name_1 ++ []
def dkwX1_name_0 : List UInt8 := [27, 42, 180, 0, 107, 184, 0, 172, 28, 42, 27, 182, 0, 196, 184, 0, 172, 42, 180, 0, 16, 42, 27]
abbrev dktX1_name_0 : List UInt8 := dkwX1_name_0 ++ dktX1_name_1
theorem dksX1_name_0 : cX1_name.data.toList.drop 0 = dktX1_name_0 := by decide +kernel
theorem dksX1_name_1 : cX1_name.data.toList.drop 23 = dktX1_name_1 := dk_seg dksX1_name_0 23 rfl rfl
theorem dX1_name_0 : decode cX1_name 0 = .ok (.iload_n 1, 1) := dk_27 (dk_at dksX1_name_0 0 rfl rfl)
theorem dX1_name_1 : decode cX1_name 1 = .ok (.aload_n 0, 1) := dk_42 (dk_at dksX1_name_0 1 rfl rfl)
theorem dX1_name_2 : decode cX1_name 2 = .ok (.getfield 107, 3) := dk_180 0 107 (dk_at dksX1_name_0 2 rfl rfl)
theorem dX1_name_5 : decode cX1_name 5 = .ok (.invokestatic 172, 3) := dk_184 0 172 (dk_at dksX1_name_0 5 rfl rfl)
theorem dX1_name_8 : decode cX1_name 8 = .ok (.iload_n 2, 1) := dk_28 (dk_at dksX1_name_0 8 rfl rfl)
theorem dX1_name_9 : decode cX1_name 9 = .ok (.aload_n 0, 1) := dk_42 (dk_at dksX1_name_0 9 rfl rfl)
theorem dX1_name_10 : decode cX1_name 10 = .ok (.iload_n 1, 1) := dk_27 (dk_at dksX1_name_0 10 rfl rfl)
theorem dX1_name_11 : decode cX1_name 11 = .ok (.invokevirtual 196, 3) := dk_182 0 196 (dk_at dksX1_name_0 11 rfl rfl)
theorem dX1_name_14 : decode cX1_name 14 = .ok (.invokestatic 172, 3) := dk_184 0 172 (dk_at dksX1_name_0 14 rfl rfl)
theorem dX1_name_17 : decode cX1_name 17 = .ok (.aload_n 0, 1) := dk_42 (dk_at dksX1_name_0 17 rfl rfl)
theorem dX1_name_18 : decode cX1_name 18 = .ok (.getfield 16, 3) := dk_180 0 16 (dk_at dksX1_name_0 18 rfl rfl)
theorem dX1_name_21 : decode cX1_name 21 = .ok (.aload_n 0, 1) := dk_42 (dk_at dksX1_name_0 21 rfl rfl)
theorem dX1_name_22 : decode cX1_name 22 = .ok (.iload_n 1, 1) := dk_27 (dk_at dksX1_name_0 22 rfl rfl)
theorem dX1_name_23 : decode cX1_name 23 = .ok (.invokevirtual 187, 3) := dk_182 0 187 (dk_at dksX1_name_1 0 rfl rfl)
theorem dX1_name_26 : decode cX1_name 26 = .ok (.iload_n 2, 1) := dk_28 (dk_at dksX1_name_1 3 rfl rfl)
theorem dX1_name_27 : decode cX1_name 27 = .ok (.iadd, 1) := dk_96 (dk_at dksX1_name_1 4 rfl rfl)
theorem dX1_name_28 : decode cX1_name 28 = .ok (.invokevirtual 208, 3) := dk_182 0 208 (dk_at dksX1_name_1 5 rfl rfl)
theorem dX1_name_31 : decode cX1_name 31 = .ok (.ireturn, 1) := dk_172 (dk_at dksX1_name_1 8 rfl rfl)
abbrev cX1_defaultSize : ByteArray := prog_1_method_19_code
def yX1_defaultSize : MethodName := ⟨RX1, "defaultSize", "(II)I"⟩
def dkwX1_defaultSize_5 : List UInt8 := [21, 4, 182, 0, 213, 42, 180, 0, 45, 21, 4, 182, 0, 216, 100, 167, 0, 4, 2, 172]
abbrev dktX1_defaultSize_5 : List UInt8 := dkwX1_defaultSize_5 ++ []
def dkwX1_defaultSize_4 : List UInt8 := [132, 5, 1, 167, 255, 236, 42, 180, 0, 29, 21, 4, 8, 182, 0, 211, 5, 160, 0, 25, 42, 180, 0, 45]
abbrev dktX1_defaultSize_4 : List UInt8 := dkwX1_defaultSize_4 ++ dktX1_defaultSize_5
def dkwX1_defaultSize_3 : List UInt8 := [54, 4, 3, 54, 5, 21, 5, 28, 162, 0, 20, 42, 180, 0, 29, 21, 4, 182, 0, 161, 54, 4]
abbrev dktX1_defaultSize_3 : List UInt8 := dkwX1_defaultSize_3 ++ dktX1_defaultSize_4
def dkwX1_defaultSize_2 : List UInt8 := [160, 0, 11, 42, 29, 182, 0, 207, 167, 0, 4, 3, 184, 0, 172, 42, 180, 0, 29, 29, 182, 0, 175]
abbrev dktX1_defaultSize_2 : List UInt8 := dkwX1_defaultSize_2 ++ dktX1_defaultSize_3
def dkwX1_defaultSize_1 : List UInt8 := [180, 0, 29, 29, 182, 0, 154, 16, 12, 159, 0, 16, 42, 180, 0, 29, 29, 182, 0, 154, 16, 13]
abbrev dktX1_defaultSize_1 : List UInt8 := dkwX1_defaultSize_1 ++ dktX1_defaultSize_2
def dkwX1_defaultSize_0 : List UInt8 := [27, 42, 180, 0, 107, 184, 0, 172, 42, 180, 0, 45, 42, 27, 182, 0, 190, 182, 0, 199, 62, 28, 42]
abbrev dktX1_defaultSize_0 : List UInt8 := dkwX1_defaultSize_0 ++ dktX1_defaultSize_1
theorem dksX1_defaultSize_0 : cX1_defaultSize.data.toList.drop 0 = dktX1_defaultSize_0 := by decide +kernel
theorem dksX1_defaultSize_1 : cX1_defaultSize.data.toList.drop 23 = dktX1_defaultSize_1 := dk_seg dksX1_defaultSize_0 23 rfl rfl
theorem dksX1_defaultSize_2 : cX1_defaultSize.data.toList.drop 45 = dktX1_defaultSize_2 := dk_seg dksX1_defaultSize_1 22 rfl rfl
theorem dksX1_defaultSize_3 : cX1_defaultSize.data.toList.drop 68 = dktX1_defaultSize_3 := dk_seg dksX1_defaultSize_2 23 rfl rfl
theorem dksX1_defaultSize_4 : cX1_defaultSize.data.toList.drop 90 = dktX1_defaultSize_4 := dk_seg dksX1_defaultSize_3 22 rfl rfl
theorem dksX1_defaultSize_5 : cX1_defaultSize.data.toList.drop 114 = dktX1_defaultSize_5 := dk_seg dksX1_defaultSize_4 24 rfl rfl
theorem dX1_defaultSize_0 : decode cX1_defaultSize 0 = .ok (.iload_n 1, 1) := dk_27 (dk_at dksX1_defaultSize_0 0 rfl rfl)
theorem dX1_defaultSize_1 : decode cX1_defaultSize 1 = .ok (.aload_n 0, 1) := dk_42 (dk_at dksX1_defaultSize_0 1 rfl rfl)
theorem dX1_defaultSize_2 : decode cX1_defaultSize 2 = .ok (.getfield 107, 3) := dk_180 0 107 (dk_at dksX1_defaultSize_0 2 rfl rfl)
theorem dX1_defaultSize_5 : decode cX1_defaultSize 5 = .ok (.invokestatic 172, 3) := dk_184 0 172 (dk_at dksX1_defaultSize_0 5 rfl rfl)
theorem dX1_defaultSize_8 : decode cX1_defaultSize 8 = .ok (.aload_n 0, 1) := dk_42 (dk_at dksX1_defaultSize_0 8 rfl rfl)
theorem dX1_defaultSize_9 : decode cX1_defaultSize 9 = .ok (.getfield 45, 3) := dk_180 0 45 (dk_at dksX1_defaultSize_0 9 rfl rfl)
theorem dX1_defaultSize_12 : decode cX1_defaultSize 12 = .ok (.aload_n 0, 1) := dk_42 (dk_at dksX1_defaultSize_0 12 rfl rfl)
theorem dX1_defaultSize_13 : decode cX1_defaultSize 13 = .ok (.iload_n 1, 1) := dk_27 (dk_at dksX1_defaultSize_0 13 rfl rfl)
theorem dX1_defaultSize_14 : decode cX1_defaultSize 14 = .ok (.invokevirtual 190, 3) := dk_182 0 190 (dk_at dksX1_defaultSize_0 14 rfl rfl)
theorem dX1_defaultSize_17 : decode cX1_defaultSize 17 = .ok (.invokevirtual 199, 3) := dk_182 0 199 (dk_at dksX1_defaultSize_0 17 rfl rfl)
theorem dX1_defaultSize_20 : decode cX1_defaultSize 20 = .ok (.istore_n 3, 1) := dk_62 (dk_at dksX1_defaultSize_0 20 rfl rfl)
theorem dX1_defaultSize_21 : decode cX1_defaultSize 21 = .ok (.iload_n 2, 1) := dk_28 (dk_at dksX1_defaultSize_0 21 rfl rfl)
theorem dX1_defaultSize_22 : decode cX1_defaultSize 22 = .ok (.aload_n 0, 1) := dk_42 (dk_at dksX1_defaultSize_0 22 rfl rfl)
theorem dX1_defaultSize_23 : decode cX1_defaultSize 23 = .ok (.getfield 29, 3) := dk_180 0 29 (dk_at dksX1_defaultSize_1 0 rfl rfl)
theorem dX1_defaultSize_26 : decode cX1_defaultSize 26 = .ok (.iload_n 3, 1) := dk_29 (dk_at dksX1_defaultSize_1 3 rfl rfl)
theorem dX1_defaultSize_27 : decode cX1_defaultSize 27 = .ok (.invokevirtual 154, 3) := dk_182 0 154 (dk_at dksX1_defaultSize_1 4 rfl rfl)
theorem dX1_defaultSize_30 : decode cX1_defaultSize 30 = .ok (.bipush 12, 2) := dk_16 12 (dk_at dksX1_defaultSize_1 7 rfl rfl)
theorem dX1_defaultSize_32 : decode cX1_defaultSize 32 = .ok (.if_icmp .eq 16, 3) := dk_159 0 16 (dk_at dksX1_defaultSize_1 9 rfl rfl)
theorem dX1_defaultSize_35 : decode cX1_defaultSize 35 = .ok (.aload_n 0, 1) := dk_42 (dk_at dksX1_defaultSize_1 12 rfl rfl)
theorem dX1_defaultSize_36 : decode cX1_defaultSize 36 = .ok (.getfield 29, 3) := dk_180 0 29 (dk_at dksX1_defaultSize_1 13 rfl rfl)
theorem dX1_defaultSize_39 : decode cX1_defaultSize 39 = .ok (.iload_n 3, 1) := dk_29 (dk_at dksX1_defaultSize_1 16 rfl rfl)
theorem dX1_defaultSize_40 : decode cX1_defaultSize 40 = .ok (.invokevirtual 154, 3) := dk_182 0 154 (dk_at dksX1_defaultSize_1 17 rfl rfl)
theorem dX1_defaultSize_43 : decode cX1_defaultSize 43 = .ok (.bipush 13, 2) := dk_16 13 (dk_at dksX1_defaultSize_1 20 rfl rfl)
theorem dX1_defaultSize_45 : decode cX1_defaultSize 45 = .ok (.if_icmp .ne 11, 3) := dk_160 0 11 (dk_at dksX1_defaultSize_2 0 rfl rfl)
theorem dX1_defaultSize_48 : decode cX1_defaultSize 48 = .ok (.aload_n 0, 1) := dk_42 (dk_at dksX1_defaultSize_2 3 rfl rfl)
theorem dX1_defaultSize_49 : decode cX1_defaultSize 49 = .ok (.iload_n 3, 1) := dk_29 (dk_at dksX1_defaultSize_2 4 rfl rfl)
theorem dX1_defaultSize_50 : decode cX1_defaultSize 50 = .ok (.invokevirtual 207, 3) := dk_182 0 207 (dk_at dksX1_defaultSize_2 5 rfl rfl)
theorem dX1_defaultSize_53 : decode cX1_defaultSize 53 = .ok (.goto 4, 3) := dk_167 0 4 (dk_at dksX1_defaultSize_2 8 rfl rfl)
theorem dX1_defaultSize_56 : decode cX1_defaultSize 56 = .ok (.iconst 0, 1) := dk_3 (dk_at dksX1_defaultSize_2 11 rfl rfl)
theorem dX1_defaultSize_57 : decode cX1_defaultSize 57 = .ok (.invokestatic 172, 3) := dk_184 0 172 (dk_at dksX1_defaultSize_2 12 rfl rfl)
theorem dX1_defaultSize_60 : decode cX1_defaultSize 60 = .ok (.aload_n 0, 1) := dk_42 (dk_at dksX1_defaultSize_2 15 rfl rfl)
theorem dX1_defaultSize_61 : decode cX1_defaultSize 61 = .ok (.getfield 29, 3) := dk_180 0 29 (dk_at dksX1_defaultSize_2 16 rfl rfl)
theorem dX1_defaultSize_64 : decode cX1_defaultSize 64 = .ok (.iload_n 3, 1) := dk_29 (dk_at dksX1_defaultSize_2 19 rfl rfl)
theorem dX1_defaultSize_65 : decode cX1_defaultSize 65 = .ok (.invokevirtual 175, 3) := dk_182 0 175 (dk_at dksX1_defaultSize_2 20 rfl rfl)
theorem dX1_defaultSize_68 : decode cX1_defaultSize 68 = .ok (.istore 4, 2) := dk_54 4 (dk_at dksX1_defaultSize_3 0 rfl rfl)
theorem dX1_defaultSize_70 : decode cX1_defaultSize 70 = .ok (.iconst 0, 1) := dk_3 (dk_at dksX1_defaultSize_3 2 rfl rfl)
theorem dX1_defaultSize_71 : decode cX1_defaultSize 71 = .ok (.istore 5, 2) := dk_54 5 (dk_at dksX1_defaultSize_3 3 rfl rfl)
theorem dX1_defaultSize_73 : decode cX1_defaultSize 73 = .ok (.iload 5, 2) := dk_21 5 (dk_at dksX1_defaultSize_3 5 rfl rfl)
theorem dX1_defaultSize_75 : decode cX1_defaultSize 75 = .ok (.iload_n 2, 1) := dk_28 (dk_at dksX1_defaultSize_3 7 rfl rfl)
theorem dX1_defaultSize_76 : decode cX1_defaultSize 76 = .ok (.if_icmp .ge 20, 3) := dk_162 0 20 (dk_at dksX1_defaultSize_3 8 rfl rfl)
theorem dX1_defaultSize_79 : decode cX1_defaultSize 79 = .ok (.aload_n 0, 1) := dk_42 (dk_at dksX1_defaultSize_3 11 rfl rfl)
theorem dX1_defaultSize_80 : decode cX1_defaultSize 80 = .ok (.getfield 29, 3) := dk_180 0 29 (dk_at dksX1_defaultSize_3 12 rfl rfl)
theorem dX1_defaultSize_83 : decode cX1_defaultSize 83 = .ok (.iload 4, 2) := dk_21 4 (dk_at dksX1_defaultSize_3 15 rfl rfl)
theorem dX1_defaultSize_85 : decode cX1_defaultSize 85 = .ok (.invokevirtual 161, 3) := dk_182 0 161 (dk_at dksX1_defaultSize_3 17 rfl rfl)
theorem dX1_defaultSize_88 : decode cX1_defaultSize 88 = .ok (.istore 4, 2) := dk_54 4 (dk_at dksX1_defaultSize_3 20 rfl rfl)
theorem dX1_defaultSize_90 : decode cX1_defaultSize 90 = .ok (.iinc 5 1, 3) := dk_132 5 1 (dk_at dksX1_defaultSize_4 0 rfl rfl)
theorem dX1_defaultSize_93 : decode cX1_defaultSize 93 = .ok (.goto (-20), 3) := dk_167 255 236 (dk_at dksX1_defaultSize_4 3 rfl rfl)
theorem dX1_defaultSize_96 : decode cX1_defaultSize 96 = .ok (.aload_n 0, 1) := dk_42 (dk_at dksX1_defaultSize_4 6 rfl rfl)
theorem dX1_defaultSize_97 : decode cX1_defaultSize 97 = .ok (.getfield 29, 3) := dk_180 0 29 (dk_at dksX1_defaultSize_4 7 rfl rfl)
theorem dX1_defaultSize_100 : decode cX1_defaultSize 100 = .ok (.iload 4, 2) := dk_21 4 (dk_at dksX1_defaultSize_4 10 rfl rfl)
theorem dX1_defaultSize_102 : decode cX1_defaultSize 102 = .ok (.iconst 5, 1) := dk_8 (dk_at dksX1_defaultSize_4 12 rfl rfl)
theorem dX1_defaultSize_103 : decode cX1_defaultSize 103 = .ok (.invokevirtual 211, 3) := dk_182 0 211 (dk_at dksX1_defaultSize_4 13 rfl rfl)
theorem dX1_defaultSize_106 : decode cX1_defaultSize 106 = .ok (.iconst 2, 1) := dk_5 (dk_at dksX1_defaultSize_4 16 rfl rfl)
theorem dX1_defaultSize_107 : decode cX1_defaultSize 107 = .ok (.if_icmp .ne 25, 3) := dk_160 0 25 (dk_at dksX1_defaultSize_4 17 rfl rfl)
theorem dX1_defaultSize_110 : decode cX1_defaultSize 110 = .ok (.aload_n 0, 1) := dk_42 (dk_at dksX1_defaultSize_4 20 rfl rfl)
theorem dX1_defaultSize_111 : decode cX1_defaultSize 111 = .ok (.getfield 45, 3) := dk_180 0 45 (dk_at dksX1_defaultSize_4 21 rfl rfl)
theorem dX1_defaultSize_114 : decode cX1_defaultSize 114 = .ok (.iload 4, 2) := dk_21 4 (dk_at dksX1_defaultSize_5 0 rfl rfl)
theorem dX1_defaultSize_116 : decode cX1_defaultSize 116 = .ok (.invokevirtual 213, 3) := dk_182 0 213 (dk_at dksX1_defaultSize_5 2 rfl rfl)
theorem dX1_defaultSize_119 : decode cX1_defaultSize 119 = .ok (.aload_n 0, 1) := dk_42 (dk_at dksX1_defaultSize_5 5 rfl rfl)
theorem dX1_defaultSize_120 : decode cX1_defaultSize 120 = .ok (.getfield 45, 3) := dk_180 0 45 (dk_at dksX1_defaultSize_5 6 rfl rfl)
theorem dX1_defaultSize_123 : decode cX1_defaultSize 123 = .ok (.iload 4, 2) := dk_21 4 (dk_at dksX1_defaultSize_5 9 rfl rfl)
theorem dX1_defaultSize_125 : decode cX1_defaultSize 125 = .ok (.invokevirtual 216, 3) := dk_182 0 216 (dk_at dksX1_defaultSize_5 11 rfl rfl)
theorem dX1_defaultSize_128 : decode cX1_defaultSize 128 = .ok (.isub, 1) := dk_100 (dk_at dksX1_defaultSize_5 14 rfl rfl)
theorem dX1_defaultSize_129 : decode cX1_defaultSize 129 = .ok (.goto 4, 3) := dk_167 0 4 (dk_at dksX1_defaultSize_5 15 rfl rfl)
theorem dX1_defaultSize_132 : decode cX1_defaultSize 132 = .ok (.iconst (-1), 1) := dk_2 (dk_at dksX1_defaultSize_5 18 rfl rfl)
theorem dX1_defaultSize_133 : decode cX1_defaultSize 133 = .ok (.ireturn, 1) := dk_172 (dk_at dksX1_defaultSize_5 19 rfl rfl)
abbrev cX1_limit : ByteArray := prog_1_method_20_code
def yX1_limit : MethodName := ⟨RX1, "limit", "(I)I"⟩
def dkwX1_limit_1 : List UInt8 := [61, 42, 27, 181, 0, 72, 28, 172]
abbrev dktX1_limit_1 : List UInt8 := dkwX1_limit_1 ++ []
def dkwX1_limit_0 : List UInt8 := [27, 7, 161, 0, 14, 27, 17, 4, 0, 163, 0, 7, 4, 167, 0, 4, 3, 184, 0, 101, 42, 180, 0, 72]
abbrev dktX1_limit_0 : List UInt8 := dkwX1_limit_0 ++ dktX1_limit_1
theorem dksX1_limit_0 : cX1_limit.data.toList.drop 0 = dktX1_limit_0 := by decide +kernel
theorem dksX1_limit_1 : cX1_limit.data.toList.drop 24 = dktX1_limit_1 := dk_seg dksX1_limit_0 24 rfl rfl
theorem dX1_limit_0 : decode cX1_limit 0 = .ok (.iload_n 1, 1) := dk_27 (dk_at dksX1_limit_0 0 rfl rfl)
theorem dX1_limit_1 : decode cX1_limit 1 = .ok (.iconst 4, 1) := dk_7 (dk_at dksX1_limit_0 1 rfl rfl)
theorem dX1_limit_2 : decode cX1_limit 2 = .ok (.if_icmp .lt 14, 3) := dk_161 0 14 (dk_at dksX1_limit_0 2 rfl rfl)
theorem dX1_limit_5 : decode cX1_limit 5 = .ok (.iload_n 1, 1) := dk_27 (dk_at dksX1_limit_0 5 rfl rfl)
theorem dX1_limit_6 : decode cX1_limit 6 = .ok (.sipush 1024, 3) := dk_17 4 0 (dk_at dksX1_limit_0 6 rfl rfl)
theorem dX1_limit_9 : decode cX1_limit 9 = .ok (.if_icmp .gt 7, 3) := dk_163 0 7 (dk_at dksX1_limit_0 9 rfl rfl)
theorem dX1_limit_12 : decode cX1_limit 12 = .ok (.iconst 1, 1) := dk_4 (dk_at dksX1_limit_0 12 rfl rfl)
theorem dX1_limit_13 : decode cX1_limit 13 = .ok (.goto 4, 3) := dk_167 0 4 (dk_at dksX1_limit_0 13 rfl rfl)
theorem dX1_limit_16 : decode cX1_limit 16 = .ok (.iconst 0, 1) := dk_3 (dk_at dksX1_limit_0 16 rfl rfl)
theorem dX1_limit_17 : decode cX1_limit 17 = .ok (.invokestatic 101, 3) := dk_184 0 101 (dk_at dksX1_limit_0 17 rfl rfl)
theorem dX1_limit_20 : decode cX1_limit 20 = .ok (.aload_n 0, 1) := dk_42 (dk_at dksX1_limit_0 20 rfl rfl)
theorem dX1_limit_21 : decode cX1_limit 21 = .ok (.getfield 72, 3) := dk_180 0 72 (dk_at dksX1_limit_0 21 rfl rfl)
theorem dX1_limit_24 : decode cX1_limit 24 = .ok (.istore_n 2, 1) := dk_61 (dk_at dksX1_limit_1 0 rfl rfl)
theorem dX1_limit_25 : decode cX1_limit 25 = .ok (.aload_n 0, 1) := dk_42 (dk_at dksX1_limit_1 1 rfl rfl)
theorem dX1_limit_26 : decode cX1_limit 26 = .ok (.iload_n 1, 1) := dk_27 (dk_at dksX1_limit_1 2 rfl rfl)
theorem dX1_limit_27 : decode cX1_limit 27 = .ok (.putfield 72, 3) := dk_181 0 72 (dk_at dksX1_limit_1 3 rfl rfl)
theorem dX1_limit_30 : decode cX1_limit 30 = .ok (.iload_n 2, 1) := dk_28 (dk_at dksX1_limit_1 6 rfl rfl)
theorem dX1_limit_31 : decode cX1_limit 31 = .ok (.ireturn, 1) := dk_172 (dk_at dksX1_limit_1 7 rfl rfl)
abbrev cX1_transcode : ByteArray := prog_1_method_21_code
def yX1_transcode : MethodName := ⟨RX1, "transcode", "(I)I"⟩
def dkwX1_transcode_6 : List UInt8 := [42, 28, 29, 182, 0, 134, 42, 180, 0, 65, 182, 0, 85, 172]
abbrev dktX1_transcode_6 : List UInt8 := dkwX1_transcode_6 ++ []
def dkwX1_transcode_5 : List UInt8 := [182, 0, 85, 182, 0, 127, 42, 42, 180, 0, 52, 182, 0, 233, 181, 0, 234, 42, 180, 0, 10, 182, 0, 124]
abbrev dktX1_transcode_5 : List UInt8 := dkwX1_transcode_5 ++ dktX1_transcode_6
def dkwX1_transcode_4 : List UInt8 := [180, 0, 61, 182, 0, 229, 58, 4, 42, 180, 0, 65, 182, 0, 124, 42, 180, 0, 65, 25, 4, 3, 25, 4]
abbrev dktX1_transcode_4 : List UInt8 := dkwX1_transcode_4 ++ dktX1_transcode_5
def dkwX1_transcode_3 : List UInt8 := [154, 0, 22, 42, 180, 0, 61, 182, 0, 227, 61, 42, 180, 0, 61, 182, 0, 228, 62, 167, 0, 45, 42]
abbrev dktX1_transcode_3 : List UInt8 := dkwX1_transcode_3 ++ dktX1_transcode_4
def dkwX1_transcode_2 : List UInt8 := [167, 0, 87, 42, 180, 0, 61, 42, 27, 182, 0, 190, 42, 180, 0, 52, 42, 180, 0, 10, 182, 0, 224]
abbrev dktX1_transcode_2 : List UInt8 := dkwX1_transcode_2 ++ dktX1_transcode_3
def dkwX1_transcode_1 : List UInt8 := [182, 0, 219, 154, 0, 22, 42, 180, 0, 52, 182, 0, 222, 61, 42, 180, 0, 52, 182, 0, 223, 62]
abbrev dktX1_transcode_1 : List UInt8 := dkwX1_transcode_1 ++ dktX1_transcode_2
def dkwX1_transcode_0 : List UInt8 := [27, 42, 180, 0, 107, 184, 0, 172, 3, 61, 3, 62, 42, 180, 0, 52, 42, 180, 0, 10, 42, 180, 0, 72]
abbrev dktX1_transcode_0 : List UInt8 := dkwX1_transcode_0 ++ dktX1_transcode_1
theorem dksX1_transcode_0 : cX1_transcode.data.toList.drop 0 = dktX1_transcode_0 := by decide +kernel
theorem dksX1_transcode_1 : cX1_transcode.data.toList.drop 24 = dktX1_transcode_1 := dk_seg dksX1_transcode_0 24 rfl rfl
theorem dksX1_transcode_2 : cX1_transcode.data.toList.drop 46 = dktX1_transcode_2 := dk_seg dksX1_transcode_1 22 rfl rfl
theorem dksX1_transcode_3 : cX1_transcode.data.toList.drop 69 = dktX1_transcode_3 := dk_seg dksX1_transcode_2 23 rfl rfl
theorem dksX1_transcode_4 : cX1_transcode.data.toList.drop 92 = dktX1_transcode_4 := dk_seg dksX1_transcode_3 23 rfl rfl
theorem dksX1_transcode_5 : cX1_transcode.data.toList.drop 116 = dktX1_transcode_5 := dk_seg dksX1_transcode_4 24 rfl rfl
theorem dksX1_transcode_6 : cX1_transcode.data.toList.drop 140 = dktX1_transcode_6 := dk_seg dksX1_transcode_5 24 rfl rfl
theorem dX1_transcode_0 : decode cX1_transcode 0 = .ok (.iload_n 1, 1) := dk_27 (dk_at dksX1_transcode_0 0 rfl rfl)
theorem dX1_transcode_1 : decode cX1_transcode 1 = .ok (.aload_n 0, 1) := dk_42 (dk_at dksX1_transcode_0 1 rfl rfl)
theorem dX1_transcode_2 : decode cX1_transcode 2 = .ok (.getfield 107, 3) := dk_180 0 107 (dk_at dksX1_transcode_0 2 rfl rfl)
theorem dX1_transcode_5 : decode cX1_transcode 5 = .ok (.invokestatic 172, 3) := dk_184 0 172 (dk_at dksX1_transcode_0 5 rfl rfl)
theorem dX1_transcode_8 : decode cX1_transcode 8 = .ok (.iconst 0, 1) := dk_3 (dk_at dksX1_transcode_0 8 rfl rfl)
theorem dX1_transcode_9 : decode cX1_transcode 9 = .ok (.istore_n 2, 1) := dk_61 (dk_at dksX1_transcode_0 9 rfl rfl)
theorem dX1_transcode_10 : decode cX1_transcode 10 = .ok (.iconst 0, 1) := dk_3 (dk_at dksX1_transcode_0 10 rfl rfl)
theorem dX1_transcode_11 : decode cX1_transcode 11 = .ok (.istore_n 3, 1) := dk_62 (dk_at dksX1_transcode_0 11 rfl rfl)
theorem dX1_transcode_12 : decode cX1_transcode 12 = .ok (.aload_n 0, 1) := dk_42 (dk_at dksX1_transcode_0 12 rfl rfl)
theorem dX1_transcode_13 : decode cX1_transcode 13 = .ok (.getfield 52, 3) := dk_180 0 52 (dk_at dksX1_transcode_0 13 rfl rfl)
theorem dX1_transcode_16 : decode cX1_transcode 16 = .ok (.aload_n 0, 1) := dk_42 (dk_at dksX1_transcode_0 16 rfl rfl)
theorem dX1_transcode_17 : decode cX1_transcode 17 = .ok (.getfield 10, 3) := dk_180 0 10 (dk_at dksX1_transcode_0 17 rfl rfl)
theorem dX1_transcode_20 : decode cX1_transcode 20 = .ok (.aload_n 0, 1) := dk_42 (dk_at dksX1_transcode_0 20 rfl rfl)
theorem dX1_transcode_21 : decode cX1_transcode 21 = .ok (.getfield 72, 3) := dk_180 0 72 (dk_at dksX1_transcode_0 21 rfl rfl)
theorem dX1_transcode_24 : decode cX1_transcode 24 = .ok (.invokevirtual 219, 3) := dk_182 0 219 (dk_at dksX1_transcode_1 0 rfl rfl)
theorem dX1_transcode_27 : decode cX1_transcode 27 = .ok (.ifCond .ne 22, 3) := dk_154 0 22 (dk_at dksX1_transcode_1 3 rfl rfl)
theorem dX1_transcode_30 : decode cX1_transcode 30 = .ok (.aload_n 0, 1) := dk_42 (dk_at dksX1_transcode_1 6 rfl rfl)
theorem dX1_transcode_31 : decode cX1_transcode 31 = .ok (.getfield 52, 3) := dk_180 0 52 (dk_at dksX1_transcode_1 7 rfl rfl)
theorem dX1_transcode_34 : decode cX1_transcode 34 = .ok (.invokevirtual 222, 3) := dk_182 0 222 (dk_at dksX1_transcode_1 10 rfl rfl)
theorem dX1_transcode_37 : decode cX1_transcode 37 = .ok (.istore_n 2, 1) := dk_61 (dk_at dksX1_transcode_1 13 rfl rfl)
theorem dX1_transcode_38 : decode cX1_transcode 38 = .ok (.aload_n 0, 1) := dk_42 (dk_at dksX1_transcode_1 14 rfl rfl)
theorem dX1_transcode_39 : decode cX1_transcode 39 = .ok (.getfield 52, 3) := dk_180 0 52 (dk_at dksX1_transcode_1 15 rfl rfl)
theorem dX1_transcode_42 : decode cX1_transcode 42 = .ok (.invokevirtual 223, 3) := dk_182 0 223 (dk_at dksX1_transcode_1 18 rfl rfl)
theorem dX1_transcode_45 : decode cX1_transcode 45 = .ok (.istore_n 3, 1) := dk_62 (dk_at dksX1_transcode_1 21 rfl rfl)
theorem dX1_transcode_46 : decode cX1_transcode 46 = .ok (.goto 87, 3) := dk_167 0 87 (dk_at dksX1_transcode_2 0 rfl rfl)
theorem dX1_transcode_49 : decode cX1_transcode 49 = .ok (.aload_n 0, 1) := dk_42 (dk_at dksX1_transcode_2 3 rfl rfl)
theorem dX1_transcode_50 : decode cX1_transcode 50 = .ok (.getfield 61, 3) := dk_180 0 61 (dk_at dksX1_transcode_2 4 rfl rfl)
theorem dX1_transcode_53 : decode cX1_transcode 53 = .ok (.aload_n 0, 1) := dk_42 (dk_at dksX1_transcode_2 7 rfl rfl)
theorem dX1_transcode_54 : decode cX1_transcode 54 = .ok (.iload_n 1, 1) := dk_27 (dk_at dksX1_transcode_2 8 rfl rfl)
theorem dX1_transcode_55 : decode cX1_transcode 55 = .ok (.invokevirtual 190, 3) := dk_182 0 190 (dk_at dksX1_transcode_2 9 rfl rfl)
theorem dX1_transcode_58 : decode cX1_transcode 58 = .ok (.aload_n 0, 1) := dk_42 (dk_at dksX1_transcode_2 12 rfl rfl)
theorem dX1_transcode_59 : decode cX1_transcode 59 = .ok (.getfield 52, 3) := dk_180 0 52 (dk_at dksX1_transcode_2 13 rfl rfl)
theorem dX1_transcode_62 : decode cX1_transcode 62 = .ok (.aload_n 0, 1) := dk_42 (dk_at dksX1_transcode_2 16 rfl rfl)
theorem dX1_transcode_63 : decode cX1_transcode 63 = .ok (.getfield 10, 3) := dk_180 0 10 (dk_at dksX1_transcode_2 17 rfl rfl)
theorem dX1_transcode_66 : decode cX1_transcode 66 = .ok (.invokevirtual 224, 3) := dk_182 0 224 (dk_at dksX1_transcode_2 20 rfl rfl)
theorem dX1_transcode_69 : decode cX1_transcode 69 = .ok (.ifCond .ne 22, 3) := dk_154 0 22 (dk_at dksX1_transcode_3 0 rfl rfl)
theorem dX1_transcode_72 : decode cX1_transcode 72 = .ok (.aload_n 0, 1) := dk_42 (dk_at dksX1_transcode_3 3 rfl rfl)
theorem dX1_transcode_73 : decode cX1_transcode 73 = .ok (.getfield 61, 3) := dk_180 0 61 (dk_at dksX1_transcode_3 4 rfl rfl)
theorem dX1_transcode_76 : decode cX1_transcode 76 = .ok (.invokevirtual 227, 3) := dk_182 0 227 (dk_at dksX1_transcode_3 7 rfl rfl)
theorem dX1_transcode_79 : decode cX1_transcode 79 = .ok (.istore_n 2, 1) := dk_61 (dk_at dksX1_transcode_3 10 rfl rfl)
theorem dX1_transcode_80 : decode cX1_transcode 80 = .ok (.aload_n 0, 1) := dk_42 (dk_at dksX1_transcode_3 11 rfl rfl)
theorem dX1_transcode_81 : decode cX1_transcode 81 = .ok (.getfield 61, 3) := dk_180 0 61 (dk_at dksX1_transcode_3 12 rfl rfl)
theorem dX1_transcode_84 : decode cX1_transcode 84 = .ok (.invokevirtual 228, 3) := dk_182 0 228 (dk_at dksX1_transcode_3 15 rfl rfl)
theorem dX1_transcode_87 : decode cX1_transcode 87 = .ok (.istore_n 3, 1) := dk_62 (dk_at dksX1_transcode_3 18 rfl rfl)
theorem dX1_transcode_88 : decode cX1_transcode 88 = .ok (.goto 45, 3) := dk_167 0 45 (dk_at dksX1_transcode_3 19 rfl rfl)
theorem dX1_transcode_91 : decode cX1_transcode 91 = .ok (.aload_n 0, 1) := dk_42 (dk_at dksX1_transcode_3 22 rfl rfl)
theorem dX1_transcode_92 : decode cX1_transcode 92 = .ok (.getfield 61, 3) := dk_180 0 61 (dk_at dksX1_transcode_4 0 rfl rfl)
theorem dX1_transcode_95 : decode cX1_transcode 95 = .ok (.invokevirtual 229, 3) := dk_182 0 229 (dk_at dksX1_transcode_4 3 rfl rfl)
theorem dX1_transcode_98 : decode cX1_transcode 98 = .ok (.astore 4, 2) := dk_58 4 (dk_at dksX1_transcode_4 6 rfl rfl)
theorem dX1_transcode_100 : decode cX1_transcode 100 = .ok (.aload_n 0, 1) := dk_42 (dk_at dksX1_transcode_4 8 rfl rfl)
theorem dX1_transcode_101 : decode cX1_transcode 101 = .ok (.getfield 65, 3) := dk_180 0 65 (dk_at dksX1_transcode_4 9 rfl rfl)
theorem dX1_transcode_104 : decode cX1_transcode 104 = .ok (.invokevirtual 124, 3) := dk_182 0 124 (dk_at dksX1_transcode_4 12 rfl rfl)
theorem dX1_transcode_107 : decode cX1_transcode 107 = .ok (.aload_n 0, 1) := dk_42 (dk_at dksX1_transcode_4 15 rfl rfl)
theorem dX1_transcode_108 : decode cX1_transcode 108 = .ok (.getfield 65, 3) := dk_180 0 65 (dk_at dksX1_transcode_4 16 rfl rfl)
theorem dX1_transcode_111 : decode cX1_transcode 111 = .ok (.aload 4, 2) := dk_25 4 (dk_at dksX1_transcode_4 19 rfl rfl)
theorem dX1_transcode_113 : decode cX1_transcode 113 = .ok (.iconst 0, 1) := dk_3 (dk_at dksX1_transcode_4 21 rfl rfl)
theorem dX1_transcode_114 : decode cX1_transcode 114 = .ok (.aload 4, 2) := dk_25 4 (dk_at dksX1_transcode_4 22 rfl rfl)
theorem dX1_transcode_116 : decode cX1_transcode 116 = .ok (.invokevirtual 85, 3) := dk_182 0 85 (dk_at dksX1_transcode_5 0 rfl rfl)
theorem dX1_transcode_119 : decode cX1_transcode 119 = .ok (.invokevirtual 127, 3) := dk_182 0 127 (dk_at dksX1_transcode_5 3 rfl rfl)
theorem dX1_transcode_122 : decode cX1_transcode 122 = .ok (.aload_n 0, 1) := dk_42 (dk_at dksX1_transcode_5 6 rfl rfl)
theorem dX1_transcode_123 : decode cX1_transcode 123 = .ok (.aload_n 0, 1) := dk_42 (dk_at dksX1_transcode_5 7 rfl rfl)
theorem dX1_transcode_124 : decode cX1_transcode 124 = .ok (.getfield 52, 3) := dk_180 0 52 (dk_at dksX1_transcode_5 8 rfl rfl)
theorem dX1_transcode_127 : decode cX1_transcode 127 = .ok (.invokevirtual 233, 3) := dk_182 0 233 (dk_at dksX1_transcode_5 11 rfl rfl)
theorem dX1_transcode_130 : decode cX1_transcode 130 = .ok (.putfield 234, 3) := dk_181 0 234 (dk_at dksX1_transcode_5 14 rfl rfl)
theorem dX1_transcode_133 : decode cX1_transcode 133 = .ok (.aload_n 0, 1) := dk_42 (dk_at dksX1_transcode_5 17 rfl rfl)
theorem dX1_transcode_134 : decode cX1_transcode 134 = .ok (.getfield 10, 3) := dk_180 0 10 (dk_at dksX1_transcode_5 18 rfl rfl)
theorem dX1_transcode_137 : decode cX1_transcode 137 = .ok (.invokevirtual 124, 3) := dk_182 0 124 (dk_at dksX1_transcode_5 21 rfl rfl)
theorem dX1_transcode_140 : decode cX1_transcode 140 = .ok (.aload_n 0, 1) := dk_42 (dk_at dksX1_transcode_6 0 rfl rfl)
theorem dX1_transcode_141 : decode cX1_transcode 141 = .ok (.iload_n 2, 1) := dk_28 (dk_at dksX1_transcode_6 1 rfl rfl)
theorem dX1_transcode_142 : decode cX1_transcode 142 = .ok (.iload_n 3, 1) := dk_29 (dk_at dksX1_transcode_6 2 rfl rfl)
theorem dX1_transcode_143 : decode cX1_transcode 143 = .ok (.invokevirtual 134, 3) := dk_182 0 134 (dk_at dksX1_transcode_6 3 rfl rfl)
theorem dX1_transcode_146 : decode cX1_transcode 146 = .ok (.aload_n 0, 1) := dk_42 (dk_at dksX1_transcode_6 6 rfl rfl)
theorem dX1_transcode_147 : decode cX1_transcode 147 = .ok (.getfield 65, 3) := dk_180 0 65 (dk_at dksX1_transcode_6 7 rfl rfl)
theorem dX1_transcode_150 : decode cX1_transcode 150 = .ok (.invokevirtual 85, 3) := dk_182 0 85 (dk_at dksX1_transcode_6 10 rfl rfl)
theorem dX1_transcode_153 : decode cX1_transcode 153 = .ok (.ireturn, 1) := dk_172 (dk_at dksX1_transcode_6 13 rfl rfl)
abbrev cX1_out : ByteArray := prog_1_method_22_code
def yX1_out : MethodName := ⟨RX1, "out", "(I)I"⟩
def dkwX1_out_0 : List UInt8 := [27, 42, 180, 0, 65, 182, 0, 85, 184, 0, 172, 42, 180, 0, 65, 27, 182, 0, 208, 172]
abbrev dktX1_out_0 : List UInt8 := dkwX1_out_0 ++ []
theorem dksX1_out_0 : cX1_out.data.toList.drop 0 = dktX1_out_0 := by decide +kernel
theorem dX1_out_0 : decode cX1_out 0 = .ok (.iload_n 1, 1) := dk_27 (dk_at dksX1_out_0 0 rfl rfl)
theorem dX1_out_1 : decode cX1_out 1 = .ok (.aload_n 0, 1) := dk_42 (dk_at dksX1_out_0 1 rfl rfl)
theorem dX1_out_2 : decode cX1_out 2 = .ok (.getfield 65, 3) := dk_180 0 65 (dk_at dksX1_out_0 2 rfl rfl)
theorem dX1_out_5 : decode cX1_out 5 = .ok (.invokevirtual 85, 3) := dk_182 0 85 (dk_at dksX1_out_0 5 rfl rfl)
theorem dX1_out_8 : decode cX1_out 8 = .ok (.invokestatic 172, 3) := dk_184 0 172 (dk_at dksX1_out_0 8 rfl rfl)
theorem dX1_out_11 : decode cX1_out 11 = .ok (.aload_n 0, 1) := dk_42 (dk_at dksX1_out_0 11 rfl rfl)
theorem dX1_out_12 : decode cX1_out 12 = .ok (.getfield 65, 3) := dk_180 0 65 (dk_at dksX1_out_0 12 rfl rfl)
theorem dX1_out_15 : decode cX1_out 15 = .ok (.iload_n 1, 1) := dk_27 (dk_at dksX1_out_0 15 rfl rfl)
theorem dX1_out_16 : decode cX1_out 16 = .ok (.invokevirtual 208, 3) := dk_182 0 208 (dk_at dksX1_out_0 16 rfl rfl)
theorem dX1_out_19 : decode cX1_out 19 = .ok (.ireturn, 1) := dk_172 (dk_at dksX1_out_0 19 rfl rfl)
abbrev cX1_again : ByteArray := prog_1_method_23_code
def yX1_again : MethodName := ⟨RX1, "again", "()I"⟩
def dkwX1_again_2 : List UInt8 := [180, 0, 10, 182, 0, 85, 172]
abbrev dktX1_again_2 : List UInt8 := dkwX1_again_2 ++ []
def dkwX1_again_1 : List UInt8 := [182, 0, 124, 42, 180, 0, 10, 42, 180, 0, 65, 3, 42, 180, 0, 65, 182, 0, 85, 182, 0, 127, 42]
abbrev dktX1_again_1 : List UInt8 := dkwX1_again_1 ++ dktX1_again_2
def dkwX1_again_0 : List UInt8 := [42, 180, 0, 65, 182, 0, 85, 18, 89, 163, 0, 7, 4, 167, 0, 4, 3, 184, 0, 90, 42, 180, 0, 10]
abbrev dktX1_again_0 : List UInt8 := dkwX1_again_0 ++ dktX1_again_1
theorem dksX1_again_0 : cX1_again.data.toList.drop 0 = dktX1_again_0 := by decide +kernel
theorem dksX1_again_1 : cX1_again.data.toList.drop 24 = dktX1_again_1 := dk_seg dksX1_again_0 24 rfl rfl
theorem dksX1_again_2 : cX1_again.data.toList.drop 47 = dktX1_again_2 := dk_seg dksX1_again_1 23 rfl rfl
theorem dX1_again_0 : decode cX1_again 0 = .ok (.aload_n 0, 1) := dk_42 (dk_at dksX1_again_0 0 rfl rfl)
theorem dX1_again_1 : decode cX1_again 1 = .ok (.getfield 65, 3) := dk_180 0 65 (dk_at dksX1_again_0 1 rfl rfl)
theorem dX1_again_4 : decode cX1_again 4 = .ok (.invokevirtual 85, 3) := dk_182 0 85 (dk_at dksX1_again_0 4 rfl rfl)
theorem dX1_again_7 : decode cX1_again 7 = .ok (.ldc 89, 2) := dk_18 89 (dk_at dksX1_again_0 7 rfl rfl)
theorem dX1_again_9 : decode cX1_again 9 = .ok (.if_icmp .gt 7, 3) := dk_163 0 7 (dk_at dksX1_again_0 9 rfl rfl)
theorem dX1_again_12 : decode cX1_again 12 = .ok (.iconst 1, 1) := dk_4 (dk_at dksX1_again_0 12 rfl rfl)
theorem dX1_again_13 : decode cX1_again 13 = .ok (.goto 4, 3) := dk_167 0 4 (dk_at dksX1_again_0 13 rfl rfl)
theorem dX1_again_16 : decode cX1_again 16 = .ok (.iconst 0, 1) := dk_3 (dk_at dksX1_again_0 16 rfl rfl)
theorem dX1_again_17 : decode cX1_again 17 = .ok (.invokestatic 90, 3) := dk_184 0 90 (dk_at dksX1_again_0 17 rfl rfl)
theorem dX1_again_20 : decode cX1_again 20 = .ok (.aload_n 0, 1) := dk_42 (dk_at dksX1_again_0 20 rfl rfl)
theorem dX1_again_21 : decode cX1_again 21 = .ok (.getfield 10, 3) := dk_180 0 10 (dk_at dksX1_again_0 21 rfl rfl)
theorem dX1_again_24 : decode cX1_again 24 = .ok (.invokevirtual 124, 3) := dk_182 0 124 (dk_at dksX1_again_1 0 rfl rfl)
theorem dX1_again_27 : decode cX1_again 27 = .ok (.aload_n 0, 1) := dk_42 (dk_at dksX1_again_1 3 rfl rfl)
theorem dX1_again_28 : decode cX1_again 28 = .ok (.getfield 10, 3) := dk_180 0 10 (dk_at dksX1_again_1 4 rfl rfl)
theorem dX1_again_31 : decode cX1_again 31 = .ok (.aload_n 0, 1) := dk_42 (dk_at dksX1_again_1 7 rfl rfl)
theorem dX1_again_32 : decode cX1_again 32 = .ok (.getfield 65, 3) := dk_180 0 65 (dk_at dksX1_again_1 8 rfl rfl)
theorem dX1_again_35 : decode cX1_again 35 = .ok (.iconst 0, 1) := dk_3 (dk_at dksX1_again_1 11 rfl rfl)
theorem dX1_again_36 : decode cX1_again 36 = .ok (.aload_n 0, 1) := dk_42 (dk_at dksX1_again_1 12 rfl rfl)
theorem dX1_again_37 : decode cX1_again 37 = .ok (.getfield 65, 3) := dk_180 0 65 (dk_at dksX1_again_1 13 rfl rfl)
theorem dX1_again_40 : decode cX1_again 40 = .ok (.invokevirtual 85, 3) := dk_182 0 85 (dk_at dksX1_again_1 16 rfl rfl)
theorem dX1_again_43 : decode cX1_again 43 = .ok (.invokevirtual 127, 3) := dk_182 0 127 (dk_at dksX1_again_1 19 rfl rfl)
theorem dX1_again_46 : decode cX1_again 46 = .ok (.aload_n 0, 1) := dk_42 (dk_at dksX1_again_1 22 rfl rfl)
theorem dX1_again_47 : decode cX1_again 47 = .ok (.getfield 10, 3) := dk_180 0 10 (dk_at dksX1_again_2 0 rfl rfl)
theorem dX1_again_50 : decode cX1_again 50 = .ok (.invokevirtual 85, 3) := dk_182 0 85 (dk_at dksX1_again_2 3 rfl rfl)
theorem dX1_again_53 : decode cX1_again 53 = .ok (.ireturn, 1) := dk_172 (dk_at dksX1_again_2 6 rfl rfl)
theorem q298 : (Jvm.Cond.initialized "SchemaWorkshop") ∈ lw_all := lw_g (lw_at lw_m1 1 rfl) rfl
theorem q327 : (Jvm.Cond.instantiable "SchemaWorkshop" (17 : Nat)) ∈ lw_all := lw_g (lw_at lw_m1 30 rfl) rfl
theorem q329 : (Jvm.Cond.instanceMethod ({ cls := "SchemaWorkshop", name := "<init>", desc := "()V" } : Jvm.MethodName)) ∈ lw_all := lw_g (lw_at lw_m1 32 rfl) rfl
theorem q330 : (Jvm.Cond.code ({ cls := "SchemaWorkshop", name := "<init>", desc := "()V" } : Jvm.MethodName) prog_1_method_1_code (1 : Nat) (Option.none : Option Jvm.ClassFile.FieldType)) ∈ lw_all := lw_g (lw_at lw_m1 33 rfl) rfl
theorem q331 : (Jvm.Cond.methodLink "SchemaWorkshop" (1 : Nat) ({ cls := "java/lang/Object", name := "<init>", desc := "()V" } : Jvm.MethodName)) ∈ lw_all := lw_g (lw_at lw_m1 34 rfl) rfl
theorem q334 : (Jvm.Cond.classLink "SchemaWorkshop" (7 : Nat) "SchemaWorkshop$Bytes") ∈ lw_all := lw_g (lw_at lw_m1 37 rfl) rfl
theorem q336 : (Jvm.Cond.methodLinkNest "SchemaWorkshop" (9 : Nat) ({ cls := "SchemaWorkshop$Bytes", name := "<init>", desc := "()V" } : Jvm.MethodName) "SchemaWorkshop") ∈ lw_tbl := lw_at lw_m1 39 rfl
theorem q348 : (Jvm.Cond.classLink "SchemaWorkshop" (19 : Nat) "SchemaWorkshop$Lexemes") ∈ lw_all := lw_g (lw_at lw_m1 51 rfl) rfl
theorem q350 : (Jvm.Cond.methodLinkNest "SchemaWorkshop" (21 : Nat) ({ cls := "SchemaWorkshop$Lexemes", name := "<init>", desc := "()V" } : Jvm.MethodName) "SchemaWorkshop") ∈ lw_tbl := lw_at lw_m1 53 rfl
theorem q460 : (Jvm.Cond.classLink "SchemaWorkshop" (26 : Nat) "SchemaWorkshop$Tree") ∈ lw_all := lw_g (lw_at lw_m1 163 rfl) rfl
theorem q462 : (Jvm.Cond.methodLinkNest "SchemaWorkshop" (28 : Nat) ({ cls := "SchemaWorkshop$Tree", name := "<init>", desc := "()V" } : Jvm.MethodName) "SchemaWorkshop") ∈ lw_tbl := lw_at lw_m1 165 rfl
theorem q470 : (Jvm.Cond.fieldLinkNest "SchemaWorkshop" (151 : Nat) "SchemaWorkshop$Tree" "first" "I" "SchemaWorkshop") ∈ lw_tbl := lw_at lw_m1 173 rfl
theorem q476 : (Jvm.Cond.fieldLinkNest "SchemaWorkshop" (164 : Nat) "SchemaWorkshop$Tree" "constants" "I" "SchemaWorkshop") ∈ lw_tbl := lw_at lw_m1 179 rfl
theorem q494 : (Jvm.Cond.classLink "SchemaWorkshop" (33 : Nat) "SchemaWorkshop$Grammar") ∈ lw_all := lw_g (lw_at lw_m1 197 rfl) rfl
theorem q496 : (Jvm.Cond.methodLink "SchemaWorkshop" (35 : Nat) ({ cls := "SchemaWorkshop$Grammar", name := "<init>", desc := "(LSchemaWorkshop$Tree;)V" } : Jvm.MethodName)) ∈ lw_all := lw_g (lw_at lw_m1 199 rfl) rfl
theorem q516 : (Jvm.Cond.classLink "SchemaWorkshop" (42 : Nat) "SchemaWorkshop$Meaning") ∈ lw_all := lw_g (lw_at lw_m1 219 rfl) rfl
theorem q518 : (Jvm.Cond.methodLink "SchemaWorkshop" (44 : Nat) ({ cls := "SchemaWorkshop$Meaning", name := "<init>", desc := "(LSchemaWorkshop$Tree;)V" } : Jvm.MethodName)) ∈ lw_all := lw_g (lw_at lw_m1 221 rfl) rfl
theorem q703 : (Jvm.Cond.classLink "SchemaWorkshop" (49 : Nat) "SchemaWorkshop$Elements") ∈ lw_all := lw_g (lw_at lw_m2 166 rfl) rfl
theorem q705 : (Jvm.Cond.methodLinkNest "SchemaWorkshop" (51 : Nat) ({ cls := "SchemaWorkshop$Elements", name := "<init>", desc := "()V" } : Jvm.MethodName) "SchemaWorkshop") ∈ lw_tbl := lw_at lw_m2 168 rfl
theorem q756 : (Jvm.Cond.classLink "SchemaWorkshop" (56 : Nat) "SchemaWorkshop$Matcher") ∈ lw_all := lw_g (lw_at lw_m2 219 rfl) rfl
theorem q758 : (Jvm.Cond.methodLink "SchemaWorkshop" (58 : Nat) ({ cls := "SchemaWorkshop$Matcher", name := "<init>", desc := "(LSchemaWorkshop$Tree;LSchemaWorkshop$Meaning;)V" } : Jvm.MethodName)) ∈ lw_all := lw_g (lw_at lw_m2 221 rfl) rfl
theorem q861 : (Jvm.Cond.fieldLink "SchemaWorkshop" (10 : Nat) "SchemaWorkshop" "tape" "LSchemaWorkshop$Bytes;") ∈ lw_all := lw_g (lw_at lw_m3 84 rfl) rfl
theorem q862 : (Jvm.Cond.fieldLink "SchemaWorkshop" (16 : Nat) "SchemaWorkshop" "text" "LSchemaWorkshop$Bytes;") ∈ lw_all := lw_g (lw_at lw_m3 85 rfl) rfl
theorem q863 : (Jvm.Cond.fieldLink "SchemaWorkshop" (22 : Nat) "SchemaWorkshop" "lexemes" "LSchemaWorkshop$Lexemes;") ∈ lw_all := lw_g (lw_at lw_m3 86 rfl) rfl
theorem q864 : (Jvm.Cond.fieldLink "SchemaWorkshop" (29 : Nat) "SchemaWorkshop" "tree" "LSchemaWorkshop$Tree;") ∈ lw_all := lw_g (lw_at lw_m3 87 rfl) rfl
theorem q865 : (Jvm.Cond.fieldLink "SchemaWorkshop" (38 : Nat) "SchemaWorkshop" "grammar" "LSchemaWorkshop$Grammar;") ∈ lw_all := lw_g (lw_at lw_m3 88 rfl) rfl
theorem q866 : (Jvm.Cond.fieldLink "SchemaWorkshop" (45 : Nat) "SchemaWorkshop" "meaning" "LSchemaWorkshop$Meaning;") ∈ lw_all := lw_g (lw_at lw_m3 89 rfl) rfl
theorem q867 : (Jvm.Cond.fieldLink "SchemaWorkshop" (52 : Nat) "SchemaWorkshop" "elements" "LSchemaWorkshop$Elements;") ∈ lw_all := lw_g (lw_at lw_m3 90 rfl) rfl
theorem q868 : (Jvm.Cond.fieldLink "SchemaWorkshop" (61 : Nat) "SchemaWorkshop" "matcher" "LSchemaWorkshop$Matcher;") ∈ lw_all := lw_g (lw_at lw_m3 91 rfl) rfl
theorem q869 : (Jvm.Cond.fieldLink "SchemaWorkshop" (65 : Nat) "SchemaWorkshop" "result" "LSchemaWorkshop$Bytes;") ∈ lw_all := lw_g (lw_at lw_m3 92 rfl) rfl
theorem q870 : (Jvm.Cond.fieldLink "SchemaWorkshop" (68 : Nat) "SchemaWorkshop" "assigned" "[I") ∈ lw_all := lw_g (lw_at lw_m3 93 rfl) rfl
theorem q871 : (Jvm.Cond.fieldLink "SchemaWorkshop" (107 : Nat) "SchemaWorkshop" "types" "I") ∈ lw_all := lw_g (lw_at lw_m3 94 rfl) rfl
theorem q872 : (Jvm.Cond.fieldLink "SchemaWorkshop" (110 : Nat) "SchemaWorkshop" "constants" "I") ∈ lw_all := lw_g (lw_at lw_m3 95 rfl) rfl
theorem q873 : (Jvm.Cond.fieldLink "SchemaWorkshop" (113 : Nat) "SchemaWorkshop" "cut" "I") ∈ lw_all := lw_g (lw_at lw_m3 96 rfl) rfl
theorem q874 : (Jvm.Cond.fieldLink "SchemaWorkshop" (234 : Nat) "SchemaWorkshop" "read" "I") ∈ lw_all := lw_g (lw_at lw_m3 97 rfl) rfl
theorem q875 : (Jvm.Cond.fieldLink "SchemaWorkshop" (115 : Nat) "SchemaWorkshop" "fault" "I") ∈ lw_all := lw_g (lw_at lw_m3 98 rfl) rfl
theorem q876 : (Jvm.Cond.fieldLink "SchemaWorkshop" (118 : Nat) "SchemaWorkshop" "place" "I") ∈ lw_all := lw_g (lw_at lw_m3 99 rfl) rfl
theorem q877 : (Jvm.Cond.fieldLink "SchemaWorkshop" (72 : Nat) "SchemaWorkshop" "limit" "I") ∈ lw_all := lw_g (lw_at lw_m3 100 rfl) rfl
theorem q878 : (Jvm.Cond.laysFinal "SchemaWorkshop" "SchemaWorkshop" "tape" "LSchemaWorkshop$Bytes;") ∈ lw_all := lw_g (lw_at lw_m3 101 rfl) rfl
theorem q879 : (Jvm.Cond.soleField "SchemaWorkshop" "tape") ∈ lw_all := lw_g (lw_at lw_m3 102 rfl) rfl
theorem q880 : (Jvm.Cond.laysFinal "SchemaWorkshop" "SchemaWorkshop" "text" "LSchemaWorkshop$Bytes;") ∈ lw_all := lw_g (lw_at lw_m3 103 rfl) rfl
theorem q881 : (Jvm.Cond.soleField "SchemaWorkshop" "text") ∈ lw_all := lw_g (lw_at lw_m3 104 rfl) rfl
theorem q882 : (Jvm.Cond.laysFinal "SchemaWorkshop" "SchemaWorkshop" "lexemes" "LSchemaWorkshop$Lexemes;") ∈ lw_all := lw_g (lw_at lw_m3 105 rfl) rfl
theorem q883 : (Jvm.Cond.soleField "SchemaWorkshop" "lexemes") ∈ lw_all := lw_g (lw_at lw_m3 106 rfl) rfl
theorem q884 : (Jvm.Cond.laysFinal "SchemaWorkshop" "SchemaWorkshop" "tree" "LSchemaWorkshop$Tree;") ∈ lw_all := lw_g (lw_at lw_m3 107 rfl) rfl
theorem q885 : (Jvm.Cond.soleField "SchemaWorkshop" "tree") ∈ lw_all := lw_g (lw_at lw_m3 108 rfl) rfl
theorem q886 : (Jvm.Cond.laysFinal "SchemaWorkshop" "SchemaWorkshop" "grammar" "LSchemaWorkshop$Grammar;") ∈ lw_all := lw_g (lw_at lw_m3 109 rfl) rfl
theorem q887 : (Jvm.Cond.soleField "SchemaWorkshop" "grammar") ∈ lw_all := lw_g (lw_at lw_m3 110 rfl) rfl
theorem q888 : (Jvm.Cond.laysFinal "SchemaWorkshop" "SchemaWorkshop" "meaning" "LSchemaWorkshop$Meaning;") ∈ lw_all := lw_g (lw_at lw_m3 111 rfl) rfl
theorem q889 : (Jvm.Cond.soleField "SchemaWorkshop" "meaning") ∈ lw_all := lw_g (lw_at lw_m3 112 rfl) rfl
theorem q890 : (Jvm.Cond.laysFinal "SchemaWorkshop" "SchemaWorkshop" "elements" "LSchemaWorkshop$Elements;") ∈ lw_all := lw_g (lw_at lw_m3 113 rfl) rfl
theorem q891 : (Jvm.Cond.soleField "SchemaWorkshop" "elements") ∈ lw_all := lw_g (lw_at lw_m3 114 rfl) rfl
theorem q892 : (Jvm.Cond.laysFinal "SchemaWorkshop" "SchemaWorkshop" "matcher" "LSchemaWorkshop$Matcher;") ∈ lw_all := lw_g (lw_at lw_m3 115 rfl) rfl
theorem q893 : (Jvm.Cond.soleField "SchemaWorkshop" "matcher") ∈ lw_all := lw_g (lw_at lw_m3 116 rfl) rfl
theorem q894 : (Jvm.Cond.laysFinal "SchemaWorkshop" "SchemaWorkshop" "result" "LSchemaWorkshop$Bytes;") ∈ lw_all := lw_g (lw_at lw_m3 117 rfl) rfl
theorem q895 : (Jvm.Cond.soleField "SchemaWorkshop" "result") ∈ lw_all := lw_g (lw_at lw_m3 118 rfl) rfl
theorem q896 : (Jvm.Cond.lays "SchemaWorkshop" "SchemaWorkshop" "assigned" "[I") ∈ lw_all := lw_g (lw_at lw_m3 119 rfl) rfl
theorem q897 : (Jvm.Cond.soleField "SchemaWorkshop" "assigned") ∈ lw_all := lw_g (lw_at lw_m3 120 rfl) rfl
theorem q898 : (Jvm.Cond.lays "SchemaWorkshop" "SchemaWorkshop" "types" "I") ∈ lw_all := lw_g (lw_at lw_m3 121 rfl) rfl
theorem q899 : (Jvm.Cond.soleField "SchemaWorkshop" "types") ∈ lw_all := lw_g (lw_at lw_m3 122 rfl) rfl
theorem q900 : (Jvm.Cond.lays "SchemaWorkshop" "SchemaWorkshop" "constants" "I") ∈ lw_all := lw_g (lw_at lw_m3 123 rfl) rfl
theorem q901 : (Jvm.Cond.soleField "SchemaWorkshop" "constants") ∈ lw_all := lw_g (lw_at lw_m3 124 rfl) rfl
theorem q902 : (Jvm.Cond.lays "SchemaWorkshop" "SchemaWorkshop" "cut" "I") ∈ lw_all := lw_g (lw_at lw_m3 125 rfl) rfl
theorem q903 : (Jvm.Cond.soleField "SchemaWorkshop" "cut") ∈ lw_all := lw_g (lw_at lw_m3 126 rfl) rfl
theorem q904 : (Jvm.Cond.lays "SchemaWorkshop" "SchemaWorkshop" "read" "I") ∈ lw_all := lw_g (lw_at lw_m3 127 rfl) rfl
theorem q905 : (Jvm.Cond.soleField "SchemaWorkshop" "read") ∈ lw_all := lw_g (lw_at lw_m3 128 rfl) rfl
theorem q906 : (Jvm.Cond.lays "SchemaWorkshop" "SchemaWorkshop" "fault" "I") ∈ lw_all := lw_g (lw_at lw_m3 129 rfl) rfl
theorem q907 : (Jvm.Cond.soleField "SchemaWorkshop" "fault") ∈ lw_all := lw_g (lw_at lw_m3 130 rfl) rfl
theorem q908 : (Jvm.Cond.lays "SchemaWorkshop" "SchemaWorkshop" "place" "I") ∈ lw_all := lw_g (lw_at lw_m3 131 rfl) rfl
theorem q909 : (Jvm.Cond.soleField "SchemaWorkshop" "place") ∈ lw_all := lw_g (lw_at lw_m3 132 rfl) rfl
theorem q910 : (Jvm.Cond.lays "SchemaWorkshop" "SchemaWorkshop" "limit" "I") ∈ lw_all := lw_g (lw_at lw_m3 133 rfl) rfl
theorem q911 : (Jvm.Cond.soleField "SchemaWorkshop" "limit") ∈ lw_all := lw_g (lw_at lw_m3 134 rfl) rfl
theorem q912 : (Jvm.Cond.superclass "SchemaWorkshop" "java/lang/Object") ∈ lw_all := lw_g (lw_at lw_m3 135 rfl) rfl
theorem q914 : (Jvm.Cond.instanceMethod ({ cls := "SchemaWorkshop", name := "count", desc := "(I)I" } : Jvm.MethodName)) ∈ lw_all := lw_g (lw_at lw_m3 137 rfl) rfl
theorem q915 : (Jvm.Cond.selects "SchemaWorkshop" ({ cls := "SchemaWorkshop", name := "count", desc := "(I)I" } : Jvm.MethodName) ({ cls := "SchemaWorkshop", name := "count", desc := "(I)I" } : Jvm.MethodName)) ∈ lw_all := lw_g (lw_at lw_m3 138 rfl) rfl
theorem q916 : (Jvm.Cond.code ({ cls := "SchemaWorkshop", name := "count", desc := "(I)I" } : Jvm.MethodName) prog_1_method_24_code (2 : Nat) (Option.some Jvm.ClassFile.FieldType.int)) ∈ lw_all := lw_g (lw_at lw_m3 139 rfl) rfl
theorem q917 : (Jvm.Cond.methodLink "SchemaWorkshop" (85 : Nat) ({ cls := "SchemaWorkshop$Bytes", name := "size", desc := "()I" } : Jvm.MethodName)) ∈ lw_all := lw_g (lw_at lw_m3 140 rfl) rfl
theorem q926 : (Jvm.Cond.instanceMethod ({ cls := "SchemaWorkshop", name := "feed", desc := "(IIIII)I" } : Jvm.MethodName)) ∈ lw_all := lw_g (lw_at lw_m3 149 rfl) rfl
theorem q927 : (Jvm.Cond.selects "SchemaWorkshop" ({ cls := "SchemaWorkshop", name := "feed", desc := "(IIIII)I" } : Jvm.MethodName) ({ cls := "SchemaWorkshop", name := "feed", desc := "(IIIII)I" } : Jvm.MethodName)) ∈ lw_all := lw_g (lw_at lw_m3 150 rfl) rfl
theorem q928 : (Jvm.Cond.code ({ cls := "SchemaWorkshop", name := "feed", desc := "(IIIII)I" } : Jvm.MethodName) prog_1_method_5_code (6 : Nat) (Option.some Jvm.ClassFile.FieldType.int)) ∈ lw_all := lw_g (lw_at lw_m3 151 rfl) rfl
theorem q929 : (Jvm.Cond.constant "SchemaWorkshop" (89 : Nat) (32768 : Int32)) ∈ lw_all := lw_g (lw_at lw_m3 152 rfl) rfl
theorem q930 : (Jvm.Cond.methodLink "SchemaWorkshop" (90 : Nat) ({ cls := "SchemaWorkshop", name := "can", desc := "(Z)V" } : Jvm.MethodName)) ∈ lw_all := lw_g (lw_at lw_m3 153 rfl) rfl
theorem q931 : (Jvm.Cond.static ({ cls := "SchemaWorkshop", name := "can", desc := "(Z)V" } : Jvm.MethodName)) ∈ lw_all := lw_g (lw_at lw_m3 154 rfl) rfl
theorem q932 : (Jvm.Cond.code ({ cls := "SchemaWorkshop", name := "can", desc := "(Z)V" } : Jvm.MethodName) prog_1_method_4_code (1 : Nat) (Option.none : Option Jvm.ClassFile.FieldType)) ∈ lw_all := lw_g (lw_at lw_m3 155 rfl) rfl
theorem q933 : (Jvm.Cond.classLink "SchemaWorkshop" (82 : Nat) "java/lang/IllegalStateException") ∈ lw_all := lw_g (lw_at lw_m3 156 rfl) rfl
theorem q975 : (Jvm.Cond.methodLink "SchemaWorkshop" (84 : Nat) ({ cls := "java/lang/IllegalStateException", name := "<init>", desc := "()V" } : Jvm.MethodName)) ∈ lw_all := lw_g (lw_at lw_m3 198 rfl) rfl
theorem q998 : (Jvm.Cond.methodLink "SchemaWorkshop" (94 : Nat) ({ cls := "SchemaWorkshop", name := "word", desc := "(I)V" } : Jvm.MethodName)) ∈ lw_all := lw_g (lw_at lw_m3 221 rfl) rfl
theorem q999 : (Jvm.Cond.privateMethod ({ cls := "SchemaWorkshop", name := "word", desc := "(I)V" } : Jvm.MethodName)) ∈ lw_tbl := lw_at lw_m3 222 rfl
theorem q1000 : (Jvm.Cond.instanceMethod ({ cls := "SchemaWorkshop", name := "word", desc := "(I)V" } : Jvm.MethodName)) ∈ lw_all := lw_g (lw_at lw_m3 223 rfl) rfl
theorem q1001 : (Jvm.Cond.code ({ cls := "SchemaWorkshop", name := "word", desc := "(I)V" } : Jvm.MethodName) prog_1_method_6_code (3 : Nat) (Option.none : Option Jvm.ClassFile.FieldType)) ∈ lw_all := lw_g (lw_at lw_m3 224 rfl) rfl
theorem q1002 : (Jvm.Cond.methodLink "SchemaWorkshop" (98 : Nat) ({ cls := "SchemaWorkshop$Bytes", name := "add", desc := "(I)V" } : Jvm.MethodName)) ∈ lw_all := lw_g (lw_at lw_m3 225 rfl) rfl
theorem q1018 : (Jvm.Cond.instanceMethod ({ cls := "SchemaWorkshop", name := "end", desc := "(I)I" } : Jvm.MethodName)) ∈ lw_all := lw_g (lw_at lw_m4 1 rfl) rfl
theorem q1019 : (Jvm.Cond.selects "SchemaWorkshop" ({ cls := "SchemaWorkshop", name := "end", desc := "(I)I" } : Jvm.MethodName) ({ cls := "SchemaWorkshop", name := "end", desc := "(I)I" } : Jvm.MethodName)) ∈ lw_all := lw_g (lw_at lw_m4 2 rfl) rfl
theorem q1020 : (Jvm.Cond.code ({ cls := "SchemaWorkshop", name := "end", desc := "(I)I" } : Jvm.MethodName) prog_1_method_7_code (2 : Nat) (Option.some Jvm.ClassFile.FieldType.int)) ∈ lw_all := lw_g (lw_at lw_m4 3 rfl) rfl
theorem q1021 : (Jvm.Cond.methodLink "SchemaWorkshop" (101 : Nat) ({ cls := "SchemaWorkshop", name := "right", desc := "(Z)V" } : Jvm.MethodName)) ∈ lw_all := lw_g (lw_at lw_m4 4 rfl) rfl
theorem q1022 : (Jvm.Cond.static ({ cls := "SchemaWorkshop", name := "right", desc := "(Z)V" } : Jvm.MethodName)) ∈ lw_all := lw_g (lw_at lw_m4 5 rfl) rfl
theorem q1023 : (Jvm.Cond.code ({ cls := "SchemaWorkshop", name := "right", desc := "(Z)V" } : Jvm.MethodName) prog_1_method_3_code (1 : Nat) (Option.none : Option Jvm.ClassFile.FieldType)) ∈ lw_all := lw_g (lw_at lw_m4 6 rfl) rfl
theorem q1024 : (Jvm.Cond.classLink "SchemaWorkshop" (79 : Nat) "java/lang/IllegalArgumentException") ∈ lw_all := lw_g (lw_at lw_m4 7 rfl) rfl
theorem q1033 : (Jvm.Cond.methodLink "SchemaWorkshop" (81 : Nat) ({ cls := "java/lang/IllegalArgumentException", name := "<init>", desc := "()V" } : Jvm.MethodName)) ∈ lw_all := lw_g (lw_at lw_m4 16 rfl) rfl
theorem q1039 : (Jvm.Cond.methodLink "SchemaWorkshop" (104 : Nat) ({ cls := "SchemaWorkshop$Bytes", name := "cut", desc := "(I)V" } : Jvm.MethodName)) ∈ lw_all := lw_g (lw_at lw_m4 22 rfl) rfl
theorem q1047 : (Jvm.Cond.instanceMethod ({ cls := "SchemaWorkshop", name := "compile", desc := "()I" } : Jvm.MethodName)) ∈ lw_all := lw_g (lw_at lw_m4 30 rfl) rfl
theorem q1048 : (Jvm.Cond.selects "SchemaWorkshop" ({ cls := "SchemaWorkshop", name := "compile", desc := "()I" } : Jvm.MethodName) ({ cls := "SchemaWorkshop", name := "compile", desc := "()I" } : Jvm.MethodName)) ∈ lw_all := lw_g (lw_at lw_m4 31 rfl) rfl
theorem q1049 : (Jvm.Cond.code ({ cls := "SchemaWorkshop", name := "compile", desc := "()I" } : Jvm.MethodName) prog_1_method_10_code (3 : Nat) (Option.some Jvm.ClassFile.FieldType.int)) ∈ lw_all := lw_g (lw_at lw_m4 32 rfl) rfl
theorem q1050 : (Jvm.Cond.methodLink "SchemaWorkshop" (121 : Nat) ({ cls := "SchemaWorkshop", name := "forget", desc := "()V" } : Jvm.MethodName)) ∈ lw_all := lw_g (lw_at lw_m4 33 rfl) rfl
theorem q1051 : (Jvm.Cond.privateMethod ({ cls := "SchemaWorkshop", name := "forget", desc := "()V" } : Jvm.MethodName)) ∈ lw_tbl := lw_at lw_m4 34 rfl
theorem q1052 : (Jvm.Cond.instanceMethod ({ cls := "SchemaWorkshop", name := "forget", desc := "()V" } : Jvm.MethodName)) ∈ lw_all := lw_g (lw_at lw_m4 35 rfl) rfl
theorem q1053 : (Jvm.Cond.code ({ cls := "SchemaWorkshop", name := "forget", desc := "()V" } : Jvm.MethodName) prog_1_method_8_code (1 : Nat) (Option.none : Option Jvm.ClassFile.FieldType)) ∈ lw_all := lw_g (lw_at lw_m4 36 rfl) rfl
theorem q1054 : (Jvm.Cond.methodLink "SchemaWorkshop" (124 : Nat) ({ cls := "SchemaWorkshop$Bytes", name := "clear", desc := "()V" } : Jvm.MethodName)) ∈ lw_all := lw_g (lw_at lw_m4 37 rfl) rfl
theorem q1058 : (Jvm.Cond.methodLink "SchemaWorkshop" (127 : Nat) ({ cls := "SchemaWorkshop$Bytes", name := "all", desc := "(LSchemaWorkshop$Bytes;II)V" } : Jvm.MethodName)) ∈ lw_all := lw_g (lw_at lw_m4 41 rfl) rfl
theorem q1062 : (Jvm.Cond.methodLink "SchemaWorkshop" (131 : Nat) ({ cls := "SchemaWorkshop$Lexemes", name := "cut", desc := "(LSchemaWorkshop$Bytes;)I" } : Jvm.MethodName)) ∈ lw_all := lw_g (lw_at lw_m4 45 rfl) rfl
theorem q1244 : (Jvm.Cond.methodLink "SchemaWorkshop" (134 : Nat) ({ cls := "SchemaWorkshop", name := "tell", desc := "(II)V" } : Jvm.MethodName)) ∈ lw_all := lw_g (lw_at lw_m4 227 rfl) rfl
theorem q1245 : (Jvm.Cond.privateMethod ({ cls := "SchemaWorkshop", name := "tell", desc := "(II)V" } : Jvm.MethodName)) ∈ lw_tbl := lw_at lw_m4 228 rfl
theorem q1246 : (Jvm.Cond.instanceMethod ({ cls := "SchemaWorkshop", name := "tell", desc := "(II)V" } : Jvm.MethodName)) ∈ lw_all := lw_g (lw_at lw_m4 229 rfl) rfl
theorem q1247 : (Jvm.Cond.code ({ cls := "SchemaWorkshop", name := "tell", desc := "(II)V" } : Jvm.MethodName) prog_1_method_9_code (3 : Nat) (Option.none : Option Jvm.ClassFile.FieldType)) ∈ lw_all := lw_g (lw_at lw_m4 230 rfl) rfl
theorem q1248 : (Jvm.Cond.methodLink "SchemaWorkshop" (138 : Nat) ({ cls := "SchemaWorkshop$Grammar", name := "read", desc := "(LSchemaWorkshop$Lexemes;)Z" } : Jvm.MethodName)) ∈ lw_all := lw_g (lw_at lw_m4 231 rfl) rfl
theorem q1415 : (Jvm.Cond.methodLink "SchemaWorkshop" (142 : Nat) ({ cls := "SchemaWorkshop$Grammar", name := "fault", desc := "()I" } : Jvm.MethodName)) ∈ lw_all := lw_g (lw_at lw_m5 158 rfl) rfl
theorem q1419 : (Jvm.Cond.methodLink "SchemaWorkshop" (144 : Nat) ({ cls := "SchemaWorkshop$Grammar", name := "place", desc := "()I" } : Jvm.MethodName)) ∈ lw_all := lw_g (lw_at lw_m5 162 rfl) rfl
theorem q1423 : (Jvm.Cond.methodLink "SchemaWorkshop" (146 : Nat) ({ cls := "SchemaWorkshop$Meaning", name := "check", desc := "(LSchemaWorkshop$Lexemes;)Z" } : Jvm.MethodName)) ∈ lw_all := lw_g (lw_at lw_m5 166 rfl) rfl
theorem q1930 : (Jvm.Cond.methodLink "SchemaWorkshop" (149 : Nat) ({ cls := "SchemaWorkshop$Meaning", name := "fault", desc := "()I" } : Jvm.MethodName)) ∈ lw_all := lw_g (lw_at lw_m7 193 rfl) rfl
theorem q1934 : (Jvm.Cond.methodLink "SchemaWorkshop" (150 : Nat) ({ cls := "SchemaWorkshop$Meaning", name := "place", desc := "()I" } : Jvm.MethodName)) ∈ lw_all := lw_g (lw_at lw_m7 197 rfl) rfl
theorem q1938 : (Jvm.Cond.methodLink "SchemaWorkshop" (154 : Nat) ({ cls := "SchemaWorkshop$Tree", name := "kind", desc := "(I)I" } : Jvm.MethodName)) ∈ lw_all := lw_g (lw_at lw_m7 201 rfl) rfl
theorem q1939 : (Jvm.Cond.methodLink "SchemaWorkshop" (158 : Nat) ({ cls := "SchemaWorkshop", name := "assign", desc := "(I)V" } : Jvm.MethodName)) ∈ lw_all := lw_g (lw_at lw_m7 202 rfl) rfl
theorem q1940 : (Jvm.Cond.privateMethod ({ cls := "SchemaWorkshop", name := "assign", desc := "(I)V" } : Jvm.MethodName)) ∈ lw_tbl := lw_at lw_m7 203 rfl
theorem q1941 : (Jvm.Cond.instanceMethod ({ cls := "SchemaWorkshop", name := "assign", desc := "(I)V" } : Jvm.MethodName)) ∈ lw_all := lw_g (lw_at lw_m7 204 rfl) rfl
theorem q1942 : (Jvm.Cond.code ({ cls := "SchemaWorkshop", name := "assign", desc := "(I)V" } : Jvm.MethodName) prog_1_method_11_code (3 : Nat) (Option.none : Option Jvm.ClassFile.FieldType)) ∈ lw_all := lw_g (lw_at lw_m7 205 rfl) rfl
theorem q1943 : (Jvm.Cond.methodLink "SchemaWorkshop" (166 : Nat) ({ cls := "java/lang/System", name := "arraycopy", desc := "(Ljava/lang/Object;ILjava/lang/Object;II)V" } : Jvm.MethodName)) ∈ lw_all := lw_g (lw_at lw_m7 206 rfl) rfl
theorem q1944 : (Jvm.Cond.methodLink "SchemaWorkshop" (161 : Nat) ({ cls := "SchemaWorkshop$Tree", name := "next", desc := "(I)I" } : Jvm.MethodName)) ∈ lw_all := lw_g (lw_at lw_m7 207 rfl) rfl
theorem q1945 : (Jvm.Cond.methodLink "SchemaWorkshop" (165 : Nat) ({ cls := "SchemaWorkshop$Lexemes", name := "size", desc := "()I" } : Jvm.MethodName)) ∈ lw_all := lw_g (lw_at lw_m7 208 rfl) rfl
theorem q1982 : (Jvm.Cond.instanceMethod ({ cls := "SchemaWorkshop", name := "fault", desc := "(I)I" } : Jvm.MethodName)) ∈ lw_all := lw_g (lw_at lw_m8 5 rfl) rfl
theorem q1983 : (Jvm.Cond.selects "SchemaWorkshop" ({ cls := "SchemaWorkshop", name := "fault", desc := "(I)I" } : Jvm.MethodName) ({ cls := "SchemaWorkshop", name := "fault", desc := "(I)I" } : Jvm.MethodName)) ∈ lw_all := lw_g (lw_at lw_m8 6 rfl) rfl
theorem q1984 : (Jvm.Cond.code ({ cls := "SchemaWorkshop", name := "fault", desc := "(I)I" } : Jvm.MethodName) prog_1_method_12_code (2 : Nat) (Option.some Jvm.ClassFile.FieldType.int)) ∈ lw_all := lw_g (lw_at lw_m8 7 rfl) rfl
theorem q1985 : (Jvm.Cond.methodLink "SchemaWorkshop" (172 : Nat) ({ cls := "SchemaWorkshop", name := "within", desc := "(II)V" } : Jvm.MethodName)) ∈ lw_all := lw_g (lw_at lw_m8 8 rfl) rfl
theorem q1986 : (Jvm.Cond.static ({ cls := "SchemaWorkshop", name := "within", desc := "(II)V" } : Jvm.MethodName)) ∈ lw_all := lw_g (lw_at lw_m8 9 rfl) rfl
theorem q1987 : (Jvm.Cond.code ({ cls := "SchemaWorkshop", name := "within", desc := "(II)V" } : Jvm.MethodName) prog_1_method_2_code (2 : Nat) (Option.none : Option Jvm.ClassFile.FieldType)) ∈ lw_all := lw_g (lw_at lw_m8 10 rfl) rfl
theorem q1988 : (Jvm.Cond.classLink "SchemaWorkshop" (76 : Nat) "java/lang/IndexOutOfBoundsException") ∈ lw_all := lw_g (lw_at lw_m8 11 rfl) rfl
theorem q1997 : (Jvm.Cond.methodLink "SchemaWorkshop" (78 : Nat) ({ cls := "java/lang/IndexOutOfBoundsException", name := "<init>", desc := "()V" } : Jvm.MethodName)) ∈ lw_all := lw_g (lw_at lw_m8 20 rfl) rfl
theorem q2007 : (Jvm.Cond.instanceMethod ({ cls := "SchemaWorkshop", name := "type", desc := "(II)I" } : Jvm.MethodName)) ∈ lw_all := lw_g (lw_at lw_m8 30 rfl) rfl
theorem q2008 : (Jvm.Cond.selects "SchemaWorkshop" ({ cls := "SchemaWorkshop", name := "type", desc := "(II)I" } : Jvm.MethodName) ({ cls := "SchemaWorkshop", name := "type", desc := "(II)I" } : Jvm.MethodName)) ∈ lw_all := lw_g (lw_at lw_m8 31 rfl) rfl
theorem q2009 : (Jvm.Cond.code ({ cls := "SchemaWorkshop", name := "type", desc := "(II)I" } : Jvm.MethodName) prog_1_method_17_code (5 : Nat) (Option.some Jvm.ClassFile.FieldType.int)) ∈ lw_all := lw_g (lw_at lw_m8 32 rfl) rfl
theorem q2010 : (Jvm.Cond.methodLink "SchemaWorkshop" (190 : Nat) ({ cls := "SchemaWorkshop", name := "typeOf", desc := "(I)I" } : Jvm.MethodName)) ∈ lw_all := lw_g (lw_at lw_m8 33 rfl) rfl
theorem q2011 : (Jvm.Cond.privateMethod ({ cls := "SchemaWorkshop", name := "typeOf", desc := "(I)I" } : Jvm.MethodName)) ∈ lw_tbl := lw_at lw_m8 34 rfl
theorem q2012 : (Jvm.Cond.instanceMethod ({ cls := "SchemaWorkshop", name := "typeOf", desc := "(I)I" } : Jvm.MethodName)) ∈ lw_all := lw_g (lw_at lw_m8 35 rfl) rfl
theorem q2013 : (Jvm.Cond.code ({ cls := "SchemaWorkshop", name := "typeOf", desc := "(I)I" } : Jvm.MethodName) prog_1_method_13_code (2 : Nat) (Option.some Jvm.ClassFile.FieldType.int)) ∈ lw_all := lw_g (lw_at lw_m8 36 rfl) rfl
theorem q2014 : (Jvm.Cond.methodLink "SchemaWorkshop" (175 : Nat) ({ cls := "SchemaWorkshop$Tree", name := "parts", desc := "(I)I" } : Jvm.MethodName)) ∈ lw_all := lw_g (lw_at lw_m8 37 rfl) rfl
theorem q2015 : (Jvm.Cond.methodLink "SchemaWorkshop" (193 : Nat) ({ cls := "SchemaWorkshop$Meaning", name := "tagCount", desc := "(I)I" } : Jvm.MethodName)) ∈ lw_all := lw_g (lw_at lw_m8 38 rfl) rfl
theorem q2019 : (Jvm.Cond.methodLink "SchemaWorkshop" (196 : Nat) ({ cls := "SchemaWorkshop", name := "nameLength", desc := "(I)I" } : Jvm.MethodName)) ∈ lw_all := lw_g (lw_at lw_m8 42 rfl) rfl
theorem q2020 : (Jvm.Cond.privateMethod ({ cls := "SchemaWorkshop", name := "nameLength", desc := "(I)I" } : Jvm.MethodName)) ∈ lw_tbl := lw_at lw_m8 43 rfl
theorem q2021 : (Jvm.Cond.instanceMethod ({ cls := "SchemaWorkshop", name := "nameLength", desc := "(I)I" } : Jvm.MethodName)) ∈ lw_all := lw_g (lw_at lw_m8 44 rfl) rfl
theorem q2022 : (Jvm.Cond.code ({ cls := "SchemaWorkshop", name := "nameLength", desc := "(I)I" } : Jvm.MethodName) prog_1_method_15_code (2 : Nat) (Option.some Jvm.ClassFile.FieldType.int)) ∈ lw_all := lw_g (lw_at lw_m8 45 rfl) rfl
theorem q2023 : (Jvm.Cond.methodLink "SchemaWorkshop" (178 : Nat) ({ cls := "SchemaWorkshop$Tree", name := "lexeme", desc := "(I)I" } : Jvm.MethodName)) ∈ lw_all := lw_g (lw_at lw_m8 46 rfl) rfl
theorem q2024 : (Jvm.Cond.methodLink "SchemaWorkshop" (184 : Nat) ({ cls := "SchemaWorkshop$Lexemes", name := "end", desc := "(I)I" } : Jvm.MethodName)) ∈ lw_all := lw_g (lw_at lw_m8 47 rfl) rfl
theorem q2025 : (Jvm.Cond.methodLink "SchemaWorkshop" (187 : Nat) ({ cls := "SchemaWorkshop", name := "nameFrom", desc := "(I)I" } : Jvm.MethodName)) ∈ lw_all := lw_g (lw_at lw_m8 48 rfl) rfl
theorem q2026 : (Jvm.Cond.privateMethod ({ cls := "SchemaWorkshop", name := "nameFrom", desc := "(I)I" } : Jvm.MethodName)) ∈ lw_tbl := lw_at lw_m8 49 rfl
theorem q2027 : (Jvm.Cond.instanceMethod ({ cls := "SchemaWorkshop", name := "nameFrom", desc := "(I)I" } : Jvm.MethodName)) ∈ lw_all := lw_g (lw_at lw_m8 50 rfl) rfl
theorem q2028 : (Jvm.Cond.code ({ cls := "SchemaWorkshop", name := "nameFrom", desc := "(I)I" } : Jvm.MethodName) prog_1_method_14_code (2 : Nat) (Option.some Jvm.ClassFile.FieldType.int)) ∈ lw_all := lw_g (lw_at lw_m8 51 rfl) rfl
theorem q2029 : (Jvm.Cond.methodLink "SchemaWorkshop" (181 : Nat) ({ cls := "SchemaWorkshop$Lexemes", name := "start", desc := "(I)I" } : Jvm.MethodName)) ∈ lw_all := lw_g (lw_at lw_m8 52 rfl) rfl
theorem q2030 : (Jvm.Cond.methodLinkNest "SchemaWorkshop" (199 : Nat) ({ cls := "SchemaWorkshop$Meaning", name := "base", desc := "(I)I" } : Jvm.MethodName) "SchemaWorkshop") ∈ lw_tbl := lw_at lw_m8 53 rfl
theorem q2031 : (Jvm.Cond.methodLink "SchemaWorkshop" (202 : Nat) ({ cls := "SchemaWorkshop$Meaning", name := "tag", desc := "(II)I" } : Jvm.MethodName)) ∈ lw_all := lw_g (lw_at lw_m8 54 rfl) rfl
theorem q2032 : (Jvm.Cond.constant "SchemaWorkshop" (206 : Nat) (268435455 : Int32)) ∈ lw_all := lw_g (lw_at lw_m8 55 rfl) rfl
theorem q2033 : (Jvm.Cond.methodLink "SchemaWorkshop" (207 : Nat) ({ cls := "SchemaWorkshop", name := "parts", desc := "(I)I" } : Jvm.MethodName)) ∈ lw_all := lw_g (lw_at lw_m8 56 rfl) rfl
theorem q2034 : (Jvm.Cond.privateMethod ({ cls := "SchemaWorkshop", name := "parts", desc := "(I)I" } : Jvm.MethodName)) ∈ lw_tbl := lw_at lw_m8 57 rfl
theorem q2035 : (Jvm.Cond.instanceMethod ({ cls := "SchemaWorkshop", name := "parts", desc := "(I)I" } : Jvm.MethodName)) ∈ lw_all := lw_g (lw_at lw_m8 58 rfl) rfl
theorem q2036 : (Jvm.Cond.code ({ cls := "SchemaWorkshop", name := "parts", desc := "(I)I" } : Jvm.MethodName) prog_1_method_16_code (4 : Nat) (Option.some Jvm.ClassFile.FieldType.int)) ∈ lw_all := lw_g (lw_at lw_m8 59 rfl) rfl
theorem q2041 : (Jvm.Cond.instanceMethod ({ cls := "SchemaWorkshop", name := "name", desc := "(II)I" } : Jvm.MethodName)) ∈ lw_all := lw_g (lw_at lw_m8 64 rfl) rfl
theorem q2042 : (Jvm.Cond.selects "SchemaWorkshop" ({ cls := "SchemaWorkshop", name := "name", desc := "(II)I" } : Jvm.MethodName) ({ cls := "SchemaWorkshop", name := "name", desc := "(II)I" } : Jvm.MethodName)) ∈ lw_all := lw_g (lw_at lw_m8 65 rfl) rfl
theorem q2043 : (Jvm.Cond.code ({ cls := "SchemaWorkshop", name := "name", desc := "(II)I" } : Jvm.MethodName) prog_1_method_18_code (3 : Nat) (Option.some Jvm.ClassFile.FieldType.int)) ∈ lw_all := lw_g (lw_at lw_m8 66 rfl) rfl
theorem q2044 : (Jvm.Cond.methodLink "SchemaWorkshop" (208 : Nat) ({ cls := "SchemaWorkshop$Bytes", name := "at", desc := "(I)I" } : Jvm.MethodName)) ∈ lw_all := lw_g (lw_at lw_m8 67 rfl) rfl
theorem q2049 : (Jvm.Cond.instanceMethod ({ cls := "SchemaWorkshop", name := "defaultSize", desc := "(II)I" } : Jvm.MethodName)) ∈ lw_all := lw_g (lw_at lw_m8 72 rfl) rfl
theorem q2050 : (Jvm.Cond.selects "SchemaWorkshop" ({ cls := "SchemaWorkshop", name := "defaultSize", desc := "(II)I" } : Jvm.MethodName) ({ cls := "SchemaWorkshop", name := "defaultSize", desc := "(II)I" } : Jvm.MethodName)) ∈ lw_all := lw_g (lw_at lw_m8 73 rfl) rfl
theorem q2051 : (Jvm.Cond.code ({ cls := "SchemaWorkshop", name := "defaultSize", desc := "(II)I" } : Jvm.MethodName) prog_1_method_19_code (6 : Nat) (Option.some Jvm.ClassFile.FieldType.int)) ∈ lw_all := lw_g (lw_at lw_m8 74 rfl) rfl
theorem q2052 : (Jvm.Cond.methodLink "SchemaWorkshop" (211 : Nat) ({ cls := "SchemaWorkshop$Tree", name := "at", desc := "(II)I" } : Jvm.MethodName)) ∈ lw_all := lw_g (lw_at lw_m8 75 rfl) rfl
theorem q2053 : (Jvm.Cond.methodLink "SchemaWorkshop" (213 : Nat) ({ cls := "SchemaWorkshop$Meaning", name := "valueTo", desc := "(I)I" } : Jvm.MethodName)) ∈ lw_all := lw_g (lw_at lw_m8 76 rfl) rfl
theorem q2057 : (Jvm.Cond.methodLink "SchemaWorkshop" (216 : Nat) ({ cls := "SchemaWorkshop$Meaning", name := "valueFrom", desc := "(I)I" } : Jvm.MethodName)) ∈ lw_all := lw_g (lw_at lw_m8 80 rfl) rfl
theorem q2065 : (Jvm.Cond.instanceMethod ({ cls := "SchemaWorkshop", name := "limit", desc := "(I)I" } : Jvm.MethodName)) ∈ lw_all := lw_g (lw_at lw_m8 88 rfl) rfl
theorem q2066 : (Jvm.Cond.selects "SchemaWorkshop" ({ cls := "SchemaWorkshop", name := "limit", desc := "(I)I" } : Jvm.MethodName) ({ cls := "SchemaWorkshop", name := "limit", desc := "(I)I" } : Jvm.MethodName)) ∈ lw_all := lw_g (lw_at lw_m8 89 rfl) rfl
theorem q2067 : (Jvm.Cond.code ({ cls := "SchemaWorkshop", name := "limit", desc := "(I)I" } : Jvm.MethodName) prog_1_method_20_code (3 : Nat) (Option.some Jvm.ClassFile.FieldType.int)) ∈ lw_all := lw_g (lw_at lw_m8 90 rfl) rfl
theorem q2072 : (Jvm.Cond.instanceMethod ({ cls := "SchemaWorkshop", name := "transcode", desc := "(I)I" } : Jvm.MethodName)) ∈ lw_all := lw_g (lw_at lw_m8 95 rfl) rfl
theorem q2073 : (Jvm.Cond.selects "SchemaWorkshop" ({ cls := "SchemaWorkshop", name := "transcode", desc := "(I)I" } : Jvm.MethodName) ({ cls := "SchemaWorkshop", name := "transcode", desc := "(I)I" } : Jvm.MethodName)) ∈ lw_all := lw_g (lw_at lw_m8 96 rfl) rfl
theorem q2074 : (Jvm.Cond.code ({ cls := "SchemaWorkshop", name := "transcode", desc := "(I)I" } : Jvm.MethodName) prog_1_method_21_code (5 : Nat) (Option.some Jvm.ClassFile.FieldType.int)) ∈ lw_all := lw_g (lw_at lw_m8 97 rfl) rfl
theorem q2075 : (Jvm.Cond.methodLink "SchemaWorkshop" (219 : Nat) ({ cls := "SchemaWorkshop$Elements", name := "read", desc := "(LSchemaWorkshop$Bytes;I)Z" } : Jvm.MethodName)) ∈ lw_all := lw_g (lw_at lw_m8 98 rfl) rfl
theorem q2123 : (Jvm.Cond.methodLink "SchemaWorkshop" (222 : Nat) ({ cls := "SchemaWorkshop$Elements", name := "fault", desc := "()I" } : Jvm.MethodName)) ∈ lw_all := lw_g (lw_at lw_m8 146 rfl) rfl
theorem q2127 : (Jvm.Cond.methodLink "SchemaWorkshop" (223 : Nat) ({ cls := "SchemaWorkshop$Elements", name := "place", desc := "()I" } : Jvm.MethodName)) ∈ lw_all := lw_g (lw_at lw_m8 150 rfl) rfl
theorem q2131 : (Jvm.Cond.methodLink "SchemaWorkshop" (224 : Nat) ({ cls := "SchemaWorkshop$Matcher", name := "read", desc := "(ILSchemaWorkshop$Elements;LSchemaWorkshop$Bytes;)Z" } : Jvm.MethodName)) ∈ lw_all := lw_g (lw_at lw_m8 154 rfl) rfl
theorem q2277 : (Jvm.Cond.methodLink "SchemaWorkshop" (227 : Nat) ({ cls := "SchemaWorkshop$Matcher", name := "fault", desc := "()I" } : Jvm.MethodName)) ∈ lw_all := lw_g (lw_at lw_m9 60 rfl) rfl
theorem q2281 : (Jvm.Cond.methodLink "SchemaWorkshop" (228 : Nat) ({ cls := "SchemaWorkshop$Matcher", name := "place", desc := "()I" } : Jvm.MethodName)) ∈ lw_all := lw_g (lw_at lw_m9 64 rfl) rfl
theorem q2285 : (Jvm.Cond.methodLink "SchemaWorkshop" (229 : Nat) ({ cls := "SchemaWorkshop$Matcher", name := "write", desc := "()LSchemaWorkshop$Bytes;" } : Jvm.MethodName)) ∈ lw_all := lw_g (lw_at lw_m9 68 rfl) rfl
theorem q2348 : (Jvm.Cond.methodLink "SchemaWorkshop" (233 : Nat) ({ cls := "SchemaWorkshop$Elements", name := "size", desc := "()I" } : Jvm.MethodName)) ∈ lw_all := lw_g (lw_at lw_m9 131 rfl) rfl
theorem q2353 : (Jvm.Cond.instanceMethod ({ cls := "SchemaWorkshop", name := "out", desc := "(I)I" } : Jvm.MethodName)) ∈ lw_all := lw_g (lw_at lw_m9 136 rfl) rfl
theorem q2354 : (Jvm.Cond.selects "SchemaWorkshop" ({ cls := "SchemaWorkshop", name := "out", desc := "(I)I" } : Jvm.MethodName) ({ cls := "SchemaWorkshop", name := "out", desc := "(I)I" } : Jvm.MethodName)) ∈ lw_all := lw_g (lw_at lw_m9 137 rfl) rfl
theorem q2355 : (Jvm.Cond.code ({ cls := "SchemaWorkshop", name := "out", desc := "(I)I" } : Jvm.MethodName) prog_1_method_22_code (2 : Nat) (Option.some Jvm.ClassFile.FieldType.int)) ∈ lw_all := lw_g (lw_at lw_m9 138 rfl) rfl
theorem q2360 : (Jvm.Cond.instanceMethod ({ cls := "SchemaWorkshop", name := "again", desc := "()I" } : Jvm.MethodName)) ∈ lw_all := lw_g (lw_at lw_m9 143 rfl) rfl
theorem q2361 : (Jvm.Cond.selects "SchemaWorkshop" ({ cls := "SchemaWorkshop", name := "again", desc := "()I" } : Jvm.MethodName) ({ cls := "SchemaWorkshop", name := "again", desc := "()I" } : Jvm.MethodName)) ∈ lw_all := lw_g (lw_at lw_m9 144 rfl) rfl
theorem q2362 : (Jvm.Cond.code ({ cls := "SchemaWorkshop", name := "again", desc := "()I" } : Jvm.MethodName) prog_1_method_23_code (1 : Nat) (Option.some Jvm.ClassFile.FieldType.int)) ∈ lw_all := lw_g (lw_at lw_m9 145 rfl) rfl
theorem in_X1 : ∀ w ∈ wsX10, w ∈ lw_all := lw_in wsX10 [878, 880, 882, 884, 886, 888, 890, 892, 894, 896, 898, 900, 902, 904, 906, 908, 910] (by decide +kernel) (by decide +kernel)

/-! SchemaWorkshopLaw -/
set_option maxRecDepth 100000
def RX0 : String := "SchemaWorkshopLaw"
abbrev cX0_feed : ByteArray := method_3_code
def yX0_feed : MethodName := ⟨RX0, "feed", "(LSchemaWorkshop;IIIII[J)I"⟩
def dkwX0_feed_1 : List UInt8 := [172]
abbrev dktX0_feed_1 : List UInt8 := dkwX0_feed_1 ++ []
def dkwX0_feed_0 : List UInt8 := [25, 6, 3, 42, 27, 28, 29, 21, 4, 21, 5, 182, 0, 7, 133, 80, 167, 0, 7, 58, 7, 4, 172, 3]
abbrev dktX0_feed_0 : List UInt8 := dkwX0_feed_0 ++ dktX0_feed_1
theorem dksX0_feed_0 : cX0_feed.data.toList.drop 0 = dktX0_feed_0 := by decide +kernel
theorem dksX0_feed_1 : cX0_feed.data.toList.drop 24 = dktX0_feed_1 := dk_seg dksX0_feed_0 24 rfl rfl
theorem dX0_feed_0 : decode cX0_feed 0 = .ok (.aload 6, 2) := dk_25 6 (dk_at dksX0_feed_0 0 rfl rfl)
theorem dX0_feed_2 : decode cX0_feed 2 = .ok (.iconst 0, 1) := dk_3 (dk_at dksX0_feed_0 2 rfl rfl)
theorem dX0_feed_3 : decode cX0_feed 3 = .ok (.aload_n 0, 1) := dk_42 (dk_at dksX0_feed_0 3 rfl rfl)
theorem dX0_feed_4 : decode cX0_feed 4 = .ok (.iload_n 1, 1) := dk_27 (dk_at dksX0_feed_0 4 rfl rfl)
theorem dX0_feed_5 : decode cX0_feed 5 = .ok (.iload_n 2, 1) := dk_28 (dk_at dksX0_feed_0 5 rfl rfl)
theorem dX0_feed_6 : decode cX0_feed 6 = .ok (.iload_n 3, 1) := dk_29 (dk_at dksX0_feed_0 6 rfl rfl)
theorem dX0_feed_7 : decode cX0_feed 7 = .ok (.iload 4, 2) := dk_21 4 (dk_at dksX0_feed_0 7 rfl rfl)
theorem dX0_feed_9 : decode cX0_feed 9 = .ok (.iload 5, 2) := dk_21 5 (dk_at dksX0_feed_0 9 rfl rfl)
theorem dX0_feed_11 : decode cX0_feed 11 = .ok (.invokevirtual 7, 3) := dk_182 0 7 (dk_at dksX0_feed_0 11 rfl rfl)
theorem dX0_feed_14 : decode cX0_feed 14 = .ok (.i2l, 1) := dk_133 (dk_at dksX0_feed_0 14 rfl rfl)
theorem dX0_feed_15 : decode cX0_feed 15 = .ok (.lastore, 1) := dk_80 (dk_at dksX0_feed_0 15 rfl rfl)
theorem dX0_feed_16 : decode cX0_feed 16 = .ok (.goto 7, 3) := dk_167 0 7 (dk_at dksX0_feed_0 16 rfl rfl)
theorem dX0_feed_19 : decode cX0_feed 19 = .ok (.astore 7, 2) := dk_58 7 (dk_at dksX0_feed_0 19 rfl rfl)
theorem dX0_feed_21 : decode cX0_feed 21 = .ok (.iconst 1, 1) := dk_4 (dk_at dksX0_feed_0 21 rfl rfl)
theorem dX0_feed_22 : decode cX0_feed 22 = .ok (.ireturn, 1) := dk_172 (dk_at dksX0_feed_0 22 rfl rfl)
theorem dX0_feed_23 : decode cX0_feed 23 = .ok (.iconst 0, 1) := dk_3 (dk_at dksX0_feed_0 23 rfl rfl)
theorem dX0_feed_24 : decode cX0_feed 24 = .ok (.ireturn, 1) := dk_172 (dk_at dksX0_feed_1 0 rfl rfl)
abbrev cX0_end : ByteArray := method_4_code
def yX0_end : MethodName := ⟨RX0, "end", "(LSchemaWorkshop;I[J)I"⟩
def dkwX0_end_0 : List UInt8 := [44, 3, 42, 27, 182, 0, 15, 133, 80, 167, 0, 9, 78, 4, 172, 78, 5, 172, 3, 172]
abbrev dktX0_end_0 : List UInt8 := dkwX0_end_0 ++ []
theorem dksX0_end_0 : cX0_end.data.toList.drop 0 = dktX0_end_0 := by decide +kernel
theorem dX0_end_0 : decode cX0_end 0 = .ok (.aload_n 2, 1) := dk_44 (dk_at dksX0_end_0 0 rfl rfl)
theorem dX0_end_1 : decode cX0_end 1 = .ok (.iconst 0, 1) := dk_3 (dk_at dksX0_end_0 1 rfl rfl)
theorem dX0_end_2 : decode cX0_end 2 = .ok (.aload_n 0, 1) := dk_42 (dk_at dksX0_end_0 2 rfl rfl)
theorem dX0_end_3 : decode cX0_end 3 = .ok (.iload_n 1, 1) := dk_27 (dk_at dksX0_end_0 3 rfl rfl)
theorem dX0_end_4 : decode cX0_end 4 = .ok (.invokevirtual 15, 3) := dk_182 0 15 (dk_at dksX0_end_0 4 rfl rfl)
theorem dX0_end_7 : decode cX0_end 7 = .ok (.i2l, 1) := dk_133 (dk_at dksX0_end_0 7 rfl rfl)
theorem dX0_end_8 : decode cX0_end 8 = .ok (.lastore, 1) := dk_80 (dk_at dksX0_end_0 8 rfl rfl)
theorem dX0_end_9 : decode cX0_end 9 = .ok (.goto 9, 3) := dk_167 0 9 (dk_at dksX0_end_0 9 rfl rfl)
theorem dX0_end_12 : decode cX0_end 12 = .ok (.astore_n 3, 1) := dk_78 (dk_at dksX0_end_0 12 rfl rfl)
theorem dX0_end_13 : decode cX0_end 13 = .ok (.iconst 1, 1) := dk_4 (dk_at dksX0_end_0 13 rfl rfl)
theorem dX0_end_14 : decode cX0_end 14 = .ok (.ireturn, 1) := dk_172 (dk_at dksX0_end_0 14 rfl rfl)
theorem dX0_end_15 : decode cX0_end 15 = .ok (.astore_n 3, 1) := dk_78 (dk_at dksX0_end_0 15 rfl rfl)
theorem dX0_end_16 : decode cX0_end 16 = .ok (.iconst 2, 1) := dk_5 (dk_at dksX0_end_0 16 rfl rfl)
theorem dX0_end_17 : decode cX0_end 17 = .ok (.ireturn, 1) := dk_172 (dk_at dksX0_end_0 17 rfl rfl)
theorem dX0_end_18 : decode cX0_end 18 = .ok (.iconst 0, 1) := dk_3 (dk_at dksX0_end_0 18 rfl rfl)
theorem dX0_end_19 : decode cX0_end 19 = .ok (.ireturn, 1) := dk_172 (dk_at dksX0_end_0 19 rfl rfl)
abbrev cX0_compile : ByteArray := method_5_code
def yX0_compile : MethodName := ⟨RX0, "compile", "(LSchemaWorkshop;[J)I"⟩
def dkwX0_compile_0 : List UInt8 := [43, 3, 42, 182, 0, 21, 133, 80, 167, 0, 6, 77, 4, 172, 3, 172]
abbrev dktX0_compile_0 : List UInt8 := dkwX0_compile_0 ++ []
theorem dksX0_compile_0 : cX0_compile.data.toList.drop 0 = dktX0_compile_0 := by decide +kernel
theorem dX0_compile_0 : decode cX0_compile 0 = .ok (.aload_n 1, 1) := dk_43 (dk_at dksX0_compile_0 0 rfl rfl)
theorem dX0_compile_1 : decode cX0_compile 1 = .ok (.iconst 0, 1) := dk_3 (dk_at dksX0_compile_0 1 rfl rfl)
theorem dX0_compile_2 : decode cX0_compile 2 = .ok (.aload_n 0, 1) := dk_42 (dk_at dksX0_compile_0 2 rfl rfl)
theorem dX0_compile_3 : decode cX0_compile 3 = .ok (.invokevirtual 21, 3) := dk_182 0 21 (dk_at dksX0_compile_0 3 rfl rfl)
theorem dX0_compile_6 : decode cX0_compile 6 = .ok (.i2l, 1) := dk_133 (dk_at dksX0_compile_0 6 rfl rfl)
theorem dX0_compile_7 : decode cX0_compile 7 = .ok (.lastore, 1) := dk_80 (dk_at dksX0_compile_0 7 rfl rfl)
theorem dX0_compile_8 : decode cX0_compile 8 = .ok (.goto 6, 3) := dk_167 0 6 (dk_at dksX0_compile_0 8 rfl rfl)
theorem dX0_compile_11 : decode cX0_compile 11 = .ok (.astore_n 2, 1) := dk_77 (dk_at dksX0_compile_0 11 rfl rfl)
theorem dX0_compile_12 : decode cX0_compile 12 = .ok (.iconst 1, 1) := dk_4 (dk_at dksX0_compile_0 12 rfl rfl)
theorem dX0_compile_13 : decode cX0_compile 13 = .ok (.ireturn, 1) := dk_172 (dk_at dksX0_compile_0 13 rfl rfl)
theorem dX0_compile_14 : decode cX0_compile 14 = .ok (.iconst 0, 1) := dk_3 (dk_at dksX0_compile_0 14 rfl rfl)
theorem dX0_compile_15 : decode cX0_compile 15 = .ok (.ireturn, 1) := dk_172 (dk_at dksX0_compile_0 15 rfl rfl)
abbrev cX0_fault : ByteArray := method_6_code
def yX0_fault : MethodName := ⟨RX0, "fault", "(LSchemaWorkshop;I[J)I"⟩
def dkwX0_fault_0 : List UInt8 := [44, 3, 42, 27, 182, 0, 25, 133, 80, 167, 0, 6, 78, 4, 172, 3, 172]
abbrev dktX0_fault_0 : List UInt8 := dkwX0_fault_0 ++ []
theorem dksX0_fault_0 : cX0_fault.data.toList.drop 0 = dktX0_fault_0 := by decide +kernel
theorem dX0_fault_0 : decode cX0_fault 0 = .ok (.aload_n 2, 1) := dk_44 (dk_at dksX0_fault_0 0 rfl rfl)
theorem dX0_fault_1 : decode cX0_fault 1 = .ok (.iconst 0, 1) := dk_3 (dk_at dksX0_fault_0 1 rfl rfl)
theorem dX0_fault_2 : decode cX0_fault 2 = .ok (.aload_n 0, 1) := dk_42 (dk_at dksX0_fault_0 2 rfl rfl)
theorem dX0_fault_3 : decode cX0_fault 3 = .ok (.iload_n 1, 1) := dk_27 (dk_at dksX0_fault_0 3 rfl rfl)
theorem dX0_fault_4 : decode cX0_fault 4 = .ok (.invokevirtual 25, 3) := dk_182 0 25 (dk_at dksX0_fault_0 4 rfl rfl)
theorem dX0_fault_7 : decode cX0_fault 7 = .ok (.i2l, 1) := dk_133 (dk_at dksX0_fault_0 7 rfl rfl)
theorem dX0_fault_8 : decode cX0_fault 8 = .ok (.lastore, 1) := dk_80 (dk_at dksX0_fault_0 8 rfl rfl)
theorem dX0_fault_9 : decode cX0_fault 9 = .ok (.goto 6, 3) := dk_167 0 6 (dk_at dksX0_fault_0 9 rfl rfl)
theorem dX0_fault_12 : decode cX0_fault 12 = .ok (.astore_n 3, 1) := dk_78 (dk_at dksX0_fault_0 12 rfl rfl)
theorem dX0_fault_13 : decode cX0_fault 13 = .ok (.iconst 1, 1) := dk_4 (dk_at dksX0_fault_0 13 rfl rfl)
theorem dX0_fault_14 : decode cX0_fault 14 = .ok (.ireturn, 1) := dk_172 (dk_at dksX0_fault_0 14 rfl rfl)
theorem dX0_fault_15 : decode cX0_fault 15 = .ok (.iconst 0, 1) := dk_3 (dk_at dksX0_fault_0 15 rfl rfl)
theorem dX0_fault_16 : decode cX0_fault 16 = .ok (.ireturn, 1) := dk_172 (dk_at dksX0_fault_0 16 rfl rfl)
abbrev cX0_type : ByteArray := method_7_code
def yX0_type : MethodName := ⟨RX0, "type", "(LSchemaWorkshop;II[J)I"⟩
def dkwX0_type_0 : List UInt8 := [45, 3, 42, 27, 28, 182, 0, 30, 133, 80, 167, 0, 7, 58, 4, 4, 172, 3, 172]
abbrev dktX0_type_0 : List UInt8 := dkwX0_type_0 ++ []
theorem dksX0_type_0 : cX0_type.data.toList.drop 0 = dktX0_type_0 := by decide +kernel
theorem dX0_type_0 : decode cX0_type 0 = .ok (.aload_n 3, 1) := dk_45 (dk_at dksX0_type_0 0 rfl rfl)
theorem dX0_type_1 : decode cX0_type 1 = .ok (.iconst 0, 1) := dk_3 (dk_at dksX0_type_0 1 rfl rfl)
theorem dX0_type_2 : decode cX0_type 2 = .ok (.aload_n 0, 1) := dk_42 (dk_at dksX0_type_0 2 rfl rfl)
theorem dX0_type_3 : decode cX0_type 3 = .ok (.iload_n 1, 1) := dk_27 (dk_at dksX0_type_0 3 rfl rfl)
theorem dX0_type_4 : decode cX0_type 4 = .ok (.iload_n 2, 1) := dk_28 (dk_at dksX0_type_0 4 rfl rfl)
theorem dX0_type_5 : decode cX0_type 5 = .ok (.invokevirtual 30, 3) := dk_182 0 30 (dk_at dksX0_type_0 5 rfl rfl)
theorem dX0_type_8 : decode cX0_type 8 = .ok (.i2l, 1) := dk_133 (dk_at dksX0_type_0 8 rfl rfl)
theorem dX0_type_9 : decode cX0_type 9 = .ok (.lastore, 1) := dk_80 (dk_at dksX0_type_0 9 rfl rfl)
theorem dX0_type_10 : decode cX0_type 10 = .ok (.goto 7, 3) := dk_167 0 7 (dk_at dksX0_type_0 10 rfl rfl)
theorem dX0_type_13 : decode cX0_type 13 = .ok (.astore 4, 2) := dk_58 4 (dk_at dksX0_type_0 13 rfl rfl)
theorem dX0_type_15 : decode cX0_type 15 = .ok (.iconst 1, 1) := dk_4 (dk_at dksX0_type_0 15 rfl rfl)
theorem dX0_type_16 : decode cX0_type 16 = .ok (.ireturn, 1) := dk_172 (dk_at dksX0_type_0 16 rfl rfl)
theorem dX0_type_17 : decode cX0_type 17 = .ok (.iconst 0, 1) := dk_3 (dk_at dksX0_type_0 17 rfl rfl)
theorem dX0_type_18 : decode cX0_type 18 = .ok (.ireturn, 1) := dk_172 (dk_at dksX0_type_0 18 rfl rfl)
abbrev cX0_name : ByteArray := method_8_code
def yX0_name : MethodName := ⟨RX0, "name", "(LSchemaWorkshop;II[J)I"⟩
def dkwX0_name_0 : List UInt8 := [45, 3, 42, 27, 28, 182, 0, 34, 133, 80, 167, 0, 7, 58, 4, 4, 172, 3, 172]
abbrev dktX0_name_0 : List UInt8 := dkwX0_name_0 ++ []
theorem dksX0_name_0 : cX0_name.data.toList.drop 0 = dktX0_name_0 := by decide +kernel
theorem dX0_name_0 : decode cX0_name 0 = .ok (.aload_n 3, 1) := dk_45 (dk_at dksX0_name_0 0 rfl rfl)
theorem dX0_name_1 : decode cX0_name 1 = .ok (.iconst 0, 1) := dk_3 (dk_at dksX0_name_0 1 rfl rfl)
theorem dX0_name_2 : decode cX0_name 2 = .ok (.aload_n 0, 1) := dk_42 (dk_at dksX0_name_0 2 rfl rfl)
theorem dX0_name_3 : decode cX0_name 3 = .ok (.iload_n 1, 1) := dk_27 (dk_at dksX0_name_0 3 rfl rfl)
theorem dX0_name_4 : decode cX0_name 4 = .ok (.iload_n 2, 1) := dk_28 (dk_at dksX0_name_0 4 rfl rfl)
theorem dX0_name_5 : decode cX0_name 5 = .ok (.invokevirtual 34, 3) := dk_182 0 34 (dk_at dksX0_name_0 5 rfl rfl)
theorem dX0_name_8 : decode cX0_name 8 = .ok (.i2l, 1) := dk_133 (dk_at dksX0_name_0 8 rfl rfl)
theorem dX0_name_9 : decode cX0_name 9 = .ok (.lastore, 1) := dk_80 (dk_at dksX0_name_0 9 rfl rfl)
theorem dX0_name_10 : decode cX0_name 10 = .ok (.goto 7, 3) := dk_167 0 7 (dk_at dksX0_name_0 10 rfl rfl)
theorem dX0_name_13 : decode cX0_name 13 = .ok (.astore 4, 2) := dk_58 4 (dk_at dksX0_name_0 13 rfl rfl)
theorem dX0_name_15 : decode cX0_name 15 = .ok (.iconst 1, 1) := dk_4 (dk_at dksX0_name_0 15 rfl rfl)
theorem dX0_name_16 : decode cX0_name 16 = .ok (.ireturn, 1) := dk_172 (dk_at dksX0_name_0 16 rfl rfl)
theorem dX0_name_17 : decode cX0_name 17 = .ok (.iconst 0, 1) := dk_3 (dk_at dksX0_name_0 17 rfl rfl)
theorem dX0_name_18 : decode cX0_name 18 = .ok (.ireturn, 1) := dk_172 (dk_at dksX0_name_0 18 rfl rfl)
abbrev cX0_defaultSize : ByteArray := method_9_code
def yX0_defaultSize : MethodName := ⟨RX0, "defaultSize", "(LSchemaWorkshop;II[J)I"⟩
def dkwX0_defaultSize_0 : List UInt8 := [45, 3, 42, 27, 28, 182, 0, 37, 133, 80, 167, 0, 7, 58, 4, 4, 172, 3, 172]
abbrev dktX0_defaultSize_0 : List UInt8 := dkwX0_defaultSize_0 ++ []
theorem dksX0_defaultSize_0 : cX0_defaultSize.data.toList.drop 0 = dktX0_defaultSize_0 := by decide +kernel
theorem dX0_defaultSize_0 : decode cX0_defaultSize 0 = .ok (.aload_n 3, 1) := dk_45 (dk_at dksX0_defaultSize_0 0 rfl rfl)
theorem dX0_defaultSize_1 : decode cX0_defaultSize 1 = .ok (.iconst 0, 1) := dk_3 (dk_at dksX0_defaultSize_0 1 rfl rfl)
theorem dX0_defaultSize_2 : decode cX0_defaultSize 2 = .ok (.aload_n 0, 1) := dk_42 (dk_at dksX0_defaultSize_0 2 rfl rfl)
theorem dX0_defaultSize_3 : decode cX0_defaultSize 3 = .ok (.iload_n 1, 1) := dk_27 (dk_at dksX0_defaultSize_0 3 rfl rfl)
theorem dX0_defaultSize_4 : decode cX0_defaultSize 4 = .ok (.iload_n 2, 1) := dk_28 (dk_at dksX0_defaultSize_0 4 rfl rfl)
theorem dX0_defaultSize_5 : decode cX0_defaultSize 5 = .ok (.invokevirtual 37, 3) := dk_182 0 37 (dk_at dksX0_defaultSize_0 5 rfl rfl)
theorem dX0_defaultSize_8 : decode cX0_defaultSize 8 = .ok (.i2l, 1) := dk_133 (dk_at dksX0_defaultSize_0 8 rfl rfl)
theorem dX0_defaultSize_9 : decode cX0_defaultSize 9 = .ok (.lastore, 1) := dk_80 (dk_at dksX0_defaultSize_0 9 rfl rfl)
theorem dX0_defaultSize_10 : decode cX0_defaultSize 10 = .ok (.goto 7, 3) := dk_167 0 7 (dk_at dksX0_defaultSize_0 10 rfl rfl)
theorem dX0_defaultSize_13 : decode cX0_defaultSize 13 = .ok (.astore 4, 2) := dk_58 4 (dk_at dksX0_defaultSize_0 13 rfl rfl)
theorem dX0_defaultSize_15 : decode cX0_defaultSize 15 = .ok (.iconst 1, 1) := dk_4 (dk_at dksX0_defaultSize_0 15 rfl rfl)
theorem dX0_defaultSize_16 : decode cX0_defaultSize 16 = .ok (.ireturn, 1) := dk_172 (dk_at dksX0_defaultSize_0 16 rfl rfl)
theorem dX0_defaultSize_17 : decode cX0_defaultSize 17 = .ok (.iconst 0, 1) := dk_3 (dk_at dksX0_defaultSize_0 17 rfl rfl)
theorem dX0_defaultSize_18 : decode cX0_defaultSize 18 = .ok (.ireturn, 1) := dk_172 (dk_at dksX0_defaultSize_0 18 rfl rfl)
abbrev cX0_limit : ByteArray := method_10_code
def yX0_limit : MethodName := ⟨RX0, "limit", "(LSchemaWorkshop;I[J)I"⟩
def dkwX0_limit_0 : List UInt8 := [44, 3, 42, 27, 182, 0, 40, 133, 80, 167, 0, 6, 78, 4, 172, 3, 172]
abbrev dktX0_limit_0 : List UInt8 := dkwX0_limit_0 ++ []
theorem dksX0_limit_0 : cX0_limit.data.toList.drop 0 = dktX0_limit_0 := by decide +kernel
theorem dX0_limit_0 : decode cX0_limit 0 = .ok (.aload_n 2, 1) := dk_44 (dk_at dksX0_limit_0 0 rfl rfl)
theorem dX0_limit_1 : decode cX0_limit 1 = .ok (.iconst 0, 1) := dk_3 (dk_at dksX0_limit_0 1 rfl rfl)
theorem dX0_limit_2 : decode cX0_limit 2 = .ok (.aload_n 0, 1) := dk_42 (dk_at dksX0_limit_0 2 rfl rfl)
theorem dX0_limit_3 : decode cX0_limit 3 = .ok (.iload_n 1, 1) := dk_27 (dk_at dksX0_limit_0 3 rfl rfl)
theorem dX0_limit_4 : decode cX0_limit 4 = .ok (.invokevirtual 40, 3) := dk_182 0 40 (dk_at dksX0_limit_0 4 rfl rfl)
theorem dX0_limit_7 : decode cX0_limit 7 = .ok (.i2l, 1) := dk_133 (dk_at dksX0_limit_0 7 rfl rfl)
theorem dX0_limit_8 : decode cX0_limit 8 = .ok (.lastore, 1) := dk_80 (dk_at dksX0_limit_0 8 rfl rfl)
theorem dX0_limit_9 : decode cX0_limit 9 = .ok (.goto 6, 3) := dk_167 0 6 (dk_at dksX0_limit_0 9 rfl rfl)
theorem dX0_limit_12 : decode cX0_limit 12 = .ok (.astore_n 3, 1) := dk_78 (dk_at dksX0_limit_0 12 rfl rfl)
theorem dX0_limit_13 : decode cX0_limit 13 = .ok (.iconst 1, 1) := dk_4 (dk_at dksX0_limit_0 13 rfl rfl)
theorem dX0_limit_14 : decode cX0_limit 14 = .ok (.ireturn, 1) := dk_172 (dk_at dksX0_limit_0 14 rfl rfl)
theorem dX0_limit_15 : decode cX0_limit 15 = .ok (.iconst 0, 1) := dk_3 (dk_at dksX0_limit_0 15 rfl rfl)
theorem dX0_limit_16 : decode cX0_limit 16 = .ok (.ireturn, 1) := dk_172 (dk_at dksX0_limit_0 16 rfl rfl)
abbrev cX0_transcode : ByteArray := method_11_code
def yX0_transcode : MethodName := ⟨RX0, "transcode", "(LSchemaWorkshop;I[J)I"⟩
def dkwX0_transcode_0 : List UInt8 := [44, 3, 42, 27, 182, 0, 43, 133, 80, 167, 0, 9, 78, 4, 172, 78, 5, 172, 3, 172]
abbrev dktX0_transcode_0 : List UInt8 := dkwX0_transcode_0 ++ []
theorem dksX0_transcode_0 : cX0_transcode.data.toList.drop 0 = dktX0_transcode_0 := by decide +kernel
theorem dX0_transcode_0 : decode cX0_transcode 0 = .ok (.aload_n 2, 1) := dk_44 (dk_at dksX0_transcode_0 0 rfl rfl)
theorem dX0_transcode_1 : decode cX0_transcode 1 = .ok (.iconst 0, 1) := dk_3 (dk_at dksX0_transcode_0 1 rfl rfl)
theorem dX0_transcode_2 : decode cX0_transcode 2 = .ok (.aload_n 0, 1) := dk_42 (dk_at dksX0_transcode_0 2 rfl rfl)
theorem dX0_transcode_3 : decode cX0_transcode 3 = .ok (.iload_n 1, 1) := dk_27 (dk_at dksX0_transcode_0 3 rfl rfl)
theorem dX0_transcode_4 : decode cX0_transcode 4 = .ok (.invokevirtual 43, 3) := dk_182 0 43 (dk_at dksX0_transcode_0 4 rfl rfl)
theorem dX0_transcode_7 : decode cX0_transcode 7 = .ok (.i2l, 1) := dk_133 (dk_at dksX0_transcode_0 7 rfl rfl)
theorem dX0_transcode_8 : decode cX0_transcode 8 = .ok (.lastore, 1) := dk_80 (dk_at dksX0_transcode_0 8 rfl rfl)
theorem dX0_transcode_9 : decode cX0_transcode 9 = .ok (.goto 9, 3) := dk_167 0 9 (dk_at dksX0_transcode_0 9 rfl rfl)
theorem dX0_transcode_12 : decode cX0_transcode 12 = .ok (.astore_n 3, 1) := dk_78 (dk_at dksX0_transcode_0 12 rfl rfl)
theorem dX0_transcode_13 : decode cX0_transcode 13 = .ok (.iconst 1, 1) := dk_4 (dk_at dksX0_transcode_0 13 rfl rfl)
theorem dX0_transcode_14 : decode cX0_transcode 14 = .ok (.ireturn, 1) := dk_172 (dk_at dksX0_transcode_0 14 rfl rfl)
theorem dX0_transcode_15 : decode cX0_transcode 15 = .ok (.astore_n 3, 1) := dk_78 (dk_at dksX0_transcode_0 15 rfl rfl)
theorem dX0_transcode_16 : decode cX0_transcode 16 = .ok (.iconst 2, 1) := dk_5 (dk_at dksX0_transcode_0 16 rfl rfl)
theorem dX0_transcode_17 : decode cX0_transcode 17 = .ok (.ireturn, 1) := dk_172 (dk_at dksX0_transcode_0 17 rfl rfl)
theorem dX0_transcode_18 : decode cX0_transcode 18 = .ok (.iconst 0, 1) := dk_3 (dk_at dksX0_transcode_0 18 rfl rfl)
theorem dX0_transcode_19 : decode cX0_transcode 19 = .ok (.ireturn, 1) := dk_172 (dk_at dksX0_transcode_0 19 rfl rfl)
abbrev cX0_out : ByteArray := method_12_code
def yX0_out : MethodName := ⟨RX0, "out", "(LSchemaWorkshop;I[J)I"⟩
def dkwX0_out_0 : List UInt8 := [44, 3, 42, 27, 182, 0, 46, 133, 80, 167, 0, 6, 78, 4, 172, 3, 172]
abbrev dktX0_out_0 : List UInt8 := dkwX0_out_0 ++ []
theorem dksX0_out_0 : cX0_out.data.toList.drop 0 = dktX0_out_0 := by decide +kernel
theorem dX0_out_0 : decode cX0_out 0 = .ok (.aload_n 2, 1) := dk_44 (dk_at dksX0_out_0 0 rfl rfl)
theorem dX0_out_1 : decode cX0_out 1 = .ok (.iconst 0, 1) := dk_3 (dk_at dksX0_out_0 1 rfl rfl)
theorem dX0_out_2 : decode cX0_out 2 = .ok (.aload_n 0, 1) := dk_42 (dk_at dksX0_out_0 2 rfl rfl)
theorem dX0_out_3 : decode cX0_out 3 = .ok (.iload_n 1, 1) := dk_27 (dk_at dksX0_out_0 3 rfl rfl)
theorem dX0_out_4 : decode cX0_out 4 = .ok (.invokevirtual 46, 3) := dk_182 0 46 (dk_at dksX0_out_0 4 rfl rfl)
theorem dX0_out_7 : decode cX0_out 7 = .ok (.i2l, 1) := dk_133 (dk_at dksX0_out_0 7 rfl rfl)
theorem dX0_out_8 : decode cX0_out 8 = .ok (.lastore, 1) := dk_80 (dk_at dksX0_out_0 8 rfl rfl)
theorem dX0_out_9 : decode cX0_out 9 = .ok (.goto 6, 3) := dk_167 0 6 (dk_at dksX0_out_0 9 rfl rfl)
theorem dX0_out_12 : decode cX0_out 12 = .ok (.astore_n 3, 1) := dk_78 (dk_at dksX0_out_0 12 rfl rfl)
theorem dX0_out_13 : decode cX0_out 13 = .ok (.iconst 1, 1) := dk_4 (dk_at dksX0_out_0 13 rfl rfl)
theorem dX0_out_14 : decode cX0_out 14 = .ok (.ireturn, 1) := dk_172 (dk_at dksX0_out_0 14 rfl rfl)
theorem dX0_out_15 : decode cX0_out 15 = .ok (.iconst 0, 1) := dk_3 (dk_at dksX0_out_0 15 rfl rfl)
theorem dX0_out_16 : decode cX0_out 16 = .ok (.ireturn, 1) := dk_172 (dk_at dksX0_out_0 16 rfl rfl)
abbrev cX0_again : ByteArray := method_13_code
def yX0_again : MethodName := ⟨RX0, "again", "(LSchemaWorkshop;[J)I"⟩
def dkwX0_again_0 : List UInt8 := [43, 3, 42, 182, 0, 49, 133, 80, 167, 0, 6, 77, 4, 172, 3, 172]
abbrev dktX0_again_0 : List UInt8 := dkwX0_again_0 ++ []
theorem dksX0_again_0 : cX0_again.data.toList.drop 0 = dktX0_again_0 := by decide +kernel
theorem dX0_again_0 : decode cX0_again 0 = .ok (.aload_n 1, 1) := dk_43 (dk_at dksX0_again_0 0 rfl rfl)
theorem dX0_again_1 : decode cX0_again 1 = .ok (.iconst 0, 1) := dk_3 (dk_at dksX0_again_0 1 rfl rfl)
theorem dX0_again_2 : decode cX0_again 2 = .ok (.aload_n 0, 1) := dk_42 (dk_at dksX0_again_0 2 rfl rfl)
theorem dX0_again_3 : decode cX0_again 3 = .ok (.invokevirtual 49, 3) := dk_182 0 49 (dk_at dksX0_again_0 3 rfl rfl)
theorem dX0_again_6 : decode cX0_again 6 = .ok (.i2l, 1) := dk_133 (dk_at dksX0_again_0 6 rfl rfl)
theorem dX0_again_7 : decode cX0_again 7 = .ok (.lastore, 1) := dk_80 (dk_at dksX0_again_0 7 rfl rfl)
theorem dX0_again_8 : decode cX0_again 8 = .ok (.goto 6, 3) := dk_167 0 6 (dk_at dksX0_again_0 8 rfl rfl)
theorem dX0_again_11 : decode cX0_again 11 = .ok (.astore_n 2, 1) := dk_77 (dk_at dksX0_again_0 11 rfl rfl)
theorem dX0_again_12 : decode cX0_again 12 = .ok (.iconst 1, 1) := dk_4 (dk_at dksX0_again_0 12 rfl rfl)
theorem dX0_again_13 : decode cX0_again 13 = .ok (.ireturn, 1) := dk_172 (dk_at dksX0_again_0 13 rfl rfl)
theorem dX0_again_14 : decode cX0_again 14 = .ok (.iconst 0, 1) := dk_3 (dk_at dksX0_again_0 14 rfl rfl)
theorem dX0_again_15 : decode cX0_again 15 = .ok (.ireturn, 1) := dk_172 (dk_at dksX0_again_0 15 rfl rfl)
theorem q297 : (Jvm.Cond.initialized "SchemaWorkshopLaw") ∈ lw_all := lw_g (lw_at lw_m1 0 rfl) rfl
theorem q326 : (Jvm.Cond.classLink "SchemaWorkshopLaw" (8 : Nat) "SchemaWorkshop") ∈ lw_all := lw_g (lw_at lw_m1 29 rfl) rfl
theorem q328 : (Jvm.Cond.methodLink "SchemaWorkshopLaw" (52 : Nat) ({ cls := "SchemaWorkshop", name := "<init>", desc := "()V" } : Jvm.MethodName)) ∈ lw_all := lw_g (lw_at lw_m1 31 rfl) rfl
theorem q913 : (Jvm.Cond.methodLink "SchemaWorkshopLaw" (98 : Nat) ({ cls := "SchemaWorkshop", name := "count", desc := "(I)I" } : Jvm.MethodName)) ∈ lw_all := lw_g (lw_at lw_m3 136 rfl) rfl
theorem q921 : (Jvm.Cond.methodLink "SchemaWorkshopLaw" (56 : Nat) ({ cls := "SchemaWorkshopLaw", name := "feed", desc := "(LSchemaWorkshop;IIIII[J)I" } : Jvm.MethodName)) ∈ lw_all := lw_g (lw_at lw_m3 144 rfl) rfl
theorem q922 : (Jvm.Cond.static ({ cls := "SchemaWorkshopLaw", name := "feed", desc := "(LSchemaWorkshop;IIIII[J)I" } : Jvm.MethodName)) ∈ lw_all := lw_g (lw_at lw_m3 145 rfl) rfl
theorem q923 : (Jvm.Cond.codeWith ({ cls := "SchemaWorkshopLaw", name := "feed", desc := "(LSchemaWorkshop;IIIII[J)I" } : Jvm.MethodName) method_3_code (8 : Nat) (Option.some Jvm.ClassFile.FieldType.int) [((0 : Nat), (16 : Nat), (19 : Nat), (13 : Nat))]) ∈ lw_all := lw_g (lw_at lw_m3 146 rfl) rfl
theorem q924 : (Jvm.Cond.classLink "SchemaWorkshopLaw" (13 : Nat) "java/lang/IllegalStateException") ∈ lw_all := lw_g (lw_at lw_m3 147 rfl) rfl
theorem q925 : (Jvm.Cond.methodLink "SchemaWorkshopLaw" (7 : Nat) ({ cls := "SchemaWorkshop", name := "feed", desc := "(IIIII)I" } : Jvm.MethodName)) ∈ lw_all := lw_g (lw_at lw_m3 148 rfl) rfl
theorem q1013 : (Jvm.Cond.methodLink "SchemaWorkshopLaw" (65 : Nat) ({ cls := "SchemaWorkshopLaw", name := "end", desc := "(LSchemaWorkshop;I[J)I" } : Jvm.MethodName)) ∈ lw_all := lw_g (lw_at lw_m3 236 rfl) rfl
theorem q1014 : (Jvm.Cond.static ({ cls := "SchemaWorkshopLaw", name := "end", desc := "(LSchemaWorkshop;I[J)I" } : Jvm.MethodName)) ∈ lw_all := lw_g (lw_at lw_m3 237 rfl) rfl
theorem q1015 : (Jvm.Cond.codeWith ({ cls := "SchemaWorkshopLaw", name := "end", desc := "(LSchemaWorkshop;I[J)I" } : Jvm.MethodName) method_4_code (4 : Nat) (Option.some Jvm.ClassFile.FieldType.int) [((0 : Nat), (9 : Nat), (12 : Nat), (19 : Nat)), ((0 : Nat), (9 : Nat), (15 : Nat), (13 : Nat))]) ∈ lw_all := lw_g (lw_at lw_m3 238 rfl) rfl
theorem q1016 : (Jvm.Cond.classLink "SchemaWorkshopLaw" (19 : Nat) "java/lang/IllegalArgumentException") ∈ lw_all := lw_g (lw_at lw_m3 239 rfl) rfl
theorem q1017 : (Jvm.Cond.methodLink "SchemaWorkshopLaw" (15 : Nat) ({ cls := "SchemaWorkshop", name := "end", desc := "(I)I" } : Jvm.MethodName)) ∈ lw_all := lw_g (lw_at lw_m4 0 rfl) rfl
theorem q1043 : (Jvm.Cond.methodLink "SchemaWorkshopLaw" (69 : Nat) ({ cls := "SchemaWorkshopLaw", name := "compile", desc := "(LSchemaWorkshop;[J)I" } : Jvm.MethodName)) ∈ lw_all := lw_g (lw_at lw_m4 26 rfl) rfl
theorem q1044 : (Jvm.Cond.static ({ cls := "SchemaWorkshopLaw", name := "compile", desc := "(LSchemaWorkshop;[J)I" } : Jvm.MethodName)) ∈ lw_all := lw_g (lw_at lw_m4 27 rfl) rfl
theorem q1045 : (Jvm.Cond.codeWith ({ cls := "SchemaWorkshopLaw", name := "compile", desc := "(LSchemaWorkshop;[J)I" } : Jvm.MethodName) method_5_code (3 : Nat) (Option.some Jvm.ClassFile.FieldType.int) [((0 : Nat), (8 : Nat), (11 : Nat), (19 : Nat))]) ∈ lw_all := lw_g (lw_at lw_m4 28 rfl) rfl
theorem q1046 : (Jvm.Cond.methodLink "SchemaWorkshopLaw" (21 : Nat) ({ cls := "SchemaWorkshop", name := "compile", desc := "()I" } : Jvm.MethodName)) ∈ lw_all := lw_g (lw_at lw_m4 29 rfl) rfl
theorem q1946 : (Jvm.Cond.methodLink "SchemaWorkshopLaw" (73 : Nat) ({ cls := "SchemaWorkshopLaw", name := "fault", desc := "(LSchemaWorkshop;I[J)I" } : Jvm.MethodName)) ∈ lw_all := lw_g (lw_at lw_m7 209 rfl) rfl
theorem q1947 : (Jvm.Cond.static ({ cls := "SchemaWorkshopLaw", name := "fault", desc := "(LSchemaWorkshop;I[J)I" } : Jvm.MethodName)) ∈ lw_all := lw_g (lw_at lw_m7 210 rfl) rfl
theorem q1948 : (Jvm.Cond.codeWith ({ cls := "SchemaWorkshopLaw", name := "fault", desc := "(LSchemaWorkshop;I[J)I" } : Jvm.MethodName) method_6_code (4 : Nat) (Option.some Jvm.ClassFile.FieldType.int) [((0 : Nat), (9 : Nat), (12 : Nat), (28 : Nat))]) ∈ lw_all := lw_g (lw_at lw_m7 211 rfl) rfl
theorem q1949 : (Jvm.Cond.classLink "SchemaWorkshopLaw" (28 : Nat) "java/lang/IndexOutOfBoundsException") ∈ lw_all := lw_g (lw_at lw_m7 212 rfl) rfl
theorem q1981 : (Jvm.Cond.methodLink "SchemaWorkshopLaw" (25 : Nat) ({ cls := "SchemaWorkshop", name := "fault", desc := "(I)I" } : Jvm.MethodName)) ∈ lw_all := lw_g (lw_at lw_m8 4 rfl) rfl
theorem q2003 : (Jvm.Cond.methodLink "SchemaWorkshopLaw" (76 : Nat) ({ cls := "SchemaWorkshopLaw", name := "type", desc := "(LSchemaWorkshop;II[J)I" } : Jvm.MethodName)) ∈ lw_all := lw_g (lw_at lw_m8 26 rfl) rfl
theorem q2004 : (Jvm.Cond.static ({ cls := "SchemaWorkshopLaw", name := "type", desc := "(LSchemaWorkshop;II[J)I" } : Jvm.MethodName)) ∈ lw_all := lw_g (lw_at lw_m8 27 rfl) rfl
theorem q2005 : (Jvm.Cond.codeWith ({ cls := "SchemaWorkshopLaw", name := "type", desc := "(LSchemaWorkshop;II[J)I" } : Jvm.MethodName) method_7_code (5 : Nat) (Option.some Jvm.ClassFile.FieldType.int) [((0 : Nat), (10 : Nat), (13 : Nat), (28 : Nat))]) ∈ lw_all := lw_g (lw_at lw_m8 28 rfl) rfl
theorem q2006 : (Jvm.Cond.methodLink "SchemaWorkshopLaw" (30 : Nat) ({ cls := "SchemaWorkshop", name := "type", desc := "(II)I" } : Jvm.MethodName)) ∈ lw_all := lw_g (lw_at lw_m8 29 rfl) rfl
theorem q2037 : (Jvm.Cond.methodLink "SchemaWorkshopLaw" (80 : Nat) ({ cls := "SchemaWorkshopLaw", name := "name", desc := "(LSchemaWorkshop;II[J)I" } : Jvm.MethodName)) ∈ lw_all := lw_g (lw_at lw_m8 60 rfl) rfl
theorem q2038 : (Jvm.Cond.static ({ cls := "SchemaWorkshopLaw", name := "name", desc := "(LSchemaWorkshop;II[J)I" } : Jvm.MethodName)) ∈ lw_all := lw_g (lw_at lw_m8 61 rfl) rfl
theorem q2039 : (Jvm.Cond.codeWith ({ cls := "SchemaWorkshopLaw", name := "name", desc := "(LSchemaWorkshop;II[J)I" } : Jvm.MethodName) method_8_code (5 : Nat) (Option.some Jvm.ClassFile.FieldType.int) [((0 : Nat), (10 : Nat), (13 : Nat), (28 : Nat))]) ∈ lw_all := lw_g (lw_at lw_m8 62 rfl) rfl
theorem q2040 : (Jvm.Cond.methodLink "SchemaWorkshopLaw" (34 : Nat) ({ cls := "SchemaWorkshop", name := "name", desc := "(II)I" } : Jvm.MethodName)) ∈ lw_all := lw_g (lw_at lw_m8 63 rfl) rfl
theorem q2045 : (Jvm.Cond.methodLink "SchemaWorkshopLaw" (83 : Nat) ({ cls := "SchemaWorkshopLaw", name := "defaultSize", desc := "(LSchemaWorkshop;II[J)I" } : Jvm.MethodName)) ∈ lw_all := lw_g (lw_at lw_m8 68 rfl) rfl
theorem q2046 : (Jvm.Cond.static ({ cls := "SchemaWorkshopLaw", name := "defaultSize", desc := "(LSchemaWorkshop;II[J)I" } : Jvm.MethodName)) ∈ lw_all := lw_g (lw_at lw_m8 69 rfl) rfl
theorem q2047 : (Jvm.Cond.codeWith ({ cls := "SchemaWorkshopLaw", name := "defaultSize", desc := "(LSchemaWorkshop;II[J)I" } : Jvm.MethodName) method_9_code (5 : Nat) (Option.some Jvm.ClassFile.FieldType.int) [((0 : Nat), (10 : Nat), (13 : Nat), (28 : Nat))]) ∈ lw_all := lw_g (lw_at lw_m8 70 rfl) rfl
theorem q2048 : (Jvm.Cond.methodLink "SchemaWorkshopLaw" (37 : Nat) ({ cls := "SchemaWorkshop", name := "defaultSize", desc := "(II)I" } : Jvm.MethodName)) ∈ lw_all := lw_g (lw_at lw_m8 71 rfl) rfl
theorem q2061 : (Jvm.Cond.methodLink "SchemaWorkshopLaw" (86 : Nat) ({ cls := "SchemaWorkshopLaw", name := "limit", desc := "(LSchemaWorkshop;I[J)I" } : Jvm.MethodName)) ∈ lw_all := lw_g (lw_at lw_m8 84 rfl) rfl
theorem q2062 : (Jvm.Cond.static ({ cls := "SchemaWorkshopLaw", name := "limit", desc := "(LSchemaWorkshop;I[J)I" } : Jvm.MethodName)) ∈ lw_all := lw_g (lw_at lw_m8 85 rfl) rfl
theorem q2063 : (Jvm.Cond.codeWith ({ cls := "SchemaWorkshopLaw", name := "limit", desc := "(LSchemaWorkshop;I[J)I" } : Jvm.MethodName) method_10_code (4 : Nat) (Option.some Jvm.ClassFile.FieldType.int) [((0 : Nat), (9 : Nat), (12 : Nat), (19 : Nat))]) ∈ lw_all := lw_g (lw_at lw_m8 86 rfl) rfl
theorem q2064 : (Jvm.Cond.methodLink "SchemaWorkshopLaw" (40 : Nat) ({ cls := "SchemaWorkshop", name := "limit", desc := "(I)I" } : Jvm.MethodName)) ∈ lw_all := lw_g (lw_at lw_m8 87 rfl) rfl
theorem q2068 : (Jvm.Cond.methodLink "SchemaWorkshopLaw" (89 : Nat) ({ cls := "SchemaWorkshopLaw", name := "transcode", desc := "(LSchemaWorkshop;I[J)I" } : Jvm.MethodName)) ∈ lw_all := lw_g (lw_at lw_m8 91 rfl) rfl
theorem q2069 : (Jvm.Cond.static ({ cls := "SchemaWorkshopLaw", name := "transcode", desc := "(LSchemaWorkshop;I[J)I" } : Jvm.MethodName)) ∈ lw_all := lw_g (lw_at lw_m8 92 rfl) rfl
theorem q2070 : (Jvm.Cond.codeWith ({ cls := "SchemaWorkshopLaw", name := "transcode", desc := "(LSchemaWorkshop;I[J)I" } : Jvm.MethodName) method_11_code (4 : Nat) (Option.some Jvm.ClassFile.FieldType.int) [((0 : Nat), (9 : Nat), (12 : Nat), (28 : Nat)), ((0 : Nat), (9 : Nat), (15 : Nat), (19 : Nat))]) ∈ lw_all := lw_g (lw_at lw_m8 93 rfl) rfl
theorem q2071 : (Jvm.Cond.methodLink "SchemaWorkshopLaw" (43 : Nat) ({ cls := "SchemaWorkshop", name := "transcode", desc := "(I)I" } : Jvm.MethodName)) ∈ lw_all := lw_g (lw_at lw_m8 94 rfl) rfl
theorem q2349 : (Jvm.Cond.methodLink "SchemaWorkshopLaw" (92 : Nat) ({ cls := "SchemaWorkshopLaw", name := "out", desc := "(LSchemaWorkshop;I[J)I" } : Jvm.MethodName)) ∈ lw_all := lw_g (lw_at lw_m9 132 rfl) rfl
theorem q2350 : (Jvm.Cond.static ({ cls := "SchemaWorkshopLaw", name := "out", desc := "(LSchemaWorkshop;I[J)I" } : Jvm.MethodName)) ∈ lw_all := lw_g (lw_at lw_m9 133 rfl) rfl
theorem q2351 : (Jvm.Cond.codeWith ({ cls := "SchemaWorkshopLaw", name := "out", desc := "(LSchemaWorkshop;I[J)I" } : Jvm.MethodName) method_12_code (4 : Nat) (Option.some Jvm.ClassFile.FieldType.int) [((0 : Nat), (9 : Nat), (12 : Nat), (28 : Nat))]) ∈ lw_all := lw_g (lw_at lw_m9 134 rfl) rfl
theorem q2352 : (Jvm.Cond.methodLink "SchemaWorkshopLaw" (46 : Nat) ({ cls := "SchemaWorkshop", name := "out", desc := "(I)I" } : Jvm.MethodName)) ∈ lw_all := lw_g (lw_at lw_m9 135 rfl) rfl
theorem q2356 : (Jvm.Cond.methodLink "SchemaWorkshopLaw" (95 : Nat) ({ cls := "SchemaWorkshopLaw", name := "again", desc := "(LSchemaWorkshop;[J)I" } : Jvm.MethodName)) ∈ lw_all := lw_g (lw_at lw_m9 139 rfl) rfl
theorem q2357 : (Jvm.Cond.static ({ cls := "SchemaWorkshopLaw", name := "again", desc := "(LSchemaWorkshop;[J)I" } : Jvm.MethodName)) ∈ lw_all := lw_g (lw_at lw_m9 140 rfl) rfl
theorem q2358 : (Jvm.Cond.codeWith ({ cls := "SchemaWorkshopLaw", name := "again", desc := "(LSchemaWorkshop;[J)I" } : Jvm.MethodName) method_13_code (3 : Nat) (Option.some Jvm.ClassFile.FieldType.int) [((0 : Nat), (8 : Nat), (11 : Nat), (13 : Nat))]) ∈ lw_all := lw_g (lw_at lw_m9 141 rfl) rfl
theorem q2359 : (Jvm.Cond.methodLink "SchemaWorkshopLaw" (49 : Nat) ({ cls := "SchemaWorkshop", name := "again", desc := "()I" } : Jvm.MethodName)) ∈ lw_all := lw_g (lw_at lw_m9 142 rfl) rfl
theorem q2363 : (Jvm.Cond.classLink "SchemaWorkshopLaw" (53 : Nat) "SchemaWorkshopModel") ∈ lw_all := lw_g (lw_at lw_m9 146 rfl) rfl
theorem q2365 : (Jvm.Cond.methodLink "SchemaWorkshopLaw" (55 : Nat) ({ cls := "SchemaWorkshopModel", name := "<init>", desc := "()V" } : Jvm.MethodName)) ∈ lw_all := lw_g (lw_at lw_m9 148 rfl) rfl
theorem q2861 : (Jvm.Cond.methodLink "SchemaWorkshopLaw" (62 : Nat) ({ cls := "SchemaWorkshopModel", name := "thrown", desc := "()I" } : Jvm.MethodName)) ∈ lw_all := lw_g (lw_at lw_m11 164 rfl) rfl
theorem q2865 : (Jvm.Cond.methodLink "SchemaWorkshopLaw" (61 : Nat) ({ cls := "SchemaWorkshopModel", name := "feed", desc := "(IIIII)I" } : Jvm.MethodName)) ∈ lw_all := lw_g (lw_at lw_m11 168 rfl) rfl
theorem q2874 : (Jvm.Cond.methodLink "SchemaWorkshopLaw" (68 : Nat) ({ cls := "SchemaWorkshopModel", name := "end", desc := "(I)I" } : Jvm.MethodName)) ∈ lw_all := lw_g (lw_at lw_m11 177 rfl) rfl
theorem q2881 : (Jvm.Cond.methodLink "SchemaWorkshopLaw" (72 : Nat) ({ cls := "SchemaWorkshopModel", name := "compile", desc := "()I" } : Jvm.MethodName)) ∈ lw_all := lw_g (lw_at lw_m11 184 rfl) rfl
theorem q3346 : (Jvm.Cond.methodLink "SchemaWorkshopLaw" (75 : Nat) ({ cls := "SchemaWorkshopModel", name := "fault", desc := "(I)I" } : Jvm.MethodName)) ∈ lw_all := lw_g (lw_at lw_m13 169 rfl) rfl
theorem q3350 : (Jvm.Cond.methodLink "SchemaWorkshopLaw" (79 : Nat) ({ cls := "SchemaWorkshopModel", name := "type", desc := "(II)I" } : Jvm.MethodName)) ∈ lw_all := lw_g (lw_at lw_m13 173 rfl) rfl
theorem q3358 : (Jvm.Cond.methodLink "SchemaWorkshopLaw" (82 : Nat) ({ cls := "SchemaWorkshopModel", name := "name", desc := "(II)I" } : Jvm.MethodName)) ∈ lw_all := lw_g (lw_at lw_m13 181 rfl) rfl
theorem q3362 : (Jvm.Cond.methodLink "SchemaWorkshopLaw" (85 : Nat) ({ cls := "SchemaWorkshopModel", name := "defaultSize", desc := "(II)I" } : Jvm.MethodName)) ∈ lw_all := lw_g (lw_at lw_m13 185 rfl) rfl
theorem q3366 : (Jvm.Cond.methodLink "SchemaWorkshopLaw" (88 : Nat) ({ cls := "SchemaWorkshopModel", name := "limit", desc := "(I)I" } : Jvm.MethodName)) ∈ lw_all := lw_g (lw_at lw_m13 189 rfl) rfl
theorem q3370 : (Jvm.Cond.methodLink "SchemaWorkshopLaw" (91 : Nat) ({ cls := "SchemaWorkshopModel", name := "transcode", desc := "(I)I" } : Jvm.MethodName)) ∈ lw_all := lw_g (lw_at lw_m13 193 rfl) rfl
theorem q3514 : (Jvm.Cond.methodLink "SchemaWorkshopLaw" (94 : Nat) ({ cls := "SchemaWorkshopModel", name := "out", desc := "(I)I" } : Jvm.MethodName)) ∈ lw_all := lw_g (lw_at lw_m14 97 rfl) rfl
theorem q3518 : (Jvm.Cond.methodLink "SchemaWorkshopLaw" (97 : Nat) ({ cls := "SchemaWorkshopModel", name := "again", desc := "()I" } : Jvm.MethodName)) ∈ lw_all := lw_g (lw_at lw_m14 101 rfl) rfl
theorem q3522 : (Jvm.Cond.methodLink "SchemaWorkshopLaw" (101 : Nat) ({ cls := "SchemaWorkshopModel", name := "count", desc := "(I)I" } : Jvm.MethodName)) ∈ lw_all := lw_g (lw_at lw_m14 105 rfl) rfl

/-! the law's own entry -/
set_option maxRecDepth 100000
abbrev cL_law : ByteArray := code
def dkwL_law_33 : List UInt8 := [46, 182, 0, 101, 159, 0, 5, 3, 172, 132, 4, 6, 167, 252, 239, 4, 172]
abbrev dktL_law_33 : List UInt8 := dkwL_law_33 ++ []
def dkwL_law_32 : List UInt8 := [153, 0, 5, 3, 172, 167, 0, 28, 43, 42, 21, 4, 4, 96, 46, 182, 0, 98, 44, 42, 21, 4, 4, 96]
abbrev dktL_law_32 : List UInt8 := dkwL_law_32 ++ dktL_law_33
def dkwL_law_31 : List UInt8 := [182, 0, 62, 21, 5, 159, 0, 5, 3, 172, 21, 5, 154, 0, 15, 45, 3, 47, 21, 6, 133, 148]
abbrev dktL_law_31 : List UInt8 := dkwL_law_31 ++ dktL_law_32
def dkwL_law_30 : List UInt8 := [153, 0, 5, 3, 172, 167, 0, 72, 43, 45, 184, 0, 95, 54, 5, 44, 182, 0, 97, 54, 6, 44]
abbrev dktL_law_30 : List UInt8 := dkwL_law_30 ++ dktL_law_31
def dkwL_law_29 : List UInt8 := [182, 0, 62, 21, 5, 159, 0, 5, 3, 172, 21, 5, 154, 0, 15, 45, 3, 47, 21, 6, 133, 148]
abbrev dktL_law_29 : List UInt8 := dkwL_law_29 ++ dktL_law_30
def dkwL_law_28 : List UInt8 := [21, 4, 4, 96, 46, 45, 184, 0, 92, 54, 5, 44, 42, 21, 4, 4, 96, 46, 182, 0, 94, 54, 6, 44]
abbrev dktL_law_28 : List UInt8 := dkwL_law_28 ++ dktL_law_29
def dkwL_law_27 : List UInt8 := [172, 21, 5, 154, 0, 15, 45, 3, 47, 21, 6, 133, 148, 153, 0, 5, 3, 172, 167, 0, 128, 43, 42]
abbrev dktL_law_27 : List UInt8 := dkwL_law_27 ++ dktL_law_28
def dkwL_law_26 : List UInt8 := [54, 5, 44, 42, 21, 4, 4, 96, 46, 182, 0, 91, 54, 6, 44, 182, 0, 62, 21, 5, 159, 0, 5, 3]
abbrev dktL_law_26 : List UInt8 := dkwL_law_26 ++ dktL_law_27
def dkwL_law_25 : List UInt8 := [21, 6, 133, 148, 153, 0, 5, 3, 172, 167, 0, 184, 43, 42, 21, 4, 4, 96, 46, 45, 184, 0, 89]
abbrev dktL_law_25 : List UInt8 := dkwL_law_25 ++ dktL_law_26
def dkwL_law_24 : List UInt8 := [182, 0, 88, 54, 6, 44, 182, 0, 62, 21, 5, 159, 0, 5, 3, 172, 21, 5, 154, 0, 15, 45, 3, 47]
abbrev dktL_law_24 : List UInt8 := dkwL_law_24 ++ dktL_law_25
def dkwL_law_23 : List UInt8 := [167, 0, 240, 43, 42, 21, 4, 4, 96, 46, 45, 184, 0, 86, 54, 5, 44, 42, 21, 4, 4, 96, 46]
abbrev dktL_law_23 : List UInt8 := dkwL_law_23 ++ dktL_law_24
def dkwL_law_22 : List UInt8 := [159, 0, 5, 3, 172, 21, 5, 154, 0, 15, 45, 3, 47, 21, 6, 133, 148, 153, 0, 5, 3, 172]
abbrev dktL_law_22 : List UInt8 := dkwL_law_22 ++ dktL_law_23
def dkwL_law_21 : List UInt8 := [21, 4, 4, 96, 46, 42, 21, 4, 5, 96, 46, 182, 0, 85, 54, 6, 44, 182, 0, 62, 21, 5]
abbrev dktL_law_21 : List UInt8 := dkwL_law_21 ++ dktL_law_22
def dkwL_law_20 : List UInt8 := [167, 1, 52, 43, 42, 21, 4, 4, 96, 46, 42, 21, 4, 5, 96, 46, 45, 184, 0, 83, 54, 5, 44, 42]
abbrev dktL_law_20 : List UInt8 := dkwL_law_20 ++ dktL_law_21
def dkwL_law_19 : List UInt8 := [159, 0, 5, 3, 172, 21, 5, 154, 0, 15, 45, 3, 47, 21, 6, 133, 148, 153, 0, 5, 3, 172]
abbrev dktL_law_19 : List UInt8 := dkwL_law_19 ++ dktL_law_20
def dkwL_law_18 : List UInt8 := [21, 4, 4, 96, 46, 42, 21, 4, 5, 96, 46, 182, 0, 82, 54, 6, 44, 182, 0, 62, 21, 5]
abbrev dktL_law_18 : List UInt8 := dkwL_law_18 ++ dktL_law_19
def dkwL_law_17 : List UInt8 := [167, 1, 120, 43, 42, 21, 4, 4, 96, 46, 42, 21, 4, 5, 96, 46, 45, 184, 0, 80, 54, 5, 44, 42]
abbrev dktL_law_17 : List UInt8 := dkwL_law_17 ++ dktL_law_18
def dkwL_law_16 : List UInt8 := [159, 0, 5, 3, 172, 21, 5, 154, 0, 15, 45, 3, 47, 21, 6, 133, 148, 153, 0, 5, 3, 172]
abbrev dktL_law_16 : List UInt8 := dkwL_law_16 ++ dktL_law_17
def dkwL_law_15 : List UInt8 := [21, 4, 4, 96, 46, 42, 21, 4, 5, 96, 46, 182, 0, 79, 54, 6, 44, 182, 0, 62, 21, 5]
abbrev dktL_law_15 : List UInt8 := dkwL_law_15 ++ dktL_law_16
def dkwL_law_14 : List UInt8 := [167, 1, 188, 43, 42, 21, 4, 4, 96, 46, 42, 21, 4, 5, 96, 46, 45, 184, 0, 76, 54, 5, 44, 42]
abbrev dktL_law_14 : List UInt8 := dkwL_law_14 ++ dktL_law_15
def dkwL_law_13 : List UInt8 := [159, 0, 5, 3, 172, 21, 5, 154, 0, 15, 45, 3, 47, 21, 6, 133, 148, 153, 0, 5, 3, 172]
abbrev dktL_law_13 : List UInt8 := dkwL_law_13 ++ dktL_law_14
def dkwL_law_12 : List UInt8 := [184, 0, 73, 54, 5, 44, 42, 21, 4, 4, 96, 46, 182, 0, 75, 54, 6, 44, 182, 0, 62, 21, 5]
abbrev dktL_law_12 : List UInt8 := dkwL_law_12 ++ dktL_law_13
def dkwL_law_11 : List UInt8 := [45, 3, 47, 21, 6, 133, 148, 153, 0, 5, 3, 172, 167, 1, 244, 43, 42, 21, 4, 4, 96, 46, 45]
abbrev dktL_law_11 : List UInt8 := dkwL_law_11 ++ dktL_law_12
def dkwL_law_10 : List UInt8 := [54, 5, 44, 182, 0, 72, 54, 6, 44, 182, 0, 62, 21, 5, 159, 0, 5, 3, 172, 21, 5, 154, 0, 15]
abbrev dktL_law_10 : List UInt8 := dkwL_law_10 ++ dktL_law_11
def dkwL_law_9 : List UInt8 := [154, 0, 15, 45, 3, 47, 21, 6, 133, 148, 153, 0, 5, 3, 172, 167, 2, 32, 43, 45, 184, 0, 69]
abbrev dktL_law_9 : List UInt8 := dkwL_law_9 ++ dktL_law_10
def dkwL_law_8 : List UInt8 := [21, 4, 4, 96, 46, 182, 0, 68, 54, 6, 44, 182, 0, 62, 21, 5, 159, 0, 5, 3, 172, 21, 5]
abbrev dktL_law_8 : List UInt8 := dkwL_law_8 ++ dktL_law_9
def dkwL_law_7 : List UInt8 := [148, 153, 0, 5, 3, 172, 167, 2, 88, 43, 42, 21, 4, 4, 96, 46, 45, 184, 0, 65, 54, 5, 44, 42]
abbrev dktL_law_7 : List UInt8 := dkwL_law_7 ++ dktL_law_8
def dkwL_law_6 : List UInt8 := [54, 6, 44, 182, 0, 62, 21, 5, 159, 0, 5, 3, 172, 21, 5, 154, 0, 15, 45, 3, 47, 21, 6, 133]
abbrev dktL_law_6 : List UInt8 := dkwL_law_6 ++ dktL_law_7
def dkwL_law_5 : List UInt8 := [96, 46, 42, 21, 4, 6, 96, 46, 42, 21, 4, 7, 96, 46, 42, 21, 4, 8, 96, 46, 182, 0, 61]
abbrev dktL_law_5 : List UInt8 := dkwL_law_5 ++ dktL_law_6
def dkwL_law_4 : List UInt8 := [46, 42, 21, 4, 8, 96, 46, 45, 184, 0, 56, 54, 5, 44, 42, 21, 4, 4, 96, 46, 42, 21, 4, 5]
abbrev dktL_law_4 : List UInt8 := dkwL_law_4 ++ dktL_law_5
def dkwL_law_3 : List UInt8 := [43, 42, 21, 4, 4, 96, 46, 42, 21, 4, 5, 96, 46, 42, 21, 4, 6, 96, 46, 42, 21, 4, 7, 96]
abbrev dktL_law_3 : List UInt8 := dkwL_law_3 ++ dktL_law_4
def dkwL_law_2 : List UInt8 := [170, 0, 0, 0, 0, 0, 2, 253, 0, 0, 0, 0, 0, 0, 0, 11, 0, 0, 0, 64, 0, 0, 0, 168, 0, 0, 0, 224, 0, 0, 1, 12, 0, 0, 1, 68, 0, 0, 1, 136, 0, 0, 1, 204, 0, 0, 2, 16, 0, 0, 2, 72, 0, 0, 2, 128, 0, 0, 2, 184, 0, 0, 2, 228]
abbrev dktL_law_2 : List UInt8 := dkwL_law_2 ++ dktL_law_3
def dkwL_law_1 : List UInt8 := [21, 4, 42, 190, 16, 6, 100, 163, 3, 13, 42, 21, 4, 46, 16, 15, 126]
abbrev dktL_law_1 : List UInt8 := dkwL_law_1 ++ dktL_law_2
def dkwL_law_0 : List UInt8 := [187, 0, 8, 89, 183, 0, 52, 76, 187, 0, 53, 89, 183, 0, 55, 77, 4, 188, 11, 78, 3, 54, 4]
abbrev dktL_law_0 : List UInt8 := dkwL_law_0 ++ dktL_law_1
theorem dksL_law_0 : cL_law.data.toList.drop 0 = dktL_law_0 := by decide +kernel
theorem dksL_law_1 : cL_law.data.toList.drop 23 = dktL_law_1 := dk_seg dksL_law_0 23 rfl rfl
theorem dksL_law_2 : cL_law.data.toList.drop 40 = dktL_law_2 := dk_seg dksL_law_1 17 rfl rfl
theorem dksL_law_3 : cL_law.data.toList.drop 104 = dktL_law_3 := dk_seg dksL_law_2 64 rfl rfl
theorem dksL_law_4 : cL_law.data.toList.drop 128 = dktL_law_4 := dk_seg dksL_law_3 24 rfl rfl
theorem dksL_law_5 : cL_law.data.toList.drop 152 = dktL_law_5 := dk_seg dksL_law_4 24 rfl rfl
theorem dksL_law_6 : cL_law.data.toList.drop 175 = dktL_law_6 := dk_seg dksL_law_5 23 rfl rfl
theorem dksL_law_7 : cL_law.data.toList.drop 199 = dktL_law_7 := dk_seg dksL_law_6 24 rfl rfl
theorem dksL_law_8 : cL_law.data.toList.drop 223 = dktL_law_8 := dk_seg dksL_law_7 24 rfl rfl
theorem dksL_law_9 : cL_law.data.toList.drop 246 = dktL_law_9 := dk_seg dksL_law_8 23 rfl rfl
theorem dksL_law_10 : cL_law.data.toList.drop 269 = dktL_law_10 := dk_seg dksL_law_9 23 rfl rfl
theorem dksL_law_11 : cL_law.data.toList.drop 293 = dktL_law_11 := dk_seg dksL_law_10 24 rfl rfl
theorem dksL_law_12 : cL_law.data.toList.drop 316 = dktL_law_12 := dk_seg dksL_law_11 23 rfl rfl
theorem dksL_law_13 : cL_law.data.toList.drop 339 = dktL_law_13 := dk_seg dksL_law_12 23 rfl rfl
theorem dksL_law_14 : cL_law.data.toList.drop 361 = dktL_law_14 := dk_seg dksL_law_13 22 rfl rfl
theorem dksL_law_15 : cL_law.data.toList.drop 385 = dktL_law_15 := dk_seg dksL_law_14 24 rfl rfl
theorem dksL_law_16 : cL_law.data.toList.drop 407 = dktL_law_16 := dk_seg dksL_law_15 22 rfl rfl
theorem dksL_law_17 : cL_law.data.toList.drop 429 = dktL_law_17 := dk_seg dksL_law_16 22 rfl rfl
theorem dksL_law_18 : cL_law.data.toList.drop 453 = dktL_law_18 := dk_seg dksL_law_17 24 rfl rfl
theorem dksL_law_19 : cL_law.data.toList.drop 475 = dktL_law_19 := dk_seg dksL_law_18 22 rfl rfl
theorem dksL_law_20 : cL_law.data.toList.drop 497 = dktL_law_20 := dk_seg dksL_law_19 22 rfl rfl
theorem dksL_law_21 : cL_law.data.toList.drop 521 = dktL_law_21 := dk_seg dksL_law_20 24 rfl rfl
theorem dksL_law_22 : cL_law.data.toList.drop 543 = dktL_law_22 := dk_seg dksL_law_21 22 rfl rfl
theorem dksL_law_23 : cL_law.data.toList.drop 565 = dktL_law_23 := dk_seg dksL_law_22 22 rfl rfl
theorem dksL_law_24 : cL_law.data.toList.drop 588 = dktL_law_24 := dk_seg dksL_law_23 23 rfl rfl
theorem dksL_law_25 : cL_law.data.toList.drop 612 = dktL_law_25 := dk_seg dksL_law_24 24 rfl rfl
theorem dksL_law_26 : cL_law.data.toList.drop 635 = dktL_law_26 := dk_seg dksL_law_25 23 rfl rfl
theorem dksL_law_27 : cL_law.data.toList.drop 659 = dktL_law_27 := dk_seg dksL_law_26 24 rfl rfl
theorem dksL_law_28 : cL_law.data.toList.drop 682 = dktL_law_28 := dk_seg dksL_law_27 23 rfl rfl
theorem dksL_law_29 : cL_law.data.toList.drop 706 = dktL_law_29 := dk_seg dksL_law_28 24 rfl rfl
theorem dksL_law_30 : cL_law.data.toList.drop 728 = dktL_law_30 := dk_seg dksL_law_29 22 rfl rfl
theorem dksL_law_31 : cL_law.data.toList.drop 750 = dktL_law_31 := dk_seg dksL_law_30 22 rfl rfl
theorem dksL_law_32 : cL_law.data.toList.drop 772 = dktL_law_32 := dk_seg dksL_law_31 22 rfl rfl
theorem dksL_law_33 : cL_law.data.toList.drop 796 = dktL_law_33 := dk_seg dksL_law_32 24 rfl rfl
theorem dL_law_0 : decode cL_law 0 = .ok (.new 8, 3) := dk_187 0 8 (dk_at dksL_law_0 0 rfl rfl)
theorem dL_law_3 : decode cL_law 3 = .ok (.dup, 1) := dk_89 (dk_at dksL_law_0 3 rfl rfl)
theorem dL_law_4 : decode cL_law 4 = .ok (.invokespecial 52, 3) := dk_183 0 52 (dk_at dksL_law_0 4 rfl rfl)
theorem dL_law_7 : decode cL_law 7 = .ok (.astore_n 1, 1) := dk_76 (dk_at dksL_law_0 7 rfl rfl)
theorem dL_law_8 : decode cL_law 8 = .ok (.new 53, 3) := dk_187 0 53 (dk_at dksL_law_0 8 rfl rfl)
theorem dL_law_11 : decode cL_law 11 = .ok (.dup, 1) := dk_89 (dk_at dksL_law_0 11 rfl rfl)
theorem dL_law_12 : decode cL_law 12 = .ok (.invokespecial 55, 3) := dk_183 0 55 (dk_at dksL_law_0 12 rfl rfl)
theorem dL_law_15 : decode cL_law 15 = .ok (.astore_n 2, 1) := dk_77 (dk_at dksL_law_0 15 rfl rfl)
theorem dL_law_16 : decode cL_law 16 = .ok (.iconst 1, 1) := dk_4 (dk_at dksL_law_0 16 rfl rfl)
theorem dL_law_17 : decode cL_law 17 = .ok (.newarray .long, 2) := dk_188_11 (dk_at dksL_law_0 17 rfl rfl)
theorem dL_law_19 : decode cL_law 19 = .ok (.astore_n 3, 1) := dk_78 (dk_at dksL_law_0 19 rfl rfl)
theorem dL_law_20 : decode cL_law 20 = .ok (.iconst 0, 1) := dk_3 (dk_at dksL_law_0 20 rfl rfl)
theorem dL_law_21 : decode cL_law 21 = .ok (.istore 4, 2) := dk_54 4 (dk_at dksL_law_0 21 rfl rfl)
theorem dL_law_23 : decode cL_law 23 = .ok (.iload 4, 2) := dk_21 4 (dk_at dksL_law_1 0 rfl rfl)
theorem dL_law_25 : decode cL_law 25 = .ok (.aload_n 0, 1) := dk_42 (dk_at dksL_law_1 2 rfl rfl)
theorem dL_law_26 : decode cL_law 26 = .ok (.arraylength, 1) := dk_190 (dk_at dksL_law_1 3 rfl rfl)
theorem dL_law_27 : decode cL_law 27 = .ok (.bipush 6, 2) := dk_16 6 (dk_at dksL_law_1 4 rfl rfl)
theorem dL_law_29 : decode cL_law 29 = .ok (.isub, 1) := dk_100 (dk_at dksL_law_1 6 rfl rfl)
theorem dL_law_30 : decode cL_law 30 = .ok (.if_icmp .gt 781, 3) := dk_163 3 13 (dk_at dksL_law_1 7 rfl rfl)
theorem dL_law_33 : decode cL_law 33 = .ok (.aload_n 0, 1) := dk_42 (dk_at dksL_law_1 10 rfl rfl)
theorem dL_law_34 : decode cL_law 34 = .ok (.iload 4, 2) := dk_21 4 (dk_at dksL_law_1 11 rfl rfl)
theorem dL_law_36 : decode cL_law 36 = .ok (.iaload, 1) := dk_46 (dk_at dksL_law_1 13 rfl rfl)
theorem dL_law_37 : decode cL_law 37 = .ok (.bipush 15, 2) := dk_16 15 (dk_at dksL_law_1 14 rfl rfl)
theorem dL_law_39 : decode cL_law 39 = .ok (.iand, 1) := dk_126 (dk_at dksL_law_1 16 rfl rfl)
theorem dL_law_40 : decode cL_law 40 = .ok (.tableswitch 765 0 11 #[64, 168, 224, 268, 324, 392, 460, 528, 584, 640, 696, 740], 64) := by decide +kernel
theorem dL_law_104 : decode cL_law 104 = .ok (.aload_n 1, 1) := dk_43 (dk_at dksL_law_3 0 rfl rfl)
theorem dL_law_105 : decode cL_law 105 = .ok (.aload_n 0, 1) := dk_42 (dk_at dksL_law_3 1 rfl rfl)
theorem dL_law_106 : decode cL_law 106 = .ok (.iload 4, 2) := dk_21 4 (dk_at dksL_law_3 2 rfl rfl)
theorem dL_law_108 : decode cL_law 108 = .ok (.iconst 1, 1) := dk_4 (dk_at dksL_law_3 4 rfl rfl)
theorem dL_law_109 : decode cL_law 109 = .ok (.iadd, 1) := dk_96 (dk_at dksL_law_3 5 rfl rfl)
theorem dL_law_110 : decode cL_law 110 = .ok (.iaload, 1) := dk_46 (dk_at dksL_law_3 6 rfl rfl)
theorem dL_law_111 : decode cL_law 111 = .ok (.aload_n 0, 1) := dk_42 (dk_at dksL_law_3 7 rfl rfl)
theorem dL_law_112 : decode cL_law 112 = .ok (.iload 4, 2) := dk_21 4 (dk_at dksL_law_3 8 rfl rfl)
theorem dL_law_114 : decode cL_law 114 = .ok (.iconst 2, 1) := dk_5 (dk_at dksL_law_3 10 rfl rfl)
theorem dL_law_115 : decode cL_law 115 = .ok (.iadd, 1) := dk_96 (dk_at dksL_law_3 11 rfl rfl)
theorem dL_law_116 : decode cL_law 116 = .ok (.iaload, 1) := dk_46 (dk_at dksL_law_3 12 rfl rfl)
theorem dL_law_117 : decode cL_law 117 = .ok (.aload_n 0, 1) := dk_42 (dk_at dksL_law_3 13 rfl rfl)
theorem dL_law_118 : decode cL_law 118 = .ok (.iload 4, 2) := dk_21 4 (dk_at dksL_law_3 14 rfl rfl)
theorem dL_law_120 : decode cL_law 120 = .ok (.iconst 3, 1) := dk_6 (dk_at dksL_law_3 16 rfl rfl)
theorem dL_law_121 : decode cL_law 121 = .ok (.iadd, 1) := dk_96 (dk_at dksL_law_3 17 rfl rfl)
theorem dL_law_122 : decode cL_law 122 = .ok (.iaload, 1) := dk_46 (dk_at dksL_law_3 18 rfl rfl)
theorem dL_law_123 : decode cL_law 123 = .ok (.aload_n 0, 1) := dk_42 (dk_at dksL_law_3 19 rfl rfl)
theorem dL_law_124 : decode cL_law 124 = .ok (.iload 4, 2) := dk_21 4 (dk_at dksL_law_3 20 rfl rfl)
theorem dL_law_126 : decode cL_law 126 = .ok (.iconst 4, 1) := dk_7 (dk_at dksL_law_3 22 rfl rfl)
theorem dL_law_127 : decode cL_law 127 = .ok (.iadd, 1) := dk_96 (dk_at dksL_law_3 23 rfl rfl)
theorem dL_law_128 : decode cL_law 128 = .ok (.iaload, 1) := dk_46 (dk_at dksL_law_4 0 rfl rfl)
theorem dL_law_129 : decode cL_law 129 = .ok (.aload_n 0, 1) := dk_42 (dk_at dksL_law_4 1 rfl rfl)
theorem dL_law_130 : decode cL_law 130 = .ok (.iload 4, 2) := dk_21 4 (dk_at dksL_law_4 2 rfl rfl)
theorem dL_law_132 : decode cL_law 132 = .ok (.iconst 5, 1) := dk_8 (dk_at dksL_law_4 4 rfl rfl)
theorem dL_law_133 : decode cL_law 133 = .ok (.iadd, 1) := dk_96 (dk_at dksL_law_4 5 rfl rfl)
theorem dL_law_134 : decode cL_law 134 = .ok (.iaload, 1) := dk_46 (dk_at dksL_law_4 6 rfl rfl)
theorem dL_law_135 : decode cL_law 135 = .ok (.aload_n 3, 1) := dk_45 (dk_at dksL_law_4 7 rfl rfl)
theorem dL_law_136 : decode cL_law 136 = .ok (.invokestatic 56, 3) := dk_184 0 56 (dk_at dksL_law_4 8 rfl rfl)
theorem dL_law_139 : decode cL_law 139 = .ok (.istore 5, 2) := dk_54 5 (dk_at dksL_law_4 11 rfl rfl)
theorem dL_law_141 : decode cL_law 141 = .ok (.aload_n 2, 1) := dk_44 (dk_at dksL_law_4 13 rfl rfl)
theorem dL_law_142 : decode cL_law 142 = .ok (.aload_n 0, 1) := dk_42 (dk_at dksL_law_4 14 rfl rfl)
theorem dL_law_143 : decode cL_law 143 = .ok (.iload 4, 2) := dk_21 4 (dk_at dksL_law_4 15 rfl rfl)
theorem dL_law_145 : decode cL_law 145 = .ok (.iconst 1, 1) := dk_4 (dk_at dksL_law_4 17 rfl rfl)
theorem dL_law_146 : decode cL_law 146 = .ok (.iadd, 1) := dk_96 (dk_at dksL_law_4 18 rfl rfl)
theorem dL_law_147 : decode cL_law 147 = .ok (.iaload, 1) := dk_46 (dk_at dksL_law_4 19 rfl rfl)
theorem dL_law_148 : decode cL_law 148 = .ok (.aload_n 0, 1) := dk_42 (dk_at dksL_law_4 20 rfl rfl)
theorem dL_law_149 : decode cL_law 149 = .ok (.iload 4, 2) := dk_21 4 (dk_at dksL_law_4 21 rfl rfl)
theorem dL_law_151 : decode cL_law 151 = .ok (.iconst 2, 1) := dk_5 (dk_at dksL_law_4 23 rfl rfl)
theorem dL_law_152 : decode cL_law 152 = .ok (.iadd, 1) := dk_96 (dk_at dksL_law_5 0 rfl rfl)
theorem dL_law_153 : decode cL_law 153 = .ok (.iaload, 1) := dk_46 (dk_at dksL_law_5 1 rfl rfl)
theorem dL_law_154 : decode cL_law 154 = .ok (.aload_n 0, 1) := dk_42 (dk_at dksL_law_5 2 rfl rfl)
theorem dL_law_155 : decode cL_law 155 = .ok (.iload 4, 2) := dk_21 4 (dk_at dksL_law_5 3 rfl rfl)
theorem dL_law_157 : decode cL_law 157 = .ok (.iconst 3, 1) := dk_6 (dk_at dksL_law_5 5 rfl rfl)
theorem dL_law_158 : decode cL_law 158 = .ok (.iadd, 1) := dk_96 (dk_at dksL_law_5 6 rfl rfl)
theorem dL_law_159 : decode cL_law 159 = .ok (.iaload, 1) := dk_46 (dk_at dksL_law_5 7 rfl rfl)
theorem dL_law_160 : decode cL_law 160 = .ok (.aload_n 0, 1) := dk_42 (dk_at dksL_law_5 8 rfl rfl)
theorem dL_law_161 : decode cL_law 161 = .ok (.iload 4, 2) := dk_21 4 (dk_at dksL_law_5 9 rfl rfl)
theorem dL_law_163 : decode cL_law 163 = .ok (.iconst 4, 1) := dk_7 (dk_at dksL_law_5 11 rfl rfl)
theorem dL_law_164 : decode cL_law 164 = .ok (.iadd, 1) := dk_96 (dk_at dksL_law_5 12 rfl rfl)
theorem dL_law_165 : decode cL_law 165 = .ok (.iaload, 1) := dk_46 (dk_at dksL_law_5 13 rfl rfl)
theorem dL_law_166 : decode cL_law 166 = .ok (.aload_n 0, 1) := dk_42 (dk_at dksL_law_5 14 rfl rfl)
theorem dL_law_167 : decode cL_law 167 = .ok (.iload 4, 2) := dk_21 4 (dk_at dksL_law_5 15 rfl rfl)
theorem dL_law_169 : decode cL_law 169 = .ok (.iconst 5, 1) := dk_8 (dk_at dksL_law_5 17 rfl rfl)
theorem dL_law_170 : decode cL_law 170 = .ok (.iadd, 1) := dk_96 (dk_at dksL_law_5 18 rfl rfl)
theorem dL_law_171 : decode cL_law 171 = .ok (.iaload, 1) := dk_46 (dk_at dksL_law_5 19 rfl rfl)
theorem dL_law_172 : decode cL_law 172 = .ok (.invokevirtual 61, 3) := dk_182 0 61 (dk_at dksL_law_5 20 rfl rfl)
theorem dL_law_175 : decode cL_law 175 = .ok (.istore 6, 2) := dk_54 6 (dk_at dksL_law_6 0 rfl rfl)
theorem dL_law_177 : decode cL_law 177 = .ok (.aload_n 2, 1) := dk_44 (dk_at dksL_law_6 2 rfl rfl)
theorem dL_law_178 : decode cL_law 178 = .ok (.invokevirtual 62, 3) := dk_182 0 62 (dk_at dksL_law_6 3 rfl rfl)
theorem dL_law_181 : decode cL_law 181 = .ok (.iload 5, 2) := dk_21 5 (dk_at dksL_law_6 6 rfl rfl)
theorem dL_law_183 : decode cL_law 183 = .ok (.if_icmp .eq 5, 3) := dk_159 0 5 (dk_at dksL_law_6 8 rfl rfl)
theorem dL_law_186 : decode cL_law 186 = .ok (.iconst 0, 1) := dk_3 (dk_at dksL_law_6 11 rfl rfl)
theorem dL_law_187 : decode cL_law 187 = .ok (.ireturn, 1) := dk_172 (dk_at dksL_law_6 12 rfl rfl)
theorem dL_law_188 : decode cL_law 188 = .ok (.iload 5, 2) := dk_21 5 (dk_at dksL_law_6 13 rfl rfl)
theorem dL_law_190 : decode cL_law 190 = .ok (.ifCond .ne 15, 3) := dk_154 0 15 (dk_at dksL_law_6 15 rfl rfl)
theorem dL_law_193 : decode cL_law 193 = .ok (.aload_n 3, 1) := dk_45 (dk_at dksL_law_6 18 rfl rfl)
theorem dL_law_194 : decode cL_law 194 = .ok (.iconst 0, 1) := dk_3 (dk_at dksL_law_6 19 rfl rfl)
theorem dL_law_195 : decode cL_law 195 = .ok (.laload, 1) := dk_47 (dk_at dksL_law_6 20 rfl rfl)
theorem dL_law_196 : decode cL_law 196 = .ok (.iload 6, 2) := dk_21 6 (dk_at dksL_law_6 21 rfl rfl)
theorem dL_law_198 : decode cL_law 198 = .ok (.i2l, 1) := dk_133 (dk_at dksL_law_6 23 rfl rfl)
theorem dL_law_199 : decode cL_law 199 = .ok (.lcmp, 1) := dk_148 (dk_at dksL_law_7 0 rfl rfl)
theorem dL_law_200 : decode cL_law 200 = .ok (.ifCond .eq 5, 3) := dk_153 0 5 (dk_at dksL_law_7 1 rfl rfl)
theorem dL_law_203 : decode cL_law 203 = .ok (.iconst 0, 1) := dk_3 (dk_at dksL_law_7 4 rfl rfl)
theorem dL_law_204 : decode cL_law 204 = .ok (.ireturn, 1) := dk_172 (dk_at dksL_law_7 5 rfl rfl)
theorem dL_law_205 : decode cL_law 205 = .ok (.goto 600, 3) := dk_167 2 88 (dk_at dksL_law_7 6 rfl rfl)
theorem dL_law_208 : decode cL_law 208 = .ok (.aload_n 1, 1) := dk_43 (dk_at dksL_law_7 9 rfl rfl)
theorem dL_law_209 : decode cL_law 209 = .ok (.aload_n 0, 1) := dk_42 (dk_at dksL_law_7 10 rfl rfl)
theorem dL_law_210 : decode cL_law 210 = .ok (.iload 4, 2) := dk_21 4 (dk_at dksL_law_7 11 rfl rfl)
theorem dL_law_212 : decode cL_law 212 = .ok (.iconst 1, 1) := dk_4 (dk_at dksL_law_7 13 rfl rfl)
theorem dL_law_213 : decode cL_law 213 = .ok (.iadd, 1) := dk_96 (dk_at dksL_law_7 14 rfl rfl)
theorem dL_law_214 : decode cL_law 214 = .ok (.iaload, 1) := dk_46 (dk_at dksL_law_7 15 rfl rfl)
theorem dL_law_215 : decode cL_law 215 = .ok (.aload_n 3, 1) := dk_45 (dk_at dksL_law_7 16 rfl rfl)
theorem dL_law_216 : decode cL_law 216 = .ok (.invokestatic 65, 3) := dk_184 0 65 (dk_at dksL_law_7 17 rfl rfl)
theorem dL_law_219 : decode cL_law 219 = .ok (.istore 5, 2) := dk_54 5 (dk_at dksL_law_7 20 rfl rfl)
theorem dL_law_221 : decode cL_law 221 = .ok (.aload_n 2, 1) := dk_44 (dk_at dksL_law_7 22 rfl rfl)
theorem dL_law_222 : decode cL_law 222 = .ok (.aload_n 0, 1) := dk_42 (dk_at dksL_law_7 23 rfl rfl)
theorem dL_law_223 : decode cL_law 223 = .ok (.iload 4, 2) := dk_21 4 (dk_at dksL_law_8 0 rfl rfl)
theorem dL_law_225 : decode cL_law 225 = .ok (.iconst 1, 1) := dk_4 (dk_at dksL_law_8 2 rfl rfl)
theorem dL_law_226 : decode cL_law 226 = .ok (.iadd, 1) := dk_96 (dk_at dksL_law_8 3 rfl rfl)
theorem dL_law_227 : decode cL_law 227 = .ok (.iaload, 1) := dk_46 (dk_at dksL_law_8 4 rfl rfl)
theorem dL_law_228 : decode cL_law 228 = .ok (.invokevirtual 68, 3) := dk_182 0 68 (dk_at dksL_law_8 5 rfl rfl)
theorem dL_law_231 : decode cL_law 231 = .ok (.istore 6, 2) := dk_54 6 (dk_at dksL_law_8 8 rfl rfl)
theorem dL_law_233 : decode cL_law 233 = .ok (.aload_n 2, 1) := dk_44 (dk_at dksL_law_8 10 rfl rfl)
theorem dL_law_234 : decode cL_law 234 = .ok (.invokevirtual 62, 3) := dk_182 0 62 (dk_at dksL_law_8 11 rfl rfl)
theorem dL_law_237 : decode cL_law 237 = .ok (.iload 5, 2) := dk_21 5 (dk_at dksL_law_8 14 rfl rfl)
theorem dL_law_239 : decode cL_law 239 = .ok (.if_icmp .eq 5, 3) := dk_159 0 5 (dk_at dksL_law_8 16 rfl rfl)
theorem dL_law_242 : decode cL_law 242 = .ok (.iconst 0, 1) := dk_3 (dk_at dksL_law_8 19 rfl rfl)
theorem dL_law_243 : decode cL_law 243 = .ok (.ireturn, 1) := dk_172 (dk_at dksL_law_8 20 rfl rfl)
theorem dL_law_244 : decode cL_law 244 = .ok (.iload 5, 2) := dk_21 5 (dk_at dksL_law_8 21 rfl rfl)
theorem dL_law_246 : decode cL_law 246 = .ok (.ifCond .ne 15, 3) := dk_154 0 15 (dk_at dksL_law_9 0 rfl rfl)
theorem dL_law_249 : decode cL_law 249 = .ok (.aload_n 3, 1) := dk_45 (dk_at dksL_law_9 3 rfl rfl)
theorem dL_law_250 : decode cL_law 250 = .ok (.iconst 0, 1) := dk_3 (dk_at dksL_law_9 4 rfl rfl)
theorem dL_law_251 : decode cL_law 251 = .ok (.laload, 1) := dk_47 (dk_at dksL_law_9 5 rfl rfl)
theorem dL_law_252 : decode cL_law 252 = .ok (.iload 6, 2) := dk_21 6 (dk_at dksL_law_9 6 rfl rfl)
theorem dL_law_254 : decode cL_law 254 = .ok (.i2l, 1) := dk_133 (dk_at dksL_law_9 8 rfl rfl)
theorem dL_law_255 : decode cL_law 255 = .ok (.lcmp, 1) := dk_148 (dk_at dksL_law_9 9 rfl rfl)
theorem dL_law_256 : decode cL_law 256 = .ok (.ifCond .eq 5, 3) := dk_153 0 5 (dk_at dksL_law_9 10 rfl rfl)
theorem dL_law_259 : decode cL_law 259 = .ok (.iconst 0, 1) := dk_3 (dk_at dksL_law_9 13 rfl rfl)
theorem dL_law_260 : decode cL_law 260 = .ok (.ireturn, 1) := dk_172 (dk_at dksL_law_9 14 rfl rfl)
theorem dL_law_261 : decode cL_law 261 = .ok (.goto 544, 3) := dk_167 2 32 (dk_at dksL_law_9 15 rfl rfl)
theorem dL_law_264 : decode cL_law 264 = .ok (.aload_n 1, 1) := dk_43 (dk_at dksL_law_9 18 rfl rfl)
theorem dL_law_265 : decode cL_law 265 = .ok (.aload_n 3, 1) := dk_45 (dk_at dksL_law_9 19 rfl rfl)
theorem dL_law_266 : decode cL_law 266 = .ok (.invokestatic 69, 3) := dk_184 0 69 (dk_at dksL_law_9 20 rfl rfl)
theorem dL_law_269 : decode cL_law 269 = .ok (.istore 5, 2) := dk_54 5 (dk_at dksL_law_10 0 rfl rfl)
theorem dL_law_271 : decode cL_law 271 = .ok (.aload_n 2, 1) := dk_44 (dk_at dksL_law_10 2 rfl rfl)
theorem dL_law_272 : decode cL_law 272 = .ok (.invokevirtual 72, 3) := dk_182 0 72 (dk_at dksL_law_10 3 rfl rfl)
theorem dL_law_275 : decode cL_law 275 = .ok (.istore 6, 2) := dk_54 6 (dk_at dksL_law_10 6 rfl rfl)
theorem dL_law_277 : decode cL_law 277 = .ok (.aload_n 2, 1) := dk_44 (dk_at dksL_law_10 8 rfl rfl)
theorem dL_law_278 : decode cL_law 278 = .ok (.invokevirtual 62, 3) := dk_182 0 62 (dk_at dksL_law_10 9 rfl rfl)
theorem dL_law_281 : decode cL_law 281 = .ok (.iload 5, 2) := dk_21 5 (dk_at dksL_law_10 12 rfl rfl)
theorem dL_law_283 : decode cL_law 283 = .ok (.if_icmp .eq 5, 3) := dk_159 0 5 (dk_at dksL_law_10 14 rfl rfl)
theorem dL_law_286 : decode cL_law 286 = .ok (.iconst 0, 1) := dk_3 (dk_at dksL_law_10 17 rfl rfl)
theorem dL_law_287 : decode cL_law 287 = .ok (.ireturn, 1) := dk_172 (dk_at dksL_law_10 18 rfl rfl)
theorem dL_law_288 : decode cL_law 288 = .ok (.iload 5, 2) := dk_21 5 (dk_at dksL_law_10 19 rfl rfl)
theorem dL_law_290 : decode cL_law 290 = .ok (.ifCond .ne 15, 3) := dk_154 0 15 (dk_at dksL_law_10 21 rfl rfl)
theorem dL_law_293 : decode cL_law 293 = .ok (.aload_n 3, 1) := dk_45 (dk_at dksL_law_11 0 rfl rfl)
theorem dL_law_294 : decode cL_law 294 = .ok (.iconst 0, 1) := dk_3 (dk_at dksL_law_11 1 rfl rfl)
theorem dL_law_295 : decode cL_law 295 = .ok (.laload, 1) := dk_47 (dk_at dksL_law_11 2 rfl rfl)
theorem dL_law_296 : decode cL_law 296 = .ok (.iload 6, 2) := dk_21 6 (dk_at dksL_law_11 3 rfl rfl)
theorem dL_law_298 : decode cL_law 298 = .ok (.i2l, 1) := dk_133 (dk_at dksL_law_11 5 rfl rfl)
theorem dL_law_299 : decode cL_law 299 = .ok (.lcmp, 1) := dk_148 (dk_at dksL_law_11 6 rfl rfl)
theorem dL_law_300 : decode cL_law 300 = .ok (.ifCond .eq 5, 3) := dk_153 0 5 (dk_at dksL_law_11 7 rfl rfl)
theorem dL_law_303 : decode cL_law 303 = .ok (.iconst 0, 1) := dk_3 (dk_at dksL_law_11 10 rfl rfl)
theorem dL_law_304 : decode cL_law 304 = .ok (.ireturn, 1) := dk_172 (dk_at dksL_law_11 11 rfl rfl)
theorem dL_law_305 : decode cL_law 305 = .ok (.goto 500, 3) := dk_167 1 244 (dk_at dksL_law_11 12 rfl rfl)
theorem dL_law_308 : decode cL_law 308 = .ok (.aload_n 1, 1) := dk_43 (dk_at dksL_law_11 15 rfl rfl)
theorem dL_law_309 : decode cL_law 309 = .ok (.aload_n 0, 1) := dk_42 (dk_at dksL_law_11 16 rfl rfl)
theorem dL_law_310 : decode cL_law 310 = .ok (.iload 4, 2) := dk_21 4 (dk_at dksL_law_11 17 rfl rfl)
theorem dL_law_312 : decode cL_law 312 = .ok (.iconst 1, 1) := dk_4 (dk_at dksL_law_11 19 rfl rfl)
theorem dL_law_313 : decode cL_law 313 = .ok (.iadd, 1) := dk_96 (dk_at dksL_law_11 20 rfl rfl)
theorem dL_law_314 : decode cL_law 314 = .ok (.iaload, 1) := dk_46 (dk_at dksL_law_11 21 rfl rfl)
theorem dL_law_315 : decode cL_law 315 = .ok (.aload_n 3, 1) := dk_45 (dk_at dksL_law_11 22 rfl rfl)
theorem dL_law_316 : decode cL_law 316 = .ok (.invokestatic 73, 3) := dk_184 0 73 (dk_at dksL_law_12 0 rfl rfl)
theorem dL_law_319 : decode cL_law 319 = .ok (.istore 5, 2) := dk_54 5 (dk_at dksL_law_12 3 rfl rfl)
theorem dL_law_321 : decode cL_law 321 = .ok (.aload_n 2, 1) := dk_44 (dk_at dksL_law_12 5 rfl rfl)
theorem dL_law_322 : decode cL_law 322 = .ok (.aload_n 0, 1) := dk_42 (dk_at dksL_law_12 6 rfl rfl)
theorem dL_law_323 : decode cL_law 323 = .ok (.iload 4, 2) := dk_21 4 (dk_at dksL_law_12 7 rfl rfl)
theorem dL_law_325 : decode cL_law 325 = .ok (.iconst 1, 1) := dk_4 (dk_at dksL_law_12 9 rfl rfl)
theorem dL_law_326 : decode cL_law 326 = .ok (.iadd, 1) := dk_96 (dk_at dksL_law_12 10 rfl rfl)
theorem dL_law_327 : decode cL_law 327 = .ok (.iaload, 1) := dk_46 (dk_at dksL_law_12 11 rfl rfl)
theorem dL_law_328 : decode cL_law 328 = .ok (.invokevirtual 75, 3) := dk_182 0 75 (dk_at dksL_law_12 12 rfl rfl)
theorem dL_law_331 : decode cL_law 331 = .ok (.istore 6, 2) := dk_54 6 (dk_at dksL_law_12 15 rfl rfl)
theorem dL_law_333 : decode cL_law 333 = .ok (.aload_n 2, 1) := dk_44 (dk_at dksL_law_12 17 rfl rfl)
theorem dL_law_334 : decode cL_law 334 = .ok (.invokevirtual 62, 3) := dk_182 0 62 (dk_at dksL_law_12 18 rfl rfl)
theorem dL_law_337 : decode cL_law 337 = .ok (.iload 5, 2) := dk_21 5 (dk_at dksL_law_12 21 rfl rfl)
theorem dL_law_339 : decode cL_law 339 = .ok (.if_icmp .eq 5, 3) := dk_159 0 5 (dk_at dksL_law_13 0 rfl rfl)
theorem dL_law_342 : decode cL_law 342 = .ok (.iconst 0, 1) := dk_3 (dk_at dksL_law_13 3 rfl rfl)
theorem dL_law_343 : decode cL_law 343 = .ok (.ireturn, 1) := dk_172 (dk_at dksL_law_13 4 rfl rfl)
theorem dL_law_344 : decode cL_law 344 = .ok (.iload 5, 2) := dk_21 5 (dk_at dksL_law_13 5 rfl rfl)
theorem dL_law_346 : decode cL_law 346 = .ok (.ifCond .ne 15, 3) := dk_154 0 15 (dk_at dksL_law_13 7 rfl rfl)
theorem dL_law_349 : decode cL_law 349 = .ok (.aload_n 3, 1) := dk_45 (dk_at dksL_law_13 10 rfl rfl)
theorem dL_law_350 : decode cL_law 350 = .ok (.iconst 0, 1) := dk_3 (dk_at dksL_law_13 11 rfl rfl)
theorem dL_law_351 : decode cL_law 351 = .ok (.laload, 1) := dk_47 (dk_at dksL_law_13 12 rfl rfl)
theorem dL_law_352 : decode cL_law 352 = .ok (.iload 6, 2) := dk_21 6 (dk_at dksL_law_13 13 rfl rfl)
theorem dL_law_354 : decode cL_law 354 = .ok (.i2l, 1) := dk_133 (dk_at dksL_law_13 15 rfl rfl)
theorem dL_law_355 : decode cL_law 355 = .ok (.lcmp, 1) := dk_148 (dk_at dksL_law_13 16 rfl rfl)
theorem dL_law_356 : decode cL_law 356 = .ok (.ifCond .eq 5, 3) := dk_153 0 5 (dk_at dksL_law_13 17 rfl rfl)
theorem dL_law_359 : decode cL_law 359 = .ok (.iconst 0, 1) := dk_3 (dk_at dksL_law_13 20 rfl rfl)
theorem dL_law_360 : decode cL_law 360 = .ok (.ireturn, 1) := dk_172 (dk_at dksL_law_13 21 rfl rfl)
theorem dL_law_361 : decode cL_law 361 = .ok (.goto 444, 3) := dk_167 1 188 (dk_at dksL_law_14 0 rfl rfl)
theorem dL_law_364 : decode cL_law 364 = .ok (.aload_n 1, 1) := dk_43 (dk_at dksL_law_14 3 rfl rfl)
theorem dL_law_365 : decode cL_law 365 = .ok (.aload_n 0, 1) := dk_42 (dk_at dksL_law_14 4 rfl rfl)
theorem dL_law_366 : decode cL_law 366 = .ok (.iload 4, 2) := dk_21 4 (dk_at dksL_law_14 5 rfl rfl)
theorem dL_law_368 : decode cL_law 368 = .ok (.iconst 1, 1) := dk_4 (dk_at dksL_law_14 7 rfl rfl)
theorem dL_law_369 : decode cL_law 369 = .ok (.iadd, 1) := dk_96 (dk_at dksL_law_14 8 rfl rfl)
theorem dL_law_370 : decode cL_law 370 = .ok (.iaload, 1) := dk_46 (dk_at dksL_law_14 9 rfl rfl)
theorem dL_law_371 : decode cL_law 371 = .ok (.aload_n 0, 1) := dk_42 (dk_at dksL_law_14 10 rfl rfl)
theorem dL_law_372 : decode cL_law 372 = .ok (.iload 4, 2) := dk_21 4 (dk_at dksL_law_14 11 rfl rfl)
theorem dL_law_374 : decode cL_law 374 = .ok (.iconst 2, 1) := dk_5 (dk_at dksL_law_14 13 rfl rfl)
theorem dL_law_375 : decode cL_law 375 = .ok (.iadd, 1) := dk_96 (dk_at dksL_law_14 14 rfl rfl)
theorem dL_law_376 : decode cL_law 376 = .ok (.iaload, 1) := dk_46 (dk_at dksL_law_14 15 rfl rfl)
theorem dL_law_377 : decode cL_law 377 = .ok (.aload_n 3, 1) := dk_45 (dk_at dksL_law_14 16 rfl rfl)
theorem dL_law_378 : decode cL_law 378 = .ok (.invokestatic 76, 3) := dk_184 0 76 (dk_at dksL_law_14 17 rfl rfl)
theorem dL_law_381 : decode cL_law 381 = .ok (.istore 5, 2) := dk_54 5 (dk_at dksL_law_14 20 rfl rfl)
theorem dL_law_383 : decode cL_law 383 = .ok (.aload_n 2, 1) := dk_44 (dk_at dksL_law_14 22 rfl rfl)
theorem dL_law_384 : decode cL_law 384 = .ok (.aload_n 0, 1) := dk_42 (dk_at dksL_law_14 23 rfl rfl)
theorem dL_law_385 : decode cL_law 385 = .ok (.iload 4, 2) := dk_21 4 (dk_at dksL_law_15 0 rfl rfl)
theorem dL_law_387 : decode cL_law 387 = .ok (.iconst 1, 1) := dk_4 (dk_at dksL_law_15 2 rfl rfl)
theorem dL_law_388 : decode cL_law 388 = .ok (.iadd, 1) := dk_96 (dk_at dksL_law_15 3 rfl rfl)
theorem dL_law_389 : decode cL_law 389 = .ok (.iaload, 1) := dk_46 (dk_at dksL_law_15 4 rfl rfl)
theorem dL_law_390 : decode cL_law 390 = .ok (.aload_n 0, 1) := dk_42 (dk_at dksL_law_15 5 rfl rfl)
theorem dL_law_391 : decode cL_law 391 = .ok (.iload 4, 2) := dk_21 4 (dk_at dksL_law_15 6 rfl rfl)
theorem dL_law_393 : decode cL_law 393 = .ok (.iconst 2, 1) := dk_5 (dk_at dksL_law_15 8 rfl rfl)
theorem dL_law_394 : decode cL_law 394 = .ok (.iadd, 1) := dk_96 (dk_at dksL_law_15 9 rfl rfl)
theorem dL_law_395 : decode cL_law 395 = .ok (.iaload, 1) := dk_46 (dk_at dksL_law_15 10 rfl rfl)
theorem dL_law_396 : decode cL_law 396 = .ok (.invokevirtual 79, 3) := dk_182 0 79 (dk_at dksL_law_15 11 rfl rfl)
theorem dL_law_399 : decode cL_law 399 = .ok (.istore 6, 2) := dk_54 6 (dk_at dksL_law_15 14 rfl rfl)
theorem dL_law_401 : decode cL_law 401 = .ok (.aload_n 2, 1) := dk_44 (dk_at dksL_law_15 16 rfl rfl)
theorem dL_law_402 : decode cL_law 402 = .ok (.invokevirtual 62, 3) := dk_182 0 62 (dk_at dksL_law_15 17 rfl rfl)
theorem dL_law_405 : decode cL_law 405 = .ok (.iload 5, 2) := dk_21 5 (dk_at dksL_law_15 20 rfl rfl)
theorem dL_law_407 : decode cL_law 407 = .ok (.if_icmp .eq 5, 3) := dk_159 0 5 (dk_at dksL_law_16 0 rfl rfl)
theorem dL_law_410 : decode cL_law 410 = .ok (.iconst 0, 1) := dk_3 (dk_at dksL_law_16 3 rfl rfl)
theorem dL_law_411 : decode cL_law 411 = .ok (.ireturn, 1) := dk_172 (dk_at dksL_law_16 4 rfl rfl)
theorem dL_law_412 : decode cL_law 412 = .ok (.iload 5, 2) := dk_21 5 (dk_at dksL_law_16 5 rfl rfl)
theorem dL_law_414 : decode cL_law 414 = .ok (.ifCond .ne 15, 3) := dk_154 0 15 (dk_at dksL_law_16 7 rfl rfl)
theorem dL_law_417 : decode cL_law 417 = .ok (.aload_n 3, 1) := dk_45 (dk_at dksL_law_16 10 rfl rfl)
theorem dL_law_418 : decode cL_law 418 = .ok (.iconst 0, 1) := dk_3 (dk_at dksL_law_16 11 rfl rfl)
theorem dL_law_419 : decode cL_law 419 = .ok (.laload, 1) := dk_47 (dk_at dksL_law_16 12 rfl rfl)
theorem dL_law_420 : decode cL_law 420 = .ok (.iload 6, 2) := dk_21 6 (dk_at dksL_law_16 13 rfl rfl)
theorem dL_law_422 : decode cL_law 422 = .ok (.i2l, 1) := dk_133 (dk_at dksL_law_16 15 rfl rfl)
theorem dL_law_423 : decode cL_law 423 = .ok (.lcmp, 1) := dk_148 (dk_at dksL_law_16 16 rfl rfl)
theorem dL_law_424 : decode cL_law 424 = .ok (.ifCond .eq 5, 3) := dk_153 0 5 (dk_at dksL_law_16 17 rfl rfl)
theorem dL_law_427 : decode cL_law 427 = .ok (.iconst 0, 1) := dk_3 (dk_at dksL_law_16 20 rfl rfl)
theorem dL_law_428 : decode cL_law 428 = .ok (.ireturn, 1) := dk_172 (dk_at dksL_law_16 21 rfl rfl)
theorem dL_law_429 : decode cL_law 429 = .ok (.goto 376, 3) := dk_167 1 120 (dk_at dksL_law_17 0 rfl rfl)
theorem dL_law_432 : decode cL_law 432 = .ok (.aload_n 1, 1) := dk_43 (dk_at dksL_law_17 3 rfl rfl)
theorem dL_law_433 : decode cL_law 433 = .ok (.aload_n 0, 1) := dk_42 (dk_at dksL_law_17 4 rfl rfl)
theorem dL_law_434 : decode cL_law 434 = .ok (.iload 4, 2) := dk_21 4 (dk_at dksL_law_17 5 rfl rfl)
theorem dL_law_436 : decode cL_law 436 = .ok (.iconst 1, 1) := dk_4 (dk_at dksL_law_17 7 rfl rfl)
theorem dL_law_437 : decode cL_law 437 = .ok (.iadd, 1) := dk_96 (dk_at dksL_law_17 8 rfl rfl)
theorem dL_law_438 : decode cL_law 438 = .ok (.iaload, 1) := dk_46 (dk_at dksL_law_17 9 rfl rfl)
theorem dL_law_439 : decode cL_law 439 = .ok (.aload_n 0, 1) := dk_42 (dk_at dksL_law_17 10 rfl rfl)
theorem dL_law_440 : decode cL_law 440 = .ok (.iload 4, 2) := dk_21 4 (dk_at dksL_law_17 11 rfl rfl)
theorem dL_law_442 : decode cL_law 442 = .ok (.iconst 2, 1) := dk_5 (dk_at dksL_law_17 13 rfl rfl)
theorem dL_law_443 : decode cL_law 443 = .ok (.iadd, 1) := dk_96 (dk_at dksL_law_17 14 rfl rfl)
theorem dL_law_444 : decode cL_law 444 = .ok (.iaload, 1) := dk_46 (dk_at dksL_law_17 15 rfl rfl)
theorem dL_law_445 : decode cL_law 445 = .ok (.aload_n 3, 1) := dk_45 (dk_at dksL_law_17 16 rfl rfl)
theorem dL_law_446 : decode cL_law 446 = .ok (.invokestatic 80, 3) := dk_184 0 80 (dk_at dksL_law_17 17 rfl rfl)
theorem dL_law_449 : decode cL_law 449 = .ok (.istore 5, 2) := dk_54 5 (dk_at dksL_law_17 20 rfl rfl)
theorem dL_law_451 : decode cL_law 451 = .ok (.aload_n 2, 1) := dk_44 (dk_at dksL_law_17 22 rfl rfl)
theorem dL_law_452 : decode cL_law 452 = .ok (.aload_n 0, 1) := dk_42 (dk_at dksL_law_17 23 rfl rfl)
theorem dL_law_453 : decode cL_law 453 = .ok (.iload 4, 2) := dk_21 4 (dk_at dksL_law_18 0 rfl rfl)
theorem dL_law_455 : decode cL_law 455 = .ok (.iconst 1, 1) := dk_4 (dk_at dksL_law_18 2 rfl rfl)
theorem dL_law_456 : decode cL_law 456 = .ok (.iadd, 1) := dk_96 (dk_at dksL_law_18 3 rfl rfl)
theorem dL_law_457 : decode cL_law 457 = .ok (.iaload, 1) := dk_46 (dk_at dksL_law_18 4 rfl rfl)
theorem dL_law_458 : decode cL_law 458 = .ok (.aload_n 0, 1) := dk_42 (dk_at dksL_law_18 5 rfl rfl)
theorem dL_law_459 : decode cL_law 459 = .ok (.iload 4, 2) := dk_21 4 (dk_at dksL_law_18 6 rfl rfl)
theorem dL_law_461 : decode cL_law 461 = .ok (.iconst 2, 1) := dk_5 (dk_at dksL_law_18 8 rfl rfl)
theorem dL_law_462 : decode cL_law 462 = .ok (.iadd, 1) := dk_96 (dk_at dksL_law_18 9 rfl rfl)
theorem dL_law_463 : decode cL_law 463 = .ok (.iaload, 1) := dk_46 (dk_at dksL_law_18 10 rfl rfl)
theorem dL_law_464 : decode cL_law 464 = .ok (.invokevirtual 82, 3) := dk_182 0 82 (dk_at dksL_law_18 11 rfl rfl)
theorem dL_law_467 : decode cL_law 467 = .ok (.istore 6, 2) := dk_54 6 (dk_at dksL_law_18 14 rfl rfl)
theorem dL_law_469 : decode cL_law 469 = .ok (.aload_n 2, 1) := dk_44 (dk_at dksL_law_18 16 rfl rfl)
theorem dL_law_470 : decode cL_law 470 = .ok (.invokevirtual 62, 3) := dk_182 0 62 (dk_at dksL_law_18 17 rfl rfl)
theorem dL_law_473 : decode cL_law 473 = .ok (.iload 5, 2) := dk_21 5 (dk_at dksL_law_18 20 rfl rfl)
theorem dL_law_475 : decode cL_law 475 = .ok (.if_icmp .eq 5, 3) := dk_159 0 5 (dk_at dksL_law_19 0 rfl rfl)
theorem dL_law_478 : decode cL_law 478 = .ok (.iconst 0, 1) := dk_3 (dk_at dksL_law_19 3 rfl rfl)
theorem dL_law_479 : decode cL_law 479 = .ok (.ireturn, 1) := dk_172 (dk_at dksL_law_19 4 rfl rfl)
theorem dL_law_480 : decode cL_law 480 = .ok (.iload 5, 2) := dk_21 5 (dk_at dksL_law_19 5 rfl rfl)
theorem dL_law_482 : decode cL_law 482 = .ok (.ifCond .ne 15, 3) := dk_154 0 15 (dk_at dksL_law_19 7 rfl rfl)
theorem dL_law_485 : decode cL_law 485 = .ok (.aload_n 3, 1) := dk_45 (dk_at dksL_law_19 10 rfl rfl)
theorem dL_law_486 : decode cL_law 486 = .ok (.iconst 0, 1) := dk_3 (dk_at dksL_law_19 11 rfl rfl)
theorem dL_law_487 : decode cL_law 487 = .ok (.laload, 1) := dk_47 (dk_at dksL_law_19 12 rfl rfl)
theorem dL_law_488 : decode cL_law 488 = .ok (.iload 6, 2) := dk_21 6 (dk_at dksL_law_19 13 rfl rfl)
theorem dL_law_490 : decode cL_law 490 = .ok (.i2l, 1) := dk_133 (dk_at dksL_law_19 15 rfl rfl)
theorem dL_law_491 : decode cL_law 491 = .ok (.lcmp, 1) := dk_148 (dk_at dksL_law_19 16 rfl rfl)
theorem dL_law_492 : decode cL_law 492 = .ok (.ifCond .eq 5, 3) := dk_153 0 5 (dk_at dksL_law_19 17 rfl rfl)
theorem dL_law_495 : decode cL_law 495 = .ok (.iconst 0, 1) := dk_3 (dk_at dksL_law_19 20 rfl rfl)
theorem dL_law_496 : decode cL_law 496 = .ok (.ireturn, 1) := dk_172 (dk_at dksL_law_19 21 rfl rfl)
theorem dL_law_497 : decode cL_law 497 = .ok (.goto 308, 3) := dk_167 1 52 (dk_at dksL_law_20 0 rfl rfl)
theorem dL_law_500 : decode cL_law 500 = .ok (.aload_n 1, 1) := dk_43 (dk_at dksL_law_20 3 rfl rfl)
theorem dL_law_501 : decode cL_law 501 = .ok (.aload_n 0, 1) := dk_42 (dk_at dksL_law_20 4 rfl rfl)
theorem dL_law_502 : decode cL_law 502 = .ok (.iload 4, 2) := dk_21 4 (dk_at dksL_law_20 5 rfl rfl)
theorem dL_law_504 : decode cL_law 504 = .ok (.iconst 1, 1) := dk_4 (dk_at dksL_law_20 7 rfl rfl)
theorem dL_law_505 : decode cL_law 505 = .ok (.iadd, 1) := dk_96 (dk_at dksL_law_20 8 rfl rfl)
theorem dL_law_506 : decode cL_law 506 = .ok (.iaload, 1) := dk_46 (dk_at dksL_law_20 9 rfl rfl)
theorem dL_law_507 : decode cL_law 507 = .ok (.aload_n 0, 1) := dk_42 (dk_at dksL_law_20 10 rfl rfl)
theorem dL_law_508 : decode cL_law 508 = .ok (.iload 4, 2) := dk_21 4 (dk_at dksL_law_20 11 rfl rfl)
theorem dL_law_510 : decode cL_law 510 = .ok (.iconst 2, 1) := dk_5 (dk_at dksL_law_20 13 rfl rfl)
theorem dL_law_511 : decode cL_law 511 = .ok (.iadd, 1) := dk_96 (dk_at dksL_law_20 14 rfl rfl)
theorem dL_law_512 : decode cL_law 512 = .ok (.iaload, 1) := dk_46 (dk_at dksL_law_20 15 rfl rfl)
theorem dL_law_513 : decode cL_law 513 = .ok (.aload_n 3, 1) := dk_45 (dk_at dksL_law_20 16 rfl rfl)
theorem dL_law_514 : decode cL_law 514 = .ok (.invokestatic 83, 3) := dk_184 0 83 (dk_at dksL_law_20 17 rfl rfl)
theorem dL_law_517 : decode cL_law 517 = .ok (.istore 5, 2) := dk_54 5 (dk_at dksL_law_20 20 rfl rfl)
theorem dL_law_519 : decode cL_law 519 = .ok (.aload_n 2, 1) := dk_44 (dk_at dksL_law_20 22 rfl rfl)
theorem dL_law_520 : decode cL_law 520 = .ok (.aload_n 0, 1) := dk_42 (dk_at dksL_law_20 23 rfl rfl)
theorem dL_law_521 : decode cL_law 521 = .ok (.iload 4, 2) := dk_21 4 (dk_at dksL_law_21 0 rfl rfl)
theorem dL_law_523 : decode cL_law 523 = .ok (.iconst 1, 1) := dk_4 (dk_at dksL_law_21 2 rfl rfl)
theorem dL_law_524 : decode cL_law 524 = .ok (.iadd, 1) := dk_96 (dk_at dksL_law_21 3 rfl rfl)
theorem dL_law_525 : decode cL_law 525 = .ok (.iaload, 1) := dk_46 (dk_at dksL_law_21 4 rfl rfl)
theorem dL_law_526 : decode cL_law 526 = .ok (.aload_n 0, 1) := dk_42 (dk_at dksL_law_21 5 rfl rfl)
theorem dL_law_527 : decode cL_law 527 = .ok (.iload 4, 2) := dk_21 4 (dk_at dksL_law_21 6 rfl rfl)
theorem dL_law_529 : decode cL_law 529 = .ok (.iconst 2, 1) := dk_5 (dk_at dksL_law_21 8 rfl rfl)
theorem dL_law_530 : decode cL_law 530 = .ok (.iadd, 1) := dk_96 (dk_at dksL_law_21 9 rfl rfl)
theorem dL_law_531 : decode cL_law 531 = .ok (.iaload, 1) := dk_46 (dk_at dksL_law_21 10 rfl rfl)
theorem dL_law_532 : decode cL_law 532 = .ok (.invokevirtual 85, 3) := dk_182 0 85 (dk_at dksL_law_21 11 rfl rfl)
theorem dL_law_535 : decode cL_law 535 = .ok (.istore 6, 2) := dk_54 6 (dk_at dksL_law_21 14 rfl rfl)
theorem dL_law_537 : decode cL_law 537 = .ok (.aload_n 2, 1) := dk_44 (dk_at dksL_law_21 16 rfl rfl)
theorem dL_law_538 : decode cL_law 538 = .ok (.invokevirtual 62, 3) := dk_182 0 62 (dk_at dksL_law_21 17 rfl rfl)
theorem dL_law_541 : decode cL_law 541 = .ok (.iload 5, 2) := dk_21 5 (dk_at dksL_law_21 20 rfl rfl)
theorem dL_law_543 : decode cL_law 543 = .ok (.if_icmp .eq 5, 3) := dk_159 0 5 (dk_at dksL_law_22 0 rfl rfl)
theorem dL_law_546 : decode cL_law 546 = .ok (.iconst 0, 1) := dk_3 (dk_at dksL_law_22 3 rfl rfl)
theorem dL_law_547 : decode cL_law 547 = .ok (.ireturn, 1) := dk_172 (dk_at dksL_law_22 4 rfl rfl)
theorem dL_law_548 : decode cL_law 548 = .ok (.iload 5, 2) := dk_21 5 (dk_at dksL_law_22 5 rfl rfl)
theorem dL_law_550 : decode cL_law 550 = .ok (.ifCond .ne 15, 3) := dk_154 0 15 (dk_at dksL_law_22 7 rfl rfl)
theorem dL_law_553 : decode cL_law 553 = .ok (.aload_n 3, 1) := dk_45 (dk_at dksL_law_22 10 rfl rfl)
theorem dL_law_554 : decode cL_law 554 = .ok (.iconst 0, 1) := dk_3 (dk_at dksL_law_22 11 rfl rfl)
theorem dL_law_555 : decode cL_law 555 = .ok (.laload, 1) := dk_47 (dk_at dksL_law_22 12 rfl rfl)
theorem dL_law_556 : decode cL_law 556 = .ok (.iload 6, 2) := dk_21 6 (dk_at dksL_law_22 13 rfl rfl)
theorem dL_law_558 : decode cL_law 558 = .ok (.i2l, 1) := dk_133 (dk_at dksL_law_22 15 rfl rfl)
theorem dL_law_559 : decode cL_law 559 = .ok (.lcmp, 1) := dk_148 (dk_at dksL_law_22 16 rfl rfl)
theorem dL_law_560 : decode cL_law 560 = .ok (.ifCond .eq 5, 3) := dk_153 0 5 (dk_at dksL_law_22 17 rfl rfl)
theorem dL_law_563 : decode cL_law 563 = .ok (.iconst 0, 1) := dk_3 (dk_at dksL_law_22 20 rfl rfl)
theorem dL_law_564 : decode cL_law 564 = .ok (.ireturn, 1) := dk_172 (dk_at dksL_law_22 21 rfl rfl)
theorem dL_law_565 : decode cL_law 565 = .ok (.goto 240, 3) := dk_167 0 240 (dk_at dksL_law_23 0 rfl rfl)
theorem dL_law_568 : decode cL_law 568 = .ok (.aload_n 1, 1) := dk_43 (dk_at dksL_law_23 3 rfl rfl)
theorem dL_law_569 : decode cL_law 569 = .ok (.aload_n 0, 1) := dk_42 (dk_at dksL_law_23 4 rfl rfl)
theorem dL_law_570 : decode cL_law 570 = .ok (.iload 4, 2) := dk_21 4 (dk_at dksL_law_23 5 rfl rfl)
theorem dL_law_572 : decode cL_law 572 = .ok (.iconst 1, 1) := dk_4 (dk_at dksL_law_23 7 rfl rfl)
theorem dL_law_573 : decode cL_law 573 = .ok (.iadd, 1) := dk_96 (dk_at dksL_law_23 8 rfl rfl)
theorem dL_law_574 : decode cL_law 574 = .ok (.iaload, 1) := dk_46 (dk_at dksL_law_23 9 rfl rfl)
theorem dL_law_575 : decode cL_law 575 = .ok (.aload_n 3, 1) := dk_45 (dk_at dksL_law_23 10 rfl rfl)
theorem dL_law_576 : decode cL_law 576 = .ok (.invokestatic 86, 3) := dk_184 0 86 (dk_at dksL_law_23 11 rfl rfl)
theorem dL_law_579 : decode cL_law 579 = .ok (.istore 5, 2) := dk_54 5 (dk_at dksL_law_23 14 rfl rfl)
theorem dL_law_581 : decode cL_law 581 = .ok (.aload_n 2, 1) := dk_44 (dk_at dksL_law_23 16 rfl rfl)
theorem dL_law_582 : decode cL_law 582 = .ok (.aload_n 0, 1) := dk_42 (dk_at dksL_law_23 17 rfl rfl)
theorem dL_law_583 : decode cL_law 583 = .ok (.iload 4, 2) := dk_21 4 (dk_at dksL_law_23 18 rfl rfl)
theorem dL_law_585 : decode cL_law 585 = .ok (.iconst 1, 1) := dk_4 (dk_at dksL_law_23 20 rfl rfl)
theorem dL_law_586 : decode cL_law 586 = .ok (.iadd, 1) := dk_96 (dk_at dksL_law_23 21 rfl rfl)
theorem dL_law_587 : decode cL_law 587 = .ok (.iaload, 1) := dk_46 (dk_at dksL_law_23 22 rfl rfl)
theorem dL_law_588 : decode cL_law 588 = .ok (.invokevirtual 88, 3) := dk_182 0 88 (dk_at dksL_law_24 0 rfl rfl)
theorem dL_law_591 : decode cL_law 591 = .ok (.istore 6, 2) := dk_54 6 (dk_at dksL_law_24 3 rfl rfl)
theorem dL_law_593 : decode cL_law 593 = .ok (.aload_n 2, 1) := dk_44 (dk_at dksL_law_24 5 rfl rfl)
theorem dL_law_594 : decode cL_law 594 = .ok (.invokevirtual 62, 3) := dk_182 0 62 (dk_at dksL_law_24 6 rfl rfl)
theorem dL_law_597 : decode cL_law 597 = .ok (.iload 5, 2) := dk_21 5 (dk_at dksL_law_24 9 rfl rfl)
theorem dL_law_599 : decode cL_law 599 = .ok (.if_icmp .eq 5, 3) := dk_159 0 5 (dk_at dksL_law_24 11 rfl rfl)
theorem dL_law_602 : decode cL_law 602 = .ok (.iconst 0, 1) := dk_3 (dk_at dksL_law_24 14 rfl rfl)
theorem dL_law_603 : decode cL_law 603 = .ok (.ireturn, 1) := dk_172 (dk_at dksL_law_24 15 rfl rfl)
theorem dL_law_604 : decode cL_law 604 = .ok (.iload 5, 2) := dk_21 5 (dk_at dksL_law_24 16 rfl rfl)
theorem dL_law_606 : decode cL_law 606 = .ok (.ifCond .ne 15, 3) := dk_154 0 15 (dk_at dksL_law_24 18 rfl rfl)
theorem dL_law_609 : decode cL_law 609 = .ok (.aload_n 3, 1) := dk_45 (dk_at dksL_law_24 21 rfl rfl)
theorem dL_law_610 : decode cL_law 610 = .ok (.iconst 0, 1) := dk_3 (dk_at dksL_law_24 22 rfl rfl)
theorem dL_law_611 : decode cL_law 611 = .ok (.laload, 1) := dk_47 (dk_at dksL_law_24 23 rfl rfl)
theorem dL_law_612 : decode cL_law 612 = .ok (.iload 6, 2) := dk_21 6 (dk_at dksL_law_25 0 rfl rfl)
theorem dL_law_614 : decode cL_law 614 = .ok (.i2l, 1) := dk_133 (dk_at dksL_law_25 2 rfl rfl)
theorem dL_law_615 : decode cL_law 615 = .ok (.lcmp, 1) := dk_148 (dk_at dksL_law_25 3 rfl rfl)
theorem dL_law_616 : decode cL_law 616 = .ok (.ifCond .eq 5, 3) := dk_153 0 5 (dk_at dksL_law_25 4 rfl rfl)
theorem dL_law_619 : decode cL_law 619 = .ok (.iconst 0, 1) := dk_3 (dk_at dksL_law_25 7 rfl rfl)
theorem dL_law_620 : decode cL_law 620 = .ok (.ireturn, 1) := dk_172 (dk_at dksL_law_25 8 rfl rfl)
theorem dL_law_621 : decode cL_law 621 = .ok (.goto 184, 3) := dk_167 0 184 (dk_at dksL_law_25 9 rfl rfl)
theorem dL_law_624 : decode cL_law 624 = .ok (.aload_n 1, 1) := dk_43 (dk_at dksL_law_25 12 rfl rfl)
theorem dL_law_625 : decode cL_law 625 = .ok (.aload_n 0, 1) := dk_42 (dk_at dksL_law_25 13 rfl rfl)
theorem dL_law_626 : decode cL_law 626 = .ok (.iload 4, 2) := dk_21 4 (dk_at dksL_law_25 14 rfl rfl)
theorem dL_law_628 : decode cL_law 628 = .ok (.iconst 1, 1) := dk_4 (dk_at dksL_law_25 16 rfl rfl)
theorem dL_law_629 : decode cL_law 629 = .ok (.iadd, 1) := dk_96 (dk_at dksL_law_25 17 rfl rfl)
theorem dL_law_630 : decode cL_law 630 = .ok (.iaload, 1) := dk_46 (dk_at dksL_law_25 18 rfl rfl)
theorem dL_law_631 : decode cL_law 631 = .ok (.aload_n 3, 1) := dk_45 (dk_at dksL_law_25 19 rfl rfl)
theorem dL_law_632 : decode cL_law 632 = .ok (.invokestatic 89, 3) := dk_184 0 89 (dk_at dksL_law_25 20 rfl rfl)
theorem dL_law_635 : decode cL_law 635 = .ok (.istore 5, 2) := dk_54 5 (dk_at dksL_law_26 0 rfl rfl)
theorem dL_law_637 : decode cL_law 637 = .ok (.aload_n 2, 1) := dk_44 (dk_at dksL_law_26 2 rfl rfl)
theorem dL_law_638 : decode cL_law 638 = .ok (.aload_n 0, 1) := dk_42 (dk_at dksL_law_26 3 rfl rfl)
theorem dL_law_639 : decode cL_law 639 = .ok (.iload 4, 2) := dk_21 4 (dk_at dksL_law_26 4 rfl rfl)
theorem dL_law_641 : decode cL_law 641 = .ok (.iconst 1, 1) := dk_4 (dk_at dksL_law_26 6 rfl rfl)
theorem dL_law_642 : decode cL_law 642 = .ok (.iadd, 1) := dk_96 (dk_at dksL_law_26 7 rfl rfl)
theorem dL_law_643 : decode cL_law 643 = .ok (.iaload, 1) := dk_46 (dk_at dksL_law_26 8 rfl rfl)
theorem dL_law_644 : decode cL_law 644 = .ok (.invokevirtual 91, 3) := dk_182 0 91 (dk_at dksL_law_26 9 rfl rfl)
theorem dL_law_647 : decode cL_law 647 = .ok (.istore 6, 2) := dk_54 6 (dk_at dksL_law_26 12 rfl rfl)
theorem dL_law_649 : decode cL_law 649 = .ok (.aload_n 2, 1) := dk_44 (dk_at dksL_law_26 14 rfl rfl)
theorem dL_law_650 : decode cL_law 650 = .ok (.invokevirtual 62, 3) := dk_182 0 62 (dk_at dksL_law_26 15 rfl rfl)
theorem dL_law_653 : decode cL_law 653 = .ok (.iload 5, 2) := dk_21 5 (dk_at dksL_law_26 18 rfl rfl)
theorem dL_law_655 : decode cL_law 655 = .ok (.if_icmp .eq 5, 3) := dk_159 0 5 (dk_at dksL_law_26 20 rfl rfl)
theorem dL_law_658 : decode cL_law 658 = .ok (.iconst 0, 1) := dk_3 (dk_at dksL_law_26 23 rfl rfl)
theorem dL_law_659 : decode cL_law 659 = .ok (.ireturn, 1) := dk_172 (dk_at dksL_law_27 0 rfl rfl)
theorem dL_law_660 : decode cL_law 660 = .ok (.iload 5, 2) := dk_21 5 (dk_at dksL_law_27 1 rfl rfl)
theorem dL_law_662 : decode cL_law 662 = .ok (.ifCond .ne 15, 3) := dk_154 0 15 (dk_at dksL_law_27 3 rfl rfl)
theorem dL_law_665 : decode cL_law 665 = .ok (.aload_n 3, 1) := dk_45 (dk_at dksL_law_27 6 rfl rfl)
theorem dL_law_666 : decode cL_law 666 = .ok (.iconst 0, 1) := dk_3 (dk_at dksL_law_27 7 rfl rfl)
theorem dL_law_667 : decode cL_law 667 = .ok (.laload, 1) := dk_47 (dk_at dksL_law_27 8 rfl rfl)
theorem dL_law_668 : decode cL_law 668 = .ok (.iload 6, 2) := dk_21 6 (dk_at dksL_law_27 9 rfl rfl)
theorem dL_law_670 : decode cL_law 670 = .ok (.i2l, 1) := dk_133 (dk_at dksL_law_27 11 rfl rfl)
theorem dL_law_671 : decode cL_law 671 = .ok (.lcmp, 1) := dk_148 (dk_at dksL_law_27 12 rfl rfl)
theorem dL_law_672 : decode cL_law 672 = .ok (.ifCond .eq 5, 3) := dk_153 0 5 (dk_at dksL_law_27 13 rfl rfl)
theorem dL_law_675 : decode cL_law 675 = .ok (.iconst 0, 1) := dk_3 (dk_at dksL_law_27 16 rfl rfl)
theorem dL_law_676 : decode cL_law 676 = .ok (.ireturn, 1) := dk_172 (dk_at dksL_law_27 17 rfl rfl)
theorem dL_law_677 : decode cL_law 677 = .ok (.goto 128, 3) := dk_167 0 128 (dk_at dksL_law_27 18 rfl rfl)
theorem dL_law_680 : decode cL_law 680 = .ok (.aload_n 1, 1) := dk_43 (dk_at dksL_law_27 21 rfl rfl)
theorem dL_law_681 : decode cL_law 681 = .ok (.aload_n 0, 1) := dk_42 (dk_at dksL_law_27 22 rfl rfl)
theorem dL_law_682 : decode cL_law 682 = .ok (.iload 4, 2) := dk_21 4 (dk_at dksL_law_28 0 rfl rfl)
theorem dL_law_684 : decode cL_law 684 = .ok (.iconst 1, 1) := dk_4 (dk_at dksL_law_28 2 rfl rfl)
theorem dL_law_685 : decode cL_law 685 = .ok (.iadd, 1) := dk_96 (dk_at dksL_law_28 3 rfl rfl)
theorem dL_law_686 : decode cL_law 686 = .ok (.iaload, 1) := dk_46 (dk_at dksL_law_28 4 rfl rfl)
theorem dL_law_687 : decode cL_law 687 = .ok (.aload_n 3, 1) := dk_45 (dk_at dksL_law_28 5 rfl rfl)
theorem dL_law_688 : decode cL_law 688 = .ok (.invokestatic 92, 3) := dk_184 0 92 (dk_at dksL_law_28 6 rfl rfl)
theorem dL_law_691 : decode cL_law 691 = .ok (.istore 5, 2) := dk_54 5 (dk_at dksL_law_28 9 rfl rfl)
theorem dL_law_693 : decode cL_law 693 = .ok (.aload_n 2, 1) := dk_44 (dk_at dksL_law_28 11 rfl rfl)
theorem dL_law_694 : decode cL_law 694 = .ok (.aload_n 0, 1) := dk_42 (dk_at dksL_law_28 12 rfl rfl)
theorem dL_law_695 : decode cL_law 695 = .ok (.iload 4, 2) := dk_21 4 (dk_at dksL_law_28 13 rfl rfl)
theorem dL_law_697 : decode cL_law 697 = .ok (.iconst 1, 1) := dk_4 (dk_at dksL_law_28 15 rfl rfl)
theorem dL_law_698 : decode cL_law 698 = .ok (.iadd, 1) := dk_96 (dk_at dksL_law_28 16 rfl rfl)
theorem dL_law_699 : decode cL_law 699 = .ok (.iaload, 1) := dk_46 (dk_at dksL_law_28 17 rfl rfl)
theorem dL_law_700 : decode cL_law 700 = .ok (.invokevirtual 94, 3) := dk_182 0 94 (dk_at dksL_law_28 18 rfl rfl)
theorem dL_law_703 : decode cL_law 703 = .ok (.istore 6, 2) := dk_54 6 (dk_at dksL_law_28 21 rfl rfl)
theorem dL_law_705 : decode cL_law 705 = .ok (.aload_n 2, 1) := dk_44 (dk_at dksL_law_28 23 rfl rfl)
theorem dL_law_706 : decode cL_law 706 = .ok (.invokevirtual 62, 3) := dk_182 0 62 (dk_at dksL_law_29 0 rfl rfl)
theorem dL_law_709 : decode cL_law 709 = .ok (.iload 5, 2) := dk_21 5 (dk_at dksL_law_29 3 rfl rfl)
theorem dL_law_711 : decode cL_law 711 = .ok (.if_icmp .eq 5, 3) := dk_159 0 5 (dk_at dksL_law_29 5 rfl rfl)
theorem dL_law_714 : decode cL_law 714 = .ok (.iconst 0, 1) := dk_3 (dk_at dksL_law_29 8 rfl rfl)
theorem dL_law_715 : decode cL_law 715 = .ok (.ireturn, 1) := dk_172 (dk_at dksL_law_29 9 rfl rfl)
theorem dL_law_716 : decode cL_law 716 = .ok (.iload 5, 2) := dk_21 5 (dk_at dksL_law_29 10 rfl rfl)
theorem dL_law_718 : decode cL_law 718 = .ok (.ifCond .ne 15, 3) := dk_154 0 15 (dk_at dksL_law_29 12 rfl rfl)
theorem dL_law_721 : decode cL_law 721 = .ok (.aload_n 3, 1) := dk_45 (dk_at dksL_law_29 15 rfl rfl)
theorem dL_law_722 : decode cL_law 722 = .ok (.iconst 0, 1) := dk_3 (dk_at dksL_law_29 16 rfl rfl)
theorem dL_law_723 : decode cL_law 723 = .ok (.laload, 1) := dk_47 (dk_at dksL_law_29 17 rfl rfl)
theorem dL_law_724 : decode cL_law 724 = .ok (.iload 6, 2) := dk_21 6 (dk_at dksL_law_29 18 rfl rfl)
theorem dL_law_726 : decode cL_law 726 = .ok (.i2l, 1) := dk_133 (dk_at dksL_law_29 20 rfl rfl)
theorem dL_law_727 : decode cL_law 727 = .ok (.lcmp, 1) := dk_148 (dk_at dksL_law_29 21 rfl rfl)
theorem dL_law_728 : decode cL_law 728 = .ok (.ifCond .eq 5, 3) := dk_153 0 5 (dk_at dksL_law_30 0 rfl rfl)
theorem dL_law_731 : decode cL_law 731 = .ok (.iconst 0, 1) := dk_3 (dk_at dksL_law_30 3 rfl rfl)
theorem dL_law_732 : decode cL_law 732 = .ok (.ireturn, 1) := dk_172 (dk_at dksL_law_30 4 rfl rfl)
theorem dL_law_733 : decode cL_law 733 = .ok (.goto 72, 3) := dk_167 0 72 (dk_at dksL_law_30 5 rfl rfl)
theorem dL_law_736 : decode cL_law 736 = .ok (.aload_n 1, 1) := dk_43 (dk_at dksL_law_30 8 rfl rfl)
theorem dL_law_737 : decode cL_law 737 = .ok (.aload_n 3, 1) := dk_45 (dk_at dksL_law_30 9 rfl rfl)
theorem dL_law_738 : decode cL_law 738 = .ok (.invokestatic 95, 3) := dk_184 0 95 (dk_at dksL_law_30 10 rfl rfl)
theorem dL_law_741 : decode cL_law 741 = .ok (.istore 5, 2) := dk_54 5 (dk_at dksL_law_30 13 rfl rfl)
theorem dL_law_743 : decode cL_law 743 = .ok (.aload_n 2, 1) := dk_44 (dk_at dksL_law_30 15 rfl rfl)
theorem dL_law_744 : decode cL_law 744 = .ok (.invokevirtual 97, 3) := dk_182 0 97 (dk_at dksL_law_30 16 rfl rfl)
theorem dL_law_747 : decode cL_law 747 = .ok (.istore 6, 2) := dk_54 6 (dk_at dksL_law_30 19 rfl rfl)
theorem dL_law_749 : decode cL_law 749 = .ok (.aload_n 2, 1) := dk_44 (dk_at dksL_law_30 21 rfl rfl)
theorem dL_law_750 : decode cL_law 750 = .ok (.invokevirtual 62, 3) := dk_182 0 62 (dk_at dksL_law_31 0 rfl rfl)
theorem dL_law_753 : decode cL_law 753 = .ok (.iload 5, 2) := dk_21 5 (dk_at dksL_law_31 3 rfl rfl)
theorem dL_law_755 : decode cL_law 755 = .ok (.if_icmp .eq 5, 3) := dk_159 0 5 (dk_at dksL_law_31 5 rfl rfl)
theorem dL_law_758 : decode cL_law 758 = .ok (.iconst 0, 1) := dk_3 (dk_at dksL_law_31 8 rfl rfl)
theorem dL_law_759 : decode cL_law 759 = .ok (.ireturn, 1) := dk_172 (dk_at dksL_law_31 9 rfl rfl)
theorem dL_law_760 : decode cL_law 760 = .ok (.iload 5, 2) := dk_21 5 (dk_at dksL_law_31 10 rfl rfl)
theorem dL_law_762 : decode cL_law 762 = .ok (.ifCond .ne 15, 3) := dk_154 0 15 (dk_at dksL_law_31 12 rfl rfl)
theorem dL_law_765 : decode cL_law 765 = .ok (.aload_n 3, 1) := dk_45 (dk_at dksL_law_31 15 rfl rfl)
theorem dL_law_766 : decode cL_law 766 = .ok (.iconst 0, 1) := dk_3 (dk_at dksL_law_31 16 rfl rfl)
theorem dL_law_767 : decode cL_law 767 = .ok (.laload, 1) := dk_47 (dk_at dksL_law_31 17 rfl rfl)
theorem dL_law_768 : decode cL_law 768 = .ok (.iload 6, 2) := dk_21 6 (dk_at dksL_law_31 18 rfl rfl)
theorem dL_law_770 : decode cL_law 770 = .ok (.i2l, 1) := dk_133 (dk_at dksL_law_31 20 rfl rfl)
theorem dL_law_771 : decode cL_law 771 = .ok (.lcmp, 1) := dk_148 (dk_at dksL_law_31 21 rfl rfl)
theorem dL_law_772 : decode cL_law 772 = .ok (.ifCond .eq 5, 3) := dk_153 0 5 (dk_at dksL_law_32 0 rfl rfl)
theorem dL_law_775 : decode cL_law 775 = .ok (.iconst 0, 1) := dk_3 (dk_at dksL_law_32 3 rfl rfl)
theorem dL_law_776 : decode cL_law 776 = .ok (.ireturn, 1) := dk_172 (dk_at dksL_law_32 4 rfl rfl)
theorem dL_law_777 : decode cL_law 777 = .ok (.goto 28, 3) := dk_167 0 28 (dk_at dksL_law_32 5 rfl rfl)
theorem dL_law_780 : decode cL_law 780 = .ok (.aload_n 1, 1) := dk_43 (dk_at dksL_law_32 8 rfl rfl)
theorem dL_law_781 : decode cL_law 781 = .ok (.aload_n 0, 1) := dk_42 (dk_at dksL_law_32 9 rfl rfl)
theorem dL_law_782 : decode cL_law 782 = .ok (.iload 4, 2) := dk_21 4 (dk_at dksL_law_32 10 rfl rfl)
theorem dL_law_784 : decode cL_law 784 = .ok (.iconst 1, 1) := dk_4 (dk_at dksL_law_32 12 rfl rfl)
theorem dL_law_785 : decode cL_law 785 = .ok (.iadd, 1) := dk_96 (dk_at dksL_law_32 13 rfl rfl)
theorem dL_law_786 : decode cL_law 786 = .ok (.iaload, 1) := dk_46 (dk_at dksL_law_32 14 rfl rfl)
theorem dL_law_787 : decode cL_law 787 = .ok (.invokevirtual 98, 3) := dk_182 0 98 (dk_at dksL_law_32 15 rfl rfl)
theorem dL_law_790 : decode cL_law 790 = .ok (.aload_n 2, 1) := dk_44 (dk_at dksL_law_32 18 rfl rfl)
theorem dL_law_791 : decode cL_law 791 = .ok (.aload_n 0, 1) := dk_42 (dk_at dksL_law_32 19 rfl rfl)
theorem dL_law_792 : decode cL_law 792 = .ok (.iload 4, 2) := dk_21 4 (dk_at dksL_law_32 20 rfl rfl)
theorem dL_law_794 : decode cL_law 794 = .ok (.iconst 1, 1) := dk_4 (dk_at dksL_law_32 22 rfl rfl)
theorem dL_law_795 : decode cL_law 795 = .ok (.iadd, 1) := dk_96 (dk_at dksL_law_32 23 rfl rfl)
theorem dL_law_796 : decode cL_law 796 = .ok (.iaload, 1) := dk_46 (dk_at dksL_law_33 0 rfl rfl)
theorem dL_law_797 : decode cL_law 797 = .ok (.invokevirtual 101, 3) := dk_182 0 101 (dk_at dksL_law_33 1 rfl rfl)
theorem dL_law_800 : decode cL_law 800 = .ok (.if_icmp .eq 5, 3) := dk_159 0 5 (dk_at dksL_law_33 4 rfl rfl)
theorem dL_law_803 : decode cL_law 803 = .ok (.iconst 0, 1) := dk_3 (dk_at dksL_law_33 7 rfl rfl)
theorem dL_law_804 : decode cL_law 804 = .ok (.ireturn, 1) := dk_172 (dk_at dksL_law_33 8 rfl rfl)
theorem dL_law_805 : decode cL_law 805 = .ok (.iinc 4 6, 3) := dk_132 4 6 (dk_at dksL_law_33 9 rfl rfl)
theorem dL_law_808 : decode cL_law 808 = .ok (.goto (-785), 3) := dk_167 252 239 (dk_at dksL_law_33 12 rfl rfl)
theorem dL_law_811 : decode cL_law 811 = .ok (.iconst 1, 1) := dk_4 (dk_at dksL_law_33 15 rfl rfl)
theorem dL_law_812 : decode cL_law 812 = .ok (.ireturn, 1) := dk_172 (dk_at dksL_law_33 16 rfl rfl)
