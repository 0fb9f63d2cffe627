/-! SchemaWorkshop$Bytes -/
set_option maxRecDepth 100000
def RX2 : String := "SchemaWorkshop$Bytes"
def TX2 : u_T := fun k => match k with
  | 0 => ("SchemaWorkshop$Bytes", "row", "[B", false)
  | _ => ("SchemaWorkshop$Bytes", "size", "I", false)
def tyX2 : Nat → FieldType := fun k => match k with
  | 0 => .array .byte
  | _ => .int
abbrev wsX20 : List Cond := u_ws RX2 TX2 2
theorem nmX2 : ∀ a, a < 2 → ∀ b, b < 2 → a ≠ b → (TX2 a).2.1 ≠ (TX2 b).2.1 := by decide +kernel
theorem tyX2_ok : ∀ k, k < 2 → parseFieldDescriptor (TX2 k).2.2.1 = some (tyX2 k) := by decide +kernel
abbrev cX2_init : ByteArray := prog_2_method_1_code
def yX2_init : MethodName := ⟨RX2, "<init>", "()V"⟩
def dkwX2_init_0 : List UInt8 := [42, 183, 0, 1, 42, 16, 64, 188, 8, 181, 0, 7, 177]
abbrev dktX2_init_0 : List UInt8 := dkwX2_init_0 ++ []
theorem dksX2_init_0 : cX2_init.data.toList.drop 0 = dktX2_init_0 := by decide +kernel
theorem dX2_init_0 : decode cX2_init 0 = .ok (.aload_n 0, 1) := dk_42 (dk_at dksX2_init_0 0 rfl rfl)
theorem dX2_init_1 : decode cX2_init 1 = .ok (.invokespecial 1, 3) := dk_183 0 1 (dk_at dksX2_init_0 1 rfl rfl)
theorem dX2_init_4 : decode cX2_init 4 = .ok (.aload_n 0, 1) := dk_42 (dk_at dksX2_init_0 4 rfl rfl)
theorem dX2_init_5 : decode cX2_init 5 = .ok (.bipush 64, 2) := dk_16 64 (dk_at dksX2_init_0 5 rfl rfl)
theorem dX2_init_7 : decode cX2_init 7 = .ok (.newarray .byte, 2) := dk_188_8 (dk_at dksX2_init_0 7 rfl rfl)
theorem dX2_init_9 : decode cX2_init 9 = .ok (.putfield 7, 3) := dk_181 0 7 (dk_at dksX2_init_0 9 rfl rfl)
theorem dX2_init_12 : decode cX2_init 12 = .ok (.return_, 1) := dk_177 (dk_at dksX2_init_0 12 rfl rfl)
abbrev cX2_size : ByteArray := prog_2_method_2_code
def yX2_size : MethodName := ⟨RX2, "size", "()I"⟩
theorem dX2_size_0 : decode cX2_size 0 = .ok (.aload_n 0, 1) := by decide +kernel
theorem dX2_size_1 : decode cX2_size 1 = .ok (.getfield 13, 3) := by decide +kernel
theorem dX2_size_4 : decode cX2_size 4 = .ok (.ireturn, 1) := by decide +kernel
abbrev cX2_add : ByteArray := prog_2_method_6_code
def yX2_add : MethodName := ⟨RX2, "add", "(I)V"⟩
def dkwX2_add_1 : List UInt8 := [180, 0, 13, 4, 96, 181, 0, 13, 177]
abbrev dktX2_add_1 : List UInt8 := dkwX2_add_1 ++ []
def dkwX2_add_0 : List UInt8 := [42, 42, 180, 0, 13, 4, 96, 182, 0, 23, 42, 180, 0, 7, 42, 180, 0, 13, 27, 145, 84, 42, 89]
abbrev dktX2_add_0 : List UInt8 := dkwX2_add_0 ++ dktX2_add_1
theorem dksX2_add_0 : cX2_add.data.toList.drop 0 = dktX2_add_0 := by decide +kernel
theorem dksX2_add_1 : cX2_add.data.toList.drop 23 = dktX2_add_1 := dk_seg dksX2_add_0 23 rfl rfl
theorem dX2_add_0 : decode cX2_add 0 = .ok (.aload_n 0, 1) := dk_42 (dk_at dksX2_add_0 0 rfl rfl)
theorem dX2_add_1 : decode cX2_add 1 = .ok (.aload_n 0, 1) := dk_42 (dk_at dksX2_add_0 1 rfl rfl)
theorem dX2_add_2 : decode cX2_add 2 = .ok (.getfield 13, 3) := dk_180 0 13 (dk_at dksX2_add_0 2 rfl rfl)
theorem dX2_add_5 : decode cX2_add 5 = .ok (.iconst 1, 1) := dk_4 (dk_at dksX2_add_0 5 rfl rfl)
theorem dX2_add_6 : decode cX2_add 6 = .ok (.iadd, 1) := dk_96 (dk_at dksX2_add_0 6 rfl rfl)
theorem dX2_add_7 : decode cX2_add 7 = .ok (.invokevirtual 23, 3) := dk_182 0 23 (dk_at dksX2_add_0 7 rfl rfl)
theorem dX2_add_10 : decode cX2_add 10 = .ok (.aload_n 0, 1) := dk_42 (dk_at dksX2_add_0 10 rfl rfl)
theorem dX2_add_11 : decode cX2_add 11 = .ok (.getfield 7, 3) := dk_180 0 7 (dk_at dksX2_add_0 11 rfl rfl)
theorem dX2_add_14 : decode cX2_add 14 = .ok (.aload_n 0, 1) := dk_42 (dk_at dksX2_add_0 14 rfl rfl)
theorem dX2_add_15 : decode cX2_add 15 = .ok (.getfield 13, 3) := dk_180 0 13 (dk_at dksX2_add_0 15 rfl rfl)
theorem dX2_add_18 : decode cX2_add 18 = .ok (.iload_n 1, 1) := dk_27 (dk_at dksX2_add_0 18 rfl rfl)
theorem dX2_add_19 : decode cX2_add 19 = .ok (.i2b, 1) := dk_145 (dk_at dksX2_add_0 19 rfl rfl)
theorem dX2_add_20 : decode cX2_add 20 = .ok (.bastore, 1) := dk_84 (dk_at dksX2_add_0 20 rfl rfl)
theorem dX2_add_21 : decode cX2_add 21 = .ok (.aload_n 0, 1) := dk_42 (dk_at dksX2_add_0 21 rfl rfl)
theorem dX2_add_22 : decode cX2_add 22 = .ok (.dup, 1) := dk_89 (dk_at dksX2_add_0 22 rfl rfl)
theorem dX2_add_23 : decode cX2_add 23 = .ok (.getfield 13, 3) := dk_180 0 13 (dk_at dksX2_add_1 0 rfl rfl)
theorem dX2_add_26 : decode cX2_add 26 = .ok (.iconst 1, 1) := dk_4 (dk_at dksX2_add_1 3 rfl rfl)
theorem dX2_add_27 : decode cX2_add 27 = .ok (.iadd, 1) := dk_96 (dk_at dksX2_add_1 4 rfl rfl)
theorem dX2_add_28 : decode cX2_add 28 = .ok (.putfield 13, 3) := dk_181 0 13 (dk_at dksX2_add_1 5 rfl rfl)
theorem dX2_add_31 : decode cX2_add 31 = .ok (.return_, 1) := dk_177 (dk_at dksX2_add_1 8 rfl rfl)
abbrev cX2_ready : ByteArray := prog_2_method_5_code
def yX2_ready : MethodName := ⟨RX2, "ready", "(I)V"⟩
def dkwX2_ready_2 : List UInt8 := [181, 0, 7, 177]
abbrev dktX2_ready_2 : List UInt8 := dkwX2_ready_2 ++ []
def dkwX2_ready_1 : List UInt8 := [61, 167, 255, 247, 28, 188, 8, 78, 42, 180, 0, 7, 3, 45, 3, 42, 180, 0, 13, 184, 0, 17, 42, 45]
abbrev dktX2_ready_1 : List UInt8 := dkwX2_ready_1 ++ dktX2_ready_2
def dkwX2_ready_0 : List UInt8 := [27, 42, 180, 0, 7, 190, 163, 0, 4, 177, 42, 180, 0, 7, 190, 61, 28, 27, 162, 0, 10, 28, 5, 104]
abbrev dktX2_ready_0 : List UInt8 := dkwX2_ready_0 ++ dktX2_ready_1
theorem dksX2_ready_0 : cX2_ready.data.toList.drop 0 = dktX2_ready_0 := by decide +kernel
theorem dksX2_ready_1 : cX2_ready.data.toList.drop 24 = dktX2_ready_1 := dk_seg dksX2_ready_0 24 rfl rfl
theorem dksX2_ready_2 : cX2_ready.data.toList.drop 48 = dktX2_ready_2 := dk_seg dksX2_ready_1 24 rfl rfl
theorem dX2_ready_0 : decode cX2_ready 0 = .ok (.iload_n 1, 1) := dk_27 (dk_at dksX2_ready_0 0 rfl rfl)
theorem dX2_ready_1 : decode cX2_ready 1 = .ok (.aload_n 0, 1) := dk_42 (dk_at dksX2_ready_0 1 rfl rfl)
theorem dX2_ready_2 : decode cX2_ready 2 = .ok (.getfield 7, 3) := dk_180 0 7 (dk_at dksX2_ready_0 2 rfl rfl)
theorem dX2_ready_5 : decode cX2_ready 5 = .ok (.arraylength, 1) := dk_190 (dk_at dksX2_ready_0 5 rfl rfl)
theorem dX2_ready_6 : decode cX2_ready 6 = .ok (.if_icmp .gt 4, 3) := dk_163 0 4 (dk_at dksX2_ready_0 6 rfl rfl)
theorem dX2_ready_9 : decode cX2_ready 9 = .ok (.return_, 1) := dk_177 (dk_at dksX2_ready_0 9 rfl rfl)
theorem dX2_ready_10 : decode cX2_ready 10 = .ok (.aload_n 0, 1) := dk_42 (dk_at dksX2_ready_0 10 rfl rfl)
theorem dX2_ready_11 : decode cX2_ready 11 = .ok (.getfield 7, 3) := dk_180 0 7 (dk_at dksX2_ready_0 11 rfl rfl)
theorem dX2_ready_14 : decode cX2_ready 14 = .ok (.arraylength, 1) := dk_190 (dk_at dksX2_ready_0 14 rfl rfl)
theorem dX2_ready_15 : decode cX2_ready 15 = .ok (.istore_n 2, 1) := dk_61 (dk_at dksX2_ready_0 15 rfl rfl)
theorem dX2_ready_16 : decode cX2_ready 16 = .ok (.iload_n 2, 1) := dk_28 (dk_at dksX2_ready_0 16 rfl rfl)
theorem dX2_ready_17 : decode cX2_ready 17 = .ok (.iload_n 1, 1) := dk_27 (dk_at dksX2_ready_0 17 rfl rfl)
theorem dX2_ready_18 : decode cX2_ready 18 = .ok (.if_icmp .ge 10, 3) := dk_162 0 10 (dk_at dksX2_ready_0 18 rfl rfl)
theorem dX2_ready_21 : decode cX2_ready 21 = .ok (.iload_n 2, 1) := dk_28 (dk_at dksX2_ready_0 21 rfl rfl)
theorem dX2_ready_22 : decode cX2_ready 22 = .ok (.iconst 2, 1) := dk_5 (dk_at dksX2_ready_0 22 rfl rfl)
theorem dX2_ready_23 : decode cX2_ready 23 = .ok (.imul, 1) := dk_104 (dk_at dksX2_ready_0 23 rfl rfl)
theorem dX2_ready_24 : decode cX2_ready 24 = .ok (.istore_n 2, 1) := dk_61 (dk_at dksX2_ready_1 0 rfl rfl)
theorem dX2_ready_25 : decode cX2_ready 25 = .ok (.goto (-9), 3) := dk_167 255 247 (dk_at dksX2_ready_1 1 rfl rfl)
theorem dX2_ready_28 : decode cX2_ready 28 = .ok (.iload_n 2, 1) := dk_28 (dk_at dksX2_ready_1 4 rfl rfl)
theorem dX2_ready_29 : decode cX2_ready 29 = .ok (.newarray .byte, 2) := dk_188_8 (dk_at dksX2_ready_1 5 rfl rfl)
theorem dX2_ready_31 : decode cX2_ready 31 = .ok (.astore_n 3, 1) := dk_78 (dk_at dksX2_ready_1 7 rfl rfl)
theorem dX2_ready_32 : decode cX2_ready 32 = .ok (.aload_n 0, 1) := dk_42 (dk_at dksX2_ready_1 8 rfl rfl)
theorem dX2_ready_33 : decode cX2_ready 33 = .ok (.getfield 7, 3) := dk_180 0 7 (dk_at dksX2_ready_1 9 rfl rfl)
theorem dX2_ready_36 : decode cX2_ready 36 = .ok (.iconst 0, 1) := dk_3 (dk_at dksX2_ready_1 12 rfl rfl)
theorem dX2_ready_37 : decode cX2_ready 37 = .ok (.aload_n 3, 1) := dk_45 (dk_at dksX2_ready_1 13 rfl rfl)
theorem dX2_ready_38 : decode cX2_ready 38 = .ok (.iconst 0, 1) := dk_3 (dk_at dksX2_ready_1 14 rfl rfl)
theorem dX2_ready_39 : decode cX2_ready 39 = .ok (.aload_n 0, 1) := dk_42 (dk_at dksX2_ready_1 15 rfl rfl)
theorem dX2_ready_40 : decode cX2_ready 40 = .ok (.getfield 13, 3) := dk_180 0 13 (dk_at dksX2_ready_1 16 rfl rfl)
theorem dX2_ready_43 : decode cX2_ready 43 = .ok (.invokestatic 17, 3) := dk_184 0 17 (dk_at dksX2_ready_1 19 rfl rfl)
theorem dX2_ready_46 : decode cX2_ready 46 = .ok (.aload_n 0, 1) := dk_42 (dk_at dksX2_ready_1 22 rfl rfl)
theorem dX2_ready_47 : decode cX2_ready 47 = .ok (.aload_n 3, 1) := dk_45 (dk_at dksX2_ready_1 23 rfl rfl)
theorem dX2_ready_48 : decode cX2_ready 48 = .ok (.putfield 7, 3) := dk_181 0 7 (dk_at dksX2_ready_2 0 rfl rfl)
theorem dX2_ready_51 : decode cX2_ready 51 = .ok (.return_, 1) := dk_177 (dk_at dksX2_ready_2 3 rfl rfl)
abbrev cX2_cut : ByteArray := prog_2_method_8_code
def yX2_cut : MethodName := ⟨RX2, "cut", "(I)V"⟩
def dkwX2_cut_0 : List UInt8 := [42, 27, 181, 0, 13, 177]
abbrev dktX2_cut_0 : List UInt8 := dkwX2_cut_0 ++ []
theorem dksX2_cut_0 : cX2_cut.data.toList.drop 0 = dktX2_cut_0 := by decide +kernel
theorem dX2_cut_0 : decode cX2_cut 0 = .ok (.aload_n 0, 1) := dk_42 (dk_at dksX2_cut_0 0 rfl rfl)
theorem dX2_cut_1 : decode cX2_cut 1 = .ok (.iload_n 1, 1) := dk_27 (dk_at dksX2_cut_0 1 rfl rfl)
theorem dX2_cut_2 : decode cX2_cut 2 = .ok (.putfield 13, 3) := dk_181 0 13 (dk_at dksX2_cut_0 2 rfl rfl)
theorem dX2_cut_5 : decode cX2_cut 5 = .ok (.return_, 1) := dk_177 (dk_at dksX2_cut_0 5 rfl rfl)
abbrev cX2_clear : ByteArray := prog_2_method_4_code
def yX2_clear : MethodName := ⟨RX2, "clear", "()V"⟩
def dkwX2_clear_0 : List UInt8 := [42, 3, 181, 0, 13, 177]
abbrev dktX2_clear_0 : List UInt8 := dkwX2_clear_0 ++ []
theorem dksX2_clear_0 : cX2_clear.data.toList.drop 0 = dktX2_clear_0 := by decide +kernel
theorem dX2_clear_0 : decode cX2_clear 0 = .ok (.aload_n 0, 1) := dk_42 (dk_at dksX2_clear_0 0 rfl rfl)
theorem dX2_clear_1 : decode cX2_clear 1 = .ok (.iconst 0, 1) := dk_3 (dk_at dksX2_clear_0 1 rfl rfl)
theorem dX2_clear_2 : decode cX2_clear 2 = .ok (.putfield 13, 3) := dk_181 0 13 (dk_at dksX2_clear_0 2 rfl rfl)
theorem dX2_clear_5 : decode cX2_clear 5 = .ok (.return_, 1) := dk_177 (dk_at dksX2_clear_0 5 rfl rfl)
abbrev cX2_all : ByteArray := prog_2_method_9_code
def yX2_all : MethodName := ⟨RX2, "all", "(LSchemaWorkshop$Bytes;II)V"⟩
def dkwX2_all_1 : List UInt8 := [180, 0, 13, 29, 28, 100, 184, 0, 17, 42, 89, 180, 0, 13, 29, 28, 100, 96, 181, 0, 13, 177]
abbrev dktX2_all_1 : List UInt8 := dkwX2_all_1 ++ []
def dkwX2_all_0 : List UInt8 := [42, 42, 180, 0, 13, 29, 96, 28, 100, 182, 0, 23, 43, 180, 0, 7, 28, 42, 180, 0, 7, 42]
abbrev dktX2_all_0 : List UInt8 := dkwX2_all_0 ++ dktX2_all_1
theorem dksX2_all_0 : cX2_all.data.toList.drop 0 = dktX2_all_0 := by decide +kernel
theorem dksX2_all_1 : cX2_all.data.toList.drop 22 = dktX2_all_1 := dk_seg dksX2_all_0 22 rfl rfl
theorem dX2_all_0 : decode cX2_all 0 = .ok (.aload_n 0, 1) := dk_42 (dk_at dksX2_all_0 0 rfl rfl)
theorem dX2_all_1 : decode cX2_all 1 = .ok (.aload_n 0, 1) := dk_42 (dk_at dksX2_all_0 1 rfl rfl)
theorem dX2_all_2 : decode cX2_all 2 = .ok (.getfield 13, 3) := dk_180 0 13 (dk_at dksX2_all_0 2 rfl rfl)
theorem dX2_all_5 : decode cX2_all 5 = .ok (.iload_n 3, 1) := dk_29 (dk_at dksX2_all_0 5 rfl rfl)
theorem dX2_all_6 : decode cX2_all 6 = .ok (.iadd, 1) := dk_96 (dk_at dksX2_all_0 6 rfl rfl)
theorem dX2_all_7 : decode cX2_all 7 = .ok (.iload_n 2, 1) := dk_28 (dk_at dksX2_all_0 7 rfl rfl)
theorem dX2_all_8 : decode cX2_all 8 = .ok (.isub, 1) := dk_100 (dk_at dksX2_all_0 8 rfl rfl)
theorem dX2_all_9 : decode cX2_all 9 = .ok (.invokevirtual 23, 3) := dk_182 0 23 (dk_at dksX2_all_0 9 rfl rfl)
theorem dX2_all_12 : decode cX2_all 12 = .ok (.aload_n 1, 1) := dk_43 (dk_at dksX2_all_0 12 rfl rfl)
theorem dX2_all_13 : decode cX2_all 13 = .ok (.getfield 7, 3) := dk_180 0 7 (dk_at dksX2_all_0 13 rfl rfl)
theorem dX2_all_16 : decode cX2_all 16 = .ok (.iload_n 2, 1) := dk_28 (dk_at dksX2_all_0 16 rfl rfl)
theorem dX2_all_17 : decode cX2_all 17 = .ok (.aload_n 0, 1) := dk_42 (dk_at dksX2_all_0 17 rfl rfl)
theorem dX2_all_18 : decode cX2_all 18 = .ok (.getfield 7, 3) := dk_180 0 7 (dk_at dksX2_all_0 18 rfl rfl)
theorem dX2_all_21 : decode cX2_all 21 = .ok (.aload_n 0, 1) := dk_42 (dk_at dksX2_all_0 21 rfl rfl)
theorem dX2_all_22 : decode cX2_all 22 = .ok (.getfield 13, 3) := dk_180 0 13 (dk_at dksX2_all_1 0 rfl rfl)
theorem dX2_all_25 : decode cX2_all 25 = .ok (.iload_n 3, 1) := dk_29 (dk_at dksX2_all_1 3 rfl rfl)
theorem dX2_all_26 : decode cX2_all 26 = .ok (.iload_n 2, 1) := dk_28 (dk_at dksX2_all_1 4 rfl rfl)
theorem dX2_all_27 : decode cX2_all 27 = .ok (.isub, 1) := dk_100 (dk_at dksX2_all_1 5 rfl rfl)
theorem dX2_all_28 : decode cX2_all 28 = .ok (.invokestatic 17, 3) := dk_184 0 17 (dk_at dksX2_all_1 6 rfl rfl)
theorem dX2_all_31 : decode cX2_all 31 = .ok (.aload_n 0, 1) := dk_42 (dk_at dksX2_all_1 9 rfl rfl)
theorem dX2_all_32 : decode cX2_all 32 = .ok (.dup, 1) := dk_89 (dk_at dksX2_all_1 10 rfl rfl)
theorem dX2_all_33 : decode cX2_all 33 = .ok (.getfield 13, 3) := dk_180 0 13 (dk_at dksX2_all_1 11 rfl rfl)
theorem dX2_all_36 : decode cX2_all 36 = .ok (.iload_n 3, 1) := dk_29 (dk_at dksX2_all_1 14 rfl rfl)
theorem dX2_all_37 : decode cX2_all 37 = .ok (.iload_n 2, 1) := dk_28 (dk_at dksX2_all_1 15 rfl rfl)
theorem dX2_all_38 : decode cX2_all 38 = .ok (.isub, 1) := dk_100 (dk_at dksX2_all_1 16 rfl rfl)
theorem dX2_all_39 : decode cX2_all 39 = .ok (.iadd, 1) := dk_96 (dk_at dksX2_all_1 17 rfl rfl)
theorem dX2_all_40 : decode cX2_all 40 = .ok (.putfield 13, 3) := dk_181 0 13 (dk_at dksX2_all_1 18 rfl rfl)
theorem dX2_all_43 : decode cX2_all 43 = .ok (.return_, 1) := dk_177 (dk_at dksX2_all_1 21 rfl rfl)
abbrev cX2_at : ByteArray := prog_2_method_3_code
def yX2_at : MethodName := ⟨RX2, "at", "(I)I"⟩
def dkwX2_at_0 : List UInt8 := [42, 180, 0, 7, 27, 51, 17, 0, 255, 126, 172]
abbrev dktX2_at_0 : List UInt8 := dkwX2_at_0 ++ []
theorem dksX2_at_0 : cX2_at.data.toList.drop 0 = dktX2_at_0 := by decide +kernel
theorem dX2_at_0 : decode cX2_at 0 = .ok (.aload_n 0, 1) := dk_42 (dk_at dksX2_at_0 0 rfl rfl)
theorem dX2_at_1 : decode cX2_at 1 = .ok (.getfield 7, 3) := dk_180 0 7 (dk_at dksX2_at_0 1 rfl rfl)
theorem dX2_at_4 : decode cX2_at 4 = .ok (.iload_n 1, 1) := dk_27 (dk_at dksX2_at_0 4 rfl rfl)
theorem dX2_at_5 : decode cX2_at 5 = .ok (.baload, 1) := dk_51 (dk_at dksX2_at_0 5 rfl rfl)
theorem dX2_at_6 : decode cX2_at 6 = .ok (.sipush 255, 3) := dk_17 0 255 (dk_at dksX2_at_0 6 rfl rfl)
theorem dX2_at_9 : decode cX2_at 9 = .ok (.iand, 1) := dk_126 (dk_at dksX2_at_0 9 rfl rfl)
theorem dX2_at_10 : decode cX2_at 10 = .ok (.ireturn, 1) := dk_172 (dk_at dksX2_at_0 10 rfl rfl)
abbrev cX2_compare : ByteArray := prog_2_method_10_code
def yX2_compare : MethodName := ⟨RX2, "compare", "(IILSchemaWorkshop$Bytes;II)I"⟩
def dkwX2_compare_5 : List UInt8 := [4, 167, 0, 13, 21, 8, 153, 0, 7, 2, 167, 0, 4, 3, 172]
abbrev dktX2_compare_5 : List UInt8 := dkwX2_compare_5 ++ []
def dkwX2_compare_4 : List UInt8 := [21, 6, 96, 182, 0, 27, 45, 21, 4, 21, 6, 96, 182, 0, 27, 100, 167, 0, 22, 21, 7, 153, 0, 7]
abbrev dktX2_compare_4 : List UInt8 := dkwX2_compare_4 ++ dktX2_compare_5
def dkwX2_compare_3 : List UInt8 := [21, 5, 162, 0, 7, 4, 167, 0, 4, 3, 54, 8, 21, 7, 153, 0, 29, 21, 8, 153, 0, 24, 42, 27]
abbrev dktX2_compare_3 : List UInt8 := dkwX2_compare_3 ++ dktX2_compare_4
def dkwX2_compare_2 : List UInt8 := [167, 255, 213, 27, 21, 6, 96, 28, 162, 0, 7, 4, 167, 0, 4, 3, 54, 7, 21, 4, 21, 6, 96]
abbrev dktX2_compare_2 : List UInt8 := dkwX2_compare_2 ++ dktX2_compare_3
def dkwX2_compare_1 : List UInt8 := [180, 0, 7, 27, 21, 6, 96, 51, 45, 180, 0, 7, 21, 4, 21, 6, 96, 51, 160, 0, 9, 132, 6, 1]
abbrev dktX2_compare_1 : List UInt8 := dkwX2_compare_1 ++ dktX2_compare_2
def dkwX2_compare_0 : List UInt8 := [3, 54, 6, 27, 21, 6, 96, 28, 162, 0, 41, 21, 4, 21, 6, 96, 21, 5, 162, 0, 31, 42]
abbrev dktX2_compare_0 : List UInt8 := dkwX2_compare_0 ++ dktX2_compare_1
theorem dksX2_compare_0 : cX2_compare.data.toList.drop 0 = dktX2_compare_0 := by decide +kernel
theorem dksX2_compare_1 : cX2_compare.data.toList.drop 22 = dktX2_compare_1 := dk_seg dksX2_compare_0 22 rfl rfl
theorem dksX2_compare_2 : cX2_compare.data.toList.drop 46 = dktX2_compare_2 := dk_seg dksX2_compare_1 24 rfl rfl
theorem dksX2_compare_3 : cX2_compare.data.toList.drop 69 = dktX2_compare_3 := dk_seg dksX2_compare_2 23 rfl rfl
theorem dksX2_compare_4 : cX2_compare.data.toList.drop 93 = dktX2_compare_4 := dk_seg dksX2_compare_3 24 rfl rfl
theorem dksX2_compare_5 : cX2_compare.data.toList.drop 117 = dktX2_compare_5 := dk_seg dksX2_compare_4 24 rfl rfl
theorem dX2_compare_0 : decode cX2_compare 0 = .ok (.iconst 0, 1) := dk_3 (dk_at dksX2_compare_0 0 rfl rfl)
theorem dX2_compare_1 : decode cX2_compare 1 = .ok (.istore 6, 2) := dk_54 6 (dk_at dksX2_compare_0 1 rfl rfl)
theorem dX2_compare_3 : decode cX2_compare 3 = .ok (.iload_n 1, 1) := dk_27 (dk_at dksX2_compare_0 3 rfl rfl)
theorem dX2_compare_4 : decode cX2_compare 4 = .ok (.iload 6, 2) := dk_21 6 (dk_at dksX2_compare_0 4 rfl rfl)
theorem dX2_compare_6 : decode cX2_compare 6 = .ok (.iadd, 1) := dk_96 (dk_at dksX2_compare_0 6 rfl rfl)
theorem dX2_compare_7 : decode cX2_compare 7 = .ok (.iload_n 2, 1) := dk_28 (dk_at dksX2_compare_0 7 rfl rfl)
theorem dX2_compare_8 : decode cX2_compare 8 = .ok (.if_icmp .ge 41, 3) := dk_162 0 41 (dk_at dksX2_compare_0 8 rfl rfl)
theorem dX2_compare_11 : decode cX2_compare 11 = .ok (.iload 4, 2) := dk_21 4 (dk_at dksX2_compare_0 11 rfl rfl)
theorem dX2_compare_13 : decode cX2_compare 13 = .ok (.iload 6, 2) := dk_21 6 (dk_at dksX2_compare_0 13 rfl rfl)
theorem dX2_compare_15 : decode cX2_compare 15 = .ok (.iadd, 1) := dk_96 (dk_at dksX2_compare_0 15 rfl rfl)
theorem dX2_compare_16 : decode cX2_compare 16 = .ok (.iload 5, 2) := dk_21 5 (dk_at dksX2_compare_0 16 rfl rfl)
theorem dX2_compare_18 : decode cX2_compare 18 = .ok (.if_icmp .ge 31, 3) := dk_162 0 31 (dk_at dksX2_compare_0 18 rfl rfl)
theorem dX2_compare_21 : decode cX2_compare 21 = .ok (.aload_n 0, 1) := dk_42 (dk_at dksX2_compare_0 21 rfl rfl)
theorem dX2_compare_22 : decode cX2_compare 22 = .ok (.getfield 7, 3) := dk_180 0 7 (dk_at dksX2_compare_1 0 rfl rfl)
theorem dX2_compare_25 : decode cX2_compare 25 = .ok (.iload_n 1, 1) := dk_27 (dk_at dksX2_compare_1 3 rfl rfl)
theorem dX2_compare_26 : decode cX2_compare 26 = .ok (.iload 6, 2) := dk_21 6 (dk_at dksX2_compare_1 4 rfl rfl)
theorem dX2_compare_28 : decode cX2_compare 28 = .ok (.iadd, 1) := dk_96 (dk_at dksX2_compare_1 6 rfl rfl)
theorem dX2_compare_29 : decode cX2_compare 29 = .ok (.baload, 1) := dk_51 (dk_at dksX2_compare_1 7 rfl rfl)
theorem dX2_compare_30 : decode cX2_compare 30 = .ok (.aload_n 3, 1) := dk_45 (dk_at dksX2_compare_1 8 rfl rfl)
theorem dX2_compare_31 : decode cX2_compare 31 = .ok (.getfield 7, 3) := dk_180 0 7 (dk_at dksX2_compare_1 9 rfl rfl)
theorem dX2_compare_34 : decode cX2_compare 34 = .ok (.iload 4, 2) := dk_21 4 (dk_at dksX2_compare_1 12 rfl rfl)
theorem dX2_compare_36 : decode cX2_compare 36 = .ok (.iload 6, 2) := dk_21 6 (dk_at dksX2_compare_1 14 rfl rfl)
theorem dX2_compare_38 : decode cX2_compare 38 = .ok (.iadd, 1) := dk_96 (dk_at dksX2_compare_1 16 rfl rfl)
theorem dX2_compare_39 : decode cX2_compare 39 = .ok (.baload, 1) := dk_51 (dk_at dksX2_compare_1 17 rfl rfl)
theorem dX2_compare_40 : decode cX2_compare 40 = .ok (.if_icmp .ne 9, 3) := dk_160 0 9 (dk_at dksX2_compare_1 18 rfl rfl)
theorem dX2_compare_43 : decode cX2_compare 43 = .ok (.iinc 6 1, 3) := dk_132 6 1 (dk_at dksX2_compare_1 21 rfl rfl)
theorem dX2_compare_46 : decode cX2_compare 46 = .ok (.goto (-43), 3) := dk_167 255 213 (dk_at dksX2_compare_2 0 rfl rfl)
theorem dX2_compare_49 : decode cX2_compare 49 = .ok (.iload_n 1, 1) := dk_27 (dk_at dksX2_compare_2 3 rfl rfl)
theorem dX2_compare_50 : decode cX2_compare 50 = .ok (.iload 6, 2) := dk_21 6 (dk_at dksX2_compare_2 4 rfl rfl)
theorem dX2_compare_52 : decode cX2_compare 52 = .ok (.iadd, 1) := dk_96 (dk_at dksX2_compare_2 6 rfl rfl)
theorem dX2_compare_53 : decode cX2_compare 53 = .ok (.iload_n 2, 1) := dk_28 (dk_at dksX2_compare_2 7 rfl rfl)
theorem dX2_compare_54 : decode cX2_compare 54 = .ok (.if_icmp .ge 7, 3) := dk_162 0 7 (dk_at dksX2_compare_2 8 rfl rfl)
theorem dX2_compare_57 : decode cX2_compare 57 = .ok (.iconst 1, 1) := dk_4 (dk_at dksX2_compare_2 11 rfl rfl)
theorem dX2_compare_58 : decode cX2_compare 58 = .ok (.goto 4, 3) := dk_167 0 4 (dk_at dksX2_compare_2 12 rfl rfl)
theorem dX2_compare_61 : decode cX2_compare 61 = .ok (.iconst 0, 1) := dk_3 (dk_at dksX2_compare_2 15 rfl rfl)
theorem dX2_compare_62 : decode cX2_compare 62 = .ok (.istore 7, 2) := dk_54 7 (dk_at dksX2_compare_2 16 rfl rfl)
theorem dX2_compare_64 : decode cX2_compare 64 = .ok (.iload 4, 2) := dk_21 4 (dk_at dksX2_compare_2 18 rfl rfl)
theorem dX2_compare_66 : decode cX2_compare 66 = .ok (.iload 6, 2) := dk_21 6 (dk_at dksX2_compare_2 20 rfl rfl)
theorem dX2_compare_68 : decode cX2_compare 68 = .ok (.iadd, 1) := dk_96 (dk_at dksX2_compare_2 22 rfl rfl)
theorem dX2_compare_69 : decode cX2_compare 69 = .ok (.iload 5, 2) := dk_21 5 (dk_at dksX2_compare_3 0 rfl rfl)
theorem dX2_compare_71 : decode cX2_compare 71 = .ok (.if_icmp .ge 7, 3) := dk_162 0 7 (dk_at dksX2_compare_3 2 rfl rfl)
theorem dX2_compare_74 : decode cX2_compare 74 = .ok (.iconst 1, 1) := dk_4 (dk_at dksX2_compare_3 5 rfl rfl)
theorem dX2_compare_75 : decode cX2_compare 75 = .ok (.goto 4, 3) := dk_167 0 4 (dk_at dksX2_compare_3 6 rfl rfl)
theorem dX2_compare_78 : decode cX2_compare 78 = .ok (.iconst 0, 1) := dk_3 (dk_at dksX2_compare_3 9 rfl rfl)
theorem dX2_compare_79 : decode cX2_compare 79 = .ok (.istore 8, 2) := dk_54 8 (dk_at dksX2_compare_3 10 rfl rfl)
theorem dX2_compare_81 : decode cX2_compare 81 = .ok (.iload 7, 2) := dk_21 7 (dk_at dksX2_compare_3 12 rfl rfl)
theorem dX2_compare_83 : decode cX2_compare 83 = .ok (.ifCond .eq 29, 3) := dk_153 0 29 (dk_at dksX2_compare_3 14 rfl rfl)
theorem dX2_compare_86 : decode cX2_compare 86 = .ok (.iload 8, 2) := dk_21 8 (dk_at dksX2_compare_3 17 rfl rfl)
theorem dX2_compare_88 : decode cX2_compare 88 = .ok (.ifCond .eq 24, 3) := dk_153 0 24 (dk_at dksX2_compare_3 19 rfl rfl)
theorem dX2_compare_91 : decode cX2_compare 91 = .ok (.aload_n 0, 1) := dk_42 (dk_at dksX2_compare_3 22 rfl rfl)
theorem dX2_compare_92 : decode cX2_compare 92 = .ok (.iload_n 1, 1) := dk_27 (dk_at dksX2_compare_3 23 rfl rfl)
theorem dX2_compare_93 : decode cX2_compare 93 = .ok (.iload 6, 2) := dk_21 6 (dk_at dksX2_compare_4 0 rfl rfl)
theorem dX2_compare_95 : decode cX2_compare 95 = .ok (.iadd, 1) := dk_96 (dk_at dksX2_compare_4 2 rfl rfl)
theorem dX2_compare_96 : decode cX2_compare 96 = .ok (.invokevirtual 27, 3) := dk_182 0 27 (dk_at dksX2_compare_4 3 rfl rfl)
theorem dX2_compare_99 : decode cX2_compare 99 = .ok (.aload_n 3, 1) := dk_45 (dk_at dksX2_compare_4 6 rfl rfl)
theorem dX2_compare_100 : decode cX2_compare 100 = .ok (.iload 4, 2) := dk_21 4 (dk_at dksX2_compare_4 7 rfl rfl)
theorem dX2_compare_102 : decode cX2_compare 102 = .ok (.iload 6, 2) := dk_21 6 (dk_at dksX2_compare_4 9 rfl rfl)
theorem dX2_compare_104 : decode cX2_compare 104 = .ok (.iadd, 1) := dk_96 (dk_at dksX2_compare_4 11 rfl rfl)
theorem dX2_compare_105 : decode cX2_compare 105 = .ok (.invokevirtual 27, 3) := dk_182 0 27 (dk_at dksX2_compare_4 12 rfl rfl)
theorem dX2_compare_108 : decode cX2_compare 108 = .ok (.isub, 1) := dk_100 (dk_at dksX2_compare_4 15 rfl rfl)
theorem dX2_compare_109 : decode cX2_compare 109 = .ok (.goto 22, 3) := dk_167 0 22 (dk_at dksX2_compare_4 16 rfl rfl)
theorem dX2_compare_112 : decode cX2_compare 112 = .ok (.iload 7, 2) := dk_21 7 (dk_at dksX2_compare_4 19 rfl rfl)
theorem dX2_compare_114 : decode cX2_compare 114 = .ok (.ifCond .eq 7, 3) := dk_153 0 7 (dk_at dksX2_compare_4 21 rfl rfl)
theorem dX2_compare_117 : decode cX2_compare 117 = .ok (.iconst 1, 1) := dk_4 (dk_at dksX2_compare_5 0 rfl rfl)
theorem dX2_compare_118 : decode cX2_compare 118 = .ok (.goto 13, 3) := dk_167 0 13 (dk_at dksX2_compare_5 1 rfl rfl)
theorem dX2_compare_121 : decode cX2_compare 121 = .ok (.iload 8, 2) := dk_21 8 (dk_at dksX2_compare_5 4 rfl rfl)
theorem dX2_compare_123 : decode cX2_compare 123 = .ok (.ifCond .eq 7, 3) := dk_153 0 7 (dk_at dksX2_compare_5 6 rfl rfl)
theorem dX2_compare_126 : decode cX2_compare 126 = .ok (.iconst (-1), 1) := dk_2 (dk_at dksX2_compare_5 9 rfl rfl)
theorem dX2_compare_127 : decode cX2_compare 127 = .ok (.goto 4, 3) := dk_167 0 4 (dk_at dksX2_compare_5 10 rfl rfl)
theorem dX2_compare_130 : decode cX2_compare 130 = .ok (.iconst 0, 1) := dk_3 (dk_at dksX2_compare_5 13 rfl rfl)
theorem dX2_compare_131 : decode cX2_compare 131 = .ok (.ireturn, 1) := dk_172 (dk_at dksX2_compare_5 14 rfl rfl)
abbrev cX2_set : ByteArray := prog_2_method_7_code
def yX2_set : MethodName := ⟨RX2, "set", "(II)V"⟩
def dkwX2_set_0 : List UInt8 := [42, 180, 0, 7, 27, 28, 145, 84, 177]
abbrev dktX2_set_0 : List UInt8 := dkwX2_set_0 ++ []
theorem dksX2_set_0 : cX2_set.data.toList.drop 0 = dktX2_set_0 := by decide +kernel
theorem dX2_set_0 : decode cX2_set 0 = .ok (.aload_n 0, 1) := dk_42 (dk_at dksX2_set_0 0 rfl rfl)
theorem dX2_set_1 : decode cX2_set 1 = .ok (.getfield 7, 3) := dk_180 0 7 (dk_at dksX2_set_0 1 rfl rfl)
theorem dX2_set_4 : decode cX2_set 4 = .ok (.iload_n 1, 1) := dk_27 (dk_at dksX2_set_0 4 rfl rfl)
theorem dX2_set_5 : decode cX2_set 5 = .ok (.iload_n 2, 1) := dk_28 (dk_at dksX2_set_0 5 rfl rfl)
theorem dX2_set_6 : decode cX2_set 6 = .ok (.i2b, 1) := dk_145 (dk_at dksX2_set_0 6 rfl rfl)
theorem dX2_set_7 : decode cX2_set 7 = .ok (.bastore, 1) := dk_84 (dk_at dksX2_set_0 7 rfl rfl)
theorem dX2_set_8 : decode cX2_set 8 = .ok (.return_, 1) := dk_177 (dk_at dksX2_set_0 8 rfl rfl)
theorem q299 : (Jvm.Cond.initialized "SchemaWorkshop$Bytes") ∈ lw_all := lw_g (lw_at lw_m1 2 rfl) rfl
theorem q335 : (Jvm.Cond.instantiable "SchemaWorkshop$Bytes" (2 : Nat)) ∈ lw_all := lw_g (lw_at lw_m1 38 rfl) rfl
theorem q337 : (Jvm.Cond.instanceMethod ({ cls := "SchemaWorkshop$Bytes", name := "<init>", desc := "()V" } : Jvm.MethodName)) ∈ lw_all := lw_g (lw_at lw_m1 40 rfl) rfl
theorem q338 : (Jvm.Cond.code ({ cls := "SchemaWorkshop$Bytes", name := "<init>", desc := "()V" } : Jvm.MethodName) prog_2_method_1_code (1 : Nat) (Option.none : Option Jvm.ClassFile.FieldType)) ∈ lw_all := lw_g (lw_at lw_m1 41 rfl) rfl
theorem q339 : (Jvm.Cond.methodLink "SchemaWorkshop$Bytes" (1 : Nat) ({ cls := "java/lang/Object", name := "<init>", desc := "()V" } : Jvm.MethodName)) ∈ lw_all := lw_g (lw_at lw_m1 42 rfl) rfl
theorem q340 : (Jvm.Cond.fieldLink "SchemaWorkshop$Bytes" (7 : Nat) "SchemaWorkshop$Bytes" "row" "[B") ∈ lw_all := lw_g (lw_at lw_m1 43 rfl) rfl
theorem q341 : (Jvm.Cond.fieldLink "SchemaWorkshop$Bytes" (13 : Nat) "SchemaWorkshop$Bytes" "size" "I") ∈ lw_all := lw_g (lw_at lw_m1 44 rfl) rfl
theorem q342 : (Jvm.Cond.lays "SchemaWorkshop$Bytes" "SchemaWorkshop$Bytes" "row" "[B") ∈ lw_all := lw_g (lw_at lw_m1 45 rfl) rfl
theorem q343 : (Jvm.Cond.soleField "SchemaWorkshop$Bytes" "row") ∈ lw_all := lw_g (lw_at lw_m1 46 rfl) rfl
theorem q344 : (Jvm.Cond.lays "SchemaWorkshop$Bytes" "SchemaWorkshop$Bytes" "size" "I") ∈ lw_all := lw_g (lw_at lw_m1 47 rfl) rfl
theorem q345 : (Jvm.Cond.soleField "SchemaWorkshop$Bytes" "size") ∈ lw_all := lw_g (lw_at lw_m1 48 rfl) rfl
theorem q346 : (Jvm.Cond.superclass "SchemaWorkshop$Bytes" "java/lang/Object") ∈ lw_all := lw_g (lw_at lw_m1 49 rfl) rfl
theorem q918 : (Jvm.Cond.instanceMethod ({ cls := "SchemaWorkshop$Bytes", name := "size", desc := "()I" } : Jvm.MethodName)) ∈ lw_all := lw_g (lw_at lw_m3 141 rfl) rfl
theorem q919 : (Jvm.Cond.selects "SchemaWorkshop$Bytes" ({ cls := "SchemaWorkshop$Bytes", name := "size", desc := "()I" } : Jvm.MethodName) ({ cls := "SchemaWorkshop$Bytes", name := "size", desc := "()I" } : Jvm.MethodName)) ∈ lw_all := lw_g (lw_at lw_m3 142 rfl) rfl
theorem q920 : (Jvm.Cond.code ({ cls := "SchemaWorkshop$Bytes", name := "size", desc := "()I" } : Jvm.MethodName) prog_2_method_2_code (1 : Nat) (Option.some Jvm.ClassFile.FieldType.int)) ∈ lw_all := lw_g (lw_at lw_m3 143 rfl) rfl
theorem q1003 : (Jvm.Cond.instanceMethod ({ cls := "SchemaWorkshop$Bytes", name := "add", desc := "(I)V" } : Jvm.MethodName)) ∈ lw_all := lw_g (lw_at lw_m3 226 rfl) rfl
theorem q1004 : (Jvm.Cond.selects "SchemaWorkshop$Bytes" ({ cls := "SchemaWorkshop$Bytes", name := "add", desc := "(I)V" } : Jvm.MethodName) ({ cls := "SchemaWorkshop$Bytes", name := "add", desc := "(I)V" } : Jvm.MethodName)) ∈ lw_all := lw_g (lw_at lw_m3 227 rfl) rfl
theorem q1005 : (Jvm.Cond.code ({ cls := "SchemaWorkshop$Bytes", name := "add", desc := "(I)V" } : Jvm.MethodName) prog_2_method_6_code (2 : Nat) (Option.none : Option Jvm.ClassFile.FieldType)) ∈ lw_all := lw_g (lw_at lw_m3 228 rfl) rfl
theorem q1006 : (Jvm.Cond.methodLink "SchemaWorkshop$Bytes" (23 : Nat) ({ cls := "SchemaWorkshop$Bytes", name := "ready", desc := "(I)V" } : Jvm.MethodName)) ∈ lw_all := lw_g (lw_at lw_m3 229 rfl) rfl
theorem q1007 : (Jvm.Cond.privateMethod ({ cls := "SchemaWorkshop$Bytes", name := "ready", desc := "(I)V" } : Jvm.MethodName)) ∈ lw_tbl := lw_at lw_m3 230 rfl
theorem q1008 : (Jvm.Cond.instanceMethod ({ cls := "SchemaWorkshop$Bytes", name := "ready", desc := "(I)V" } : Jvm.MethodName)) ∈ lw_all := lw_g (lw_at lw_m3 231 rfl) rfl
theorem q1009 : (Jvm.Cond.code ({ cls := "SchemaWorkshop$Bytes", name := "ready", desc := "(I)V" } : Jvm.MethodName) prog_2_method_5_code (4 : Nat) (Option.none : Option Jvm.ClassFile.FieldType)) ∈ lw_all := lw_g (lw_at lw_m3 232 rfl) rfl
theorem q1010 : (Jvm.Cond.methodLink "SchemaWorkshop$Bytes" (17 : Nat) ({ cls := "java/lang/System", name := "arraycopy", desc := "(Ljava/lang/Object;ILjava/lang/Object;II)V" } : Jvm.MethodName)) ∈ lw_all := lw_g (lw_at lw_m3 233 rfl) rfl
theorem q1040 : (Jvm.Cond.instanceMethod ({ cls := "SchemaWorkshop$Bytes", name := "cut", desc := "(I)V" } : Jvm.MethodName)) ∈ lw_all := lw_g (lw_at lw_m4 23 rfl) rfl
theorem q1041 : (Jvm.Cond.selects "SchemaWorkshop$Bytes" ({ cls := "SchemaWorkshop$Bytes", name := "cut", desc := "(I)V" } : Jvm.MethodName) ({ cls := "SchemaWorkshop$Bytes", name := "cut", desc := "(I)V" } : Jvm.MethodName)) ∈ lw_all := lw_g (lw_at lw_m4 24 rfl) rfl
theorem q1042 : (Jvm.Cond.code ({ cls := "SchemaWorkshop$Bytes", name := "cut", desc := "(I)V" } : Jvm.MethodName) prog_2_method_8_code (2 : Nat) (Option.none : Option Jvm.ClassFile.FieldType)) ∈ lw_all := lw_g (lw_at lw_m4 25 rfl) rfl
theorem q1055 : (Jvm.Cond.instanceMethod ({ cls := "SchemaWorkshop$Bytes", name := "clear", desc := "()V" } : Jvm.MethodName)) ∈ lw_all := lw_g (lw_at lw_m4 38 rfl) rfl
theorem q1056 : (Jvm.Cond.selects "SchemaWorkshop$Bytes" ({ cls := "SchemaWorkshop$Bytes", name := "clear", desc := "()V" } : Jvm.MethodName) ({ cls := "SchemaWorkshop$Bytes", name := "clear", desc := "()V" } : Jvm.MethodName)) ∈ lw_all := lw_g (lw_at lw_m4 39 rfl) rfl
theorem q1057 : (Jvm.Cond.code ({ cls := "SchemaWorkshop$Bytes", name := "clear", desc := "()V" } : Jvm.MethodName) prog_2_method_4_code (1 : Nat) (Option.none : Option Jvm.ClassFile.FieldType)) ∈ lw_all := lw_g (lw_at lw_m4 40 rfl) rfl
theorem q1059 : (Jvm.Cond.instanceMethod ({ cls := "SchemaWorkshop$Bytes", name := "all", desc := "(LSchemaWorkshop$Bytes;II)V" } : Jvm.MethodName)) ∈ lw_all := lw_g (lw_at lw_m4 42 rfl) rfl
theorem q1060 : (Jvm.Cond.selects "SchemaWorkshop$Bytes" ({ cls := "SchemaWorkshop$Bytes", name := "all", desc := "(LSchemaWorkshop$Bytes;II)V" } : Jvm.MethodName) ({ cls := "SchemaWorkshop$Bytes", name := "all", desc := "(LSchemaWorkshop$Bytes;II)V" } : Jvm.MethodName)) ∈ lw_all := lw_g (lw_at lw_m4 43 rfl) rfl
theorem q1061 : (Jvm.Cond.code ({ cls := "SchemaWorkshop$Bytes", name := "all", desc := "(LSchemaWorkshop$Bytes;II)V" } : Jvm.MethodName) prog_2_method_9_code (4 : Nat) (Option.none : Option Jvm.ClassFile.FieldType)) ∈ lw_all := lw_g (lw_at lw_m4 44 rfl) rfl
theorem q1072 : (Jvm.Cond.instanceMethod ({ cls := "SchemaWorkshop$Bytes", name := "at", desc := "(I)I" } : Jvm.MethodName)) ∈ lw_all := lw_g (lw_at lw_m4 55 rfl) rfl
theorem q1073 : (Jvm.Cond.selects "SchemaWorkshop$Bytes" ({ cls := "SchemaWorkshop$Bytes", name := "at", desc := "(I)I" } : Jvm.MethodName) ({ cls := "SchemaWorkshop$Bytes", name := "at", desc := "(I)I" } : Jvm.MethodName)) ∈ lw_all := lw_g (lw_at lw_m4 56 rfl) rfl
theorem q1074 : (Jvm.Cond.code ({ cls := "SchemaWorkshop$Bytes", name := "at", desc := "(I)I" } : Jvm.MethodName) prog_2_method_3_code (2 : Nat) (Option.some Jvm.ClassFile.FieldType.int)) ∈ lw_all := lw_g (lw_at lw_m4 57 rfl) rfl
theorem q1470 : (Jvm.Cond.instanceMethod ({ cls := "SchemaWorkshop$Bytes", name := "compare", desc := "(IILSchemaWorkshop$Bytes;II)I" } : Jvm.MethodName)) ∈ lw_all := lw_g (lw_at lw_m5 213 rfl) rfl
theorem q1471 : (Jvm.Cond.selects "SchemaWorkshop$Bytes" ({ cls := "SchemaWorkshop$Bytes", name := "compare", desc := "(IILSchemaWorkshop$Bytes;II)I" } : Jvm.MethodName) ({ cls := "SchemaWorkshop$Bytes", name := "compare", desc := "(IILSchemaWorkshop$Bytes;II)I" } : Jvm.MethodName)) ∈ lw_all := lw_g (lw_at lw_m5 214 rfl) rfl
theorem q1472 : (Jvm.Cond.code ({ cls := "SchemaWorkshop$Bytes", name := "compare", desc := "(IILSchemaWorkshop$Bytes;II)I" } : Jvm.MethodName) prog_2_method_10_code (9 : Nat) (Option.some Jvm.ClassFile.FieldType.int)) ∈ lw_all := lw_g (lw_at lw_m5 215 rfl) rfl
theorem q1473 : (Jvm.Cond.methodLink "SchemaWorkshop$Bytes" (27 : Nat) ({ cls := "SchemaWorkshop$Bytes", name := "at", desc := "(I)I" } : Jvm.MethodName)) ∈ lw_all := lw_g (lw_at lw_m5 216 rfl) rfl
theorem q1536 : (Jvm.Cond.instanceMethod ({ cls := "SchemaWorkshop$Bytes", name := "set", desc := "(II)V" } : Jvm.MethodName)) ∈ lw_all := lw_g (lw_at lw_m6 39 rfl) rfl
theorem q1537 : (Jvm.Cond.selects "SchemaWorkshop$Bytes" ({ cls := "SchemaWorkshop$Bytes", name := "set", desc := "(II)V" } : Jvm.MethodName) ({ cls := "SchemaWorkshop$Bytes", name := "set", desc := "(II)V" } : Jvm.MethodName)) ∈ lw_all := lw_g (lw_at lw_m6 40 rfl) rfl
theorem q1538 : (Jvm.Cond.code ({ cls := "SchemaWorkshop$Bytes", name := "set", desc := "(II)V" } : Jvm.MethodName) prog_2_method_7_code (3 : Nat) (Option.none : Option Jvm.ClassFile.FieldType)) ∈ lw_all := lw_g (lw_at lw_m6 41 rfl) rfl
theorem in_X2 : ∀ w ∈ wsX20, w ∈ lw_all := lw_in wsX20 [342, 344] (by decide +kernel) (by decide +kernel)

/-! SchemaWorkshop$Tree -/
set_option maxRecDepth 100000
def RX4 : String := "SchemaWorkshop$Tree"
def TX4 : u_T := fun k => match k with
  | 0 => ("SchemaWorkshop$Tree", "cells", "[I", false)
  | 1 => ("SchemaWorkshop$Tree", "size", "I", false)
  | 2 => ("SchemaWorkshop$Tree", "first", "I", false)
  | 3 => ("SchemaWorkshop$Tree", "types", "I", false)
  | 4 => ("SchemaWorkshop$Tree", "constants", "I", false)
  | _ => ("SchemaWorkshop$Tree", "isImplicit", "Z", false)
def tyX4 : Nat → FieldType := fun k => match k with
  | 0 => .array .int
  | 1 => .int
  | 2 => .int
  | 3 => .int
  | 4 => .int
  | _ => .boolean
abbrev wsX40 : List Cond := u_ws RX4 TX4 6
theorem nmX4 : ∀ a, a < 6 → ∀ b, b < 6 → a ≠ b → (TX4 a).2.1 ≠ (TX4 b).2.1 := by decide +kernel
theorem tyX4_ok : ∀ k, k < 6 → parseFieldDescriptor (TX4 k).2.2.1 = some (tyX4 k) := by decide +kernel
abbrev cX4_init : ByteArray := prog_13_method_1_code
def yX4_init : MethodName := ⟨RX4, "<init>", "()V"⟩
def dkwX4_init_0 : List UInt8 := [42, 183, 0, 3, 42, 17, 2, 64, 188, 10, 181, 0, 11, 177]
abbrev dktX4_init_0 : List UInt8 := dkwX4_init_0 ++ []
theorem dksX4_init_0 : cX4_init.data.toList.drop 0 = dktX4_init_0 := by decide +kernel
theorem dX4_init_0 : decode cX4_init 0 = .ok (.aload_n 0, 1) := dk_42 (dk_at dksX4_init_0 0 rfl rfl)
theorem dX4_init_1 : decode cX4_init 1 = .ok (.invokespecial 3, 3) := dk_183 0 3 (dk_at dksX4_init_0 1 rfl rfl)
theorem dX4_init_4 : decode cX4_init 4 = .ok (.aload_n 0, 1) := dk_42 (dk_at dksX4_init_0 4 rfl rfl)
theorem dX4_init_5 : decode cX4_init 5 = .ok (.sipush 576, 3) := dk_17 2 64 (dk_at dksX4_init_0 5 rfl rfl)
theorem dX4_init_8 : decode cX4_init 8 = .ok (.newarray .int, 2) := dk_188_10 (dk_at dksX4_init_0 8 rfl rfl)
theorem dX4_init_10 : decode cX4_init 10 = .ok (.putfield 11, 3) := dk_181 0 11 (dk_at dksX4_init_0 10 rfl rfl)
theorem dX4_init_13 : decode cX4_init 13 = .ok (.return_, 1) := dk_177 (dk_at dksX4_init_0 13 rfl rfl)
abbrev cX4_clear : ByteArray := prog_13_method_2_code
def yX4_clear : MethodName := ⟨RX4, "clear", "()V"⟩
def dkwX4_clear_1 : List UInt8 := [181, 0, 28, 177]
abbrev dktX4_clear_1 : List UInt8 := dkwX4_clear_1 ++ []
def dkwX4_clear_0 : List UInt8 := [42, 3, 181, 0, 15, 42, 2, 181, 0, 19, 42, 3, 181, 0, 22, 42, 3, 181, 0, 25, 42, 3]
abbrev dktX4_clear_0 : List UInt8 := dkwX4_clear_0 ++ dktX4_clear_1
theorem dksX4_clear_0 : cX4_clear.data.toList.drop 0 = dktX4_clear_0 := by decide +kernel
theorem dksX4_clear_1 : cX4_clear.data.toList.drop 22 = dktX4_clear_1 := dk_seg dksX4_clear_0 22 rfl rfl
theorem dX4_clear_0 : decode cX4_clear 0 = .ok (.aload_n 0, 1) := dk_42 (dk_at dksX4_clear_0 0 rfl rfl)
theorem dX4_clear_1 : decode cX4_clear 1 = .ok (.iconst 0, 1) := dk_3 (dk_at dksX4_clear_0 1 rfl rfl)
theorem dX4_clear_2 : decode cX4_clear 2 = .ok (.putfield 15, 3) := dk_181 0 15 (dk_at dksX4_clear_0 2 rfl rfl)
theorem dX4_clear_5 : decode cX4_clear 5 = .ok (.aload_n 0, 1) := dk_42 (dk_at dksX4_clear_0 5 rfl rfl)
theorem dX4_clear_6 : decode cX4_clear 6 = .ok (.iconst (-1), 1) := dk_2 (dk_at dksX4_clear_0 6 rfl rfl)
theorem dX4_clear_7 : decode cX4_clear 7 = .ok (.putfield 19, 3) := dk_181 0 19 (dk_at dksX4_clear_0 7 rfl rfl)
theorem dX4_clear_10 : decode cX4_clear 10 = .ok (.aload_n 0, 1) := dk_42 (dk_at dksX4_clear_0 10 rfl rfl)
theorem dX4_clear_11 : decode cX4_clear 11 = .ok (.iconst 0, 1) := dk_3 (dk_at dksX4_clear_0 11 rfl rfl)
theorem dX4_clear_12 : decode cX4_clear 12 = .ok (.putfield 22, 3) := dk_181 0 22 (dk_at dksX4_clear_0 12 rfl rfl)
theorem dX4_clear_15 : decode cX4_clear 15 = .ok (.aload_n 0, 1) := dk_42 (dk_at dksX4_clear_0 15 rfl rfl)
theorem dX4_clear_16 : decode cX4_clear 16 = .ok (.iconst 0, 1) := dk_3 (dk_at dksX4_clear_0 16 rfl rfl)
theorem dX4_clear_17 : decode cX4_clear 17 = .ok (.putfield 25, 3) := dk_181 0 25 (dk_at dksX4_clear_0 17 rfl rfl)
theorem dX4_clear_20 : decode cX4_clear 20 = .ok (.aload_n 0, 1) := dk_42 (dk_at dksX4_clear_0 20 rfl rfl)
theorem dX4_clear_21 : decode cX4_clear 21 = .ok (.iconst 0, 1) := dk_3 (dk_at dksX4_clear_0 21 rfl rfl)
theorem dX4_clear_22 : decode cX4_clear 22 = .ok (.putfield 28, 3) := dk_181 0 28 (dk_at dksX4_clear_1 0 rfl rfl)
theorem dX4_clear_25 : decode cX4_clear 25 = .ok (.return_, 1) := dk_177 (dk_at dksX4_clear_1 3 rfl rfl)
abbrev cX4_add : ByteArray := prog_13_method_11_code
def yX4_add : MethodName := ⟨RX4, "add", "(II)I"⟩
def dkwX4_add_6 : List UInt8 := [180, 0, 15, 4, 96, 181, 0, 15, 42, 180, 0, 15, 4, 100, 172]
abbrev dktX4_add_6 : List UInt8 := dkwX4_add_6 ++ []
def dkwX4_add_5 : List UInt8 := [180, 0, 15, 16, 7, 3, 182, 0, 42, 42, 42, 180, 0, 15, 16, 8, 2, 182, 0, 42, 42, 89]
abbrev dktX4_add_5 : List UInt8 := dkwX4_add_5 ++ dktX4_add_6
def dkwX4_add_4 : List UInt8 := [42, 42, 180, 0, 15, 8, 2, 182, 0, 42, 42, 42, 180, 0, 15, 16, 6, 3, 182, 0, 42, 42, 42]
abbrev dktX4_add_4 : List UInt8 := dkwX4_add_4 ++ dktX4_add_5
def dkwX4_add_3 : List UInt8 := [2, 182, 0, 42, 42, 42, 180, 0, 15, 6, 2, 182, 0, 42, 42, 42, 180, 0, 15, 7, 2, 182, 0, 42]
abbrev dktX4_add_3 : List UInt8 := dkwX4_add_3 ++ dktX4_add_4
def dkwX4_add_2 : List UInt8 := [180, 0, 15, 3, 27, 182, 0, 42, 42, 42, 180, 0, 15, 4, 28, 182, 0, 42, 42, 42, 180, 0, 15, 5]
abbrev dktX4_add_2 : List UInt8 := dkwX4_add_2 ++ dktX4_add_3
def dkwX4_add_1 : List UInt8 := [78, 42, 180, 0, 11, 3, 45, 3, 42, 180, 0, 11, 190, 184, 0, 36, 42, 45, 181, 0, 11, 42, 42]
abbrev dktX4_add_1 : List UInt8 := dkwX4_add_1 ++ dktX4_add_2
def dkwX4_add_0 : List UInt8 := [16, 9, 42, 180, 0, 15, 104, 42, 180, 0, 11, 190, 160, 0, 33, 5, 42, 180, 0, 11, 190, 104, 188, 10]
abbrev dktX4_add_0 : List UInt8 := dkwX4_add_0 ++ dktX4_add_1
theorem dksX4_add_0 : cX4_add.data.toList.drop 0 = dktX4_add_0 := by decide +kernel
theorem dksX4_add_1 : cX4_add.data.toList.drop 24 = dktX4_add_1 := dk_seg dksX4_add_0 24 rfl rfl
theorem dksX4_add_2 : cX4_add.data.toList.drop 47 = dktX4_add_2 := dk_seg dksX4_add_1 23 rfl rfl
theorem dksX4_add_3 : cX4_add.data.toList.drop 71 = dktX4_add_3 := dk_seg dksX4_add_2 24 rfl rfl
theorem dksX4_add_4 : cX4_add.data.toList.drop 95 = dktX4_add_4 := dk_seg dksX4_add_3 24 rfl rfl
theorem dksX4_add_5 : cX4_add.data.toList.drop 118 = dktX4_add_5 := dk_seg dksX4_add_4 23 rfl rfl
theorem dksX4_add_6 : cX4_add.data.toList.drop 140 = dktX4_add_6 := dk_seg dksX4_add_5 22 rfl rfl
theorem dX4_add_0 : decode cX4_add 0 = .ok (.bipush 9, 2) := dk_16 9 (dk_at dksX4_add_0 0 rfl rfl)
theorem dX4_add_2 : decode cX4_add 2 = .ok (.aload_n 0, 1) := dk_42 (dk_at dksX4_add_0 2 rfl rfl)
theorem dX4_add_3 : decode cX4_add 3 = .ok (.getfield 15, 3) := dk_180 0 15 (dk_at dksX4_add_0 3 rfl rfl)
theorem dX4_add_6 : decode cX4_add 6 = .ok (.imul, 1) := dk_104 (dk_at dksX4_add_0 6 rfl rfl)
theorem dX4_add_7 : decode cX4_add 7 = .ok (.aload_n 0, 1) := dk_42 (dk_at dksX4_add_0 7 rfl rfl)
theorem dX4_add_8 : decode cX4_add 8 = .ok (.getfield 11, 3) := dk_180 0 11 (dk_at dksX4_add_0 8 rfl rfl)
theorem dX4_add_11 : decode cX4_add 11 = .ok (.arraylength, 1) := dk_190 (dk_at dksX4_add_0 11 rfl rfl)
theorem dX4_add_12 : decode cX4_add 12 = .ok (.if_icmp .ne 33, 3) := dk_160 0 33 (dk_at dksX4_add_0 12 rfl rfl)
theorem dX4_add_15 : decode cX4_add 15 = .ok (.iconst 2, 1) := dk_5 (dk_at dksX4_add_0 15 rfl rfl)
theorem dX4_add_16 : decode cX4_add 16 = .ok (.aload_n 0, 1) := dk_42 (dk_at dksX4_add_0 16 rfl rfl)
theorem dX4_add_17 : decode cX4_add 17 = .ok (.getfield 11, 3) := dk_180 0 11 (dk_at dksX4_add_0 17 rfl rfl)
theorem dX4_add_20 : decode cX4_add 20 = .ok (.arraylength, 1) := dk_190 (dk_at dksX4_add_0 20 rfl rfl)
theorem dX4_add_21 : decode cX4_add 21 = .ok (.imul, 1) := dk_104 (dk_at dksX4_add_0 21 rfl rfl)
theorem dX4_add_22 : decode cX4_add 22 = .ok (.newarray .int, 2) := dk_188_10 (dk_at dksX4_add_0 22 rfl rfl)
theorem dX4_add_24 : decode cX4_add 24 = .ok (.astore_n 3, 1) := dk_78 (dk_at dksX4_add_1 0 rfl rfl)
theorem dX4_add_25 : decode cX4_add 25 = .ok (.aload_n 0, 1) := dk_42 (dk_at dksX4_add_1 1 rfl rfl)
theorem dX4_add_26 : decode cX4_add 26 = .ok (.getfield 11, 3) := dk_180 0 11 (dk_at dksX4_add_1 2 rfl rfl)
theorem dX4_add_29 : decode cX4_add 29 = .ok (.iconst 0, 1) := dk_3 (dk_at dksX4_add_1 5 rfl rfl)
theorem dX4_add_30 : decode cX4_add 30 = .ok (.aload_n 3, 1) := dk_45 (dk_at dksX4_add_1 6 rfl rfl)
theorem dX4_add_31 : decode cX4_add 31 = .ok (.iconst 0, 1) := dk_3 (dk_at dksX4_add_1 7 rfl rfl)
theorem dX4_add_32 : decode cX4_add 32 = .ok (.aload_n 0, 1) := dk_42 (dk_at dksX4_add_1 8 rfl rfl)
theorem dX4_add_33 : decode cX4_add 33 = .ok (.getfield 11, 3) := dk_180 0 11 (dk_at dksX4_add_1 9 rfl rfl)
theorem dX4_add_36 : decode cX4_add 36 = .ok (.arraylength, 1) := dk_190 (dk_at dksX4_add_1 12 rfl rfl)
theorem dX4_add_37 : decode cX4_add 37 = .ok (.invokestatic 36, 3) := dk_184 0 36 (dk_at dksX4_add_1 13 rfl rfl)
theorem dX4_add_40 : decode cX4_add 40 = .ok (.aload_n 0, 1) := dk_42 (dk_at dksX4_add_1 16 rfl rfl)
theorem dX4_add_41 : decode cX4_add 41 = .ok (.aload_n 3, 1) := dk_45 (dk_at dksX4_add_1 17 rfl rfl)
theorem dX4_add_42 : decode cX4_add 42 = .ok (.putfield 11, 3) := dk_181 0 11 (dk_at dksX4_add_1 18 rfl rfl)
theorem dX4_add_45 : decode cX4_add 45 = .ok (.aload_n 0, 1) := dk_42 (dk_at dksX4_add_1 21 rfl rfl)
theorem dX4_add_46 : decode cX4_add 46 = .ok (.aload_n 0, 1) := dk_42 (dk_at dksX4_add_1 22 rfl rfl)
theorem dX4_add_47 : decode cX4_add 47 = .ok (.getfield 15, 3) := dk_180 0 15 (dk_at dksX4_add_2 0 rfl rfl)
theorem dX4_add_50 : decode cX4_add 50 = .ok (.iconst 0, 1) := dk_3 (dk_at dksX4_add_2 3 rfl rfl)
theorem dX4_add_51 : decode cX4_add 51 = .ok (.iload_n 1, 1) := dk_27 (dk_at dksX4_add_2 4 rfl rfl)
theorem dX4_add_52 : decode cX4_add 52 = .ok (.invokevirtual 42, 3) := dk_182 0 42 (dk_at dksX4_add_2 5 rfl rfl)
theorem dX4_add_55 : decode cX4_add 55 = .ok (.aload_n 0, 1) := dk_42 (dk_at dksX4_add_2 8 rfl rfl)
theorem dX4_add_56 : decode cX4_add 56 = .ok (.aload_n 0, 1) := dk_42 (dk_at dksX4_add_2 9 rfl rfl)
theorem dX4_add_57 : decode cX4_add 57 = .ok (.getfield 15, 3) := dk_180 0 15 (dk_at dksX4_add_2 10 rfl rfl)
theorem dX4_add_60 : decode cX4_add 60 = .ok (.iconst 1, 1) := dk_4 (dk_at dksX4_add_2 13 rfl rfl)
theorem dX4_add_61 : decode cX4_add 61 = .ok (.iload_n 2, 1) := dk_28 (dk_at dksX4_add_2 14 rfl rfl)
theorem dX4_add_62 : decode cX4_add 62 = .ok (.invokevirtual 42, 3) := dk_182 0 42 (dk_at dksX4_add_2 15 rfl rfl)
theorem dX4_add_65 : decode cX4_add 65 = .ok (.aload_n 0, 1) := dk_42 (dk_at dksX4_add_2 18 rfl rfl)
theorem dX4_add_66 : decode cX4_add 66 = .ok (.aload_n 0, 1) := dk_42 (dk_at dksX4_add_2 19 rfl rfl)
theorem dX4_add_67 : decode cX4_add 67 = .ok (.getfield 15, 3) := dk_180 0 15 (dk_at dksX4_add_2 20 rfl rfl)
theorem dX4_add_70 : decode cX4_add 70 = .ok (.iconst 2, 1) := dk_5 (dk_at dksX4_add_2 23 rfl rfl)
theorem dX4_add_71 : decode cX4_add 71 = .ok (.iconst (-1), 1) := dk_2 (dk_at dksX4_add_3 0 rfl rfl)
theorem dX4_add_72 : decode cX4_add 72 = .ok (.invokevirtual 42, 3) := dk_182 0 42 (dk_at dksX4_add_3 1 rfl rfl)
theorem dX4_add_75 : decode cX4_add 75 = .ok (.aload_n 0, 1) := dk_42 (dk_at dksX4_add_3 4 rfl rfl)
theorem dX4_add_76 : decode cX4_add 76 = .ok (.aload_n 0, 1) := dk_42 (dk_at dksX4_add_3 5 rfl rfl)
theorem dX4_add_77 : decode cX4_add 77 = .ok (.getfield 15, 3) := dk_180 0 15 (dk_at dksX4_add_3 6 rfl rfl)
theorem dX4_add_80 : decode cX4_add 80 = .ok (.iconst 3, 1) := dk_6 (dk_at dksX4_add_3 9 rfl rfl)
theorem dX4_add_81 : decode cX4_add 81 = .ok (.iconst (-1), 1) := dk_2 (dk_at dksX4_add_3 10 rfl rfl)
theorem dX4_add_82 : decode cX4_add 82 = .ok (.invokevirtual 42, 3) := dk_182 0 42 (dk_at dksX4_add_3 11 rfl rfl)
theorem dX4_add_85 : decode cX4_add 85 = .ok (.aload_n 0, 1) := dk_42 (dk_at dksX4_add_3 14 rfl rfl)
theorem dX4_add_86 : decode cX4_add 86 = .ok (.aload_n 0, 1) := dk_42 (dk_at dksX4_add_3 15 rfl rfl)
theorem dX4_add_87 : decode cX4_add 87 = .ok (.getfield 15, 3) := dk_180 0 15 (dk_at dksX4_add_3 16 rfl rfl)
theorem dX4_add_90 : decode cX4_add 90 = .ok (.iconst 4, 1) := dk_7 (dk_at dksX4_add_3 19 rfl rfl)
theorem dX4_add_91 : decode cX4_add 91 = .ok (.iconst (-1), 1) := dk_2 (dk_at dksX4_add_3 20 rfl rfl)
theorem dX4_add_92 : decode cX4_add 92 = .ok (.invokevirtual 42, 3) := dk_182 0 42 (dk_at dksX4_add_3 21 rfl rfl)
theorem dX4_add_95 : decode cX4_add 95 = .ok (.aload_n 0, 1) := dk_42 (dk_at dksX4_add_4 0 rfl rfl)
theorem dX4_add_96 : decode cX4_add 96 = .ok (.aload_n 0, 1) := dk_42 (dk_at dksX4_add_4 1 rfl rfl)
theorem dX4_add_97 : decode cX4_add 97 = .ok (.getfield 15, 3) := dk_180 0 15 (dk_at dksX4_add_4 2 rfl rfl)
theorem dX4_add_100 : decode cX4_add 100 = .ok (.iconst 5, 1) := dk_8 (dk_at dksX4_add_4 5 rfl rfl)
theorem dX4_add_101 : decode cX4_add 101 = .ok (.iconst (-1), 1) := dk_2 (dk_at dksX4_add_4 6 rfl rfl)
theorem dX4_add_102 : decode cX4_add 102 = .ok (.invokevirtual 42, 3) := dk_182 0 42 (dk_at dksX4_add_4 7 rfl rfl)
theorem dX4_add_105 : decode cX4_add 105 = .ok (.aload_n 0, 1) := dk_42 (dk_at dksX4_add_4 10 rfl rfl)
theorem dX4_add_106 : decode cX4_add 106 = .ok (.aload_n 0, 1) := dk_42 (dk_at dksX4_add_4 11 rfl rfl)
theorem dX4_add_107 : decode cX4_add 107 = .ok (.getfield 15, 3) := dk_180 0 15 (dk_at dksX4_add_4 12 rfl rfl)
theorem dX4_add_110 : decode cX4_add 110 = .ok (.bipush 6, 2) := dk_16 6 (dk_at dksX4_add_4 15 rfl rfl)
theorem dX4_add_112 : decode cX4_add 112 = .ok (.iconst 0, 1) := dk_3 (dk_at dksX4_add_4 17 rfl rfl)
theorem dX4_add_113 : decode cX4_add 113 = .ok (.invokevirtual 42, 3) := dk_182 0 42 (dk_at dksX4_add_4 18 rfl rfl)
theorem dX4_add_116 : decode cX4_add 116 = .ok (.aload_n 0, 1) := dk_42 (dk_at dksX4_add_4 21 rfl rfl)
theorem dX4_add_117 : decode cX4_add 117 = .ok (.aload_n 0, 1) := dk_42 (dk_at dksX4_add_4 22 rfl rfl)
theorem dX4_add_118 : decode cX4_add 118 = .ok (.getfield 15, 3) := dk_180 0 15 (dk_at dksX4_add_5 0 rfl rfl)
theorem dX4_add_121 : decode cX4_add 121 = .ok (.bipush 7, 2) := dk_16 7 (dk_at dksX4_add_5 3 rfl rfl)
theorem dX4_add_123 : decode cX4_add 123 = .ok (.iconst 0, 1) := dk_3 (dk_at dksX4_add_5 5 rfl rfl)
theorem dX4_add_124 : decode cX4_add 124 = .ok (.invokevirtual 42, 3) := dk_182 0 42 (dk_at dksX4_add_5 6 rfl rfl)
theorem dX4_add_127 : decode cX4_add 127 = .ok (.aload_n 0, 1) := dk_42 (dk_at dksX4_add_5 9 rfl rfl)
theorem dX4_add_128 : decode cX4_add 128 = .ok (.aload_n 0, 1) := dk_42 (dk_at dksX4_add_5 10 rfl rfl)
theorem dX4_add_129 : decode cX4_add 129 = .ok (.getfield 15, 3) := dk_180 0 15 (dk_at dksX4_add_5 11 rfl rfl)
theorem dX4_add_132 : decode cX4_add 132 = .ok (.bipush 8, 2) := dk_16 8 (dk_at dksX4_add_5 14 rfl rfl)
theorem dX4_add_134 : decode cX4_add 134 = .ok (.iconst (-1), 1) := dk_2 (dk_at dksX4_add_5 16 rfl rfl)
theorem dX4_add_135 : decode cX4_add 135 = .ok (.invokevirtual 42, 3) := dk_182 0 42 (dk_at dksX4_add_5 17 rfl rfl)
theorem dX4_add_138 : decode cX4_add 138 = .ok (.aload_n 0, 1) := dk_42 (dk_at dksX4_add_5 20 rfl rfl)
theorem dX4_add_139 : decode cX4_add 139 = .ok (.dup, 1) := dk_89 (dk_at dksX4_add_5 21 rfl rfl)
theorem dX4_add_140 : decode cX4_add 140 = .ok (.getfield 15, 3) := dk_180 0 15 (dk_at dksX4_add_6 0 rfl rfl)
theorem dX4_add_143 : decode cX4_add 143 = .ok (.iconst 1, 1) := dk_4 (dk_at dksX4_add_6 3 rfl rfl)
theorem dX4_add_144 : decode cX4_add 144 = .ok (.iadd, 1) := dk_96 (dk_at dksX4_add_6 4 rfl rfl)
theorem dX4_add_145 : decode cX4_add 145 = .ok (.putfield 15, 3) := dk_181 0 15 (dk_at dksX4_add_6 5 rfl rfl)
theorem dX4_add_148 : decode cX4_add 148 = .ok (.aload_n 0, 1) := dk_42 (dk_at dksX4_add_6 8 rfl rfl)
theorem dX4_add_149 : decode cX4_add 149 = .ok (.getfield 15, 3) := dk_180 0 15 (dk_at dksX4_add_6 9 rfl rfl)
theorem dX4_add_152 : decode cX4_add 152 = .ok (.iconst 1, 1) := dk_4 (dk_at dksX4_add_6 12 rfl rfl)
theorem dX4_add_153 : decode cX4_add 153 = .ok (.isub, 1) := dk_100 (dk_at dksX4_add_6 13 rfl rfl)
theorem dX4_add_154 : decode cX4_add 154 = .ok (.ireturn, 1) := dk_172 (dk_at dksX4_add_6 14 rfl rfl)
abbrev cX4_set : ByteArray := prog_13_method_5_code
def yX4_set : MethodName := ⟨RX4, "set", "(III)V"⟩
def dkwX4_set_0 : List UInt8 := [42, 180, 0, 11, 16, 9, 27, 104, 28, 96, 29, 79, 177]
abbrev dktX4_set_0 : List UInt8 := dkwX4_set_0 ++ []
theorem dksX4_set_0 : cX4_set.data.toList.drop 0 = dktX4_set_0 := by decide +kernel
theorem dX4_set_0 : decode cX4_set 0 = .ok (.aload_n 0, 1) := dk_42 (dk_at dksX4_set_0 0 rfl rfl)
theorem dX4_set_1 : decode cX4_set 1 = .ok (.getfield 11, 3) := dk_180 0 11 (dk_at dksX4_set_0 1 rfl rfl)
theorem dX4_set_4 : decode cX4_set 4 = .ok (.bipush 9, 2) := dk_16 9 (dk_at dksX4_set_0 4 rfl rfl)
theorem dX4_set_6 : decode cX4_set 6 = .ok (.iload_n 1, 1) := dk_27 (dk_at dksX4_set_0 6 rfl rfl)
theorem dX4_set_7 : decode cX4_set 7 = .ok (.imul, 1) := dk_104 (dk_at dksX4_set_0 7 rfl rfl)
theorem dX4_set_8 : decode cX4_set 8 = .ok (.iload_n 2, 1) := dk_28 (dk_at dksX4_set_0 8 rfl rfl)
theorem dX4_set_9 : decode cX4_set 9 = .ok (.iadd, 1) := dk_96 (dk_at dksX4_set_0 9 rfl rfl)
theorem dX4_set_10 : decode cX4_set 10 = .ok (.iload_n 3, 1) := dk_29 (dk_at dksX4_set_0 10 rfl rfl)
theorem dX4_set_11 : decode cX4_set 11 = .ok (.iastore, 1) := dk_79 (dk_at dksX4_set_0 11 rfl rfl)
theorem dX4_set_12 : decode cX4_set 12 = .ok (.return_, 1) := dk_177 (dk_at dksX4_set_0 12 rfl rfl)
abbrev cX4_chain : ByteArray := prog_13_method_12_code
def yX4_chain : MethodName := ⟨RX4, "chain", "(IIII)I"⟩
def dkwX4_chain_1 : List UInt8 := [182, 0, 42, 21, 4, 172]
abbrev dktX4_chain_1 : List UInt8 := dkwX4_chain_1 ++ []
def dkwX4_chain_0 : List UInt8 := [29, 2, 160, 0, 14, 42, 27, 28, 21, 4, 182, 0, 42, 167, 0, 12, 42, 29, 16, 8, 21, 4]
abbrev dktX4_chain_0 : List UInt8 := dkwX4_chain_0 ++ dktX4_chain_1
theorem dksX4_chain_0 : cX4_chain.data.toList.drop 0 = dktX4_chain_0 := by decide +kernel
theorem dksX4_chain_1 : cX4_chain.data.toList.drop 22 = dktX4_chain_1 := dk_seg dksX4_chain_0 22 rfl rfl
theorem dX4_chain_0 : decode cX4_chain 0 = .ok (.iload_n 3, 1) := dk_29 (dk_at dksX4_chain_0 0 rfl rfl)
theorem dX4_chain_1 : decode cX4_chain 1 = .ok (.iconst (-1), 1) := dk_2 (dk_at dksX4_chain_0 1 rfl rfl)
theorem dX4_chain_2 : decode cX4_chain 2 = .ok (.if_icmp .ne 14, 3) := dk_160 0 14 (dk_at dksX4_chain_0 2 rfl rfl)
theorem dX4_chain_5 : decode cX4_chain 5 = .ok (.aload_n 0, 1) := dk_42 (dk_at dksX4_chain_0 5 rfl rfl)
theorem dX4_chain_6 : decode cX4_chain 6 = .ok (.iload_n 1, 1) := dk_27 (dk_at dksX4_chain_0 6 rfl rfl)
theorem dX4_chain_7 : decode cX4_chain 7 = .ok (.iload_n 2, 1) := dk_28 (dk_at dksX4_chain_0 7 rfl rfl)
theorem dX4_chain_8 : decode cX4_chain 8 = .ok (.iload 4, 2) := dk_21 4 (dk_at dksX4_chain_0 8 rfl rfl)
theorem dX4_chain_10 : decode cX4_chain 10 = .ok (.invokevirtual 42, 3) := dk_182 0 42 (dk_at dksX4_chain_0 10 rfl rfl)
theorem dX4_chain_13 : decode cX4_chain 13 = .ok (.goto 12, 3) := dk_167 0 12 (dk_at dksX4_chain_0 13 rfl rfl)
theorem dX4_chain_16 : decode cX4_chain 16 = .ok (.aload_n 0, 1) := dk_42 (dk_at dksX4_chain_0 16 rfl rfl)
theorem dX4_chain_17 : decode cX4_chain 17 = .ok (.iload_n 3, 1) := dk_29 (dk_at dksX4_chain_0 17 rfl rfl)
theorem dX4_chain_18 : decode cX4_chain 18 = .ok (.bipush 8, 2) := dk_16 8 (dk_at dksX4_chain_0 18 rfl rfl)
theorem dX4_chain_20 : decode cX4_chain 20 = .ok (.iload 4, 2) := dk_21 4 (dk_at dksX4_chain_0 20 rfl rfl)
theorem dX4_chain_22 : decode cX4_chain 22 = .ok (.invokevirtual 42, 3) := dk_182 0 42 (dk_at dksX4_chain_1 0 rfl rfl)
theorem dX4_chain_25 : decode cX4_chain 25 = .ok (.iload 4, 2) := dk_21 4 (dk_at dksX4_chain_1 3 rfl rfl)
theorem dX4_chain_27 : decode cX4_chain 27 = .ok (.ireturn, 1) := dk_172 (dk_at dksX4_chain_1 5 rfl rfl)
abbrev cX4_limits : ByteArray := prog_13_method_9_code
def yX4_limits : MethodName := ⟨RX4, "limits", "(I)I"⟩
def dkwX4_limits_0 : List UInt8 := [42, 27, 7, 182, 0, 32, 172]
abbrev dktX4_limits_0 : List UInt8 := dkwX4_limits_0 ++ []
theorem dksX4_limits_0 : cX4_limits.data.toList.drop 0 = dktX4_limits_0 := by decide +kernel
theorem dX4_limits_0 : decode cX4_limits 0 = .ok (.aload_n 0, 1) := dk_42 (dk_at dksX4_limits_0 0 rfl rfl)
theorem dX4_limits_1 : decode cX4_limits 1 = .ok (.iload_n 1, 1) := dk_27 (dk_at dksX4_limits_0 1 rfl rfl)
theorem dX4_limits_2 : decode cX4_limits 2 = .ok (.iconst 4, 1) := dk_7 (dk_at dksX4_limits_0 2 rfl rfl)
theorem dX4_limits_3 : decode cX4_limits 3 = .ok (.invokevirtual 32, 3) := dk_182 0 32 (dk_at dksX4_limits_0 3 rfl rfl)
theorem dX4_limits_6 : decode cX4_limits 6 = .ok (.ireturn, 1) := dk_172 (dk_at dksX4_limits_0 6 rfl rfl)
abbrev cX4_at : ByteArray := prog_13_method_4_code
def yX4_at : MethodName := ⟨RX4, "at", "(II)I"⟩
def dkwX4_at_0 : List UInt8 := [42, 180, 0, 11, 16, 9, 27, 104, 28, 96, 46, 172]
abbrev dktX4_at_0 : List UInt8 := dkwX4_at_0 ++ []
theorem dksX4_at_0 : cX4_at.data.toList.drop 0 = dktX4_at_0 := by decide +kernel
theorem dX4_at_0 : decode cX4_at 0 = .ok (.aload_n 0, 1) := dk_42 (dk_at dksX4_at_0 0 rfl rfl)
theorem dX4_at_1 : decode cX4_at 1 = .ok (.getfield 11, 3) := dk_180 0 11 (dk_at dksX4_at_0 1 rfl rfl)
theorem dX4_at_4 : decode cX4_at 4 = .ok (.bipush 9, 2) := dk_16 9 (dk_at dksX4_at_0 4 rfl rfl)
theorem dX4_at_6 : decode cX4_at 6 = .ok (.iload_n 1, 1) := dk_27 (dk_at dksX4_at_0 6 rfl rfl)
theorem dX4_at_7 : decode cX4_at 7 = .ok (.imul, 1) := dk_104 (dk_at dksX4_at_0 7 rfl rfl)
theorem dX4_at_8 : decode cX4_at 8 = .ok (.iload_n 2, 1) := dk_28 (dk_at dksX4_at_0 8 rfl rfl)
theorem dX4_at_9 : decode cX4_at 9 = .ok (.iadd, 1) := dk_96 (dk_at dksX4_at_0 9 rfl rfl)
theorem dX4_at_10 : decode cX4_at 10 = .ok (.iaload, 1) := dk_46 (dk_at dksX4_at_0 10 rfl rfl)
theorem dX4_at_11 : decode cX4_at 11 = .ok (.ireturn, 1) := dk_172 (dk_at dksX4_at_0 11 rfl rfl)
abbrev cX4_next : ByteArray := prog_13_method_10_code
def yX4_next : MethodName := ⟨RX4, "next", "(I)I"⟩
def dkwX4_next_0 : List UInt8 := [42, 27, 16, 8, 182, 0, 32, 172]
abbrev dktX4_next_0 : List UInt8 := dkwX4_next_0 ++ []
theorem dksX4_next_0 : cX4_next.data.toList.drop 0 = dktX4_next_0 := by decide +kernel
theorem dX4_next_0 : decode cX4_next 0 = .ok (.aload_n 0, 1) := dk_42 (dk_at dksX4_next_0 0 rfl rfl)
theorem dX4_next_1 : decode cX4_next 1 = .ok (.iload_n 1, 1) := dk_27 (dk_at dksX4_next_0 1 rfl rfl)
theorem dX4_next_2 : decode cX4_next 2 = .ok (.bipush 8, 2) := dk_16 8 (dk_at dksX4_next_0 2 rfl rfl)
theorem dX4_next_4 : decode cX4_next 4 = .ok (.invokevirtual 32, 3) := dk_182 0 32 (dk_at dksX4_next_0 4 rfl rfl)
theorem dX4_next_7 : decode cX4_next 7 = .ok (.ireturn, 1) := dk_172 (dk_at dksX4_next_0 7 rfl rfl)
abbrev cX4_size : ByteArray := prog_13_method_3_code
def yX4_size : MethodName := ⟨RX4, "size", "()I"⟩
theorem dX4_size_0 : decode cX4_size 0 = .ok (.aload_n 0, 1) := by decide +kernel
theorem dX4_size_1 : decode cX4_size 1 = .ok (.getfield 15, 3) := by decide +kernel
theorem dX4_size_4 : decode cX4_size 4 = .ok (.ireturn, 1) := by decide +kernel
abbrev cX4_kind : ByteArray := prog_13_method_6_code
def yX4_kind : MethodName := ⟨RX4, "kind", "(I)I"⟩
def dkwX4_kind_0 : List UInt8 := [42, 27, 3, 182, 0, 32, 172]
abbrev dktX4_kind_0 : List UInt8 := dkwX4_kind_0 ++ []
theorem dksX4_kind_0 : cX4_kind.data.toList.drop 0 = dktX4_kind_0 := by decide +kernel
theorem dX4_kind_0 : decode cX4_kind 0 = .ok (.aload_n 0, 1) := dk_42 (dk_at dksX4_kind_0 0 rfl rfl)
theorem dX4_kind_1 : decode cX4_kind 1 = .ok (.iload_n 1, 1) := dk_27 (dk_at dksX4_kind_0 1 rfl rfl)
theorem dX4_kind_2 : decode cX4_kind 2 = .ok (.iconst 0, 1) := dk_3 (dk_at dksX4_kind_0 2 rfl rfl)
theorem dX4_kind_3 : decode cX4_kind 3 = .ok (.invokevirtual 32, 3) := dk_182 0 32 (dk_at dksX4_kind_0 3 rfl rfl)
theorem dX4_kind_6 : decode cX4_kind 6 = .ok (.ireturn, 1) := dk_172 (dk_at dksX4_kind_0 6 rfl rfl)
abbrev cX4_lexeme : ByteArray := prog_13_method_7_code
def yX4_lexeme : MethodName := ⟨RX4, "lexeme", "(I)I"⟩
def dkwX4_lexeme_0 : List UInt8 := [42, 27, 4, 182, 0, 32, 172]
abbrev dktX4_lexeme_0 : List UInt8 := dkwX4_lexeme_0 ++ []
theorem dksX4_lexeme_0 : cX4_lexeme.data.toList.drop 0 = dktX4_lexeme_0 := by decide +kernel
theorem dX4_lexeme_0 : decode cX4_lexeme 0 = .ok (.aload_n 0, 1) := dk_42 (dk_at dksX4_lexeme_0 0 rfl rfl)
theorem dX4_lexeme_1 : decode cX4_lexeme 1 = .ok (.iload_n 1, 1) := dk_27 (dk_at dksX4_lexeme_0 1 rfl rfl)
theorem dX4_lexeme_2 : decode cX4_lexeme 2 = .ok (.iconst 1, 1) := dk_4 (dk_at dksX4_lexeme_0 2 rfl rfl)
theorem dX4_lexeme_3 : decode cX4_lexeme 3 = .ok (.invokevirtual 32, 3) := dk_182 0 32 (dk_at dksX4_lexeme_0 3 rfl rfl)
theorem dX4_lexeme_6 : decode cX4_lexeme 6 = .ok (.ireturn, 1) := dk_172 (dk_at dksX4_lexeme_0 6 rfl rfl)
abbrev cX4_parts : ByteArray := prog_13_method_8_code
def yX4_parts : MethodName := ⟨RX4, "parts", "(I)I"⟩
def dkwX4_parts_0 : List UInt8 := [42, 27, 6, 182, 0, 32, 172]
abbrev dktX4_parts_0 : List UInt8 := dkwX4_parts_0 ++ []
theorem dksX4_parts_0 : cX4_parts.data.toList.drop 0 = dktX4_parts_0 := by decide +kernel
theorem dX4_parts_0 : decode cX4_parts 0 = .ok (.aload_n 0, 1) := dk_42 (dk_at dksX4_parts_0 0 rfl rfl)
theorem dX4_parts_1 : decode cX4_parts 1 = .ok (.iload_n 1, 1) := dk_27 (dk_at dksX4_parts_0 1 rfl rfl)
theorem dX4_parts_2 : decode cX4_parts 2 = .ok (.iconst 3, 1) := dk_6 (dk_at dksX4_parts_0 2 rfl rfl)
theorem dX4_parts_3 : decode cX4_parts 3 = .ok (.invokevirtual 32, 3) := dk_182 0 32 (dk_at dksX4_parts_0 3 rfl rfl)
theorem dX4_parts_6 : decode cX4_parts 6 = .ok (.ireturn, 1) := dk_172 (dk_at dksX4_parts_0 6 rfl rfl)
theorem q301 : (Jvm.Cond.initialized "SchemaWorkshop$Tree") ∈ lw_all := lw_g (lw_at lw_m1 4 rfl) rfl
theorem q461 : (Jvm.Cond.instantiable "SchemaWorkshop$Tree" (6 : Nat)) ∈ lw_all := lw_g (lw_at lw_m1 164 rfl) rfl
theorem q463 : (Jvm.Cond.instanceMethod ({ cls := "SchemaWorkshop$Tree", name := "<init>", desc := "()V" } : Jvm.MethodName)) ∈ lw_all := lw_g (lw_at lw_m1 166 rfl) rfl
theorem q464 : (Jvm.Cond.code ({ cls := "SchemaWorkshop$Tree", name := "<init>", desc := "()V" } : Jvm.MethodName) prog_13_method_1_code (1 : Nat) (Option.none : Option Jvm.ClassFile.FieldType)) ∈ lw_all := lw_g (lw_at lw_m1 167 rfl) rfl
theorem q465 : (Jvm.Cond.methodLink "SchemaWorkshop$Tree" (3 : Nat) ({ cls := "java/lang/Object", name := "<init>", desc := "()V" } : Jvm.MethodName)) ∈ lw_all := lw_g (lw_at lw_m1 168 rfl) rfl
theorem q466 : (Jvm.Cond.fieldLink "SchemaWorkshop$Tree" (11 : Nat) "SchemaWorkshop$Tree" "cells" "[I") ∈ lw_all := lw_g (lw_at lw_m1 169 rfl) rfl
theorem q467 : (Jvm.Cond.fieldLink "SchemaWorkshop$Tree" (15 : Nat) "SchemaWorkshop$Tree" "size" "I") ∈ lw_all := lw_g (lw_at lw_m1 170 rfl) rfl
theorem q468 : (Jvm.Cond.fieldLink "SchemaWorkshop$Tree" (19 : Nat) "SchemaWorkshop$Tree" "first" "I") ∈ lw_all := lw_g (lw_at lw_m1 171 rfl) rfl
theorem q472 : (Jvm.Cond.fieldLink "SchemaWorkshop$Tree" (22 : Nat) "SchemaWorkshop$Tree" "types" "I") ∈ lw_all := lw_g (lw_at lw_m1 175 rfl) rfl
theorem q475 : (Jvm.Cond.fieldLink "SchemaWorkshop$Tree" (25 : Nat) "SchemaWorkshop$Tree" "constants" "I") ∈ lw_all := lw_g (lw_at lw_m1 178 rfl) rfl
theorem q478 : (Jvm.Cond.fieldLink "SchemaWorkshop$Tree" (28 : Nat) "SchemaWorkshop$Tree" "isImplicit" "Z") ∈ lw_all := lw_g (lw_at lw_m1 181 rfl) rfl
theorem q481 : (Jvm.Cond.lays "SchemaWorkshop$Tree" "SchemaWorkshop$Tree" "cells" "[I") ∈ lw_all := lw_g (lw_at lw_m1 184 rfl) rfl
theorem q482 : (Jvm.Cond.soleField "SchemaWorkshop$Tree" "cells") ∈ lw_all := lw_g (lw_at lw_m1 185 rfl) rfl
theorem q483 : (Jvm.Cond.lays "SchemaWorkshop$Tree" "SchemaWorkshop$Tree" "size" "I") ∈ lw_all := lw_g (lw_at lw_m1 186 rfl) rfl
theorem q484 : (Jvm.Cond.soleField "SchemaWorkshop$Tree" "size") ∈ lw_all := lw_g (lw_at lw_m1 187 rfl) rfl
theorem q485 : (Jvm.Cond.lays "SchemaWorkshop$Tree" "SchemaWorkshop$Tree" "first" "I") ∈ lw_all := lw_g (lw_at lw_m1 188 rfl) rfl
theorem q486 : (Jvm.Cond.soleField "SchemaWorkshop$Tree" "first") ∈ lw_all := lw_g (lw_at lw_m1 189 rfl) rfl
theorem q487 : (Jvm.Cond.lays "SchemaWorkshop$Tree" "SchemaWorkshop$Tree" "types" "I") ∈ lw_all := lw_g (lw_at lw_m1 190 rfl) rfl
theorem q488 : (Jvm.Cond.soleField "SchemaWorkshop$Tree" "types") ∈ lw_all := lw_g (lw_at lw_m1 191 rfl) rfl
theorem q489 : (Jvm.Cond.lays "SchemaWorkshop$Tree" "SchemaWorkshop$Tree" "constants" "I") ∈ lw_all := lw_g (lw_at lw_m1 192 rfl) rfl
theorem q490 : (Jvm.Cond.soleField "SchemaWorkshop$Tree" "constants") ∈ lw_all := lw_g (lw_at lw_m1 193 rfl) rfl
theorem q491 : (Jvm.Cond.lays "SchemaWorkshop$Tree" "SchemaWorkshop$Tree" "isImplicit" "Z") ∈ lw_all := lw_g (lw_at lw_m1 194 rfl) rfl
theorem q492 : (Jvm.Cond.soleField "SchemaWorkshop$Tree" "isImplicit") ∈ lw_all := lw_g (lw_at lw_m1 195 rfl) rfl
theorem q493 : (Jvm.Cond.superclass "SchemaWorkshop$Tree" "java/lang/Object") ∈ lw_all := lw_g (lw_at lw_m1 196 rfl) rfl
theorem q1253 : (Jvm.Cond.instanceMethod ({ cls := "SchemaWorkshop$Tree", name := "clear", desc := "()V" } : Jvm.MethodName)) ∈ lw_all := lw_g (lw_at lw_m4 236 rfl) rfl
theorem q1254 : (Jvm.Cond.selects "SchemaWorkshop$Tree" ({ cls := "SchemaWorkshop$Tree", name := "clear", desc := "()V" } : Jvm.MethodName) ({ cls := "SchemaWorkshop$Tree", name := "clear", desc := "()V" } : Jvm.MethodName)) ∈ lw_all := lw_g (lw_at lw_m4 237 rfl) rfl
theorem q1255 : (Jvm.Cond.code ({ cls := "SchemaWorkshop$Tree", name := "clear", desc := "()V" } : Jvm.MethodName) prog_13_method_2_code (1 : Nat) (Option.none : Option Jvm.ClassFile.FieldType)) ∈ lw_all := lw_g (lw_at lw_m4 238 rfl) rfl
theorem q1300 : (Jvm.Cond.instanceMethod ({ cls := "SchemaWorkshop$Tree", name := "add", desc := "(II)I" } : Jvm.MethodName)) ∈ lw_all := lw_g (lw_at lw_m5 43 rfl) rfl
theorem q1301 : (Jvm.Cond.selects "SchemaWorkshop$Tree" ({ cls := "SchemaWorkshop$Tree", name := "add", desc := "(II)I" } : Jvm.MethodName) ({ cls := "SchemaWorkshop$Tree", name := "add", desc := "(II)I" } : Jvm.MethodName)) ∈ lw_all := lw_g (lw_at lw_m5 44 rfl) rfl
theorem q1302 : (Jvm.Cond.code ({ cls := "SchemaWorkshop$Tree", name := "add", desc := "(II)I" } : Jvm.MethodName) prog_13_method_11_code (4 : Nat) (Option.some Jvm.ClassFile.FieldType.int)) ∈ lw_all := lw_g (lw_at lw_m5 45 rfl) rfl
theorem q1303 : (Jvm.Cond.methodLink "SchemaWorkshop$Tree" (36 : Nat) ({ cls := "java/lang/System", name := "arraycopy", desc := "(Ljava/lang/Object;ILjava/lang/Object;II)V" } : Jvm.MethodName)) ∈ lw_all := lw_g (lw_at lw_m5 46 rfl) rfl
theorem q1304 : (Jvm.Cond.methodLink "SchemaWorkshop$Tree" (42 : Nat) ({ cls := "SchemaWorkshop$Tree", name := "set", desc := "(III)V" } : Jvm.MethodName)) ∈ lw_all := lw_g (lw_at lw_m5 47 rfl) rfl
theorem q1305 : (Jvm.Cond.instanceMethod ({ cls := "SchemaWorkshop$Tree", name := "set", desc := "(III)V" } : Jvm.MethodName)) ∈ lw_all := lw_g (lw_at lw_m5 48 rfl) rfl
theorem q1306 : (Jvm.Cond.selects "SchemaWorkshop$Tree" ({ cls := "SchemaWorkshop$Tree", name := "set", desc := "(III)V" } : Jvm.MethodName) ({ cls := "SchemaWorkshop$Tree", name := "set", desc := "(III)V" } : Jvm.MethodName)) ∈ lw_all := lw_g (lw_at lw_m5 49 rfl) rfl
theorem q1307 : (Jvm.Cond.code ({ cls := "SchemaWorkshop$Tree", name := "set", desc := "(III)V" } : Jvm.MethodName) prog_13_method_5_code (4 : Nat) (Option.none : Option Jvm.ClassFile.FieldType)) ∈ lw_all := lw_g (lw_at lw_m5 50 rfl) rfl
theorem q1335 : (Jvm.Cond.instanceMethod ({ cls := "SchemaWorkshop$Tree", name := "chain", desc := "(IIII)I" } : Jvm.MethodName)) ∈ lw_all := lw_g (lw_at lw_m5 78 rfl) rfl
theorem q1336 : (Jvm.Cond.selects "SchemaWorkshop$Tree" ({ cls := "SchemaWorkshop$Tree", name := "chain", desc := "(IIII)I" } : Jvm.MethodName) ({ cls := "SchemaWorkshop$Tree", name := "chain", desc := "(IIII)I" } : Jvm.MethodName)) ∈ lw_all := lw_g (lw_at lw_m5 79 rfl) rfl
theorem q1337 : (Jvm.Cond.code ({ cls := "SchemaWorkshop$Tree", name := "chain", desc := "(IIII)I" } : Jvm.MethodName) prog_13_method_12_code (5 : Nat) (Option.some Jvm.ClassFile.FieldType.int)) ∈ lw_all := lw_g (lw_at lw_m5 80 rfl) rfl
theorem q1396 : (Jvm.Cond.instanceMethod ({ cls := "SchemaWorkshop$Tree", name := "limits", desc := "(I)I" } : Jvm.MethodName)) ∈ lw_all := lw_g (lw_at lw_m5 139 rfl) rfl
theorem q1397 : (Jvm.Cond.selects "SchemaWorkshop$Tree" ({ cls := "SchemaWorkshop$Tree", name := "limits", desc := "(I)I" } : Jvm.MethodName) ({ cls := "SchemaWorkshop$Tree", name := "limits", desc := "(I)I" } : Jvm.MethodName)) ∈ lw_all := lw_g (lw_at lw_m5 140 rfl) rfl
theorem q1398 : (Jvm.Cond.code ({ cls := "SchemaWorkshop$Tree", name := "limits", desc := "(I)I" } : Jvm.MethodName) prog_13_method_9_code (2 : Nat) (Option.some Jvm.ClassFile.FieldType.int)) ∈ lw_all := lw_g (lw_at lw_m5 141 rfl) rfl
theorem q1399 : (Jvm.Cond.methodLink "SchemaWorkshop$Tree" (32 : Nat) ({ cls := "SchemaWorkshop$Tree", name := "at", desc := "(II)I" } : Jvm.MethodName)) ∈ lw_all := lw_g (lw_at lw_m5 142 rfl) rfl
theorem q1400 : (Jvm.Cond.instanceMethod ({ cls := "SchemaWorkshop$Tree", name := "at", desc := "(II)I" } : Jvm.MethodName)) ∈ lw_all := lw_g (lw_at lw_m5 143 rfl) rfl
theorem q1401 : (Jvm.Cond.selects "SchemaWorkshop$Tree" ({ cls := "SchemaWorkshop$Tree", name := "at", desc := "(II)I" } : Jvm.MethodName) ({ cls := "SchemaWorkshop$Tree", name := "at", desc := "(II)I" } : Jvm.MethodName)) ∈ lw_all := lw_g (lw_at lw_m5 144 rfl) rfl
theorem q1402 : (Jvm.Cond.code ({ cls := "SchemaWorkshop$Tree", name := "at", desc := "(II)I" } : Jvm.MethodName) prog_13_method_4_code (3 : Nat) (Option.some Jvm.ClassFile.FieldType.int)) ∈ lw_all := lw_g (lw_at lw_m5 145 rfl) rfl
theorem q1404 : (Jvm.Cond.instanceMethod ({ cls := "SchemaWorkshop$Tree", name := "next", desc := "(I)I" } : Jvm.MethodName)) ∈ lw_all := lw_g (lw_at lw_m5 147 rfl) rfl
theorem q1405 : (Jvm.Cond.selects "SchemaWorkshop$Tree" ({ cls := "SchemaWorkshop$Tree", name := "next", desc := "(I)I" } : Jvm.MethodName) ({ cls := "SchemaWorkshop$Tree", name := "next", desc := "(I)I" } : Jvm.MethodName)) ∈ lw_all := lw_g (lw_at lw_m5 148 rfl) rfl
theorem q1406 : (Jvm.Cond.code ({ cls := "SchemaWorkshop$Tree", name := "next", desc := "(I)I" } : Jvm.MethodName) prog_13_method_10_code (2 : Nat) (Option.some Jvm.ClassFile.FieldType.int)) ∈ lw_all := lw_g (lw_at lw_m5 149 rfl) rfl
theorem q1428 : (Jvm.Cond.instanceMethod ({ cls := "SchemaWorkshop$Tree", name := "size", desc := "()I" } : Jvm.MethodName)) ∈ lw_all := lw_g (lw_at lw_m5 171 rfl) rfl
theorem q1429 : (Jvm.Cond.selects "SchemaWorkshop$Tree" ({ cls := "SchemaWorkshop$Tree", name := "size", desc := "()I" } : Jvm.MethodName) ({ cls := "SchemaWorkshop$Tree", name := "size", desc := "()I" } : Jvm.MethodName)) ∈ lw_all := lw_g (lw_at lw_m5 172 rfl) rfl
theorem q1430 : (Jvm.Cond.code ({ cls := "SchemaWorkshop$Tree", name := "size", desc := "()I" } : Jvm.MethodName) prog_13_method_3_code (1 : Nat) (Option.some Jvm.ClassFile.FieldType.int)) ∈ lw_all := lw_g (lw_at lw_m5 173 rfl) rfl
theorem q1446 : (Jvm.Cond.instanceMethod ({ cls := "SchemaWorkshop$Tree", name := "kind", desc := "(I)I" } : Jvm.MethodName)) ∈ lw_all := lw_g (lw_at lw_m5 189 rfl) rfl
theorem q1447 : (Jvm.Cond.selects "SchemaWorkshop$Tree" ({ cls := "SchemaWorkshop$Tree", name := "kind", desc := "(I)I" } : Jvm.MethodName) ({ cls := "SchemaWorkshop$Tree", name := "kind", desc := "(I)I" } : Jvm.MethodName)) ∈ lw_all := lw_g (lw_at lw_m5 190 rfl) rfl
theorem q1448 : (Jvm.Cond.code ({ cls := "SchemaWorkshop$Tree", name := "kind", desc := "(I)I" } : Jvm.MethodName) prog_13_method_6_code (2 : Nat) (Option.some Jvm.ClassFile.FieldType.int)) ∈ lw_all := lw_g (lw_at lw_m5 191 rfl) rfl
theorem q1450 : (Jvm.Cond.instanceMethod ({ cls := "SchemaWorkshop$Tree", name := "lexeme", desc := "(I)I" } : Jvm.MethodName)) ∈ lw_all := lw_g (lw_at lw_m5 193 rfl) rfl
theorem q1451 : (Jvm.Cond.selects "SchemaWorkshop$Tree" ({ cls := "SchemaWorkshop$Tree", name := "lexeme", desc := "(I)I" } : Jvm.MethodName) ({ cls := "SchemaWorkshop$Tree", name := "lexeme", desc := "(I)I" } : Jvm.MethodName)) ∈ lw_all := lw_g (lw_at lw_m5 194 rfl) rfl
theorem q1452 : (Jvm.Cond.code ({ cls := "SchemaWorkshop$Tree", name := "lexeme", desc := "(I)I" } : Jvm.MethodName) prog_13_method_7_code (2 : Nat) (Option.some Jvm.ClassFile.FieldType.int)) ∈ lw_all := lw_g (lw_at lw_m5 195 rfl) rfl
theorem q1493 : (Jvm.Cond.instanceMethod ({ cls := "SchemaWorkshop$Tree", name := "parts", desc := "(I)I" } : Jvm.MethodName)) ∈ lw_all := lw_g (lw_at lw_m5 236 rfl) rfl
theorem q1494 : (Jvm.Cond.selects "SchemaWorkshop$Tree" ({ cls := "SchemaWorkshop$Tree", name := "parts", desc := "(I)I" } : Jvm.MethodName) ({ cls := "SchemaWorkshop$Tree", name := "parts", desc := "(I)I" } : Jvm.MethodName)) ∈ lw_all := lw_g (lw_at lw_m5 237 rfl) rfl
theorem q1495 : (Jvm.Cond.code ({ cls := "SchemaWorkshop$Tree", name := "parts", desc := "(I)I" } : Jvm.MethodName) prog_13_method_8_code (2 : Nat) (Option.some Jvm.ClassFile.FieldType.int)) ∈ lw_all := lw_g (lw_at lw_m5 238 rfl) rfl
theorem in_X4 : ∀ w ∈ wsX40, w ∈ lw_all := lw_in wsX40 [481, 483, 485, 487, 489, 491] (by decide +kernel) (by decide +kernel)

/-! SchemaWorkshop$Numbers -/
set_option maxRecDepth 100000
def RX7 : String := "SchemaWorkshop$Numbers"
def TX7 : u_T := fun k => match k with
  | 0 => ("SchemaWorkshop$Numbers", "words", "[I", false)
  | _ => ("SchemaWorkshop$Numbers", "size", "I", false)
def tyX7 : Nat → FieldType := fun k => match k with
  | 0 => .array .int
  | _ => .int
abbrev wsX70 : List Cond := u_ws RX7 TX7 2
theorem nmX7 : ∀ a, a < 2 → ∀ b, b < 2 → a ≠ b → (TX7 a).2.1 ≠ (TX7 b).2.1 := by decide +kernel
theorem tyX7_ok : ∀ k, k < 2 → parseFieldDescriptor (TX7 k).2.2.1 = some (tyX7 k) := by decide +kernel
abbrev cX7_init : ByteArray := prog_11_method_1_code
def yX7_init : MethodName := ⟨RX7, "<init>", "()V"⟩
def dkwX7_init_0 : List UInt8 := [42, 183, 0, 3, 42, 16, 8, 188, 10, 181, 0, 9, 177]
abbrev dktX7_init_0 : List UInt8 := dkwX7_init_0 ++ []
theorem dksX7_init_0 : cX7_init.data.toList.drop 0 = dktX7_init_0 := by decide +kernel
theorem dX7_init_0 : decode cX7_init 0 = .ok (.aload_n 0, 1) := dk_42 (dk_at dksX7_init_0 0 rfl rfl)
theorem dX7_init_1 : decode cX7_init 1 = .ok (.invokespecial 3, 3) := dk_183 0 3 (dk_at dksX7_init_0 1 rfl rfl)
theorem dX7_init_4 : decode cX7_init 4 = .ok (.aload_n 0, 1) := dk_42 (dk_at dksX7_init_0 4 rfl rfl)
theorem dX7_init_5 : decode cX7_init 5 = .ok (.bipush 8, 2) := dk_16 8 (dk_at dksX7_init_0 5 rfl rfl)
theorem dX7_init_7 : decode cX7_init 7 = .ok (.newarray .int, 2) := dk_188_10 (dk_at dksX7_init_0 7 rfl rfl)
theorem dX7_init_9 : decode cX7_init 9 = .ok (.putfield 9, 3) := dk_181 0 9 (dk_at dksX7_init_0 9 rfl rfl)
theorem dX7_init_12 : decode cX7_init 12 = .ok (.return_, 1) := dk_177 (dk_at dksX7_init_0 12 rfl rfl)
abbrev cX7_read : ByteArray := prog_11_method_6_code
def yX7_read : MethodName := ⟨RX7, "read", "(LSchemaWorkshop$Bytes;II)V"⟩
def dkwX7_read_3 : List UInt8 := [167, 255, 209, 42, 22, 5, 22, 7, 182, 0, 41, 167, 255, 183, 177]
abbrev dktX7_read_3 : List UInt8 := dkwX7_read_3 ++ []
def dkwX7_read_2 : List UInt8 := [22, 7, 105, 43, 21, 4, 182, 0, 33, 133, 97, 20, 0, 39, 101, 55, 7, 132, 4, 1, 132, 9, 1]
abbrev dktX7_read_2 : List UInt8 := dkwX7_read_2 ++ dktX7_read_3
def dkwX7_read_1 : List UInt8 := [21, 9, 16, 9, 162, 0, 46, 21, 4, 29, 162, 0, 40, 22, 5, 20, 0, 31, 105, 55, 5, 20, 0, 31]
abbrev dktX7_read_1 : List UInt8 := dkwX7_read_1 ++ dktX7_read_2
def dkwX7_read_0 : List UInt8 := [42, 3, 181, 0, 15, 28, 54, 4, 21, 4, 29, 162, 0, 73, 10, 55, 5, 9, 55, 7, 3, 54, 9]
abbrev dktX7_read_0 : List UInt8 := dkwX7_read_0 ++ dktX7_read_1
theorem dksX7_read_0 : cX7_read.data.toList.drop 0 = dktX7_read_0 := by decide +kernel
theorem dksX7_read_1 : cX7_read.data.toList.drop 23 = dktX7_read_1 := dk_seg dksX7_read_0 23 rfl rfl
theorem dksX7_read_2 : cX7_read.data.toList.drop 47 = dktX7_read_2 := dk_seg dksX7_read_1 24 rfl rfl
theorem dksX7_read_3 : cX7_read.data.toList.drop 70 = dktX7_read_3 := dk_seg dksX7_read_2 23 rfl rfl
theorem dX7_read_0 : decode cX7_read 0 = .ok (.aload_n 0, 1) := dk_42 (dk_at dksX7_read_0 0 rfl rfl)
theorem dX7_read_1 : decode cX7_read 1 = .ok (.iconst 0, 1) := dk_3 (dk_at dksX7_read_0 1 rfl rfl)
theorem dX7_read_2 : decode cX7_read 2 = .ok (.putfield 15, 3) := dk_181 0 15 (dk_at dksX7_read_0 2 rfl rfl)
theorem dX7_read_5 : decode cX7_read 5 = .ok (.iload_n 2, 1) := dk_28 (dk_at dksX7_read_0 5 rfl rfl)
theorem dX7_read_6 : decode cX7_read 6 = .ok (.istore 4, 2) := dk_54 4 (dk_at dksX7_read_0 6 rfl rfl)
theorem dX7_read_8 : decode cX7_read 8 = .ok (.iload 4, 2) := dk_21 4 (dk_at dksX7_read_0 8 rfl rfl)
theorem dX7_read_10 : decode cX7_read 10 = .ok (.iload_n 3, 1) := dk_29 (dk_at dksX7_read_0 10 rfl rfl)
theorem dX7_read_11 : decode cX7_read 11 = .ok (.if_icmp .ge 73, 3) := dk_162 0 73 (dk_at dksX7_read_0 11 rfl rfl)
theorem dX7_read_14 : decode cX7_read 14 = .ok (.lconst 1, 1) := dk_10 (dk_at dksX7_read_0 14 rfl rfl)
theorem dX7_read_15 : decode cX7_read 15 = .ok (.lstore 5, 2) := dk_55 5 (dk_at dksX7_read_0 15 rfl rfl)
theorem dX7_read_17 : decode cX7_read 17 = .ok (.lconst 0, 1) := dk_9 (dk_at dksX7_read_0 17 rfl rfl)
theorem dX7_read_18 : decode cX7_read 18 = .ok (.lstore 7, 2) := dk_55 7 (dk_at dksX7_read_0 18 rfl rfl)
theorem dX7_read_20 : decode cX7_read 20 = .ok (.iconst 0, 1) := dk_3 (dk_at dksX7_read_0 20 rfl rfl)
theorem dX7_read_21 : decode cX7_read 21 = .ok (.istore 9, 2) := dk_54 9 (dk_at dksX7_read_0 21 rfl rfl)
theorem dX7_read_23 : decode cX7_read 23 = .ok (.iload 9, 2) := dk_21 9 (dk_at dksX7_read_1 0 rfl rfl)
theorem dX7_read_25 : decode cX7_read 25 = .ok (.bipush 9, 2) := dk_16 9 (dk_at dksX7_read_1 2 rfl rfl)
theorem dX7_read_27 : decode cX7_read 27 = .ok (.if_icmp .ge 46, 3) := dk_162 0 46 (dk_at dksX7_read_1 4 rfl rfl)
theorem dX7_read_30 : decode cX7_read 30 = .ok (.iload 4, 2) := dk_21 4 (dk_at dksX7_read_1 7 rfl rfl)
theorem dX7_read_32 : decode cX7_read 32 = .ok (.iload_n 3, 1) := dk_29 (dk_at dksX7_read_1 9 rfl rfl)
theorem dX7_read_33 : decode cX7_read 33 = .ok (.if_icmp .ge 40, 3) := dk_162 0 40 (dk_at dksX7_read_1 10 rfl rfl)
theorem dX7_read_36 : decode cX7_read 36 = .ok (.lload 5, 2) := dk_22 5 (dk_at dksX7_read_1 13 rfl rfl)
theorem dX7_read_38 : decode cX7_read 38 = .ok (.ldc2_w 31, 3) := dk_20 0 31 (dk_at dksX7_read_1 15 rfl rfl)
theorem dX7_read_41 : decode cX7_read 41 = .ok (.lmul, 1) := dk_105 (dk_at dksX7_read_1 18 rfl rfl)
theorem dX7_read_42 : decode cX7_read 42 = .ok (.lstore 5, 2) := dk_55 5 (dk_at dksX7_read_1 19 rfl rfl)
theorem dX7_read_44 : decode cX7_read 44 = .ok (.ldc2_w 31, 3) := dk_20 0 31 (dk_at dksX7_read_1 21 rfl rfl)
theorem dX7_read_47 : decode cX7_read 47 = .ok (.lload 7, 2) := dk_22 7 (dk_at dksX7_read_2 0 rfl rfl)
theorem dX7_read_49 : decode cX7_read 49 = .ok (.lmul, 1) := dk_105 (dk_at dksX7_read_2 2 rfl rfl)
theorem dX7_read_50 : decode cX7_read 50 = .ok (.aload_n 1, 1) := dk_43 (dk_at dksX7_read_2 3 rfl rfl)
theorem dX7_read_51 : decode cX7_read 51 = .ok (.iload 4, 2) := dk_21 4 (dk_at dksX7_read_2 4 rfl rfl)
theorem dX7_read_53 : decode cX7_read 53 = .ok (.invokevirtual 33, 3) := dk_182 0 33 (dk_at dksX7_read_2 6 rfl rfl)
theorem dX7_read_56 : decode cX7_read 56 = .ok (.i2l, 1) := dk_133 (dk_at dksX7_read_2 9 rfl rfl)
theorem dX7_read_57 : decode cX7_read 57 = .ok (.ladd, 1) := dk_97 (dk_at dksX7_read_2 10 rfl rfl)
theorem dX7_read_58 : decode cX7_read 58 = .ok (.ldc2_w 39, 3) := dk_20 0 39 (dk_at dksX7_read_2 11 rfl rfl)
theorem dX7_read_61 : decode cX7_read 61 = .ok (.lsub, 1) := dk_101 (dk_at dksX7_read_2 14 rfl rfl)
theorem dX7_read_62 : decode cX7_read 62 = .ok (.lstore 7, 2) := dk_55 7 (dk_at dksX7_read_2 15 rfl rfl)
theorem dX7_read_64 : decode cX7_read 64 = .ok (.iinc 4 1, 3) := dk_132 4 1 (dk_at dksX7_read_2 17 rfl rfl)
theorem dX7_read_67 : decode cX7_read 67 = .ok (.iinc 9 1, 3) := dk_132 9 1 (dk_at dksX7_read_2 20 rfl rfl)
theorem dX7_read_70 : decode cX7_read 70 = .ok (.goto (-47), 3) := dk_167 255 209 (dk_at dksX7_read_3 0 rfl rfl)
theorem dX7_read_73 : decode cX7_read 73 = .ok (.aload_n 0, 1) := dk_42 (dk_at dksX7_read_3 3 rfl rfl)
theorem dX7_read_74 : decode cX7_read 74 = .ok (.lload 5, 2) := dk_22 5 (dk_at dksX7_read_3 4 rfl rfl)
theorem dX7_read_76 : decode cX7_read 76 = .ok (.lload 7, 2) := dk_22 7 (dk_at dksX7_read_3 6 rfl rfl)
theorem dX7_read_78 : decode cX7_read 78 = .ok (.invokevirtual 41, 3) := dk_182 0 41 (dk_at dksX7_read_3 8 rfl rfl)
theorem dX7_read_81 : decode cX7_read 81 = .ok (.goto (-73), 3) := dk_167 255 183 (dk_at dksX7_read_3 11 rfl rfl)
theorem dX7_read_84 : decode cX7_read 84 = .ok (.return_, 1) := dk_177 (dk_at dksX7_read_3 14 rfl rfl)
abbrev cX7_grow : ByteArray := prog_11_method_3_code
def yX7_grow : MethodName := ⟨RX7, "grow", "(JJ)V"⟩
def dkwX7_grow_3 : List UInt8 := [182, 0, 27, 177]
abbrev dktX7_grow_3 : List UInt8 := dkwX7_grow_3 ++ []
def dkwX7_grow_2 : List UInt8 := [16, 32, 125, 55, 5, 132, 7, 1, 167, 255, 208, 22, 5, 9, 148, 158, 0, 10, 42, 22, 5, 136]
abbrev dktX7_grow_2 : List UInt8 := dkwX7_grow_2 ++ dktX7_grow_3
def dkwX7_grow_1 : List UInt8 := [20, 0, 25, 127, 31, 105, 22, 5, 97, 55, 8, 42, 180, 0, 9, 21, 7, 22, 8, 136, 79, 22, 8]
abbrev dktX7_grow_1 : List UInt8 := dkwX7_grow_1 ++ dktX7_grow_2
def dkwX7_grow_0 : List UInt8 := [33, 55, 5, 3, 54, 7, 21, 7, 42, 180, 0, 15, 162, 0, 45, 42, 180, 0, 9, 21, 7, 46, 133]
abbrev dktX7_grow_0 : List UInt8 := dkwX7_grow_0 ++ dktX7_grow_1
theorem dksX7_grow_0 : cX7_grow.data.toList.drop 0 = dktX7_grow_0 := by decide +kernel
theorem dksX7_grow_1 : cX7_grow.data.toList.drop 23 = dktX7_grow_1 := dk_seg dksX7_grow_0 23 rfl rfl
theorem dksX7_grow_2 : cX7_grow.data.toList.drop 46 = dktX7_grow_2 := dk_seg dksX7_grow_1 23 rfl rfl
theorem dksX7_grow_3 : cX7_grow.data.toList.drop 68 = dktX7_grow_3 := dk_seg dksX7_grow_2 22 rfl rfl
theorem dX7_grow_0 : decode cX7_grow 0 = .ok (.lload_n 3, 1) := dk_33 (dk_at dksX7_grow_0 0 rfl rfl)
theorem dX7_grow_1 : decode cX7_grow 1 = .ok (.lstore 5, 2) := dk_55 5 (dk_at dksX7_grow_0 1 rfl rfl)
theorem dX7_grow_3 : decode cX7_grow 3 = .ok (.iconst 0, 1) := dk_3 (dk_at dksX7_grow_0 3 rfl rfl)
theorem dX7_grow_4 : decode cX7_grow 4 = .ok (.istore 7, 2) := dk_54 7 (dk_at dksX7_grow_0 4 rfl rfl)
theorem dX7_grow_6 : decode cX7_grow 6 = .ok (.iload 7, 2) := dk_21 7 (dk_at dksX7_grow_0 6 rfl rfl)
theorem dX7_grow_8 : decode cX7_grow 8 = .ok (.aload_n 0, 1) := dk_42 (dk_at dksX7_grow_0 8 rfl rfl)
theorem dX7_grow_9 : decode cX7_grow 9 = .ok (.getfield 15, 3) := dk_180 0 15 (dk_at dksX7_grow_0 9 rfl rfl)
theorem dX7_grow_12 : decode cX7_grow 12 = .ok (.if_icmp .ge 45, 3) := dk_162 0 45 (dk_at dksX7_grow_0 12 rfl rfl)
theorem dX7_grow_15 : decode cX7_grow 15 = .ok (.aload_n 0, 1) := dk_42 (dk_at dksX7_grow_0 15 rfl rfl)
theorem dX7_grow_16 : decode cX7_grow 16 = .ok (.getfield 9, 3) := dk_180 0 9 (dk_at dksX7_grow_0 16 rfl rfl)
theorem dX7_grow_19 : decode cX7_grow 19 = .ok (.iload 7, 2) := dk_21 7 (dk_at dksX7_grow_0 19 rfl rfl)
theorem dX7_grow_21 : decode cX7_grow 21 = .ok (.iaload, 1) := dk_46 (dk_at dksX7_grow_0 21 rfl rfl)
theorem dX7_grow_22 : decode cX7_grow 22 = .ok (.i2l, 1) := dk_133 (dk_at dksX7_grow_0 22 rfl rfl)
theorem dX7_grow_23 : decode cX7_grow 23 = .ok (.ldc2_w 25, 3) := dk_20 0 25 (dk_at dksX7_grow_1 0 rfl rfl)
theorem dX7_grow_26 : decode cX7_grow 26 = .ok (.land, 1) := dk_127 (dk_at dksX7_grow_1 3 rfl rfl)
theorem dX7_grow_27 : decode cX7_grow 27 = .ok (.lload_n 1, 1) := dk_31 (dk_at dksX7_grow_1 4 rfl rfl)
theorem dX7_grow_28 : decode cX7_grow 28 = .ok (.lmul, 1) := dk_105 (dk_at dksX7_grow_1 5 rfl rfl)
theorem dX7_grow_29 : decode cX7_grow 29 = .ok (.lload 5, 2) := dk_22 5 (dk_at dksX7_grow_1 6 rfl rfl)
theorem dX7_grow_31 : decode cX7_grow 31 = .ok (.ladd, 1) := dk_97 (dk_at dksX7_grow_1 8 rfl rfl)
theorem dX7_grow_32 : decode cX7_grow 32 = .ok (.lstore 8, 2) := dk_55 8 (dk_at dksX7_grow_1 9 rfl rfl)
theorem dX7_grow_34 : decode cX7_grow 34 = .ok (.aload_n 0, 1) := dk_42 (dk_at dksX7_grow_1 11 rfl rfl)
theorem dX7_grow_35 : decode cX7_grow 35 = .ok (.getfield 9, 3) := dk_180 0 9 (dk_at dksX7_grow_1 12 rfl rfl)
theorem dX7_grow_38 : decode cX7_grow 38 = .ok (.iload 7, 2) := dk_21 7 (dk_at dksX7_grow_1 15 rfl rfl)
theorem dX7_grow_40 : decode cX7_grow 40 = .ok (.lload 8, 2) := dk_22 8 (dk_at dksX7_grow_1 17 rfl rfl)
theorem dX7_grow_42 : decode cX7_grow 42 = .ok (.l2i, 1) := dk_136 (dk_at dksX7_grow_1 19 rfl rfl)
theorem dX7_grow_43 : decode cX7_grow 43 = .ok (.iastore, 1) := dk_79 (dk_at dksX7_grow_1 20 rfl rfl)
theorem dX7_grow_44 : decode cX7_grow 44 = .ok (.lload 8, 2) := dk_22 8 (dk_at dksX7_grow_1 21 rfl rfl)
theorem dX7_grow_46 : decode cX7_grow 46 = .ok (.bipush 32, 2) := dk_16 32 (dk_at dksX7_grow_2 0 rfl rfl)
theorem dX7_grow_48 : decode cX7_grow 48 = .ok (.lushr, 1) := dk_125 (dk_at dksX7_grow_2 2 rfl rfl)
theorem dX7_grow_49 : decode cX7_grow 49 = .ok (.lstore 5, 2) := dk_55 5 (dk_at dksX7_grow_2 3 rfl rfl)
theorem dX7_grow_51 : decode cX7_grow 51 = .ok (.iinc 7 1, 3) := dk_132 7 1 (dk_at dksX7_grow_2 5 rfl rfl)
theorem dX7_grow_54 : decode cX7_grow 54 = .ok (.goto (-48), 3) := dk_167 255 208 (dk_at dksX7_grow_2 8 rfl rfl)
theorem dX7_grow_57 : decode cX7_grow 57 = .ok (.lload 5, 2) := dk_22 5 (dk_at dksX7_grow_2 11 rfl rfl)
theorem dX7_grow_59 : decode cX7_grow 59 = .ok (.lconst 0, 1) := dk_9 (dk_at dksX7_grow_2 13 rfl rfl)
theorem dX7_grow_60 : decode cX7_grow 60 = .ok (.lcmp, 1) := dk_148 (dk_at dksX7_grow_2 14 rfl rfl)
theorem dX7_grow_61 : decode cX7_grow 61 = .ok (.ifCond .le 10, 3) := dk_158 0 10 (dk_at dksX7_grow_2 15 rfl rfl)
theorem dX7_grow_64 : decode cX7_grow 64 = .ok (.aload_n 0, 1) := dk_42 (dk_at dksX7_grow_2 18 rfl rfl)
theorem dX7_grow_65 : decode cX7_grow 65 = .ok (.lload 5, 2) := dk_22 5 (dk_at dksX7_grow_2 19 rfl rfl)
theorem dX7_grow_67 : decode cX7_grow 67 = .ok (.l2i, 1) := dk_136 (dk_at dksX7_grow_2 21 rfl rfl)
theorem dX7_grow_68 : decode cX7_grow 68 = .ok (.invokevirtual 27, 3) := dk_182 0 27 (dk_at dksX7_grow_3 0 rfl rfl)
theorem dX7_grow_71 : decode cX7_grow 71 = .ok (.return_, 1) := dk_177 (dk_at dksX7_grow_3 3 rfl rfl)
abbrev cX7_add : ByteArray := prog_11_method_2_code
def yX7_add : MethodName := ⟨RX7, "add", "(I)V"⟩
def dkwX7_add_2 : List UInt8 := [180, 0, 15, 27, 79, 42, 89, 180, 0, 15, 4, 96, 181, 0, 15, 177]
abbrev dktX7_add_2 : List UInt8 := dkwX7_add_2 ++ []
def dkwX7_add_1 : List UInt8 := [180, 0, 9, 3, 44, 3, 42, 180, 0, 15, 184, 0, 19, 42, 44, 181, 0, 9, 42, 180, 0, 9, 42]
abbrev dktX7_add_1 : List UInt8 := dkwX7_add_1 ++ dktX7_add_2
def dkwX7_add_0 : List UInt8 := [42, 180, 0, 15, 42, 180, 0, 9, 190, 160, 0, 31, 5, 42, 180, 0, 15, 104, 188, 10, 77, 42]
abbrev dktX7_add_0 : List UInt8 := dkwX7_add_0 ++ dktX7_add_1
theorem dksX7_add_0 : cX7_add.data.toList.drop 0 = dktX7_add_0 := by decide +kernel
theorem dksX7_add_1 : cX7_add.data.toList.drop 22 = dktX7_add_1 := dk_seg dksX7_add_0 22 rfl rfl
theorem dksX7_add_2 : cX7_add.data.toList.drop 45 = dktX7_add_2 := dk_seg dksX7_add_1 23 rfl rfl
theorem dX7_add_0 : decode cX7_add 0 = .ok (.aload_n 0, 1) := dk_42 (dk_at dksX7_add_0 0 rfl rfl)
theorem dX7_add_1 : decode cX7_add 1 = .ok (.getfield 15, 3) := dk_180 0 15 (dk_at dksX7_add_0 1 rfl rfl)
theorem dX7_add_4 : decode cX7_add 4 = .ok (.aload_n 0, 1) := dk_42 (dk_at dksX7_add_0 4 rfl rfl)
theorem dX7_add_5 : decode cX7_add 5 = .ok (.getfield 9, 3) := dk_180 0 9 (dk_at dksX7_add_0 5 rfl rfl)
theorem dX7_add_8 : decode cX7_add 8 = .ok (.arraylength, 1) := dk_190 (dk_at dksX7_add_0 8 rfl rfl)
theorem dX7_add_9 : decode cX7_add 9 = .ok (.if_icmp .ne 31, 3) := dk_160 0 31 (dk_at dksX7_add_0 9 rfl rfl)
theorem dX7_add_12 : decode cX7_add 12 = .ok (.iconst 2, 1) := dk_5 (dk_at dksX7_add_0 12 rfl rfl)
theorem dX7_add_13 : decode cX7_add 13 = .ok (.aload_n 0, 1) := dk_42 (dk_at dksX7_add_0 13 rfl rfl)
theorem dX7_add_14 : decode cX7_add 14 = .ok (.getfield 15, 3) := dk_180 0 15 (dk_at dksX7_add_0 14 rfl rfl)
theorem dX7_add_17 : decode cX7_add 17 = .ok (.imul, 1) := dk_104 (dk_at dksX7_add_0 17 rfl rfl)
theorem dX7_add_18 : decode cX7_add 18 = .ok (.newarray .int, 2) := dk_188_10 (dk_at dksX7_add_0 18 rfl rfl)
theorem dX7_add_20 : decode cX7_add 20 = .ok (.astore_n 2, 1) := dk_77 (dk_at dksX7_add_0 20 rfl rfl)
theorem dX7_add_21 : decode cX7_add 21 = .ok (.aload_n 0, 1) := dk_42 (dk_at dksX7_add_0 21 rfl rfl)
theorem dX7_add_22 : decode cX7_add 22 = .ok (.getfield 9, 3) := dk_180 0 9 (dk_at dksX7_add_1 0 rfl rfl)
theorem dX7_add_25 : decode cX7_add 25 = .ok (.iconst 0, 1) := dk_3 (dk_at dksX7_add_1 3 rfl rfl)
theorem dX7_add_26 : decode cX7_add 26 = .ok (.aload_n 2, 1) := dk_44 (dk_at dksX7_add_1 4 rfl rfl)
theorem dX7_add_27 : decode cX7_add 27 = .ok (.iconst 0, 1) := dk_3 (dk_at dksX7_add_1 5 rfl rfl)
theorem dX7_add_28 : decode cX7_add 28 = .ok (.aload_n 0, 1) := dk_42 (dk_at dksX7_add_1 6 rfl rfl)
theorem dX7_add_29 : decode cX7_add 29 = .ok (.getfield 15, 3) := dk_180 0 15 (dk_at dksX7_add_1 7 rfl rfl)
theorem dX7_add_32 : decode cX7_add 32 = .ok (.invokestatic 19, 3) := dk_184 0 19 (dk_at dksX7_add_1 10 rfl rfl)
theorem dX7_add_35 : decode cX7_add 35 = .ok (.aload_n 0, 1) := dk_42 (dk_at dksX7_add_1 13 rfl rfl)
theorem dX7_add_36 : decode cX7_add 36 = .ok (.aload_n 2, 1) := dk_44 (dk_at dksX7_add_1 14 rfl rfl)
theorem dX7_add_37 : decode cX7_add 37 = .ok (.putfield 9, 3) := dk_181 0 9 (dk_at dksX7_add_1 15 rfl rfl)
theorem dX7_add_40 : decode cX7_add 40 = .ok (.aload_n 0, 1) := dk_42 (dk_at dksX7_add_1 18 rfl rfl)
theorem dX7_add_41 : decode cX7_add 41 = .ok (.getfield 9, 3) := dk_180 0 9 (dk_at dksX7_add_1 19 rfl rfl)
theorem dX7_add_44 : decode cX7_add 44 = .ok (.aload_n 0, 1) := dk_42 (dk_at dksX7_add_1 22 rfl rfl)
theorem dX7_add_45 : decode cX7_add 45 = .ok (.getfield 15, 3) := dk_180 0 15 (dk_at dksX7_add_2 0 rfl rfl)
theorem dX7_add_48 : decode cX7_add 48 = .ok (.iload_n 1, 1) := dk_27 (dk_at dksX7_add_2 3 rfl rfl)
theorem dX7_add_49 : decode cX7_add 49 = .ok (.iastore, 1) := dk_79 (dk_at dksX7_add_2 4 rfl rfl)
theorem dX7_add_50 : decode cX7_add 50 = .ok (.aload_n 0, 1) := dk_42 (dk_at dksX7_add_2 5 rfl rfl)
theorem dX7_add_51 : decode cX7_add 51 = .ok (.dup, 1) := dk_89 (dk_at dksX7_add_2 6 rfl rfl)
theorem dX7_add_52 : decode cX7_add 52 = .ok (.getfield 15, 3) := dk_180 0 15 (dk_at dksX7_add_2 7 rfl rfl)
theorem dX7_add_55 : decode cX7_add 55 = .ok (.iconst 1, 1) := dk_4 (dk_at dksX7_add_2 10 rfl rfl)
theorem dX7_add_56 : decode cX7_add 56 = .ok (.iadd, 1) := dk_96 (dk_at dksX7_add_2 11 rfl rfl)
theorem dX7_add_57 : decode cX7_add 57 = .ok (.putfield 15, 3) := dk_181 0 15 (dk_at dksX7_add_2 12 rfl rfl)
theorem dX7_add_60 : decode cX7_add 60 = .ok (.return_, 1) := dk_177 (dk_at dksX7_add_2 15 rfl rfl)
abbrev cX7_write : ByteArray := prog_11_method_8_code
def yX7_write : MethodName := ⟨RX7, "write", "(ZLSchemaWorkshop$Bytes;)V"⟩
def dkwX7_write_9 : List UInt8 := [182, 0, 56, 177]
abbrev dktX7_write_9 : List UInt8 := dkwX7_write_9 ++ []
def dkwX7_write_8 : List UInt8 := [21, 5, 4, 96, 182, 0, 33, 182, 0, 52, 132, 5, 1, 167, 255, 228, 44, 44, 182, 0, 48, 4, 100]
abbrev dktX7_write_8 : List UInt8 := dkwX7_write_8 ++ dktX7_write_9
def dkwX7_write_7 : List UInt8 := [16, 127, 164, 0, 48, 21, 4, 54, 5, 21, 5, 4, 96, 44, 182, 0, 48, 162, 0, 23, 44, 21, 5, 44]
abbrev dktX7_write_7 : List UInt8 := dkwX7_write_7 ++ dktX7_write_8
def dkwX7_write_6 : List UInt8 := [161, 0, 28, 44, 21, 4, 182, 0, 33, 17, 0, 255, 160, 0, 61, 44, 21, 4, 4, 96, 182, 0, 33]
abbrev dktX7_write_6 : List UInt8 := dkwX7_write_6 ++ dktX7_write_7
def dkwX7_write_5 : List UInt8 := [29, 158, 0, 96, 44, 21, 4, 182, 0, 33, 154, 0, 17, 44, 21, 4, 4, 96, 182, 0, 33, 17, 0, 128]
abbrev dktX7_write_5 : List UInt8 := dkwX7_write_5 ++ dktX7_write_6
def dkwX7_write_4 : List UInt8 := [21, 6, 21, 7, 17, 0, 255, 126, 182, 0, 52, 21, 7, 16, 8, 122, 54, 5, 132, 6, 255, 167, 255, 212]
abbrev dktX7_write_4 : List UInt8 := dkwX7_write_4 ++ dktX7_write_5
def dkwX7_write_3 : List UInt8 := [21, 6, 21, 4, 161, 0, 43, 17, 0, 255, 44, 21, 6, 182, 0, 33, 100, 21, 5, 96, 54, 7, 44]
abbrev dktX7_write_3 : List UInt8 := dkwX7_write_3 ++ dktX7_write_4
def dkwX7_write_2 : List UInt8 := [182, 0, 51, 132, 5, 255, 167, 255, 238, 27, 153, 0, 61, 4, 54, 5, 44, 182, 0, 48, 4, 100, 54, 6]
abbrev dktX7_write_2 : List UInt8 := dkwX7_write_2 ++ dktX7_write_3
def dkwX7_write_1 : List UInt8 := [167, 255, 239, 44, 182, 0, 48, 54, 4, 29, 54, 5, 21, 5, 155, 0, 19, 44, 42, 21, 5, 182, 0, 45]
abbrev dktX7_write_1 : List UInt8 := dkwX7_write_1 ++ dktX7_write_2
def dkwX7_write_0 : List UInt8 := [7, 42, 180, 0, 15, 104, 62, 29, 158, 0, 19, 42, 29, 4, 100, 182, 0, 45, 154, 0, 9, 132, 3, 255]
abbrev dktX7_write_0 : List UInt8 := dkwX7_write_0 ++ dktX7_write_1
theorem dksX7_write_0 : cX7_write.data.toList.drop 0 = dktX7_write_0 := by decide +kernel
theorem dksX7_write_1 : cX7_write.data.toList.drop 24 = dktX7_write_1 := dk_seg dksX7_write_0 24 rfl rfl
theorem dksX7_write_2 : cX7_write.data.toList.drop 48 = dktX7_write_2 := dk_seg dksX7_write_1 24 rfl rfl
theorem dksX7_write_3 : cX7_write.data.toList.drop 72 = dktX7_write_3 := dk_seg dksX7_write_2 24 rfl rfl
theorem dksX7_write_4 : cX7_write.data.toList.drop 95 = dktX7_write_4 := dk_seg dksX7_write_3 23 rfl rfl
theorem dksX7_write_5 : cX7_write.data.toList.drop 119 = dktX7_write_5 := dk_seg dksX7_write_4 24 rfl rfl
theorem dksX7_write_6 : cX7_write.data.toList.drop 143 = dktX7_write_6 := dk_seg dksX7_write_5 24 rfl rfl
theorem dksX7_write_7 : cX7_write.data.toList.drop 166 = dktX7_write_7 := dk_seg dksX7_write_6 23 rfl rfl
theorem dksX7_write_8 : cX7_write.data.toList.drop 190 = dktX7_write_8 := dk_seg dksX7_write_7 24 rfl rfl
theorem dksX7_write_9 : cX7_write.data.toList.drop 213 = dktX7_write_9 := dk_seg dksX7_write_8 23 rfl rfl
theorem dX7_write_0 : decode cX7_write 0 = .ok (.iconst 4, 1) := dk_7 (dk_at dksX7_write_0 0 rfl rfl)
theorem dX7_write_1 : decode cX7_write 1 = .ok (.aload_n 0, 1) := dk_42 (dk_at dksX7_write_0 1 rfl rfl)
theorem dX7_write_2 : decode cX7_write 2 = .ok (.getfield 15, 3) := dk_180 0 15 (dk_at dksX7_write_0 2 rfl rfl)
theorem dX7_write_5 : decode cX7_write 5 = .ok (.imul, 1) := dk_104 (dk_at dksX7_write_0 5 rfl rfl)
theorem dX7_write_6 : decode cX7_write 6 = .ok (.istore_n 3, 1) := dk_62 (dk_at dksX7_write_0 6 rfl rfl)
theorem dX7_write_7 : decode cX7_write 7 = .ok (.iload_n 3, 1) := dk_29 (dk_at dksX7_write_0 7 rfl rfl)
theorem dX7_write_8 : decode cX7_write 8 = .ok (.ifCond .le 19, 3) := dk_158 0 19 (dk_at dksX7_write_0 8 rfl rfl)
theorem dX7_write_11 : decode cX7_write 11 = .ok (.aload_n 0, 1) := dk_42 (dk_at dksX7_write_0 11 rfl rfl)
theorem dX7_write_12 : decode cX7_write 12 = .ok (.iload_n 3, 1) := dk_29 (dk_at dksX7_write_0 12 rfl rfl)
theorem dX7_write_13 : decode cX7_write 13 = .ok (.iconst 1, 1) := dk_4 (dk_at dksX7_write_0 13 rfl rfl)
theorem dX7_write_14 : decode cX7_write 14 = .ok (.isub, 1) := dk_100 (dk_at dksX7_write_0 14 rfl rfl)
theorem dX7_write_15 : decode cX7_write 15 = .ok (.invokevirtual 45, 3) := dk_182 0 45 (dk_at dksX7_write_0 15 rfl rfl)
theorem dX7_write_18 : decode cX7_write 18 = .ok (.ifCond .ne 9, 3) := dk_154 0 9 (dk_at dksX7_write_0 18 rfl rfl)
theorem dX7_write_21 : decode cX7_write 21 = .ok (.iinc 3 (-1), 3) := dk_132 3 255 (dk_at dksX7_write_0 21 rfl rfl)
theorem dX7_write_24 : decode cX7_write 24 = .ok (.goto (-17), 3) := dk_167 255 239 (dk_at dksX7_write_1 0 rfl rfl)
theorem dX7_write_27 : decode cX7_write 27 = .ok (.aload_n 2, 1) := dk_44 (dk_at dksX7_write_1 3 rfl rfl)
theorem dX7_write_28 : decode cX7_write 28 = .ok (.invokevirtual 48, 3) := dk_182 0 48 (dk_at dksX7_write_1 4 rfl rfl)
theorem dX7_write_31 : decode cX7_write 31 = .ok (.istore 4, 2) := dk_54 4 (dk_at dksX7_write_1 7 rfl rfl)
theorem dX7_write_33 : decode cX7_write 33 = .ok (.iload_n 3, 1) := dk_29 (dk_at dksX7_write_1 9 rfl rfl)
theorem dX7_write_34 : decode cX7_write 34 = .ok (.istore 5, 2) := dk_54 5 (dk_at dksX7_write_1 10 rfl rfl)
theorem dX7_write_36 : decode cX7_write 36 = .ok (.iload 5, 2) := dk_21 5 (dk_at dksX7_write_1 12 rfl rfl)
theorem dX7_write_38 : decode cX7_write 38 = .ok (.ifCond .lt 19, 3) := dk_155 0 19 (dk_at dksX7_write_1 14 rfl rfl)
theorem dX7_write_41 : decode cX7_write 41 = .ok (.aload_n 2, 1) := dk_44 (dk_at dksX7_write_1 17 rfl rfl)
theorem dX7_write_42 : decode cX7_write 42 = .ok (.aload_n 0, 1) := dk_42 (dk_at dksX7_write_1 18 rfl rfl)
theorem dX7_write_43 : decode cX7_write 43 = .ok (.iload 5, 2) := dk_21 5 (dk_at dksX7_write_1 19 rfl rfl)
theorem dX7_write_45 : decode cX7_write 45 = .ok (.invokevirtual 45, 3) := dk_182 0 45 (dk_at dksX7_write_1 21 rfl rfl)
theorem dX7_write_48 : decode cX7_write 48 = .ok (.invokevirtual 51, 3) := dk_182 0 51 (dk_at dksX7_write_2 0 rfl rfl)
theorem dX7_write_51 : decode cX7_write 51 = .ok (.iinc 5 (-1), 3) := dk_132 5 255 (dk_at dksX7_write_2 3 rfl rfl)
theorem dX7_write_54 : decode cX7_write 54 = .ok (.goto (-18), 3) := dk_167 255 238 (dk_at dksX7_write_2 6 rfl rfl)
theorem dX7_write_57 : decode cX7_write 57 = .ok (.iload_n 1, 1) := dk_27 (dk_at dksX7_write_2 9 rfl rfl)
theorem dX7_write_58 : decode cX7_write 58 = .ok (.ifCond .eq 61, 3) := dk_153 0 61 (dk_at dksX7_write_2 10 rfl rfl)
theorem dX7_write_61 : decode cX7_write 61 = .ok (.iconst 1, 1) := dk_4 (dk_at dksX7_write_2 13 rfl rfl)
theorem dX7_write_62 : decode cX7_write 62 = .ok (.istore 5, 2) := dk_54 5 (dk_at dksX7_write_2 14 rfl rfl)
theorem dX7_write_64 : decode cX7_write 64 = .ok (.aload_n 2, 1) := dk_44 (dk_at dksX7_write_2 16 rfl rfl)
theorem dX7_write_65 : decode cX7_write 65 = .ok (.invokevirtual 48, 3) := dk_182 0 48 (dk_at dksX7_write_2 17 rfl rfl)
theorem dX7_write_68 : decode cX7_write 68 = .ok (.iconst 1, 1) := dk_4 (dk_at dksX7_write_2 20 rfl rfl)
theorem dX7_write_69 : decode cX7_write 69 = .ok (.isub, 1) := dk_100 (dk_at dksX7_write_2 21 rfl rfl)
theorem dX7_write_70 : decode cX7_write 70 = .ok (.istore 6, 2) := dk_54 6 (dk_at dksX7_write_2 22 rfl rfl)
theorem dX7_write_72 : decode cX7_write 72 = .ok (.iload 6, 2) := dk_21 6 (dk_at dksX7_write_3 0 rfl rfl)
theorem dX7_write_74 : decode cX7_write 74 = .ok (.iload 4, 2) := dk_21 4 (dk_at dksX7_write_3 2 rfl rfl)
theorem dX7_write_76 : decode cX7_write 76 = .ok (.if_icmp .lt 43, 3) := dk_161 0 43 (dk_at dksX7_write_3 4 rfl rfl)
theorem dX7_write_79 : decode cX7_write 79 = .ok (.sipush 255, 3) := dk_17 0 255 (dk_at dksX7_write_3 7 rfl rfl)
theorem dX7_write_82 : decode cX7_write 82 = .ok (.aload_n 2, 1) := dk_44 (dk_at dksX7_write_3 10 rfl rfl)
theorem dX7_write_83 : decode cX7_write 83 = .ok (.iload 6, 2) := dk_21 6 (dk_at dksX7_write_3 11 rfl rfl)
theorem dX7_write_85 : decode cX7_write 85 = .ok (.invokevirtual 33, 3) := dk_182 0 33 (dk_at dksX7_write_3 13 rfl rfl)
theorem dX7_write_88 : decode cX7_write 88 = .ok (.isub, 1) := dk_100 (dk_at dksX7_write_3 16 rfl rfl)
theorem dX7_write_89 : decode cX7_write 89 = .ok (.iload 5, 2) := dk_21 5 (dk_at dksX7_write_3 17 rfl rfl)
theorem dX7_write_91 : decode cX7_write 91 = .ok (.iadd, 1) := dk_96 (dk_at dksX7_write_3 19 rfl rfl)
theorem dX7_write_92 : decode cX7_write 92 = .ok (.istore 7, 2) := dk_54 7 (dk_at dksX7_write_3 20 rfl rfl)
theorem dX7_write_94 : decode cX7_write 94 = .ok (.aload_n 2, 1) := dk_44 (dk_at dksX7_write_3 22 rfl rfl)
theorem dX7_write_95 : decode cX7_write 95 = .ok (.iload 6, 2) := dk_21 6 (dk_at dksX7_write_4 0 rfl rfl)
theorem dX7_write_97 : decode cX7_write 97 = .ok (.iload 7, 2) := dk_21 7 (dk_at dksX7_write_4 2 rfl rfl)
theorem dX7_write_99 : decode cX7_write 99 = .ok (.sipush 255, 3) := dk_17 0 255 (dk_at dksX7_write_4 4 rfl rfl)
theorem dX7_write_102 : decode cX7_write 102 = .ok (.iand, 1) := dk_126 (dk_at dksX7_write_4 7 rfl rfl)
theorem dX7_write_103 : decode cX7_write 103 = .ok (.invokevirtual 52, 3) := dk_182 0 52 (dk_at dksX7_write_4 8 rfl rfl)
theorem dX7_write_106 : decode cX7_write 106 = .ok (.iload 7, 2) := dk_21 7 (dk_at dksX7_write_4 11 rfl rfl)
theorem dX7_write_108 : decode cX7_write 108 = .ok (.bipush 8, 2) := dk_16 8 (dk_at dksX7_write_4 13 rfl rfl)
theorem dX7_write_110 : decode cX7_write 110 = .ok (.ishr, 1) := dk_122 (dk_at dksX7_write_4 15 rfl rfl)
theorem dX7_write_111 : decode cX7_write 111 = .ok (.istore 5, 2) := dk_54 5 (dk_at dksX7_write_4 16 rfl rfl)
theorem dX7_write_113 : decode cX7_write 113 = .ok (.iinc 6 (-1), 3) := dk_132 6 255 (dk_at dksX7_write_4 18 rfl rfl)
theorem dX7_write_116 : decode cX7_write 116 = .ok (.goto (-44), 3) := dk_167 255 212 (dk_at dksX7_write_4 21 rfl rfl)
theorem dX7_write_119 : decode cX7_write 119 = .ok (.iload_n 3, 1) := dk_29 (dk_at dksX7_write_5 0 rfl rfl)
theorem dX7_write_120 : decode cX7_write 120 = .ok (.ifCond .le 96, 3) := dk_158 0 96 (dk_at dksX7_write_5 1 rfl rfl)
theorem dX7_write_123 : decode cX7_write 123 = .ok (.aload_n 2, 1) := dk_44 (dk_at dksX7_write_5 4 rfl rfl)
theorem dX7_write_124 : decode cX7_write 124 = .ok (.iload 4, 2) := dk_21 4 (dk_at dksX7_write_5 5 rfl rfl)
theorem dX7_write_126 : decode cX7_write 126 = .ok (.invokevirtual 33, 3) := dk_182 0 33 (dk_at dksX7_write_5 7 rfl rfl)
theorem dX7_write_129 : decode cX7_write 129 = .ok (.ifCond .ne 17, 3) := dk_154 0 17 (dk_at dksX7_write_5 10 rfl rfl)
theorem dX7_write_132 : decode cX7_write 132 = .ok (.aload_n 2, 1) := dk_44 (dk_at dksX7_write_5 13 rfl rfl)
theorem dX7_write_133 : decode cX7_write 133 = .ok (.iload 4, 2) := dk_21 4 (dk_at dksX7_write_5 14 rfl rfl)
theorem dX7_write_135 : decode cX7_write 135 = .ok (.iconst 1, 1) := dk_4 (dk_at dksX7_write_5 16 rfl rfl)
theorem dX7_write_136 : decode cX7_write 136 = .ok (.iadd, 1) := dk_96 (dk_at dksX7_write_5 17 rfl rfl)
theorem dX7_write_137 : decode cX7_write 137 = .ok (.invokevirtual 33, 3) := dk_182 0 33 (dk_at dksX7_write_5 18 rfl rfl)
theorem dX7_write_140 : decode cX7_write 140 = .ok (.sipush 128, 3) := dk_17 0 128 (dk_at dksX7_write_5 21 rfl rfl)
theorem dX7_write_143 : decode cX7_write 143 = .ok (.if_icmp .lt 28, 3) := dk_161 0 28 (dk_at dksX7_write_6 0 rfl rfl)
theorem dX7_write_146 : decode cX7_write 146 = .ok (.aload_n 2, 1) := dk_44 (dk_at dksX7_write_6 3 rfl rfl)
theorem dX7_write_147 : decode cX7_write 147 = .ok (.iload 4, 2) := dk_21 4 (dk_at dksX7_write_6 4 rfl rfl)
theorem dX7_write_149 : decode cX7_write 149 = .ok (.invokevirtual 33, 3) := dk_182 0 33 (dk_at dksX7_write_6 6 rfl rfl)
theorem dX7_write_152 : decode cX7_write 152 = .ok (.sipush 255, 3) := dk_17 0 255 (dk_at dksX7_write_6 9 rfl rfl)
theorem dX7_write_155 : decode cX7_write 155 = .ok (.if_icmp .ne 61, 3) := dk_160 0 61 (dk_at dksX7_write_6 12 rfl rfl)
theorem dX7_write_158 : decode cX7_write 158 = .ok (.aload_n 2, 1) := dk_44 (dk_at dksX7_write_6 15 rfl rfl)
theorem dX7_write_159 : decode cX7_write 159 = .ok (.iload 4, 2) := dk_21 4 (dk_at dksX7_write_6 16 rfl rfl)
theorem dX7_write_161 : decode cX7_write 161 = .ok (.iconst 1, 1) := dk_4 (dk_at dksX7_write_6 18 rfl rfl)
theorem dX7_write_162 : decode cX7_write 162 = .ok (.iadd, 1) := dk_96 (dk_at dksX7_write_6 19 rfl rfl)
theorem dX7_write_163 : decode cX7_write 163 = .ok (.invokevirtual 33, 3) := dk_182 0 33 (dk_at dksX7_write_6 20 rfl rfl)
theorem dX7_write_166 : decode cX7_write 166 = .ok (.bipush 127, 2) := dk_16 127 (dk_at dksX7_write_7 0 rfl rfl)
theorem dX7_write_168 : decode cX7_write 168 = .ok (.if_icmp .le 48, 3) := dk_164 0 48 (dk_at dksX7_write_7 2 rfl rfl)
theorem dX7_write_171 : decode cX7_write 171 = .ok (.iload 4, 2) := dk_21 4 (dk_at dksX7_write_7 5 rfl rfl)
theorem dX7_write_173 : decode cX7_write 173 = .ok (.istore 5, 2) := dk_54 5 (dk_at dksX7_write_7 7 rfl rfl)
theorem dX7_write_175 : decode cX7_write 175 = .ok (.iload 5, 2) := dk_21 5 (dk_at dksX7_write_7 9 rfl rfl)
theorem dX7_write_177 : decode cX7_write 177 = .ok (.iconst 1, 1) := dk_4 (dk_at dksX7_write_7 11 rfl rfl)
theorem dX7_write_178 : decode cX7_write 178 = .ok (.iadd, 1) := dk_96 (dk_at dksX7_write_7 12 rfl rfl)
theorem dX7_write_179 : decode cX7_write 179 = .ok (.aload_n 2, 1) := dk_44 (dk_at dksX7_write_7 13 rfl rfl)
theorem dX7_write_180 : decode cX7_write 180 = .ok (.invokevirtual 48, 3) := dk_182 0 48 (dk_at dksX7_write_7 14 rfl rfl)
theorem dX7_write_183 : decode cX7_write 183 = .ok (.if_icmp .ge 23, 3) := dk_162 0 23 (dk_at dksX7_write_7 17 rfl rfl)
theorem dX7_write_186 : decode cX7_write 186 = .ok (.aload_n 2, 1) := dk_44 (dk_at dksX7_write_7 20 rfl rfl)
theorem dX7_write_187 : decode cX7_write 187 = .ok (.iload 5, 2) := dk_21 5 (dk_at dksX7_write_7 21 rfl rfl)
theorem dX7_write_189 : decode cX7_write 189 = .ok (.aload_n 2, 1) := dk_44 (dk_at dksX7_write_7 23 rfl rfl)
theorem dX7_write_190 : decode cX7_write 190 = .ok (.iload 5, 2) := dk_21 5 (dk_at dksX7_write_8 0 rfl rfl)
theorem dX7_write_192 : decode cX7_write 192 = .ok (.iconst 1, 1) := dk_4 (dk_at dksX7_write_8 2 rfl rfl)
theorem dX7_write_193 : decode cX7_write 193 = .ok (.iadd, 1) := dk_96 (dk_at dksX7_write_8 3 rfl rfl)
theorem dX7_write_194 : decode cX7_write 194 = .ok (.invokevirtual 33, 3) := dk_182 0 33 (dk_at dksX7_write_8 4 rfl rfl)
theorem dX7_write_197 : decode cX7_write 197 = .ok (.invokevirtual 52, 3) := dk_182 0 52 (dk_at dksX7_write_8 7 rfl rfl)
theorem dX7_write_200 : decode cX7_write 200 = .ok (.iinc 5 1, 3) := dk_132 5 1 (dk_at dksX7_write_8 10 rfl rfl)
theorem dX7_write_203 : decode cX7_write 203 = .ok (.goto (-28), 3) := dk_167 255 228 (dk_at dksX7_write_8 13 rfl rfl)
theorem dX7_write_206 : decode cX7_write 206 = .ok (.aload_n 2, 1) := dk_44 (dk_at dksX7_write_8 16 rfl rfl)
theorem dX7_write_207 : decode cX7_write 207 = .ok (.aload_n 2, 1) := dk_44 (dk_at dksX7_write_8 17 rfl rfl)
theorem dX7_write_208 : decode cX7_write 208 = .ok (.invokevirtual 48, 3) := dk_182 0 48 (dk_at dksX7_write_8 18 rfl rfl)
theorem dX7_write_211 : decode cX7_write 211 = .ok (.iconst 1, 1) := dk_4 (dk_at dksX7_write_8 21 rfl rfl)
theorem dX7_write_212 : decode cX7_write 212 = .ok (.isub, 1) := dk_100 (dk_at dksX7_write_8 22 rfl rfl)
theorem dX7_write_213 : decode cX7_write 213 = .ok (.invokevirtual 56, 3) := dk_182 0 56 (dk_at dksX7_write_9 0 rfl rfl)
theorem dX7_write_216 : decode cX7_write 216 = .ok (.return_, 1) := dk_177 (dk_at dksX7_write_9 3 rfl rfl)
abbrev cX7_byteOf : ByteArray := prog_11_method_7_code
def yX7_byteOf : MethodName := ⟨RX7, "byteOf", "(I)I"⟩
def dkwX7_byteOf_1 : List UInt8 := [122, 17, 0, 255, 126, 167, 0, 4, 3, 172]
abbrev dktX7_byteOf_1 : List UInt8 := dkwX7_byteOf_1 ++ []
def dkwX7_byteOf_0 : List UInt8 := [27, 7, 108, 42, 180, 0, 15, 162, 0, 25, 42, 180, 0, 9, 27, 7, 108, 46, 16, 8, 27, 7, 112, 104]
abbrev dktX7_byteOf_0 : List UInt8 := dkwX7_byteOf_0 ++ dktX7_byteOf_1
theorem dksX7_byteOf_0 : cX7_byteOf.data.toList.drop 0 = dktX7_byteOf_0 := by decide +kernel
theorem dksX7_byteOf_1 : cX7_byteOf.data.toList.drop 24 = dktX7_byteOf_1 := dk_seg dksX7_byteOf_0 24 rfl rfl
theorem dX7_byteOf_0 : decode cX7_byteOf 0 = .ok (.iload_n 1, 1) := dk_27 (dk_at dksX7_byteOf_0 0 rfl rfl)
theorem dX7_byteOf_1 : decode cX7_byteOf 1 = .ok (.iconst 4, 1) := dk_7 (dk_at dksX7_byteOf_0 1 rfl rfl)
theorem dX7_byteOf_2 : decode cX7_byteOf 2 = .ok (.idiv, 1) := dk_108 (dk_at dksX7_byteOf_0 2 rfl rfl)
theorem dX7_byteOf_3 : decode cX7_byteOf 3 = .ok (.aload_n 0, 1) := dk_42 (dk_at dksX7_byteOf_0 3 rfl rfl)
theorem dX7_byteOf_4 : decode cX7_byteOf 4 = .ok (.getfield 15, 3) := dk_180 0 15 (dk_at dksX7_byteOf_0 4 rfl rfl)
theorem dX7_byteOf_7 : decode cX7_byteOf 7 = .ok (.if_icmp .ge 25, 3) := dk_162 0 25 (dk_at dksX7_byteOf_0 7 rfl rfl)
theorem dX7_byteOf_10 : decode cX7_byteOf 10 = .ok (.aload_n 0, 1) := dk_42 (dk_at dksX7_byteOf_0 10 rfl rfl)
theorem dX7_byteOf_11 : decode cX7_byteOf 11 = .ok (.getfield 9, 3) := dk_180 0 9 (dk_at dksX7_byteOf_0 11 rfl rfl)
theorem dX7_byteOf_14 : decode cX7_byteOf 14 = .ok (.iload_n 1, 1) := dk_27 (dk_at dksX7_byteOf_0 14 rfl rfl)
theorem dX7_byteOf_15 : decode cX7_byteOf 15 = .ok (.iconst 4, 1) := dk_7 (dk_at dksX7_byteOf_0 15 rfl rfl)
theorem dX7_byteOf_16 : decode cX7_byteOf 16 = .ok (.idiv, 1) := dk_108 (dk_at dksX7_byteOf_0 16 rfl rfl)
theorem dX7_byteOf_17 : decode cX7_byteOf 17 = .ok (.iaload, 1) := dk_46 (dk_at dksX7_byteOf_0 17 rfl rfl)
theorem dX7_byteOf_18 : decode cX7_byteOf 18 = .ok (.bipush 8, 2) := dk_16 8 (dk_at dksX7_byteOf_0 18 rfl rfl)
theorem dX7_byteOf_20 : decode cX7_byteOf 20 = .ok (.iload_n 1, 1) := dk_27 (dk_at dksX7_byteOf_0 20 rfl rfl)
theorem dX7_byteOf_21 : decode cX7_byteOf 21 = .ok (.iconst 4, 1) := dk_7 (dk_at dksX7_byteOf_0 21 rfl rfl)
theorem dX7_byteOf_22 : decode cX7_byteOf 22 = .ok (.irem, 1) := dk_112 (dk_at dksX7_byteOf_0 22 rfl rfl)
theorem dX7_byteOf_23 : decode cX7_byteOf 23 = .ok (.imul, 1) := dk_104 (dk_at dksX7_byteOf_0 23 rfl rfl)
theorem dX7_byteOf_24 : decode cX7_byteOf 24 = .ok (.ishr, 1) := dk_122 (dk_at dksX7_byteOf_1 0 rfl rfl)
theorem dX7_byteOf_25 : decode cX7_byteOf 25 = .ok (.sipush 255, 3) := dk_17 0 255 (dk_at dksX7_byteOf_1 1 rfl rfl)
theorem dX7_byteOf_28 : decode cX7_byteOf 28 = .ok (.iand, 1) := dk_126 (dk_at dksX7_byteOf_1 4 rfl rfl)
theorem dX7_byteOf_29 : decode cX7_byteOf 29 = .ok (.goto 4, 3) := dk_167 0 4 (dk_at dksX7_byteOf_1 5 rfl rfl)
theorem dX7_byteOf_32 : decode cX7_byteOf 32 = .ok (.iconst 0, 1) := dk_3 (dk_at dksX7_byteOf_1 8 rfl rfl)
theorem dX7_byteOf_33 : decode cX7_byteOf 33 = .ok (.ireturn, 1) := dk_172 (dk_at dksX7_byteOf_1 9 rfl rfl)
abbrev cX7_set : ByteArray := prog_11_method_5_code
def yX7_set : MethodName := ⟨RX7, "set", "(I)V"⟩
def dkwX7_set_0 : List UInt8 := [42, 3, 181, 0, 15, 27, 153, 0, 8, 42, 27, 182, 0, 27, 177]
abbrev dktX7_set_0 : List UInt8 := dkwX7_set_0 ++ []
theorem dksX7_set_0 : cX7_set.data.toList.drop 0 = dktX7_set_0 := by decide +kernel
theorem dX7_set_0 : decode cX7_set 0 = .ok (.aload_n 0, 1) := dk_42 (dk_at dksX7_set_0 0 rfl rfl)
theorem dX7_set_1 : decode cX7_set 1 = .ok (.iconst 0, 1) := dk_3 (dk_at dksX7_set_0 1 rfl rfl)
theorem dX7_set_2 : decode cX7_set 2 = .ok (.putfield 15, 3) := dk_181 0 15 (dk_at dksX7_set_0 2 rfl rfl)
theorem dX7_set_5 : decode cX7_set 5 = .ok (.iload_n 1, 1) := dk_27 (dk_at dksX7_set_0 5 rfl rfl)
theorem dX7_set_6 : decode cX7_set 6 = .ok (.ifCond .eq 8, 3) := dk_153 0 8 (dk_at dksX7_set_0 6 rfl rfl)
theorem dX7_set_9 : decode cX7_set 9 = .ok (.aload_n 0, 1) := dk_42 (dk_at dksX7_set_0 9 rfl rfl)
theorem dX7_set_10 : decode cX7_set 10 = .ok (.iload_n 1, 1) := dk_27 (dk_at dksX7_set_0 10 rfl rfl)
theorem dX7_set_11 : decode cX7_set 11 = .ok (.invokevirtual 27, 3) := dk_182 0 27 (dk_at dksX7_set_0 11 rfl rfl)
theorem dX7_set_14 : decode cX7_set 14 = .ok (.return_, 1) := dk_177 (dk_at dksX7_set_0 14 rfl rfl)
abbrev cX7_compare : ByteArray := prog_11_method_13_code
def yX7_compare : MethodName := ⟨RX7, "compare", "(LSchemaWorkshop$Bytes;IILSchemaWorkshop$Bytes;II)I"⟩
def dkwX7_compare_4 : List UInt8 := [21, 4, 21, 5, 182, 0, 68, 172]
abbrev dktX7_compare_4 : List UInt8 := dkwX7_compare_4 ++ []
def dkwX7_compare_3 : List UInt8 := [162, 0, 7, 4, 167, 0, 4, 3, 21, 6, 160, 0, 7, 4, 167, 0, 4, 2, 172, 42, 27, 28, 45]
abbrev dktX7_compare_3 : List UInt8 := dkwX7_compare_3 ++ dktX7_compare_4
def dkwX7_compare_2 : List UInt8 := [167, 0, 4, 4, 172, 28, 27, 100, 21, 5, 21, 4, 100, 159, 0, 30, 28, 27, 100, 21, 5, 21, 4, 100]
abbrev dktX7_compare_2 : List UInt8 := dkwX7_compare_2 ++ dktX7_compare_3
def dkwX7_compare_1 : List UInt8 := [182, 0, 33, 16, 127, 164, 0, 7, 4, 167, 0, 4, 3, 159, 0, 14, 21, 6, 153, 0, 7, 2]
abbrev dktX7_compare_1 : List UInt8 := dkwX7_compare_1 ++ dktX7_compare_2
def dkwX7_compare_0 : List UInt8 := [42, 27, 182, 0, 33, 16, 127, 164, 0, 7, 4, 167, 0, 4, 3, 54, 6, 21, 6, 45, 21, 4]
abbrev dktX7_compare_0 : List UInt8 := dkwX7_compare_0 ++ dktX7_compare_1
theorem dksX7_compare_0 : cX7_compare.data.toList.drop 0 = dktX7_compare_0 := by decide +kernel
theorem dksX7_compare_1 : cX7_compare.data.toList.drop 22 = dktX7_compare_1 := dk_seg dksX7_compare_0 22 rfl rfl
theorem dksX7_compare_2 : cX7_compare.data.toList.drop 44 = dktX7_compare_2 := dk_seg dksX7_compare_1 22 rfl rfl
theorem dksX7_compare_3 : cX7_compare.data.toList.drop 68 = dktX7_compare_3 := dk_seg dksX7_compare_2 24 rfl rfl
theorem dksX7_compare_4 : cX7_compare.data.toList.drop 91 = dktX7_compare_4 := dk_seg dksX7_compare_3 23 rfl rfl
theorem dX7_compare_0 : decode cX7_compare 0 = .ok (.aload_n 0, 1) := dk_42 (dk_at dksX7_compare_0 0 rfl rfl)
theorem dX7_compare_1 : decode cX7_compare 1 = .ok (.iload_n 1, 1) := dk_27 (dk_at dksX7_compare_0 1 rfl rfl)
theorem dX7_compare_2 : decode cX7_compare 2 = .ok (.invokevirtual 33, 3) := dk_182 0 33 (dk_at dksX7_compare_0 2 rfl rfl)
theorem dX7_compare_5 : decode cX7_compare 5 = .ok (.bipush 127, 2) := dk_16 127 (dk_at dksX7_compare_0 5 rfl rfl)
theorem dX7_compare_7 : decode cX7_compare 7 = .ok (.if_icmp .le 7, 3) := dk_164 0 7 (dk_at dksX7_compare_0 7 rfl rfl)
theorem dX7_compare_10 : decode cX7_compare 10 = .ok (.iconst 1, 1) := dk_4 (dk_at dksX7_compare_0 10 rfl rfl)
theorem dX7_compare_11 : decode cX7_compare 11 = .ok (.goto 4, 3) := dk_167 0 4 (dk_at dksX7_compare_0 11 rfl rfl)
theorem dX7_compare_14 : decode cX7_compare 14 = .ok (.iconst 0, 1) := dk_3 (dk_at dksX7_compare_0 14 rfl rfl)
theorem dX7_compare_15 : decode cX7_compare 15 = .ok (.istore 6, 2) := dk_54 6 (dk_at dksX7_compare_0 15 rfl rfl)
theorem dX7_compare_17 : decode cX7_compare 17 = .ok (.iload 6, 2) := dk_21 6 (dk_at dksX7_compare_0 17 rfl rfl)
theorem dX7_compare_19 : decode cX7_compare 19 = .ok (.aload_n 3, 1) := dk_45 (dk_at dksX7_compare_0 19 rfl rfl)
theorem dX7_compare_20 : decode cX7_compare 20 = .ok (.iload 4, 2) := dk_21 4 (dk_at dksX7_compare_0 20 rfl rfl)
theorem dX7_compare_22 : decode cX7_compare 22 = .ok (.invokevirtual 33, 3) := dk_182 0 33 (dk_at dksX7_compare_1 0 rfl rfl)
theorem dX7_compare_25 : decode cX7_compare 25 = .ok (.bipush 127, 2) := dk_16 127 (dk_at dksX7_compare_1 3 rfl rfl)
theorem dX7_compare_27 : decode cX7_compare 27 = .ok (.if_icmp .le 7, 3) := dk_164 0 7 (dk_at dksX7_compare_1 5 rfl rfl)
theorem dX7_compare_30 : decode cX7_compare 30 = .ok (.iconst 1, 1) := dk_4 (dk_at dksX7_compare_1 8 rfl rfl)
theorem dX7_compare_31 : decode cX7_compare 31 = .ok (.goto 4, 3) := dk_167 0 4 (dk_at dksX7_compare_1 9 rfl rfl)
theorem dX7_compare_34 : decode cX7_compare 34 = .ok (.iconst 0, 1) := dk_3 (dk_at dksX7_compare_1 12 rfl rfl)
theorem dX7_compare_35 : decode cX7_compare 35 = .ok (.if_icmp .eq 14, 3) := dk_159 0 14 (dk_at dksX7_compare_1 13 rfl rfl)
theorem dX7_compare_38 : decode cX7_compare 38 = .ok (.iload 6, 2) := dk_21 6 (dk_at dksX7_compare_1 16 rfl rfl)
theorem dX7_compare_40 : decode cX7_compare 40 = .ok (.ifCond .eq 7, 3) := dk_153 0 7 (dk_at dksX7_compare_1 18 rfl rfl)
theorem dX7_compare_43 : decode cX7_compare 43 = .ok (.iconst (-1), 1) := dk_2 (dk_at dksX7_compare_1 21 rfl rfl)
theorem dX7_compare_44 : decode cX7_compare 44 = .ok (.goto 4, 3) := dk_167 0 4 (dk_at dksX7_compare_2 0 rfl rfl)
theorem dX7_compare_47 : decode cX7_compare 47 = .ok (.iconst 1, 1) := dk_4 (dk_at dksX7_compare_2 3 rfl rfl)
theorem dX7_compare_48 : decode cX7_compare 48 = .ok (.ireturn, 1) := dk_172 (dk_at dksX7_compare_2 4 rfl rfl)
theorem dX7_compare_49 : decode cX7_compare 49 = .ok (.iload_n 2, 1) := dk_28 (dk_at dksX7_compare_2 5 rfl rfl)
theorem dX7_compare_50 : decode cX7_compare 50 = .ok (.iload_n 1, 1) := dk_27 (dk_at dksX7_compare_2 6 rfl rfl)
theorem dX7_compare_51 : decode cX7_compare 51 = .ok (.isub, 1) := dk_100 (dk_at dksX7_compare_2 7 rfl rfl)
theorem dX7_compare_52 : decode cX7_compare 52 = .ok (.iload 5, 2) := dk_21 5 (dk_at dksX7_compare_2 8 rfl rfl)
theorem dX7_compare_54 : decode cX7_compare 54 = .ok (.iload 4, 2) := dk_21 4 (dk_at dksX7_compare_2 10 rfl rfl)
theorem dX7_compare_56 : decode cX7_compare 56 = .ok (.isub, 1) := dk_100 (dk_at dksX7_compare_2 12 rfl rfl)
theorem dX7_compare_57 : decode cX7_compare 57 = .ok (.if_icmp .eq 30, 3) := dk_159 0 30 (dk_at dksX7_compare_2 13 rfl rfl)
theorem dX7_compare_60 : decode cX7_compare 60 = .ok (.iload_n 2, 1) := dk_28 (dk_at dksX7_compare_2 16 rfl rfl)
theorem dX7_compare_61 : decode cX7_compare 61 = .ok (.iload_n 1, 1) := dk_27 (dk_at dksX7_compare_2 17 rfl rfl)
theorem dX7_compare_62 : decode cX7_compare 62 = .ok (.isub, 1) := dk_100 (dk_at dksX7_compare_2 18 rfl rfl)
theorem dX7_compare_63 : decode cX7_compare 63 = .ok (.iload 5, 2) := dk_21 5 (dk_at dksX7_compare_2 19 rfl rfl)
theorem dX7_compare_65 : decode cX7_compare 65 = .ok (.iload 4, 2) := dk_21 4 (dk_at dksX7_compare_2 21 rfl rfl)
theorem dX7_compare_67 : decode cX7_compare 67 = .ok (.isub, 1) := dk_100 (dk_at dksX7_compare_2 23 rfl rfl)
theorem dX7_compare_68 : decode cX7_compare 68 = .ok (.if_icmp .ge 7, 3) := dk_162 0 7 (dk_at dksX7_compare_3 0 rfl rfl)
theorem dX7_compare_71 : decode cX7_compare 71 = .ok (.iconst 1, 1) := dk_4 (dk_at dksX7_compare_3 3 rfl rfl)
theorem dX7_compare_72 : decode cX7_compare 72 = .ok (.goto 4, 3) := dk_167 0 4 (dk_at dksX7_compare_3 4 rfl rfl)
theorem dX7_compare_75 : decode cX7_compare 75 = .ok (.iconst 0, 1) := dk_3 (dk_at dksX7_compare_3 7 rfl rfl)
theorem dX7_compare_76 : decode cX7_compare 76 = .ok (.iload 6, 2) := dk_21 6 (dk_at dksX7_compare_3 8 rfl rfl)
theorem dX7_compare_78 : decode cX7_compare 78 = .ok (.if_icmp .ne 7, 3) := dk_160 0 7 (dk_at dksX7_compare_3 10 rfl rfl)
theorem dX7_compare_81 : decode cX7_compare 81 = .ok (.iconst 1, 1) := dk_4 (dk_at dksX7_compare_3 13 rfl rfl)
theorem dX7_compare_82 : decode cX7_compare 82 = .ok (.goto 4, 3) := dk_167 0 4 (dk_at dksX7_compare_3 14 rfl rfl)
theorem dX7_compare_85 : decode cX7_compare 85 = .ok (.iconst (-1), 1) := dk_2 (dk_at dksX7_compare_3 17 rfl rfl)
theorem dX7_compare_86 : decode cX7_compare 86 = .ok (.ireturn, 1) := dk_172 (dk_at dksX7_compare_3 18 rfl rfl)
theorem dX7_compare_87 : decode cX7_compare 87 = .ok (.aload_n 0, 1) := dk_42 (dk_at dksX7_compare_3 19 rfl rfl)
theorem dX7_compare_88 : decode cX7_compare 88 = .ok (.iload_n 1, 1) := dk_27 (dk_at dksX7_compare_3 20 rfl rfl)
theorem dX7_compare_89 : decode cX7_compare 89 = .ok (.iload_n 2, 1) := dk_28 (dk_at dksX7_compare_3 21 rfl rfl)
theorem dX7_compare_90 : decode cX7_compare 90 = .ok (.aload_n 3, 1) := dk_45 (dk_at dksX7_compare_3 22 rfl rfl)
theorem dX7_compare_91 : decode cX7_compare 91 = .ok (.iload 4, 2) := dk_21 4 (dk_at dksX7_compare_4 0 rfl rfl)
theorem dX7_compare_93 : decode cX7_compare 93 = .ok (.iload 5, 2) := dk_21 5 (dk_at dksX7_compare_4 2 rfl rfl)
theorem dX7_compare_95 : decode cX7_compare 95 = .ok (.invokevirtual 68, 3) := dk_182 0 68 (dk_at dksX7_compare_4 4 rfl rfl)
theorem dX7_compare_98 : decode cX7_compare 98 = .ok (.ireturn, 1) := dk_172 (dk_at dksX7_compare_4 7 rfl rfl)
abbrev cX7_small : ByteArray := prog_11_method_11_code
def yX7_small : MethodName := ⟨RX7, "small", "(I)I"⟩
def dkwX7_small_2 : List UInt8 := [172]
abbrev dktX7_small_2 : List UInt8 := dkwX7_small_2 ++ []
def dkwX7_small_1 : List UInt8 := [46, 155, 0, 22, 42, 180, 0, 9, 3, 46, 27, 163, 0, 12, 42, 180, 0, 9, 3, 46, 167, 0, 4, 2]
abbrev dktX7_small_1 : List UInt8 := dkwX7_small_1 ++ dktX7_small_2
def dkwX7_small_0 : List UInt8 := [42, 180, 0, 15, 154, 0, 7, 3, 167, 0, 40, 42, 180, 0, 15, 4, 160, 0, 31, 42, 180, 0, 9, 3]
abbrev dktX7_small_0 : List UInt8 := dkwX7_small_0 ++ dktX7_small_1
theorem dksX7_small_0 : cX7_small.data.toList.drop 0 = dktX7_small_0 := by decide +kernel
theorem dksX7_small_1 : cX7_small.data.toList.drop 24 = dktX7_small_1 := dk_seg dksX7_small_0 24 rfl rfl
theorem dksX7_small_2 : cX7_small.data.toList.drop 48 = dktX7_small_2 := dk_seg dksX7_small_1 24 rfl rfl
theorem dX7_small_0 : decode cX7_small 0 = .ok (.aload_n 0, 1) := dk_42 (dk_at dksX7_small_0 0 rfl rfl)
theorem dX7_small_1 : decode cX7_small 1 = .ok (.getfield 15, 3) := dk_180 0 15 (dk_at dksX7_small_0 1 rfl rfl)
theorem dX7_small_4 : decode cX7_small 4 = .ok (.ifCond .ne 7, 3) := dk_154 0 7 (dk_at dksX7_small_0 4 rfl rfl)
theorem dX7_small_7 : decode cX7_small 7 = .ok (.iconst 0, 1) := dk_3 (dk_at dksX7_small_0 7 rfl rfl)
theorem dX7_small_8 : decode cX7_small 8 = .ok (.goto 40, 3) := dk_167 0 40 (dk_at dksX7_small_0 8 rfl rfl)
theorem dX7_small_11 : decode cX7_small 11 = .ok (.aload_n 0, 1) := dk_42 (dk_at dksX7_small_0 11 rfl rfl)
theorem dX7_small_12 : decode cX7_small 12 = .ok (.getfield 15, 3) := dk_180 0 15 (dk_at dksX7_small_0 12 rfl rfl)
theorem dX7_small_15 : decode cX7_small 15 = .ok (.iconst 1, 1) := dk_4 (dk_at dksX7_small_0 15 rfl rfl)
theorem dX7_small_16 : decode cX7_small 16 = .ok (.if_icmp .ne 31, 3) := dk_160 0 31 (dk_at dksX7_small_0 16 rfl rfl)
theorem dX7_small_19 : decode cX7_small 19 = .ok (.aload_n 0, 1) := dk_42 (dk_at dksX7_small_0 19 rfl rfl)
theorem dX7_small_20 : decode cX7_small 20 = .ok (.getfield 9, 3) := dk_180 0 9 (dk_at dksX7_small_0 20 rfl rfl)
theorem dX7_small_23 : decode cX7_small 23 = .ok (.iconst 0, 1) := dk_3 (dk_at dksX7_small_0 23 rfl rfl)
theorem dX7_small_24 : decode cX7_small 24 = .ok (.iaload, 1) := dk_46 (dk_at dksX7_small_1 0 rfl rfl)
theorem dX7_small_25 : decode cX7_small 25 = .ok (.ifCond .lt 22, 3) := dk_155 0 22 (dk_at dksX7_small_1 1 rfl rfl)
theorem dX7_small_28 : decode cX7_small 28 = .ok (.aload_n 0, 1) := dk_42 (dk_at dksX7_small_1 4 rfl rfl)
theorem dX7_small_29 : decode cX7_small 29 = .ok (.getfield 9, 3) := dk_180 0 9 (dk_at dksX7_small_1 5 rfl rfl)
theorem dX7_small_32 : decode cX7_small 32 = .ok (.iconst 0, 1) := dk_3 (dk_at dksX7_small_1 8 rfl rfl)
theorem dX7_small_33 : decode cX7_small 33 = .ok (.iaload, 1) := dk_46 (dk_at dksX7_small_1 9 rfl rfl)
theorem dX7_small_34 : decode cX7_small 34 = .ok (.iload_n 1, 1) := dk_27 (dk_at dksX7_small_1 10 rfl rfl)
theorem dX7_small_35 : decode cX7_small 35 = .ok (.if_icmp .gt 12, 3) := dk_163 0 12 (dk_at dksX7_small_1 11 rfl rfl)
theorem dX7_small_38 : decode cX7_small 38 = .ok (.aload_n 0, 1) := dk_42 (dk_at dksX7_small_1 14 rfl rfl)
theorem dX7_small_39 : decode cX7_small 39 = .ok (.getfield 9, 3) := dk_180 0 9 (dk_at dksX7_small_1 15 rfl rfl)
theorem dX7_small_42 : decode cX7_small 42 = .ok (.iconst 0, 1) := dk_3 (dk_at dksX7_small_1 18 rfl rfl)
theorem dX7_small_43 : decode cX7_small 43 = .ok (.iaload, 1) := dk_46 (dk_at dksX7_small_1 19 rfl rfl)
theorem dX7_small_44 : decode cX7_small 44 = .ok (.goto 4, 3) := dk_167 0 4 (dk_at dksX7_small_1 20 rfl rfl)
theorem dX7_small_47 : decode cX7_small 47 = .ok (.iconst (-1), 1) := dk_2 (dk_at dksX7_small_1 23 rfl rfl)
theorem dX7_small_48 : decode cX7_small 48 = .ok (.ireturn, 1) := dk_172 (dk_at dksX7_small_2 0 rfl rfl)
abbrev cX7_groups : ByteArray := prog_11_method_9_code
def yX7_groups : MethodName := ⟨RX7, "groups", "(ILSchemaWorkshop$Bytes;)V"⟩
def dkwX7_groups_3 : List UInt8 := [167, 0, 4, 3, 128, 182, 0, 51, 132, 4, 255, 167, 255, 225, 177]
abbrev dktX7_groups_3 : List UInt8 := dkwX7_groups_3 ++ []
def dkwX7_groups_2 : List UInt8 := [4, 100, 54, 4, 21, 4, 155, 0, 32, 44, 42, 21, 4, 182, 0, 59, 21, 4, 158, 0, 9, 17, 0, 128]
abbrev dktX7_groups_2 : List UInt8 := dkwX7_groups_2 ++ dktX7_groups_3
def dkwX7_groups_1 : List UInt8 := [164, 0, 19, 42, 29, 4, 100, 182, 0, 59, 154, 0, 9, 132, 3, 255, 167, 255, 238, 29, 4, 184, 0, 62]
abbrev dktX7_groups_1 : List UInt8 := dkwX7_groups_1 ++ dktX7_groups_2
def dkwX7_groups_0 : List UInt8 := [42, 10, 27, 133, 182, 0, 41, 16, 32, 42, 180, 0, 15, 104, 16, 6, 96, 16, 7, 108, 62, 29, 4]
abbrev dktX7_groups_0 : List UInt8 := dkwX7_groups_0 ++ dktX7_groups_1
theorem dksX7_groups_0 : cX7_groups.data.toList.drop 0 = dktX7_groups_0 := by decide +kernel
theorem dksX7_groups_1 : cX7_groups.data.toList.drop 23 = dktX7_groups_1 := dk_seg dksX7_groups_0 23 rfl rfl
theorem dksX7_groups_2 : cX7_groups.data.toList.drop 47 = dktX7_groups_2 := dk_seg dksX7_groups_1 24 rfl rfl
theorem dksX7_groups_3 : cX7_groups.data.toList.drop 71 = dktX7_groups_3 := dk_seg dksX7_groups_2 24 rfl rfl
theorem dX7_groups_0 : decode cX7_groups 0 = .ok (.aload_n 0, 1) := dk_42 (dk_at dksX7_groups_0 0 rfl rfl)
theorem dX7_groups_1 : decode cX7_groups 1 = .ok (.lconst 1, 1) := dk_10 (dk_at dksX7_groups_0 1 rfl rfl)
theorem dX7_groups_2 : decode cX7_groups 2 = .ok (.iload_n 1, 1) := dk_27 (dk_at dksX7_groups_0 2 rfl rfl)
theorem dX7_groups_3 : decode cX7_groups 3 = .ok (.i2l, 1) := dk_133 (dk_at dksX7_groups_0 3 rfl rfl)
theorem dX7_groups_4 : decode cX7_groups 4 = .ok (.invokevirtual 41, 3) := dk_182 0 41 (dk_at dksX7_groups_0 4 rfl rfl)
theorem dX7_groups_7 : decode cX7_groups 7 = .ok (.bipush 32, 2) := dk_16 32 (dk_at dksX7_groups_0 7 rfl rfl)
theorem dX7_groups_9 : decode cX7_groups 9 = .ok (.aload_n 0, 1) := dk_42 (dk_at dksX7_groups_0 9 rfl rfl)
theorem dX7_groups_10 : decode cX7_groups 10 = .ok (.getfield 15, 3) := dk_180 0 15 (dk_at dksX7_groups_0 10 rfl rfl)
theorem dX7_groups_13 : decode cX7_groups 13 = .ok (.imul, 1) := dk_104 (dk_at dksX7_groups_0 13 rfl rfl)
theorem dX7_groups_14 : decode cX7_groups 14 = .ok (.bipush 6, 2) := dk_16 6 (dk_at dksX7_groups_0 14 rfl rfl)
theorem dX7_groups_16 : decode cX7_groups 16 = .ok (.iadd, 1) := dk_96 (dk_at dksX7_groups_0 16 rfl rfl)
theorem dX7_groups_17 : decode cX7_groups 17 = .ok (.bipush 7, 2) := dk_16 7 (dk_at dksX7_groups_0 17 rfl rfl)
theorem dX7_groups_19 : decode cX7_groups 19 = .ok (.idiv, 1) := dk_108 (dk_at dksX7_groups_0 19 rfl rfl)
theorem dX7_groups_20 : decode cX7_groups 20 = .ok (.istore_n 3, 1) := dk_62 (dk_at dksX7_groups_0 20 rfl rfl)
theorem dX7_groups_21 : decode cX7_groups 21 = .ok (.iload_n 3, 1) := dk_29 (dk_at dksX7_groups_0 21 rfl rfl)
theorem dX7_groups_22 : decode cX7_groups 22 = .ok (.iconst 1, 1) := dk_4 (dk_at dksX7_groups_0 22 rfl rfl)
theorem dX7_groups_23 : decode cX7_groups 23 = .ok (.if_icmp .le 19, 3) := dk_164 0 19 (dk_at dksX7_groups_1 0 rfl rfl)
theorem dX7_groups_26 : decode cX7_groups 26 = .ok (.aload_n 0, 1) := dk_42 (dk_at dksX7_groups_1 3 rfl rfl)
theorem dX7_groups_27 : decode cX7_groups 27 = .ok (.iload_n 3, 1) := dk_29 (dk_at dksX7_groups_1 4 rfl rfl)
theorem dX7_groups_28 : decode cX7_groups 28 = .ok (.iconst 1, 1) := dk_4 (dk_at dksX7_groups_1 5 rfl rfl)
theorem dX7_groups_29 : decode cX7_groups 29 = .ok (.isub, 1) := dk_100 (dk_at dksX7_groups_1 6 rfl rfl)
theorem dX7_groups_30 : decode cX7_groups 30 = .ok (.invokevirtual 59, 3) := dk_182 0 59 (dk_at dksX7_groups_1 7 rfl rfl)
theorem dX7_groups_33 : decode cX7_groups 33 = .ok (.ifCond .ne 9, 3) := dk_154 0 9 (dk_at dksX7_groups_1 10 rfl rfl)
theorem dX7_groups_36 : decode cX7_groups 36 = .ok (.iinc 3 (-1), 3) := dk_132 3 255 (dk_at dksX7_groups_1 13 rfl rfl)
theorem dX7_groups_39 : decode cX7_groups 39 = .ok (.goto (-18), 3) := dk_167 255 238 (dk_at dksX7_groups_1 16 rfl rfl)
theorem dX7_groups_42 : decode cX7_groups 42 = .ok (.iload_n 3, 1) := dk_29 (dk_at dksX7_groups_1 19 rfl rfl)
theorem dX7_groups_43 : decode cX7_groups 43 = .ok (.iconst 1, 1) := dk_4 (dk_at dksX7_groups_1 20 rfl rfl)
theorem dX7_groups_44 : decode cX7_groups 44 = .ok (.invokestatic 62, 3) := dk_184 0 62 (dk_at dksX7_groups_1 21 rfl rfl)
theorem dX7_groups_47 : decode cX7_groups 47 = .ok (.iconst 1, 1) := dk_4 (dk_at dksX7_groups_2 0 rfl rfl)
theorem dX7_groups_48 : decode cX7_groups 48 = .ok (.isub, 1) := dk_100 (dk_at dksX7_groups_2 1 rfl rfl)
theorem dX7_groups_49 : decode cX7_groups 49 = .ok (.istore 4, 2) := dk_54 4 (dk_at dksX7_groups_2 2 rfl rfl)
theorem dX7_groups_51 : decode cX7_groups 51 = .ok (.iload 4, 2) := dk_21 4 (dk_at dksX7_groups_2 4 rfl rfl)
theorem dX7_groups_53 : decode cX7_groups 53 = .ok (.ifCond .lt 32, 3) := dk_155 0 32 (dk_at dksX7_groups_2 6 rfl rfl)
theorem dX7_groups_56 : decode cX7_groups 56 = .ok (.aload_n 2, 1) := dk_44 (dk_at dksX7_groups_2 9 rfl rfl)
theorem dX7_groups_57 : decode cX7_groups 57 = .ok (.aload_n 0, 1) := dk_42 (dk_at dksX7_groups_2 10 rfl rfl)
theorem dX7_groups_58 : decode cX7_groups 58 = .ok (.iload 4, 2) := dk_21 4 (dk_at dksX7_groups_2 11 rfl rfl)
theorem dX7_groups_60 : decode cX7_groups 60 = .ok (.invokevirtual 59, 3) := dk_182 0 59 (dk_at dksX7_groups_2 13 rfl rfl)
theorem dX7_groups_63 : decode cX7_groups 63 = .ok (.iload 4, 2) := dk_21 4 (dk_at dksX7_groups_2 16 rfl rfl)
theorem dX7_groups_65 : decode cX7_groups 65 = .ok (.ifCond .le 9, 3) := dk_158 0 9 (dk_at dksX7_groups_2 18 rfl rfl)
theorem dX7_groups_68 : decode cX7_groups 68 = .ok (.sipush 128, 3) := dk_17 0 128 (dk_at dksX7_groups_2 21 rfl rfl)
theorem dX7_groups_71 : decode cX7_groups 71 = .ok (.goto 4, 3) := dk_167 0 4 (dk_at dksX7_groups_3 0 rfl rfl)
theorem dX7_groups_74 : decode cX7_groups 74 = .ok (.iconst 0, 1) := dk_3 (dk_at dksX7_groups_3 3 rfl rfl)
theorem dX7_groups_75 : decode cX7_groups 75 = .ok (.ior, 1) := dk_128 (dk_at dksX7_groups_3 4 rfl rfl)
theorem dX7_groups_76 : decode cX7_groups 76 = .ok (.invokevirtual 51, 3) := dk_182 0 51 (dk_at dksX7_groups_3 5 rfl rfl)
theorem dX7_groups_79 : decode cX7_groups 79 = .ok (.iinc 4 (-1), 3) := dk_132 4 255 (dk_at dksX7_groups_3 8 rfl rfl)
theorem dX7_groups_82 : decode cX7_groups 82 = .ok (.goto (-31), 3) := dk_167 255 225 (dk_at dksX7_groups_3 11 rfl rfl)
theorem dX7_groups_85 : decode cX7_groups 85 = .ok (.return_, 1) := dk_177 (dk_at dksX7_groups_3 14 rfl rfl)
abbrev cX7_groupOf : ByteArray := prog_11_method_10_code
def yX7_groupOf : MethodName := ⟨RX7, "groupOf", "(I)I"⟩
def dkwX7_groupOf_1 : List UInt8 := [16, 8, 120, 128, 28, 16, 8, 112, 122, 16, 127, 126, 172]
abbrev dktX7_groupOf_1 : List UInt8 := dkwX7_groupOf_1 ++ []
def dkwX7_groupOf_0 : List UInt8 := [16, 7, 27, 104, 61, 42, 28, 16, 8, 108, 182, 0, 45, 42, 28, 16, 8, 108, 4, 96, 182, 0, 45]
abbrev dktX7_groupOf_0 : List UInt8 := dkwX7_groupOf_0 ++ dktX7_groupOf_1
theorem dksX7_groupOf_0 : cX7_groupOf.data.toList.drop 0 = dktX7_groupOf_0 := by decide +kernel
theorem dksX7_groupOf_1 : cX7_groupOf.data.toList.drop 23 = dktX7_groupOf_1 := dk_seg dksX7_groupOf_0 23 rfl rfl
theorem dX7_groupOf_0 : decode cX7_groupOf 0 = .ok (.bipush 7, 2) := dk_16 7 (dk_at dksX7_groupOf_0 0 rfl rfl)
theorem dX7_groupOf_2 : decode cX7_groupOf 2 = .ok (.iload_n 1, 1) := dk_27 (dk_at dksX7_groupOf_0 2 rfl rfl)
theorem dX7_groupOf_3 : decode cX7_groupOf 3 = .ok (.imul, 1) := dk_104 (dk_at dksX7_groupOf_0 3 rfl rfl)
theorem dX7_groupOf_4 : decode cX7_groupOf 4 = .ok (.istore_n 2, 1) := dk_61 (dk_at dksX7_groupOf_0 4 rfl rfl)
theorem dX7_groupOf_5 : decode cX7_groupOf 5 = .ok (.aload_n 0, 1) := dk_42 (dk_at dksX7_groupOf_0 5 rfl rfl)
theorem dX7_groupOf_6 : decode cX7_groupOf 6 = .ok (.iload_n 2, 1) := dk_28 (dk_at dksX7_groupOf_0 6 rfl rfl)
theorem dX7_groupOf_7 : decode cX7_groupOf 7 = .ok (.bipush 8, 2) := dk_16 8 (dk_at dksX7_groupOf_0 7 rfl rfl)
theorem dX7_groupOf_9 : decode cX7_groupOf 9 = .ok (.idiv, 1) := dk_108 (dk_at dksX7_groupOf_0 9 rfl rfl)
theorem dX7_groupOf_10 : decode cX7_groupOf 10 = .ok (.invokevirtual 45, 3) := dk_182 0 45 (dk_at dksX7_groupOf_0 10 rfl rfl)
theorem dX7_groupOf_13 : decode cX7_groupOf 13 = .ok (.aload_n 0, 1) := dk_42 (dk_at dksX7_groupOf_0 13 rfl rfl)
theorem dX7_groupOf_14 : decode cX7_groupOf 14 = .ok (.iload_n 2, 1) := dk_28 (dk_at dksX7_groupOf_0 14 rfl rfl)
theorem dX7_groupOf_15 : decode cX7_groupOf 15 = .ok (.bipush 8, 2) := dk_16 8 (dk_at dksX7_groupOf_0 15 rfl rfl)
theorem dX7_groupOf_17 : decode cX7_groupOf 17 = .ok (.idiv, 1) := dk_108 (dk_at dksX7_groupOf_0 17 rfl rfl)
theorem dX7_groupOf_18 : decode cX7_groupOf 18 = .ok (.iconst 1, 1) := dk_4 (dk_at dksX7_groupOf_0 18 rfl rfl)
theorem dX7_groupOf_19 : decode cX7_groupOf 19 = .ok (.iadd, 1) := dk_96 (dk_at dksX7_groupOf_0 19 rfl rfl)
theorem dX7_groupOf_20 : decode cX7_groupOf 20 = .ok (.invokevirtual 45, 3) := dk_182 0 45 (dk_at dksX7_groupOf_0 20 rfl rfl)
theorem dX7_groupOf_23 : decode cX7_groupOf 23 = .ok (.bipush 8, 2) := dk_16 8 (dk_at dksX7_groupOf_1 0 rfl rfl)
theorem dX7_groupOf_25 : decode cX7_groupOf 25 = .ok (.ishl, 1) := dk_120 (dk_at dksX7_groupOf_1 2 rfl rfl)
theorem dX7_groupOf_26 : decode cX7_groupOf 26 = .ok (.ior, 1) := dk_128 (dk_at dksX7_groupOf_1 3 rfl rfl)
theorem dX7_groupOf_27 : decode cX7_groupOf 27 = .ok (.iload_n 2, 1) := dk_28 (dk_at dksX7_groupOf_1 4 rfl rfl)
theorem dX7_groupOf_28 : decode cX7_groupOf 28 = .ok (.bipush 8, 2) := dk_16 8 (dk_at dksX7_groupOf_1 5 rfl rfl)
theorem dX7_groupOf_30 : decode cX7_groupOf 30 = .ok (.irem, 1) := dk_112 (dk_at dksX7_groupOf_1 7 rfl rfl)
theorem dX7_groupOf_31 : decode cX7_groupOf 31 = .ok (.ishr, 1) := dk_122 (dk_at dksX7_groupOf_1 8 rfl rfl)
theorem dX7_groupOf_32 : decode cX7_groupOf 32 = .ok (.bipush 127, 2) := dk_16 127 (dk_at dksX7_groupOf_1 9 rfl rfl)
theorem dX7_groupOf_34 : decode cX7_groupOf 34 = .ok (.iand, 1) := dk_126 (dk_at dksX7_groupOf_1 11 rfl rfl)
theorem dX7_groupOf_35 : decode cX7_groupOf 35 = .ok (.ireturn, 1) := dk_172 (dk_at dksX7_groupOf_1 12 rfl rfl)
abbrev cX7_isShort : ByteArray := prog_11_method_12_code
def yX7_isShort : MethodName := ⟨RX7, "isShort", "(LSchemaWorkshop$Bytes;II)Z"⟩
def dkwX7_isShort_2 : List UInt8 := [4, 167, 0, 4, 3, 172]
abbrev dktX7_isShort_2 : List UInt8 := dkwX7_isShort_2 ++ []
def dkwX7_isShort_1 : List UInt8 := [120, 42, 27, 4, 96, 182, 0, 33, 16, 7, 122, 128, 62, 29, 153, 0, 14, 29, 17, 1, 255, 159, 0, 7]
abbrev dktX7_isShort_1 : List UInt8 := dkwX7_isShort_1 ++ dktX7_isShort_2
def dkwX7_isShort_0 : List UInt8 := [28, 27, 100, 5, 162, 0, 14, 28, 27, 164, 0, 7, 4, 167, 0, 4, 3, 172, 42, 27, 182, 0, 33, 4]
abbrev dktX7_isShort_0 : List UInt8 := dkwX7_isShort_0 ++ dktX7_isShort_1
theorem dksX7_isShort_0 : cX7_isShort.data.toList.drop 0 = dktX7_isShort_0 := by decide +kernel
theorem dksX7_isShort_1 : cX7_isShort.data.toList.drop 24 = dktX7_isShort_1 := dk_seg dksX7_isShort_0 24 rfl rfl
theorem dksX7_isShort_2 : cX7_isShort.data.toList.drop 48 = dktX7_isShort_2 := dk_seg dksX7_isShort_1 24 rfl rfl
theorem dX7_isShort_0 : decode cX7_isShort 0 = .ok (.iload_n 2, 1) := dk_28 (dk_at dksX7_isShort_0 0 rfl rfl)
theorem dX7_isShort_1 : decode cX7_isShort 1 = .ok (.iload_n 1, 1) := dk_27 (dk_at dksX7_isShort_0 1 rfl rfl)
theorem dX7_isShort_2 : decode cX7_isShort 2 = .ok (.isub, 1) := dk_100 (dk_at dksX7_isShort_0 2 rfl rfl)
theorem dX7_isShort_3 : decode cX7_isShort 3 = .ok (.iconst 2, 1) := dk_5 (dk_at dksX7_isShort_0 3 rfl rfl)
theorem dX7_isShort_4 : decode cX7_isShort 4 = .ok (.if_icmp .ge 14, 3) := dk_162 0 14 (dk_at dksX7_isShort_0 4 rfl rfl)
theorem dX7_isShort_7 : decode cX7_isShort 7 = .ok (.iload_n 2, 1) := dk_28 (dk_at dksX7_isShort_0 7 rfl rfl)
theorem dX7_isShort_8 : decode cX7_isShort 8 = .ok (.iload_n 1, 1) := dk_27 (dk_at dksX7_isShort_0 8 rfl rfl)
theorem dX7_isShort_9 : decode cX7_isShort 9 = .ok (.if_icmp .le 7, 3) := dk_164 0 7 (dk_at dksX7_isShort_0 9 rfl rfl)
theorem dX7_isShort_12 : decode cX7_isShort 12 = .ok (.iconst 1, 1) := dk_4 (dk_at dksX7_isShort_0 12 rfl rfl)
theorem dX7_isShort_13 : decode cX7_isShort 13 = .ok (.goto 4, 3) := dk_167 0 4 (dk_at dksX7_isShort_0 13 rfl rfl)
theorem dX7_isShort_16 : decode cX7_isShort 16 = .ok (.iconst 0, 1) := dk_3 (dk_at dksX7_isShort_0 16 rfl rfl)
theorem dX7_isShort_17 : decode cX7_isShort 17 = .ok (.ireturn, 1) := dk_172 (dk_at dksX7_isShort_0 17 rfl rfl)
theorem dX7_isShort_18 : decode cX7_isShort 18 = .ok (.aload_n 0, 1) := dk_42 (dk_at dksX7_isShort_0 18 rfl rfl)
theorem dX7_isShort_19 : decode cX7_isShort 19 = .ok (.iload_n 1, 1) := dk_27 (dk_at dksX7_isShort_0 19 rfl rfl)
theorem dX7_isShort_20 : decode cX7_isShort 20 = .ok (.invokevirtual 33, 3) := dk_182 0 33 (dk_at dksX7_isShort_0 20 rfl rfl)
theorem dX7_isShort_23 : decode cX7_isShort 23 = .ok (.iconst 1, 1) := dk_4 (dk_at dksX7_isShort_0 23 rfl rfl)
theorem dX7_isShort_24 : decode cX7_isShort 24 = .ok (.ishl, 1) := dk_120 (dk_at dksX7_isShort_1 0 rfl rfl)
theorem dX7_isShort_25 : decode cX7_isShort 25 = .ok (.aload_n 0, 1) := dk_42 (dk_at dksX7_isShort_1 1 rfl rfl)
theorem dX7_isShort_26 : decode cX7_isShort 26 = .ok (.iload_n 1, 1) := dk_27 (dk_at dksX7_isShort_1 2 rfl rfl)
theorem dX7_isShort_27 : decode cX7_isShort 27 = .ok (.iconst 1, 1) := dk_4 (dk_at dksX7_isShort_1 3 rfl rfl)
theorem dX7_isShort_28 : decode cX7_isShort 28 = .ok (.iadd, 1) := dk_96 (dk_at dksX7_isShort_1 4 rfl rfl)
theorem dX7_isShort_29 : decode cX7_isShort 29 = .ok (.invokevirtual 33, 3) := dk_182 0 33 (dk_at dksX7_isShort_1 5 rfl rfl)
theorem dX7_isShort_32 : decode cX7_isShort 32 = .ok (.bipush 7, 2) := dk_16 7 (dk_at dksX7_isShort_1 8 rfl rfl)
theorem dX7_isShort_34 : decode cX7_isShort 34 = .ok (.ishr, 1) := dk_122 (dk_at dksX7_isShort_1 10 rfl rfl)
theorem dX7_isShort_35 : decode cX7_isShort 35 = .ok (.ior, 1) := dk_128 (dk_at dksX7_isShort_1 11 rfl rfl)
theorem dX7_isShort_36 : decode cX7_isShort 36 = .ok (.istore_n 3, 1) := dk_62 (dk_at dksX7_isShort_1 12 rfl rfl)
theorem dX7_isShort_37 : decode cX7_isShort 37 = .ok (.iload_n 3, 1) := dk_29 (dk_at dksX7_isShort_1 13 rfl rfl)
theorem dX7_isShort_38 : decode cX7_isShort 38 = .ok (.ifCond .eq 14, 3) := dk_153 0 14 (dk_at dksX7_isShort_1 14 rfl rfl)
theorem dX7_isShort_41 : decode cX7_isShort 41 = .ok (.iload_n 3, 1) := dk_29 (dk_at dksX7_isShort_1 17 rfl rfl)
theorem dX7_isShort_42 : decode cX7_isShort 42 = .ok (.sipush 511, 3) := dk_17 1 255 (dk_at dksX7_isShort_1 18 rfl rfl)
theorem dX7_isShort_45 : decode cX7_isShort 45 = .ok (.if_icmp .eq 7, 3) := dk_159 0 7 (dk_at dksX7_isShort_1 21 rfl rfl)
theorem dX7_isShort_48 : decode cX7_isShort 48 = .ok (.iconst 1, 1) := dk_4 (dk_at dksX7_isShort_2 0 rfl rfl)
theorem dX7_isShort_49 : decode cX7_isShort 49 = .ok (.goto 4, 3) := dk_167 0 4 (dk_at dksX7_isShort_2 1 rfl rfl)
theorem dX7_isShort_52 : decode cX7_isShort 52 = .ok (.iconst 0, 1) := dk_3 (dk_at dksX7_isShort_2 4 rfl rfl)
theorem dX7_isShort_53 : decode cX7_isShort 53 = .ok (.ireturn, 1) := dk_172 (dk_at dksX7_isShort_2 5 rfl rfl)
theorem q304 : (Jvm.Cond.initialized "SchemaWorkshop$Numbers") ∈ lw_all := lw_g (lw_at lw_m1 7 rfl) rfl
theorem q523 : (Jvm.Cond.instantiable "SchemaWorkshop$Numbers" (2 : Nat)) ∈ lw_all := lw_g (lw_at lw_m1 226 rfl) rfl
theorem q525 : (Jvm.Cond.instanceMethod ({ cls := "SchemaWorkshop$Numbers", name := "<init>", desc := "()V" } : Jvm.MethodName)) ∈ lw_all := lw_g (lw_at lw_m1 228 rfl) rfl
theorem q526 : (Jvm.Cond.code ({ cls := "SchemaWorkshop$Numbers", name := "<init>", desc := "()V" } : Jvm.MethodName) prog_11_method_1_code (1 : Nat) (Option.none : Option Jvm.ClassFile.FieldType)) ∈ lw_all := lw_g (lw_at lw_m1 229 rfl) rfl
theorem q527 : (Jvm.Cond.methodLink "SchemaWorkshop$Numbers" (3 : Nat) ({ cls := "java/lang/Object", name := "<init>", desc := "()V" } : Jvm.MethodName)) ∈ lw_all := lw_g (lw_at lw_m1 230 rfl) rfl
theorem q528 : (Jvm.Cond.fieldLink "SchemaWorkshop$Numbers" (9 : Nat) "SchemaWorkshop$Numbers" "words" "[I") ∈ lw_all := lw_g (lw_at lw_m1 231 rfl) rfl
theorem q529 : (Jvm.Cond.fieldLink "SchemaWorkshop$Numbers" (15 : Nat) "SchemaWorkshop$Numbers" "size" "I") ∈ lw_all := lw_g (lw_at lw_m1 232 rfl) rfl
theorem q530 : (Jvm.Cond.lays "SchemaWorkshop$Numbers" "SchemaWorkshop$Numbers" "words" "[I") ∈ lw_all := lw_g (lw_at lw_m1 233 rfl) rfl
theorem q531 : (Jvm.Cond.soleField "SchemaWorkshop$Numbers" "words") ∈ lw_all := lw_g (lw_at lw_m1 234 rfl) rfl
theorem q532 : (Jvm.Cond.lays "SchemaWorkshop$Numbers" "SchemaWorkshop$Numbers" "size" "I") ∈ lw_all := lw_g (lw_at lw_m1 235 rfl) rfl
theorem q533 : (Jvm.Cond.soleField "SchemaWorkshop$Numbers" "size") ∈ lw_all := lw_g (lw_at lw_m1 236 rfl) rfl
theorem q534 : (Jvm.Cond.superclass "SchemaWorkshop$Numbers" "java/lang/Object") ∈ lw_all := lw_g (lw_at lw_m1 237 rfl) rfl
theorem q1508 : (Jvm.Cond.instanceMethod ({ cls := "SchemaWorkshop$Numbers", name := "read", desc := "(LSchemaWorkshop$Bytes;II)V" } : Jvm.MethodName)) ∈ lw_all := lw_g (lw_at lw_m6 11 rfl) rfl
theorem q1509 : (Jvm.Cond.selects "SchemaWorkshop$Numbers" ({ cls := "SchemaWorkshop$Numbers", name := "read", desc := "(LSchemaWorkshop$Bytes;II)V" } : Jvm.MethodName) ({ cls := "SchemaWorkshop$Numbers", name := "read", desc := "(LSchemaWorkshop$Bytes;II)V" } : Jvm.MethodName)) ∈ lw_all := lw_g (lw_at lw_m6 12 rfl) rfl
theorem q1510 : (Jvm.Cond.code ({ cls := "SchemaWorkshop$Numbers", name := "read", desc := "(LSchemaWorkshop$Bytes;II)V" } : Jvm.MethodName) prog_11_method_6_code (10 : Nat) (Option.none : Option Jvm.ClassFile.FieldType)) ∈ lw_all := lw_g (lw_at lw_m6 13 rfl) rfl
theorem q1511 : (Jvm.Cond.constantLong "SchemaWorkshop$Numbers" (31 : Nat) (10 : Int64)) ∈ lw_all := lw_g (lw_at lw_m6 14 rfl) rfl
theorem q1512 : (Jvm.Cond.methodLink "SchemaWorkshop$Numbers" (33 : Nat) ({ cls := "SchemaWorkshop$Bytes", name := "at", desc := "(I)I" } : Jvm.MethodName)) ∈ lw_all := lw_g (lw_at lw_m6 15 rfl) rfl
theorem q1513 : (Jvm.Cond.constantLong "SchemaWorkshop$Numbers" (39 : Nat) (48 : Int64)) ∈ lw_all := lw_g (lw_at lw_m6 16 rfl) rfl
theorem q1514 : (Jvm.Cond.methodLink "SchemaWorkshop$Numbers" (41 : Nat) ({ cls := "SchemaWorkshop$Numbers", name := "grow", desc := "(JJ)V" } : Jvm.MethodName)) ∈ lw_all := lw_g (lw_at lw_m6 17 rfl) rfl
theorem q1515 : (Jvm.Cond.privateMethod ({ cls := "SchemaWorkshop$Numbers", name := "grow", desc := "(JJ)V" } : Jvm.MethodName)) ∈ lw_tbl := lw_at lw_m6 18 rfl
theorem q1516 : (Jvm.Cond.instanceMethod ({ cls := "SchemaWorkshop$Numbers", name := "grow", desc := "(JJ)V" } : Jvm.MethodName)) ∈ lw_all := lw_g (lw_at lw_m6 19 rfl) rfl
theorem q1517 : (Jvm.Cond.code ({ cls := "SchemaWorkshop$Numbers", name := "grow", desc := "(JJ)V" } : Jvm.MethodName) prog_11_method_3_code (10 : Nat) (Option.none : Option Jvm.ClassFile.FieldType)) ∈ lw_all := lw_g (lw_at lw_m6 20 rfl) rfl
theorem q1518 : (Jvm.Cond.constantLong "SchemaWorkshop$Numbers" (25 : Nat) (4294967295 : Int64)) ∈ lw_all := lw_g (lw_at lw_m6 21 rfl) rfl
theorem q1519 : (Jvm.Cond.methodLink "SchemaWorkshop$Numbers" (27 : Nat) ({ cls := "SchemaWorkshop$Numbers", name := "add", desc := "(I)V" } : Jvm.MethodName)) ∈ lw_all := lw_g (lw_at lw_m6 22 rfl) rfl
theorem q1520 : (Jvm.Cond.privateMethod ({ cls := "SchemaWorkshop$Numbers", name := "add", desc := "(I)V" } : Jvm.MethodName)) ∈ lw_tbl := lw_at lw_m6 23 rfl
theorem q1521 : (Jvm.Cond.instanceMethod ({ cls := "SchemaWorkshop$Numbers", name := "add", desc := "(I)V" } : Jvm.MethodName)) ∈ lw_all := lw_g (lw_at lw_m6 24 rfl) rfl
theorem q1522 : (Jvm.Cond.code ({ cls := "SchemaWorkshop$Numbers", name := "add", desc := "(I)V" } : Jvm.MethodName) prog_11_method_2_code (3 : Nat) (Option.none : Option Jvm.ClassFile.FieldType)) ∈ lw_all := lw_g (lw_at lw_m6 25 rfl) rfl
theorem q1523 : (Jvm.Cond.methodLink "SchemaWorkshop$Numbers" (19 : Nat) ({ cls := "java/lang/System", name := "arraycopy", desc := "(Ljava/lang/Object;ILjava/lang/Object;II)V" } : Jvm.MethodName)) ∈ lw_all := lw_g (lw_at lw_m6 26 rfl) rfl
theorem q1526 : (Jvm.Cond.instanceMethod ({ cls := "SchemaWorkshop$Numbers", name := "write", desc := "(ZLSchemaWorkshop$Bytes;)V" } : Jvm.MethodName)) ∈ lw_all := lw_g (lw_at lw_m6 29 rfl) rfl
theorem q1527 : (Jvm.Cond.selects "SchemaWorkshop$Numbers" ({ cls := "SchemaWorkshop$Numbers", name := "write", desc := "(ZLSchemaWorkshop$Bytes;)V" } : Jvm.MethodName) ({ cls := "SchemaWorkshop$Numbers", name := "write", desc := "(ZLSchemaWorkshop$Bytes;)V" } : Jvm.MethodName)) ∈ lw_all := lw_g (lw_at lw_m6 30 rfl) rfl
theorem q1528 : (Jvm.Cond.code ({ cls := "SchemaWorkshop$Numbers", name := "write", desc := "(ZLSchemaWorkshop$Bytes;)V" } : Jvm.MethodName) prog_11_method_8_code (8 : Nat) (Option.none : Option Jvm.ClassFile.FieldType)) ∈ lw_all := lw_g (lw_at lw_m6 31 rfl) rfl
theorem q1529 : (Jvm.Cond.methodLink "SchemaWorkshop$Numbers" (45 : Nat) ({ cls := "SchemaWorkshop$Numbers", name := "byteOf", desc := "(I)I" } : Jvm.MethodName)) ∈ lw_all := lw_g (lw_at lw_m6 32 rfl) rfl
theorem q1530 : (Jvm.Cond.privateMethod ({ cls := "SchemaWorkshop$Numbers", name := "byteOf", desc := "(I)I" } : Jvm.MethodName)) ∈ lw_tbl := lw_at lw_m6 33 rfl
theorem q1531 : (Jvm.Cond.instanceMethod ({ cls := "SchemaWorkshop$Numbers", name := "byteOf", desc := "(I)I" } : Jvm.MethodName)) ∈ lw_all := lw_g (lw_at lw_m6 34 rfl) rfl
theorem q1532 : (Jvm.Cond.code ({ cls := "SchemaWorkshop$Numbers", name := "byteOf", desc := "(I)I" } : Jvm.MethodName) prog_11_method_7_code (2 : Nat) (Option.some Jvm.ClassFile.FieldType.int)) ∈ lw_all := lw_g (lw_at lw_m6 35 rfl) rfl
theorem q1533 : (Jvm.Cond.methodLink "SchemaWorkshop$Numbers" (48 : Nat) ({ cls := "SchemaWorkshop$Bytes", name := "size", desc := "()I" } : Jvm.MethodName)) ∈ lw_all := lw_g (lw_at lw_m6 36 rfl) rfl
theorem q1534 : (Jvm.Cond.methodLink "SchemaWorkshop$Numbers" (51 : Nat) ({ cls := "SchemaWorkshop$Bytes", name := "add", desc := "(I)V" } : Jvm.MethodName)) ∈ lw_all := lw_g (lw_at lw_m6 37 rfl) rfl
theorem q1535 : (Jvm.Cond.methodLink "SchemaWorkshop$Numbers" (52 : Nat) ({ cls := "SchemaWorkshop$Bytes", name := "set", desc := "(II)V" } : Jvm.MethodName)) ∈ lw_all := lw_g (lw_at lw_m6 38 rfl) rfl
theorem q1539 : (Jvm.Cond.methodLink "SchemaWorkshop$Numbers" (56 : Nat) ({ cls := "SchemaWorkshop$Bytes", name := "cut", desc := "(I)V" } : Jvm.MethodName)) ∈ lw_all := lw_g (lw_at lw_m6 42 rfl) rfl
theorem q1564 : (Jvm.Cond.instanceMethod ({ cls := "SchemaWorkshop$Numbers", name := "set", desc := "(I)V" } : Jvm.MethodName)) ∈ lw_all := lw_g (lw_at lw_m6 67 rfl) rfl
theorem q1565 : (Jvm.Cond.selects "SchemaWorkshop$Numbers" ({ cls := "SchemaWorkshop$Numbers", name := "set", desc := "(I)V" } : Jvm.MethodName) ({ cls := "SchemaWorkshop$Numbers", name := "set", desc := "(I)V" } : Jvm.MethodName)) ∈ lw_all := lw_g (lw_at lw_m6 68 rfl) rfl
theorem q1566 : (Jvm.Cond.code ({ cls := "SchemaWorkshop$Numbers", name := "set", desc := "(I)V" } : Jvm.MethodName) prog_11_method_5_code (2 : Nat) (Option.none : Option Jvm.ClassFile.FieldType)) ∈ lw_all := lw_g (lw_at lw_m6 69 rfl) rfl
theorem q1689 : (Jvm.Cond.static ({ cls := "SchemaWorkshop$Numbers", name := "compare", desc := "(LSchemaWorkshop$Bytes;IILSchemaWorkshop$Bytes;II)I" } : Jvm.MethodName)) ∈ lw_all := lw_g (lw_at lw_m6 192 rfl) rfl
theorem q1690 : (Jvm.Cond.code ({ cls := "SchemaWorkshop$Numbers", name := "compare", desc := "(LSchemaWorkshop$Bytes;IILSchemaWorkshop$Bytes;II)I" } : Jvm.MethodName) prog_11_method_13_code (7 : Nat) (Option.some Jvm.ClassFile.FieldType.int)) ∈ lw_all := lw_g (lw_at lw_m6 193 rfl) rfl
theorem q1691 : (Jvm.Cond.methodLink "SchemaWorkshop$Numbers" (68 : Nat) ({ cls := "SchemaWorkshop$Bytes", name := "compare", desc := "(IILSchemaWorkshop$Bytes;II)I" } : Jvm.MethodName)) ∈ lw_all := lw_g (lw_at lw_m6 194 rfl) rfl
theorem q1833 : (Jvm.Cond.instanceMethod ({ cls := "SchemaWorkshop$Numbers", name := "small", desc := "(I)I" } : Jvm.MethodName)) ∈ lw_all := lw_g (lw_at lw_m7 96 rfl) rfl
theorem q1834 : (Jvm.Cond.selects "SchemaWorkshop$Numbers" ({ cls := "SchemaWorkshop$Numbers", name := "small", desc := "(I)I" } : Jvm.MethodName) ({ cls := "SchemaWorkshop$Numbers", name := "small", desc := "(I)I" } : Jvm.MethodName)) ∈ lw_all := lw_g (lw_at lw_m7 97 rfl) rfl
theorem q1835 : (Jvm.Cond.code ({ cls := "SchemaWorkshop$Numbers", name := "small", desc := "(I)I" } : Jvm.MethodName) prog_11_method_11_code (2 : Nat) (Option.some Jvm.ClassFile.FieldType.int)) ∈ lw_all := lw_g (lw_at lw_m7 98 rfl) rfl
theorem q1837 : (Jvm.Cond.instanceMethod ({ cls := "SchemaWorkshop$Numbers", name := "groups", desc := "(ILSchemaWorkshop$Bytes;)V" } : Jvm.MethodName)) ∈ lw_all := lw_g (lw_at lw_m7 100 rfl) rfl
theorem q1838 : (Jvm.Cond.selects "SchemaWorkshop$Numbers" ({ cls := "SchemaWorkshop$Numbers", name := "groups", desc := "(ILSchemaWorkshop$Bytes;)V" } : Jvm.MethodName) ({ cls := "SchemaWorkshop$Numbers", name := "groups", desc := "(ILSchemaWorkshop$Bytes;)V" } : Jvm.MethodName)) ∈ lw_all := lw_g (lw_at lw_m7 101 rfl) rfl
theorem q1839 : (Jvm.Cond.code ({ cls := "SchemaWorkshop$Numbers", name := "groups", desc := "(ILSchemaWorkshop$Bytes;)V" } : Jvm.MethodName) prog_11_method_9_code (5 : Nat) (Option.none : Option Jvm.ClassFile.FieldType)) ∈ lw_all := lw_g (lw_at lw_m7 102 rfl) rfl
theorem q1840 : (Jvm.Cond.methodLink "SchemaWorkshop$Numbers" (59 : Nat) ({ cls := "SchemaWorkshop$Numbers", name := "groupOf", desc := "(I)I" } : Jvm.MethodName)) ∈ lw_all := lw_g (lw_at lw_m7 103 rfl) rfl
theorem q1841 : (Jvm.Cond.privateMethod ({ cls := "SchemaWorkshop$Numbers", name := "groupOf", desc := "(I)I" } : Jvm.MethodName)) ∈ lw_tbl := lw_at lw_m7 104 rfl
theorem q1842 : (Jvm.Cond.instanceMethod ({ cls := "SchemaWorkshop$Numbers", name := "groupOf", desc := "(I)I" } : Jvm.MethodName)) ∈ lw_all := lw_g (lw_at lw_m7 105 rfl) rfl
theorem q1843 : (Jvm.Cond.code ({ cls := "SchemaWorkshop$Numbers", name := "groupOf", desc := "(I)I" } : Jvm.MethodName) prog_11_method_10_code (3 : Nat) (Option.some Jvm.ClassFile.FieldType.int)) ∈ lw_all := lw_g (lw_at lw_m7 106 rfl) rfl
theorem q1844 : (Jvm.Cond.methodLink "SchemaWorkshop$Numbers" (62 : Nat) ({ cls := "java/lang/Math", name := "max", desc := "(II)I" } : Jvm.MethodName)) ∈ lw_all := lw_g (lw_at lw_m7 107 rfl) rfl
theorem q2208 : (Jvm.Cond.static ({ cls := "SchemaWorkshop$Numbers", name := "isShort", desc := "(LSchemaWorkshop$Bytes;II)Z" } : Jvm.MethodName)) ∈ lw_all := lw_g (lw_at lw_m8 231 rfl) rfl
theorem q2209 : (Jvm.Cond.code ({ cls := "SchemaWorkshop$Numbers", name := "isShort", desc := "(LSchemaWorkshop$Bytes;II)Z" } : Jvm.MethodName) prog_11_method_12_code (4 : Nat) (Option.some Jvm.ClassFile.FieldType.boolean)) ∈ lw_all := lw_g (lw_at lw_m8 232 rfl) rfl
theorem in_X7 : ∀ w ∈ wsX70, w ∈ lw_all := lw_in wsX70 [530, 532] (by decide +kernel) (by decide +kernel)

/-! SchemaWorkshop$Names -/
set_option maxRecDepth 100000
def RX9 : String := "SchemaWorkshop$Names"
def TX9 : u_T := fun k => match k with
  | 0 => ("SchemaWorkshop$Names", "row", "LSchemaWorkshop$Lexemes;", false)
  | 1 => ("SchemaWorkshop$Names", "slots", "[I", false)
  | 2 => ("SchemaWorkshop$Names", "values", "[I", false)
  | _ => ("SchemaWorkshop$Names", "size", "I", false)
def tyX9 : Nat → FieldType := fun k => match k with
  | 0 => .object "SchemaWorkshop$Lexemes"
  | 1 => .array .int
  | 2 => .array .int
  | _ => .int
abbrev wsX90 : List Cond := u_ws RX9 TX9 4
theorem nmX9 : ∀ a, a < 4 → ∀ b, b < 4 → a ≠ b → (TX9 a).2.1 ≠ (TX9 b).2.1 := by decide +kernel
theorem tyX9_ok : ∀ k, k < 4 → parseFieldDescriptor (TX9 k).2.2.1 = some (tyX9 k) := by decide +kernel
abbrev cX9_init : ByteArray := prog_10_method_1_code
def yX9_init : MethodName := ⟨RX9, "<init>", "()V"⟩
def dkwX9_init_0 : List UInt8 := [42, 183, 0, 3, 42, 17, 1, 0, 188, 10, 181, 0, 9, 42, 17, 1, 0, 188, 10, 181, 0, 15, 177]
abbrev dktX9_init_0 : List UInt8 := dkwX9_init_0 ++ []
theorem dksX9_init_0 : cX9_init.data.toList.drop 0 = dktX9_init_0 := by decide +kernel
theorem dX9_init_0 : decode cX9_init 0 = .ok (.aload_n 0, 1) := dk_42 (dk_at dksX9_init_0 0 rfl rfl)
theorem dX9_init_1 : decode cX9_init 1 = .ok (.invokespecial 3, 3) := dk_183 0 3 (dk_at dksX9_init_0 1 rfl rfl)
theorem dX9_init_4 : decode cX9_init 4 = .ok (.aload_n 0, 1) := dk_42 (dk_at dksX9_init_0 4 rfl rfl)
theorem dX9_init_5 : decode cX9_init 5 = .ok (.sipush 256, 3) := dk_17 1 0 (dk_at dksX9_init_0 5 rfl rfl)
theorem dX9_init_8 : decode cX9_init 8 = .ok (.newarray .int, 2) := dk_188_10 (dk_at dksX9_init_0 8 rfl rfl)
theorem dX9_init_10 : decode cX9_init 10 = .ok (.putfield 9, 3) := dk_181 0 9 (dk_at dksX9_init_0 10 rfl rfl)
theorem dX9_init_13 : decode cX9_init 13 = .ok (.aload_n 0, 1) := dk_42 (dk_at dksX9_init_0 13 rfl rfl)
theorem dX9_init_14 : decode cX9_init 14 = .ok (.sipush 256, 3) := dk_17 1 0 (dk_at dksX9_init_0 14 rfl rfl)
theorem dX9_init_17 : decode cX9_init 17 = .ok (.newarray .int, 2) := dk_188_10 (dk_at dksX9_init_0 17 rfl rfl)
theorem dX9_init_19 : decode cX9_init 19 = .ok (.putfield 15, 3) := dk_181 0 15 (dk_at dksX9_init_0 19 rfl rfl)
theorem dX9_init_22 : decode cX9_init 22 = .ok (.return_, 1) := dk_177 (dk_at dksX9_init_0 22 rfl rfl)
abbrev cX9_clear : ByteArray := prog_10_method_2_code
def yX9_clear : MethodName := ⟨RX9, "clear", "(LSchemaWorkshop$Lexemes;)V"⟩
def dkwX9_clear_1 : List UInt8 := [180, 0, 9, 28, 3, 79, 132, 2, 1, 167, 255, 230, 42, 3, 181, 0, 22, 177]
abbrev dktX9_clear_1 : List UInt8 := dkwX9_clear_1 ++ []
def dkwX9_clear_0 : List UInt8 := [42, 43, 181, 0, 18, 3, 61, 28, 42, 180, 0, 9, 190, 162, 0, 23, 42, 180, 0, 22, 158, 0, 16, 42]
abbrev dktX9_clear_0 : List UInt8 := dkwX9_clear_0 ++ dktX9_clear_1
theorem dksX9_clear_0 : cX9_clear.data.toList.drop 0 = dktX9_clear_0 := by decide +kernel
theorem dksX9_clear_1 : cX9_clear.data.toList.drop 24 = dktX9_clear_1 := dk_seg dksX9_clear_0 24 rfl rfl
theorem dX9_clear_0 : decode cX9_clear 0 = .ok (.aload_n 0, 1) := dk_42 (dk_at dksX9_clear_0 0 rfl rfl)
theorem dX9_clear_1 : decode cX9_clear 1 = .ok (.aload_n 1, 1) := dk_43 (dk_at dksX9_clear_0 1 rfl rfl)
theorem dX9_clear_2 : decode cX9_clear 2 = .ok (.putfield 18, 3) := dk_181 0 18 (dk_at dksX9_clear_0 2 rfl rfl)
theorem dX9_clear_5 : decode cX9_clear 5 = .ok (.iconst 0, 1) := dk_3 (dk_at dksX9_clear_0 5 rfl rfl)
theorem dX9_clear_6 : decode cX9_clear 6 = .ok (.istore_n 2, 1) := dk_61 (dk_at dksX9_clear_0 6 rfl rfl)
theorem dX9_clear_7 : decode cX9_clear 7 = .ok (.iload_n 2, 1) := dk_28 (dk_at dksX9_clear_0 7 rfl rfl)
theorem dX9_clear_8 : decode cX9_clear 8 = .ok (.aload_n 0, 1) := dk_42 (dk_at dksX9_clear_0 8 rfl rfl)
theorem dX9_clear_9 : decode cX9_clear 9 = .ok (.getfield 9, 3) := dk_180 0 9 (dk_at dksX9_clear_0 9 rfl rfl)
theorem dX9_clear_12 : decode cX9_clear 12 = .ok (.arraylength, 1) := dk_190 (dk_at dksX9_clear_0 12 rfl rfl)
theorem dX9_clear_13 : decode cX9_clear 13 = .ok (.if_icmp .ge 23, 3) := dk_162 0 23 (dk_at dksX9_clear_0 13 rfl rfl)
theorem dX9_clear_16 : decode cX9_clear 16 = .ok (.aload_n 0, 1) := dk_42 (dk_at dksX9_clear_0 16 rfl rfl)
theorem dX9_clear_17 : decode cX9_clear 17 = .ok (.getfield 22, 3) := dk_180 0 22 (dk_at dksX9_clear_0 17 rfl rfl)
theorem dX9_clear_20 : decode cX9_clear 20 = .ok (.ifCond .le 16, 3) := dk_158 0 16 (dk_at dksX9_clear_0 20 rfl rfl)
theorem dX9_clear_23 : decode cX9_clear 23 = .ok (.aload_n 0, 1) := dk_42 (dk_at dksX9_clear_0 23 rfl rfl)
theorem dX9_clear_24 : decode cX9_clear 24 = .ok (.getfield 9, 3) := dk_180 0 9 (dk_at dksX9_clear_1 0 rfl rfl)
theorem dX9_clear_27 : decode cX9_clear 27 = .ok (.iload_n 2, 1) := dk_28 (dk_at dksX9_clear_1 3 rfl rfl)
theorem dX9_clear_28 : decode cX9_clear 28 = .ok (.iconst 0, 1) := dk_3 (dk_at dksX9_clear_1 4 rfl rfl)
theorem dX9_clear_29 : decode cX9_clear 29 = .ok (.iastore, 1) := dk_79 (dk_at dksX9_clear_1 5 rfl rfl)
theorem dX9_clear_30 : decode cX9_clear 30 = .ok (.iinc 2 1, 3) := dk_132 2 1 (dk_at dksX9_clear_1 6 rfl rfl)
theorem dX9_clear_33 : decode cX9_clear 33 = .ok (.goto (-26), 3) := dk_167 255 230 (dk_at dksX9_clear_1 9 rfl rfl)
theorem dX9_clear_36 : decode cX9_clear 36 = .ok (.aload_n 0, 1) := dk_42 (dk_at dksX9_clear_1 12 rfl rfl)
theorem dX9_clear_37 : decode cX9_clear 37 = .ok (.iconst 0, 1) := dk_3 (dk_at dksX9_clear_1 13 rfl rfl)
theorem dX9_clear_38 : decode cX9_clear 38 = .ok (.putfield 22, 3) := dk_181 0 22 (dk_at dksX9_clear_1 14 rfl rfl)
theorem dX9_clear_41 : decode cX9_clear 41 = .ok (.return_, 1) := dk_177 (dk_at dksX9_clear_1 17 rfl rfl)
abbrev cX9_put : ByteArray := prog_10_method_5_code
def yX9_put : MethodName := ⟨RX9, "put", "(II)Z"⟩
def dkwX9_put_2 : List UInt8 := [104, 42, 180, 0, 9, 190, 164, 0, 7, 42, 182, 0, 51, 4, 172]
abbrev dktX9_put_2 : List UInt8 := dkwX9_put_2 ++ []
def dkwX9_put_1 : List UInt8 := [96, 79, 42, 180, 0, 15, 29, 28, 79, 42, 89, 180, 0, 22, 4, 96, 181, 0, 22, 5, 42, 180, 0, 22]
abbrev dktX9_put_1 : List UInt8 := dkwX9_put_1 ++ dktX9_put_2
def dkwX9_put_0 : List UInt8 := [42, 27, 182, 0, 48, 62, 42, 180, 0, 9, 29, 46, 158, 0, 5, 3, 172, 42, 180, 0, 9, 29, 27, 4]
abbrev dktX9_put_0 : List UInt8 := dkwX9_put_0 ++ dktX9_put_1
theorem dksX9_put_0 : cX9_put.data.toList.drop 0 = dktX9_put_0 := by decide +kernel
theorem dksX9_put_1 : cX9_put.data.toList.drop 24 = dktX9_put_1 := dk_seg dksX9_put_0 24 rfl rfl
theorem dksX9_put_2 : cX9_put.data.toList.drop 48 = dktX9_put_2 := dk_seg dksX9_put_1 24 rfl rfl
theorem dX9_put_0 : decode cX9_put 0 = .ok (.aload_n 0, 1) := dk_42 (dk_at dksX9_put_0 0 rfl rfl)
theorem dX9_put_1 : decode cX9_put 1 = .ok (.iload_n 1, 1) := dk_27 (dk_at dksX9_put_0 1 rfl rfl)
theorem dX9_put_2 : decode cX9_put 2 = .ok (.invokevirtual 48, 3) := dk_182 0 48 (dk_at dksX9_put_0 2 rfl rfl)
theorem dX9_put_5 : decode cX9_put 5 = .ok (.istore_n 3, 1) := dk_62 (dk_at dksX9_put_0 5 rfl rfl)
theorem dX9_put_6 : decode cX9_put 6 = .ok (.aload_n 0, 1) := dk_42 (dk_at dksX9_put_0 6 rfl rfl)
theorem dX9_put_7 : decode cX9_put 7 = .ok (.getfield 9, 3) := dk_180 0 9 (dk_at dksX9_put_0 7 rfl rfl)
theorem dX9_put_10 : decode cX9_put 10 = .ok (.iload_n 3, 1) := dk_29 (dk_at dksX9_put_0 10 rfl rfl)
theorem dX9_put_11 : decode cX9_put 11 = .ok (.iaload, 1) := dk_46 (dk_at dksX9_put_0 11 rfl rfl)
theorem dX9_put_12 : decode cX9_put 12 = .ok (.ifCond .le 5, 3) := dk_158 0 5 (dk_at dksX9_put_0 12 rfl rfl)
theorem dX9_put_15 : decode cX9_put 15 = .ok (.iconst 0, 1) := dk_3 (dk_at dksX9_put_0 15 rfl rfl)
theorem dX9_put_16 : decode cX9_put 16 = .ok (.ireturn, 1) := dk_172 (dk_at dksX9_put_0 16 rfl rfl)
theorem dX9_put_17 : decode cX9_put 17 = .ok (.aload_n 0, 1) := dk_42 (dk_at dksX9_put_0 17 rfl rfl)
theorem dX9_put_18 : decode cX9_put 18 = .ok (.getfield 9, 3) := dk_180 0 9 (dk_at dksX9_put_0 18 rfl rfl)
theorem dX9_put_21 : decode cX9_put 21 = .ok (.iload_n 3, 1) := dk_29 (dk_at dksX9_put_0 21 rfl rfl)
theorem dX9_put_22 : decode cX9_put 22 = .ok (.iload_n 1, 1) := dk_27 (dk_at dksX9_put_0 22 rfl rfl)
theorem dX9_put_23 : decode cX9_put 23 = .ok (.iconst 1, 1) := dk_4 (dk_at dksX9_put_0 23 rfl rfl)
theorem dX9_put_24 : decode cX9_put 24 = .ok (.iadd, 1) := dk_96 (dk_at dksX9_put_1 0 rfl rfl)
theorem dX9_put_25 : decode cX9_put 25 = .ok (.iastore, 1) := dk_79 (dk_at dksX9_put_1 1 rfl rfl)
theorem dX9_put_26 : decode cX9_put 26 = .ok (.aload_n 0, 1) := dk_42 (dk_at dksX9_put_1 2 rfl rfl)
theorem dX9_put_27 : decode cX9_put 27 = .ok (.getfield 15, 3) := dk_180 0 15 (dk_at dksX9_put_1 3 rfl rfl)
theorem dX9_put_30 : decode cX9_put 30 = .ok (.iload_n 3, 1) := dk_29 (dk_at dksX9_put_1 6 rfl rfl)
theorem dX9_put_31 : decode cX9_put 31 = .ok (.iload_n 2, 1) := dk_28 (dk_at dksX9_put_1 7 rfl rfl)
theorem dX9_put_32 : decode cX9_put 32 = .ok (.iastore, 1) := dk_79 (dk_at dksX9_put_1 8 rfl rfl)
theorem dX9_put_33 : decode cX9_put 33 = .ok (.aload_n 0, 1) := dk_42 (dk_at dksX9_put_1 9 rfl rfl)
theorem dX9_put_34 : decode cX9_put 34 = .ok (.dup, 1) := dk_89 (dk_at dksX9_put_1 10 rfl rfl)
theorem dX9_put_35 : decode cX9_put 35 = .ok (.getfield 22, 3) := dk_180 0 22 (dk_at dksX9_put_1 11 rfl rfl)
theorem dX9_put_38 : decode cX9_put 38 = .ok (.iconst 1, 1) := dk_4 (dk_at dksX9_put_1 14 rfl rfl)
theorem dX9_put_39 : decode cX9_put 39 = .ok (.iadd, 1) := dk_96 (dk_at dksX9_put_1 15 rfl rfl)
theorem dX9_put_40 : decode cX9_put 40 = .ok (.putfield 22, 3) := dk_181 0 22 (dk_at dksX9_put_1 16 rfl rfl)
theorem dX9_put_43 : decode cX9_put 43 = .ok (.iconst 2, 1) := dk_5 (dk_at dksX9_put_1 19 rfl rfl)
theorem dX9_put_44 : decode cX9_put 44 = .ok (.aload_n 0, 1) := dk_42 (dk_at dksX9_put_1 20 rfl rfl)
theorem dX9_put_45 : decode cX9_put 45 = .ok (.getfield 22, 3) := dk_180 0 22 (dk_at dksX9_put_1 21 rfl rfl)
theorem dX9_put_48 : decode cX9_put 48 = .ok (.imul, 1) := dk_104 (dk_at dksX9_put_2 0 rfl rfl)
theorem dX9_put_49 : decode cX9_put 49 = .ok (.aload_n 0, 1) := dk_42 (dk_at dksX9_put_2 1 rfl rfl)
theorem dX9_put_50 : decode cX9_put 50 = .ok (.getfield 9, 3) := dk_180 0 9 (dk_at dksX9_put_2 2 rfl rfl)
theorem dX9_put_53 : decode cX9_put 53 = .ok (.arraylength, 1) := dk_190 (dk_at dksX9_put_2 5 rfl rfl)
theorem dX9_put_54 : decode cX9_put 54 = .ok (.if_icmp .le 7, 3) := dk_164 0 7 (dk_at dksX9_put_2 6 rfl rfl)
theorem dX9_put_57 : decode cX9_put 57 = .ok (.aload_n 0, 1) := dk_42 (dk_at dksX9_put_2 9 rfl rfl)
theorem dX9_put_58 : decode cX9_put 58 = .ok (.invokevirtual 51, 3) := dk_182 0 51 (dk_at dksX9_put_2 10 rfl rfl)
theorem dX9_put_61 : decode cX9_put 61 = .ok (.iconst 1, 1) := dk_4 (dk_at dksX9_put_2 13 rfl rfl)
theorem dX9_put_62 : decode cX9_put 62 = .ok (.ireturn, 1) := dk_172 (dk_at dksX9_put_2 14 rfl rfl)
abbrev cX9_slot : ByteArray := prog_10_method_3_code
def yX9_slot : MethodName := ⟨RX9, "slot", "(I)I"⟩
def dkwX9_slot_4 : List UInt8 := [180, 0, 9, 190, 4, 100, 126, 62, 167, 255, 216, 29, 172]
abbrev dktX9_slot_4 : List UInt8 := dkwX9_slot_4 ++ []
def dkwX9_slot_3 : List UInt8 := [180, 0, 18, 42, 180, 0, 9, 29, 46, 4, 100, 27, 182, 0, 44, 154, 0, 18, 29, 4, 96, 42]
abbrev dktX9_slot_3 : List UInt8 := dkwX9_slot_3 ++ dktX9_slot_4
def dkwX9_slot_2 : List UInt8 := [28, 16, 15, 124, 130, 42, 180, 0, 9, 190, 4, 100, 126, 62, 42, 180, 0, 9, 29, 46, 158, 0, 37, 42]
abbrev dktX9_slot_2 : List UInt8 := dkwX9_slot_2 ++ dktX9_slot_3
def dkwX9_slot_1 : List UInt8 := [16, 31, 28, 104, 42, 180, 0, 18, 182, 0, 35, 29, 182, 0, 39, 96, 61, 132, 3, 1, 167, 255, 224, 28]
abbrev dktX9_slot_1 : List UInt8 := dkwX9_slot_1 ++ dktX9_slot_2
def dkwX9_slot_0 : List UInt8 := [3, 61, 42, 180, 0, 18, 27, 182, 0, 26, 62, 29, 42, 180, 0, 18, 27, 182, 0, 32, 162, 0, 26]
abbrev dktX9_slot_0 : List UInt8 := dkwX9_slot_0 ++ dktX9_slot_1
theorem dksX9_slot_0 : cX9_slot.data.toList.drop 0 = dktX9_slot_0 := by decide +kernel
theorem dksX9_slot_1 : cX9_slot.data.toList.drop 23 = dktX9_slot_1 := dk_seg dksX9_slot_0 23 rfl rfl
theorem dksX9_slot_2 : cX9_slot.data.toList.drop 47 = dktX9_slot_2 := dk_seg dksX9_slot_1 24 rfl rfl
theorem dksX9_slot_3 : cX9_slot.data.toList.drop 71 = dktX9_slot_3 := dk_seg dksX9_slot_2 24 rfl rfl
theorem dksX9_slot_4 : cX9_slot.data.toList.drop 93 = dktX9_slot_4 := dk_seg dksX9_slot_3 22 rfl rfl
theorem dX9_slot_0 : decode cX9_slot 0 = .ok (.iconst 0, 1) := dk_3 (dk_at dksX9_slot_0 0 rfl rfl)
theorem dX9_slot_1 : decode cX9_slot 1 = .ok (.istore_n 2, 1) := dk_61 (dk_at dksX9_slot_0 1 rfl rfl)
theorem dX9_slot_2 : decode cX9_slot 2 = .ok (.aload_n 0, 1) := dk_42 (dk_at dksX9_slot_0 2 rfl rfl)
theorem dX9_slot_3 : decode cX9_slot 3 = .ok (.getfield 18, 3) := dk_180 0 18 (dk_at dksX9_slot_0 3 rfl rfl)
theorem dX9_slot_6 : decode cX9_slot 6 = .ok (.iload_n 1, 1) := dk_27 (dk_at dksX9_slot_0 6 rfl rfl)
theorem dX9_slot_7 : decode cX9_slot 7 = .ok (.invokevirtual 26, 3) := dk_182 0 26 (dk_at dksX9_slot_0 7 rfl rfl)
theorem dX9_slot_10 : decode cX9_slot 10 = .ok (.istore_n 3, 1) := dk_62 (dk_at dksX9_slot_0 10 rfl rfl)
theorem dX9_slot_11 : decode cX9_slot 11 = .ok (.iload_n 3, 1) := dk_29 (dk_at dksX9_slot_0 11 rfl rfl)
theorem dX9_slot_12 : decode cX9_slot 12 = .ok (.aload_n 0, 1) := dk_42 (dk_at dksX9_slot_0 12 rfl rfl)
theorem dX9_slot_13 : decode cX9_slot 13 = .ok (.getfield 18, 3) := dk_180 0 18 (dk_at dksX9_slot_0 13 rfl rfl)
theorem dX9_slot_16 : decode cX9_slot 16 = .ok (.iload_n 1, 1) := dk_27 (dk_at dksX9_slot_0 16 rfl rfl)
theorem dX9_slot_17 : decode cX9_slot 17 = .ok (.invokevirtual 32, 3) := dk_182 0 32 (dk_at dksX9_slot_0 17 rfl rfl)
theorem dX9_slot_20 : decode cX9_slot 20 = .ok (.if_icmp .ge 26, 3) := dk_162 0 26 (dk_at dksX9_slot_0 20 rfl rfl)
theorem dX9_slot_23 : decode cX9_slot 23 = .ok (.bipush 31, 2) := dk_16 31 (dk_at dksX9_slot_1 0 rfl rfl)
theorem dX9_slot_25 : decode cX9_slot 25 = .ok (.iload_n 2, 1) := dk_28 (dk_at dksX9_slot_1 2 rfl rfl)
theorem dX9_slot_26 : decode cX9_slot 26 = .ok (.imul, 1) := dk_104 (dk_at dksX9_slot_1 3 rfl rfl)
theorem dX9_slot_27 : decode cX9_slot 27 = .ok (.aload_n 0, 1) := dk_42 (dk_at dksX9_slot_1 4 rfl rfl)
theorem dX9_slot_28 : decode cX9_slot 28 = .ok (.getfield 18, 3) := dk_180 0 18 (dk_at dksX9_slot_1 5 rfl rfl)
theorem dX9_slot_31 : decode cX9_slot 31 = .ok (.invokevirtual 35, 3) := dk_182 0 35 (dk_at dksX9_slot_1 8 rfl rfl)
theorem dX9_slot_34 : decode cX9_slot 34 = .ok (.iload_n 3, 1) := dk_29 (dk_at dksX9_slot_1 11 rfl rfl)
theorem dX9_slot_35 : decode cX9_slot 35 = .ok (.invokevirtual 39, 3) := dk_182 0 39 (dk_at dksX9_slot_1 12 rfl rfl)
theorem dX9_slot_38 : decode cX9_slot 38 = .ok (.iadd, 1) := dk_96 (dk_at dksX9_slot_1 15 rfl rfl)
theorem dX9_slot_39 : decode cX9_slot 39 = .ok (.istore_n 2, 1) := dk_61 (dk_at dksX9_slot_1 16 rfl rfl)
theorem dX9_slot_40 : decode cX9_slot 40 = .ok (.iinc 3 1, 3) := dk_132 3 1 (dk_at dksX9_slot_1 17 rfl rfl)
theorem dX9_slot_43 : decode cX9_slot 43 = .ok (.goto (-32), 3) := dk_167 255 224 (dk_at dksX9_slot_1 20 rfl rfl)
theorem dX9_slot_46 : decode cX9_slot 46 = .ok (.iload_n 2, 1) := dk_28 (dk_at dksX9_slot_1 23 rfl rfl)
theorem dX9_slot_47 : decode cX9_slot 47 = .ok (.iload_n 2, 1) := dk_28 (dk_at dksX9_slot_2 0 rfl rfl)
theorem dX9_slot_48 : decode cX9_slot 48 = .ok (.bipush 15, 2) := dk_16 15 (dk_at dksX9_slot_2 1 rfl rfl)
theorem dX9_slot_50 : decode cX9_slot 50 = .ok (.iushr, 1) := dk_124 (dk_at dksX9_slot_2 3 rfl rfl)
theorem dX9_slot_51 : decode cX9_slot 51 = .ok (.ixor, 1) := dk_130 (dk_at dksX9_slot_2 4 rfl rfl)
theorem dX9_slot_52 : decode cX9_slot 52 = .ok (.aload_n 0, 1) := dk_42 (dk_at dksX9_slot_2 5 rfl rfl)
theorem dX9_slot_53 : decode cX9_slot 53 = .ok (.getfield 9, 3) := dk_180 0 9 (dk_at dksX9_slot_2 6 rfl rfl)
theorem dX9_slot_56 : decode cX9_slot 56 = .ok (.arraylength, 1) := dk_190 (dk_at dksX9_slot_2 9 rfl rfl)
theorem dX9_slot_57 : decode cX9_slot 57 = .ok (.iconst 1, 1) := dk_4 (dk_at dksX9_slot_2 10 rfl rfl)
theorem dX9_slot_58 : decode cX9_slot 58 = .ok (.isub, 1) := dk_100 (dk_at dksX9_slot_2 11 rfl rfl)
theorem dX9_slot_59 : decode cX9_slot 59 = .ok (.iand, 1) := dk_126 (dk_at dksX9_slot_2 12 rfl rfl)
theorem dX9_slot_60 : decode cX9_slot 60 = .ok (.istore_n 3, 1) := dk_62 (dk_at dksX9_slot_2 13 rfl rfl)
theorem dX9_slot_61 : decode cX9_slot 61 = .ok (.aload_n 0, 1) := dk_42 (dk_at dksX9_slot_2 14 rfl rfl)
theorem dX9_slot_62 : decode cX9_slot 62 = .ok (.getfield 9, 3) := dk_180 0 9 (dk_at dksX9_slot_2 15 rfl rfl)
theorem dX9_slot_65 : decode cX9_slot 65 = .ok (.iload_n 3, 1) := dk_29 (dk_at dksX9_slot_2 18 rfl rfl)
theorem dX9_slot_66 : decode cX9_slot 66 = .ok (.iaload, 1) := dk_46 (dk_at dksX9_slot_2 19 rfl rfl)
theorem dX9_slot_67 : decode cX9_slot 67 = .ok (.ifCond .le 37, 3) := dk_158 0 37 (dk_at dksX9_slot_2 20 rfl rfl)
theorem dX9_slot_70 : decode cX9_slot 70 = .ok (.aload_n 0, 1) := dk_42 (dk_at dksX9_slot_2 23 rfl rfl)
theorem dX9_slot_71 : decode cX9_slot 71 = .ok (.getfield 18, 3) := dk_180 0 18 (dk_at dksX9_slot_3 0 rfl rfl)
theorem dX9_slot_74 : decode cX9_slot 74 = .ok (.aload_n 0, 1) := dk_42 (dk_at dksX9_slot_3 3 rfl rfl)
theorem dX9_slot_75 : decode cX9_slot 75 = .ok (.getfield 9, 3) := dk_180 0 9 (dk_at dksX9_slot_3 4 rfl rfl)
theorem dX9_slot_78 : decode cX9_slot 78 = .ok (.iload_n 3, 1) := dk_29 (dk_at dksX9_slot_3 7 rfl rfl)
theorem dX9_slot_79 : decode cX9_slot 79 = .ok (.iaload, 1) := dk_46 (dk_at dksX9_slot_3 8 rfl rfl)
theorem dX9_slot_80 : decode cX9_slot 80 = .ok (.iconst 1, 1) := dk_4 (dk_at dksX9_slot_3 9 rfl rfl)
theorem dX9_slot_81 : decode cX9_slot 81 = .ok (.isub, 1) := dk_100 (dk_at dksX9_slot_3 10 rfl rfl)
theorem dX9_slot_82 : decode cX9_slot 82 = .ok (.iload_n 1, 1) := dk_27 (dk_at dksX9_slot_3 11 rfl rfl)
theorem dX9_slot_83 : decode cX9_slot 83 = .ok (.invokevirtual 44, 3) := dk_182 0 44 (dk_at dksX9_slot_3 12 rfl rfl)
theorem dX9_slot_86 : decode cX9_slot 86 = .ok (.ifCond .ne 18, 3) := dk_154 0 18 (dk_at dksX9_slot_3 15 rfl rfl)
theorem dX9_slot_89 : decode cX9_slot 89 = .ok (.iload_n 3, 1) := dk_29 (dk_at dksX9_slot_3 18 rfl rfl)
theorem dX9_slot_90 : decode cX9_slot 90 = .ok (.iconst 1, 1) := dk_4 (dk_at dksX9_slot_3 19 rfl rfl)
theorem dX9_slot_91 : decode cX9_slot 91 = .ok (.iadd, 1) := dk_96 (dk_at dksX9_slot_3 20 rfl rfl)
theorem dX9_slot_92 : decode cX9_slot 92 = .ok (.aload_n 0, 1) := dk_42 (dk_at dksX9_slot_3 21 rfl rfl)
theorem dX9_slot_93 : decode cX9_slot 93 = .ok (.getfield 9, 3) := dk_180 0 9 (dk_at dksX9_slot_4 0 rfl rfl)
theorem dX9_slot_96 : decode cX9_slot 96 = .ok (.arraylength, 1) := dk_190 (dk_at dksX9_slot_4 3 rfl rfl)
theorem dX9_slot_97 : decode cX9_slot 97 = .ok (.iconst 1, 1) := dk_4 (dk_at dksX9_slot_4 4 rfl rfl)
theorem dX9_slot_98 : decode cX9_slot 98 = .ok (.isub, 1) := dk_100 (dk_at dksX9_slot_4 5 rfl rfl)
theorem dX9_slot_99 : decode cX9_slot 99 = .ok (.iand, 1) := dk_126 (dk_at dksX9_slot_4 6 rfl rfl)
theorem dX9_slot_100 : decode cX9_slot 100 = .ok (.istore_n 3, 1) := dk_62 (dk_at dksX9_slot_4 7 rfl rfl)
theorem dX9_slot_101 : decode cX9_slot 101 = .ok (.goto (-40), 3) := dk_167 255 216 (dk_at dksX9_slot_4 8 rfl rfl)
theorem dX9_slot_104 : decode cX9_slot 104 = .ok (.iload_n 3, 1) := dk_29 (dk_at dksX9_slot_4 11 rfl rfl)
theorem dX9_slot_105 : decode cX9_slot 105 = .ok (.ireturn, 1) := dk_172 (dk_at dksX9_slot_4 12 rfl rfl)
abbrev cX9_grow : ByteArray := prog_10_method_6_code
def yX9_grow : MethodName := ⟨RX9, "grow", "()V"⟩
def dkwX9_grow_3 : List UInt8 := [29, 46, 79, 132, 3, 1, 167, 255, 210, 177]
abbrev dktX9_grow_3 : List UInt8 := dkwX9_grow_3 ++ []
def dkwX9_grow_2 : List UInt8 := [4, 100, 182, 0, 48, 54, 4, 42, 180, 0, 9, 21, 4, 43, 29, 46, 79, 42, 180, 0, 15, 21, 4, 44]
abbrev dktX9_grow_2 : List UInt8 := dkwX9_grow_2 ++ dktX9_grow_3
def dkwX9_grow_1 : List UInt8 := [104, 188, 10, 181, 0, 15, 3, 62, 29, 43, 190, 162, 0, 46, 43, 29, 46, 158, 0, 34, 42, 43, 29, 46]
abbrev dktX9_grow_1 : List UInt8 := dkwX9_grow_1 ++ dktX9_grow_2
def dkwX9_grow_0 : List UInt8 := [42, 180, 0, 9, 76, 42, 180, 0, 15, 77, 42, 5, 43, 190, 104, 188, 10, 181, 0, 9, 42, 5, 43, 190]
abbrev dktX9_grow_0 : List UInt8 := dkwX9_grow_0 ++ dktX9_grow_1
theorem dksX9_grow_0 : cX9_grow.data.toList.drop 0 = dktX9_grow_0 := by decide +kernel
theorem dksX9_grow_1 : cX9_grow.data.toList.drop 24 = dktX9_grow_1 := dk_seg dksX9_grow_0 24 rfl rfl
theorem dksX9_grow_2 : cX9_grow.data.toList.drop 48 = dktX9_grow_2 := dk_seg dksX9_grow_1 24 rfl rfl
theorem dksX9_grow_3 : cX9_grow.data.toList.drop 72 = dktX9_grow_3 := dk_seg dksX9_grow_2 24 rfl rfl
theorem dX9_grow_0 : decode cX9_grow 0 = .ok (.aload_n 0, 1) := dk_42 (dk_at dksX9_grow_0 0 rfl rfl)
theorem dX9_grow_1 : decode cX9_grow 1 = .ok (.getfield 9, 3) := dk_180 0 9 (dk_at dksX9_grow_0 1 rfl rfl)
theorem dX9_grow_4 : decode cX9_grow 4 = .ok (.astore_n 1, 1) := dk_76 (dk_at dksX9_grow_0 4 rfl rfl)
theorem dX9_grow_5 : decode cX9_grow 5 = .ok (.aload_n 0, 1) := dk_42 (dk_at dksX9_grow_0 5 rfl rfl)
theorem dX9_grow_6 : decode cX9_grow 6 = .ok (.getfield 15, 3) := dk_180 0 15 (dk_at dksX9_grow_0 6 rfl rfl)
theorem dX9_grow_9 : decode cX9_grow 9 = .ok (.astore_n 2, 1) := dk_77 (dk_at dksX9_grow_0 9 rfl rfl)
theorem dX9_grow_10 : decode cX9_grow 10 = .ok (.aload_n 0, 1) := dk_42 (dk_at dksX9_grow_0 10 rfl rfl)
theorem dX9_grow_11 : decode cX9_grow 11 = .ok (.iconst 2, 1) := dk_5 (dk_at dksX9_grow_0 11 rfl rfl)
theorem dX9_grow_12 : decode cX9_grow 12 = .ok (.aload_n 1, 1) := dk_43 (dk_at dksX9_grow_0 12 rfl rfl)
theorem dX9_grow_13 : decode cX9_grow 13 = .ok (.arraylength, 1) := dk_190 (dk_at dksX9_grow_0 13 rfl rfl)
theorem dX9_grow_14 : decode cX9_grow 14 = .ok (.imul, 1) := dk_104 (dk_at dksX9_grow_0 14 rfl rfl)
theorem dX9_grow_15 : decode cX9_grow 15 = .ok (.newarray .int, 2) := dk_188_10 (dk_at dksX9_grow_0 15 rfl rfl)
theorem dX9_grow_17 : decode cX9_grow 17 = .ok (.putfield 9, 3) := dk_181 0 9 (dk_at dksX9_grow_0 17 rfl rfl)
theorem dX9_grow_20 : decode cX9_grow 20 = .ok (.aload_n 0, 1) := dk_42 (dk_at dksX9_grow_0 20 rfl rfl)
theorem dX9_grow_21 : decode cX9_grow 21 = .ok (.iconst 2, 1) := dk_5 (dk_at dksX9_grow_0 21 rfl rfl)
theorem dX9_grow_22 : decode cX9_grow 22 = .ok (.aload_n 1, 1) := dk_43 (dk_at dksX9_grow_0 22 rfl rfl)
theorem dX9_grow_23 : decode cX9_grow 23 = .ok (.arraylength, 1) := dk_190 (dk_at dksX9_grow_0 23 rfl rfl)
theorem dX9_grow_24 : decode cX9_grow 24 = .ok (.imul, 1) := dk_104 (dk_at dksX9_grow_1 0 rfl rfl)
theorem dX9_grow_25 : decode cX9_grow 25 = .ok (.newarray .int, 2) := dk_188_10 (dk_at dksX9_grow_1 1 rfl rfl)
theorem dX9_grow_27 : decode cX9_grow 27 = .ok (.putfield 15, 3) := dk_181 0 15 (dk_at dksX9_grow_1 3 rfl rfl)
theorem dX9_grow_30 : decode cX9_grow 30 = .ok (.iconst 0, 1) := dk_3 (dk_at dksX9_grow_1 6 rfl rfl)
theorem dX9_grow_31 : decode cX9_grow 31 = .ok (.istore_n 3, 1) := dk_62 (dk_at dksX9_grow_1 7 rfl rfl)
theorem dX9_grow_32 : decode cX9_grow 32 = .ok (.iload_n 3, 1) := dk_29 (dk_at dksX9_grow_1 8 rfl rfl)
theorem dX9_grow_33 : decode cX9_grow 33 = .ok (.aload_n 1, 1) := dk_43 (dk_at dksX9_grow_1 9 rfl rfl)
theorem dX9_grow_34 : decode cX9_grow 34 = .ok (.arraylength, 1) := dk_190 (dk_at dksX9_grow_1 10 rfl rfl)
theorem dX9_grow_35 : decode cX9_grow 35 = .ok (.if_icmp .ge 46, 3) := dk_162 0 46 (dk_at dksX9_grow_1 11 rfl rfl)
theorem dX9_grow_38 : decode cX9_grow 38 = .ok (.aload_n 1, 1) := dk_43 (dk_at dksX9_grow_1 14 rfl rfl)
theorem dX9_grow_39 : decode cX9_grow 39 = .ok (.iload_n 3, 1) := dk_29 (dk_at dksX9_grow_1 15 rfl rfl)
theorem dX9_grow_40 : decode cX9_grow 40 = .ok (.iaload, 1) := dk_46 (dk_at dksX9_grow_1 16 rfl rfl)
theorem dX9_grow_41 : decode cX9_grow 41 = .ok (.ifCond .le 34, 3) := dk_158 0 34 (dk_at dksX9_grow_1 17 rfl rfl)
theorem dX9_grow_44 : decode cX9_grow 44 = .ok (.aload_n 0, 1) := dk_42 (dk_at dksX9_grow_1 20 rfl rfl)
theorem dX9_grow_45 : decode cX9_grow 45 = .ok (.aload_n 1, 1) := dk_43 (dk_at dksX9_grow_1 21 rfl rfl)
theorem dX9_grow_46 : decode cX9_grow 46 = .ok (.iload_n 3, 1) := dk_29 (dk_at dksX9_grow_1 22 rfl rfl)
theorem dX9_grow_47 : decode cX9_grow 47 = .ok (.iaload, 1) := dk_46 (dk_at dksX9_grow_1 23 rfl rfl)
theorem dX9_grow_48 : decode cX9_grow 48 = .ok (.iconst 1, 1) := dk_4 (dk_at dksX9_grow_2 0 rfl rfl)
theorem dX9_grow_49 : decode cX9_grow 49 = .ok (.isub, 1) := dk_100 (dk_at dksX9_grow_2 1 rfl rfl)
theorem dX9_grow_50 : decode cX9_grow 50 = .ok (.invokevirtual 48, 3) := dk_182 0 48 (dk_at dksX9_grow_2 2 rfl rfl)
theorem dX9_grow_53 : decode cX9_grow 53 = .ok (.istore 4, 2) := dk_54 4 (dk_at dksX9_grow_2 5 rfl rfl)
theorem dX9_grow_55 : decode cX9_grow 55 = .ok (.aload_n 0, 1) := dk_42 (dk_at dksX9_grow_2 7 rfl rfl)
theorem dX9_grow_56 : decode cX9_grow 56 = .ok (.getfield 9, 3) := dk_180 0 9 (dk_at dksX9_grow_2 8 rfl rfl)
theorem dX9_grow_59 : decode cX9_grow 59 = .ok (.iload 4, 2) := dk_21 4 (dk_at dksX9_grow_2 11 rfl rfl)
theorem dX9_grow_61 : decode cX9_grow 61 = .ok (.aload_n 1, 1) := dk_43 (dk_at dksX9_grow_2 13 rfl rfl)
theorem dX9_grow_62 : decode cX9_grow 62 = .ok (.iload_n 3, 1) := dk_29 (dk_at dksX9_grow_2 14 rfl rfl)
theorem dX9_grow_63 : decode cX9_grow 63 = .ok (.iaload, 1) := dk_46 (dk_at dksX9_grow_2 15 rfl rfl)
theorem dX9_grow_64 : decode cX9_grow 64 = .ok (.iastore, 1) := dk_79 (dk_at dksX9_grow_2 16 rfl rfl)
theorem dX9_grow_65 : decode cX9_grow 65 = .ok (.aload_n 0, 1) := dk_42 (dk_at dksX9_grow_2 17 rfl rfl)
theorem dX9_grow_66 : decode cX9_grow 66 = .ok (.getfield 15, 3) := dk_180 0 15 (dk_at dksX9_grow_2 18 rfl rfl)
theorem dX9_grow_69 : decode cX9_grow 69 = .ok (.iload 4, 2) := dk_21 4 (dk_at dksX9_grow_2 21 rfl rfl)
theorem dX9_grow_71 : decode cX9_grow 71 = .ok (.aload_n 2, 1) := dk_44 (dk_at dksX9_grow_2 23 rfl rfl)
theorem dX9_grow_72 : decode cX9_grow 72 = .ok (.iload_n 3, 1) := dk_29 (dk_at dksX9_grow_3 0 rfl rfl)
theorem dX9_grow_73 : decode cX9_grow 73 = .ok (.iaload, 1) := dk_46 (dk_at dksX9_grow_3 1 rfl rfl)
theorem dX9_grow_74 : decode cX9_grow 74 = .ok (.iastore, 1) := dk_79 (dk_at dksX9_grow_3 2 rfl rfl)
theorem dX9_grow_75 : decode cX9_grow 75 = .ok (.iinc 3 1, 3) := dk_132 3 1 (dk_at dksX9_grow_3 3 rfl rfl)
theorem dX9_grow_78 : decode cX9_grow 78 = .ok (.goto (-46), 3) := dk_167 255 210 (dk_at dksX9_grow_3 6 rfl rfl)
theorem dX9_grow_81 : decode cX9_grow 81 = .ok (.return_, 1) := dk_177 (dk_at dksX9_grow_3 9 rfl rfl)
abbrev cX9_find : ByteArray := prog_10_method_4_code
def yX9_find : MethodName := ⟨RX9, "find", "(I)I"⟩
def dkwX9_find_1 : List UInt8 := [46, 172]
abbrev dktX9_find_1 : List UInt8 := dkwX9_find_1 ++ []
def dkwX9_find_0 : List UInt8 := [42, 27, 182, 0, 48, 61, 42, 180, 0, 9, 28, 46, 154, 0, 7, 2, 167, 0, 9, 42, 180, 0, 15, 28]
abbrev dktX9_find_0 : List UInt8 := dkwX9_find_0 ++ dktX9_find_1
theorem dksX9_find_0 : cX9_find.data.toList.drop 0 = dktX9_find_0 := by decide +kernel
theorem dksX9_find_1 : cX9_find.data.toList.drop 24 = dktX9_find_1 := dk_seg dksX9_find_0 24 rfl rfl
theorem dX9_find_0 : decode cX9_find 0 = .ok (.aload_n 0, 1) := dk_42 (dk_at dksX9_find_0 0 rfl rfl)
theorem dX9_find_1 : decode cX9_find 1 = .ok (.iload_n 1, 1) := dk_27 (dk_at dksX9_find_0 1 rfl rfl)
theorem dX9_find_2 : decode cX9_find 2 = .ok (.invokevirtual 48, 3) := dk_182 0 48 (dk_at dksX9_find_0 2 rfl rfl)
theorem dX9_find_5 : decode cX9_find 5 = .ok (.istore_n 2, 1) := dk_61 (dk_at dksX9_find_0 5 rfl rfl)
theorem dX9_find_6 : decode cX9_find 6 = .ok (.aload_n 0, 1) := dk_42 (dk_at dksX9_find_0 6 rfl rfl)
theorem dX9_find_7 : decode cX9_find 7 = .ok (.getfield 9, 3) := dk_180 0 9 (dk_at dksX9_find_0 7 rfl rfl)
theorem dX9_find_10 : decode cX9_find 10 = .ok (.iload_n 2, 1) := dk_28 (dk_at dksX9_find_0 10 rfl rfl)
theorem dX9_find_11 : decode cX9_find 11 = .ok (.iaload, 1) := dk_46 (dk_at dksX9_find_0 11 rfl rfl)
theorem dX9_find_12 : decode cX9_find 12 = .ok (.ifCond .ne 7, 3) := dk_154 0 7 (dk_at dksX9_find_0 12 rfl rfl)
theorem dX9_find_15 : decode cX9_find 15 = .ok (.iconst (-1), 1) := dk_2 (dk_at dksX9_find_0 15 rfl rfl)
theorem dX9_find_16 : decode cX9_find 16 = .ok (.goto 9, 3) := dk_167 0 9 (dk_at dksX9_find_0 16 rfl rfl)
theorem dX9_find_19 : decode cX9_find 19 = .ok (.aload_n 0, 1) := dk_42 (dk_at dksX9_find_0 19 rfl rfl)
theorem dX9_find_20 : decode cX9_find 20 = .ok (.getfield 15, 3) := dk_180 0 15 (dk_at dksX9_find_0 20 rfl rfl)
theorem dX9_find_23 : decode cX9_find 23 = .ok (.iload_n 2, 1) := dk_28 (dk_at dksX9_find_0 23 rfl rfl)
theorem dX9_find_24 : decode cX9_find 24 = .ok (.iaload, 1) := dk_46 (dk_at dksX9_find_1 0 rfl rfl)
theorem dX9_find_25 : decode cX9_find 25 = .ok (.ireturn, 1) := dk_172 (dk_at dksX9_find_1 1 rfl rfl)
theorem q306 : (Jvm.Cond.initialized "SchemaWorkshop$Names") ∈ lw_all := lw_g (lw_at lw_m1 9 rfl) rfl
theorem q575 : (Jvm.Cond.instantiable "SchemaWorkshop$Names" (4 : Nat)) ∈ lw_all := lw_g (lw_at lw_m2 38 rfl) rfl
theorem q577 : (Jvm.Cond.instanceMethod ({ cls := "SchemaWorkshop$Names", name := "<init>", desc := "()V" } : Jvm.MethodName)) ∈ lw_all := lw_g (lw_at lw_m2 40 rfl) rfl
theorem q578 : (Jvm.Cond.code ({ cls := "SchemaWorkshop$Names", name := "<init>", desc := "()V" } : Jvm.MethodName) prog_10_method_1_code (1 : Nat) (Option.none : Option Jvm.ClassFile.FieldType)) ∈ lw_all := lw_g (lw_at lw_m2 41 rfl) rfl
theorem q579 : (Jvm.Cond.methodLink "SchemaWorkshop$Names" (3 : Nat) ({ cls := "java/lang/Object", name := "<init>", desc := "()V" } : Jvm.MethodName)) ∈ lw_all := lw_g (lw_at lw_m2 42 rfl) rfl
theorem q580 : (Jvm.Cond.fieldLink "SchemaWorkshop$Names" (18 : Nat) "SchemaWorkshop$Names" "row" "LSchemaWorkshop$Lexemes;") ∈ lw_all := lw_g (lw_at lw_m2 43 rfl) rfl
theorem q581 : (Jvm.Cond.fieldLink "SchemaWorkshop$Names" (9 : Nat) "SchemaWorkshop$Names" "slots" "[I") ∈ lw_all := lw_g (lw_at lw_m2 44 rfl) rfl
theorem q582 : (Jvm.Cond.fieldLink "SchemaWorkshop$Names" (15 : Nat) "SchemaWorkshop$Names" "values" "[I") ∈ lw_all := lw_g (lw_at lw_m2 45 rfl) rfl
theorem q583 : (Jvm.Cond.fieldLink "SchemaWorkshop$Names" (22 : Nat) "SchemaWorkshop$Names" "size" "I") ∈ lw_all := lw_g (lw_at lw_m2 46 rfl) rfl
theorem q584 : (Jvm.Cond.lays "SchemaWorkshop$Names" "SchemaWorkshop$Names" "row" "LSchemaWorkshop$Lexemes;") ∈ lw_all := lw_g (lw_at lw_m2 47 rfl) rfl
theorem q585 : (Jvm.Cond.soleField "SchemaWorkshop$Names" "row") ∈ lw_all := lw_g (lw_at lw_m2 48 rfl) rfl
theorem q586 : (Jvm.Cond.lays "SchemaWorkshop$Names" "SchemaWorkshop$Names" "slots" "[I") ∈ lw_all := lw_g (lw_at lw_m2 49 rfl) rfl
theorem q587 : (Jvm.Cond.soleField "SchemaWorkshop$Names" "slots") ∈ lw_all := lw_g (lw_at lw_m2 50 rfl) rfl
theorem q588 : (Jvm.Cond.lays "SchemaWorkshop$Names" "SchemaWorkshop$Names" "values" "[I") ∈ lw_all := lw_g (lw_at lw_m2 51 rfl) rfl
theorem q589 : (Jvm.Cond.soleField "SchemaWorkshop$Names" "values") ∈ lw_all := lw_g (lw_at lw_m2 52 rfl) rfl
theorem q590 : (Jvm.Cond.lays "SchemaWorkshop$Names" "SchemaWorkshop$Names" "size" "I") ∈ lw_all := lw_g (lw_at lw_m2 53 rfl) rfl
theorem q591 : (Jvm.Cond.soleField "SchemaWorkshop$Names" "size") ∈ lw_all := lw_g (lw_at lw_m2 54 rfl) rfl
theorem q592 : (Jvm.Cond.superclass "SchemaWorkshop$Names" "java/lang/Object") ∈ lw_all := lw_g (lw_at lw_m2 55 rfl) rfl
theorem q1438 : (Jvm.Cond.instanceMethod ({ cls := "SchemaWorkshop$Names", name := "clear", desc := "(LSchemaWorkshop$Lexemes;)V" } : Jvm.MethodName)) ∈ lw_all := lw_g (lw_at lw_m5 181 rfl) rfl
theorem q1439 : (Jvm.Cond.selects "SchemaWorkshop$Names" ({ cls := "SchemaWorkshop$Names", name := "clear", desc := "(LSchemaWorkshop$Lexemes;)V" } : Jvm.MethodName) ({ cls := "SchemaWorkshop$Names", name := "clear", desc := "(LSchemaWorkshop$Lexemes;)V" } : Jvm.MethodName)) ∈ lw_all := lw_g (lw_at lw_m5 182 rfl) rfl
theorem q1440 : (Jvm.Cond.code ({ cls := "SchemaWorkshop$Names", name := "clear", desc := "(LSchemaWorkshop$Lexemes;)V" } : Jvm.MethodName) prog_10_method_2_code (3 : Nat) (Option.none : Option Jvm.ClassFile.FieldType)) ∈ lw_all := lw_g (lw_at lw_m5 183 rfl) rfl
theorem q1454 : (Jvm.Cond.instanceMethod ({ cls := "SchemaWorkshop$Names", name := "put", desc := "(II)Z" } : Jvm.MethodName)) ∈ lw_all := lw_g (lw_at lw_m5 197 rfl) rfl
theorem q1455 : (Jvm.Cond.selects "SchemaWorkshop$Names" ({ cls := "SchemaWorkshop$Names", name := "put", desc := "(II)Z" } : Jvm.MethodName) ({ cls := "SchemaWorkshop$Names", name := "put", desc := "(II)Z" } : Jvm.MethodName)) ∈ lw_all := lw_g (lw_at lw_m5 198 rfl) rfl
theorem q1456 : (Jvm.Cond.code ({ cls := "SchemaWorkshop$Names", name := "put", desc := "(II)Z" } : Jvm.MethodName) prog_10_method_5_code (4 : Nat) (Option.some Jvm.ClassFile.FieldType.boolean)) ∈ lw_all := lw_g (lw_at lw_m5 199 rfl) rfl
theorem q1457 : (Jvm.Cond.methodLink "SchemaWorkshop$Names" (48 : Nat) ({ cls := "SchemaWorkshop$Names", name := "slot", desc := "(I)I" } : Jvm.MethodName)) ∈ lw_all := lw_g (lw_at lw_m5 200 rfl) rfl
theorem q1458 : (Jvm.Cond.privateMethod ({ cls := "SchemaWorkshop$Names", name := "slot", desc := "(I)I" } : Jvm.MethodName)) ∈ lw_tbl := lw_at lw_m5 201 rfl
theorem q1459 : (Jvm.Cond.instanceMethod ({ cls := "SchemaWorkshop$Names", name := "slot", desc := "(I)I" } : Jvm.MethodName)) ∈ lw_all := lw_g (lw_at lw_m5 202 rfl) rfl
theorem q1460 : (Jvm.Cond.code ({ cls := "SchemaWorkshop$Names", name := "slot", desc := "(I)I" } : Jvm.MethodName) prog_10_method_3_code (4 : Nat) (Option.some Jvm.ClassFile.FieldType.int)) ∈ lw_all := lw_g (lw_at lw_m5 203 rfl) rfl
theorem q1461 : (Jvm.Cond.methodLink "SchemaWorkshop$Names" (26 : Nat) ({ cls := "SchemaWorkshop$Lexemes", name := "start", desc := "(I)I" } : Jvm.MethodName)) ∈ lw_all := lw_g (lw_at lw_m5 204 rfl) rfl
theorem q1462 : (Jvm.Cond.methodLink "SchemaWorkshop$Names" (32 : Nat) ({ cls := "SchemaWorkshop$Lexemes", name := "end", desc := "(I)I" } : Jvm.MethodName)) ∈ lw_all := lw_g (lw_at lw_m5 205 rfl) rfl
theorem q1463 : (Jvm.Cond.methodLink "SchemaWorkshop$Names" (35 : Nat) ({ cls := "SchemaWorkshop$Lexemes", name := "text", desc := "()LSchemaWorkshop$Bytes;" } : Jvm.MethodName)) ∈ lw_all := lw_g (lw_at lw_m5 206 rfl) rfl
theorem q1464 : (Jvm.Cond.methodLink "SchemaWorkshop$Names" (39 : Nat) ({ cls := "SchemaWorkshop$Bytes", name := "at", desc := "(I)I" } : Jvm.MethodName)) ∈ lw_all := lw_g (lw_at lw_m5 207 rfl) rfl
theorem q1465 : (Jvm.Cond.methodLink "SchemaWorkshop$Names" (44 : Nat) ({ cls := "SchemaWorkshop$Lexemes", name := "isLike", desc := "(II)Z" } : Jvm.MethodName)) ∈ lw_all := lw_g (lw_at lw_m5 208 rfl) rfl
theorem q1474 : (Jvm.Cond.methodLink "SchemaWorkshop$Names" (51 : Nat) ({ cls := "SchemaWorkshop$Names", name := "grow", desc := "()V" } : Jvm.MethodName)) ∈ lw_all := lw_g (lw_at lw_m5 217 rfl) rfl
theorem q1475 : (Jvm.Cond.privateMethod ({ cls := "SchemaWorkshop$Names", name := "grow", desc := "()V" } : Jvm.MethodName)) ∈ lw_tbl := lw_at lw_m5 218 rfl
theorem q1476 : (Jvm.Cond.instanceMethod ({ cls := "SchemaWorkshop$Names", name := "grow", desc := "()V" } : Jvm.MethodName)) ∈ lw_all := lw_g (lw_at lw_m5 219 rfl) rfl
theorem q1477 : (Jvm.Cond.code ({ cls := "SchemaWorkshop$Names", name := "grow", desc := "()V" } : Jvm.MethodName) prog_10_method_6_code (5 : Nat) (Option.none : Option Jvm.ClassFile.FieldType)) ∈ lw_all := lw_g (lw_at lw_m5 220 rfl) rfl
theorem q1576 : (Jvm.Cond.instanceMethod ({ cls := "SchemaWorkshop$Names", name := "find", desc := "(I)I" } : Jvm.MethodName)) ∈ lw_all := lw_g (lw_at lw_m6 79 rfl) rfl
theorem q1577 : (Jvm.Cond.selects "SchemaWorkshop$Names" ({ cls := "SchemaWorkshop$Names", name := "find", desc := "(I)I" } : Jvm.MethodName) ({ cls := "SchemaWorkshop$Names", name := "find", desc := "(I)I" } : Jvm.MethodName)) ∈ lw_all := lw_g (lw_at lw_m6 80 rfl) rfl
theorem q1578 : (Jvm.Cond.code ({ cls := "SchemaWorkshop$Names", name := "find", desc := "(I)I" } : Jvm.MethodName) prog_10_method_4_code (3 : Nat) (Option.some Jvm.ClassFile.FieldType.int)) ∈ lw_all := lw_g (lw_at lw_m6 81 rfl) rfl
theorem in_X9 : ∀ w ∈ wsX90, w ∈ lw_all := lw_in wsX90 [584, 586, 588, 590] (by decide +kernel) (by decide +kernel)

/-! SchemaWorkshop$Marks -/
set_option maxRecDepth 100000
def RX10 : String := "SchemaWorkshop$Marks"
def TX10 : u_T := fun k => match k with
  | 0 => ("SchemaWorkshop$Marks", "slots", "[I", false)
  | _ => ("SchemaWorkshop$Marks", "size", "I", false)
def tyX10 : Nat → FieldType := fun k => match k with
  | 0 => .array .int
  | _ => .int
abbrev wsX100 : List Cond := u_ws RX10 TX10 2
theorem nmX10 : ∀ a, a < 2 → ∀ b, b < 2 → a ≠ b → (TX10 a).2.1 ≠ (TX10 b).2.1 := by decide +kernel
theorem tyX10_ok : ∀ k, k < 2 → parseFieldDescriptor (TX10 k).2.2.1 = some (tyX10 k) := by decide +kernel
abbrev cX10_init : ByteArray := prog_7_method_1_code
def yX10_init : MethodName := ⟨RX10, "<init>", "()V"⟩
def dkwX10_init_0 : List UInt8 := [42, 183, 0, 1, 42, 16, 64, 188, 10, 181, 0, 7, 177]
abbrev dktX10_init_0 : List UInt8 := dkwX10_init_0 ++ []
theorem dksX10_init_0 : cX10_init.data.toList.drop 0 = dktX10_init_0 := by decide +kernel
theorem dX10_init_0 : decode cX10_init 0 = .ok (.aload_n 0, 1) := dk_42 (dk_at dksX10_init_0 0 rfl rfl)
theorem dX10_init_1 : decode cX10_init 1 = .ok (.invokespecial 1, 3) := dk_183 0 1 (dk_at dksX10_init_0 1 rfl rfl)
theorem dX10_init_4 : decode cX10_init 4 = .ok (.aload_n 0, 1) := dk_42 (dk_at dksX10_init_0 4 rfl rfl)
theorem dX10_init_5 : decode cX10_init 5 = .ok (.bipush 64, 2) := dk_16 64 (dk_at dksX10_init_0 5 rfl rfl)
theorem dX10_init_7 : decode cX10_init 7 = .ok (.newarray .int, 2) := dk_188_10 (dk_at dksX10_init_0 7 rfl rfl)
theorem dX10_init_9 : decode cX10_init 9 = .ok (.putfield 7, 3) := dk_181 0 7 (dk_at dksX10_init_0 9 rfl rfl)
theorem dX10_init_12 : decode cX10_init 12 = .ok (.return_, 1) := dk_177 (dk_at dksX10_init_0 12 rfl rfl)
abbrev cX10_clear : ByteArray := prog_7_method_2_code
def yX10_clear : MethodName := ⟨RX10, "clear", "()V"⟩
def dkwX10_clear_1 : List UInt8 := [79, 132, 1, 1, 167, 255, 230, 42, 3, 181, 0, 13, 177]
abbrev dktX10_clear_1 : List UInt8 := dkwX10_clear_1 ++ []
def dkwX10_clear_0 : List UInt8 := [3, 60, 27, 42, 180, 0, 7, 190, 162, 0, 23, 42, 180, 0, 13, 158, 0, 16, 42, 180, 0, 7, 27, 3]
abbrev dktX10_clear_0 : List UInt8 := dkwX10_clear_0 ++ dktX10_clear_1
theorem dksX10_clear_0 : cX10_clear.data.toList.drop 0 = dktX10_clear_0 := by decide +kernel
theorem dksX10_clear_1 : cX10_clear.data.toList.drop 24 = dktX10_clear_1 := dk_seg dksX10_clear_0 24 rfl rfl
theorem dX10_clear_0 : decode cX10_clear 0 = .ok (.iconst 0, 1) := dk_3 (dk_at dksX10_clear_0 0 rfl rfl)
theorem dX10_clear_1 : decode cX10_clear 1 = .ok (.istore_n 1, 1) := dk_60 (dk_at dksX10_clear_0 1 rfl rfl)
theorem dX10_clear_2 : decode cX10_clear 2 = .ok (.iload_n 1, 1) := dk_27 (dk_at dksX10_clear_0 2 rfl rfl)
theorem dX10_clear_3 : decode cX10_clear 3 = .ok (.aload_n 0, 1) := dk_42 (dk_at dksX10_clear_0 3 rfl rfl)
theorem dX10_clear_4 : decode cX10_clear 4 = .ok (.getfield 7, 3) := dk_180 0 7 (dk_at dksX10_clear_0 4 rfl rfl)
theorem dX10_clear_7 : decode cX10_clear 7 = .ok (.arraylength, 1) := dk_190 (dk_at dksX10_clear_0 7 rfl rfl)
theorem dX10_clear_8 : decode cX10_clear 8 = .ok (.if_icmp .ge 23, 3) := dk_162 0 23 (dk_at dksX10_clear_0 8 rfl rfl)
theorem dX10_clear_11 : decode cX10_clear 11 = .ok (.aload_n 0, 1) := dk_42 (dk_at dksX10_clear_0 11 rfl rfl)
theorem dX10_clear_12 : decode cX10_clear 12 = .ok (.getfield 13, 3) := dk_180 0 13 (dk_at dksX10_clear_0 12 rfl rfl)
theorem dX10_clear_15 : decode cX10_clear 15 = .ok (.ifCond .le 16, 3) := dk_158 0 16 (dk_at dksX10_clear_0 15 rfl rfl)
theorem dX10_clear_18 : decode cX10_clear 18 = .ok (.aload_n 0, 1) := dk_42 (dk_at dksX10_clear_0 18 rfl rfl)
theorem dX10_clear_19 : decode cX10_clear 19 = .ok (.getfield 7, 3) := dk_180 0 7 (dk_at dksX10_clear_0 19 rfl rfl)
theorem dX10_clear_22 : decode cX10_clear 22 = .ok (.iload_n 1, 1) := dk_27 (dk_at dksX10_clear_0 22 rfl rfl)
theorem dX10_clear_23 : decode cX10_clear 23 = .ok (.iconst 0, 1) := dk_3 (dk_at dksX10_clear_0 23 rfl rfl)
theorem dX10_clear_24 : decode cX10_clear 24 = .ok (.iastore, 1) := dk_79 (dk_at dksX10_clear_1 0 rfl rfl)
theorem dX10_clear_25 : decode cX10_clear 25 = .ok (.iinc 1 1, 3) := dk_132 1 1 (dk_at dksX10_clear_1 1 rfl rfl)
theorem dX10_clear_28 : decode cX10_clear 28 = .ok (.goto (-26), 3) := dk_167 255 230 (dk_at dksX10_clear_1 4 rfl rfl)
theorem dX10_clear_31 : decode cX10_clear 31 = .ok (.aload_n 0, 1) := dk_42 (dk_at dksX10_clear_1 7 rfl rfl)
theorem dX10_clear_32 : decode cX10_clear 32 = .ok (.iconst 0, 1) := dk_3 (dk_at dksX10_clear_1 8 rfl rfl)
theorem dX10_clear_33 : decode cX10_clear 33 = .ok (.putfield 13, 3) := dk_181 0 13 (dk_at dksX10_clear_1 9 rfl rfl)
theorem dX10_clear_36 : decode cX10_clear 36 = .ok (.return_, 1) := dk_177 (dk_at dksX10_clear_1 12 rfl rfl)
abbrev cX10_add : ByteArray := prog_7_method_5_code
def yX10_add : MethodName := ⟨RX10, "add", "(I)Z"⟩
def dkwX10_add_4 : List UInt8 := [42, 180, 0, 7, 42, 21, 7, 4, 100, 182, 0, 18, 21, 7, 79, 132, 6, 1, 167, 255, 219, 4, 172]
abbrev dktX10_add_4 : List UInt8 := dkwX10_add_4 ++ []
def dkwX10_add_3 : List UInt8 := [54, 5, 3, 54, 6, 21, 6, 21, 5, 162, 0, 36, 25, 4, 21, 6, 46, 54, 7, 21, 7, 153, 0, 18]
abbrev dktX10_add_3 : List UInt8 := dkwX10_add_3 ++ dktX10_add_4
def dkwX10_add_2 : List UInt8 := [164, 0, 69, 42, 180, 0, 7, 78, 42, 5, 45, 190, 104, 188, 10, 181, 0, 7, 45, 58, 4, 25, 4, 190]
abbrev dktX10_add_2 : List UInt8 := dkwX10_add_2 ++ dktX10_add_3
def dkwX10_add_1 : List UInt8 := [96, 79, 42, 89, 180, 0, 13, 4, 96, 181, 0, 13, 5, 42, 180, 0, 13, 104, 42, 180, 0, 7, 190]
abbrev dktX10_add_1 : List UInt8 := dkwX10_add_1 ++ dktX10_add_2
def dkwX10_add_0 : List UInt8 := [42, 27, 182, 0, 18, 61, 42, 180, 0, 7, 28, 46, 153, 0, 5, 3, 172, 42, 180, 0, 7, 28, 27, 4]
abbrev dktX10_add_0 : List UInt8 := dkwX10_add_0 ++ dktX10_add_1
theorem dksX10_add_0 : cX10_add.data.toList.drop 0 = dktX10_add_0 := by decide +kernel
theorem dksX10_add_1 : cX10_add.data.toList.drop 24 = dktX10_add_1 := dk_seg dksX10_add_0 24 rfl rfl
theorem dksX10_add_2 : cX10_add.data.toList.drop 47 = dktX10_add_2 := dk_seg dksX10_add_1 23 rfl rfl
theorem dksX10_add_3 : cX10_add.data.toList.drop 71 = dktX10_add_3 := dk_seg dksX10_add_2 24 rfl rfl
theorem dksX10_add_4 : cX10_add.data.toList.drop 95 = dktX10_add_4 := dk_seg dksX10_add_3 24 rfl rfl
theorem dX10_add_0 : decode cX10_add 0 = .ok (.aload_n 0, 1) := dk_42 (dk_at dksX10_add_0 0 rfl rfl)
theorem dX10_add_1 : decode cX10_add 1 = .ok (.iload_n 1, 1) := dk_27 (dk_at dksX10_add_0 1 rfl rfl)
theorem dX10_add_2 : decode cX10_add 2 = .ok (.invokevirtual 18, 3) := dk_182 0 18 (dk_at dksX10_add_0 2 rfl rfl)
theorem dX10_add_5 : decode cX10_add 5 = .ok (.istore_n 2, 1) := dk_61 (dk_at dksX10_add_0 5 rfl rfl)
theorem dX10_add_6 : decode cX10_add 6 = .ok (.aload_n 0, 1) := dk_42 (dk_at dksX10_add_0 6 rfl rfl)
theorem dX10_add_7 : decode cX10_add 7 = .ok (.getfield 7, 3) := dk_180 0 7 (dk_at dksX10_add_0 7 rfl rfl)
theorem dX10_add_10 : decode cX10_add 10 = .ok (.iload_n 2, 1) := dk_28 (dk_at dksX10_add_0 10 rfl rfl)
theorem dX10_add_11 : decode cX10_add 11 = .ok (.iaload, 1) := dk_46 (dk_at dksX10_add_0 11 rfl rfl)
theorem dX10_add_12 : decode cX10_add 12 = .ok (.ifCond .eq 5, 3) := dk_153 0 5 (dk_at dksX10_add_0 12 rfl rfl)
theorem dX10_add_15 : decode cX10_add 15 = .ok (.iconst 0, 1) := dk_3 (dk_at dksX10_add_0 15 rfl rfl)
theorem dX10_add_16 : decode cX10_add 16 = .ok (.ireturn, 1) := dk_172 (dk_at dksX10_add_0 16 rfl rfl)
theorem dX10_add_17 : decode cX10_add 17 = .ok (.aload_n 0, 1) := dk_42 (dk_at dksX10_add_0 17 rfl rfl)
theorem dX10_add_18 : decode cX10_add 18 = .ok (.getfield 7, 3) := dk_180 0 7 (dk_at dksX10_add_0 18 rfl rfl)
theorem dX10_add_21 : decode cX10_add 21 = .ok (.iload_n 2, 1) := dk_28 (dk_at dksX10_add_0 21 rfl rfl)
theorem dX10_add_22 : decode cX10_add 22 = .ok (.iload_n 1, 1) := dk_27 (dk_at dksX10_add_0 22 rfl rfl)
theorem dX10_add_23 : decode cX10_add 23 = .ok (.iconst 1, 1) := dk_4 (dk_at dksX10_add_0 23 rfl rfl)
theorem dX10_add_24 : decode cX10_add 24 = .ok (.iadd, 1) := dk_96 (dk_at dksX10_add_1 0 rfl rfl)
theorem dX10_add_25 : decode cX10_add 25 = .ok (.iastore, 1) := dk_79 (dk_at dksX10_add_1 1 rfl rfl)
theorem dX10_add_26 : decode cX10_add 26 = .ok (.aload_n 0, 1) := dk_42 (dk_at dksX10_add_1 2 rfl rfl)
theorem dX10_add_27 : decode cX10_add 27 = .ok (.dup, 1) := dk_89 (dk_at dksX10_add_1 3 rfl rfl)
theorem dX10_add_28 : decode cX10_add 28 = .ok (.getfield 13, 3) := dk_180 0 13 (dk_at dksX10_add_1 4 rfl rfl)
theorem dX10_add_31 : decode cX10_add 31 = .ok (.iconst 1, 1) := dk_4 (dk_at dksX10_add_1 7 rfl rfl)
theorem dX10_add_32 : decode cX10_add 32 = .ok (.iadd, 1) := dk_96 (dk_at dksX10_add_1 8 rfl rfl)
theorem dX10_add_33 : decode cX10_add 33 = .ok (.putfield 13, 3) := dk_181 0 13 (dk_at dksX10_add_1 9 rfl rfl)
theorem dX10_add_36 : decode cX10_add 36 = .ok (.iconst 2, 1) := dk_5 (dk_at dksX10_add_1 12 rfl rfl)
theorem dX10_add_37 : decode cX10_add 37 = .ok (.aload_n 0, 1) := dk_42 (dk_at dksX10_add_1 13 rfl rfl)
theorem dX10_add_38 : decode cX10_add 38 = .ok (.getfield 13, 3) := dk_180 0 13 (dk_at dksX10_add_1 14 rfl rfl)
theorem dX10_add_41 : decode cX10_add 41 = .ok (.imul, 1) := dk_104 (dk_at dksX10_add_1 17 rfl rfl)
theorem dX10_add_42 : decode cX10_add 42 = .ok (.aload_n 0, 1) := dk_42 (dk_at dksX10_add_1 18 rfl rfl)
theorem dX10_add_43 : decode cX10_add 43 = .ok (.getfield 7, 3) := dk_180 0 7 (dk_at dksX10_add_1 19 rfl rfl)
theorem dX10_add_46 : decode cX10_add 46 = .ok (.arraylength, 1) := dk_190 (dk_at dksX10_add_1 22 rfl rfl)
theorem dX10_add_47 : decode cX10_add 47 = .ok (.if_icmp .le 69, 3) := dk_164 0 69 (dk_at dksX10_add_2 0 rfl rfl)
theorem dX10_add_50 : decode cX10_add 50 = .ok (.aload_n 0, 1) := dk_42 (dk_at dksX10_add_2 3 rfl rfl)
theorem dX10_add_51 : decode cX10_add 51 = .ok (.getfield 7, 3) := dk_180 0 7 (dk_at dksX10_add_2 4 rfl rfl)
theorem dX10_add_54 : decode cX10_add 54 = .ok (.astore_n 3, 1) := dk_78 (dk_at dksX10_add_2 7 rfl rfl)
theorem dX10_add_55 : decode cX10_add 55 = .ok (.aload_n 0, 1) := dk_42 (dk_at dksX10_add_2 8 rfl rfl)
theorem dX10_add_56 : decode cX10_add 56 = .ok (.iconst 2, 1) := dk_5 (dk_at dksX10_add_2 9 rfl rfl)
theorem dX10_add_57 : decode cX10_add 57 = .ok (.aload_n 3, 1) := dk_45 (dk_at dksX10_add_2 10 rfl rfl)
theorem dX10_add_58 : decode cX10_add 58 = .ok (.arraylength, 1) := dk_190 (dk_at dksX10_add_2 11 rfl rfl)
theorem dX10_add_59 : decode cX10_add 59 = .ok (.imul, 1) := dk_104 (dk_at dksX10_add_2 12 rfl rfl)
theorem dX10_add_60 : decode cX10_add 60 = .ok (.newarray .int, 2) := dk_188_10 (dk_at dksX10_add_2 13 rfl rfl)
theorem dX10_add_62 : decode cX10_add 62 = .ok (.putfield 7, 3) := dk_181 0 7 (dk_at dksX10_add_2 15 rfl rfl)
theorem dX10_add_65 : decode cX10_add 65 = .ok (.aload_n 3, 1) := dk_45 (dk_at dksX10_add_2 18 rfl rfl)
theorem dX10_add_66 : decode cX10_add 66 = .ok (.astore 4, 2) := dk_58 4 (dk_at dksX10_add_2 19 rfl rfl)
theorem dX10_add_68 : decode cX10_add 68 = .ok (.aload 4, 2) := dk_25 4 (dk_at dksX10_add_2 21 rfl rfl)
theorem dX10_add_70 : decode cX10_add 70 = .ok (.arraylength, 1) := dk_190 (dk_at dksX10_add_2 23 rfl rfl)
theorem dX10_add_71 : decode cX10_add 71 = .ok (.istore 5, 2) := dk_54 5 (dk_at dksX10_add_3 0 rfl rfl)
theorem dX10_add_73 : decode cX10_add 73 = .ok (.iconst 0, 1) := dk_3 (dk_at dksX10_add_3 2 rfl rfl)
theorem dX10_add_74 : decode cX10_add 74 = .ok (.istore 6, 2) := dk_54 6 (dk_at dksX10_add_3 3 rfl rfl)
theorem dX10_add_76 : decode cX10_add 76 = .ok (.iload 6, 2) := dk_21 6 (dk_at dksX10_add_3 5 rfl rfl)
theorem dX10_add_78 : decode cX10_add 78 = .ok (.iload 5, 2) := dk_21 5 (dk_at dksX10_add_3 7 rfl rfl)
theorem dX10_add_80 : decode cX10_add 80 = .ok (.if_icmp .ge 36, 3) := dk_162 0 36 (dk_at dksX10_add_3 9 rfl rfl)
theorem dX10_add_83 : decode cX10_add 83 = .ok (.aload 4, 2) := dk_25 4 (dk_at dksX10_add_3 12 rfl rfl)
theorem dX10_add_85 : decode cX10_add 85 = .ok (.iload 6, 2) := dk_21 6 (dk_at dksX10_add_3 14 rfl rfl)
theorem dX10_add_87 : decode cX10_add 87 = .ok (.iaload, 1) := dk_46 (dk_at dksX10_add_3 16 rfl rfl)
theorem dX10_add_88 : decode cX10_add 88 = .ok (.istore 7, 2) := dk_54 7 (dk_at dksX10_add_3 17 rfl rfl)
theorem dX10_add_90 : decode cX10_add 90 = .ok (.iload 7, 2) := dk_21 7 (dk_at dksX10_add_3 19 rfl rfl)
theorem dX10_add_92 : decode cX10_add 92 = .ok (.ifCond .eq 18, 3) := dk_153 0 18 (dk_at dksX10_add_3 21 rfl rfl)
theorem dX10_add_95 : decode cX10_add 95 = .ok (.aload_n 0, 1) := dk_42 (dk_at dksX10_add_4 0 rfl rfl)
theorem dX10_add_96 : decode cX10_add 96 = .ok (.getfield 7, 3) := dk_180 0 7 (dk_at dksX10_add_4 1 rfl rfl)
theorem dX10_add_99 : decode cX10_add 99 = .ok (.aload_n 0, 1) := dk_42 (dk_at dksX10_add_4 4 rfl rfl)
theorem dX10_add_100 : decode cX10_add 100 = .ok (.iload 7, 2) := dk_21 7 (dk_at dksX10_add_4 5 rfl rfl)
theorem dX10_add_102 : decode cX10_add 102 = .ok (.iconst 1, 1) := dk_4 (dk_at dksX10_add_4 7 rfl rfl)
theorem dX10_add_103 : decode cX10_add 103 = .ok (.isub, 1) := dk_100 (dk_at dksX10_add_4 8 rfl rfl)
theorem dX10_add_104 : decode cX10_add 104 = .ok (.invokevirtual 18, 3) := dk_182 0 18 (dk_at dksX10_add_4 9 rfl rfl)
theorem dX10_add_107 : decode cX10_add 107 = .ok (.iload 7, 2) := dk_21 7 (dk_at dksX10_add_4 12 rfl rfl)
theorem dX10_add_109 : decode cX10_add 109 = .ok (.iastore, 1) := dk_79 (dk_at dksX10_add_4 14 rfl rfl)
theorem dX10_add_110 : decode cX10_add 110 = .ok (.iinc 6 1, 3) := dk_132 6 1 (dk_at dksX10_add_4 15 rfl rfl)
theorem dX10_add_113 : decode cX10_add 113 = .ok (.goto (-37), 3) := dk_167 255 219 (dk_at dksX10_add_4 18 rfl rfl)
theorem dX10_add_116 : decode cX10_add 116 = .ok (.iconst 1, 1) := dk_4 (dk_at dksX10_add_4 21 rfl rfl)
theorem dX10_add_117 : decode cX10_add 117 = .ok (.ireturn, 1) := dk_172 (dk_at dksX10_add_4 22 rfl rfl)
abbrev cX10_slot : ByteArray := prog_7_method_3_code
def yX10_slot : MethodName := ⟨RX10, "slot", "(I)I"⟩
def dkwX10_slot_2 : List UInt8 := [100, 126, 61, 167, 255, 223, 28, 172]
abbrev dktX10_slot_2 : List UInt8 := dkwX10_slot_2 ++ []
def dkwX10_slot_1 : List UInt8 := [153, 0, 30, 42, 180, 0, 7, 28, 46, 27, 4, 96, 159, 0, 18, 28, 4, 96, 42, 180, 0, 7, 190, 4]
abbrev dktX10_slot_1 : List UInt8 := dkwX10_slot_1 ++ dktX10_slot_2
def dkwX10_slot_0 : List UInt8 := [27, 18, 17, 104, 16, 8, 124, 42, 180, 0, 7, 190, 4, 100, 126, 61, 42, 180, 0, 7, 28, 46]
abbrev dktX10_slot_0 : List UInt8 := dkwX10_slot_0 ++ dktX10_slot_1
theorem dksX10_slot_0 : cX10_slot.data.toList.drop 0 = dktX10_slot_0 := by decide +kernel
theorem dksX10_slot_1 : cX10_slot.data.toList.drop 22 = dktX10_slot_1 := dk_seg dksX10_slot_0 22 rfl rfl
theorem dksX10_slot_2 : cX10_slot.data.toList.drop 46 = dktX10_slot_2 := dk_seg dksX10_slot_1 24 rfl rfl
theorem dX10_slot_0 : decode cX10_slot 0 = .ok (.iload_n 1, 1) := dk_27 (dk_at dksX10_slot_0 0 rfl rfl)
theorem dX10_slot_1 : decode cX10_slot 1 = .ok (.ldc 17, 2) := dk_18 17 (dk_at dksX10_slot_0 1 rfl rfl)
theorem dX10_slot_3 : decode cX10_slot 3 = .ok (.imul, 1) := dk_104 (dk_at dksX10_slot_0 3 rfl rfl)
theorem dX10_slot_4 : decode cX10_slot 4 = .ok (.bipush 8, 2) := dk_16 8 (dk_at dksX10_slot_0 4 rfl rfl)
theorem dX10_slot_6 : decode cX10_slot 6 = .ok (.iushr, 1) := dk_124 (dk_at dksX10_slot_0 6 rfl rfl)
theorem dX10_slot_7 : decode cX10_slot 7 = .ok (.aload_n 0, 1) := dk_42 (dk_at dksX10_slot_0 7 rfl rfl)
theorem dX10_slot_8 : decode cX10_slot 8 = .ok (.getfield 7, 3) := dk_180 0 7 (dk_at dksX10_slot_0 8 rfl rfl)
theorem dX10_slot_11 : decode cX10_slot 11 = .ok (.arraylength, 1) := dk_190 (dk_at dksX10_slot_0 11 rfl rfl)
theorem dX10_slot_12 : decode cX10_slot 12 = .ok (.iconst 1, 1) := dk_4 (dk_at dksX10_slot_0 12 rfl rfl)
theorem dX10_slot_13 : decode cX10_slot 13 = .ok (.isub, 1) := dk_100 (dk_at dksX10_slot_0 13 rfl rfl)
theorem dX10_slot_14 : decode cX10_slot 14 = .ok (.iand, 1) := dk_126 (dk_at dksX10_slot_0 14 rfl rfl)
theorem dX10_slot_15 : decode cX10_slot 15 = .ok (.istore_n 2, 1) := dk_61 (dk_at dksX10_slot_0 15 rfl rfl)
theorem dX10_slot_16 : decode cX10_slot 16 = .ok (.aload_n 0, 1) := dk_42 (dk_at dksX10_slot_0 16 rfl rfl)
theorem dX10_slot_17 : decode cX10_slot 17 = .ok (.getfield 7, 3) := dk_180 0 7 (dk_at dksX10_slot_0 17 rfl rfl)
theorem dX10_slot_20 : decode cX10_slot 20 = .ok (.iload_n 2, 1) := dk_28 (dk_at dksX10_slot_0 20 rfl rfl)
theorem dX10_slot_21 : decode cX10_slot 21 = .ok (.iaload, 1) := dk_46 (dk_at dksX10_slot_0 21 rfl rfl)
theorem dX10_slot_22 : decode cX10_slot 22 = .ok (.ifCond .eq 30, 3) := dk_153 0 30 (dk_at dksX10_slot_1 0 rfl rfl)
theorem dX10_slot_25 : decode cX10_slot 25 = .ok (.aload_n 0, 1) := dk_42 (dk_at dksX10_slot_1 3 rfl rfl)
theorem dX10_slot_26 : decode cX10_slot 26 = .ok (.getfield 7, 3) := dk_180 0 7 (dk_at dksX10_slot_1 4 rfl rfl)
theorem dX10_slot_29 : decode cX10_slot 29 = .ok (.iload_n 2, 1) := dk_28 (dk_at dksX10_slot_1 7 rfl rfl)
theorem dX10_slot_30 : decode cX10_slot 30 = .ok (.iaload, 1) := dk_46 (dk_at dksX10_slot_1 8 rfl rfl)
theorem dX10_slot_31 : decode cX10_slot 31 = .ok (.iload_n 1, 1) := dk_27 (dk_at dksX10_slot_1 9 rfl rfl)
theorem dX10_slot_32 : decode cX10_slot 32 = .ok (.iconst 1, 1) := dk_4 (dk_at dksX10_slot_1 10 rfl rfl)
theorem dX10_slot_33 : decode cX10_slot 33 = .ok (.iadd, 1) := dk_96 (dk_at dksX10_slot_1 11 rfl rfl)
theorem dX10_slot_34 : decode cX10_slot 34 = .ok (.if_icmp .eq 18, 3) := dk_159 0 18 (dk_at dksX10_slot_1 12 rfl rfl)
theorem dX10_slot_37 : decode cX10_slot 37 = .ok (.iload_n 2, 1) := dk_28 (dk_at dksX10_slot_1 15 rfl rfl)
theorem dX10_slot_38 : decode cX10_slot 38 = .ok (.iconst 1, 1) := dk_4 (dk_at dksX10_slot_1 16 rfl rfl)
theorem dX10_slot_39 : decode cX10_slot 39 = .ok (.iadd, 1) := dk_96 (dk_at dksX10_slot_1 17 rfl rfl)
theorem dX10_slot_40 : decode cX10_slot 40 = .ok (.aload_n 0, 1) := dk_42 (dk_at dksX10_slot_1 18 rfl rfl)
theorem dX10_slot_41 : decode cX10_slot 41 = .ok (.getfield 7, 3) := dk_180 0 7 (dk_at dksX10_slot_1 19 rfl rfl)
theorem dX10_slot_44 : decode cX10_slot 44 = .ok (.arraylength, 1) := dk_190 (dk_at dksX10_slot_1 22 rfl rfl)
theorem dX10_slot_45 : decode cX10_slot 45 = .ok (.iconst 1, 1) := dk_4 (dk_at dksX10_slot_1 23 rfl rfl)
theorem dX10_slot_46 : decode cX10_slot 46 = .ok (.isub, 1) := dk_100 (dk_at dksX10_slot_2 0 rfl rfl)
theorem dX10_slot_47 : decode cX10_slot 47 = .ok (.iand, 1) := dk_126 (dk_at dksX10_slot_2 1 rfl rfl)
theorem dX10_slot_48 : decode cX10_slot 48 = .ok (.istore_n 2, 1) := dk_61 (dk_at dksX10_slot_2 2 rfl rfl)
theorem dX10_slot_49 : decode cX10_slot 49 = .ok (.goto (-33), 3) := dk_167 255 223 (dk_at dksX10_slot_2 3 rfl rfl)
theorem dX10_slot_52 : decode cX10_slot 52 = .ok (.iload_n 2, 1) := dk_28 (dk_at dksX10_slot_2 6 rfl rfl)
theorem dX10_slot_53 : decode cX10_slot 53 = .ok (.ireturn, 1) := dk_172 (dk_at dksX10_slot_2 7 rfl rfl)
abbrev cX10_has : ByteArray := prog_7_method_4_code
def yX10_has : MethodName := ⟨RX10, "has", "(I)Z"⟩
def dkwX10_has_0 : List UInt8 := [42, 180, 0, 7, 42, 27, 182, 0, 18, 46, 153, 0, 7, 4, 167, 0, 4, 3, 172]
abbrev dktX10_has_0 : List UInt8 := dkwX10_has_0 ++ []
theorem dksX10_has_0 : cX10_has.data.toList.drop 0 = dktX10_has_0 := by decide +kernel
theorem dX10_has_0 : decode cX10_has 0 = .ok (.aload_n 0, 1) := dk_42 (dk_at dksX10_has_0 0 rfl rfl)
theorem dX10_has_1 : decode cX10_has 1 = .ok (.getfield 7, 3) := dk_180 0 7 (dk_at dksX10_has_0 1 rfl rfl)
theorem dX10_has_4 : decode cX10_has 4 = .ok (.aload_n 0, 1) := dk_42 (dk_at dksX10_has_0 4 rfl rfl)
theorem dX10_has_5 : decode cX10_has 5 = .ok (.iload_n 1, 1) := dk_27 (dk_at dksX10_has_0 5 rfl rfl)
theorem dX10_has_6 : decode cX10_has 6 = .ok (.invokevirtual 18, 3) := dk_182 0 18 (dk_at dksX10_has_0 6 rfl rfl)
theorem dX10_has_9 : decode cX10_has 9 = .ok (.iaload, 1) := dk_46 (dk_at dksX10_has_0 9 rfl rfl)
theorem dX10_has_10 : decode cX10_has 10 = .ok (.ifCond .eq 7, 3) := dk_153 0 7 (dk_at dksX10_has_0 10 rfl rfl)
theorem dX10_has_13 : decode cX10_has 13 = .ok (.iconst 1, 1) := dk_4 (dk_at dksX10_has_0 13 rfl rfl)
theorem dX10_has_14 : decode cX10_has 14 = .ok (.goto 4, 3) := dk_167 0 4 (dk_at dksX10_has_0 14 rfl rfl)
theorem dX10_has_17 : decode cX10_has 17 = .ok (.iconst 0, 1) := dk_3 (dk_at dksX10_has_0 17 rfl rfl)
theorem dX10_has_18 : decode cX10_has 18 = .ok (.ireturn, 1) := dk_172 (dk_at dksX10_has_0 18 rfl rfl)
theorem q307 : (Jvm.Cond.initialized "SchemaWorkshop$Marks") ∈ lw_all := lw_g (lw_at lw_m1 10 rfl) rfl
theorem q594 : (Jvm.Cond.instantiable "SchemaWorkshop$Marks" (2 : Nat)) ∈ lw_all := lw_g (lw_at lw_m2 57 rfl) rfl
theorem q596 : (Jvm.Cond.instanceMethod ({ cls := "SchemaWorkshop$Marks", name := "<init>", desc := "()V" } : Jvm.MethodName)) ∈ lw_all := lw_g (lw_at lw_m2 59 rfl) rfl
theorem q597 : (Jvm.Cond.code ({ cls := "SchemaWorkshop$Marks", name := "<init>", desc := "()V" } : Jvm.MethodName) prog_7_method_1_code (1 : Nat) (Option.none : Option Jvm.ClassFile.FieldType)) ∈ lw_all := lw_g (lw_at lw_m2 60 rfl) rfl
theorem q598 : (Jvm.Cond.methodLink "SchemaWorkshop$Marks" (1 : Nat) ({ cls := "java/lang/Object", name := "<init>", desc := "()V" } : Jvm.MethodName)) ∈ lw_all := lw_g (lw_at lw_m2 61 rfl) rfl
theorem q599 : (Jvm.Cond.fieldLink "SchemaWorkshop$Marks" (7 : Nat) "SchemaWorkshop$Marks" "slots" "[I") ∈ lw_all := lw_g (lw_at lw_m2 62 rfl) rfl
theorem q600 : (Jvm.Cond.fieldLink "SchemaWorkshop$Marks" (13 : Nat) "SchemaWorkshop$Marks" "size" "I") ∈ lw_all := lw_g (lw_at lw_m2 63 rfl) rfl
theorem q601 : (Jvm.Cond.lays "SchemaWorkshop$Marks" "SchemaWorkshop$Marks" "slots" "[I") ∈ lw_all := lw_g (lw_at lw_m2 64 rfl) rfl
theorem q602 : (Jvm.Cond.soleField "SchemaWorkshop$Marks" "slots") ∈ lw_all := lw_g (lw_at lw_m2 65 rfl) rfl
theorem q603 : (Jvm.Cond.lays "SchemaWorkshop$Marks" "SchemaWorkshop$Marks" "size" "I") ∈ lw_all := lw_g (lw_at lw_m2 66 rfl) rfl
theorem q604 : (Jvm.Cond.soleField "SchemaWorkshop$Marks" "size") ∈ lw_all := lw_g (lw_at lw_m2 67 rfl) rfl
theorem q605 : (Jvm.Cond.superclass "SchemaWorkshop$Marks" "java/lang/Object") ∈ lw_all := lw_g (lw_at lw_m2 68 rfl) rfl
theorem q1546 : (Jvm.Cond.instanceMethod ({ cls := "SchemaWorkshop$Marks", name := "clear", desc := "()V" } : Jvm.MethodName)) ∈ lw_all := lw_g (lw_at lw_m6 49 rfl) rfl
theorem q1547 : (Jvm.Cond.selects "SchemaWorkshop$Marks" ({ cls := "SchemaWorkshop$Marks", name := "clear", desc := "()V" } : Jvm.MethodName) ({ cls := "SchemaWorkshop$Marks", name := "clear", desc := "()V" } : Jvm.MethodName)) ∈ lw_all := lw_g (lw_at lw_m6 50 rfl) rfl
theorem q1548 : (Jvm.Cond.code ({ cls := "SchemaWorkshop$Marks", name := "clear", desc := "()V" } : Jvm.MethodName) prog_7_method_2_code (2 : Nat) (Option.none : Option Jvm.ClassFile.FieldType)) ∈ lw_all := lw_g (lw_at lw_m6 51 rfl) rfl
theorem q1555 : (Jvm.Cond.instanceMethod ({ cls := "SchemaWorkshop$Marks", name := "add", desc := "(I)Z" } : Jvm.MethodName)) ∈ lw_all := lw_g (lw_at lw_m6 58 rfl) rfl
theorem q1556 : (Jvm.Cond.selects "SchemaWorkshop$Marks" ({ cls := "SchemaWorkshop$Marks", name := "add", desc := "(I)Z" } : Jvm.MethodName) ({ cls := "SchemaWorkshop$Marks", name := "add", desc := "(I)Z" } : Jvm.MethodName)) ∈ lw_all := lw_g (lw_at lw_m6 59 rfl) rfl
theorem q1557 : (Jvm.Cond.code ({ cls := "SchemaWorkshop$Marks", name := "add", desc := "(I)Z" } : Jvm.MethodName) prog_7_method_5_code (8 : Nat) (Option.some Jvm.ClassFile.FieldType.boolean)) ∈ lw_all := lw_g (lw_at lw_m6 60 rfl) rfl
theorem q1558 : (Jvm.Cond.methodLink "SchemaWorkshop$Marks" (18 : Nat) ({ cls := "SchemaWorkshop$Marks", name := "slot", desc := "(I)I" } : Jvm.MethodName)) ∈ lw_all := lw_g (lw_at lw_m6 61 rfl) rfl
theorem q1559 : (Jvm.Cond.privateMethod ({ cls := "SchemaWorkshop$Marks", name := "slot", desc := "(I)I" } : Jvm.MethodName)) ∈ lw_tbl := lw_at lw_m6 62 rfl
theorem q1560 : (Jvm.Cond.instanceMethod ({ cls := "SchemaWorkshop$Marks", name := "slot", desc := "(I)I" } : Jvm.MethodName)) ∈ lw_all := lw_g (lw_at lw_m6 63 rfl) rfl
theorem q1561 : (Jvm.Cond.code ({ cls := "SchemaWorkshop$Marks", name := "slot", desc := "(I)I" } : Jvm.MethodName) prog_7_method_3_code (3 : Nat) (Option.some Jvm.ClassFile.FieldType.int)) ∈ lw_all := lw_g (lw_at lw_m6 64 rfl) rfl
theorem q1562 : (Jvm.Cond.constant "SchemaWorkshop$Marks" (17 : Nat) (-1640531527 : Int32)) ∈ lw_all := lw_g (lw_at lw_m6 65 rfl) rfl
theorem q1649 : (Jvm.Cond.instanceMethod ({ cls := "SchemaWorkshop$Marks", name := "has", desc := "(I)Z" } : Jvm.MethodName)) ∈ lw_all := lw_g (lw_at lw_m6 152 rfl) rfl
theorem q1650 : (Jvm.Cond.selects "SchemaWorkshop$Marks" ({ cls := "SchemaWorkshop$Marks", name := "has", desc := "(I)Z" } : Jvm.MethodName) ({ cls := "SchemaWorkshop$Marks", name := "has", desc := "(I)Z" } : Jvm.MethodName)) ∈ lw_all := lw_g (lw_at lw_m6 153 rfl) rfl
theorem q1651 : (Jvm.Cond.code ({ cls := "SchemaWorkshop$Marks", name := "has", desc := "(I)Z" } : Jvm.MethodName) prog_7_method_4_code (2 : Nat) (Option.some Jvm.ClassFile.FieldType.boolean)) ∈ lw_all := lw_g (lw_at lw_m6 154 rfl) rfl
theorem in_X10 : ∀ w ∈ wsX100, w ∈ lw_all := lw_in wsX100 [601, 603] (by decide +kernel) (by decide +kernel)

/-! SchemaWorkshop$Times -/
set_option maxRecDepth 100000
def RX8 : String := "SchemaWorkshop$Times"
def TX8 : u_T := fun k => match k with
  | 0 => ("SchemaWorkshop$Times", "row", "LSchemaWorkshop$Bytes;", false)
  | 1 => ("SchemaWorkshop$Times", "at", "I", false)
  | 2 => ("SchemaWorkshop$Times", "end", "I", false)
  | 3 => ("SchemaWorkshop$Times", "year", "I", false)
  | 4 => ("SchemaWorkshop$Times", "month", "I", false)
  | 5 => ("SchemaWorkshop$Times", "day", "I", false)
  | 6 => ("SchemaWorkshop$Times", "hour", "I", false)
  | 7 => ("SchemaWorkshop$Times", "minute", "I", false)
  | 8 => ("SchemaWorkshop$Times", "second", "I", false)
  | _ => ("SchemaWorkshop$Times", "part", "LSchemaWorkshop$Bytes;", true)
def tyX8 : Nat → FieldType := fun k => match k with
  | 0 => .object "SchemaWorkshop$Bytes"
  | 1 => .int
  | 2 => .int
  | 3 => .int
  | 4 => .int
  | 5 => .int
  | 6 => .int
  | 7 => .int
  | 8 => .int
  | _ => .object "SchemaWorkshop$Bytes"
abbrev wsX80 : List Cond := u_ws RX8 TX8 10
theorem nmX8 : ∀ a, a < 10 → ∀ b, b < 10 → a ≠ b → (TX8 a).2.1 ≠ (TX8 b).2.1 := by decide +kernel
theorem tyX8_ok : ∀ k, k < 10 → parseFieldDescriptor (TX8 k).2.2.1 = some (tyX8 k) := by decide +kernel
abbrev cX8_init : ByteArray := prog_12_method_1_code
def yX8_init : MethodName := ⟨RX8, "<init>", "()V"⟩
def dkwX8_init_0 : List UInt8 := [42, 183, 0, 3, 42, 187, 0, 9, 89, 183, 0, 11, 181, 0, 12, 177]
abbrev dktX8_init_0 : List UInt8 := dkwX8_init_0 ++ []
theorem dksX8_init_0 : cX8_init.data.toList.drop 0 = dktX8_init_0 := by decide +kernel
theorem dX8_init_0 : decode cX8_init 0 = .ok (.aload_n 0, 1) := dk_42 (dk_at dksX8_init_0 0 rfl rfl)
theorem dX8_init_1 : decode cX8_init 1 = .ok (.invokespecial 3, 3) := dk_183 0 3 (dk_at dksX8_init_0 1 rfl rfl)
theorem dX8_init_4 : decode cX8_init 4 = .ok (.aload_n 0, 1) := dk_42 (dk_at dksX8_init_0 4 rfl rfl)
theorem dX8_init_5 : decode cX8_init 5 = .ok (.new 9, 3) := dk_187 0 9 (dk_at dksX8_init_0 5 rfl rfl)
theorem dX8_init_8 : decode cX8_init 8 = .ok (.dup, 1) := dk_89 (dk_at dksX8_init_0 8 rfl rfl)
theorem dX8_init_9 : decode cX8_init 9 = .ok (.invokespecial 11, 3) := dk_183 0 11 (dk_at dksX8_init_0 9 rfl rfl)
theorem dX8_init_12 : decode cX8_init 12 = .ok (.putfield 12, 3) := dk_181 0 12 (dk_at dksX8_init_0 12 rfl rfl)
theorem dX8_init_15 : decode cX8_init 15 = .ok (.return_, 1) := dk_177 (dk_at dksX8_init_0 15 rfl rfl)
abbrev cX8_read : ByteArray := prog_12_method_13_code
def yX8_read : MethodName := ⟨RX8, "read", "(LSchemaWorkshop$Bytes;IIZLSchemaWorkshop$Bytes;)I"⟩
def dkwX8_read_10 : List UInt8 := [182, 0, 71, 3, 172]
abbrev dktX8_read_10 : List UInt8 := dkwX8_read_10 ++ []
def dkwX8_read_9 : List UInt8 := [42, 180, 0, 12, 21, 7, 182, 0, 28, 96, 182, 0, 71, 132, 7, 1, 167, 255, 224, 25, 5, 16, 90]
abbrev dktX8_read_9 : List UInt8 := dkwX8_read_9 ++ dktX8_read_10
def dkwX8_read_8 : List UInt8 := [16, 46, 182, 0, 71, 3, 54, 7, 21, 7, 42, 180, 0, 12, 182, 0, 78, 162, 0, 26, 25, 5, 16, 48]
abbrev dktX8_read_8 : List UInt8 := dkwX8_read_8 ++ dktX8_read_9
def dkwX8_read_7 : List UInt8 := [184, 0, 102, 25, 5, 42, 180, 0, 61, 184, 0, 102, 42, 180, 0, 12, 182, 0, 78, 158, 0, 48, 25, 5]
abbrev dktX8_read_7 : List UInt8 := dkwX8_read_7 ++ dktX8_read_8
def dkwX8_read_6 : List UInt8 := [25, 5, 42, 180, 0, 44, 184, 0, 102, 25, 5, 42, 180, 0, 51, 184, 0, 102, 25, 5, 42, 180, 0, 58]
abbrev dktX8_read_6 : List UInt8 := dkwX8_read_6 ++ dktX8_read_7
def dkwX8_read_5 : List UInt8 := [184, 0, 102, 25, 5, 42, 180, 0, 38, 16, 100, 112, 184, 0, 102, 25, 5, 42, 180, 0, 41, 184, 0, 102]
abbrev dktX8_read_5 : List UInt8 := dkwX8_read_5 ++ dktX8_read_6
def dkwX8_read_4 : List UInt8 := [17, 8, 1, 164, 0, 6, 16, 20, 172, 21, 4, 153, 0, 15, 25, 5, 42, 180, 0, 38, 16, 100, 108]
abbrev dktX8_read_4 : List UInt8 := dkwX8_read_4 ++ dktX8_read_5
def dkwX8_read_3 : List UInt8 := [17, 39, 15, 164, 0, 29, 167, 0, 23, 42, 180, 0, 38, 17, 7, 158, 161, 0, 13, 42, 180, 0, 38]
abbrev dktX8_read_3 : List UInt8 := dkwX8_read_3 ++ dktX8_read_4
def dkwX8_read_2 : List UInt8 := [153, 0, 6, 21, 6, 172, 21, 4, 153, 0, 23, 42, 180, 0, 38, 155, 0, 36, 42, 180, 0, 38]
abbrev dktX8_read_2 : List UInt8 := dkwX8_read_2 ++ dktX8_read_3
def dkwX8_read_1 : List UInt8 := [42, 21, 4, 182, 0, 95, 154, 0, 6, 16, 18, 172, 42, 21, 4, 182, 0, 98, 54, 6, 21, 6]
abbrev dktX8_read_1 : List UInt8 := dkwX8_read_1 ++ dktX8_read_2
def dkwX8_read_0 : List UInt8 := [42, 43, 181, 0, 25, 42, 28, 181, 0, 18, 42, 29, 181, 0, 22, 42, 21, 4, 182, 0, 91, 153, 0, 12]
abbrev dktX8_read_0 : List UInt8 := dkwX8_read_0 ++ dktX8_read_1
theorem dksX8_read_0 : cX8_read.data.toList.drop 0 = dktX8_read_0 := by decide +kernel
theorem dksX8_read_1 : cX8_read.data.toList.drop 24 = dktX8_read_1 := dk_seg dksX8_read_0 24 rfl rfl
theorem dksX8_read_2 : cX8_read.data.toList.drop 46 = dktX8_read_2 := dk_seg dksX8_read_1 22 rfl rfl
theorem dksX8_read_3 : cX8_read.data.toList.drop 68 = dktX8_read_3 := dk_seg dksX8_read_2 22 rfl rfl
theorem dksX8_read_4 : cX8_read.data.toList.drop 91 = dktX8_read_4 := dk_seg dksX8_read_3 23 rfl rfl
theorem dksX8_read_5 : cX8_read.data.toList.drop 114 = dktX8_read_5 := dk_seg dksX8_read_4 23 rfl rfl
theorem dksX8_read_6 : cX8_read.data.toList.drop 138 = dktX8_read_6 := dk_seg dksX8_read_5 24 rfl rfl
theorem dksX8_read_7 : cX8_read.data.toList.drop 162 = dktX8_read_7 := dk_seg dksX8_read_6 24 rfl rfl
theorem dksX8_read_8 : cX8_read.data.toList.drop 186 = dktX8_read_8 := dk_seg dksX8_read_7 24 rfl rfl
theorem dksX8_read_9 : cX8_read.data.toList.drop 210 = dktX8_read_9 := dk_seg dksX8_read_8 24 rfl rfl
theorem dksX8_read_10 : cX8_read.data.toList.drop 233 = dktX8_read_10 := dk_seg dksX8_read_9 23 rfl rfl
theorem dX8_read_0 : decode cX8_read 0 = .ok (.aload_n 0, 1) := dk_42 (dk_at dksX8_read_0 0 rfl rfl)
theorem dX8_read_1 : decode cX8_read 1 = .ok (.aload_n 1, 1) := dk_43 (dk_at dksX8_read_0 1 rfl rfl)
theorem dX8_read_2 : decode cX8_read 2 = .ok (.putfield 25, 3) := dk_181 0 25 (dk_at dksX8_read_0 2 rfl rfl)
theorem dX8_read_5 : decode cX8_read 5 = .ok (.aload_n 0, 1) := dk_42 (dk_at dksX8_read_0 5 rfl rfl)
theorem dX8_read_6 : decode cX8_read 6 = .ok (.iload_n 2, 1) := dk_28 (dk_at dksX8_read_0 6 rfl rfl)
theorem dX8_read_7 : decode cX8_read 7 = .ok (.putfield 18, 3) := dk_181 0 18 (dk_at dksX8_read_0 7 rfl rfl)
theorem dX8_read_10 : decode cX8_read 10 = .ok (.aload_n 0, 1) := dk_42 (dk_at dksX8_read_0 10 rfl rfl)
theorem dX8_read_11 : decode cX8_read 11 = .ok (.iload_n 3, 1) := dk_29 (dk_at dksX8_read_0 11 rfl rfl)
theorem dX8_read_12 : decode cX8_read 12 = .ok (.putfield 22, 3) := dk_181 0 22 (dk_at dksX8_read_0 12 rfl rfl)
theorem dX8_read_15 : decode cX8_read 15 = .ok (.aload_n 0, 1) := dk_42 (dk_at dksX8_read_0 15 rfl rfl)
theorem dX8_read_16 : decode cX8_read 16 = .ok (.iload 4, 2) := dk_21 4 (dk_at dksX8_read_0 16 rfl rfl)
theorem dX8_read_18 : decode cX8_read 18 = .ok (.invokevirtual 91, 3) := dk_182 0 91 (dk_at dksX8_read_0 18 rfl rfl)
theorem dX8_read_21 : decode cX8_read 21 = .ok (.ifCond .eq 12, 3) := dk_153 0 12 (dk_at dksX8_read_0 21 rfl rfl)
theorem dX8_read_24 : decode cX8_read 24 = .ok (.aload_n 0, 1) := dk_42 (dk_at dksX8_read_1 0 rfl rfl)
theorem dX8_read_25 : decode cX8_read 25 = .ok (.iload 4, 2) := dk_21 4 (dk_at dksX8_read_1 1 rfl rfl)
theorem dX8_read_27 : decode cX8_read 27 = .ok (.invokevirtual 95, 3) := dk_182 0 95 (dk_at dksX8_read_1 3 rfl rfl)
theorem dX8_read_30 : decode cX8_read 30 = .ok (.ifCond .ne 6, 3) := dk_154 0 6 (dk_at dksX8_read_1 6 rfl rfl)
theorem dX8_read_33 : decode cX8_read 33 = .ok (.bipush 18, 2) := dk_16 18 (dk_at dksX8_read_1 9 rfl rfl)
theorem dX8_read_35 : decode cX8_read 35 = .ok (.ireturn, 1) := dk_172 (dk_at dksX8_read_1 11 rfl rfl)
theorem dX8_read_36 : decode cX8_read 36 = .ok (.aload_n 0, 1) := dk_42 (dk_at dksX8_read_1 12 rfl rfl)
theorem dX8_read_37 : decode cX8_read 37 = .ok (.iload 4, 2) := dk_21 4 (dk_at dksX8_read_1 13 rfl rfl)
theorem dX8_read_39 : decode cX8_read 39 = .ok (.invokevirtual 98, 3) := dk_182 0 98 (dk_at dksX8_read_1 15 rfl rfl)
theorem dX8_read_42 : decode cX8_read 42 = .ok (.istore 6, 2) := dk_54 6 (dk_at dksX8_read_1 18 rfl rfl)
theorem dX8_read_44 : decode cX8_read 44 = .ok (.iload 6, 2) := dk_21 6 (dk_at dksX8_read_1 20 rfl rfl)
theorem dX8_read_46 : decode cX8_read 46 = .ok (.ifCond .eq 6, 3) := dk_153 0 6 (dk_at dksX8_read_2 0 rfl rfl)
theorem dX8_read_49 : decode cX8_read 49 = .ok (.iload 6, 2) := dk_21 6 (dk_at dksX8_read_2 3 rfl rfl)
theorem dX8_read_51 : decode cX8_read 51 = .ok (.ireturn, 1) := dk_172 (dk_at dksX8_read_2 5 rfl rfl)
theorem dX8_read_52 : decode cX8_read 52 = .ok (.iload 4, 2) := dk_21 4 (dk_at dksX8_read_2 6 rfl rfl)
theorem dX8_read_54 : decode cX8_read 54 = .ok (.ifCond .eq 23, 3) := dk_153 0 23 (dk_at dksX8_read_2 8 rfl rfl)
theorem dX8_read_57 : decode cX8_read 57 = .ok (.aload_n 0, 1) := dk_42 (dk_at dksX8_read_2 11 rfl rfl)
theorem dX8_read_58 : decode cX8_read 58 = .ok (.getfield 38, 3) := dk_180 0 38 (dk_at dksX8_read_2 12 rfl rfl)
theorem dX8_read_61 : decode cX8_read 61 = .ok (.ifCond .lt 36, 3) := dk_155 0 36 (dk_at dksX8_read_2 15 rfl rfl)
theorem dX8_read_64 : decode cX8_read 64 = .ok (.aload_n 0, 1) := dk_42 (dk_at dksX8_read_2 18 rfl rfl)
theorem dX8_read_65 : decode cX8_read 65 = .ok (.getfield 38, 3) := dk_180 0 38 (dk_at dksX8_read_2 19 rfl rfl)
theorem dX8_read_68 : decode cX8_read 68 = .ok (.sipush 9999, 3) := dk_17 39 15 (dk_at dksX8_read_3 0 rfl rfl)
theorem dX8_read_71 : decode cX8_read 71 = .ok (.if_icmp .le 29, 3) := dk_164 0 29 (dk_at dksX8_read_3 3 rfl rfl)
theorem dX8_read_74 : decode cX8_read 74 = .ok (.goto 23, 3) := dk_167 0 23 (dk_at dksX8_read_3 6 rfl rfl)
theorem dX8_read_77 : decode cX8_read 77 = .ok (.aload_n 0, 1) := dk_42 (dk_at dksX8_read_3 9 rfl rfl)
theorem dX8_read_78 : decode cX8_read 78 = .ok (.getfield 38, 3) := dk_180 0 38 (dk_at dksX8_read_3 10 rfl rfl)
theorem dX8_read_81 : decode cX8_read 81 = .ok (.sipush 1950, 3) := dk_17 7 158 (dk_at dksX8_read_3 13 rfl rfl)
theorem dX8_read_84 : decode cX8_read 84 = .ok (.if_icmp .lt 13, 3) := dk_161 0 13 (dk_at dksX8_read_3 16 rfl rfl)
theorem dX8_read_87 : decode cX8_read 87 = .ok (.aload_n 0, 1) := dk_42 (dk_at dksX8_read_3 19 rfl rfl)
theorem dX8_read_88 : decode cX8_read 88 = .ok (.getfield 38, 3) := dk_180 0 38 (dk_at dksX8_read_3 20 rfl rfl)
theorem dX8_read_91 : decode cX8_read 91 = .ok (.sipush 2049, 3) := dk_17 8 1 (dk_at dksX8_read_4 0 rfl rfl)
theorem dX8_read_94 : decode cX8_read 94 = .ok (.if_icmp .le 6, 3) := dk_164 0 6 (dk_at dksX8_read_4 3 rfl rfl)
theorem dX8_read_97 : decode cX8_read 97 = .ok (.bipush 20, 2) := dk_16 20 (dk_at dksX8_read_4 6 rfl rfl)
theorem dX8_read_99 : decode cX8_read 99 = .ok (.ireturn, 1) := dk_172 (dk_at dksX8_read_4 8 rfl rfl)
theorem dX8_read_100 : decode cX8_read 100 = .ok (.iload 4, 2) := dk_21 4 (dk_at dksX8_read_4 9 rfl rfl)
theorem dX8_read_102 : decode cX8_read 102 = .ok (.ifCond .eq 15, 3) := dk_153 0 15 (dk_at dksX8_read_4 11 rfl rfl)
theorem dX8_read_105 : decode cX8_read 105 = .ok (.aload 5, 2) := dk_25 5 (dk_at dksX8_read_4 14 rfl rfl)
theorem dX8_read_107 : decode cX8_read 107 = .ok (.aload_n 0, 1) := dk_42 (dk_at dksX8_read_4 16 rfl rfl)
theorem dX8_read_108 : decode cX8_read 108 = .ok (.getfield 38, 3) := dk_180 0 38 (dk_at dksX8_read_4 17 rfl rfl)
theorem dX8_read_111 : decode cX8_read 111 = .ok (.bipush 100, 2) := dk_16 100 (dk_at dksX8_read_4 20 rfl rfl)
theorem dX8_read_113 : decode cX8_read 113 = .ok (.idiv, 1) := dk_108 (dk_at dksX8_read_4 22 rfl rfl)
theorem dX8_read_114 : decode cX8_read 114 = .ok (.invokestatic 102, 3) := dk_184 0 102 (dk_at dksX8_read_5 0 rfl rfl)
theorem dX8_read_117 : decode cX8_read 117 = .ok (.aload 5, 2) := dk_25 5 (dk_at dksX8_read_5 3 rfl rfl)
theorem dX8_read_119 : decode cX8_read 119 = .ok (.aload_n 0, 1) := dk_42 (dk_at dksX8_read_5 5 rfl rfl)
theorem dX8_read_120 : decode cX8_read 120 = .ok (.getfield 38, 3) := dk_180 0 38 (dk_at dksX8_read_5 6 rfl rfl)
theorem dX8_read_123 : decode cX8_read 123 = .ok (.bipush 100, 2) := dk_16 100 (dk_at dksX8_read_5 9 rfl rfl)
theorem dX8_read_125 : decode cX8_read 125 = .ok (.irem, 1) := dk_112 (dk_at dksX8_read_5 11 rfl rfl)
theorem dX8_read_126 : decode cX8_read 126 = .ok (.invokestatic 102, 3) := dk_184 0 102 (dk_at dksX8_read_5 12 rfl rfl)
theorem dX8_read_129 : decode cX8_read 129 = .ok (.aload 5, 2) := dk_25 5 (dk_at dksX8_read_5 15 rfl rfl)
theorem dX8_read_131 : decode cX8_read 131 = .ok (.aload_n 0, 1) := dk_42 (dk_at dksX8_read_5 17 rfl rfl)
theorem dX8_read_132 : decode cX8_read 132 = .ok (.getfield 41, 3) := dk_180 0 41 (dk_at dksX8_read_5 18 rfl rfl)
theorem dX8_read_135 : decode cX8_read 135 = .ok (.invokestatic 102, 3) := dk_184 0 102 (dk_at dksX8_read_5 21 rfl rfl)
theorem dX8_read_138 : decode cX8_read 138 = .ok (.aload 5, 2) := dk_25 5 (dk_at dksX8_read_6 0 rfl rfl)
theorem dX8_read_140 : decode cX8_read 140 = .ok (.aload_n 0, 1) := dk_42 (dk_at dksX8_read_6 2 rfl rfl)
theorem dX8_read_141 : decode cX8_read 141 = .ok (.getfield 44, 3) := dk_180 0 44 (dk_at dksX8_read_6 3 rfl rfl)
theorem dX8_read_144 : decode cX8_read 144 = .ok (.invokestatic 102, 3) := dk_184 0 102 (dk_at dksX8_read_6 6 rfl rfl)
theorem dX8_read_147 : decode cX8_read 147 = .ok (.aload 5, 2) := dk_25 5 (dk_at dksX8_read_6 9 rfl rfl)
theorem dX8_read_149 : decode cX8_read 149 = .ok (.aload_n 0, 1) := dk_42 (dk_at dksX8_read_6 11 rfl rfl)
theorem dX8_read_150 : decode cX8_read 150 = .ok (.getfield 51, 3) := dk_180 0 51 (dk_at dksX8_read_6 12 rfl rfl)
theorem dX8_read_153 : decode cX8_read 153 = .ok (.invokestatic 102, 3) := dk_184 0 102 (dk_at dksX8_read_6 15 rfl rfl)
theorem dX8_read_156 : decode cX8_read 156 = .ok (.aload 5, 2) := dk_25 5 (dk_at dksX8_read_6 18 rfl rfl)
theorem dX8_read_158 : decode cX8_read 158 = .ok (.aload_n 0, 1) := dk_42 (dk_at dksX8_read_6 20 rfl rfl)
theorem dX8_read_159 : decode cX8_read 159 = .ok (.getfield 58, 3) := dk_180 0 58 (dk_at dksX8_read_6 21 rfl rfl)
theorem dX8_read_162 : decode cX8_read 162 = .ok (.invokestatic 102, 3) := dk_184 0 102 (dk_at dksX8_read_7 0 rfl rfl)
theorem dX8_read_165 : decode cX8_read 165 = .ok (.aload 5, 2) := dk_25 5 (dk_at dksX8_read_7 3 rfl rfl)
theorem dX8_read_167 : decode cX8_read 167 = .ok (.aload_n 0, 1) := dk_42 (dk_at dksX8_read_7 5 rfl rfl)
theorem dX8_read_168 : decode cX8_read 168 = .ok (.getfield 61, 3) := dk_180 0 61 (dk_at dksX8_read_7 6 rfl rfl)
theorem dX8_read_171 : decode cX8_read 171 = .ok (.invokestatic 102, 3) := dk_184 0 102 (dk_at dksX8_read_7 9 rfl rfl)
theorem dX8_read_174 : decode cX8_read 174 = .ok (.aload_n 0, 1) := dk_42 (dk_at dksX8_read_7 12 rfl rfl)
theorem dX8_read_175 : decode cX8_read 175 = .ok (.getfield 12, 3) := dk_180 0 12 (dk_at dksX8_read_7 13 rfl rfl)
theorem dX8_read_178 : decode cX8_read 178 = .ok (.invokevirtual 78, 3) := dk_182 0 78 (dk_at dksX8_read_7 16 rfl rfl)
theorem dX8_read_181 : decode cX8_read 181 = .ok (.ifCond .le 48, 3) := dk_158 0 48 (dk_at dksX8_read_7 19 rfl rfl)
theorem dX8_read_184 : decode cX8_read 184 = .ok (.aload 5, 2) := dk_25 5 (dk_at dksX8_read_7 22 rfl rfl)
theorem dX8_read_186 : decode cX8_read 186 = .ok (.bipush 46, 2) := dk_16 46 (dk_at dksX8_read_8 0 rfl rfl)
theorem dX8_read_188 : decode cX8_read 188 = .ok (.invokevirtual 71, 3) := dk_182 0 71 (dk_at dksX8_read_8 2 rfl rfl)
theorem dX8_read_191 : decode cX8_read 191 = .ok (.iconst 0, 1) := dk_3 (dk_at dksX8_read_8 5 rfl rfl)
theorem dX8_read_192 : decode cX8_read 192 = .ok (.istore 7, 2) := dk_54 7 (dk_at dksX8_read_8 6 rfl rfl)
theorem dX8_read_194 : decode cX8_read 194 = .ok (.iload 7, 2) := dk_21 7 (dk_at dksX8_read_8 8 rfl rfl)
theorem dX8_read_196 : decode cX8_read 196 = .ok (.aload_n 0, 1) := dk_42 (dk_at dksX8_read_8 10 rfl rfl)
theorem dX8_read_197 : decode cX8_read 197 = .ok (.getfield 12, 3) := dk_180 0 12 (dk_at dksX8_read_8 11 rfl rfl)
theorem dX8_read_200 : decode cX8_read 200 = .ok (.invokevirtual 78, 3) := dk_182 0 78 (dk_at dksX8_read_8 14 rfl rfl)
theorem dX8_read_203 : decode cX8_read 203 = .ok (.if_icmp .ge 26, 3) := dk_162 0 26 (dk_at dksX8_read_8 17 rfl rfl)
theorem dX8_read_206 : decode cX8_read 206 = .ok (.aload 5, 2) := dk_25 5 (dk_at dksX8_read_8 20 rfl rfl)
theorem dX8_read_208 : decode cX8_read 208 = .ok (.bipush 48, 2) := dk_16 48 (dk_at dksX8_read_8 22 rfl rfl)
theorem dX8_read_210 : decode cX8_read 210 = .ok (.aload_n 0, 1) := dk_42 (dk_at dksX8_read_9 0 rfl rfl)
theorem dX8_read_211 : decode cX8_read 211 = .ok (.getfield 12, 3) := dk_180 0 12 (dk_at dksX8_read_9 1 rfl rfl)
theorem dX8_read_214 : decode cX8_read 214 = .ok (.iload 7, 2) := dk_21 7 (dk_at dksX8_read_9 4 rfl rfl)
theorem dX8_read_216 : decode cX8_read 216 = .ok (.invokevirtual 28, 3) := dk_182 0 28 (dk_at dksX8_read_9 6 rfl rfl)
theorem dX8_read_219 : decode cX8_read 219 = .ok (.iadd, 1) := dk_96 (dk_at dksX8_read_9 9 rfl rfl)
theorem dX8_read_220 : decode cX8_read 220 = .ok (.invokevirtual 71, 3) := dk_182 0 71 (dk_at dksX8_read_9 10 rfl rfl)
theorem dX8_read_223 : decode cX8_read 223 = .ok (.iinc 7 1, 3) := dk_132 7 1 (dk_at dksX8_read_9 13 rfl rfl)
theorem dX8_read_226 : decode cX8_read 226 = .ok (.goto (-32), 3) := dk_167 255 224 (dk_at dksX8_read_9 16 rfl rfl)
theorem dX8_read_229 : decode cX8_read 229 = .ok (.aload 5, 2) := dk_25 5 (dk_at dksX8_read_9 19 rfl rfl)
theorem dX8_read_231 : decode cX8_read 231 = .ok (.bipush 90, 2) := dk_16 90 (dk_at dksX8_read_9 21 rfl rfl)
theorem dX8_read_233 : decode cX8_read 233 = .ok (.invokevirtual 71, 3) := dk_182 0 71 (dk_at dksX8_read_10 0 rfl rfl)
theorem dX8_read_236 : decode cX8_read 236 = .ok (.iconst 0, 1) := dk_3 (dk_at dksX8_read_10 3 rfl rfl)
theorem dX8_read_237 : decode cX8_read 237 = .ok (.ireturn, 1) := dk_172 (dk_at dksX8_read_10 4 rfl rfl)
abbrev cX8_date : ByteArray := prog_12_method_7_code
def yX8_date : MethodName := ⟨RX8, "date", "(Z)Z"⟩
def dkwX8_date_5 : List UInt8 := [164, 0, 5, 3, 172, 42, 42, 5, 182, 0, 35, 181, 0, 51, 42, 180, 0, 51, 16, 23, 184, 0, 54, 172]
abbrev dktX8_date_5 : List UInt8 := dkwX8_date_5 ++ []
def dkwX8_date_4 : List UInt8 := [180, 0, 44, 4, 161, 0, 21, 42, 180, 0, 44, 42, 180, 0, 38, 42, 180, 0, 41, 184, 0, 47]
abbrev dktX8_date_4 : List UInt8 := dkwX8_date_4 ++ dktX8_date_5
def dkwX8_date_3 : List UInt8 := [161, 0, 12, 42, 180, 0, 41, 16, 12, 164, 0, 5, 3, 172, 42, 42, 5, 182, 0, 35, 181, 0, 44, 42]
abbrev dktX8_date_3 : List UInt8 := dkwX8_date_3 ++ dktX8_date_4
def dkwX8_date_2 : List UInt8 := [167, 0, 6, 17, 7, 108, 96, 181, 0, 38, 42, 42, 5, 182, 0, 35, 181, 0, 41, 42, 180, 0, 41, 4]
abbrev dktX8_date_2 : List UInt8 := dkwX8_date_2 ++ dktX8_date_3
def dkwX8_date_1 : List UInt8 := [3, 172, 27, 154, 0, 30, 42, 89, 180, 0, 38, 42, 180, 0, 38, 16, 50, 162, 0, 9, 17, 7, 208]
abbrev dktX8_date_1 : List UInt8 := dkwX8_date_1 ++ dktX8_date_2
def dkwX8_date_0 : List UInt8 := [42, 42, 27, 153, 0, 7, 7, 167, 0, 4, 5, 182, 0, 35, 181, 0, 38, 42, 180, 0, 38, 156, 0, 5]
abbrev dktX8_date_0 : List UInt8 := dkwX8_date_0 ++ dktX8_date_1
theorem dksX8_date_0 : cX8_date.data.toList.drop 0 = dktX8_date_0 := by decide +kernel
theorem dksX8_date_1 : cX8_date.data.toList.drop 24 = dktX8_date_1 := dk_seg dksX8_date_0 24 rfl rfl
theorem dksX8_date_2 : cX8_date.data.toList.drop 47 = dktX8_date_2 := dk_seg dksX8_date_1 23 rfl rfl
theorem dksX8_date_3 : cX8_date.data.toList.drop 71 = dktX8_date_3 := dk_seg dksX8_date_2 24 rfl rfl
theorem dksX8_date_4 : cX8_date.data.toList.drop 95 = dktX8_date_4 := dk_seg dksX8_date_3 24 rfl rfl
theorem dksX8_date_5 : cX8_date.data.toList.drop 117 = dktX8_date_5 := dk_seg dksX8_date_4 22 rfl rfl
theorem dX8_date_0 : decode cX8_date 0 = .ok (.aload_n 0, 1) := dk_42 (dk_at dksX8_date_0 0 rfl rfl)
theorem dX8_date_1 : decode cX8_date 1 = .ok (.aload_n 0, 1) := dk_42 (dk_at dksX8_date_0 1 rfl rfl)
theorem dX8_date_2 : decode cX8_date 2 = .ok (.iload_n 1, 1) := dk_27 (dk_at dksX8_date_0 2 rfl rfl)
theorem dX8_date_3 : decode cX8_date 3 = .ok (.ifCond .eq 7, 3) := dk_153 0 7 (dk_at dksX8_date_0 3 rfl rfl)
theorem dX8_date_6 : decode cX8_date 6 = .ok (.iconst 4, 1) := dk_7 (dk_at dksX8_date_0 6 rfl rfl)
theorem dX8_date_7 : decode cX8_date 7 = .ok (.goto 4, 3) := dk_167 0 4 (dk_at dksX8_date_0 7 rfl rfl)
theorem dX8_date_10 : decode cX8_date 10 = .ok (.iconst 2, 1) := dk_5 (dk_at dksX8_date_0 10 rfl rfl)
theorem dX8_date_11 : decode cX8_date 11 = .ok (.invokevirtual 35, 3) := dk_182 0 35 (dk_at dksX8_date_0 11 rfl rfl)
theorem dX8_date_14 : decode cX8_date 14 = .ok (.putfield 38, 3) := dk_181 0 38 (dk_at dksX8_date_0 14 rfl rfl)
theorem dX8_date_17 : decode cX8_date 17 = .ok (.aload_n 0, 1) := dk_42 (dk_at dksX8_date_0 17 rfl rfl)
theorem dX8_date_18 : decode cX8_date 18 = .ok (.getfield 38, 3) := dk_180 0 38 (dk_at dksX8_date_0 18 rfl rfl)
theorem dX8_date_21 : decode cX8_date 21 = .ok (.ifCond .ge 5, 3) := dk_156 0 5 (dk_at dksX8_date_0 21 rfl rfl)
theorem dX8_date_24 : decode cX8_date 24 = .ok (.iconst 0, 1) := dk_3 (dk_at dksX8_date_1 0 rfl rfl)
theorem dX8_date_25 : decode cX8_date 25 = .ok (.ireturn, 1) := dk_172 (dk_at dksX8_date_1 1 rfl rfl)
theorem dX8_date_26 : decode cX8_date 26 = .ok (.iload_n 1, 1) := dk_27 (dk_at dksX8_date_1 2 rfl rfl)
theorem dX8_date_27 : decode cX8_date 27 = .ok (.ifCond .ne 30, 3) := dk_154 0 30 (dk_at dksX8_date_1 3 rfl rfl)
theorem dX8_date_30 : decode cX8_date 30 = .ok (.aload_n 0, 1) := dk_42 (dk_at dksX8_date_1 6 rfl rfl)
theorem dX8_date_31 : decode cX8_date 31 = .ok (.dup, 1) := dk_89 (dk_at dksX8_date_1 7 rfl rfl)
theorem dX8_date_32 : decode cX8_date 32 = .ok (.getfield 38, 3) := dk_180 0 38 (dk_at dksX8_date_1 8 rfl rfl)
theorem dX8_date_35 : decode cX8_date 35 = .ok (.aload_n 0, 1) := dk_42 (dk_at dksX8_date_1 11 rfl rfl)
theorem dX8_date_36 : decode cX8_date 36 = .ok (.getfield 38, 3) := dk_180 0 38 (dk_at dksX8_date_1 12 rfl rfl)
theorem dX8_date_39 : decode cX8_date 39 = .ok (.bipush 50, 2) := dk_16 50 (dk_at dksX8_date_1 15 rfl rfl)
theorem dX8_date_41 : decode cX8_date 41 = .ok (.if_icmp .ge 9, 3) := dk_162 0 9 (dk_at dksX8_date_1 17 rfl rfl)
theorem dX8_date_44 : decode cX8_date 44 = .ok (.sipush 2000, 3) := dk_17 7 208 (dk_at dksX8_date_1 20 rfl rfl)
theorem dX8_date_47 : decode cX8_date 47 = .ok (.goto 6, 3) := dk_167 0 6 (dk_at dksX8_date_2 0 rfl rfl)
theorem dX8_date_50 : decode cX8_date 50 = .ok (.sipush 1900, 3) := dk_17 7 108 (dk_at dksX8_date_2 3 rfl rfl)
theorem dX8_date_53 : decode cX8_date 53 = .ok (.iadd, 1) := dk_96 (dk_at dksX8_date_2 6 rfl rfl)
theorem dX8_date_54 : decode cX8_date 54 = .ok (.putfield 38, 3) := dk_181 0 38 (dk_at dksX8_date_2 7 rfl rfl)
theorem dX8_date_57 : decode cX8_date 57 = .ok (.aload_n 0, 1) := dk_42 (dk_at dksX8_date_2 10 rfl rfl)
theorem dX8_date_58 : decode cX8_date 58 = .ok (.aload_n 0, 1) := dk_42 (dk_at dksX8_date_2 11 rfl rfl)
theorem dX8_date_59 : decode cX8_date 59 = .ok (.iconst 2, 1) := dk_5 (dk_at dksX8_date_2 12 rfl rfl)
theorem dX8_date_60 : decode cX8_date 60 = .ok (.invokevirtual 35, 3) := dk_182 0 35 (dk_at dksX8_date_2 13 rfl rfl)
theorem dX8_date_63 : decode cX8_date 63 = .ok (.putfield 41, 3) := dk_181 0 41 (dk_at dksX8_date_2 16 rfl rfl)
theorem dX8_date_66 : decode cX8_date 66 = .ok (.aload_n 0, 1) := dk_42 (dk_at dksX8_date_2 19 rfl rfl)
theorem dX8_date_67 : decode cX8_date 67 = .ok (.getfield 41, 3) := dk_180 0 41 (dk_at dksX8_date_2 20 rfl rfl)
theorem dX8_date_70 : decode cX8_date 70 = .ok (.iconst 1, 1) := dk_4 (dk_at dksX8_date_2 23 rfl rfl)
theorem dX8_date_71 : decode cX8_date 71 = .ok (.if_icmp .lt 12, 3) := dk_161 0 12 (dk_at dksX8_date_3 0 rfl rfl)
theorem dX8_date_74 : decode cX8_date 74 = .ok (.aload_n 0, 1) := dk_42 (dk_at dksX8_date_3 3 rfl rfl)
theorem dX8_date_75 : decode cX8_date 75 = .ok (.getfield 41, 3) := dk_180 0 41 (dk_at dksX8_date_3 4 rfl rfl)
theorem dX8_date_78 : decode cX8_date 78 = .ok (.bipush 12, 2) := dk_16 12 (dk_at dksX8_date_3 7 rfl rfl)
theorem dX8_date_80 : decode cX8_date 80 = .ok (.if_icmp .le 5, 3) := dk_164 0 5 (dk_at dksX8_date_3 9 rfl rfl)
theorem dX8_date_83 : decode cX8_date 83 = .ok (.iconst 0, 1) := dk_3 (dk_at dksX8_date_3 12 rfl rfl)
theorem dX8_date_84 : decode cX8_date 84 = .ok (.ireturn, 1) := dk_172 (dk_at dksX8_date_3 13 rfl rfl)
theorem dX8_date_85 : decode cX8_date 85 = .ok (.aload_n 0, 1) := dk_42 (dk_at dksX8_date_3 14 rfl rfl)
theorem dX8_date_86 : decode cX8_date 86 = .ok (.aload_n 0, 1) := dk_42 (dk_at dksX8_date_3 15 rfl rfl)
theorem dX8_date_87 : decode cX8_date 87 = .ok (.iconst 2, 1) := dk_5 (dk_at dksX8_date_3 16 rfl rfl)
theorem dX8_date_88 : decode cX8_date 88 = .ok (.invokevirtual 35, 3) := dk_182 0 35 (dk_at dksX8_date_3 17 rfl rfl)
theorem dX8_date_91 : decode cX8_date 91 = .ok (.putfield 44, 3) := dk_181 0 44 (dk_at dksX8_date_3 20 rfl rfl)
theorem dX8_date_94 : decode cX8_date 94 = .ok (.aload_n 0, 1) := dk_42 (dk_at dksX8_date_3 23 rfl rfl)
theorem dX8_date_95 : decode cX8_date 95 = .ok (.getfield 44, 3) := dk_180 0 44 (dk_at dksX8_date_4 0 rfl rfl)
theorem dX8_date_98 : decode cX8_date 98 = .ok (.iconst 1, 1) := dk_4 (dk_at dksX8_date_4 3 rfl rfl)
theorem dX8_date_99 : decode cX8_date 99 = .ok (.if_icmp .lt 21, 3) := dk_161 0 21 (dk_at dksX8_date_4 4 rfl rfl)
theorem dX8_date_102 : decode cX8_date 102 = .ok (.aload_n 0, 1) := dk_42 (dk_at dksX8_date_4 7 rfl rfl)
theorem dX8_date_103 : decode cX8_date 103 = .ok (.getfield 44, 3) := dk_180 0 44 (dk_at dksX8_date_4 8 rfl rfl)
theorem dX8_date_106 : decode cX8_date 106 = .ok (.aload_n 0, 1) := dk_42 (dk_at dksX8_date_4 11 rfl rfl)
theorem dX8_date_107 : decode cX8_date 107 = .ok (.getfield 38, 3) := dk_180 0 38 (dk_at dksX8_date_4 12 rfl rfl)
theorem dX8_date_110 : decode cX8_date 110 = .ok (.aload_n 0, 1) := dk_42 (dk_at dksX8_date_4 15 rfl rfl)
theorem dX8_date_111 : decode cX8_date 111 = .ok (.getfield 41, 3) := dk_180 0 41 (dk_at dksX8_date_4 16 rfl rfl)
theorem dX8_date_114 : decode cX8_date 114 = .ok (.invokestatic 47, 3) := dk_184 0 47 (dk_at dksX8_date_4 19 rfl rfl)
theorem dX8_date_117 : decode cX8_date 117 = .ok (.if_icmp .le 5, 3) := dk_164 0 5 (dk_at dksX8_date_5 0 rfl rfl)
theorem dX8_date_120 : decode cX8_date 120 = .ok (.iconst 0, 1) := dk_3 (dk_at dksX8_date_5 3 rfl rfl)
theorem dX8_date_121 : decode cX8_date 121 = .ok (.ireturn, 1) := dk_172 (dk_at dksX8_date_5 4 rfl rfl)
theorem dX8_date_122 : decode cX8_date 122 = .ok (.aload_n 0, 1) := dk_42 (dk_at dksX8_date_5 5 rfl rfl)
theorem dX8_date_123 : decode cX8_date 123 = .ok (.aload_n 0, 1) := dk_42 (dk_at dksX8_date_5 6 rfl rfl)
theorem dX8_date_124 : decode cX8_date 124 = .ok (.iconst 2, 1) := dk_5 (dk_at dksX8_date_5 7 rfl rfl)
theorem dX8_date_125 : decode cX8_date 125 = .ok (.invokevirtual 35, 3) := dk_182 0 35 (dk_at dksX8_date_5 8 rfl rfl)
theorem dX8_date_128 : decode cX8_date 128 = .ok (.putfield 51, 3) := dk_181 0 51 (dk_at dksX8_date_5 11 rfl rfl)
theorem dX8_date_131 : decode cX8_date 131 = .ok (.aload_n 0, 1) := dk_42 (dk_at dksX8_date_5 14 rfl rfl)
theorem dX8_date_132 : decode cX8_date 132 = .ok (.getfield 51, 3) := dk_180 0 51 (dk_at dksX8_date_5 15 rfl rfl)
theorem dX8_date_135 : decode cX8_date 135 = .ok (.bipush 23, 2) := dk_16 23 (dk_at dksX8_date_5 18 rfl rfl)
theorem dX8_date_137 : decode cX8_date 137 = .ok (.invokestatic 54, 3) := dk_184 0 54 (dk_at dksX8_date_5 20 rfl rfl)
theorem dX8_date_140 : decode cX8_date 140 = .ok (.ireturn, 1) := dk_172 (dk_at dksX8_date_5 23 rfl rfl)
abbrev cX8_digits : ByteArray := prog_12_method_2_code
def yX8_digits : MethodName := ⟨RX8, "digits", "(I)I"⟩
def dkwX8_digits_3 : List UInt8 := [132, 3, 1, 167, 255, 189, 42, 89, 180, 0, 18, 27, 96, 181, 0, 18, 28, 172]
abbrev dktX8_digits_3 : List UInt8 := dkwX8_digits_3 ++ []
def dkwX8_digits_2 : List UInt8 := [161, 0, 10, 21, 4, 16, 57, 164, 0, 5, 2, 172, 16, 10, 28, 104, 21, 4, 96, 16, 48, 100, 61]
abbrev dktX8_digits_2 : List UInt8 := dkwX8_digits_2 ++ dktX8_digits_3
def dkwX8_digits_1 : List UInt8 := [180, 0, 25, 42, 180, 0, 18, 29, 96, 182, 0, 28, 167, 0, 4, 3, 54, 4, 21, 4, 16, 48]
abbrev dktX8_digits_1 : List UInt8 := dkwX8_digits_1 ++ dktX8_digits_2
def dkwX8_digits_0 : List UInt8 := [3, 61, 3, 62, 29, 27, 162, 0, 68, 42, 180, 0, 18, 29, 96, 42, 180, 0, 22, 162, 0, 19, 42]
abbrev dktX8_digits_0 : List UInt8 := dkwX8_digits_0 ++ dktX8_digits_1
theorem dksX8_digits_0 : cX8_digits.data.toList.drop 0 = dktX8_digits_0 := by decide +kernel
theorem dksX8_digits_1 : cX8_digits.data.toList.drop 23 = dktX8_digits_1 := dk_seg dksX8_digits_0 23 rfl rfl
theorem dksX8_digits_2 : cX8_digits.data.toList.drop 45 = dktX8_digits_2 := dk_seg dksX8_digits_1 22 rfl rfl
theorem dksX8_digits_3 : cX8_digits.data.toList.drop 68 = dktX8_digits_3 := dk_seg dksX8_digits_2 23 rfl rfl
theorem dX8_digits_0 : decode cX8_digits 0 = .ok (.iconst 0, 1) := dk_3 (dk_at dksX8_digits_0 0 rfl rfl)
theorem dX8_digits_1 : decode cX8_digits 1 = .ok (.istore_n 2, 1) := dk_61 (dk_at dksX8_digits_0 1 rfl rfl)
theorem dX8_digits_2 : decode cX8_digits 2 = .ok (.iconst 0, 1) := dk_3 (dk_at dksX8_digits_0 2 rfl rfl)
theorem dX8_digits_3 : decode cX8_digits 3 = .ok (.istore_n 3, 1) := dk_62 (dk_at dksX8_digits_0 3 rfl rfl)
theorem dX8_digits_4 : decode cX8_digits 4 = .ok (.iload_n 3, 1) := dk_29 (dk_at dksX8_digits_0 4 rfl rfl)
theorem dX8_digits_5 : decode cX8_digits 5 = .ok (.iload_n 1, 1) := dk_27 (dk_at dksX8_digits_0 5 rfl rfl)
theorem dX8_digits_6 : decode cX8_digits 6 = .ok (.if_icmp .ge 68, 3) := dk_162 0 68 (dk_at dksX8_digits_0 6 rfl rfl)
theorem dX8_digits_9 : decode cX8_digits 9 = .ok (.aload_n 0, 1) := dk_42 (dk_at dksX8_digits_0 9 rfl rfl)
theorem dX8_digits_10 : decode cX8_digits 10 = .ok (.getfield 18, 3) := dk_180 0 18 (dk_at dksX8_digits_0 10 rfl rfl)
theorem dX8_digits_13 : decode cX8_digits 13 = .ok (.iload_n 3, 1) := dk_29 (dk_at dksX8_digits_0 13 rfl rfl)
theorem dX8_digits_14 : decode cX8_digits 14 = .ok (.iadd, 1) := dk_96 (dk_at dksX8_digits_0 14 rfl rfl)
theorem dX8_digits_15 : decode cX8_digits 15 = .ok (.aload_n 0, 1) := dk_42 (dk_at dksX8_digits_0 15 rfl rfl)
theorem dX8_digits_16 : decode cX8_digits 16 = .ok (.getfield 22, 3) := dk_180 0 22 (dk_at dksX8_digits_0 16 rfl rfl)
theorem dX8_digits_19 : decode cX8_digits 19 = .ok (.if_icmp .ge 19, 3) := dk_162 0 19 (dk_at dksX8_digits_0 19 rfl rfl)
theorem dX8_digits_22 : decode cX8_digits 22 = .ok (.aload_n 0, 1) := dk_42 (dk_at dksX8_digits_0 22 rfl rfl)
theorem dX8_digits_23 : decode cX8_digits 23 = .ok (.getfield 25, 3) := dk_180 0 25 (dk_at dksX8_digits_1 0 rfl rfl)
theorem dX8_digits_26 : decode cX8_digits 26 = .ok (.aload_n 0, 1) := dk_42 (dk_at dksX8_digits_1 3 rfl rfl)
theorem dX8_digits_27 : decode cX8_digits 27 = .ok (.getfield 18, 3) := dk_180 0 18 (dk_at dksX8_digits_1 4 rfl rfl)
theorem dX8_digits_30 : decode cX8_digits 30 = .ok (.iload_n 3, 1) := dk_29 (dk_at dksX8_digits_1 7 rfl rfl)
theorem dX8_digits_31 : decode cX8_digits 31 = .ok (.iadd, 1) := dk_96 (dk_at dksX8_digits_1 8 rfl rfl)
theorem dX8_digits_32 : decode cX8_digits 32 = .ok (.invokevirtual 28, 3) := dk_182 0 28 (dk_at dksX8_digits_1 9 rfl rfl)
theorem dX8_digits_35 : decode cX8_digits 35 = .ok (.goto 4, 3) := dk_167 0 4 (dk_at dksX8_digits_1 12 rfl rfl)
theorem dX8_digits_38 : decode cX8_digits 38 = .ok (.iconst 0, 1) := dk_3 (dk_at dksX8_digits_1 15 rfl rfl)
theorem dX8_digits_39 : decode cX8_digits 39 = .ok (.istore 4, 2) := dk_54 4 (dk_at dksX8_digits_1 16 rfl rfl)
theorem dX8_digits_41 : decode cX8_digits 41 = .ok (.iload 4, 2) := dk_21 4 (dk_at dksX8_digits_1 18 rfl rfl)
theorem dX8_digits_43 : decode cX8_digits 43 = .ok (.bipush 48, 2) := dk_16 48 (dk_at dksX8_digits_1 20 rfl rfl)
theorem dX8_digits_45 : decode cX8_digits 45 = .ok (.if_icmp .lt 10, 3) := dk_161 0 10 (dk_at dksX8_digits_2 0 rfl rfl)
theorem dX8_digits_48 : decode cX8_digits 48 = .ok (.iload 4, 2) := dk_21 4 (dk_at dksX8_digits_2 3 rfl rfl)
theorem dX8_digits_50 : decode cX8_digits 50 = .ok (.bipush 57, 2) := dk_16 57 (dk_at dksX8_digits_2 5 rfl rfl)
theorem dX8_digits_52 : decode cX8_digits 52 = .ok (.if_icmp .le 5, 3) := dk_164 0 5 (dk_at dksX8_digits_2 7 rfl rfl)
theorem dX8_digits_55 : decode cX8_digits 55 = .ok (.iconst (-1), 1) := dk_2 (dk_at dksX8_digits_2 10 rfl rfl)
theorem dX8_digits_56 : decode cX8_digits 56 = .ok (.ireturn, 1) := dk_172 (dk_at dksX8_digits_2 11 rfl rfl)
theorem dX8_digits_57 : decode cX8_digits 57 = .ok (.bipush 10, 2) := dk_16 10 (dk_at dksX8_digits_2 12 rfl rfl)
theorem dX8_digits_59 : decode cX8_digits 59 = .ok (.iload_n 2, 1) := dk_28 (dk_at dksX8_digits_2 14 rfl rfl)
theorem dX8_digits_60 : decode cX8_digits 60 = .ok (.imul, 1) := dk_104 (dk_at dksX8_digits_2 15 rfl rfl)
theorem dX8_digits_61 : decode cX8_digits 61 = .ok (.iload 4, 2) := dk_21 4 (dk_at dksX8_digits_2 16 rfl rfl)
theorem dX8_digits_63 : decode cX8_digits 63 = .ok (.iadd, 1) := dk_96 (dk_at dksX8_digits_2 18 rfl rfl)
theorem dX8_digits_64 : decode cX8_digits 64 = .ok (.bipush 48, 2) := dk_16 48 (dk_at dksX8_digits_2 19 rfl rfl)
theorem dX8_digits_66 : decode cX8_digits 66 = .ok (.isub, 1) := dk_100 (dk_at dksX8_digits_2 21 rfl rfl)
theorem dX8_digits_67 : decode cX8_digits 67 = .ok (.istore_n 2, 1) := dk_61 (dk_at dksX8_digits_2 22 rfl rfl)
theorem dX8_digits_68 : decode cX8_digits 68 = .ok (.iinc 3 1, 3) := dk_132 3 1 (dk_at dksX8_digits_3 0 rfl rfl)
theorem dX8_digits_71 : decode cX8_digits 71 = .ok (.goto (-67), 3) := dk_167 255 189 (dk_at dksX8_digits_3 3 rfl rfl)
theorem dX8_digits_74 : decode cX8_digits 74 = .ok (.aload_n 0, 1) := dk_42 (dk_at dksX8_digits_3 6 rfl rfl)
theorem dX8_digits_75 : decode cX8_digits 75 = .ok (.dup, 1) := dk_89 (dk_at dksX8_digits_3 7 rfl rfl)
theorem dX8_digits_76 : decode cX8_digits 76 = .ok (.getfield 18, 3) := dk_180 0 18 (dk_at dksX8_digits_3 8 rfl rfl)
theorem dX8_digits_79 : decode cX8_digits 79 = .ok (.iload_n 1, 1) := dk_27 (dk_at dksX8_digits_3 11 rfl rfl)
theorem dX8_digits_80 : decode cX8_digits 80 = .ok (.iadd, 1) := dk_96 (dk_at dksX8_digits_3 12 rfl rfl)
theorem dX8_digits_81 : decode cX8_digits 81 = .ok (.putfield 18, 3) := dk_181 0 18 (dk_at dksX8_digits_3 13 rfl rfl)
theorem dX8_digits_84 : decode cX8_digits 84 = .ok (.iload_n 2, 1) := dk_28 (dk_at dksX8_digits_3 16 rfl rfl)
theorem dX8_digits_85 : decode cX8_digits 85 = .ok (.ireturn, 1) := dk_172 (dk_at dksX8_digits_3 17 rfl rfl)
abbrev cX8_days : ByteArray := prog_12_method_5_code
def yX8_days : MethodName := ⟨RX8, "days", "(II)I"⟩
def dkwX8_days_2 : List UInt8 := [16, 9, 159, 0, 9, 27, 16, 11, 160, 0, 8, 16, 30, 167, 0, 5, 16, 31, 172]
abbrev dktX8_days_2 : List UInt8 := dkwX8_days_2 ++ []
def dkwX8_days_1 : List UInt8 := [154, 0, 8, 16, 29, 167, 0, 5, 16, 28, 172, 27, 7, 159, 0, 21, 27, 16, 6, 159, 0, 15, 27]
abbrev dktX8_days_1 : List UInt8 := dkwX8_days_1 ++ dktX8_days_2
def dkwX8_days_0 : List UInt8 := [27, 5, 160, 0, 32, 26, 7, 112, 154, 0, 23, 26, 16, 100, 112, 154, 0, 11, 26, 17, 1, 144, 112]
abbrev dktX8_days_0 : List UInt8 := dkwX8_days_0 ++ dktX8_days_1
theorem dksX8_days_0 : cX8_days.data.toList.drop 0 = dktX8_days_0 := by decide +kernel
theorem dksX8_days_1 : cX8_days.data.toList.drop 23 = dktX8_days_1 := dk_seg dksX8_days_0 23 rfl rfl
theorem dksX8_days_2 : cX8_days.data.toList.drop 46 = dktX8_days_2 := dk_seg dksX8_days_1 23 rfl rfl
theorem dX8_days_0 : decode cX8_days 0 = .ok (.iload_n 1, 1) := dk_27 (dk_at dksX8_days_0 0 rfl rfl)
theorem dX8_days_1 : decode cX8_days 1 = .ok (.iconst 2, 1) := dk_5 (dk_at dksX8_days_0 1 rfl rfl)
theorem dX8_days_2 : decode cX8_days 2 = .ok (.if_icmp .ne 32, 3) := dk_160 0 32 (dk_at dksX8_days_0 2 rfl rfl)
theorem dX8_days_5 : decode cX8_days 5 = .ok (.iload_n 0, 1) := dk_26 (dk_at dksX8_days_0 5 rfl rfl)
theorem dX8_days_6 : decode cX8_days 6 = .ok (.iconst 4, 1) := dk_7 (dk_at dksX8_days_0 6 rfl rfl)
theorem dX8_days_7 : decode cX8_days 7 = .ok (.irem, 1) := dk_112 (dk_at dksX8_days_0 7 rfl rfl)
theorem dX8_days_8 : decode cX8_days 8 = .ok (.ifCond .ne 23, 3) := dk_154 0 23 (dk_at dksX8_days_0 8 rfl rfl)
theorem dX8_days_11 : decode cX8_days 11 = .ok (.iload_n 0, 1) := dk_26 (dk_at dksX8_days_0 11 rfl rfl)
theorem dX8_days_12 : decode cX8_days 12 = .ok (.bipush 100, 2) := dk_16 100 (dk_at dksX8_days_0 12 rfl rfl)
theorem dX8_days_14 : decode cX8_days 14 = .ok (.irem, 1) := dk_112 (dk_at dksX8_days_0 14 rfl rfl)
theorem dX8_days_15 : decode cX8_days 15 = .ok (.ifCond .ne 11, 3) := dk_154 0 11 (dk_at dksX8_days_0 15 rfl rfl)
theorem dX8_days_18 : decode cX8_days 18 = .ok (.iload_n 0, 1) := dk_26 (dk_at dksX8_days_0 18 rfl rfl)
theorem dX8_days_19 : decode cX8_days 19 = .ok (.sipush 400, 3) := dk_17 1 144 (dk_at dksX8_days_0 19 rfl rfl)
theorem dX8_days_22 : decode cX8_days 22 = .ok (.irem, 1) := dk_112 (dk_at dksX8_days_0 22 rfl rfl)
theorem dX8_days_23 : decode cX8_days 23 = .ok (.ifCond .ne 8, 3) := dk_154 0 8 (dk_at dksX8_days_1 0 rfl rfl)
theorem dX8_days_26 : decode cX8_days 26 = .ok (.bipush 29, 2) := dk_16 29 (dk_at dksX8_days_1 3 rfl rfl)
theorem dX8_days_28 : decode cX8_days 28 = .ok (.goto 5, 3) := dk_167 0 5 (dk_at dksX8_days_1 5 rfl rfl)
theorem dX8_days_31 : decode cX8_days 31 = .ok (.bipush 28, 2) := dk_16 28 (dk_at dksX8_days_1 8 rfl rfl)
theorem dX8_days_33 : decode cX8_days 33 = .ok (.ireturn, 1) := dk_172 (dk_at dksX8_days_1 10 rfl rfl)
theorem dX8_days_34 : decode cX8_days 34 = .ok (.iload_n 1, 1) := dk_27 (dk_at dksX8_days_1 11 rfl rfl)
theorem dX8_days_35 : decode cX8_days 35 = .ok (.iconst 4, 1) := dk_7 (dk_at dksX8_days_1 12 rfl rfl)
theorem dX8_days_36 : decode cX8_days 36 = .ok (.if_icmp .eq 21, 3) := dk_159 0 21 (dk_at dksX8_days_1 13 rfl rfl)
theorem dX8_days_39 : decode cX8_days 39 = .ok (.iload_n 1, 1) := dk_27 (dk_at dksX8_days_1 16 rfl rfl)
theorem dX8_days_40 : decode cX8_days 40 = .ok (.bipush 6, 2) := dk_16 6 (dk_at dksX8_days_1 17 rfl rfl)
theorem dX8_days_42 : decode cX8_days 42 = .ok (.if_icmp .eq 15, 3) := dk_159 0 15 (dk_at dksX8_days_1 19 rfl rfl)
theorem dX8_days_45 : decode cX8_days 45 = .ok (.iload_n 1, 1) := dk_27 (dk_at dksX8_days_1 22 rfl rfl)
theorem dX8_days_46 : decode cX8_days 46 = .ok (.bipush 9, 2) := dk_16 9 (dk_at dksX8_days_2 0 rfl rfl)
theorem dX8_days_48 : decode cX8_days 48 = .ok (.if_icmp .eq 9, 3) := dk_159 0 9 (dk_at dksX8_days_2 2 rfl rfl)
theorem dX8_days_51 : decode cX8_days 51 = .ok (.iload_n 1, 1) := dk_27 (dk_at dksX8_days_2 5 rfl rfl)
theorem dX8_days_52 : decode cX8_days 52 = .ok (.bipush 11, 2) := dk_16 11 (dk_at dksX8_days_2 6 rfl rfl)
theorem dX8_days_54 : decode cX8_days 54 = .ok (.if_icmp .ne 8, 3) := dk_160 0 8 (dk_at dksX8_days_2 8 rfl rfl)
theorem dX8_days_57 : decode cX8_days 57 = .ok (.bipush 30, 2) := dk_16 30 (dk_at dksX8_days_2 11 rfl rfl)
theorem dX8_days_59 : decode cX8_days 59 = .ok (.goto 5, 3) := dk_167 0 5 (dk_at dksX8_days_2 13 rfl rfl)
theorem dX8_days_62 : decode cX8_days 62 = .ok (.bipush 31, 2) := dk_16 31 (dk_at dksX8_days_2 16 rfl rfl)
theorem dX8_days_64 : decode cX8_days 64 = .ok (.ireturn, 1) := dk_172 (dk_at dksX8_days_2 18 rfl rfl)
abbrev cX8_within : ByteArray := prog_12_method_6_code
def yX8_within : MethodName := ⟨RX8, "within", "(II)Z"⟩
def dkwX8_within_0 : List UInt8 := [26, 155, 0, 12, 26, 27, 163, 0, 7, 4, 167, 0, 4, 3, 172]
abbrev dktX8_within_0 : List UInt8 := dkwX8_within_0 ++ []
theorem dksX8_within_0 : cX8_within.data.toList.drop 0 = dktX8_within_0 := by decide +kernel
theorem dX8_within_0 : decode cX8_within 0 = .ok (.iload_n 0, 1) := dk_26 (dk_at dksX8_within_0 0 rfl rfl)
theorem dX8_within_1 : decode cX8_within 1 = .ok (.ifCond .lt 12, 3) := dk_155 0 12 (dk_at dksX8_within_0 1 rfl rfl)
theorem dX8_within_4 : decode cX8_within 4 = .ok (.iload_n 0, 1) := dk_26 (dk_at dksX8_within_0 4 rfl rfl)
theorem dX8_within_5 : decode cX8_within 5 = .ok (.iload_n 1, 1) := dk_27 (dk_at dksX8_within_0 5 rfl rfl)
theorem dX8_within_6 : decode cX8_within 6 = .ok (.if_icmp .gt 7, 3) := dk_163 0 7 (dk_at dksX8_within_0 6 rfl rfl)
theorem dX8_within_9 : decode cX8_within 9 = .ok (.iconst 1, 1) := dk_4 (dk_at dksX8_within_0 9 rfl rfl)
theorem dX8_within_10 : decode cX8_within 10 = .ok (.goto 4, 3) := dk_167 0 4 (dk_at dksX8_within_0 10 rfl rfl)
theorem dX8_within_13 : decode cX8_within 13 = .ok (.iconst 0, 1) := dk_3 (dk_at dksX8_within_0 13 rfl rfl)
theorem dX8_within_14 : decode cX8_within 14 = .ok (.ireturn, 1) := dk_172 (dk_at dksX8_within_0 14 rfl rfl)
abbrev cX8_clock : ByteArray := prog_12_method_8_code
def yX8_clock : MethodName := ⟨RX8, "clock", "(Z)Z"⟩
def dkwX8_clock_7 : List UInt8 := [167, 255, 225, 42, 28, 182, 0, 75, 4, 172]
abbrev dktX8_clock_7 : List UInt8 := dkwX8_clock_7 ++ []
def dkwX8_clock_6 : List UInt8 := [42, 180, 0, 12, 42, 182, 0, 31, 16, 48, 100, 182, 0, 71, 42, 89, 180, 0, 18, 4, 96, 181, 0, 18]
abbrev dktX8_clock_6 : List UInt8 := dkwX8_clock_6 ++ dktX8_clock_7
def dkwX8_clock_5 : List UInt8 := [180, 0, 18, 4, 96, 181, 0, 18, 42, 182, 0, 67, 154, 0, 5, 3, 172, 42, 182, 0, 67, 153, 0, 30]
abbrev dktX8_clock_5 : List UInt8 := dkwX8_clock_5 ++ dktX8_clock_6
def dkwX8_clock_4 : List UInt8 := [153, 0, 79, 42, 182, 0, 31, 16, 46, 159, 0, 12, 42, 182, 0, 31, 16, 44, 160, 0, 61, 42, 89]
abbrev dktX8_clock_4 : List UInt8 := dkwX8_clock_4 ++ dktX8_clock_5
def dkwX8_clock_3 : List UInt8 := [182, 0, 35, 181, 0, 61, 42, 180, 0, 61, 16, 59, 184, 0, 54, 154, 0, 5, 3, 172, 4, 61, 27]
abbrev dktX8_clock_3 : List UInt8 := dkwX8_clock_3 ++ dktX8_clock_4
def dkwX8_clock_2 : List UInt8 := [16, 59, 184, 0, 54, 154, 0, 5, 3, 172, 16, 60, 61, 42, 182, 0, 67, 153, 0, 28, 42, 42, 5]
abbrev dktX8_clock_2 : List UInt8 := dkwX8_clock_2 ++ dktX8_clock_3
def dkwX8_clock_1 : List UInt8 := [153, 0, 10, 42, 182, 0, 67, 153, 0, 61, 42, 42, 5, 182, 0, 35, 181, 0, 58, 42, 180, 0, 58]
abbrev dktX8_clock_1 : List UInt8 := dkwX8_clock_1 ++ dktX8_clock_2
def dkwX8_clock_0 : List UInt8 := [42, 3, 181, 0, 58, 42, 3, 181, 0, 61, 42, 180, 0, 12, 182, 0, 64, 17, 14, 16, 61, 27]
abbrev dktX8_clock_0 : List UInt8 := dkwX8_clock_0 ++ dktX8_clock_1
theorem dksX8_clock_0 : cX8_clock.data.toList.drop 0 = dktX8_clock_0 := by decide +kernel
theorem dksX8_clock_1 : cX8_clock.data.toList.drop 22 = dktX8_clock_1 := dk_seg dksX8_clock_0 22 rfl rfl
theorem dksX8_clock_2 : cX8_clock.data.toList.drop 45 = dktX8_clock_2 := dk_seg dksX8_clock_1 23 rfl rfl
theorem dksX8_clock_3 : cX8_clock.data.toList.drop 68 = dktX8_clock_3 := dk_seg dksX8_clock_2 23 rfl rfl
theorem dksX8_clock_4 : cX8_clock.data.toList.drop 91 = dktX8_clock_4 := dk_seg dksX8_clock_3 23 rfl rfl
theorem dksX8_clock_5 : cX8_clock.data.toList.drop 114 = dktX8_clock_5 := dk_seg dksX8_clock_4 23 rfl rfl
theorem dksX8_clock_6 : cX8_clock.data.toList.drop 138 = dktX8_clock_6 := dk_seg dksX8_clock_5 24 rfl rfl
theorem dksX8_clock_7 : cX8_clock.data.toList.drop 162 = dktX8_clock_7 := dk_seg dksX8_clock_6 24 rfl rfl
theorem dX8_clock_0 : decode cX8_clock 0 = .ok (.aload_n 0, 1) := dk_42 (dk_at dksX8_clock_0 0 rfl rfl)
theorem dX8_clock_1 : decode cX8_clock 1 = .ok (.iconst 0, 1) := dk_3 (dk_at dksX8_clock_0 1 rfl rfl)
theorem dX8_clock_2 : decode cX8_clock 2 = .ok (.putfield 58, 3) := dk_181 0 58 (dk_at dksX8_clock_0 2 rfl rfl)
theorem dX8_clock_5 : decode cX8_clock 5 = .ok (.aload_n 0, 1) := dk_42 (dk_at dksX8_clock_0 5 rfl rfl)
theorem dX8_clock_6 : decode cX8_clock 6 = .ok (.iconst 0, 1) := dk_3 (dk_at dksX8_clock_0 6 rfl rfl)
theorem dX8_clock_7 : decode cX8_clock 7 = .ok (.putfield 61, 3) := dk_181 0 61 (dk_at dksX8_clock_0 7 rfl rfl)
theorem dX8_clock_10 : decode cX8_clock 10 = .ok (.aload_n 0, 1) := dk_42 (dk_at dksX8_clock_0 10 rfl rfl)
theorem dX8_clock_11 : decode cX8_clock 11 = .ok (.getfield 12, 3) := dk_180 0 12 (dk_at dksX8_clock_0 11 rfl rfl)
theorem dX8_clock_14 : decode cX8_clock 14 = .ok (.invokevirtual 64, 3) := dk_182 0 64 (dk_at dksX8_clock_0 14 rfl rfl)
theorem dX8_clock_17 : decode cX8_clock 17 = .ok (.sipush 3600, 3) := dk_17 14 16 (dk_at dksX8_clock_0 17 rfl rfl)
theorem dX8_clock_20 : decode cX8_clock 20 = .ok (.istore_n 2, 1) := dk_61 (dk_at dksX8_clock_0 20 rfl rfl)
theorem dX8_clock_21 : decode cX8_clock 21 = .ok (.iload_n 1, 1) := dk_27 (dk_at dksX8_clock_0 21 rfl rfl)
theorem dX8_clock_22 : decode cX8_clock 22 = .ok (.ifCond .eq 10, 3) := dk_153 0 10 (dk_at dksX8_clock_1 0 rfl rfl)
theorem dX8_clock_25 : decode cX8_clock 25 = .ok (.aload_n 0, 1) := dk_42 (dk_at dksX8_clock_1 3 rfl rfl)
theorem dX8_clock_26 : decode cX8_clock 26 = .ok (.invokevirtual 67, 3) := dk_182 0 67 (dk_at dksX8_clock_1 4 rfl rfl)
theorem dX8_clock_29 : decode cX8_clock 29 = .ok (.ifCond .eq 61, 3) := dk_153 0 61 (dk_at dksX8_clock_1 7 rfl rfl)
theorem dX8_clock_32 : decode cX8_clock 32 = .ok (.aload_n 0, 1) := dk_42 (dk_at dksX8_clock_1 10 rfl rfl)
theorem dX8_clock_33 : decode cX8_clock 33 = .ok (.aload_n 0, 1) := dk_42 (dk_at dksX8_clock_1 11 rfl rfl)
theorem dX8_clock_34 : decode cX8_clock 34 = .ok (.iconst 2, 1) := dk_5 (dk_at dksX8_clock_1 12 rfl rfl)
theorem dX8_clock_35 : decode cX8_clock 35 = .ok (.invokevirtual 35, 3) := dk_182 0 35 (dk_at dksX8_clock_1 13 rfl rfl)
theorem dX8_clock_38 : decode cX8_clock 38 = .ok (.putfield 58, 3) := dk_181 0 58 (dk_at dksX8_clock_1 16 rfl rfl)
theorem dX8_clock_41 : decode cX8_clock 41 = .ok (.aload_n 0, 1) := dk_42 (dk_at dksX8_clock_1 19 rfl rfl)
theorem dX8_clock_42 : decode cX8_clock 42 = .ok (.getfield 58, 3) := dk_180 0 58 (dk_at dksX8_clock_1 20 rfl rfl)
theorem dX8_clock_45 : decode cX8_clock 45 = .ok (.bipush 59, 2) := dk_16 59 (dk_at dksX8_clock_2 0 rfl rfl)
theorem dX8_clock_47 : decode cX8_clock 47 = .ok (.invokestatic 54, 3) := dk_184 0 54 (dk_at dksX8_clock_2 2 rfl rfl)
theorem dX8_clock_50 : decode cX8_clock 50 = .ok (.ifCond .ne 5, 3) := dk_154 0 5 (dk_at dksX8_clock_2 5 rfl rfl)
theorem dX8_clock_53 : decode cX8_clock 53 = .ok (.iconst 0, 1) := dk_3 (dk_at dksX8_clock_2 8 rfl rfl)
theorem dX8_clock_54 : decode cX8_clock 54 = .ok (.ireturn, 1) := dk_172 (dk_at dksX8_clock_2 9 rfl rfl)
theorem dX8_clock_55 : decode cX8_clock 55 = .ok (.bipush 60, 2) := dk_16 60 (dk_at dksX8_clock_2 10 rfl rfl)
theorem dX8_clock_57 : decode cX8_clock 57 = .ok (.istore_n 2, 1) := dk_61 (dk_at dksX8_clock_2 12 rfl rfl)
theorem dX8_clock_58 : decode cX8_clock 58 = .ok (.aload_n 0, 1) := dk_42 (dk_at dksX8_clock_2 13 rfl rfl)
theorem dX8_clock_59 : decode cX8_clock 59 = .ok (.invokevirtual 67, 3) := dk_182 0 67 (dk_at dksX8_clock_2 14 rfl rfl)
theorem dX8_clock_62 : decode cX8_clock 62 = .ok (.ifCond .eq 28, 3) := dk_153 0 28 (dk_at dksX8_clock_2 17 rfl rfl)
theorem dX8_clock_65 : decode cX8_clock 65 = .ok (.aload_n 0, 1) := dk_42 (dk_at dksX8_clock_2 20 rfl rfl)
theorem dX8_clock_66 : decode cX8_clock 66 = .ok (.aload_n 0, 1) := dk_42 (dk_at dksX8_clock_2 21 rfl rfl)
theorem dX8_clock_67 : decode cX8_clock 67 = .ok (.iconst 2, 1) := dk_5 (dk_at dksX8_clock_2 22 rfl rfl)
theorem dX8_clock_68 : decode cX8_clock 68 = .ok (.invokevirtual 35, 3) := dk_182 0 35 (dk_at dksX8_clock_3 0 rfl rfl)
theorem dX8_clock_71 : decode cX8_clock 71 = .ok (.putfield 61, 3) := dk_181 0 61 (dk_at dksX8_clock_3 3 rfl rfl)
theorem dX8_clock_74 : decode cX8_clock 74 = .ok (.aload_n 0, 1) := dk_42 (dk_at dksX8_clock_3 6 rfl rfl)
theorem dX8_clock_75 : decode cX8_clock 75 = .ok (.getfield 61, 3) := dk_180 0 61 (dk_at dksX8_clock_3 7 rfl rfl)
theorem dX8_clock_78 : decode cX8_clock 78 = .ok (.bipush 59, 2) := dk_16 59 (dk_at dksX8_clock_3 10 rfl rfl)
theorem dX8_clock_80 : decode cX8_clock 80 = .ok (.invokestatic 54, 3) := dk_184 0 54 (dk_at dksX8_clock_3 12 rfl rfl)
theorem dX8_clock_83 : decode cX8_clock 83 = .ok (.ifCond .ne 5, 3) := dk_154 0 5 (dk_at dksX8_clock_3 15 rfl rfl)
theorem dX8_clock_86 : decode cX8_clock 86 = .ok (.iconst 0, 1) := dk_3 (dk_at dksX8_clock_3 18 rfl rfl)
theorem dX8_clock_87 : decode cX8_clock 87 = .ok (.ireturn, 1) := dk_172 (dk_at dksX8_clock_3 19 rfl rfl)
theorem dX8_clock_88 : decode cX8_clock 88 = .ok (.iconst 1, 1) := dk_4 (dk_at dksX8_clock_3 20 rfl rfl)
theorem dX8_clock_89 : decode cX8_clock 89 = .ok (.istore_n 2, 1) := dk_61 (dk_at dksX8_clock_3 21 rfl rfl)
theorem dX8_clock_90 : decode cX8_clock 90 = .ok (.iload_n 1, 1) := dk_27 (dk_at dksX8_clock_3 22 rfl rfl)
theorem dX8_clock_91 : decode cX8_clock 91 = .ok (.ifCond .eq 79, 3) := dk_153 0 79 (dk_at dksX8_clock_4 0 rfl rfl)
theorem dX8_clock_94 : decode cX8_clock 94 = .ok (.aload_n 0, 1) := dk_42 (dk_at dksX8_clock_4 3 rfl rfl)
theorem dX8_clock_95 : decode cX8_clock 95 = .ok (.invokevirtual 31, 3) := dk_182 0 31 (dk_at dksX8_clock_4 4 rfl rfl)
theorem dX8_clock_98 : decode cX8_clock 98 = .ok (.bipush 46, 2) := dk_16 46 (dk_at dksX8_clock_4 7 rfl rfl)
theorem dX8_clock_100 : decode cX8_clock 100 = .ok (.if_icmp .eq 12, 3) := dk_159 0 12 (dk_at dksX8_clock_4 9 rfl rfl)
theorem dX8_clock_103 : decode cX8_clock 103 = .ok (.aload_n 0, 1) := dk_42 (dk_at dksX8_clock_4 12 rfl rfl)
theorem dX8_clock_104 : decode cX8_clock 104 = .ok (.invokevirtual 31, 3) := dk_182 0 31 (dk_at dksX8_clock_4 13 rfl rfl)
theorem dX8_clock_107 : decode cX8_clock 107 = .ok (.bipush 44, 2) := dk_16 44 (dk_at dksX8_clock_4 16 rfl rfl)
theorem dX8_clock_109 : decode cX8_clock 109 = .ok (.if_icmp .ne 61, 3) := dk_160 0 61 (dk_at dksX8_clock_4 18 rfl rfl)
theorem dX8_clock_112 : decode cX8_clock 112 = .ok (.aload_n 0, 1) := dk_42 (dk_at dksX8_clock_4 21 rfl rfl)
theorem dX8_clock_113 : decode cX8_clock 113 = .ok (.dup, 1) := dk_89 (dk_at dksX8_clock_4 22 rfl rfl)
theorem dX8_clock_114 : decode cX8_clock 114 = .ok (.getfield 18, 3) := dk_180 0 18 (dk_at dksX8_clock_5 0 rfl rfl)
theorem dX8_clock_117 : decode cX8_clock 117 = .ok (.iconst 1, 1) := dk_4 (dk_at dksX8_clock_5 3 rfl rfl)
theorem dX8_clock_118 : decode cX8_clock 118 = .ok (.iadd, 1) := dk_96 (dk_at dksX8_clock_5 4 rfl rfl)
theorem dX8_clock_119 : decode cX8_clock 119 = .ok (.putfield 18, 3) := dk_181 0 18 (dk_at dksX8_clock_5 5 rfl rfl)
theorem dX8_clock_122 : decode cX8_clock 122 = .ok (.aload_n 0, 1) := dk_42 (dk_at dksX8_clock_5 8 rfl rfl)
theorem dX8_clock_123 : decode cX8_clock 123 = .ok (.invokevirtual 67, 3) := dk_182 0 67 (dk_at dksX8_clock_5 9 rfl rfl)
theorem dX8_clock_126 : decode cX8_clock 126 = .ok (.ifCond .ne 5, 3) := dk_154 0 5 (dk_at dksX8_clock_5 12 rfl rfl)
theorem dX8_clock_129 : decode cX8_clock 129 = .ok (.iconst 0, 1) := dk_3 (dk_at dksX8_clock_5 15 rfl rfl)
theorem dX8_clock_130 : decode cX8_clock 130 = .ok (.ireturn, 1) := dk_172 (dk_at dksX8_clock_5 16 rfl rfl)
theorem dX8_clock_131 : decode cX8_clock 131 = .ok (.aload_n 0, 1) := dk_42 (dk_at dksX8_clock_5 17 rfl rfl)
theorem dX8_clock_132 : decode cX8_clock 132 = .ok (.invokevirtual 67, 3) := dk_182 0 67 (dk_at dksX8_clock_5 18 rfl rfl)
theorem dX8_clock_135 : decode cX8_clock 135 = .ok (.ifCond .eq 30, 3) := dk_153 0 30 (dk_at dksX8_clock_5 21 rfl rfl)
theorem dX8_clock_138 : decode cX8_clock 138 = .ok (.aload_n 0, 1) := dk_42 (dk_at dksX8_clock_6 0 rfl rfl)
theorem dX8_clock_139 : decode cX8_clock 139 = .ok (.getfield 12, 3) := dk_180 0 12 (dk_at dksX8_clock_6 1 rfl rfl)
theorem dX8_clock_142 : decode cX8_clock 142 = .ok (.aload_n 0, 1) := dk_42 (dk_at dksX8_clock_6 4 rfl rfl)
theorem dX8_clock_143 : decode cX8_clock 143 = .ok (.invokevirtual 31, 3) := dk_182 0 31 (dk_at dksX8_clock_6 5 rfl rfl)
theorem dX8_clock_146 : decode cX8_clock 146 = .ok (.bipush 48, 2) := dk_16 48 (dk_at dksX8_clock_6 8 rfl rfl)
theorem dX8_clock_148 : decode cX8_clock 148 = .ok (.isub, 1) := dk_100 (dk_at dksX8_clock_6 10 rfl rfl)
theorem dX8_clock_149 : decode cX8_clock 149 = .ok (.invokevirtual 71, 3) := dk_182 0 71 (dk_at dksX8_clock_6 11 rfl rfl)
theorem dX8_clock_152 : decode cX8_clock 152 = .ok (.aload_n 0, 1) := dk_42 (dk_at dksX8_clock_6 14 rfl rfl)
theorem dX8_clock_153 : decode cX8_clock 153 = .ok (.dup, 1) := dk_89 (dk_at dksX8_clock_6 15 rfl rfl)
theorem dX8_clock_154 : decode cX8_clock 154 = .ok (.getfield 18, 3) := dk_180 0 18 (dk_at dksX8_clock_6 16 rfl rfl)
theorem dX8_clock_157 : decode cX8_clock 157 = .ok (.iconst 1, 1) := dk_4 (dk_at dksX8_clock_6 19 rfl rfl)
theorem dX8_clock_158 : decode cX8_clock 158 = .ok (.iadd, 1) := dk_96 (dk_at dksX8_clock_6 20 rfl rfl)
theorem dX8_clock_159 : decode cX8_clock 159 = .ok (.putfield 18, 3) := dk_181 0 18 (dk_at dksX8_clock_6 21 rfl rfl)
theorem dX8_clock_162 : decode cX8_clock 162 = .ok (.goto (-31), 3) := dk_167 255 225 (dk_at dksX8_clock_7 0 rfl rfl)
theorem dX8_clock_165 : decode cX8_clock 165 = .ok (.aload_n 0, 1) := dk_42 (dk_at dksX8_clock_7 3 rfl rfl)
theorem dX8_clock_166 : decode cX8_clock 166 = .ok (.iload_n 2, 1) := dk_28 (dk_at dksX8_clock_7 4 rfl rfl)
theorem dX8_clock_167 : decode cX8_clock 167 = .ok (.invokevirtual 75, 3) := dk_182 0 75 (dk_at dksX8_clock_7 5 rfl rfl)
theorem dX8_clock_170 : decode cX8_clock 170 = .ok (.iconst 1, 1) := dk_4 (dk_at dksX8_clock_7 8 rfl rfl)
theorem dX8_clock_171 : decode cX8_clock 171 = .ok (.ireturn, 1) := dk_172 (dk_at dksX8_clock_7 9 rfl rfl)
abbrev cX8_isDigit : ByteArray := prog_12_method_4_code
def yX8_isDigit : MethodName := ⟨RX8, "isDigit", "()Z"⟩
def dkwX8_isDigit_0 : List UInt8 := [42, 182, 0, 31, 16, 48, 161, 0, 16, 42, 182, 0, 31, 16, 57, 163, 0, 7, 4, 167, 0, 4, 3, 172]
abbrev dktX8_isDigit_0 : List UInt8 := dkwX8_isDigit_0 ++ []
theorem dksX8_isDigit_0 : cX8_isDigit.data.toList.drop 0 = dktX8_isDigit_0 := by decide +kernel
theorem dX8_isDigit_0 : decode cX8_isDigit 0 = .ok (.aload_n 0, 1) := dk_42 (dk_at dksX8_isDigit_0 0 rfl rfl)
theorem dX8_isDigit_1 : decode cX8_isDigit 1 = .ok (.invokevirtual 31, 3) := dk_182 0 31 (dk_at dksX8_isDigit_0 1 rfl rfl)
theorem dX8_isDigit_4 : decode cX8_isDigit 4 = .ok (.bipush 48, 2) := dk_16 48 (dk_at dksX8_isDigit_0 4 rfl rfl)
theorem dX8_isDigit_6 : decode cX8_isDigit 6 = .ok (.if_icmp .lt 16, 3) := dk_161 0 16 (dk_at dksX8_isDigit_0 6 rfl rfl)
theorem dX8_isDigit_9 : decode cX8_isDigit 9 = .ok (.aload_n 0, 1) := dk_42 (dk_at dksX8_isDigit_0 9 rfl rfl)
theorem dX8_isDigit_10 : decode cX8_isDigit 10 = .ok (.invokevirtual 31, 3) := dk_182 0 31 (dk_at dksX8_isDigit_0 10 rfl rfl)
theorem dX8_isDigit_13 : decode cX8_isDigit 13 = .ok (.bipush 57, 2) := dk_16 57 (dk_at dksX8_isDigit_0 13 rfl rfl)
theorem dX8_isDigit_15 : decode cX8_isDigit 15 = .ok (.if_icmp .gt 7, 3) := dk_163 0 7 (dk_at dksX8_isDigit_0 15 rfl rfl)
theorem dX8_isDigit_18 : decode cX8_isDigit 18 = .ok (.iconst 1, 1) := dk_4 (dk_at dksX8_isDigit_0 18 rfl rfl)
theorem dX8_isDigit_19 : decode cX8_isDigit 19 = .ok (.goto 4, 3) := dk_167 0 4 (dk_at dksX8_isDigit_0 19 rfl rfl)
theorem dX8_isDigit_22 : decode cX8_isDigit 22 = .ok (.iconst 0, 1) := dk_3 (dk_at dksX8_isDigit_0 22 rfl rfl)
theorem dX8_isDigit_23 : decode cX8_isDigit 23 = .ok (.ireturn, 1) := dk_172 (dk_at dksX8_isDigit_0 23 rfl rfl)
abbrev cX8_here : ByteArray := prog_12_method_3_code
def yX8_here : MethodName := ⟨RX8, "here", "()I"⟩
def dkwX8_here_1 : List UInt8 := [167, 0, 4, 2, 172]
abbrev dktX8_here_1 : List UInt8 := dkwX8_here_1 ++ []
def dkwX8_here_0 : List UInt8 := [42, 180, 0, 18, 42, 180, 0, 22, 162, 0, 17, 42, 180, 0, 25, 42, 180, 0, 18, 182, 0, 28]
abbrev dktX8_here_0 : List UInt8 := dkwX8_here_0 ++ dktX8_here_1
theorem dksX8_here_0 : cX8_here.data.toList.drop 0 = dktX8_here_0 := by decide +kernel
theorem dksX8_here_1 : cX8_here.data.toList.drop 22 = dktX8_here_1 := dk_seg dksX8_here_0 22 rfl rfl
theorem dX8_here_0 : decode cX8_here 0 = .ok (.aload_n 0, 1) := dk_42 (dk_at dksX8_here_0 0 rfl rfl)
theorem dX8_here_1 : decode cX8_here 1 = .ok (.getfield 18, 3) := dk_180 0 18 (dk_at dksX8_here_0 1 rfl rfl)
theorem dX8_here_4 : decode cX8_here 4 = .ok (.aload_n 0, 1) := dk_42 (dk_at dksX8_here_0 4 rfl rfl)
theorem dX8_here_5 : decode cX8_here 5 = .ok (.getfield 22, 3) := dk_180 0 22 (dk_at dksX8_here_0 5 rfl rfl)
theorem dX8_here_8 : decode cX8_here 8 = .ok (.if_icmp .ge 17, 3) := dk_162 0 17 (dk_at dksX8_here_0 8 rfl rfl)
theorem dX8_here_11 : decode cX8_here 11 = .ok (.aload_n 0, 1) := dk_42 (dk_at dksX8_here_0 11 rfl rfl)
theorem dX8_here_12 : decode cX8_here 12 = .ok (.getfield 25, 3) := dk_180 0 25 (dk_at dksX8_here_0 12 rfl rfl)
theorem dX8_here_15 : decode cX8_here 15 = .ok (.aload_n 0, 1) := dk_42 (dk_at dksX8_here_0 15 rfl rfl)
theorem dX8_here_16 : decode cX8_here 16 = .ok (.getfield 18, 3) := dk_180 0 18 (dk_at dksX8_here_0 16 rfl rfl)
theorem dX8_here_19 : decode cX8_here 19 = .ok (.invokevirtual 28, 3) := dk_182 0 28 (dk_at dksX8_here_0 19 rfl rfl)
theorem dX8_here_22 : decode cX8_here 22 = .ok (.goto 4, 3) := dk_167 0 4 (dk_at dksX8_here_1 0 rfl rfl)
theorem dX8_here_25 : decode cX8_here 25 = .ok (.iconst (-1), 1) := dk_2 (dk_at dksX8_here_1 3 rfl rfl)
theorem dX8_here_26 : decode cX8_here 26 = .ok (.ireturn, 1) := dk_172 (dk_at dksX8_here_1 4 rfl rfl)
abbrev cX8_spread : ByteArray := prog_12_method_9_code
def yX8_spread : MethodName := ⟨RX8, "spread", "(I)V"⟩
def dkwX8_spread_5 : List UInt8 := [182, 0, 85, 177]
abbrev dktX8_spread_5 : List UInt8 := dkwX8_spread_5 ++ []
def dkwX8_spread_4 : List UInt8 := [180, 0, 12, 29, 4, 100, 182, 0, 28, 154, 0, 9, 132, 3, 255, 167, 255, 236, 42, 180, 0, 12, 29]
abbrev dktX8_spread_4 : List UInt8 := dkwX8_spread_4 ++ dktX8_spread_5
def dkwX8_spread_3 : List UInt8 := [164, 0, 11, 42, 28, 16, 60, 112, 181, 0, 61, 42, 180, 0, 12, 182, 0, 78, 62, 29, 158, 0, 22, 42]
abbrev dktX8_spread_3 : List UInt8 := dkwX8_spread_3 ++ dktX8_spread_4
def dkwX8_spread_2 : List UInt8 := [61, 132, 3, 255, 167, 255, 216, 27, 17, 14, 16, 160, 0, 11, 42, 28, 16, 60, 108, 181, 0, 58, 27, 4]
abbrev dktX8_spread_2 : List UInt8 := dkwX8_spread_2 ++ dktX8_spread_3
def dkwX8_spread_1 : List UInt8 := [27, 104, 28, 96, 54, 4, 42, 180, 0, 12, 29, 21, 4, 16, 10, 112, 182, 0, 81, 21, 4, 16, 10, 108]
abbrev dktX8_spread_1 : List UInt8 := dkwX8_spread_1 ++ dktX8_spread_2
def dkwX8_spread_0 : List UInt8 := [3, 61, 42, 180, 0, 12, 182, 0, 78, 4, 100, 62, 29, 155, 0, 42, 42, 180, 0, 12, 29, 182, 0, 28]
abbrev dktX8_spread_0 : List UInt8 := dkwX8_spread_0 ++ dktX8_spread_1
theorem dksX8_spread_0 : cX8_spread.data.toList.drop 0 = dktX8_spread_0 := by decide +kernel
theorem dksX8_spread_1 : cX8_spread.data.toList.drop 24 = dktX8_spread_1 := dk_seg dksX8_spread_0 24 rfl rfl
theorem dksX8_spread_2 : cX8_spread.data.toList.drop 48 = dktX8_spread_2 := dk_seg dksX8_spread_1 24 rfl rfl
theorem dksX8_spread_3 : cX8_spread.data.toList.drop 72 = dktX8_spread_3 := dk_seg dksX8_spread_2 24 rfl rfl
theorem dksX8_spread_4 : cX8_spread.data.toList.drop 96 = dktX8_spread_4 := dk_seg dksX8_spread_3 24 rfl rfl
theorem dksX8_spread_5 : cX8_spread.data.toList.drop 119 = dktX8_spread_5 := dk_seg dksX8_spread_4 23 rfl rfl
theorem dX8_spread_0 : decode cX8_spread 0 = .ok (.iconst 0, 1) := dk_3 (dk_at dksX8_spread_0 0 rfl rfl)
theorem dX8_spread_1 : decode cX8_spread 1 = .ok (.istore_n 2, 1) := dk_61 (dk_at dksX8_spread_0 1 rfl rfl)
theorem dX8_spread_2 : decode cX8_spread 2 = .ok (.aload_n 0, 1) := dk_42 (dk_at dksX8_spread_0 2 rfl rfl)
theorem dX8_spread_3 : decode cX8_spread 3 = .ok (.getfield 12, 3) := dk_180 0 12 (dk_at dksX8_spread_0 3 rfl rfl)
theorem dX8_spread_6 : decode cX8_spread 6 = .ok (.invokevirtual 78, 3) := dk_182 0 78 (dk_at dksX8_spread_0 6 rfl rfl)
theorem dX8_spread_9 : decode cX8_spread 9 = .ok (.iconst 1, 1) := dk_4 (dk_at dksX8_spread_0 9 rfl rfl)
theorem dX8_spread_10 : decode cX8_spread 10 = .ok (.isub, 1) := dk_100 (dk_at dksX8_spread_0 10 rfl rfl)
theorem dX8_spread_11 : decode cX8_spread 11 = .ok (.istore_n 3, 1) := dk_62 (dk_at dksX8_spread_0 11 rfl rfl)
theorem dX8_spread_12 : decode cX8_spread 12 = .ok (.iload_n 3, 1) := dk_29 (dk_at dksX8_spread_0 12 rfl rfl)
theorem dX8_spread_13 : decode cX8_spread 13 = .ok (.ifCond .lt 42, 3) := dk_155 0 42 (dk_at dksX8_spread_0 13 rfl rfl)
theorem dX8_spread_16 : decode cX8_spread 16 = .ok (.aload_n 0, 1) := dk_42 (dk_at dksX8_spread_0 16 rfl rfl)
theorem dX8_spread_17 : decode cX8_spread 17 = .ok (.getfield 12, 3) := dk_180 0 12 (dk_at dksX8_spread_0 17 rfl rfl)
theorem dX8_spread_20 : decode cX8_spread 20 = .ok (.iload_n 3, 1) := dk_29 (dk_at dksX8_spread_0 20 rfl rfl)
theorem dX8_spread_21 : decode cX8_spread 21 = .ok (.invokevirtual 28, 3) := dk_182 0 28 (dk_at dksX8_spread_0 21 rfl rfl)
theorem dX8_spread_24 : decode cX8_spread 24 = .ok (.iload_n 1, 1) := dk_27 (dk_at dksX8_spread_1 0 rfl rfl)
theorem dX8_spread_25 : decode cX8_spread 25 = .ok (.imul, 1) := dk_104 (dk_at dksX8_spread_1 1 rfl rfl)
theorem dX8_spread_26 : decode cX8_spread 26 = .ok (.iload_n 2, 1) := dk_28 (dk_at dksX8_spread_1 2 rfl rfl)
theorem dX8_spread_27 : decode cX8_spread 27 = .ok (.iadd, 1) := dk_96 (dk_at dksX8_spread_1 3 rfl rfl)
theorem dX8_spread_28 : decode cX8_spread 28 = .ok (.istore 4, 2) := dk_54 4 (dk_at dksX8_spread_1 4 rfl rfl)
theorem dX8_spread_30 : decode cX8_spread 30 = .ok (.aload_n 0, 1) := dk_42 (dk_at dksX8_spread_1 6 rfl rfl)
theorem dX8_spread_31 : decode cX8_spread 31 = .ok (.getfield 12, 3) := dk_180 0 12 (dk_at dksX8_spread_1 7 rfl rfl)
theorem dX8_spread_34 : decode cX8_spread 34 = .ok (.iload_n 3, 1) := dk_29 (dk_at dksX8_spread_1 10 rfl rfl)
theorem dX8_spread_35 : decode cX8_spread 35 = .ok (.iload 4, 2) := dk_21 4 (dk_at dksX8_spread_1 11 rfl rfl)
theorem dX8_spread_37 : decode cX8_spread 37 = .ok (.bipush 10, 2) := dk_16 10 (dk_at dksX8_spread_1 13 rfl rfl)
theorem dX8_spread_39 : decode cX8_spread 39 = .ok (.irem, 1) := dk_112 (dk_at dksX8_spread_1 15 rfl rfl)
theorem dX8_spread_40 : decode cX8_spread 40 = .ok (.invokevirtual 81, 3) := dk_182 0 81 (dk_at dksX8_spread_1 16 rfl rfl)
theorem dX8_spread_43 : decode cX8_spread 43 = .ok (.iload 4, 2) := dk_21 4 (dk_at dksX8_spread_1 19 rfl rfl)
theorem dX8_spread_45 : decode cX8_spread 45 = .ok (.bipush 10, 2) := dk_16 10 (dk_at dksX8_spread_1 21 rfl rfl)
theorem dX8_spread_47 : decode cX8_spread 47 = .ok (.idiv, 1) := dk_108 (dk_at dksX8_spread_1 23 rfl rfl)
theorem dX8_spread_48 : decode cX8_spread 48 = .ok (.istore_n 2, 1) := dk_61 (dk_at dksX8_spread_2 0 rfl rfl)
theorem dX8_spread_49 : decode cX8_spread 49 = .ok (.iinc 3 (-1), 3) := dk_132 3 255 (dk_at dksX8_spread_2 1 rfl rfl)
theorem dX8_spread_52 : decode cX8_spread 52 = .ok (.goto (-40), 3) := dk_167 255 216 (dk_at dksX8_spread_2 4 rfl rfl)
theorem dX8_spread_55 : decode cX8_spread 55 = .ok (.iload_n 1, 1) := dk_27 (dk_at dksX8_spread_2 7 rfl rfl)
theorem dX8_spread_56 : decode cX8_spread 56 = .ok (.sipush 3600, 3) := dk_17 14 16 (dk_at dksX8_spread_2 8 rfl rfl)
theorem dX8_spread_59 : decode cX8_spread 59 = .ok (.if_icmp .ne 11, 3) := dk_160 0 11 (dk_at dksX8_spread_2 11 rfl rfl)
theorem dX8_spread_62 : decode cX8_spread 62 = .ok (.aload_n 0, 1) := dk_42 (dk_at dksX8_spread_2 14 rfl rfl)
theorem dX8_spread_63 : decode cX8_spread 63 = .ok (.iload_n 2, 1) := dk_28 (dk_at dksX8_spread_2 15 rfl rfl)
theorem dX8_spread_64 : decode cX8_spread 64 = .ok (.bipush 60, 2) := dk_16 60 (dk_at dksX8_spread_2 16 rfl rfl)
theorem dX8_spread_66 : decode cX8_spread 66 = .ok (.idiv, 1) := dk_108 (dk_at dksX8_spread_2 18 rfl rfl)
theorem dX8_spread_67 : decode cX8_spread 67 = .ok (.putfield 58, 3) := dk_181 0 58 (dk_at dksX8_spread_2 19 rfl rfl)
theorem dX8_spread_70 : decode cX8_spread 70 = .ok (.iload_n 1, 1) := dk_27 (dk_at dksX8_spread_2 22 rfl rfl)
theorem dX8_spread_71 : decode cX8_spread 71 = .ok (.iconst 1, 1) := dk_4 (dk_at dksX8_spread_2 23 rfl rfl)
theorem dX8_spread_72 : decode cX8_spread 72 = .ok (.if_icmp .le 11, 3) := dk_164 0 11 (dk_at dksX8_spread_3 0 rfl rfl)
theorem dX8_spread_75 : decode cX8_spread 75 = .ok (.aload_n 0, 1) := dk_42 (dk_at dksX8_spread_3 3 rfl rfl)
theorem dX8_spread_76 : decode cX8_spread 76 = .ok (.iload_n 2, 1) := dk_28 (dk_at dksX8_spread_3 4 rfl rfl)
theorem dX8_spread_77 : decode cX8_spread 77 = .ok (.bipush 60, 2) := dk_16 60 (dk_at dksX8_spread_3 5 rfl rfl)
theorem dX8_spread_79 : decode cX8_spread 79 = .ok (.irem, 1) := dk_112 (dk_at dksX8_spread_3 7 rfl rfl)
theorem dX8_spread_80 : decode cX8_spread 80 = .ok (.putfield 61, 3) := dk_181 0 61 (dk_at dksX8_spread_3 8 rfl rfl)
theorem dX8_spread_83 : decode cX8_spread 83 = .ok (.aload_n 0, 1) := dk_42 (dk_at dksX8_spread_3 11 rfl rfl)
theorem dX8_spread_84 : decode cX8_spread 84 = .ok (.getfield 12, 3) := dk_180 0 12 (dk_at dksX8_spread_3 12 rfl rfl)
theorem dX8_spread_87 : decode cX8_spread 87 = .ok (.invokevirtual 78, 3) := dk_182 0 78 (dk_at dksX8_spread_3 15 rfl rfl)
theorem dX8_spread_90 : decode cX8_spread 90 = .ok (.istore_n 3, 1) := dk_62 (dk_at dksX8_spread_3 18 rfl rfl)
theorem dX8_spread_91 : decode cX8_spread 91 = .ok (.iload_n 3, 1) := dk_29 (dk_at dksX8_spread_3 19 rfl rfl)
theorem dX8_spread_92 : decode cX8_spread 92 = .ok (.ifCond .le 22, 3) := dk_158 0 22 (dk_at dksX8_spread_3 20 rfl rfl)
theorem dX8_spread_95 : decode cX8_spread 95 = .ok (.aload_n 0, 1) := dk_42 (dk_at dksX8_spread_3 23 rfl rfl)
theorem dX8_spread_96 : decode cX8_spread 96 = .ok (.getfield 12, 3) := dk_180 0 12 (dk_at dksX8_spread_4 0 rfl rfl)
theorem dX8_spread_99 : decode cX8_spread 99 = .ok (.iload_n 3, 1) := dk_29 (dk_at dksX8_spread_4 3 rfl rfl)
theorem dX8_spread_100 : decode cX8_spread 100 = .ok (.iconst 1, 1) := dk_4 (dk_at dksX8_spread_4 4 rfl rfl)
theorem dX8_spread_101 : decode cX8_spread 101 = .ok (.isub, 1) := dk_100 (dk_at dksX8_spread_4 5 rfl rfl)
theorem dX8_spread_102 : decode cX8_spread 102 = .ok (.invokevirtual 28, 3) := dk_182 0 28 (dk_at dksX8_spread_4 6 rfl rfl)
theorem dX8_spread_105 : decode cX8_spread 105 = .ok (.ifCond .ne 9, 3) := dk_154 0 9 (dk_at dksX8_spread_4 9 rfl rfl)
theorem dX8_spread_108 : decode cX8_spread 108 = .ok (.iinc 3 (-1), 3) := dk_132 3 255 (dk_at dksX8_spread_4 12 rfl rfl)
theorem dX8_spread_111 : decode cX8_spread 111 = .ok (.goto (-20), 3) := dk_167 255 236 (dk_at dksX8_spread_4 15 rfl rfl)
theorem dX8_spread_114 : decode cX8_spread 114 = .ok (.aload_n 0, 1) := dk_42 (dk_at dksX8_spread_4 18 rfl rfl)
theorem dX8_spread_115 : decode cX8_spread 115 = .ok (.getfield 12, 3) := dk_180 0 12 (dk_at dksX8_spread_4 19 rfl rfl)
theorem dX8_spread_118 : decode cX8_spread 118 = .ok (.iload_n 3, 1) := dk_29 (dk_at dksX8_spread_4 22 rfl rfl)
theorem dX8_spread_119 : decode cX8_spread 119 = .ok (.invokevirtual 85, 3) := dk_182 0 85 (dk_at dksX8_spread_5 0 rfl rfl)
theorem dX8_spread_122 : decode cX8_spread 122 = .ok (.return_, 1) := dk_177 (dk_at dksX8_spread_5 3 rfl rfl)
abbrev cX8_zone : ByteArray := prog_12_method_10_code
def yX8_zone : MethodName := ⟨RX8, "zone", "(Z)I"⟩
def dkwX8_zone_6 : List UInt8 := [28, 16, 43, 160, 0, 9, 21, 5, 116, 167, 0, 5, 21, 5, 182, 0, 88, 3, 172]
abbrev dktX8_zone_6 : List UInt8 := dkwX8_zone_6 ++ []
def dkwX8_zone_5 : List UInt8 := [42, 180, 0, 18, 42, 180, 0, 22, 159, 0, 6, 16, 18, 172, 16, 60, 29, 104, 21, 4, 96, 54, 5, 42]
abbrev dktX8_zone_5 : List UInt8 := dkwX8_zone_5 ++ dktX8_zone_6
def dkwX8_zone_4 : List UInt8 := [160, 0, 7, 3, 167, 0, 8, 42, 5, 182, 0, 35, 54, 4, 21, 4, 16, 59, 184, 0, 54, 153, 0, 14]
abbrev dktX8_zone_4 : List UInt8 := dkwX8_zone_4 ++ dktX8_zone_5
def dkwX8_zone_3 : List UInt8 := [29, 16, 23, 184, 0, 54, 154, 0, 6, 16, 18, 172, 27, 153, 0, 18, 42, 180, 0, 18, 42, 180, 0, 22]
abbrev dktX8_zone_3 : List UInt8 := dkwX8_zone_3 ++ dktX8_zone_4
def dkwX8_zone_2 : List UInt8 := [16, 18, 172, 28, 16, 43, 159, 0, 12, 28, 16, 45, 159, 0, 6, 16, 18, 172, 42, 5, 182, 0, 35, 62]
abbrev dktX8_zone_2 : List UInt8 := dkwX8_zone_2 ++ dktX8_zone_3
def dkwX8_zone_1 : List UInt8 := [181, 0, 18, 28, 16, 90, 160, 0, 21, 42, 180, 0, 18, 42, 180, 0, 22, 160, 0, 7, 3, 167, 0, 5]
abbrev dktX8_zone_1 : List UInt8 := dkwX8_zone_1 ++ dktX8_zone_2
def dkwX8_zone_0 : List UInt8 := [42, 182, 0, 31, 61, 28, 2, 160, 0, 10, 27, 153, 0, 6, 16, 19, 172, 42, 89, 180, 0, 18, 4, 96]
abbrev dktX8_zone_0 : List UInt8 := dkwX8_zone_0 ++ dktX8_zone_1
theorem dksX8_zone_0 : cX8_zone.data.toList.drop 0 = dktX8_zone_0 := by decide +kernel
theorem dksX8_zone_1 : cX8_zone.data.toList.drop 24 = dktX8_zone_1 := dk_seg dksX8_zone_0 24 rfl rfl
theorem dksX8_zone_2 : cX8_zone.data.toList.drop 48 = dktX8_zone_2 := dk_seg dksX8_zone_1 24 rfl rfl
theorem dksX8_zone_3 : cX8_zone.data.toList.drop 72 = dktX8_zone_3 := dk_seg dksX8_zone_2 24 rfl rfl
theorem dksX8_zone_4 : cX8_zone.data.toList.drop 96 = dktX8_zone_4 := dk_seg dksX8_zone_3 24 rfl rfl
theorem dksX8_zone_5 : cX8_zone.data.toList.drop 120 = dktX8_zone_5 := dk_seg dksX8_zone_4 24 rfl rfl
theorem dksX8_zone_6 : cX8_zone.data.toList.drop 144 = dktX8_zone_6 := dk_seg dksX8_zone_5 24 rfl rfl
theorem dX8_zone_0 : decode cX8_zone 0 = .ok (.aload_n 0, 1) := dk_42 (dk_at dksX8_zone_0 0 rfl rfl)
theorem dX8_zone_1 : decode cX8_zone 1 = .ok (.invokevirtual 31, 3) := dk_182 0 31 (dk_at dksX8_zone_0 1 rfl rfl)
theorem dX8_zone_4 : decode cX8_zone 4 = .ok (.istore_n 2, 1) := dk_61 (dk_at dksX8_zone_0 4 rfl rfl)
theorem dX8_zone_5 : decode cX8_zone 5 = .ok (.iload_n 2, 1) := dk_28 (dk_at dksX8_zone_0 5 rfl rfl)
theorem dX8_zone_6 : decode cX8_zone 6 = .ok (.iconst (-1), 1) := dk_2 (dk_at dksX8_zone_0 6 rfl rfl)
theorem dX8_zone_7 : decode cX8_zone 7 = .ok (.if_icmp .ne 10, 3) := dk_160 0 10 (dk_at dksX8_zone_0 7 rfl rfl)
theorem dX8_zone_10 : decode cX8_zone 10 = .ok (.iload_n 1, 1) := dk_27 (dk_at dksX8_zone_0 10 rfl rfl)
theorem dX8_zone_11 : decode cX8_zone 11 = .ok (.ifCond .eq 6, 3) := dk_153 0 6 (dk_at dksX8_zone_0 11 rfl rfl)
theorem dX8_zone_14 : decode cX8_zone 14 = .ok (.bipush 19, 2) := dk_16 19 (dk_at dksX8_zone_0 14 rfl rfl)
theorem dX8_zone_16 : decode cX8_zone 16 = .ok (.ireturn, 1) := dk_172 (dk_at dksX8_zone_0 16 rfl rfl)
theorem dX8_zone_17 : decode cX8_zone 17 = .ok (.aload_n 0, 1) := dk_42 (dk_at dksX8_zone_0 17 rfl rfl)
theorem dX8_zone_18 : decode cX8_zone 18 = .ok (.dup, 1) := dk_89 (dk_at dksX8_zone_0 18 rfl rfl)
theorem dX8_zone_19 : decode cX8_zone 19 = .ok (.getfield 18, 3) := dk_180 0 18 (dk_at dksX8_zone_0 19 rfl rfl)
theorem dX8_zone_22 : decode cX8_zone 22 = .ok (.iconst 1, 1) := dk_4 (dk_at dksX8_zone_0 22 rfl rfl)
theorem dX8_zone_23 : decode cX8_zone 23 = .ok (.iadd, 1) := dk_96 (dk_at dksX8_zone_0 23 rfl rfl)
theorem dX8_zone_24 : decode cX8_zone 24 = .ok (.putfield 18, 3) := dk_181 0 18 (dk_at dksX8_zone_1 0 rfl rfl)
theorem dX8_zone_27 : decode cX8_zone 27 = .ok (.iload_n 2, 1) := dk_28 (dk_at dksX8_zone_1 3 rfl rfl)
theorem dX8_zone_28 : decode cX8_zone 28 = .ok (.bipush 90, 2) := dk_16 90 (dk_at dksX8_zone_1 4 rfl rfl)
theorem dX8_zone_30 : decode cX8_zone 30 = .ok (.if_icmp .ne 21, 3) := dk_160 0 21 (dk_at dksX8_zone_1 6 rfl rfl)
theorem dX8_zone_33 : decode cX8_zone 33 = .ok (.aload_n 0, 1) := dk_42 (dk_at dksX8_zone_1 9 rfl rfl)
theorem dX8_zone_34 : decode cX8_zone 34 = .ok (.getfield 18, 3) := dk_180 0 18 (dk_at dksX8_zone_1 10 rfl rfl)
theorem dX8_zone_37 : decode cX8_zone 37 = .ok (.aload_n 0, 1) := dk_42 (dk_at dksX8_zone_1 13 rfl rfl)
theorem dX8_zone_38 : decode cX8_zone 38 = .ok (.getfield 22, 3) := dk_180 0 22 (dk_at dksX8_zone_1 14 rfl rfl)
theorem dX8_zone_41 : decode cX8_zone 41 = .ok (.if_icmp .ne 7, 3) := dk_160 0 7 (dk_at dksX8_zone_1 17 rfl rfl)
theorem dX8_zone_44 : decode cX8_zone 44 = .ok (.iconst 0, 1) := dk_3 (dk_at dksX8_zone_1 20 rfl rfl)
theorem dX8_zone_45 : decode cX8_zone 45 = .ok (.goto 5, 3) := dk_167 0 5 (dk_at dksX8_zone_1 21 rfl rfl)
theorem dX8_zone_48 : decode cX8_zone 48 = .ok (.bipush 18, 2) := dk_16 18 (dk_at dksX8_zone_2 0 rfl rfl)
theorem dX8_zone_50 : decode cX8_zone 50 = .ok (.ireturn, 1) := dk_172 (dk_at dksX8_zone_2 2 rfl rfl)
theorem dX8_zone_51 : decode cX8_zone 51 = .ok (.iload_n 2, 1) := dk_28 (dk_at dksX8_zone_2 3 rfl rfl)
theorem dX8_zone_52 : decode cX8_zone 52 = .ok (.bipush 43, 2) := dk_16 43 (dk_at dksX8_zone_2 4 rfl rfl)
theorem dX8_zone_54 : decode cX8_zone 54 = .ok (.if_icmp .eq 12, 3) := dk_159 0 12 (dk_at dksX8_zone_2 6 rfl rfl)
theorem dX8_zone_57 : decode cX8_zone 57 = .ok (.iload_n 2, 1) := dk_28 (dk_at dksX8_zone_2 9 rfl rfl)
theorem dX8_zone_58 : decode cX8_zone 58 = .ok (.bipush 45, 2) := dk_16 45 (dk_at dksX8_zone_2 10 rfl rfl)
theorem dX8_zone_60 : decode cX8_zone 60 = .ok (.if_icmp .eq 6, 3) := dk_159 0 6 (dk_at dksX8_zone_2 12 rfl rfl)
theorem dX8_zone_63 : decode cX8_zone 63 = .ok (.bipush 18, 2) := dk_16 18 (dk_at dksX8_zone_2 15 rfl rfl)
theorem dX8_zone_65 : decode cX8_zone 65 = .ok (.ireturn, 1) := dk_172 (dk_at dksX8_zone_2 17 rfl rfl)
theorem dX8_zone_66 : decode cX8_zone 66 = .ok (.aload_n 0, 1) := dk_42 (dk_at dksX8_zone_2 18 rfl rfl)
theorem dX8_zone_67 : decode cX8_zone 67 = .ok (.iconst 2, 1) := dk_5 (dk_at dksX8_zone_2 19 rfl rfl)
theorem dX8_zone_68 : decode cX8_zone 68 = .ok (.invokevirtual 35, 3) := dk_182 0 35 (dk_at dksX8_zone_2 20 rfl rfl)
theorem dX8_zone_71 : decode cX8_zone 71 = .ok (.istore_n 3, 1) := dk_62 (dk_at dksX8_zone_2 23 rfl rfl)
theorem dX8_zone_72 : decode cX8_zone 72 = .ok (.iload_n 3, 1) := dk_29 (dk_at dksX8_zone_3 0 rfl rfl)
theorem dX8_zone_73 : decode cX8_zone 73 = .ok (.bipush 23, 2) := dk_16 23 (dk_at dksX8_zone_3 1 rfl rfl)
theorem dX8_zone_75 : decode cX8_zone 75 = .ok (.invokestatic 54, 3) := dk_184 0 54 (dk_at dksX8_zone_3 3 rfl rfl)
theorem dX8_zone_78 : decode cX8_zone 78 = .ok (.ifCond .ne 6, 3) := dk_154 0 6 (dk_at dksX8_zone_3 6 rfl rfl)
theorem dX8_zone_81 : decode cX8_zone 81 = .ok (.bipush 18, 2) := dk_16 18 (dk_at dksX8_zone_3 9 rfl rfl)
theorem dX8_zone_83 : decode cX8_zone 83 = .ok (.ireturn, 1) := dk_172 (dk_at dksX8_zone_3 11 rfl rfl)
theorem dX8_zone_84 : decode cX8_zone 84 = .ok (.iload_n 1, 1) := dk_27 (dk_at dksX8_zone_3 12 rfl rfl)
theorem dX8_zone_85 : decode cX8_zone 85 = .ok (.ifCond .eq 18, 3) := dk_153 0 18 (dk_at dksX8_zone_3 13 rfl rfl)
theorem dX8_zone_88 : decode cX8_zone 88 = .ok (.aload_n 0, 1) := dk_42 (dk_at dksX8_zone_3 16 rfl rfl)
theorem dX8_zone_89 : decode cX8_zone 89 = .ok (.getfield 18, 3) := dk_180 0 18 (dk_at dksX8_zone_3 17 rfl rfl)
theorem dX8_zone_92 : decode cX8_zone 92 = .ok (.aload_n 0, 1) := dk_42 (dk_at dksX8_zone_3 20 rfl rfl)
theorem dX8_zone_93 : decode cX8_zone 93 = .ok (.getfield 22, 3) := dk_180 0 22 (dk_at dksX8_zone_3 21 rfl rfl)
theorem dX8_zone_96 : decode cX8_zone 96 = .ok (.if_icmp .ne 7, 3) := dk_160 0 7 (dk_at dksX8_zone_4 0 rfl rfl)
theorem dX8_zone_99 : decode cX8_zone 99 = .ok (.iconst 0, 1) := dk_3 (dk_at dksX8_zone_4 3 rfl rfl)
theorem dX8_zone_100 : decode cX8_zone 100 = .ok (.goto 8, 3) := dk_167 0 8 (dk_at dksX8_zone_4 4 rfl rfl)
theorem dX8_zone_103 : decode cX8_zone 103 = .ok (.aload_n 0, 1) := dk_42 (dk_at dksX8_zone_4 7 rfl rfl)
theorem dX8_zone_104 : decode cX8_zone 104 = .ok (.iconst 2, 1) := dk_5 (dk_at dksX8_zone_4 8 rfl rfl)
theorem dX8_zone_105 : decode cX8_zone 105 = .ok (.invokevirtual 35, 3) := dk_182 0 35 (dk_at dksX8_zone_4 9 rfl rfl)
theorem dX8_zone_108 : decode cX8_zone 108 = .ok (.istore 4, 2) := dk_54 4 (dk_at dksX8_zone_4 12 rfl rfl)
theorem dX8_zone_110 : decode cX8_zone 110 = .ok (.iload 4, 2) := dk_21 4 (dk_at dksX8_zone_4 14 rfl rfl)
theorem dX8_zone_112 : decode cX8_zone 112 = .ok (.bipush 59, 2) := dk_16 59 (dk_at dksX8_zone_4 16 rfl rfl)
theorem dX8_zone_114 : decode cX8_zone 114 = .ok (.invokestatic 54, 3) := dk_184 0 54 (dk_at dksX8_zone_4 18 rfl rfl)
theorem dX8_zone_117 : decode cX8_zone 117 = .ok (.ifCond .eq 14, 3) := dk_153 0 14 (dk_at dksX8_zone_4 21 rfl rfl)
theorem dX8_zone_120 : decode cX8_zone 120 = .ok (.aload_n 0, 1) := dk_42 (dk_at dksX8_zone_5 0 rfl rfl)
theorem dX8_zone_121 : decode cX8_zone 121 = .ok (.getfield 18, 3) := dk_180 0 18 (dk_at dksX8_zone_5 1 rfl rfl)
theorem dX8_zone_124 : decode cX8_zone 124 = .ok (.aload_n 0, 1) := dk_42 (dk_at dksX8_zone_5 4 rfl rfl)
theorem dX8_zone_125 : decode cX8_zone 125 = .ok (.getfield 22, 3) := dk_180 0 22 (dk_at dksX8_zone_5 5 rfl rfl)
theorem dX8_zone_128 : decode cX8_zone 128 = .ok (.if_icmp .eq 6, 3) := dk_159 0 6 (dk_at dksX8_zone_5 8 rfl rfl)
theorem dX8_zone_131 : decode cX8_zone 131 = .ok (.bipush 18, 2) := dk_16 18 (dk_at dksX8_zone_5 11 rfl rfl)
theorem dX8_zone_133 : decode cX8_zone 133 = .ok (.ireturn, 1) := dk_172 (dk_at dksX8_zone_5 13 rfl rfl)
theorem dX8_zone_134 : decode cX8_zone 134 = .ok (.bipush 60, 2) := dk_16 60 (dk_at dksX8_zone_5 14 rfl rfl)
theorem dX8_zone_136 : decode cX8_zone 136 = .ok (.iload_n 3, 1) := dk_29 (dk_at dksX8_zone_5 16 rfl rfl)
theorem dX8_zone_137 : decode cX8_zone 137 = .ok (.imul, 1) := dk_104 (dk_at dksX8_zone_5 17 rfl rfl)
theorem dX8_zone_138 : decode cX8_zone 138 = .ok (.iload 4, 2) := dk_21 4 (dk_at dksX8_zone_5 18 rfl rfl)
theorem dX8_zone_140 : decode cX8_zone 140 = .ok (.iadd, 1) := dk_96 (dk_at dksX8_zone_5 20 rfl rfl)
theorem dX8_zone_141 : decode cX8_zone 141 = .ok (.istore 5, 2) := dk_54 5 (dk_at dksX8_zone_5 21 rfl rfl)
theorem dX8_zone_143 : decode cX8_zone 143 = .ok (.aload_n 0, 1) := dk_42 (dk_at dksX8_zone_5 23 rfl rfl)
theorem dX8_zone_144 : decode cX8_zone 144 = .ok (.iload_n 2, 1) := dk_28 (dk_at dksX8_zone_6 0 rfl rfl)
theorem dX8_zone_145 : decode cX8_zone 145 = .ok (.bipush 43, 2) := dk_16 43 (dk_at dksX8_zone_6 1 rfl rfl)
theorem dX8_zone_147 : decode cX8_zone 147 = .ok (.if_icmp .ne 9, 3) := dk_160 0 9 (dk_at dksX8_zone_6 3 rfl rfl)
theorem dX8_zone_150 : decode cX8_zone 150 = .ok (.iload 5, 2) := dk_21 5 (dk_at dksX8_zone_6 6 rfl rfl)
theorem dX8_zone_152 : decode cX8_zone 152 = .ok (.ineg, 1) := dk_116 (dk_at dksX8_zone_6 8 rfl rfl)
theorem dX8_zone_153 : decode cX8_zone 153 = .ok (.goto 5, 3) := dk_167 0 5 (dk_at dksX8_zone_6 9 rfl rfl)
theorem dX8_zone_156 : decode cX8_zone 156 = .ok (.iload 5, 2) := dk_21 5 (dk_at dksX8_zone_6 12 rfl rfl)
theorem dX8_zone_158 : decode cX8_zone 158 = .ok (.invokevirtual 88, 3) := dk_182 0 88 (dk_at dksX8_zone_6 14 rfl rfl)
theorem dX8_zone_161 : decode cX8_zone 161 = .ok (.iconst 0, 1) := dk_3 (dk_at dksX8_zone_6 17 rfl rfl)
theorem dX8_zone_162 : decode cX8_zone 162 = .ok (.ireturn, 1) := dk_172 (dk_at dksX8_zone_6 18 rfl rfl)
abbrev cX8_shift : ByteArray := prog_12_method_11_code
def yX8_shift : MethodName := ⟨RX8, "shift", "(I)V"⟩
def dkwX8_shift_8 : List UInt8 := [180, 0, 38, 42, 180, 0, 41, 4, 160, 0, 7, 4, 167, 0, 4, 3, 96, 181, 0, 38, 177]
abbrev dktX8_shift_8 : List UInt8 := dkwX8_shift_8 ++ []
def dkwX8_shift_7 : List UInt8 := [180, 0, 41, 16, 12, 160, 0, 7, 4, 167, 0, 9, 42, 180, 0, 41, 4, 96, 181, 0, 41, 42, 89]
abbrev dktX8_shift_7 : List UInt8 := dkwX8_shift_7 ++ dktX8_shift_8
def dkwX8_shift_6 : List UInt8 := [180, 0, 44, 42, 180, 0, 38, 42, 180, 0, 41, 184, 0, 47, 164, 0, 53, 42, 4, 181, 0, 44, 42, 42]
abbrev dktX8_shift_6 : List UInt8 := dkwX8_shift_6 ++ dktX8_shift_7
def dkwX8_shift_5 : List UInt8 := [100, 181, 0, 38, 42, 42, 180, 0, 38, 42, 180, 0, 41, 184, 0, 47, 181, 0, 44, 167, 0, 71, 42]
abbrev dktX8_shift_5 : List UInt8 := dkwX8_shift_5 ++ dktX8_shift_6
def dkwX8_shift_4 : List UInt8 := [4, 100, 181, 0, 41, 42, 89, 180, 0, 38, 42, 180, 0, 41, 16, 12, 160, 0, 7, 4, 167, 0, 4, 3]
abbrev dktX8_shift_4 : List UInt8 := dkwX8_shift_4 ++ dktX8_shift_5
def dkwX8_shift_3 : List UInt8 := [180, 0, 44, 154, 0, 67, 42, 42, 180, 0, 41, 4, 160, 0, 8, 16, 12, 167, 0, 9, 42, 180, 0, 41]
abbrev dktX8_shift_3 : List UInt8 := dkwX8_shift_3 ++ dktX8_shift_4
def dkwX8_shift_2 : List UInt8 := [108, 181, 0, 51, 42, 28, 16, 60, 112, 181, 0, 58, 42, 89, 180, 0, 44, 29, 96, 181, 0, 44, 42]
abbrev dktX8_shift_2 : List UInt8 := dkwX8_shift_2 ++ dktX8_shift_3
def dkwX8_shift_1 : List UInt8 := [17, 5, 160, 161, 0, 7, 4, 167, 0, 4, 3, 62, 28, 17, 5, 160, 29, 104, 100, 61, 42, 28, 16, 60]
abbrev dktX8_shift_1 : List UInt8 := dkwX8_shift_1 ++ dktX8_shift_2
def dkwX8_shift_0 : List UInt8 := [16, 60, 42, 180, 0, 51, 104, 42, 180, 0, 58, 96, 27, 96, 61, 28, 156, 0, 7, 2, 167, 0, 15, 28]
abbrev dktX8_shift_0 : List UInt8 := dkwX8_shift_0 ++ dktX8_shift_1
theorem dksX8_shift_0 : cX8_shift.data.toList.drop 0 = dktX8_shift_0 := by decide +kernel
theorem dksX8_shift_1 : cX8_shift.data.toList.drop 24 = dktX8_shift_1 := dk_seg dksX8_shift_0 24 rfl rfl
theorem dksX8_shift_2 : cX8_shift.data.toList.drop 48 = dktX8_shift_2 := dk_seg dksX8_shift_1 24 rfl rfl
theorem dksX8_shift_3 : cX8_shift.data.toList.drop 71 = dktX8_shift_3 := dk_seg dksX8_shift_2 23 rfl rfl
theorem dksX8_shift_4 : cX8_shift.data.toList.drop 95 = dktX8_shift_4 := dk_seg dksX8_shift_3 24 rfl rfl
theorem dksX8_shift_5 : cX8_shift.data.toList.drop 119 = dktX8_shift_5 := dk_seg dksX8_shift_4 24 rfl rfl
theorem dksX8_shift_6 : cX8_shift.data.toList.drop 142 = dktX8_shift_6 := dk_seg dksX8_shift_5 23 rfl rfl
theorem dksX8_shift_7 : cX8_shift.data.toList.drop 166 = dktX8_shift_7 := dk_seg dksX8_shift_6 24 rfl rfl
theorem dksX8_shift_8 : cX8_shift.data.toList.drop 189 = dktX8_shift_8 := dk_seg dksX8_shift_7 23 rfl rfl
theorem dX8_shift_0 : decode cX8_shift 0 = .ok (.bipush 60, 2) := dk_16 60 (dk_at dksX8_shift_0 0 rfl rfl)
theorem dX8_shift_2 : decode cX8_shift 2 = .ok (.aload_n 0, 1) := dk_42 (dk_at dksX8_shift_0 2 rfl rfl)
theorem dX8_shift_3 : decode cX8_shift 3 = .ok (.getfield 51, 3) := dk_180 0 51 (dk_at dksX8_shift_0 3 rfl rfl)
theorem dX8_shift_6 : decode cX8_shift 6 = .ok (.imul, 1) := dk_104 (dk_at dksX8_shift_0 6 rfl rfl)
theorem dX8_shift_7 : decode cX8_shift 7 = .ok (.aload_n 0, 1) := dk_42 (dk_at dksX8_shift_0 7 rfl rfl)
theorem dX8_shift_8 : decode cX8_shift 8 = .ok (.getfield 58, 3) := dk_180 0 58 (dk_at dksX8_shift_0 8 rfl rfl)
theorem dX8_shift_11 : decode cX8_shift 11 = .ok (.iadd, 1) := dk_96 (dk_at dksX8_shift_0 11 rfl rfl)
theorem dX8_shift_12 : decode cX8_shift 12 = .ok (.iload_n 1, 1) := dk_27 (dk_at dksX8_shift_0 12 rfl rfl)
theorem dX8_shift_13 : decode cX8_shift 13 = .ok (.iadd, 1) := dk_96 (dk_at dksX8_shift_0 13 rfl rfl)
theorem dX8_shift_14 : decode cX8_shift 14 = .ok (.istore_n 2, 1) := dk_61 (dk_at dksX8_shift_0 14 rfl rfl)
theorem dX8_shift_15 : decode cX8_shift 15 = .ok (.iload_n 2, 1) := dk_28 (dk_at dksX8_shift_0 15 rfl rfl)
theorem dX8_shift_16 : decode cX8_shift 16 = .ok (.ifCond .ge 7, 3) := dk_156 0 7 (dk_at dksX8_shift_0 16 rfl rfl)
theorem dX8_shift_19 : decode cX8_shift 19 = .ok (.iconst (-1), 1) := dk_2 (dk_at dksX8_shift_0 19 rfl rfl)
theorem dX8_shift_20 : decode cX8_shift 20 = .ok (.goto 15, 3) := dk_167 0 15 (dk_at dksX8_shift_0 20 rfl rfl)
theorem dX8_shift_23 : decode cX8_shift 23 = .ok (.iload_n 2, 1) := dk_28 (dk_at dksX8_shift_0 23 rfl rfl)
theorem dX8_shift_24 : decode cX8_shift 24 = .ok (.sipush 1440, 3) := dk_17 5 160 (dk_at dksX8_shift_1 0 rfl rfl)
theorem dX8_shift_27 : decode cX8_shift 27 = .ok (.if_icmp .lt 7, 3) := dk_161 0 7 (dk_at dksX8_shift_1 3 rfl rfl)
theorem dX8_shift_30 : decode cX8_shift 30 = .ok (.iconst 1, 1) := dk_4 (dk_at dksX8_shift_1 6 rfl rfl)
theorem dX8_shift_31 : decode cX8_shift 31 = .ok (.goto 4, 3) := dk_167 0 4 (dk_at dksX8_shift_1 7 rfl rfl)
theorem dX8_shift_34 : decode cX8_shift 34 = .ok (.iconst 0, 1) := dk_3 (dk_at dksX8_shift_1 10 rfl rfl)
theorem dX8_shift_35 : decode cX8_shift 35 = .ok (.istore_n 3, 1) := dk_62 (dk_at dksX8_shift_1 11 rfl rfl)
theorem dX8_shift_36 : decode cX8_shift 36 = .ok (.iload_n 2, 1) := dk_28 (dk_at dksX8_shift_1 12 rfl rfl)
theorem dX8_shift_37 : decode cX8_shift 37 = .ok (.sipush 1440, 3) := dk_17 5 160 (dk_at dksX8_shift_1 13 rfl rfl)
theorem dX8_shift_40 : decode cX8_shift 40 = .ok (.iload_n 3, 1) := dk_29 (dk_at dksX8_shift_1 16 rfl rfl)
theorem dX8_shift_41 : decode cX8_shift 41 = .ok (.imul, 1) := dk_104 (dk_at dksX8_shift_1 17 rfl rfl)
theorem dX8_shift_42 : decode cX8_shift 42 = .ok (.isub, 1) := dk_100 (dk_at dksX8_shift_1 18 rfl rfl)
theorem dX8_shift_43 : decode cX8_shift 43 = .ok (.istore_n 2, 1) := dk_61 (dk_at dksX8_shift_1 19 rfl rfl)
theorem dX8_shift_44 : decode cX8_shift 44 = .ok (.aload_n 0, 1) := dk_42 (dk_at dksX8_shift_1 20 rfl rfl)
theorem dX8_shift_45 : decode cX8_shift 45 = .ok (.iload_n 2, 1) := dk_28 (dk_at dksX8_shift_1 21 rfl rfl)
theorem dX8_shift_46 : decode cX8_shift 46 = .ok (.bipush 60, 2) := dk_16 60 (dk_at dksX8_shift_1 22 rfl rfl)
theorem dX8_shift_48 : decode cX8_shift 48 = .ok (.idiv, 1) := dk_108 (dk_at dksX8_shift_2 0 rfl rfl)
theorem dX8_shift_49 : decode cX8_shift 49 = .ok (.putfield 51, 3) := dk_181 0 51 (dk_at dksX8_shift_2 1 rfl rfl)
theorem dX8_shift_52 : decode cX8_shift 52 = .ok (.aload_n 0, 1) := dk_42 (dk_at dksX8_shift_2 4 rfl rfl)
theorem dX8_shift_53 : decode cX8_shift 53 = .ok (.iload_n 2, 1) := dk_28 (dk_at dksX8_shift_2 5 rfl rfl)
theorem dX8_shift_54 : decode cX8_shift 54 = .ok (.bipush 60, 2) := dk_16 60 (dk_at dksX8_shift_2 6 rfl rfl)
theorem dX8_shift_56 : decode cX8_shift 56 = .ok (.irem, 1) := dk_112 (dk_at dksX8_shift_2 8 rfl rfl)
theorem dX8_shift_57 : decode cX8_shift 57 = .ok (.putfield 58, 3) := dk_181 0 58 (dk_at dksX8_shift_2 9 rfl rfl)
theorem dX8_shift_60 : decode cX8_shift 60 = .ok (.aload_n 0, 1) := dk_42 (dk_at dksX8_shift_2 12 rfl rfl)
theorem dX8_shift_61 : decode cX8_shift 61 = .ok (.dup, 1) := dk_89 (dk_at dksX8_shift_2 13 rfl rfl)
theorem dX8_shift_62 : decode cX8_shift 62 = .ok (.getfield 44, 3) := dk_180 0 44 (dk_at dksX8_shift_2 14 rfl rfl)
theorem dX8_shift_65 : decode cX8_shift 65 = .ok (.iload_n 3, 1) := dk_29 (dk_at dksX8_shift_2 17 rfl rfl)
theorem dX8_shift_66 : decode cX8_shift 66 = .ok (.iadd, 1) := dk_96 (dk_at dksX8_shift_2 18 rfl rfl)
theorem dX8_shift_67 : decode cX8_shift 67 = .ok (.putfield 44, 3) := dk_181 0 44 (dk_at dksX8_shift_2 19 rfl rfl)
theorem dX8_shift_70 : decode cX8_shift 70 = .ok (.aload_n 0, 1) := dk_42 (dk_at dksX8_shift_2 22 rfl rfl)
theorem dX8_shift_71 : decode cX8_shift 71 = .ok (.getfield 44, 3) := dk_180 0 44 (dk_at dksX8_shift_3 0 rfl rfl)
theorem dX8_shift_74 : decode cX8_shift 74 = .ok (.ifCond .ne 67, 3) := dk_154 0 67 (dk_at dksX8_shift_3 3 rfl rfl)
theorem dX8_shift_77 : decode cX8_shift 77 = .ok (.aload_n 0, 1) := dk_42 (dk_at dksX8_shift_3 6 rfl rfl)
theorem dX8_shift_78 : decode cX8_shift 78 = .ok (.aload_n 0, 1) := dk_42 (dk_at dksX8_shift_3 7 rfl rfl)
theorem dX8_shift_79 : decode cX8_shift 79 = .ok (.getfield 41, 3) := dk_180 0 41 (dk_at dksX8_shift_3 8 rfl rfl)
theorem dX8_shift_82 : decode cX8_shift 82 = .ok (.iconst 1, 1) := dk_4 (dk_at dksX8_shift_3 11 rfl rfl)
theorem dX8_shift_83 : decode cX8_shift 83 = .ok (.if_icmp .ne 8, 3) := dk_160 0 8 (dk_at dksX8_shift_3 12 rfl rfl)
theorem dX8_shift_86 : decode cX8_shift 86 = .ok (.bipush 12, 2) := dk_16 12 (dk_at dksX8_shift_3 15 rfl rfl)
theorem dX8_shift_88 : decode cX8_shift 88 = .ok (.goto 9, 3) := dk_167 0 9 (dk_at dksX8_shift_3 17 rfl rfl)
theorem dX8_shift_91 : decode cX8_shift 91 = .ok (.aload_n 0, 1) := dk_42 (dk_at dksX8_shift_3 20 rfl rfl)
theorem dX8_shift_92 : decode cX8_shift 92 = .ok (.getfield 41, 3) := dk_180 0 41 (dk_at dksX8_shift_3 21 rfl rfl)
theorem dX8_shift_95 : decode cX8_shift 95 = .ok (.iconst 1, 1) := dk_4 (dk_at dksX8_shift_4 0 rfl rfl)
theorem dX8_shift_96 : decode cX8_shift 96 = .ok (.isub, 1) := dk_100 (dk_at dksX8_shift_4 1 rfl rfl)
theorem dX8_shift_97 : decode cX8_shift 97 = .ok (.putfield 41, 3) := dk_181 0 41 (dk_at dksX8_shift_4 2 rfl rfl)
theorem dX8_shift_100 : decode cX8_shift 100 = .ok (.aload_n 0, 1) := dk_42 (dk_at dksX8_shift_4 5 rfl rfl)
theorem dX8_shift_101 : decode cX8_shift 101 = .ok (.dup, 1) := dk_89 (dk_at dksX8_shift_4 6 rfl rfl)
theorem dX8_shift_102 : decode cX8_shift 102 = .ok (.getfield 38, 3) := dk_180 0 38 (dk_at dksX8_shift_4 7 rfl rfl)
theorem dX8_shift_105 : decode cX8_shift 105 = .ok (.aload_n 0, 1) := dk_42 (dk_at dksX8_shift_4 10 rfl rfl)
theorem dX8_shift_106 : decode cX8_shift 106 = .ok (.getfield 41, 3) := dk_180 0 41 (dk_at dksX8_shift_4 11 rfl rfl)
theorem dX8_shift_109 : decode cX8_shift 109 = .ok (.bipush 12, 2) := dk_16 12 (dk_at dksX8_shift_4 14 rfl rfl)
theorem dX8_shift_111 : decode cX8_shift 111 = .ok (.if_icmp .ne 7, 3) := dk_160 0 7 (dk_at dksX8_shift_4 16 rfl rfl)
theorem dX8_shift_114 : decode cX8_shift 114 = .ok (.iconst 1, 1) := dk_4 (dk_at dksX8_shift_4 19 rfl rfl)
theorem dX8_shift_115 : decode cX8_shift 115 = .ok (.goto 4, 3) := dk_167 0 4 (dk_at dksX8_shift_4 20 rfl rfl)
theorem dX8_shift_118 : decode cX8_shift 118 = .ok (.iconst 0, 1) := dk_3 (dk_at dksX8_shift_4 23 rfl rfl)
theorem dX8_shift_119 : decode cX8_shift 119 = .ok (.isub, 1) := dk_100 (dk_at dksX8_shift_5 0 rfl rfl)
theorem dX8_shift_120 : decode cX8_shift 120 = .ok (.putfield 38, 3) := dk_181 0 38 (dk_at dksX8_shift_5 1 rfl rfl)
theorem dX8_shift_123 : decode cX8_shift 123 = .ok (.aload_n 0, 1) := dk_42 (dk_at dksX8_shift_5 4 rfl rfl)
theorem dX8_shift_124 : decode cX8_shift 124 = .ok (.aload_n 0, 1) := dk_42 (dk_at dksX8_shift_5 5 rfl rfl)
theorem dX8_shift_125 : decode cX8_shift 125 = .ok (.getfield 38, 3) := dk_180 0 38 (dk_at dksX8_shift_5 6 rfl rfl)
theorem dX8_shift_128 : decode cX8_shift 128 = .ok (.aload_n 0, 1) := dk_42 (dk_at dksX8_shift_5 9 rfl rfl)
theorem dX8_shift_129 : decode cX8_shift 129 = .ok (.getfield 41, 3) := dk_180 0 41 (dk_at dksX8_shift_5 10 rfl rfl)
theorem dX8_shift_132 : decode cX8_shift 132 = .ok (.invokestatic 47, 3) := dk_184 0 47 (dk_at dksX8_shift_5 13 rfl rfl)
theorem dX8_shift_135 : decode cX8_shift 135 = .ok (.putfield 44, 3) := dk_181 0 44 (dk_at dksX8_shift_5 16 rfl rfl)
theorem dX8_shift_138 : decode cX8_shift 138 = .ok (.goto 71, 3) := dk_167 0 71 (dk_at dksX8_shift_5 19 rfl rfl)
theorem dX8_shift_141 : decode cX8_shift 141 = .ok (.aload_n 0, 1) := dk_42 (dk_at dksX8_shift_5 22 rfl rfl)
theorem dX8_shift_142 : decode cX8_shift 142 = .ok (.getfield 44, 3) := dk_180 0 44 (dk_at dksX8_shift_6 0 rfl rfl)
theorem dX8_shift_145 : decode cX8_shift 145 = .ok (.aload_n 0, 1) := dk_42 (dk_at dksX8_shift_6 3 rfl rfl)
theorem dX8_shift_146 : decode cX8_shift 146 = .ok (.getfield 38, 3) := dk_180 0 38 (dk_at dksX8_shift_6 4 rfl rfl)
theorem dX8_shift_149 : decode cX8_shift 149 = .ok (.aload_n 0, 1) := dk_42 (dk_at dksX8_shift_6 7 rfl rfl)
theorem dX8_shift_150 : decode cX8_shift 150 = .ok (.getfield 41, 3) := dk_180 0 41 (dk_at dksX8_shift_6 8 rfl rfl)
theorem dX8_shift_153 : decode cX8_shift 153 = .ok (.invokestatic 47, 3) := dk_184 0 47 (dk_at dksX8_shift_6 11 rfl rfl)
theorem dX8_shift_156 : decode cX8_shift 156 = .ok (.if_icmp .le 53, 3) := dk_164 0 53 (dk_at dksX8_shift_6 14 rfl rfl)
theorem dX8_shift_159 : decode cX8_shift 159 = .ok (.aload_n 0, 1) := dk_42 (dk_at dksX8_shift_6 17 rfl rfl)
theorem dX8_shift_160 : decode cX8_shift 160 = .ok (.iconst 1, 1) := dk_4 (dk_at dksX8_shift_6 18 rfl rfl)
theorem dX8_shift_161 : decode cX8_shift 161 = .ok (.putfield 44, 3) := dk_181 0 44 (dk_at dksX8_shift_6 19 rfl rfl)
theorem dX8_shift_164 : decode cX8_shift 164 = .ok (.aload_n 0, 1) := dk_42 (dk_at dksX8_shift_6 22 rfl rfl)
theorem dX8_shift_165 : decode cX8_shift 165 = .ok (.aload_n 0, 1) := dk_42 (dk_at dksX8_shift_6 23 rfl rfl)
theorem dX8_shift_166 : decode cX8_shift 166 = .ok (.getfield 41, 3) := dk_180 0 41 (dk_at dksX8_shift_7 0 rfl rfl)
theorem dX8_shift_169 : decode cX8_shift 169 = .ok (.bipush 12, 2) := dk_16 12 (dk_at dksX8_shift_7 3 rfl rfl)
theorem dX8_shift_171 : decode cX8_shift 171 = .ok (.if_icmp .ne 7, 3) := dk_160 0 7 (dk_at dksX8_shift_7 5 rfl rfl)
theorem dX8_shift_174 : decode cX8_shift 174 = .ok (.iconst 1, 1) := dk_4 (dk_at dksX8_shift_7 8 rfl rfl)
theorem dX8_shift_175 : decode cX8_shift 175 = .ok (.goto 9, 3) := dk_167 0 9 (dk_at dksX8_shift_7 9 rfl rfl)
theorem dX8_shift_178 : decode cX8_shift 178 = .ok (.aload_n 0, 1) := dk_42 (dk_at dksX8_shift_7 12 rfl rfl)
theorem dX8_shift_179 : decode cX8_shift 179 = .ok (.getfield 41, 3) := dk_180 0 41 (dk_at dksX8_shift_7 13 rfl rfl)
theorem dX8_shift_182 : decode cX8_shift 182 = .ok (.iconst 1, 1) := dk_4 (dk_at dksX8_shift_7 16 rfl rfl)
theorem dX8_shift_183 : decode cX8_shift 183 = .ok (.iadd, 1) := dk_96 (dk_at dksX8_shift_7 17 rfl rfl)
theorem dX8_shift_184 : decode cX8_shift 184 = .ok (.putfield 41, 3) := dk_181 0 41 (dk_at dksX8_shift_7 18 rfl rfl)
theorem dX8_shift_187 : decode cX8_shift 187 = .ok (.aload_n 0, 1) := dk_42 (dk_at dksX8_shift_7 21 rfl rfl)
theorem dX8_shift_188 : decode cX8_shift 188 = .ok (.dup, 1) := dk_89 (dk_at dksX8_shift_7 22 rfl rfl)
theorem dX8_shift_189 : decode cX8_shift 189 = .ok (.getfield 38, 3) := dk_180 0 38 (dk_at dksX8_shift_8 0 rfl rfl)
theorem dX8_shift_192 : decode cX8_shift 192 = .ok (.aload_n 0, 1) := dk_42 (dk_at dksX8_shift_8 3 rfl rfl)
theorem dX8_shift_193 : decode cX8_shift 193 = .ok (.getfield 41, 3) := dk_180 0 41 (dk_at dksX8_shift_8 4 rfl rfl)
theorem dX8_shift_196 : decode cX8_shift 196 = .ok (.iconst 1, 1) := dk_4 (dk_at dksX8_shift_8 7 rfl rfl)
theorem dX8_shift_197 : decode cX8_shift 197 = .ok (.if_icmp .ne 7, 3) := dk_160 0 7 (dk_at dksX8_shift_8 8 rfl rfl)
theorem dX8_shift_200 : decode cX8_shift 200 = .ok (.iconst 1, 1) := dk_4 (dk_at dksX8_shift_8 11 rfl rfl)
theorem dX8_shift_201 : decode cX8_shift 201 = .ok (.goto 4, 3) := dk_167 0 4 (dk_at dksX8_shift_8 12 rfl rfl)
theorem dX8_shift_204 : decode cX8_shift 204 = .ok (.iconst 0, 1) := dk_3 (dk_at dksX8_shift_8 15 rfl rfl)
theorem dX8_shift_205 : decode cX8_shift 205 = .ok (.iadd, 1) := dk_96 (dk_at dksX8_shift_8 16 rfl rfl)
theorem dX8_shift_206 : decode cX8_shift 206 = .ok (.putfield 38, 3) := dk_181 0 38 (dk_at dksX8_shift_8 17 rfl rfl)
theorem dX8_shift_209 : decode cX8_shift 209 = .ok (.return_, 1) := dk_177 (dk_at dksX8_shift_8 20 rfl rfl)
abbrev cX8_two : ByteArray := prog_12_method_12_code
def yX8_two : MethodName := ⟨RX8, "two", "(LSchemaWorkshop$Bytes;I)V"⟩
def dkwX8_two_0 : List UInt8 := [42, 16, 48, 27, 16, 10, 108, 96, 182, 0, 71, 42, 16, 48, 27, 16, 10, 112, 96, 182, 0, 71, 177]
abbrev dktX8_two_0 : List UInt8 := dkwX8_two_0 ++ []
theorem dksX8_two_0 : cX8_two.data.toList.drop 0 = dktX8_two_0 := by decide +kernel
theorem dX8_two_0 : decode cX8_two 0 = .ok (.aload_n 0, 1) := dk_42 (dk_at dksX8_two_0 0 rfl rfl)
theorem dX8_two_1 : decode cX8_two 1 = .ok (.bipush 48, 2) := dk_16 48 (dk_at dksX8_two_0 1 rfl rfl)
theorem dX8_two_3 : decode cX8_two 3 = .ok (.iload_n 1, 1) := dk_27 (dk_at dksX8_two_0 3 rfl rfl)
theorem dX8_two_4 : decode cX8_two 4 = .ok (.bipush 10, 2) := dk_16 10 (dk_at dksX8_two_0 4 rfl rfl)
theorem dX8_two_6 : decode cX8_two 6 = .ok (.idiv, 1) := dk_108 (dk_at dksX8_two_0 6 rfl rfl)
theorem dX8_two_7 : decode cX8_two 7 = .ok (.iadd, 1) := dk_96 (dk_at dksX8_two_0 7 rfl rfl)
theorem dX8_two_8 : decode cX8_two 8 = .ok (.invokevirtual 71, 3) := dk_182 0 71 (dk_at dksX8_two_0 8 rfl rfl)
theorem dX8_two_11 : decode cX8_two 11 = .ok (.aload_n 0, 1) := dk_42 (dk_at dksX8_two_0 11 rfl rfl)
theorem dX8_two_12 : decode cX8_two 12 = .ok (.bipush 48, 2) := dk_16 48 (dk_at dksX8_two_0 12 rfl rfl)
theorem dX8_two_14 : decode cX8_two 14 = .ok (.iload_n 1, 1) := dk_27 (dk_at dksX8_two_0 14 rfl rfl)
theorem dX8_two_15 : decode cX8_two 15 = .ok (.bipush 10, 2) := dk_16 10 (dk_at dksX8_two_0 15 rfl rfl)
theorem dX8_two_17 : decode cX8_two 17 = .ok (.irem, 1) := dk_112 (dk_at dksX8_two_0 17 rfl rfl)
theorem dX8_two_18 : decode cX8_two 18 = .ok (.iadd, 1) := dk_96 (dk_at dksX8_two_0 18 rfl rfl)
theorem dX8_two_19 : decode cX8_two 19 = .ok (.invokevirtual 71, 3) := dk_182 0 71 (dk_at dksX8_two_0 19 rfl rfl)
theorem dX8_two_22 : decode cX8_two 22 = .ok (.return_, 1) := dk_177 (dk_at dksX8_two_0 22 rfl rfl)
theorem q305 : (Jvm.Cond.initialized "SchemaWorkshop$Times") ∈ lw_all := lw_g (lw_at lw_m1 8 rfl) rfl
theorem q536 : (Jvm.Cond.instantiable "SchemaWorkshop$Times" (10 : Nat)) ∈ lw_all := lw_g (lw_at lw_m1 239 rfl) rfl
theorem q538 : (Jvm.Cond.instanceMethod ({ cls := "SchemaWorkshop$Times", name := "<init>", desc := "()V" } : Jvm.MethodName)) ∈ lw_all := lw_g (lw_at lw_m2 1 rfl) rfl
theorem q539 : (Jvm.Cond.code ({ cls := "SchemaWorkshop$Times", name := "<init>", desc := "()V" } : Jvm.MethodName) prog_12_method_1_code (1 : Nat) (Option.none : Option Jvm.ClassFile.FieldType)) ∈ lw_all := lw_g (lw_at lw_m2 2 rfl) rfl
theorem q540 : (Jvm.Cond.methodLink "SchemaWorkshop$Times" (3 : Nat) ({ cls := "java/lang/Object", name := "<init>", desc := "()V" } : Jvm.MethodName)) ∈ lw_all := lw_g (lw_at lw_m2 3 rfl) rfl
theorem q541 : (Jvm.Cond.classLink "SchemaWorkshop$Times" (9 : Nat) "SchemaWorkshop$Bytes") ∈ lw_all := lw_g (lw_at lw_m2 4 rfl) rfl
theorem q542 : (Jvm.Cond.methodLinkNest "SchemaWorkshop$Times" (11 : Nat) ({ cls := "SchemaWorkshop$Bytes", name := "<init>", desc := "()V" } : Jvm.MethodName) "SchemaWorkshop") ∈ lw_tbl := lw_at lw_m2 5 rfl
theorem q543 : (Jvm.Cond.fieldLink "SchemaWorkshop$Times" (25 : Nat) "SchemaWorkshop$Times" "row" "LSchemaWorkshop$Bytes;") ∈ lw_all := lw_g (lw_at lw_m2 6 rfl) rfl
theorem q544 : (Jvm.Cond.fieldLink "SchemaWorkshop$Times" (18 : Nat) "SchemaWorkshop$Times" "at" "I") ∈ lw_all := lw_g (lw_at lw_m2 7 rfl) rfl
theorem q545 : (Jvm.Cond.fieldLink "SchemaWorkshop$Times" (22 : Nat) "SchemaWorkshop$Times" "end" "I") ∈ lw_all := lw_g (lw_at lw_m2 8 rfl) rfl
theorem q546 : (Jvm.Cond.fieldLink "SchemaWorkshop$Times" (38 : Nat) "SchemaWorkshop$Times" "year" "I") ∈ lw_all := lw_g (lw_at lw_m2 9 rfl) rfl
theorem q547 : (Jvm.Cond.fieldLink "SchemaWorkshop$Times" (41 : Nat) "SchemaWorkshop$Times" "month" "I") ∈ lw_all := lw_g (lw_at lw_m2 10 rfl) rfl
theorem q548 : (Jvm.Cond.fieldLink "SchemaWorkshop$Times" (44 : Nat) "SchemaWorkshop$Times" "day" "I") ∈ lw_all := lw_g (lw_at lw_m2 11 rfl) rfl
theorem q549 : (Jvm.Cond.fieldLink "SchemaWorkshop$Times" (51 : Nat) "SchemaWorkshop$Times" "hour" "I") ∈ lw_all := lw_g (lw_at lw_m2 12 rfl) rfl
theorem q550 : (Jvm.Cond.fieldLink "SchemaWorkshop$Times" (58 : Nat) "SchemaWorkshop$Times" "minute" "I") ∈ lw_all := lw_g (lw_at lw_m2 13 rfl) rfl
theorem q551 : (Jvm.Cond.fieldLink "SchemaWorkshop$Times" (61 : Nat) "SchemaWorkshop$Times" "second" "I") ∈ lw_all := lw_g (lw_at lw_m2 14 rfl) rfl
theorem q552 : (Jvm.Cond.fieldLink "SchemaWorkshop$Times" (12 : Nat) "SchemaWorkshop$Times" "part" "LSchemaWorkshop$Bytes;") ∈ lw_all := lw_g (lw_at lw_m2 15 rfl) rfl
theorem q553 : (Jvm.Cond.lays "SchemaWorkshop$Times" "SchemaWorkshop$Times" "row" "LSchemaWorkshop$Bytes;") ∈ lw_all := lw_g (lw_at lw_m2 16 rfl) rfl
theorem q554 : (Jvm.Cond.soleField "SchemaWorkshop$Times" "row") ∈ lw_all := lw_g (lw_at lw_m2 17 rfl) rfl
theorem q555 : (Jvm.Cond.lays "SchemaWorkshop$Times" "SchemaWorkshop$Times" "at" "I") ∈ lw_all := lw_g (lw_at lw_m2 18 rfl) rfl
theorem q556 : (Jvm.Cond.soleField "SchemaWorkshop$Times" "at") ∈ lw_all := lw_g (lw_at lw_m2 19 rfl) rfl
theorem q557 : (Jvm.Cond.lays "SchemaWorkshop$Times" "SchemaWorkshop$Times" "end" "I") ∈ lw_all := lw_g (lw_at lw_m2 20 rfl) rfl
theorem q558 : (Jvm.Cond.soleField "SchemaWorkshop$Times" "end") ∈ lw_all := lw_g (lw_at lw_m2 21 rfl) rfl
theorem q559 : (Jvm.Cond.lays "SchemaWorkshop$Times" "SchemaWorkshop$Times" "year" "I") ∈ lw_all := lw_g (lw_at lw_m2 22 rfl) rfl
theorem q560 : (Jvm.Cond.soleField "SchemaWorkshop$Times" "year") ∈ lw_all := lw_g (lw_at lw_m2 23 rfl) rfl
theorem q561 : (Jvm.Cond.lays "SchemaWorkshop$Times" "SchemaWorkshop$Times" "month" "I") ∈ lw_all := lw_g (lw_at lw_m2 24 rfl) rfl
theorem q562 : (Jvm.Cond.soleField "SchemaWorkshop$Times" "month") ∈ lw_all := lw_g (lw_at lw_m2 25 rfl) rfl
theorem q563 : (Jvm.Cond.lays "SchemaWorkshop$Times" "SchemaWorkshop$Times" "day" "I") ∈ lw_all := lw_g (lw_at lw_m2 26 rfl) rfl
theorem q564 : (Jvm.Cond.soleField "SchemaWorkshop$Times" "day") ∈ lw_all := lw_g (lw_at lw_m2 27 rfl) rfl
theorem q565 : (Jvm.Cond.lays "SchemaWorkshop$Times" "SchemaWorkshop$Times" "hour" "I") ∈ lw_all := lw_g (lw_at lw_m2 28 rfl) rfl
theorem q566 : (Jvm.Cond.soleField "SchemaWorkshop$Times" "hour") ∈ lw_all := lw_g (lw_at lw_m2 29 rfl) rfl
theorem q567 : (Jvm.Cond.lays "SchemaWorkshop$Times" "SchemaWorkshop$Times" "minute" "I") ∈ lw_all := lw_g (lw_at lw_m2 30 rfl) rfl
theorem q568 : (Jvm.Cond.soleField "SchemaWorkshop$Times" "minute") ∈ lw_all := lw_g (lw_at lw_m2 31 rfl) rfl
theorem q569 : (Jvm.Cond.lays "SchemaWorkshop$Times" "SchemaWorkshop$Times" "second" "I") ∈ lw_all := lw_g (lw_at lw_m2 32 rfl) rfl
theorem q570 : (Jvm.Cond.soleField "SchemaWorkshop$Times" "second") ∈ lw_all := lw_g (lw_at lw_m2 33 rfl) rfl
theorem q571 : (Jvm.Cond.laysFinal "SchemaWorkshop$Times" "SchemaWorkshop$Times" "part" "LSchemaWorkshop$Bytes;") ∈ lw_all := lw_g (lw_at lw_m2 34 rfl) rfl
theorem q572 : (Jvm.Cond.soleField "SchemaWorkshop$Times" "part") ∈ lw_all := lw_g (lw_at lw_m2 35 rfl) rfl
theorem q573 : (Jvm.Cond.superclass "SchemaWorkshop$Times" "java/lang/Object") ∈ lw_all := lw_g (lw_at lw_m2 36 rfl) rfl
theorem q1859 : (Jvm.Cond.instanceMethod ({ cls := "SchemaWorkshop$Times", name := "read", desc := "(LSchemaWorkshop$Bytes;IIZLSchemaWorkshop$Bytes;)I" } : Jvm.MethodName)) ∈ lw_all := lw_g (lw_at lw_m7 122 rfl) rfl
theorem q1860 : (Jvm.Cond.selects "SchemaWorkshop$Times" ({ cls := "SchemaWorkshop$Times", name := "read", desc := "(LSchemaWorkshop$Bytes;IIZLSchemaWorkshop$Bytes;)I" } : Jvm.MethodName) ({ cls := "SchemaWorkshop$Times", name := "read", desc := "(LSchemaWorkshop$Bytes;IIZLSchemaWorkshop$Bytes;)I" } : Jvm.MethodName)) ∈ lw_all := lw_g (lw_at lw_m7 123 rfl) rfl
theorem q1861 : (Jvm.Cond.code ({ cls := "SchemaWorkshop$Times", name := "read", desc := "(LSchemaWorkshop$Bytes;IIZLSchemaWorkshop$Bytes;)I" } : Jvm.MethodName) prog_12_method_13_code (8 : Nat) (Option.some Jvm.ClassFile.FieldType.int)) ∈ lw_all := lw_g (lw_at lw_m7 124 rfl) rfl
theorem q1862 : (Jvm.Cond.methodLink "SchemaWorkshop$Times" (91 : Nat) ({ cls := "SchemaWorkshop$Times", name := "date", desc := "(Z)Z" } : Jvm.MethodName)) ∈ lw_all := lw_g (lw_at lw_m7 125 rfl) rfl
theorem q1863 : (Jvm.Cond.privateMethod ({ cls := "SchemaWorkshop$Times", name := "date", desc := "(Z)Z" } : Jvm.MethodName)) ∈ lw_tbl := lw_at lw_m7 126 rfl
theorem q1864 : (Jvm.Cond.instanceMethod ({ cls := "SchemaWorkshop$Times", name := "date", desc := "(Z)Z" } : Jvm.MethodName)) ∈ lw_all := lw_g (lw_at lw_m7 127 rfl) rfl
theorem q1865 : (Jvm.Cond.code ({ cls := "SchemaWorkshop$Times", name := "date", desc := "(Z)Z" } : Jvm.MethodName) prog_12_method_7_code (2 : Nat) (Option.some Jvm.ClassFile.FieldType.boolean)) ∈ lw_all := lw_g (lw_at lw_m7 128 rfl) rfl
theorem q1866 : (Jvm.Cond.methodLink "SchemaWorkshop$Times" (35 : Nat) ({ cls := "SchemaWorkshop$Times", name := "digits", desc := "(I)I" } : Jvm.MethodName)) ∈ lw_all := lw_g (lw_at lw_m7 129 rfl) rfl
theorem q1867 : (Jvm.Cond.privateMethod ({ cls := "SchemaWorkshop$Times", name := "digits", desc := "(I)I" } : Jvm.MethodName)) ∈ lw_tbl := lw_at lw_m7 130 rfl
theorem q1868 : (Jvm.Cond.instanceMethod ({ cls := "SchemaWorkshop$Times", name := "digits", desc := "(I)I" } : Jvm.MethodName)) ∈ lw_all := lw_g (lw_at lw_m7 131 rfl) rfl
theorem q1869 : (Jvm.Cond.code ({ cls := "SchemaWorkshop$Times", name := "digits", desc := "(I)I" } : Jvm.MethodName) prog_12_method_2_code (5 : Nat) (Option.some Jvm.ClassFile.FieldType.int)) ∈ lw_all := lw_g (lw_at lw_m7 132 rfl) rfl
theorem q1870 : (Jvm.Cond.methodLink "SchemaWorkshop$Times" (28 : Nat) ({ cls := "SchemaWorkshop$Bytes", name := "at", desc := "(I)I" } : Jvm.MethodName)) ∈ lw_all := lw_g (lw_at lw_m7 133 rfl) rfl
theorem q1871 : (Jvm.Cond.methodLink "SchemaWorkshop$Times" (47 : Nat) ({ cls := "SchemaWorkshop$Times", name := "days", desc := "(II)I" } : Jvm.MethodName)) ∈ lw_all := lw_g (lw_at lw_m7 134 rfl) rfl
theorem q1872 : (Jvm.Cond.static ({ cls := "SchemaWorkshop$Times", name := "days", desc := "(II)I" } : Jvm.MethodName)) ∈ lw_all := lw_g (lw_at lw_m7 135 rfl) rfl
theorem q1873 : (Jvm.Cond.code ({ cls := "SchemaWorkshop$Times", name := "days", desc := "(II)I" } : Jvm.MethodName) prog_12_method_5_code (2 : Nat) (Option.some Jvm.ClassFile.FieldType.int)) ∈ lw_all := lw_g (lw_at lw_m7 136 rfl) rfl
theorem q1874 : (Jvm.Cond.methodLink "SchemaWorkshop$Times" (54 : Nat) ({ cls := "SchemaWorkshop$Times", name := "within", desc := "(II)Z" } : Jvm.MethodName)) ∈ lw_all := lw_g (lw_at lw_m7 137 rfl) rfl
theorem q1875 : (Jvm.Cond.static ({ cls := "SchemaWorkshop$Times", name := "within", desc := "(II)Z" } : Jvm.MethodName)) ∈ lw_all := lw_g (lw_at lw_m7 138 rfl) rfl
theorem q1876 : (Jvm.Cond.code ({ cls := "SchemaWorkshop$Times", name := "within", desc := "(II)Z" } : Jvm.MethodName) prog_12_method_6_code (2 : Nat) (Option.some Jvm.ClassFile.FieldType.boolean)) ∈ lw_all := lw_g (lw_at lw_m7 139 rfl) rfl
theorem q1877 : (Jvm.Cond.methodLink "SchemaWorkshop$Times" (95 : Nat) ({ cls := "SchemaWorkshop$Times", name := "clock", desc := "(Z)Z" } : Jvm.MethodName)) ∈ lw_all := lw_g (lw_at lw_m7 140 rfl) rfl
theorem q1878 : (Jvm.Cond.privateMethod ({ cls := "SchemaWorkshop$Times", name := "clock", desc := "(Z)Z" } : Jvm.MethodName)) ∈ lw_tbl := lw_at lw_m7 141 rfl
theorem q1879 : (Jvm.Cond.instanceMethod ({ cls := "SchemaWorkshop$Times", name := "clock", desc := "(Z)Z" } : Jvm.MethodName)) ∈ lw_all := lw_g (lw_at lw_m7 142 rfl) rfl
theorem q1880 : (Jvm.Cond.code ({ cls := "SchemaWorkshop$Times", name := "clock", desc := "(Z)Z" } : Jvm.MethodName) prog_12_method_8_code (3 : Nat) (Option.some Jvm.ClassFile.FieldType.boolean)) ∈ lw_all := lw_g (lw_at lw_m7 143 rfl) rfl
theorem q1881 : (Jvm.Cond.methodLink "SchemaWorkshop$Times" (64 : Nat) ({ cls := "SchemaWorkshop$Bytes", name := "clear", desc := "()V" } : Jvm.MethodName)) ∈ lw_all := lw_g (lw_at lw_m7 144 rfl) rfl
theorem q1882 : (Jvm.Cond.methodLink "SchemaWorkshop$Times" (67 : Nat) ({ cls := "SchemaWorkshop$Times", name := "isDigit", desc := "()Z" } : Jvm.MethodName)) ∈ lw_all := lw_g (lw_at lw_m7 145 rfl) rfl
theorem q1883 : (Jvm.Cond.privateMethod ({ cls := "SchemaWorkshop$Times", name := "isDigit", desc := "()Z" } : Jvm.MethodName)) ∈ lw_tbl := lw_at lw_m7 146 rfl
theorem q1884 : (Jvm.Cond.instanceMethod ({ cls := "SchemaWorkshop$Times", name := "isDigit", desc := "()Z" } : Jvm.MethodName)) ∈ lw_all := lw_g (lw_at lw_m7 147 rfl) rfl
theorem q1885 : (Jvm.Cond.code ({ cls := "SchemaWorkshop$Times", name := "isDigit", desc := "()Z" } : Jvm.MethodName) prog_12_method_4_code (1 : Nat) (Option.some Jvm.ClassFile.FieldType.boolean)) ∈ lw_all := lw_g (lw_at lw_m7 148 rfl) rfl
theorem q1886 : (Jvm.Cond.methodLink "SchemaWorkshop$Times" (31 : Nat) ({ cls := "SchemaWorkshop$Times", name := "here", desc := "()I" } : Jvm.MethodName)) ∈ lw_all := lw_g (lw_at lw_m7 149 rfl) rfl
theorem q1887 : (Jvm.Cond.privateMethod ({ cls := "SchemaWorkshop$Times", name := "here", desc := "()I" } : Jvm.MethodName)) ∈ lw_tbl := lw_at lw_m7 150 rfl
theorem q1888 : (Jvm.Cond.instanceMethod ({ cls := "SchemaWorkshop$Times", name := "here", desc := "()I" } : Jvm.MethodName)) ∈ lw_all := lw_g (lw_at lw_m7 151 rfl) rfl
theorem q1889 : (Jvm.Cond.code ({ cls := "SchemaWorkshop$Times", name := "here", desc := "()I" } : Jvm.MethodName) prog_12_method_3_code (1 : Nat) (Option.some Jvm.ClassFile.FieldType.int)) ∈ lw_all := lw_g (lw_at lw_m7 152 rfl) rfl
theorem q1890 : (Jvm.Cond.methodLink "SchemaWorkshop$Times" (71 : Nat) ({ cls := "SchemaWorkshop$Bytes", name := "add", desc := "(I)V" } : Jvm.MethodName)) ∈ lw_all := lw_g (lw_at lw_m7 153 rfl) rfl
theorem q1891 : (Jvm.Cond.methodLink "SchemaWorkshop$Times" (75 : Nat) ({ cls := "SchemaWorkshop$Times", name := "spread", desc := "(I)V" } : Jvm.MethodName)) ∈ lw_all := lw_g (lw_at lw_m7 154 rfl) rfl
theorem q1892 : (Jvm.Cond.privateMethod ({ cls := "SchemaWorkshop$Times", name := "spread", desc := "(I)V" } : Jvm.MethodName)) ∈ lw_tbl := lw_at lw_m7 155 rfl
theorem q1893 : (Jvm.Cond.instanceMethod ({ cls := "SchemaWorkshop$Times", name := "spread", desc := "(I)V" } : Jvm.MethodName)) ∈ lw_all := lw_g (lw_at lw_m7 156 rfl) rfl
theorem q1894 : (Jvm.Cond.code ({ cls := "SchemaWorkshop$Times", name := "spread", desc := "(I)V" } : Jvm.MethodName) prog_12_method_9_code (5 : Nat) (Option.none : Option Jvm.ClassFile.FieldType)) ∈ lw_all := lw_g (lw_at lw_m7 157 rfl) rfl
theorem q1895 : (Jvm.Cond.methodLink "SchemaWorkshop$Times" (78 : Nat) ({ cls := "SchemaWorkshop$Bytes", name := "size", desc := "()I" } : Jvm.MethodName)) ∈ lw_all := lw_g (lw_at lw_m7 158 rfl) rfl
theorem q1896 : (Jvm.Cond.methodLink "SchemaWorkshop$Times" (81 : Nat) ({ cls := "SchemaWorkshop$Bytes", name := "set", desc := "(II)V" } : Jvm.MethodName)) ∈ lw_all := lw_g (lw_at lw_m7 159 rfl) rfl
theorem q1897 : (Jvm.Cond.methodLink "SchemaWorkshop$Times" (85 : Nat) ({ cls := "SchemaWorkshop$Bytes", name := "cut", desc := "(I)V" } : Jvm.MethodName)) ∈ lw_all := lw_g (lw_at lw_m7 160 rfl) rfl
theorem q1898 : (Jvm.Cond.methodLink "SchemaWorkshop$Times" (98 : Nat) ({ cls := "SchemaWorkshop$Times", name := "zone", desc := "(Z)I" } : Jvm.MethodName)) ∈ lw_all := lw_g (lw_at lw_m7 161 rfl) rfl
theorem q1899 : (Jvm.Cond.privateMethod ({ cls := "SchemaWorkshop$Times", name := "zone", desc := "(Z)I" } : Jvm.MethodName)) ∈ lw_tbl := lw_at lw_m7 162 rfl
theorem q1900 : (Jvm.Cond.instanceMethod ({ cls := "SchemaWorkshop$Times", name := "zone", desc := "(Z)I" } : Jvm.MethodName)) ∈ lw_all := lw_g (lw_at lw_m7 163 rfl) rfl
theorem q1901 : (Jvm.Cond.code ({ cls := "SchemaWorkshop$Times", name := "zone", desc := "(Z)I" } : Jvm.MethodName) prog_12_method_10_code (6 : Nat) (Option.some Jvm.ClassFile.FieldType.int)) ∈ lw_all := lw_g (lw_at lw_m7 164 rfl) rfl
theorem q1902 : (Jvm.Cond.methodLink "SchemaWorkshop$Times" (88 : Nat) ({ cls := "SchemaWorkshop$Times", name := "shift", desc := "(I)V" } : Jvm.MethodName)) ∈ lw_all := lw_g (lw_at lw_m7 165 rfl) rfl
theorem q1903 : (Jvm.Cond.privateMethod ({ cls := "SchemaWorkshop$Times", name := "shift", desc := "(I)V" } : Jvm.MethodName)) ∈ lw_tbl := lw_at lw_m7 166 rfl
theorem q1904 : (Jvm.Cond.instanceMethod ({ cls := "SchemaWorkshop$Times", name := "shift", desc := "(I)V" } : Jvm.MethodName)) ∈ lw_all := lw_g (lw_at lw_m7 167 rfl) rfl
theorem q1905 : (Jvm.Cond.code ({ cls := "SchemaWorkshop$Times", name := "shift", desc := "(I)V" } : Jvm.MethodName) prog_12_method_11_code (4 : Nat) (Option.none : Option Jvm.ClassFile.FieldType)) ∈ lw_all := lw_g (lw_at lw_m7 168 rfl) rfl
theorem q1906 : (Jvm.Cond.methodLink "SchemaWorkshop$Times" (102 : Nat) ({ cls := "SchemaWorkshop$Times", name := "two", desc := "(LSchemaWorkshop$Bytes;I)V" } : Jvm.MethodName)) ∈ lw_all := lw_g (lw_at lw_m7 169 rfl) rfl
theorem q1907 : (Jvm.Cond.static ({ cls := "SchemaWorkshop$Times", name := "two", desc := "(LSchemaWorkshop$Bytes;I)V" } : Jvm.MethodName)) ∈ lw_all := lw_g (lw_at lw_m7 170 rfl) rfl
theorem q1908 : (Jvm.Cond.code ({ cls := "SchemaWorkshop$Times", name := "two", desc := "(LSchemaWorkshop$Bytes;I)V" } : Jvm.MethodName) prog_12_method_12_code (2 : Nat) (Option.none : Option Jvm.ClassFile.FieldType)) ∈ lw_all := lw_g (lw_at lw_m7 171 rfl) rfl
theorem in_X8 : ∀ w ∈ wsX80, w ∈ lw_all := lw_in wsX80 [553, 555, 557, 559, 561, 563, 565, 567, 569, 571] (by decide +kernel) (by decide +kernel)

/-! SchemaWorkshop$Forms -/
set_option maxRecDepth 100000
def RX11 : String := "SchemaWorkshop$Forms"
def TX11 : u_T := fun k => match k with
  | 0 => ("SchemaWorkshop$Forms", "numbers", "LSchemaWorkshop$Numbers;", true)
  | 1 => ("SchemaWorkshop$Forms", "characters", "I", false)
  | 2 => ("SchemaWorkshop$Forms", "parts", "I", false)
  | _ => ("SchemaWorkshop$Forms", "first", "I", false)
def tyX11 : Nat → FieldType := fun k => match k with
  | 0 => .object "SchemaWorkshop$Numbers"
  | 1 => .int
  | 2 => .int
  | _ => .int
abbrev wsX110 : List Cond := u_ws RX11 TX11 4
theorem nmX11 : ∀ a, a < 4 → ∀ b, b < 4 → a ≠ b → (TX11 a).2.1 ≠ (TX11 b).2.1 := by decide +kernel
theorem tyX11_ok : ∀ k, k < 4 → parseFieldDescriptor (TX11 k).2.2.1 = some (tyX11 k) := by decide +kernel
abbrev cX11_init : ByteArray := prog_4_method_1_code
def yX11_init : MethodName := ⟨RX11, "<init>", "(LSchemaWorkshop$Numbers;)V"⟩
def dkwX11_init_0 : List UInt8 := [42, 183, 0, 1, 42, 43, 181, 0, 7, 177]
abbrev dktX11_init_0 : List UInt8 := dkwX11_init_0 ++ []
theorem dksX11_init_0 : cX11_init.data.toList.drop 0 = dktX11_init_0 := by decide +kernel
theorem dX11_init_0 : decode cX11_init 0 = .ok (.aload_n 0, 1) := dk_42 (dk_at dksX11_init_0 0 rfl rfl)
theorem dX11_init_1 : decode cX11_init 1 = .ok (.invokespecial 1, 3) := dk_183 0 1 (dk_at dksX11_init_0 1 rfl rfl)
theorem dX11_init_4 : decode cX11_init 4 = .ok (.aload_n 0, 1) := dk_42 (dk_at dksX11_init_0 4 rfl rfl)
theorem dX11_init_5 : decode cX11_init 5 = .ok (.aload_n 1, 1) := dk_43 (dk_at dksX11_init_0 5 rfl rfl)
theorem dX11_init_6 : decode cX11_init 6 = .ok (.putfield 7, 3) := dk_181 0 7 (dk_at dksX11_init_0 6 rfl rfl)
theorem dX11_init_9 : decode cX11_init 9 = .ok (.return_, 1) := dk_177 (dk_at dksX11_init_0 9 rfl rfl)
abbrev cX11_bits : ByteArray := prog_4_method_10_code
def yX11_bits : MethodName := ⟨RX11, "bits", "(LSchemaWorkshop$Bytes;II)I"⟩
def dkwX11_bits_0 : List UInt8 := [16, 8, 28, 27, 100, 4, 100, 104, 42, 27, 182, 0, 17, 100, 172]
abbrev dktX11_bits_0 : List UInt8 := dkwX11_bits_0 ++ []
theorem dksX11_bits_0 : cX11_bits.data.toList.drop 0 = dktX11_bits_0 := by decide +kernel
theorem dX11_bits_0 : decode cX11_bits 0 = .ok (.bipush 8, 2) := dk_16 8 (dk_at dksX11_bits_0 0 rfl rfl)
theorem dX11_bits_2 : decode cX11_bits 2 = .ok (.iload_n 2, 1) := dk_28 (dk_at dksX11_bits_0 2 rfl rfl)
theorem dX11_bits_3 : decode cX11_bits 3 = .ok (.iload_n 1, 1) := dk_27 (dk_at dksX11_bits_0 3 rfl rfl)
theorem dX11_bits_4 : decode cX11_bits 4 = .ok (.isub, 1) := dk_100 (dk_at dksX11_bits_0 4 rfl rfl)
theorem dX11_bits_5 : decode cX11_bits 5 = .ok (.iconst 1, 1) := dk_4 (dk_at dksX11_bits_0 5 rfl rfl)
theorem dX11_bits_6 : decode cX11_bits 6 = .ok (.isub, 1) := dk_100 (dk_at dksX11_bits_0 6 rfl rfl)
theorem dX11_bits_7 : decode cX11_bits 7 = .ok (.imul, 1) := dk_104 (dk_at dksX11_bits_0 7 rfl rfl)
theorem dX11_bits_8 : decode cX11_bits 8 = .ok (.aload_n 0, 1) := dk_42 (dk_at dksX11_bits_0 8 rfl rfl)
theorem dX11_bits_9 : decode cX11_bits 9 = .ok (.iload_n 1, 1) := dk_27 (dk_at dksX11_bits_0 9 rfl rfl)
theorem dX11_bits_10 : decode cX11_bits 10 = .ok (.invokevirtual 17, 3) := dk_182 0 17 (dk_at dksX11_bits_0 10 rfl rfl)
theorem dX11_bits_13 : decode cX11_bits 13 = .ok (.isub, 1) := dk_100 (dk_at dksX11_bits_0 13 rfl rfl)
theorem dX11_bits_14 : decode cX11_bits 14 = .ok (.ireturn, 1) := dk_172 (dk_at dksX11_bits_0 14 rfl rfl)
abbrev cX11_needed : ByteArray := prog_4_method_12_code
def yX11_needed : MethodName := ⟨RX11, "needed", "(LSchemaWorkshop$Bytes;II)I"⟩
def dkwX11_needed_1 : List UInt8 := [132, 3, 255, 167, 255, 238, 29, 172]
abbrev dktX11_needed_1 : List UInt8 := dkwX11_needed_1 ++ []
def dkwX11_needed_0 : List UInt8 := [42, 27, 28, 184, 0, 52, 62, 29, 158, 0, 20, 42, 27, 29, 4, 100, 184, 0, 55, 154, 0, 9]
abbrev dktX11_needed_0 : List UInt8 := dkwX11_needed_0 ++ dktX11_needed_1
theorem dksX11_needed_0 : cX11_needed.data.toList.drop 0 = dktX11_needed_0 := by decide +kernel
theorem dksX11_needed_1 : cX11_needed.data.toList.drop 22 = dktX11_needed_1 := dk_seg dksX11_needed_0 22 rfl rfl
theorem dX11_needed_0 : decode cX11_needed 0 = .ok (.aload_n 0, 1) := dk_42 (dk_at dksX11_needed_0 0 rfl rfl)
theorem dX11_needed_1 : decode cX11_needed 1 = .ok (.iload_n 1, 1) := dk_27 (dk_at dksX11_needed_0 1 rfl rfl)
theorem dX11_needed_2 : decode cX11_needed 2 = .ok (.iload_n 2, 1) := dk_28 (dk_at dksX11_needed_0 2 rfl rfl)
theorem dX11_needed_3 : decode cX11_needed 3 = .ok (.invokestatic 52, 3) := dk_184 0 52 (dk_at dksX11_needed_0 3 rfl rfl)
theorem dX11_needed_6 : decode cX11_needed 6 = .ok (.istore_n 3, 1) := dk_62 (dk_at dksX11_needed_0 6 rfl rfl)
theorem dX11_needed_7 : decode cX11_needed 7 = .ok (.iload_n 3, 1) := dk_29 (dk_at dksX11_needed_0 7 rfl rfl)
theorem dX11_needed_8 : decode cX11_needed 8 = .ok (.ifCond .le 20, 3) := dk_158 0 20 (dk_at dksX11_needed_0 8 rfl rfl)
theorem dX11_needed_11 : decode cX11_needed 11 = .ok (.aload_n 0, 1) := dk_42 (dk_at dksX11_needed_0 11 rfl rfl)
theorem dX11_needed_12 : decode cX11_needed 12 = .ok (.iload_n 1, 1) := dk_27 (dk_at dksX11_needed_0 12 rfl rfl)
theorem dX11_needed_13 : decode cX11_needed 13 = .ok (.iload_n 3, 1) := dk_29 (dk_at dksX11_needed_0 13 rfl rfl)
theorem dX11_needed_14 : decode cX11_needed 14 = .ok (.iconst 1, 1) := dk_4 (dk_at dksX11_needed_0 14 rfl rfl)
theorem dX11_needed_15 : decode cX11_needed 15 = .ok (.isub, 1) := dk_100 (dk_at dksX11_needed_0 15 rfl rfl)
theorem dX11_needed_16 : decode cX11_needed 16 = .ok (.invokestatic 55, 3) := dk_184 0 55 (dk_at dksX11_needed_0 16 rfl rfl)
theorem dX11_needed_19 : decode cX11_needed 19 = .ok (.ifCond .ne 9, 3) := dk_154 0 9 (dk_at dksX11_needed_0 19 rfl rfl)
theorem dX11_needed_22 : decode cX11_needed 22 = .ok (.iinc 3 (-1), 3) := dk_132 3 255 (dk_at dksX11_needed_1 0 rfl rfl)
theorem dX11_needed_25 : decode cX11_needed 25 = .ok (.goto (-18), 3) := dk_167 255 238 (dk_at dksX11_needed_1 3 rfl rfl)
theorem dX11_needed_28 : decode cX11_needed 28 = .ok (.iload_n 3, 1) := dk_29 (dk_at dksX11_needed_1 6 rfl rfl)
theorem dX11_needed_29 : decode cX11_needed 29 = .ok (.ireturn, 1) := dk_172 (dk_at dksX11_needed_1 7 rfl rfl)
abbrev cX11_bit : ByteArray := prog_4_method_11_code
def yX11_bit : MethodName := ⟨RX11, "bit", "(LSchemaWorkshop$Bytes;II)Z"⟩
def dkwX11_bit_1 : List UInt8 := [160, 0, 7, 4, 167, 0, 4, 3, 172]
abbrev dktX11_bit_1 : List UInt8 := dkwX11_bit_1 ++ []
def dkwX11_bit_0 : List UInt8 := [42, 27, 4, 96, 28, 16, 8, 108, 96, 182, 0, 17, 16, 7, 28, 16, 8, 112, 100, 122, 4, 126, 4]
abbrev dktX11_bit_0 : List UInt8 := dkwX11_bit_0 ++ dktX11_bit_1
theorem dksX11_bit_0 : cX11_bit.data.toList.drop 0 = dktX11_bit_0 := by decide +kernel
theorem dksX11_bit_1 : cX11_bit.data.toList.drop 23 = dktX11_bit_1 := dk_seg dksX11_bit_0 23 rfl rfl
theorem dX11_bit_0 : decode cX11_bit 0 = .ok (.aload_n 0, 1) := dk_42 (dk_at dksX11_bit_0 0 rfl rfl)
theorem dX11_bit_1 : decode cX11_bit 1 = .ok (.iload_n 1, 1) := dk_27 (dk_at dksX11_bit_0 1 rfl rfl)
theorem dX11_bit_2 : decode cX11_bit 2 = .ok (.iconst 1, 1) := dk_4 (dk_at dksX11_bit_0 2 rfl rfl)
theorem dX11_bit_3 : decode cX11_bit 3 = .ok (.iadd, 1) := dk_96 (dk_at dksX11_bit_0 3 rfl rfl)
theorem dX11_bit_4 : decode cX11_bit 4 = .ok (.iload_n 2, 1) := dk_28 (dk_at dksX11_bit_0 4 rfl rfl)
theorem dX11_bit_5 : decode cX11_bit 5 = .ok (.bipush 8, 2) := dk_16 8 (dk_at dksX11_bit_0 5 rfl rfl)
theorem dX11_bit_7 : decode cX11_bit 7 = .ok (.idiv, 1) := dk_108 (dk_at dksX11_bit_0 7 rfl rfl)
theorem dX11_bit_8 : decode cX11_bit 8 = .ok (.iadd, 1) := dk_96 (dk_at dksX11_bit_0 8 rfl rfl)
theorem dX11_bit_9 : decode cX11_bit 9 = .ok (.invokevirtual 17, 3) := dk_182 0 17 (dk_at dksX11_bit_0 9 rfl rfl)
theorem dX11_bit_12 : decode cX11_bit 12 = .ok (.bipush 7, 2) := dk_16 7 (dk_at dksX11_bit_0 12 rfl rfl)
theorem dX11_bit_14 : decode cX11_bit 14 = .ok (.iload_n 2, 1) := dk_28 (dk_at dksX11_bit_0 14 rfl rfl)
theorem dX11_bit_15 : decode cX11_bit 15 = .ok (.bipush 8, 2) := dk_16 8 (dk_at dksX11_bit_0 15 rfl rfl)
theorem dX11_bit_17 : decode cX11_bit 17 = .ok (.irem, 1) := dk_112 (dk_at dksX11_bit_0 17 rfl rfl)
theorem dX11_bit_18 : decode cX11_bit 18 = .ok (.isub, 1) := dk_100 (dk_at dksX11_bit_0 18 rfl rfl)
theorem dX11_bit_19 : decode cX11_bit 19 = .ok (.ishr, 1) := dk_122 (dk_at dksX11_bit_0 19 rfl rfl)
theorem dX11_bit_20 : decode cX11_bit 20 = .ok (.iconst 1, 1) := dk_4 (dk_at dksX11_bit_0 20 rfl rfl)
theorem dX11_bit_21 : decode cX11_bit 21 = .ok (.iand, 1) := dk_126 (dk_at dksX11_bit_0 21 rfl rfl)
theorem dX11_bit_22 : decode cX11_bit 22 = .ok (.iconst 1, 1) := dk_4 (dk_at dksX11_bit_0 22 rfl rfl)
theorem dX11_bit_23 : decode cX11_bit 23 = .ok (.if_icmp .ne 7, 3) := dk_160 0 7 (dk_at dksX11_bit_1 0 rfl rfl)
theorem dX11_bit_26 : decode cX11_bit 26 = .ok (.iconst 1, 1) := dk_4 (dk_at dksX11_bit_1 3 rfl rfl)
theorem dX11_bit_27 : decode cX11_bit 27 = .ok (.goto 4, 3) := dk_167 0 4 (dk_at dksX11_bit_1 4 rfl rfl)
theorem dX11_bit_30 : decode cX11_bit 30 = .ok (.iconst 0, 1) := dk_3 (dk_at dksX11_bit_1 7 rfl rfl)
theorem dX11_bit_31 : decode cX11_bit 31 = .ok (.ireturn, 1) := dk_172 (dk_at dksX11_bit_1 8 rfl rfl)
abbrev cX11_write : ByteArray := prog_4_method_13_code
def yX11_write : MethodName := ⟨RX11, "write", "(LSchemaWorkshop$Bytes;IIILSchemaWorkshop$Bytes;)V"⟩
def dkwX11_write_4 : List UInt8 := [25, 4, 21, 7, 182, 0, 58, 132, 6, 8, 167, 255, 177, 177]
abbrev dktX11_write_4 : List UInt8 := dkwX11_write_4 ++ []
def dkwX11_write_3 : List UInt8 := [21, 8, 96, 184, 0, 55, 153, 0, 7, 4, 167, 0, 4, 3, 128, 54, 7, 132, 8, 1, 167, 255, 202]
abbrev dktX11_write_3 : List UInt8 := dkwX11_write_3 ++ dktX11_write_4
def dkwX11_write_2 : List UInt8 := [120, 21, 6, 21, 8, 96, 29, 162, 0, 30, 21, 6, 21, 8, 96, 21, 5, 162, 0, 20, 42, 27, 21, 6]
abbrev dktX11_write_2 : List UInt8 := dkwX11_write_2 ++ dktX11_write_3
def dkwX11_write_1 : List UInt8 := [54, 6, 21, 6, 29, 162, 0, 79, 3, 54, 7, 3, 54, 8, 21, 8, 16, 8, 162, 0, 53, 21, 7, 4]
abbrev dktX11_write_1 : List UInt8 := dkwX11_write_1 ++ dktX11_write_2
def dkwX11_write_0 : List UInt8 := [42, 27, 28, 184, 0, 52, 54, 5, 25, 4, 16, 8, 29, 16, 8, 112, 100, 16, 8, 112, 182, 0, 58, 3]
abbrev dktX11_write_0 : List UInt8 := dkwX11_write_0 ++ dktX11_write_1
theorem dksX11_write_0 : cX11_write.data.toList.drop 0 = dktX11_write_0 := by decide +kernel
theorem dksX11_write_1 : cX11_write.data.toList.drop 24 = dktX11_write_1 := dk_seg dksX11_write_0 24 rfl rfl
theorem dksX11_write_2 : cX11_write.data.toList.drop 48 = dktX11_write_2 := dk_seg dksX11_write_1 24 rfl rfl
theorem dksX11_write_3 : cX11_write.data.toList.drop 72 = dktX11_write_3 := dk_seg dksX11_write_2 24 rfl rfl
theorem dksX11_write_4 : cX11_write.data.toList.drop 95 = dktX11_write_4 := dk_seg dksX11_write_3 23 rfl rfl
theorem dX11_write_0 : decode cX11_write 0 = .ok (.aload_n 0, 1) := dk_42 (dk_at dksX11_write_0 0 rfl rfl)
theorem dX11_write_1 : decode cX11_write 1 = .ok (.iload_n 1, 1) := dk_27 (dk_at dksX11_write_0 1 rfl rfl)
theorem dX11_write_2 : decode cX11_write 2 = .ok (.iload_n 2, 1) := dk_28 (dk_at dksX11_write_0 2 rfl rfl)
theorem dX11_write_3 : decode cX11_write 3 = .ok (.invokestatic 52, 3) := dk_184 0 52 (dk_at dksX11_write_0 3 rfl rfl)
theorem dX11_write_6 : decode cX11_write 6 = .ok (.istore 5, 2) := dk_54 5 (dk_at dksX11_write_0 6 rfl rfl)
theorem dX11_write_8 : decode cX11_write 8 = .ok (.aload 4, 2) := dk_25 4 (dk_at dksX11_write_0 8 rfl rfl)
theorem dX11_write_10 : decode cX11_write 10 = .ok (.bipush 8, 2) := dk_16 8 (dk_at dksX11_write_0 10 rfl rfl)
theorem dX11_write_12 : decode cX11_write 12 = .ok (.iload_n 3, 1) := dk_29 (dk_at dksX11_write_0 12 rfl rfl)
theorem dX11_write_13 : decode cX11_write 13 = .ok (.bipush 8, 2) := dk_16 8 (dk_at dksX11_write_0 13 rfl rfl)
theorem dX11_write_15 : decode cX11_write 15 = .ok (.irem, 1) := dk_112 (dk_at dksX11_write_0 15 rfl rfl)
theorem dX11_write_16 : decode cX11_write 16 = .ok (.isub, 1) := dk_100 (dk_at dksX11_write_0 16 rfl rfl)
theorem dX11_write_17 : decode cX11_write 17 = .ok (.bipush 8, 2) := dk_16 8 (dk_at dksX11_write_0 17 rfl rfl)
theorem dX11_write_19 : decode cX11_write 19 = .ok (.irem, 1) := dk_112 (dk_at dksX11_write_0 19 rfl rfl)
theorem dX11_write_20 : decode cX11_write 20 = .ok (.invokevirtual 58, 3) := dk_182 0 58 (dk_at dksX11_write_0 20 rfl rfl)
theorem dX11_write_23 : decode cX11_write 23 = .ok (.iconst 0, 1) := dk_3 (dk_at dksX11_write_0 23 rfl rfl)
theorem dX11_write_24 : decode cX11_write 24 = .ok (.istore 6, 2) := dk_54 6 (dk_at dksX11_write_1 0 rfl rfl)
theorem dX11_write_26 : decode cX11_write 26 = .ok (.iload 6, 2) := dk_21 6 (dk_at dksX11_write_1 2 rfl rfl)
theorem dX11_write_28 : decode cX11_write 28 = .ok (.iload_n 3, 1) := dk_29 (dk_at dksX11_write_1 4 rfl rfl)
theorem dX11_write_29 : decode cX11_write 29 = .ok (.if_icmp .ge 79, 3) := dk_162 0 79 (dk_at dksX11_write_1 5 rfl rfl)
theorem dX11_write_32 : decode cX11_write 32 = .ok (.iconst 0, 1) := dk_3 (dk_at dksX11_write_1 8 rfl rfl)
theorem dX11_write_33 : decode cX11_write 33 = .ok (.istore 7, 2) := dk_54 7 (dk_at dksX11_write_1 9 rfl rfl)
theorem dX11_write_35 : decode cX11_write 35 = .ok (.iconst 0, 1) := dk_3 (dk_at dksX11_write_1 11 rfl rfl)
theorem dX11_write_36 : decode cX11_write 36 = .ok (.istore 8, 2) := dk_54 8 (dk_at dksX11_write_1 12 rfl rfl)
theorem dX11_write_38 : decode cX11_write 38 = .ok (.iload 8, 2) := dk_21 8 (dk_at dksX11_write_1 14 rfl rfl)
theorem dX11_write_40 : decode cX11_write 40 = .ok (.bipush 8, 2) := dk_16 8 (dk_at dksX11_write_1 16 rfl rfl)
theorem dX11_write_42 : decode cX11_write 42 = .ok (.if_icmp .ge 53, 3) := dk_162 0 53 (dk_at dksX11_write_1 18 rfl rfl)
theorem dX11_write_45 : decode cX11_write 45 = .ok (.iload 7, 2) := dk_21 7 (dk_at dksX11_write_1 21 rfl rfl)
theorem dX11_write_47 : decode cX11_write 47 = .ok (.iconst 1, 1) := dk_4 (dk_at dksX11_write_1 23 rfl rfl)
theorem dX11_write_48 : decode cX11_write 48 = .ok (.ishl, 1) := dk_120 (dk_at dksX11_write_2 0 rfl rfl)
theorem dX11_write_49 : decode cX11_write 49 = .ok (.iload 6, 2) := dk_21 6 (dk_at dksX11_write_2 1 rfl rfl)
theorem dX11_write_51 : decode cX11_write 51 = .ok (.iload 8, 2) := dk_21 8 (dk_at dksX11_write_2 3 rfl rfl)
theorem dX11_write_53 : decode cX11_write 53 = .ok (.iadd, 1) := dk_96 (dk_at dksX11_write_2 5 rfl rfl)
theorem dX11_write_54 : decode cX11_write 54 = .ok (.iload_n 3, 1) := dk_29 (dk_at dksX11_write_2 6 rfl rfl)
theorem dX11_write_55 : decode cX11_write 55 = .ok (.if_icmp .ge 30, 3) := dk_162 0 30 (dk_at dksX11_write_2 7 rfl rfl)
theorem dX11_write_58 : decode cX11_write 58 = .ok (.iload 6, 2) := dk_21 6 (dk_at dksX11_write_2 10 rfl rfl)
theorem dX11_write_60 : decode cX11_write 60 = .ok (.iload 8, 2) := dk_21 8 (dk_at dksX11_write_2 12 rfl rfl)
theorem dX11_write_62 : decode cX11_write 62 = .ok (.iadd, 1) := dk_96 (dk_at dksX11_write_2 14 rfl rfl)
theorem dX11_write_63 : decode cX11_write 63 = .ok (.iload 5, 2) := dk_21 5 (dk_at dksX11_write_2 15 rfl rfl)
theorem dX11_write_65 : decode cX11_write 65 = .ok (.if_icmp .ge 20, 3) := dk_162 0 20 (dk_at dksX11_write_2 17 rfl rfl)
theorem dX11_write_68 : decode cX11_write 68 = .ok (.aload_n 0, 1) := dk_42 (dk_at dksX11_write_2 20 rfl rfl)
theorem dX11_write_69 : decode cX11_write 69 = .ok (.iload_n 1, 1) := dk_27 (dk_at dksX11_write_2 21 rfl rfl)
theorem dX11_write_70 : decode cX11_write 70 = .ok (.iload 6, 2) := dk_21 6 (dk_at dksX11_write_2 22 rfl rfl)
theorem dX11_write_72 : decode cX11_write 72 = .ok (.iload 8, 2) := dk_21 8 (dk_at dksX11_write_3 0 rfl rfl)
theorem dX11_write_74 : decode cX11_write 74 = .ok (.iadd, 1) := dk_96 (dk_at dksX11_write_3 2 rfl rfl)
theorem dX11_write_75 : decode cX11_write 75 = .ok (.invokestatic 55, 3) := dk_184 0 55 (dk_at dksX11_write_3 3 rfl rfl)
theorem dX11_write_78 : decode cX11_write 78 = .ok (.ifCond .eq 7, 3) := dk_153 0 7 (dk_at dksX11_write_3 6 rfl rfl)
theorem dX11_write_81 : decode cX11_write 81 = .ok (.iconst 1, 1) := dk_4 (dk_at dksX11_write_3 9 rfl rfl)
theorem dX11_write_82 : decode cX11_write 82 = .ok (.goto 4, 3) := dk_167 0 4 (dk_at dksX11_write_3 10 rfl rfl)
theorem dX11_write_85 : decode cX11_write 85 = .ok (.iconst 0, 1) := dk_3 (dk_at dksX11_write_3 13 rfl rfl)
theorem dX11_write_86 : decode cX11_write 86 = .ok (.ior, 1) := dk_128 (dk_at dksX11_write_3 14 rfl rfl)
theorem dX11_write_87 : decode cX11_write 87 = .ok (.istore 7, 2) := dk_54 7 (dk_at dksX11_write_3 15 rfl rfl)
theorem dX11_write_89 : decode cX11_write 89 = .ok (.iinc 8 1, 3) := dk_132 8 1 (dk_at dksX11_write_3 17 rfl rfl)
theorem dX11_write_92 : decode cX11_write 92 = .ok (.goto (-54), 3) := dk_167 255 202 (dk_at dksX11_write_3 20 rfl rfl)
theorem dX11_write_95 : decode cX11_write 95 = .ok (.aload 4, 2) := dk_25 4 (dk_at dksX11_write_4 0 rfl rfl)
theorem dX11_write_97 : decode cX11_write 97 = .ok (.iload 7, 2) := dk_21 7 (dk_at dksX11_write_4 2 rfl rfl)
theorem dX11_write_99 : decode cX11_write 99 = .ok (.invokevirtual 58, 3) := dk_182 0 58 (dk_at dksX11_write_4 4 rfl rfl)
theorem dX11_write_102 : decode cX11_write 102 = .ok (.iinc 6 8, 3) := dk_132 6 8 (dk_at dksX11_write_4 7 rfl rfl)
theorem dX11_write_105 : decode cX11_write 105 = .ok (.goto (-79), 3) := dk_167 255 177 (dk_at dksX11_write_4 10 rfl rfl)
theorem dX11_write_108 : decode cX11_write 108 = .ok (.return_, 1) := dk_177 (dk_at dksX11_write_4 13 rfl rfl)
abbrev cX11_beginOid : ByteArray := prog_4_method_14_code
def yX11_beginOid : MethodName := ⟨RX11, "beginOid", "()V"⟩
def dkwX11_beginOid_0 : List UInt8 := [42, 3, 181, 0, 62, 177]
abbrev dktX11_beginOid_0 : List UInt8 := dkwX11_beginOid_0 ++ []
theorem dksX11_beginOid_0 : cX11_beginOid.data.toList.drop 0 = dktX11_beginOid_0 := by decide +kernel
theorem dX11_beginOid_0 : decode cX11_beginOid 0 = .ok (.aload_n 0, 1) := dk_42 (dk_at dksX11_beginOid_0 0 rfl rfl)
theorem dX11_beginOid_1 : decode cX11_beginOid 1 = .ok (.iconst 0, 1) := dk_3 (dk_at dksX11_beginOid_0 1 rfl rfl)
theorem dX11_beginOid_2 : decode cX11_beginOid 2 = .ok (.putfield 62, 3) := dk_181 0 62 (dk_at dksX11_beginOid_0 2 rfl rfl)
theorem dX11_beginOid_5 : decode cX11_beginOid 5 = .ok (.return_, 1) := dk_177 (dk_at dksX11_beginOid_0 5 rfl rfl)
abbrev cX11_addOid : ByteArray := prog_4_method_16_code
def yX11_addOid : MethodName := ⟨RX11, "addOid", "(ILSchemaWorkshop$Bytes;)Z"⟩
def dkwX11_addOid_0 : List UInt8 := [42, 180, 0, 7, 27, 182, 0, 73, 42, 44, 182, 0, 69, 172]
abbrev dktX11_addOid_0 : List UInt8 := dkwX11_addOid_0 ++ []
theorem dksX11_addOid_0 : cX11_addOid.data.toList.drop 0 = dktX11_addOid_0 := by decide +kernel
theorem dX11_addOid_0 : decode cX11_addOid 0 = .ok (.aload_n 0, 1) := dk_42 (dk_at dksX11_addOid_0 0 rfl rfl)
theorem dX11_addOid_1 : decode cX11_addOid 1 = .ok (.getfield 7, 3) := dk_180 0 7 (dk_at dksX11_addOid_0 1 rfl rfl)
theorem dX11_addOid_4 : decode cX11_addOid 4 = .ok (.iload_n 1, 1) := dk_27 (dk_at dksX11_addOid_0 4 rfl rfl)
theorem dX11_addOid_5 : decode cX11_addOid 5 = .ok (.invokevirtual 73, 3) := dk_182 0 73 (dk_at dksX11_addOid_0 5 rfl rfl)
theorem dX11_addOid_8 : decode cX11_addOid 8 = .ok (.aload_n 0, 1) := dk_42 (dk_at dksX11_addOid_0 8 rfl rfl)
theorem dX11_addOid_9 : decode cX11_addOid 9 = .ok (.aload_n 2, 1) := dk_44 (dk_at dksX11_addOid_0 9 rfl rfl)
theorem dX11_addOid_10 : decode cX11_addOid 10 = .ok (.invokevirtual 69, 3) := dk_182 0 69 (dk_at dksX11_addOid_0 10 rfl rfl)
theorem dX11_addOid_13 : decode cX11_addOid 13 = .ok (.ireturn, 1) := dk_172 (dk_at dksX11_addOid_0 13 rfl rfl)
abbrev cX11_addOid_2 : ByteArray := prog_4_method_17_code
def yX11_addOid_2 : MethodName := ⟨RX11, "addOid", "(LSchemaWorkshop$Bytes;)Z"⟩
def dkwX11_addOid_2_4 : List UInt8 := [43, 182, 0, 82, 4, 172]
abbrev dktX11_addOid_2_4 : List UInt8 := dkwX11_addOid_2_4 ++ []
def dkwX11_addOid_2_3 : List UInt8 := [172, 42, 180, 0, 7, 42, 180, 0, 62, 5, 160, 0, 13, 16, 40, 42, 180, 0, 79, 104, 167, 0, 4, 3]
abbrev dktX11_addOid_2_3 : List UInt8 := dkwX11_addOid_2_3 ++ dktX11_addOid_2_4
def dkwX11_addOid_2_2 : List UInt8 := [160, 0, 25, 42, 180, 0, 79, 5, 162, 0, 17, 42, 180, 0, 7, 16, 39, 182, 0, 76, 156, 0, 5, 3]
abbrev dktX11_addOid_2_2 : List UInt8 := dkwX11_addOid_2_2 ++ dktX11_addOid_2_3
def dkwX11_addOid_2_1 : List UInt8 := [182, 0, 76, 181, 0, 79, 42, 180, 0, 79, 155, 0, 7, 4, 167, 0, 4, 3, 172, 42, 180, 0, 62, 5]
abbrev dktX11_addOid_2_1 : List UInt8 := dkwX11_addOid_2_1 ++ dktX11_addOid_2_2
def dkwX11_addOid_2_0 : List UInt8 := [42, 89, 180, 0, 62, 4, 96, 181, 0, 62, 42, 180, 0, 62, 4, 160, 0, 28, 42, 42, 180, 0, 7, 5]
abbrev dktX11_addOid_2_0 : List UInt8 := dkwX11_addOid_2_0 ++ dktX11_addOid_2_1
theorem dksX11_addOid_2_0 : cX11_addOid_2.data.toList.drop 0 = dktX11_addOid_2_0 := by decide +kernel
theorem dksX11_addOid_2_1 : cX11_addOid_2.data.toList.drop 24 = dktX11_addOid_2_1 := dk_seg dksX11_addOid_2_0 24 rfl rfl
theorem dksX11_addOid_2_2 : cX11_addOid_2.data.toList.drop 48 = dktX11_addOid_2_2 := dk_seg dksX11_addOid_2_1 24 rfl rfl
theorem dksX11_addOid_2_3 : cX11_addOid_2.data.toList.drop 72 = dktX11_addOid_2_3 := dk_seg dksX11_addOid_2_2 24 rfl rfl
theorem dksX11_addOid_2_4 : cX11_addOid_2.data.toList.drop 96 = dktX11_addOid_2_4 := dk_seg dksX11_addOid_2_3 24 rfl rfl
theorem dX11_addOid_2_0 : decode cX11_addOid_2 0 = .ok (.aload_n 0, 1) := dk_42 (dk_at dksX11_addOid_2_0 0 rfl rfl)
theorem dX11_addOid_2_1 : decode cX11_addOid_2 1 = .ok (.dup, 1) := dk_89 (dk_at dksX11_addOid_2_0 1 rfl rfl)
theorem dX11_addOid_2_2 : decode cX11_addOid_2 2 = .ok (.getfield 62, 3) := dk_180 0 62 (dk_at dksX11_addOid_2_0 2 rfl rfl)
theorem dX11_addOid_2_5 : decode cX11_addOid_2 5 = .ok (.iconst 1, 1) := dk_4 (dk_at dksX11_addOid_2_0 5 rfl rfl)
theorem dX11_addOid_2_6 : decode cX11_addOid_2 6 = .ok (.iadd, 1) := dk_96 (dk_at dksX11_addOid_2_0 6 rfl rfl)
theorem dX11_addOid_2_7 : decode cX11_addOid_2 7 = .ok (.putfield 62, 3) := dk_181 0 62 (dk_at dksX11_addOid_2_0 7 rfl rfl)
theorem dX11_addOid_2_10 : decode cX11_addOid_2 10 = .ok (.aload_n 0, 1) := dk_42 (dk_at dksX11_addOid_2_0 10 rfl rfl)
theorem dX11_addOid_2_11 : decode cX11_addOid_2 11 = .ok (.getfield 62, 3) := dk_180 0 62 (dk_at dksX11_addOid_2_0 11 rfl rfl)
theorem dX11_addOid_2_14 : decode cX11_addOid_2 14 = .ok (.iconst 1, 1) := dk_4 (dk_at dksX11_addOid_2_0 14 rfl rfl)
theorem dX11_addOid_2_15 : decode cX11_addOid_2 15 = .ok (.if_icmp .ne 28, 3) := dk_160 0 28 (dk_at dksX11_addOid_2_0 15 rfl rfl)
theorem dX11_addOid_2_18 : decode cX11_addOid_2 18 = .ok (.aload_n 0, 1) := dk_42 (dk_at dksX11_addOid_2_0 18 rfl rfl)
theorem dX11_addOid_2_19 : decode cX11_addOid_2 19 = .ok (.aload_n 0, 1) := dk_42 (dk_at dksX11_addOid_2_0 19 rfl rfl)
theorem dX11_addOid_2_20 : decode cX11_addOid_2 20 = .ok (.getfield 7, 3) := dk_180 0 7 (dk_at dksX11_addOid_2_0 20 rfl rfl)
theorem dX11_addOid_2_23 : decode cX11_addOid_2 23 = .ok (.iconst 2, 1) := dk_5 (dk_at dksX11_addOid_2_0 23 rfl rfl)
theorem dX11_addOid_2_24 : decode cX11_addOid_2 24 = .ok (.invokevirtual 76, 3) := dk_182 0 76 (dk_at dksX11_addOid_2_1 0 rfl rfl)
theorem dX11_addOid_2_27 : decode cX11_addOid_2 27 = .ok (.putfield 79, 3) := dk_181 0 79 (dk_at dksX11_addOid_2_1 3 rfl rfl)
theorem dX11_addOid_2_30 : decode cX11_addOid_2 30 = .ok (.aload_n 0, 1) := dk_42 (dk_at dksX11_addOid_2_1 6 rfl rfl)
theorem dX11_addOid_2_31 : decode cX11_addOid_2 31 = .ok (.getfield 79, 3) := dk_180 0 79 (dk_at dksX11_addOid_2_1 7 rfl rfl)
theorem dX11_addOid_2_34 : decode cX11_addOid_2 34 = .ok (.ifCond .lt 7, 3) := dk_155 0 7 (dk_at dksX11_addOid_2_1 10 rfl rfl)
theorem dX11_addOid_2_37 : decode cX11_addOid_2 37 = .ok (.iconst 1, 1) := dk_4 (dk_at dksX11_addOid_2_1 13 rfl rfl)
theorem dX11_addOid_2_38 : decode cX11_addOid_2 38 = .ok (.goto 4, 3) := dk_167 0 4 (dk_at dksX11_addOid_2_1 14 rfl rfl)
theorem dX11_addOid_2_41 : decode cX11_addOid_2 41 = .ok (.iconst 0, 1) := dk_3 (dk_at dksX11_addOid_2_1 17 rfl rfl)
theorem dX11_addOid_2_42 : decode cX11_addOid_2 42 = .ok (.ireturn, 1) := dk_172 (dk_at dksX11_addOid_2_1 18 rfl rfl)
theorem dX11_addOid_2_43 : decode cX11_addOid_2 43 = .ok (.aload_n 0, 1) := dk_42 (dk_at dksX11_addOid_2_1 19 rfl rfl)
theorem dX11_addOid_2_44 : decode cX11_addOid_2 44 = .ok (.getfield 62, 3) := dk_180 0 62 (dk_at dksX11_addOid_2_1 20 rfl rfl)
theorem dX11_addOid_2_47 : decode cX11_addOid_2 47 = .ok (.iconst 2, 1) := dk_5 (dk_at dksX11_addOid_2_1 23 rfl rfl)
theorem dX11_addOid_2_48 : decode cX11_addOid_2 48 = .ok (.if_icmp .ne 25, 3) := dk_160 0 25 (dk_at dksX11_addOid_2_2 0 rfl rfl)
theorem dX11_addOid_2_51 : decode cX11_addOid_2 51 = .ok (.aload_n 0, 1) := dk_42 (dk_at dksX11_addOid_2_2 3 rfl rfl)
theorem dX11_addOid_2_52 : decode cX11_addOid_2 52 = .ok (.getfield 79, 3) := dk_180 0 79 (dk_at dksX11_addOid_2_2 4 rfl rfl)
theorem dX11_addOid_2_55 : decode cX11_addOid_2 55 = .ok (.iconst 2, 1) := dk_5 (dk_at dksX11_addOid_2_2 7 rfl rfl)
theorem dX11_addOid_2_56 : decode cX11_addOid_2 56 = .ok (.if_icmp .ge 17, 3) := dk_162 0 17 (dk_at dksX11_addOid_2_2 8 rfl rfl)
theorem dX11_addOid_2_59 : decode cX11_addOid_2 59 = .ok (.aload_n 0, 1) := dk_42 (dk_at dksX11_addOid_2_2 11 rfl rfl)
theorem dX11_addOid_2_60 : decode cX11_addOid_2 60 = .ok (.getfield 7, 3) := dk_180 0 7 (dk_at dksX11_addOid_2_2 12 rfl rfl)
theorem dX11_addOid_2_63 : decode cX11_addOid_2 63 = .ok (.bipush 39, 2) := dk_16 39 (dk_at dksX11_addOid_2_2 15 rfl rfl)
theorem dX11_addOid_2_65 : decode cX11_addOid_2 65 = .ok (.invokevirtual 76, 3) := dk_182 0 76 (dk_at dksX11_addOid_2_2 17 rfl rfl)
theorem dX11_addOid_2_68 : decode cX11_addOid_2 68 = .ok (.ifCond .ge 5, 3) := dk_156 0 5 (dk_at dksX11_addOid_2_2 20 rfl rfl)
theorem dX11_addOid_2_71 : decode cX11_addOid_2 71 = .ok (.iconst 0, 1) := dk_3 (dk_at dksX11_addOid_2_2 23 rfl rfl)
theorem dX11_addOid_2_72 : decode cX11_addOid_2 72 = .ok (.ireturn, 1) := dk_172 (dk_at dksX11_addOid_2_3 0 rfl rfl)
theorem dX11_addOid_2_73 : decode cX11_addOid_2 73 = .ok (.aload_n 0, 1) := dk_42 (dk_at dksX11_addOid_2_3 1 rfl rfl)
theorem dX11_addOid_2_74 : decode cX11_addOid_2 74 = .ok (.getfield 7, 3) := dk_180 0 7 (dk_at dksX11_addOid_2_3 2 rfl rfl)
theorem dX11_addOid_2_77 : decode cX11_addOid_2 77 = .ok (.aload_n 0, 1) := dk_42 (dk_at dksX11_addOid_2_3 5 rfl rfl)
theorem dX11_addOid_2_78 : decode cX11_addOid_2 78 = .ok (.getfield 62, 3) := dk_180 0 62 (dk_at dksX11_addOid_2_3 6 rfl rfl)
theorem dX11_addOid_2_81 : decode cX11_addOid_2 81 = .ok (.iconst 2, 1) := dk_5 (dk_at dksX11_addOid_2_3 9 rfl rfl)
theorem dX11_addOid_2_82 : decode cX11_addOid_2 82 = .ok (.if_icmp .ne 13, 3) := dk_160 0 13 (dk_at dksX11_addOid_2_3 10 rfl rfl)
theorem dX11_addOid_2_85 : decode cX11_addOid_2 85 = .ok (.bipush 40, 2) := dk_16 40 (dk_at dksX11_addOid_2_3 13 rfl rfl)
theorem dX11_addOid_2_87 : decode cX11_addOid_2 87 = .ok (.aload_n 0, 1) := dk_42 (dk_at dksX11_addOid_2_3 15 rfl rfl)
theorem dX11_addOid_2_88 : decode cX11_addOid_2 88 = .ok (.getfield 79, 3) := dk_180 0 79 (dk_at dksX11_addOid_2_3 16 rfl rfl)
theorem dX11_addOid_2_91 : decode cX11_addOid_2 91 = .ok (.imul, 1) := dk_104 (dk_at dksX11_addOid_2_3 19 rfl rfl)
theorem dX11_addOid_2_92 : decode cX11_addOid_2 92 = .ok (.goto 4, 3) := dk_167 0 4 (dk_at dksX11_addOid_2_3 20 rfl rfl)
theorem dX11_addOid_2_95 : decode cX11_addOid_2 95 = .ok (.iconst 0, 1) := dk_3 (dk_at dksX11_addOid_2_3 23 rfl rfl)
theorem dX11_addOid_2_96 : decode cX11_addOid_2 96 = .ok (.aload_n 1, 1) := dk_43 (dk_at dksX11_addOid_2_4 0 rfl rfl)
theorem dX11_addOid_2_97 : decode cX11_addOid_2 97 = .ok (.invokevirtual 82, 3) := dk_182 0 82 (dk_at dksX11_addOid_2_4 1 rfl rfl)
theorem dX11_addOid_2_100 : decode cX11_addOid_2 100 = .ok (.iconst 1, 1) := dk_4 (dk_at dksX11_addOid_2_4 4 rfl rfl)
theorem dX11_addOid_2_101 : decode cX11_addOid_2 101 = .ok (.ireturn, 1) := dk_172 (dk_at dksX11_addOid_2_4 5 rfl rfl)
abbrev cX11_addOid_3 : ByteArray := prog_4_method_15_code
def yX11_addOid_3 : MethodName := ⟨RX11, "addOid", "(LSchemaWorkshop$Bytes;IILSchemaWorkshop$Bytes;)Z"⟩
def dkwX11_addOid_3_0 : List UInt8 := [42, 180, 0, 7, 43, 28, 29, 182, 0, 65, 42, 25, 4, 182, 0, 69, 172]
abbrev dktX11_addOid_3_0 : List UInt8 := dkwX11_addOid_3_0 ++ []
theorem dksX11_addOid_3_0 : cX11_addOid_3.data.toList.drop 0 = dktX11_addOid_3_0 := by decide +kernel
theorem dX11_addOid_3_0 : decode cX11_addOid_3 0 = .ok (.aload_n 0, 1) := dk_42 (dk_at dksX11_addOid_3_0 0 rfl rfl)
theorem dX11_addOid_3_1 : decode cX11_addOid_3 1 = .ok (.getfield 7, 3) := dk_180 0 7 (dk_at dksX11_addOid_3_0 1 rfl rfl)
theorem dX11_addOid_3_4 : decode cX11_addOid_3 4 = .ok (.aload_n 1, 1) := dk_43 (dk_at dksX11_addOid_3_0 4 rfl rfl)
theorem dX11_addOid_3_5 : decode cX11_addOid_3 5 = .ok (.iload_n 2, 1) := dk_28 (dk_at dksX11_addOid_3_0 5 rfl rfl)
theorem dX11_addOid_3_6 : decode cX11_addOid_3 6 = .ok (.iload_n 3, 1) := dk_29 (dk_at dksX11_addOid_3_0 6 rfl rfl)
theorem dX11_addOid_3_7 : decode cX11_addOid_3 7 = .ok (.invokevirtual 65, 3) := dk_182 0 65 (dk_at dksX11_addOid_3_0 7 rfl rfl)
theorem dX11_addOid_3_10 : decode cX11_addOid_3 10 = .ok (.aload_n 0, 1) := dk_42 (dk_at dksX11_addOid_3_0 10 rfl rfl)
theorem dX11_addOid_3_11 : decode cX11_addOid_3 11 = .ok (.aload 4, 2) := dk_25 4 (dk_at dksX11_addOid_3_0 11 rfl rfl)
theorem dX11_addOid_3_13 : decode cX11_addOid_3 13 = .ok (.invokevirtual 69, 3) := dk_182 0 69 (dk_at dksX11_addOid_3_0 13 rfl rfl)
theorem dX11_addOid_3_16 : decode cX11_addOid_3 16 = .ok (.ireturn, 1) := dk_172 (dk_at dksX11_addOid_3_0 16 rfl rfl)
abbrev cX11_endsOid : ByteArray := prog_4_method_18_code
def yX11_endsOid : MethodName := ⟨RX11, "endsOid", "()Z"⟩
def dkwX11_endsOid_0 : List UInt8 := [42, 180, 0, 62, 4, 164, 0, 7, 4, 167, 0, 4, 3, 172]
abbrev dktX11_endsOid_0 : List UInt8 := dkwX11_endsOid_0 ++ []
theorem dksX11_endsOid_0 : cX11_endsOid.data.toList.drop 0 = dktX11_endsOid_0 := by decide +kernel
theorem dX11_endsOid_0 : decode cX11_endsOid 0 = .ok (.aload_n 0, 1) := dk_42 (dk_at dksX11_endsOid_0 0 rfl rfl)
theorem dX11_endsOid_1 : decode cX11_endsOid 1 = .ok (.getfield 62, 3) := dk_180 0 62 (dk_at dksX11_endsOid_0 1 rfl rfl)
theorem dX11_endsOid_4 : decode cX11_endsOid 4 = .ok (.iconst 1, 1) := dk_4 (dk_at dksX11_endsOid_0 4 rfl rfl)
theorem dX11_endsOid_5 : decode cX11_endsOid 5 = .ok (.if_icmp .le 7, 3) := dk_164 0 7 (dk_at dksX11_endsOid_0 5 rfl rfl)
theorem dX11_endsOid_8 : decode cX11_endsOid 8 = .ok (.iconst 1, 1) := dk_4 (dk_at dksX11_endsOid_0 8 rfl rfl)
theorem dX11_endsOid_9 : decode cX11_endsOid 9 = .ok (.goto 4, 3) := dk_167 0 4 (dk_at dksX11_endsOid_0 9 rfl rfl)
theorem dX11_endsOid_12 : decode cX11_endsOid 12 = .ok (.iconst 0, 1) := dk_3 (dk_at dksX11_endsOid_0 12 rfl rfl)
theorem dX11_endsOid_13 : decode cX11_endsOid 13 = .ok (.ireturn, 1) := dk_172 (dk_at dksX11_endsOid_0 13 rfl rfl)
abbrev cX11_isString : ByteArray := prog_4_method_8_code
def yX11_isString : MethodName := ⟨RX11, "isString", "(ILSchemaWorkshop$Bytes;II)Z"⟩
def dkwX11_isString_3 : List UInt8 := [172, 132, 5, 1, 167, 255, 206, 4, 172]
abbrev dktX11_isString_3 : List UInt8 := dkwX11_isString_3 ++ []
def dkwX11_isString_2 : List UInt8 := [154, 0, 25, 167, 0, 20, 27, 16, 9, 160, 0, 16, 44, 21, 5, 182, 0, 17, 16, 127, 164, 0, 5, 3]
abbrev dktX11_isString_2 : List UInt8 := dkwX11_isString_2 ++ dktX11_isString_3
def dkwX11_isString_1 : List UInt8 := [54, 5, 21, 5, 21, 4, 162, 0, 49, 27, 16, 8, 160, 0, 18, 44, 21, 5, 182, 0, 17, 184, 0, 41]
abbrev dktX11_isString_1 : List UInt8 := dkwX11_isString_1 ++ dktX11_isString_2
def dkwX11_isString_0 : List UInt8 := [27, 16, 7, 160, 0, 12, 42, 44, 29, 21, 4, 182, 0, 37, 172, 42, 21, 4, 29, 100, 181, 0, 13, 29]
abbrev dktX11_isString_0 : List UInt8 := dkwX11_isString_0 ++ dktX11_isString_1
theorem dksX11_isString_0 : cX11_isString.data.toList.drop 0 = dktX11_isString_0 := by decide +kernel
theorem dksX11_isString_1 : cX11_isString.data.toList.drop 24 = dktX11_isString_1 := dk_seg dksX11_isString_0 24 rfl rfl
theorem dksX11_isString_2 : cX11_isString.data.toList.drop 48 = dktX11_isString_2 := dk_seg dksX11_isString_1 24 rfl rfl
theorem dksX11_isString_3 : cX11_isString.data.toList.drop 72 = dktX11_isString_3 := dk_seg dksX11_isString_2 24 rfl rfl
theorem dX11_isString_0 : decode cX11_isString 0 = .ok (.iload_n 1, 1) := dk_27 (dk_at dksX11_isString_0 0 rfl rfl)
theorem dX11_isString_1 : decode cX11_isString 1 = .ok (.bipush 7, 2) := dk_16 7 (dk_at dksX11_isString_0 1 rfl rfl)
theorem dX11_isString_3 : decode cX11_isString 3 = .ok (.if_icmp .ne 12, 3) := dk_160 0 12 (dk_at dksX11_isString_0 3 rfl rfl)
theorem dX11_isString_6 : decode cX11_isString 6 = .ok (.aload_n 0, 1) := dk_42 (dk_at dksX11_isString_0 6 rfl rfl)
theorem dX11_isString_7 : decode cX11_isString 7 = .ok (.aload_n 2, 1) := dk_44 (dk_at dksX11_isString_0 7 rfl rfl)
theorem dX11_isString_8 : decode cX11_isString 8 = .ok (.iload_n 3, 1) := dk_29 (dk_at dksX11_isString_0 8 rfl rfl)
theorem dX11_isString_9 : decode cX11_isString 9 = .ok (.iload 4, 2) := dk_21 4 (dk_at dksX11_isString_0 9 rfl rfl)
theorem dX11_isString_11 : decode cX11_isString 11 = .ok (.invokevirtual 37, 3) := dk_182 0 37 (dk_at dksX11_isString_0 11 rfl rfl)
theorem dX11_isString_14 : decode cX11_isString 14 = .ok (.ireturn, 1) := dk_172 (dk_at dksX11_isString_0 14 rfl rfl)
theorem dX11_isString_15 : decode cX11_isString 15 = .ok (.aload_n 0, 1) := dk_42 (dk_at dksX11_isString_0 15 rfl rfl)
theorem dX11_isString_16 : decode cX11_isString 16 = .ok (.iload 4, 2) := dk_21 4 (dk_at dksX11_isString_0 16 rfl rfl)
theorem dX11_isString_18 : decode cX11_isString 18 = .ok (.iload_n 3, 1) := dk_29 (dk_at dksX11_isString_0 18 rfl rfl)
theorem dX11_isString_19 : decode cX11_isString 19 = .ok (.isub, 1) := dk_100 (dk_at dksX11_isString_0 19 rfl rfl)
theorem dX11_isString_20 : decode cX11_isString 20 = .ok (.putfield 13, 3) := dk_181 0 13 (dk_at dksX11_isString_0 20 rfl rfl)
theorem dX11_isString_23 : decode cX11_isString 23 = .ok (.iload_n 3, 1) := dk_29 (dk_at dksX11_isString_0 23 rfl rfl)
theorem dX11_isString_24 : decode cX11_isString 24 = .ok (.istore 5, 2) := dk_54 5 (dk_at dksX11_isString_1 0 rfl rfl)
theorem dX11_isString_26 : decode cX11_isString 26 = .ok (.iload 5, 2) := dk_21 5 (dk_at dksX11_isString_1 2 rfl rfl)
theorem dX11_isString_28 : decode cX11_isString 28 = .ok (.iload 4, 2) := dk_21 4 (dk_at dksX11_isString_1 4 rfl rfl)
theorem dX11_isString_30 : decode cX11_isString 30 = .ok (.if_icmp .ge 49, 3) := dk_162 0 49 (dk_at dksX11_isString_1 6 rfl rfl)
theorem dX11_isString_33 : decode cX11_isString 33 = .ok (.iload_n 1, 1) := dk_27 (dk_at dksX11_isString_1 9 rfl rfl)
theorem dX11_isString_34 : decode cX11_isString 34 = .ok (.bipush 8, 2) := dk_16 8 (dk_at dksX11_isString_1 10 rfl rfl)
theorem dX11_isString_36 : decode cX11_isString 36 = .ok (.if_icmp .ne 18, 3) := dk_160 0 18 (dk_at dksX11_isString_1 12 rfl rfl)
theorem dX11_isString_39 : decode cX11_isString 39 = .ok (.aload_n 2, 1) := dk_44 (dk_at dksX11_isString_1 15 rfl rfl)
theorem dX11_isString_40 : decode cX11_isString 40 = .ok (.iload 5, 2) := dk_21 5 (dk_at dksX11_isString_1 16 rfl rfl)
theorem dX11_isString_42 : decode cX11_isString 42 = .ok (.invokevirtual 17, 3) := dk_182 0 17 (dk_at dksX11_isString_1 18 rfl rfl)
theorem dX11_isString_45 : decode cX11_isString 45 = .ok (.invokestatic 41, 3) := dk_184 0 41 (dk_at dksX11_isString_1 21 rfl rfl)
theorem dX11_isString_48 : decode cX11_isString 48 = .ok (.ifCond .ne 25, 3) := dk_154 0 25 (dk_at dksX11_isString_2 0 rfl rfl)
theorem dX11_isString_51 : decode cX11_isString 51 = .ok (.goto 20, 3) := dk_167 0 20 (dk_at dksX11_isString_2 3 rfl rfl)
theorem dX11_isString_54 : decode cX11_isString 54 = .ok (.iload_n 1, 1) := dk_27 (dk_at dksX11_isString_2 6 rfl rfl)
theorem dX11_isString_55 : decode cX11_isString 55 = .ok (.bipush 9, 2) := dk_16 9 (dk_at dksX11_isString_2 7 rfl rfl)
theorem dX11_isString_57 : decode cX11_isString 57 = .ok (.if_icmp .ne 16, 3) := dk_160 0 16 (dk_at dksX11_isString_2 9 rfl rfl)
theorem dX11_isString_60 : decode cX11_isString 60 = .ok (.aload_n 2, 1) := dk_44 (dk_at dksX11_isString_2 12 rfl rfl)
theorem dX11_isString_61 : decode cX11_isString 61 = .ok (.iload 5, 2) := dk_21 5 (dk_at dksX11_isString_2 13 rfl rfl)
theorem dX11_isString_63 : decode cX11_isString 63 = .ok (.invokevirtual 17, 3) := dk_182 0 17 (dk_at dksX11_isString_2 15 rfl rfl)
theorem dX11_isString_66 : decode cX11_isString 66 = .ok (.bipush 127, 2) := dk_16 127 (dk_at dksX11_isString_2 18 rfl rfl)
theorem dX11_isString_68 : decode cX11_isString 68 = .ok (.if_icmp .le 5, 3) := dk_164 0 5 (dk_at dksX11_isString_2 20 rfl rfl)
theorem dX11_isString_71 : decode cX11_isString 71 = .ok (.iconst 0, 1) := dk_3 (dk_at dksX11_isString_2 23 rfl rfl)
theorem dX11_isString_72 : decode cX11_isString 72 = .ok (.ireturn, 1) := dk_172 (dk_at dksX11_isString_3 0 rfl rfl)
theorem dX11_isString_73 : decode cX11_isString 73 = .ok (.iinc 5 1, 3) := dk_132 5 1 (dk_at dksX11_isString_3 1 rfl rfl)
theorem dX11_isString_76 : decode cX11_isString 76 = .ok (.goto (-50), 3) := dk_167 255 206 (dk_at dksX11_isString_3 4 rfl rfl)
theorem dX11_isString_79 : decode cX11_isString 79 = .ok (.iconst 1, 1) := dk_4 (dk_at dksX11_isString_3 7 rfl rfl)
theorem dX11_isString_80 : decode cX11_isString 80 = .ok (.ireturn, 1) := dk_172 (dk_at dksX11_isString_3 8 rfl rfl)
abbrev cX11_isUtf8 : ByteArray := prog_4_method_7_code
def yX11_isUtf8 : MethodName := ⟨RX11, "isUtf8", "(LSchemaWorkshop$Bytes;II)Z"⟩
def dkwX11_isUtf8_2 : List UInt8 := [167, 255, 217, 4, 172]
abbrev dktX11_isUtf8_2 : List UInt8 := dkwX11_isUtf8_2 ++ []
def dkwX11_isUtf8_1 : List UInt8 := [21, 5, 154, 0, 5, 3, 172, 21, 4, 21, 5, 96, 54, 4, 42, 89, 180, 0, 13, 4, 96, 181, 0, 13]
abbrev dktX11_isUtf8_1 : List UInt8 := dkwX11_isUtf8_1 ++ dktX11_isUtf8_2
def dkwX11_isUtf8_0 : List UInt8 := [42, 3, 181, 0, 13, 28, 54, 4, 21, 4, 29, 162, 0, 39, 43, 21, 4, 29, 184, 0, 31, 54, 5]
abbrev dktX11_isUtf8_0 : List UInt8 := dkwX11_isUtf8_0 ++ dktX11_isUtf8_1
theorem dksX11_isUtf8_0 : cX11_isUtf8.data.toList.drop 0 = dktX11_isUtf8_0 := by decide +kernel
theorem dksX11_isUtf8_1 : cX11_isUtf8.data.toList.drop 23 = dktX11_isUtf8_1 := dk_seg dksX11_isUtf8_0 23 rfl rfl
theorem dksX11_isUtf8_2 : cX11_isUtf8.data.toList.drop 47 = dktX11_isUtf8_2 := dk_seg dksX11_isUtf8_1 24 rfl rfl
theorem dX11_isUtf8_0 : decode cX11_isUtf8 0 = .ok (.aload_n 0, 1) := dk_42 (dk_at dksX11_isUtf8_0 0 rfl rfl)
theorem dX11_isUtf8_1 : decode cX11_isUtf8 1 = .ok (.iconst 0, 1) := dk_3 (dk_at dksX11_isUtf8_0 1 rfl rfl)
theorem dX11_isUtf8_2 : decode cX11_isUtf8 2 = .ok (.putfield 13, 3) := dk_181 0 13 (dk_at dksX11_isUtf8_0 2 rfl rfl)
theorem dX11_isUtf8_5 : decode cX11_isUtf8 5 = .ok (.iload_n 2, 1) := dk_28 (dk_at dksX11_isUtf8_0 5 rfl rfl)
theorem dX11_isUtf8_6 : decode cX11_isUtf8 6 = .ok (.istore 4, 2) := dk_54 4 (dk_at dksX11_isUtf8_0 6 rfl rfl)
theorem dX11_isUtf8_8 : decode cX11_isUtf8 8 = .ok (.iload 4, 2) := dk_21 4 (dk_at dksX11_isUtf8_0 8 rfl rfl)
theorem dX11_isUtf8_10 : decode cX11_isUtf8 10 = .ok (.iload_n 3, 1) := dk_29 (dk_at dksX11_isUtf8_0 10 rfl rfl)
theorem dX11_isUtf8_11 : decode cX11_isUtf8 11 = .ok (.if_icmp .ge 39, 3) := dk_162 0 39 (dk_at dksX11_isUtf8_0 11 rfl rfl)
theorem dX11_isUtf8_14 : decode cX11_isUtf8 14 = .ok (.aload_n 1, 1) := dk_43 (dk_at dksX11_isUtf8_0 14 rfl rfl)
theorem dX11_isUtf8_15 : decode cX11_isUtf8 15 = .ok (.iload 4, 2) := dk_21 4 (dk_at dksX11_isUtf8_0 15 rfl rfl)
theorem dX11_isUtf8_17 : decode cX11_isUtf8 17 = .ok (.iload_n 3, 1) := dk_29 (dk_at dksX11_isUtf8_0 17 rfl rfl)
theorem dX11_isUtf8_18 : decode cX11_isUtf8 18 = .ok (.invokestatic 31, 3) := dk_184 0 31 (dk_at dksX11_isUtf8_0 18 rfl rfl)
theorem dX11_isUtf8_21 : decode cX11_isUtf8 21 = .ok (.istore 5, 2) := dk_54 5 (dk_at dksX11_isUtf8_0 21 rfl rfl)
theorem dX11_isUtf8_23 : decode cX11_isUtf8 23 = .ok (.iload 5, 2) := dk_21 5 (dk_at dksX11_isUtf8_1 0 rfl rfl)
theorem dX11_isUtf8_25 : decode cX11_isUtf8 25 = .ok (.ifCond .ne 5, 3) := dk_154 0 5 (dk_at dksX11_isUtf8_1 2 rfl rfl)
theorem dX11_isUtf8_28 : decode cX11_isUtf8 28 = .ok (.iconst 0, 1) := dk_3 (dk_at dksX11_isUtf8_1 5 rfl rfl)
theorem dX11_isUtf8_29 : decode cX11_isUtf8 29 = .ok (.ireturn, 1) := dk_172 (dk_at dksX11_isUtf8_1 6 rfl rfl)
theorem dX11_isUtf8_30 : decode cX11_isUtf8 30 = .ok (.iload 4, 2) := dk_21 4 (dk_at dksX11_isUtf8_1 7 rfl rfl)
theorem dX11_isUtf8_32 : decode cX11_isUtf8 32 = .ok (.iload 5, 2) := dk_21 5 (dk_at dksX11_isUtf8_1 9 rfl rfl)
theorem dX11_isUtf8_34 : decode cX11_isUtf8 34 = .ok (.iadd, 1) := dk_96 (dk_at dksX11_isUtf8_1 11 rfl rfl)
theorem dX11_isUtf8_35 : decode cX11_isUtf8 35 = .ok (.istore 4, 2) := dk_54 4 (dk_at dksX11_isUtf8_1 12 rfl rfl)
theorem dX11_isUtf8_37 : decode cX11_isUtf8 37 = .ok (.aload_n 0, 1) := dk_42 (dk_at dksX11_isUtf8_1 14 rfl rfl)
theorem dX11_isUtf8_38 : decode cX11_isUtf8 38 = .ok (.dup, 1) := dk_89 (dk_at dksX11_isUtf8_1 15 rfl rfl)
theorem dX11_isUtf8_39 : decode cX11_isUtf8 39 = .ok (.getfield 13, 3) := dk_180 0 13 (dk_at dksX11_isUtf8_1 16 rfl rfl)
theorem dX11_isUtf8_42 : decode cX11_isUtf8 42 = .ok (.iconst 1, 1) := dk_4 (dk_at dksX11_isUtf8_1 19 rfl rfl)
theorem dX11_isUtf8_43 : decode cX11_isUtf8 43 = .ok (.iadd, 1) := dk_96 (dk_at dksX11_isUtf8_1 20 rfl rfl)
theorem dX11_isUtf8_44 : decode cX11_isUtf8 44 = .ok (.putfield 13, 3) := dk_181 0 13 (dk_at dksX11_isUtf8_1 21 rfl rfl)
theorem dX11_isUtf8_47 : decode cX11_isUtf8 47 = .ok (.goto (-39), 3) := dk_167 255 217 (dk_at dksX11_isUtf8_2 0 rfl rfl)
theorem dX11_isUtf8_50 : decode cX11_isUtf8 50 = .ok (.iconst 1, 1) := dk_4 (dk_at dksX11_isUtf8_2 3 rfl rfl)
theorem dX11_isUtf8_51 : decode cX11_isUtf8 51 = .ok (.ireturn, 1) := dk_172 (dk_at dksX11_isUtf8_2 4 rfl rfl)
abbrev cX11_bytesAt : ByteArray := prog_4_method_6_code
def yX11_bytesAt : MethodName := ⟨RX11, "bytesAt", "(LSchemaWorkshop$Bytes;II)I"⟩
def dkwX11_bytesAt_8 : List UInt8 := [153, 0, 8, 21, 4, 167, 0, 4, 3, 172]
abbrev dktX11_bytesAt_8 : List UInt8 := dkwX11_bytesAt_8 ++ []
def dkwX11_bytesAt_7 : List UInt8 := [21, 5, 18, 29, 161, 0, 14, 21, 5, 18, 30, 163, 0, 7, 4, 167, 0, 4, 3, 54, 6, 21, 6]
abbrev dktX11_bytesAt_7 : List UInt8 := dkwX11_bytesAt_7 ++ dktX11_bytesAt_8
def dkwX11_bytesAt_6 : List UInt8 := [161, 0, 17, 21, 5, 18, 27, 161, 0, 30, 21, 5, 18, 28, 163, 0, 23, 21, 4, 7, 160, 0, 21]
abbrev dktX11_bytesAt_6 : List UInt8 := dkwX11_bytesAt_6 ++ dktX11_bytesAt_7
def dkwX11_bytesAt_5 : List UInt8 := [132, 6, 1, 167, 255, 210, 21, 4, 5, 159, 0, 51, 21, 4, 6, 160, 0, 25, 21, 5, 17, 8, 0]
abbrev dktX11_bytesAt_5 : List UInt8 := dkwX11_bytesAt_5 ++ dktX11_bytesAt_6
def dkwX11_bytesAt_4 : List UInt8 := [159, 0, 5, 3, 172, 21, 5, 16, 6, 120, 42, 27, 21, 6, 96, 182, 0, 17, 16, 63, 126, 128, 54, 5]
abbrev dktX11_bytesAt_4 : List UInt8 := dkwX11_bytesAt_4 ++ dktX11_bytesAt_5
def dkwX11_bytesAt_3 : List UInt8 := [54, 5, 4, 54, 6, 21, 6, 21, 4, 162, 0, 45, 42, 27, 21, 6, 96, 182, 0, 17, 16, 6, 122, 5]
abbrev dktX11_bytesAt_3 : List UInt8 := dkwX11_bytesAt_3 ++ dktX11_bytesAt_4
def dkwX11_bytesAt_2 : List UInt8 := [29, 17, 0, 244, 163, 0, 11, 27, 21, 4, 96, 28, 164, 0, 5, 3, 172, 29, 16, 127, 21, 4, 122, 126]
abbrev dktX11_bytesAt_2 : List UInt8 := dkwX11_bytesAt_2 ++ dktX11_bytesAt_3
def dkwX11_bytesAt_1 : List UInt8 := [167, 0, 15, 29, 17, 0, 224, 161, 0, 7, 6, 167, 0, 4, 5, 54, 4, 29, 17, 0, 194, 161, 0, 18]
abbrev dktX11_bytesAt_1 : List UInt8 := dkwX11_bytesAt_1 ++ dktX11_bytesAt_2
def dkwX11_bytesAt_0 : List UInt8 := [42, 27, 182, 0, 17, 62, 29, 17, 0, 128, 162, 0, 5, 4, 172, 29, 17, 0, 240, 161, 0, 7, 7]
abbrev dktX11_bytesAt_0 : List UInt8 := dkwX11_bytesAt_0 ++ dktX11_bytesAt_1
theorem dksX11_bytesAt_0 : cX11_bytesAt.data.toList.drop 0 = dktX11_bytesAt_0 := by decide +kernel
theorem dksX11_bytesAt_1 : cX11_bytesAt.data.toList.drop 23 = dktX11_bytesAt_1 := dk_seg dksX11_bytesAt_0 23 rfl rfl
theorem dksX11_bytesAt_2 : cX11_bytesAt.data.toList.drop 47 = dktX11_bytesAt_2 := dk_seg dksX11_bytesAt_1 24 rfl rfl
theorem dksX11_bytesAt_3 : cX11_bytesAt.data.toList.drop 71 = dktX11_bytesAt_3 := dk_seg dksX11_bytesAt_2 24 rfl rfl
theorem dksX11_bytesAt_4 : cX11_bytesAt.data.toList.drop 95 = dktX11_bytesAt_4 := dk_seg dksX11_bytesAt_3 24 rfl rfl
theorem dksX11_bytesAt_5 : cX11_bytesAt.data.toList.drop 119 = dktX11_bytesAt_5 := dk_seg dksX11_bytesAt_4 24 rfl rfl
theorem dksX11_bytesAt_6 : cX11_bytesAt.data.toList.drop 142 = dktX11_bytesAt_6 := dk_seg dksX11_bytesAt_5 23 rfl rfl
theorem dksX11_bytesAt_7 : cX11_bytesAt.data.toList.drop 165 = dktX11_bytesAt_7 := dk_seg dksX11_bytesAt_6 23 rfl rfl
theorem dksX11_bytesAt_8 : cX11_bytesAt.data.toList.drop 188 = dktX11_bytesAt_8 := dk_seg dksX11_bytesAt_7 23 rfl rfl
theorem dX11_bytesAt_0 : decode cX11_bytesAt 0 = .ok (.aload_n 0, 1) := dk_42 (dk_at dksX11_bytesAt_0 0 rfl rfl)
theorem dX11_bytesAt_1 : decode cX11_bytesAt 1 = .ok (.iload_n 1, 1) := dk_27 (dk_at dksX11_bytesAt_0 1 rfl rfl)
theorem dX11_bytesAt_2 : decode cX11_bytesAt 2 = .ok (.invokevirtual 17, 3) := dk_182 0 17 (dk_at dksX11_bytesAt_0 2 rfl rfl)
theorem dX11_bytesAt_5 : decode cX11_bytesAt 5 = .ok (.istore_n 3, 1) := dk_62 (dk_at dksX11_bytesAt_0 5 rfl rfl)
theorem dX11_bytesAt_6 : decode cX11_bytesAt 6 = .ok (.iload_n 3, 1) := dk_29 (dk_at dksX11_bytesAt_0 6 rfl rfl)
theorem dX11_bytesAt_7 : decode cX11_bytesAt 7 = .ok (.sipush 128, 3) := dk_17 0 128 (dk_at dksX11_bytesAt_0 7 rfl rfl)
theorem dX11_bytesAt_10 : decode cX11_bytesAt 10 = .ok (.if_icmp .ge 5, 3) := dk_162 0 5 (dk_at dksX11_bytesAt_0 10 rfl rfl)
theorem dX11_bytesAt_13 : decode cX11_bytesAt 13 = .ok (.iconst 1, 1) := dk_4 (dk_at dksX11_bytesAt_0 13 rfl rfl)
theorem dX11_bytesAt_14 : decode cX11_bytesAt 14 = .ok (.ireturn, 1) := dk_172 (dk_at dksX11_bytesAt_0 14 rfl rfl)
theorem dX11_bytesAt_15 : decode cX11_bytesAt 15 = .ok (.iload_n 3, 1) := dk_29 (dk_at dksX11_bytesAt_0 15 rfl rfl)
theorem dX11_bytesAt_16 : decode cX11_bytesAt 16 = .ok (.sipush 240, 3) := dk_17 0 240 (dk_at dksX11_bytesAt_0 16 rfl rfl)
theorem dX11_bytesAt_19 : decode cX11_bytesAt 19 = .ok (.if_icmp .lt 7, 3) := dk_161 0 7 (dk_at dksX11_bytesAt_0 19 rfl rfl)
theorem dX11_bytesAt_22 : decode cX11_bytesAt 22 = .ok (.iconst 4, 1) := dk_7 (dk_at dksX11_bytesAt_0 22 rfl rfl)
theorem dX11_bytesAt_23 : decode cX11_bytesAt 23 = .ok (.goto 15, 3) := dk_167 0 15 (dk_at dksX11_bytesAt_1 0 rfl rfl)
theorem dX11_bytesAt_26 : decode cX11_bytesAt 26 = .ok (.iload_n 3, 1) := dk_29 (dk_at dksX11_bytesAt_1 3 rfl rfl)
theorem dX11_bytesAt_27 : decode cX11_bytesAt 27 = .ok (.sipush 224, 3) := dk_17 0 224 (dk_at dksX11_bytesAt_1 4 rfl rfl)
theorem dX11_bytesAt_30 : decode cX11_bytesAt 30 = .ok (.if_icmp .lt 7, 3) := dk_161 0 7 (dk_at dksX11_bytesAt_1 7 rfl rfl)
theorem dX11_bytesAt_33 : decode cX11_bytesAt 33 = .ok (.iconst 3, 1) := dk_6 (dk_at dksX11_bytesAt_1 10 rfl rfl)
theorem dX11_bytesAt_34 : decode cX11_bytesAt 34 = .ok (.goto 4, 3) := dk_167 0 4 (dk_at dksX11_bytesAt_1 11 rfl rfl)
theorem dX11_bytesAt_37 : decode cX11_bytesAt 37 = .ok (.iconst 2, 1) := dk_5 (dk_at dksX11_bytesAt_1 14 rfl rfl)
theorem dX11_bytesAt_38 : decode cX11_bytesAt 38 = .ok (.istore 4, 2) := dk_54 4 (dk_at dksX11_bytesAt_1 15 rfl rfl)
theorem dX11_bytesAt_40 : decode cX11_bytesAt 40 = .ok (.iload_n 3, 1) := dk_29 (dk_at dksX11_bytesAt_1 17 rfl rfl)
theorem dX11_bytesAt_41 : decode cX11_bytesAt 41 = .ok (.sipush 194, 3) := dk_17 0 194 (dk_at dksX11_bytesAt_1 18 rfl rfl)
theorem dX11_bytesAt_44 : decode cX11_bytesAt 44 = .ok (.if_icmp .lt 18, 3) := dk_161 0 18 (dk_at dksX11_bytesAt_1 21 rfl rfl)
theorem dX11_bytesAt_47 : decode cX11_bytesAt 47 = .ok (.iload_n 3, 1) := dk_29 (dk_at dksX11_bytesAt_2 0 rfl rfl)
theorem dX11_bytesAt_48 : decode cX11_bytesAt 48 = .ok (.sipush 244, 3) := dk_17 0 244 (dk_at dksX11_bytesAt_2 1 rfl rfl)
theorem dX11_bytesAt_51 : decode cX11_bytesAt 51 = .ok (.if_icmp .gt 11, 3) := dk_163 0 11 (dk_at dksX11_bytesAt_2 4 rfl rfl)
theorem dX11_bytesAt_54 : decode cX11_bytesAt 54 = .ok (.iload_n 1, 1) := dk_27 (dk_at dksX11_bytesAt_2 7 rfl rfl)
theorem dX11_bytesAt_55 : decode cX11_bytesAt 55 = .ok (.iload 4, 2) := dk_21 4 (dk_at dksX11_bytesAt_2 8 rfl rfl)
theorem dX11_bytesAt_57 : decode cX11_bytesAt 57 = .ok (.iadd, 1) := dk_96 (dk_at dksX11_bytesAt_2 10 rfl rfl)
theorem dX11_bytesAt_58 : decode cX11_bytesAt 58 = .ok (.iload_n 2, 1) := dk_28 (dk_at dksX11_bytesAt_2 11 rfl rfl)
theorem dX11_bytesAt_59 : decode cX11_bytesAt 59 = .ok (.if_icmp .le 5, 3) := dk_164 0 5 (dk_at dksX11_bytesAt_2 12 rfl rfl)
theorem dX11_bytesAt_62 : decode cX11_bytesAt 62 = .ok (.iconst 0, 1) := dk_3 (dk_at dksX11_bytesAt_2 15 rfl rfl)
theorem dX11_bytesAt_63 : decode cX11_bytesAt 63 = .ok (.ireturn, 1) := dk_172 (dk_at dksX11_bytesAt_2 16 rfl rfl)
theorem dX11_bytesAt_64 : decode cX11_bytesAt 64 = .ok (.iload_n 3, 1) := dk_29 (dk_at dksX11_bytesAt_2 17 rfl rfl)
theorem dX11_bytesAt_65 : decode cX11_bytesAt 65 = .ok (.bipush 127, 2) := dk_16 127 (dk_at dksX11_bytesAt_2 18 rfl rfl)
theorem dX11_bytesAt_67 : decode cX11_bytesAt 67 = .ok (.iload 4, 2) := dk_21 4 (dk_at dksX11_bytesAt_2 20 rfl rfl)
theorem dX11_bytesAt_69 : decode cX11_bytesAt 69 = .ok (.ishr, 1) := dk_122 (dk_at dksX11_bytesAt_2 22 rfl rfl)
theorem dX11_bytesAt_70 : decode cX11_bytesAt 70 = .ok (.iand, 1) := dk_126 (dk_at dksX11_bytesAt_2 23 rfl rfl)
theorem dX11_bytesAt_71 : decode cX11_bytesAt 71 = .ok (.istore 5, 2) := dk_54 5 (dk_at dksX11_bytesAt_3 0 rfl rfl)
theorem dX11_bytesAt_73 : decode cX11_bytesAt 73 = .ok (.iconst 1, 1) := dk_4 (dk_at dksX11_bytesAt_3 2 rfl rfl)
theorem dX11_bytesAt_74 : decode cX11_bytesAt 74 = .ok (.istore 6, 2) := dk_54 6 (dk_at dksX11_bytesAt_3 3 rfl rfl)
theorem dX11_bytesAt_76 : decode cX11_bytesAt 76 = .ok (.iload 6, 2) := dk_21 6 (dk_at dksX11_bytesAt_3 5 rfl rfl)
theorem dX11_bytesAt_78 : decode cX11_bytesAt 78 = .ok (.iload 4, 2) := dk_21 4 (dk_at dksX11_bytesAt_3 7 rfl rfl)
theorem dX11_bytesAt_80 : decode cX11_bytesAt 80 = .ok (.if_icmp .ge 45, 3) := dk_162 0 45 (dk_at dksX11_bytesAt_3 9 rfl rfl)
theorem dX11_bytesAt_83 : decode cX11_bytesAt 83 = .ok (.aload_n 0, 1) := dk_42 (dk_at dksX11_bytesAt_3 12 rfl rfl)
theorem dX11_bytesAt_84 : decode cX11_bytesAt 84 = .ok (.iload_n 1, 1) := dk_27 (dk_at dksX11_bytesAt_3 13 rfl rfl)
theorem dX11_bytesAt_85 : decode cX11_bytesAt 85 = .ok (.iload 6, 2) := dk_21 6 (dk_at dksX11_bytesAt_3 14 rfl rfl)
theorem dX11_bytesAt_87 : decode cX11_bytesAt 87 = .ok (.iadd, 1) := dk_96 (dk_at dksX11_bytesAt_3 16 rfl rfl)
theorem dX11_bytesAt_88 : decode cX11_bytesAt 88 = .ok (.invokevirtual 17, 3) := dk_182 0 17 (dk_at dksX11_bytesAt_3 17 rfl rfl)
theorem dX11_bytesAt_91 : decode cX11_bytesAt 91 = .ok (.bipush 6, 2) := dk_16 6 (dk_at dksX11_bytesAt_3 20 rfl rfl)
theorem dX11_bytesAt_93 : decode cX11_bytesAt 93 = .ok (.ishr, 1) := dk_122 (dk_at dksX11_bytesAt_3 22 rfl rfl)
theorem dX11_bytesAt_94 : decode cX11_bytesAt 94 = .ok (.iconst 2, 1) := dk_5 (dk_at dksX11_bytesAt_3 23 rfl rfl)
theorem dX11_bytesAt_95 : decode cX11_bytesAt 95 = .ok (.if_icmp .eq 5, 3) := dk_159 0 5 (dk_at dksX11_bytesAt_4 0 rfl rfl)
theorem dX11_bytesAt_98 : decode cX11_bytesAt 98 = .ok (.iconst 0, 1) := dk_3 (dk_at dksX11_bytesAt_4 3 rfl rfl)
theorem dX11_bytesAt_99 : decode cX11_bytesAt 99 = .ok (.ireturn, 1) := dk_172 (dk_at dksX11_bytesAt_4 4 rfl rfl)
theorem dX11_bytesAt_100 : decode cX11_bytesAt 100 = .ok (.iload 5, 2) := dk_21 5 (dk_at dksX11_bytesAt_4 5 rfl rfl)
theorem dX11_bytesAt_102 : decode cX11_bytesAt 102 = .ok (.bipush 6, 2) := dk_16 6 (dk_at dksX11_bytesAt_4 7 rfl rfl)
theorem dX11_bytesAt_104 : decode cX11_bytesAt 104 = .ok (.ishl, 1) := dk_120 (dk_at dksX11_bytesAt_4 9 rfl rfl)
theorem dX11_bytesAt_105 : decode cX11_bytesAt 105 = .ok (.aload_n 0, 1) := dk_42 (dk_at dksX11_bytesAt_4 10 rfl rfl)
theorem dX11_bytesAt_106 : decode cX11_bytesAt 106 = .ok (.iload_n 1, 1) := dk_27 (dk_at dksX11_bytesAt_4 11 rfl rfl)
theorem dX11_bytesAt_107 : decode cX11_bytesAt 107 = .ok (.iload 6, 2) := dk_21 6 (dk_at dksX11_bytesAt_4 12 rfl rfl)
theorem dX11_bytesAt_109 : decode cX11_bytesAt 109 = .ok (.iadd, 1) := dk_96 (dk_at dksX11_bytesAt_4 14 rfl rfl)
theorem dX11_bytesAt_110 : decode cX11_bytesAt 110 = .ok (.invokevirtual 17, 3) := dk_182 0 17 (dk_at dksX11_bytesAt_4 15 rfl rfl)
theorem dX11_bytesAt_113 : decode cX11_bytesAt 113 = .ok (.bipush 63, 2) := dk_16 63 (dk_at dksX11_bytesAt_4 18 rfl rfl)
theorem dX11_bytesAt_115 : decode cX11_bytesAt 115 = .ok (.iand, 1) := dk_126 (dk_at dksX11_bytesAt_4 20 rfl rfl)
theorem dX11_bytesAt_116 : decode cX11_bytesAt 116 = .ok (.ior, 1) := dk_128 (dk_at dksX11_bytesAt_4 21 rfl rfl)
theorem dX11_bytesAt_117 : decode cX11_bytesAt 117 = .ok (.istore 5, 2) := dk_54 5 (dk_at dksX11_bytesAt_4 22 rfl rfl)
theorem dX11_bytesAt_119 : decode cX11_bytesAt 119 = .ok (.iinc 6 1, 3) := dk_132 6 1 (dk_at dksX11_bytesAt_5 0 rfl rfl)
theorem dX11_bytesAt_122 : decode cX11_bytesAt 122 = .ok (.goto (-46), 3) := dk_167 255 210 (dk_at dksX11_bytesAt_5 3 rfl rfl)
theorem dX11_bytesAt_125 : decode cX11_bytesAt 125 = .ok (.iload 4, 2) := dk_21 4 (dk_at dksX11_bytesAt_5 6 rfl rfl)
theorem dX11_bytesAt_127 : decode cX11_bytesAt 127 = .ok (.iconst 2, 1) := dk_5 (dk_at dksX11_bytesAt_5 8 rfl rfl)
theorem dX11_bytesAt_128 : decode cX11_bytesAt 128 = .ok (.if_icmp .eq 51, 3) := dk_159 0 51 (dk_at dksX11_bytesAt_5 9 rfl rfl)
theorem dX11_bytesAt_131 : decode cX11_bytesAt 131 = .ok (.iload 4, 2) := dk_21 4 (dk_at dksX11_bytesAt_5 12 rfl rfl)
theorem dX11_bytesAt_133 : decode cX11_bytesAt 133 = .ok (.iconst 3, 1) := dk_6 (dk_at dksX11_bytesAt_5 14 rfl rfl)
theorem dX11_bytesAt_134 : decode cX11_bytesAt 134 = .ok (.if_icmp .ne 25, 3) := dk_160 0 25 (dk_at dksX11_bytesAt_5 15 rfl rfl)
theorem dX11_bytesAt_137 : decode cX11_bytesAt 137 = .ok (.iload 5, 2) := dk_21 5 (dk_at dksX11_bytesAt_5 18 rfl rfl)
theorem dX11_bytesAt_139 : decode cX11_bytesAt 139 = .ok (.sipush 2048, 3) := dk_17 8 0 (dk_at dksX11_bytesAt_5 20 rfl rfl)
theorem dX11_bytesAt_142 : decode cX11_bytesAt 142 = .ok (.if_icmp .lt 17, 3) := dk_161 0 17 (dk_at dksX11_bytesAt_6 0 rfl rfl)
theorem dX11_bytesAt_145 : decode cX11_bytesAt 145 = .ok (.iload 5, 2) := dk_21 5 (dk_at dksX11_bytesAt_6 3 rfl rfl)
theorem dX11_bytesAt_147 : decode cX11_bytesAt 147 = .ok (.ldc 27, 2) := dk_18 27 (dk_at dksX11_bytesAt_6 5 rfl rfl)
theorem dX11_bytesAt_149 : decode cX11_bytesAt 149 = .ok (.if_icmp .lt 30, 3) := dk_161 0 30 (dk_at dksX11_bytesAt_6 7 rfl rfl)
theorem dX11_bytesAt_152 : decode cX11_bytesAt 152 = .ok (.iload 5, 2) := dk_21 5 (dk_at dksX11_bytesAt_6 10 rfl rfl)
theorem dX11_bytesAt_154 : decode cX11_bytesAt 154 = .ok (.ldc 28, 2) := dk_18 28 (dk_at dksX11_bytesAt_6 12 rfl rfl)
theorem dX11_bytesAt_156 : decode cX11_bytesAt 156 = .ok (.if_icmp .gt 23, 3) := dk_163 0 23 (dk_at dksX11_bytesAt_6 14 rfl rfl)
theorem dX11_bytesAt_159 : decode cX11_bytesAt 159 = .ok (.iload 4, 2) := dk_21 4 (dk_at dksX11_bytesAt_6 17 rfl rfl)
theorem dX11_bytesAt_161 : decode cX11_bytesAt 161 = .ok (.iconst 4, 1) := dk_7 (dk_at dksX11_bytesAt_6 19 rfl rfl)
theorem dX11_bytesAt_162 : decode cX11_bytesAt 162 = .ok (.if_icmp .ne 21, 3) := dk_160 0 21 (dk_at dksX11_bytesAt_6 20 rfl rfl)
theorem dX11_bytesAt_165 : decode cX11_bytesAt 165 = .ok (.iload 5, 2) := dk_21 5 (dk_at dksX11_bytesAt_7 0 rfl rfl)
theorem dX11_bytesAt_167 : decode cX11_bytesAt 167 = .ok (.ldc 29, 2) := dk_18 29 (dk_at dksX11_bytesAt_7 2 rfl rfl)
theorem dX11_bytesAt_169 : decode cX11_bytesAt 169 = .ok (.if_icmp .lt 14, 3) := dk_161 0 14 (dk_at dksX11_bytesAt_7 4 rfl rfl)
theorem dX11_bytesAt_172 : decode cX11_bytesAt 172 = .ok (.iload 5, 2) := dk_21 5 (dk_at dksX11_bytesAt_7 7 rfl rfl)
theorem dX11_bytesAt_174 : decode cX11_bytesAt 174 = .ok (.ldc 30, 2) := dk_18 30 (dk_at dksX11_bytesAt_7 9 rfl rfl)
theorem dX11_bytesAt_176 : decode cX11_bytesAt 176 = .ok (.if_icmp .gt 7, 3) := dk_163 0 7 (dk_at dksX11_bytesAt_7 11 rfl rfl)
theorem dX11_bytesAt_179 : decode cX11_bytesAt 179 = .ok (.iconst 1, 1) := dk_4 (dk_at dksX11_bytesAt_7 14 rfl rfl)
theorem dX11_bytesAt_180 : decode cX11_bytesAt 180 = .ok (.goto 4, 3) := dk_167 0 4 (dk_at dksX11_bytesAt_7 15 rfl rfl)
theorem dX11_bytesAt_183 : decode cX11_bytesAt 183 = .ok (.iconst 0, 1) := dk_3 (dk_at dksX11_bytesAt_7 18 rfl rfl)
theorem dX11_bytesAt_184 : decode cX11_bytesAt 184 = .ok (.istore 6, 2) := dk_54 6 (dk_at dksX11_bytesAt_7 19 rfl rfl)
theorem dX11_bytesAt_186 : decode cX11_bytesAt 186 = .ok (.iload 6, 2) := dk_21 6 (dk_at dksX11_bytesAt_7 21 rfl rfl)
theorem dX11_bytesAt_188 : decode cX11_bytesAt 188 = .ok (.ifCond .eq 8, 3) := dk_153 0 8 (dk_at dksX11_bytesAt_8 0 rfl rfl)
theorem dX11_bytesAt_191 : decode cX11_bytesAt 191 = .ok (.iload 4, 2) := dk_21 4 (dk_at dksX11_bytesAt_8 3 rfl rfl)
theorem dX11_bytesAt_193 : decode cX11_bytesAt 193 = .ok (.goto 4, 3) := dk_167 0 4 (dk_at dksX11_bytesAt_8 5 rfl rfl)
theorem dX11_bytesAt_196 : decode cX11_bytesAt 196 = .ok (.iconst 0, 1) := dk_3 (dk_at dksX11_bytesAt_8 8 rfl rfl)
theorem dX11_bytesAt_197 : decode cX11_bytesAt 197 = .ok (.ireturn, 1) := dk_172 (dk_at dksX11_bytesAt_8 9 rfl rfl)
abbrev cX11_isPrintable : ByteArray := prog_4_method_5_code
def yX11_isPrintable : MethodName := ⟨RX11, "isPrintable", "(I)Z"⟩
def dkwX11_isPrintable_3 : List UInt8 := [167, 0, 4, 3, 172]
abbrev dktX11_isPrintable_3 : List UInt8 := dkwX11_isPrintable_3 ++ []
def dkwX11_isPrintable_2 : List UInt8 := [159, 0, 21, 26, 16, 61, 159, 0, 15, 26, 16, 63, 159, 0, 9, 26, 16, 32, 160, 0, 7, 4]
abbrev dktX11_isPrintable_2 : List UInt8 := dkwX11_isPrintable_2 ++ dktX11_isPrintable_3
def dkwX11_isPrintable_1 : List UInt8 := [161, 0, 9, 26, 16, 41, 164, 0, 39, 26, 16, 43, 161, 0, 9, 26, 16, 47, 164, 0, 27, 26, 16, 58]
abbrev dktX11_isPrintable_1 : List UInt8 := dkwX11_isPrintable_1 ++ dktX11_isPrintable_2
def dkwX11_isPrintable_0 : List UInt8 := [26, 184, 0, 23, 154, 0, 63, 26, 16, 48, 161, 0, 9, 26, 16, 57, 164, 0, 51, 26, 16, 39]
abbrev dktX11_isPrintable_0 : List UInt8 := dkwX11_isPrintable_0 ++ dktX11_isPrintable_1
theorem dksX11_isPrintable_0 : cX11_isPrintable.data.toList.drop 0 = dktX11_isPrintable_0 := by decide +kernel
theorem dksX11_isPrintable_1 : cX11_isPrintable.data.toList.drop 22 = dktX11_isPrintable_1 := dk_seg dksX11_isPrintable_0 22 rfl rfl
theorem dksX11_isPrintable_2 : cX11_isPrintable.data.toList.drop 46 = dktX11_isPrintable_2 := dk_seg dksX11_isPrintable_1 24 rfl rfl
theorem dksX11_isPrintable_3 : cX11_isPrintable.data.toList.drop 68 = dktX11_isPrintable_3 := dk_seg dksX11_isPrintable_2 22 rfl rfl
theorem dX11_isPrintable_0 : decode cX11_isPrintable 0 = .ok (.iload_n 0, 1) := dk_26 (dk_at dksX11_isPrintable_0 0 rfl rfl)
theorem dX11_isPrintable_1 : decode cX11_isPrintable 1 = .ok (.invokestatic 23, 3) := dk_184 0 23 (dk_at dksX11_isPrintable_0 1 rfl rfl)
theorem dX11_isPrintable_4 : decode cX11_isPrintable 4 = .ok (.ifCond .ne 63, 3) := dk_154 0 63 (dk_at dksX11_isPrintable_0 4 rfl rfl)
theorem dX11_isPrintable_7 : decode cX11_isPrintable 7 = .ok (.iload_n 0, 1) := dk_26 (dk_at dksX11_isPrintable_0 7 rfl rfl)
theorem dX11_isPrintable_8 : decode cX11_isPrintable 8 = .ok (.bipush 48, 2) := dk_16 48 (dk_at dksX11_isPrintable_0 8 rfl rfl)
theorem dX11_isPrintable_10 : decode cX11_isPrintable 10 = .ok (.if_icmp .lt 9, 3) := dk_161 0 9 (dk_at dksX11_isPrintable_0 10 rfl rfl)
theorem dX11_isPrintable_13 : decode cX11_isPrintable 13 = .ok (.iload_n 0, 1) := dk_26 (dk_at dksX11_isPrintable_0 13 rfl rfl)
theorem dX11_isPrintable_14 : decode cX11_isPrintable 14 = .ok (.bipush 57, 2) := dk_16 57 (dk_at dksX11_isPrintable_0 14 rfl rfl)
theorem dX11_isPrintable_16 : decode cX11_isPrintable 16 = .ok (.if_icmp .le 51, 3) := dk_164 0 51 (dk_at dksX11_isPrintable_0 16 rfl rfl)
theorem dX11_isPrintable_19 : decode cX11_isPrintable 19 = .ok (.iload_n 0, 1) := dk_26 (dk_at dksX11_isPrintable_0 19 rfl rfl)
theorem dX11_isPrintable_20 : decode cX11_isPrintable 20 = .ok (.bipush 39, 2) := dk_16 39 (dk_at dksX11_isPrintable_0 20 rfl rfl)
theorem dX11_isPrintable_22 : decode cX11_isPrintable 22 = .ok (.if_icmp .lt 9, 3) := dk_161 0 9 (dk_at dksX11_isPrintable_1 0 rfl rfl)
theorem dX11_isPrintable_25 : decode cX11_isPrintable 25 = .ok (.iload_n 0, 1) := dk_26 (dk_at dksX11_isPrintable_1 3 rfl rfl)
theorem dX11_isPrintable_26 : decode cX11_isPrintable 26 = .ok (.bipush 41, 2) := dk_16 41 (dk_at dksX11_isPrintable_1 4 rfl rfl)
theorem dX11_isPrintable_28 : decode cX11_isPrintable 28 = .ok (.if_icmp .le 39, 3) := dk_164 0 39 (dk_at dksX11_isPrintable_1 6 rfl rfl)
theorem dX11_isPrintable_31 : decode cX11_isPrintable 31 = .ok (.iload_n 0, 1) := dk_26 (dk_at dksX11_isPrintable_1 9 rfl rfl)
theorem dX11_isPrintable_32 : decode cX11_isPrintable 32 = .ok (.bipush 43, 2) := dk_16 43 (dk_at dksX11_isPrintable_1 10 rfl rfl)
theorem dX11_isPrintable_34 : decode cX11_isPrintable 34 = .ok (.if_icmp .lt 9, 3) := dk_161 0 9 (dk_at dksX11_isPrintable_1 12 rfl rfl)
theorem dX11_isPrintable_37 : decode cX11_isPrintable 37 = .ok (.iload_n 0, 1) := dk_26 (dk_at dksX11_isPrintable_1 15 rfl rfl)
theorem dX11_isPrintable_38 : decode cX11_isPrintable 38 = .ok (.bipush 47, 2) := dk_16 47 (dk_at dksX11_isPrintable_1 16 rfl rfl)
theorem dX11_isPrintable_40 : decode cX11_isPrintable 40 = .ok (.if_icmp .le 27, 3) := dk_164 0 27 (dk_at dksX11_isPrintable_1 18 rfl rfl)
theorem dX11_isPrintable_43 : decode cX11_isPrintable 43 = .ok (.iload_n 0, 1) := dk_26 (dk_at dksX11_isPrintable_1 21 rfl rfl)
theorem dX11_isPrintable_44 : decode cX11_isPrintable 44 = .ok (.bipush 58, 2) := dk_16 58 (dk_at dksX11_isPrintable_1 22 rfl rfl)
theorem dX11_isPrintable_46 : decode cX11_isPrintable 46 = .ok (.if_icmp .eq 21, 3) := dk_159 0 21 (dk_at dksX11_isPrintable_2 0 rfl rfl)
theorem dX11_isPrintable_49 : decode cX11_isPrintable 49 = .ok (.iload_n 0, 1) := dk_26 (dk_at dksX11_isPrintable_2 3 rfl rfl)
theorem dX11_isPrintable_50 : decode cX11_isPrintable 50 = .ok (.bipush 61, 2) := dk_16 61 (dk_at dksX11_isPrintable_2 4 rfl rfl)
theorem dX11_isPrintable_52 : decode cX11_isPrintable 52 = .ok (.if_icmp .eq 15, 3) := dk_159 0 15 (dk_at dksX11_isPrintable_2 6 rfl rfl)
theorem dX11_isPrintable_55 : decode cX11_isPrintable 55 = .ok (.iload_n 0, 1) := dk_26 (dk_at dksX11_isPrintable_2 9 rfl rfl)
theorem dX11_isPrintable_56 : decode cX11_isPrintable 56 = .ok (.bipush 63, 2) := dk_16 63 (dk_at dksX11_isPrintable_2 10 rfl rfl)
theorem dX11_isPrintable_58 : decode cX11_isPrintable 58 = .ok (.if_icmp .eq 9, 3) := dk_159 0 9 (dk_at dksX11_isPrintable_2 12 rfl rfl)
theorem dX11_isPrintable_61 : decode cX11_isPrintable 61 = .ok (.iload_n 0, 1) := dk_26 (dk_at dksX11_isPrintable_2 15 rfl rfl)
theorem dX11_isPrintable_62 : decode cX11_isPrintable 62 = .ok (.bipush 32, 2) := dk_16 32 (dk_at dksX11_isPrintable_2 16 rfl rfl)
theorem dX11_isPrintable_64 : decode cX11_isPrintable 64 = .ok (.if_icmp .ne 7, 3) := dk_160 0 7 (dk_at dksX11_isPrintable_2 18 rfl rfl)
theorem dX11_isPrintable_67 : decode cX11_isPrintable 67 = .ok (.iconst 1, 1) := dk_4 (dk_at dksX11_isPrintable_2 21 rfl rfl)
theorem dX11_isPrintable_68 : decode cX11_isPrintable 68 = .ok (.goto 4, 3) := dk_167 0 4 (dk_at dksX11_isPrintable_3 0 rfl rfl)
theorem dX11_isPrintable_71 : decode cX11_isPrintable 71 = .ok (.iconst 0, 1) := dk_3 (dk_at dksX11_isPrintable_3 3 rfl rfl)
theorem dX11_isPrintable_72 : decode cX11_isPrintable 72 = .ok (.ireturn, 1) := dk_172 (dk_at dksX11_isPrintable_3 4 rfl rfl)
abbrev cX11_isLetter : ByteArray := prog_4_method_4_code
def yX11_isLetter : MethodName := ⟨RX11, "isLetter", "(I)Z"⟩
def dkwX11_isLetter_1 : List UInt8 := [4, 167, 0, 4, 3, 172]
abbrev dktX11_isLetter_1 : List UInt8 := dkwX11_isLetter_1 ++ []
def dkwX11_isLetter_0 : List UInt8 := [26, 16, 65, 161, 0, 9, 26, 16, 90, 164, 0, 15, 26, 16, 97, 161, 0, 13, 26, 16, 122, 163, 0, 7]
abbrev dktX11_isLetter_0 : List UInt8 := dkwX11_isLetter_0 ++ dktX11_isLetter_1
theorem dksX11_isLetter_0 : cX11_isLetter.data.toList.drop 0 = dktX11_isLetter_0 := by decide +kernel
theorem dksX11_isLetter_1 : cX11_isLetter.data.toList.drop 24 = dktX11_isLetter_1 := dk_seg dksX11_isLetter_0 24 rfl rfl
theorem dX11_isLetter_0 : decode cX11_isLetter 0 = .ok (.iload_n 0, 1) := dk_26 (dk_at dksX11_isLetter_0 0 rfl rfl)
theorem dX11_isLetter_1 : decode cX11_isLetter 1 = .ok (.bipush 65, 2) := dk_16 65 (dk_at dksX11_isLetter_0 1 rfl rfl)
theorem dX11_isLetter_3 : decode cX11_isLetter 3 = .ok (.if_icmp .lt 9, 3) := dk_161 0 9 (dk_at dksX11_isLetter_0 3 rfl rfl)
theorem dX11_isLetter_6 : decode cX11_isLetter 6 = .ok (.iload_n 0, 1) := dk_26 (dk_at dksX11_isLetter_0 6 rfl rfl)
theorem dX11_isLetter_7 : decode cX11_isLetter 7 = .ok (.bipush 90, 2) := dk_16 90 (dk_at dksX11_isLetter_0 7 rfl rfl)
theorem dX11_isLetter_9 : decode cX11_isLetter 9 = .ok (.if_icmp .le 15, 3) := dk_164 0 15 (dk_at dksX11_isLetter_0 9 rfl rfl)
theorem dX11_isLetter_12 : decode cX11_isLetter 12 = .ok (.iload_n 0, 1) := dk_26 (dk_at dksX11_isLetter_0 12 rfl rfl)
theorem dX11_isLetter_13 : decode cX11_isLetter 13 = .ok (.bipush 97, 2) := dk_16 97 (dk_at dksX11_isLetter_0 13 rfl rfl)
theorem dX11_isLetter_15 : decode cX11_isLetter 15 = .ok (.if_icmp .lt 13, 3) := dk_161 0 13 (dk_at dksX11_isLetter_0 15 rfl rfl)
theorem dX11_isLetter_18 : decode cX11_isLetter 18 = .ok (.iload_n 0, 1) := dk_26 (dk_at dksX11_isLetter_0 18 rfl rfl)
theorem dX11_isLetter_19 : decode cX11_isLetter 19 = .ok (.bipush 122, 2) := dk_16 122 (dk_at dksX11_isLetter_0 19 rfl rfl)
theorem dX11_isLetter_21 : decode cX11_isLetter 21 = .ok (.if_icmp .gt 7, 3) := dk_163 0 7 (dk_at dksX11_isLetter_0 21 rfl rfl)
theorem dX11_isLetter_24 : decode cX11_isLetter 24 = .ok (.iconst 1, 1) := dk_4 (dk_at dksX11_isLetter_1 0 rfl rfl)
theorem dX11_isLetter_25 : decode cX11_isLetter 25 = .ok (.goto 4, 3) := dk_167 0 4 (dk_at dksX11_isLetter_1 1 rfl rfl)
theorem dX11_isLetter_28 : decode cX11_isLetter 28 = .ok (.iconst 0, 1) := dk_3 (dk_at dksX11_isLetter_1 4 rfl rfl)
theorem dX11_isLetter_29 : decode cX11_isLetter 29 = .ok (.ireturn, 1) := dk_172 (dk_at dksX11_isLetter_1 5 rfl rfl)
abbrev cX11_fault : ByteArray := prog_4_method_9_code
def yX11_fault : MethodName := ⟨RX11, "fault", "(ILSchemaWorkshop$Bytes;II)I"⟩
def dkwX11_fault_3 : List UInt8 := [160, 0, 11, 43, 28, 29, 184, 0, 49, 54, 4, 21, 4, 153, 0, 7, 3, 167, 0, 5, 16, 16, 172]
abbrev dktX11_fault_3 : List UInt8 := dkwX11_fault_3 ++ []
def dkwX11_fault_2 : List UInt8 := [159, 0, 8, 26, 6, 160, 0, 14, 43, 28, 29, 184, 0, 44, 54, 4, 167, 0, 17, 26, 16, 6]
abbrev dktX11_fault_2 : List UInt8 := dkwX11_fault_2 ++ dktX11_fault_3
def dkwX11_fault_1 : List UInt8 := [26, 4, 160, 0, 18, 29, 28, 160, 0, 7, 4, 167, 0, 4, 3, 54, 4, 167, 0, 38, 26, 5]
abbrev dktX11_fault_1 : List UInt8 := dkwX11_fault_1 ++ dktX11_fault_2
def dkwX11_fault_0 : List UInt8 := [4, 54, 4, 26, 154, 0, 20, 29, 28, 100, 4, 160, 0, 7, 4, 167, 0, 4, 3, 54, 4, 167, 0, 58]
abbrev dktX11_fault_0 : List UInt8 := dkwX11_fault_0 ++ dktX11_fault_1
theorem dksX11_fault_0 : cX11_fault.data.toList.drop 0 = dktX11_fault_0 := by decide +kernel
theorem dksX11_fault_1 : cX11_fault.data.toList.drop 24 = dktX11_fault_1 := dk_seg dksX11_fault_0 24 rfl rfl
theorem dksX11_fault_2 : cX11_fault.data.toList.drop 46 = dktX11_fault_2 := dk_seg dksX11_fault_1 22 rfl rfl
theorem dksX11_fault_3 : cX11_fault.data.toList.drop 68 = dktX11_fault_3 := dk_seg dksX11_fault_2 22 rfl rfl
theorem dX11_fault_0 : decode cX11_fault 0 = .ok (.iconst 1, 1) := dk_4 (dk_at dksX11_fault_0 0 rfl rfl)
theorem dX11_fault_1 : decode cX11_fault 1 = .ok (.istore 4, 2) := dk_54 4 (dk_at dksX11_fault_0 1 rfl rfl)
theorem dX11_fault_3 : decode cX11_fault 3 = .ok (.iload_n 0, 1) := dk_26 (dk_at dksX11_fault_0 3 rfl rfl)
theorem dX11_fault_4 : decode cX11_fault 4 = .ok (.ifCond .ne 20, 3) := dk_154 0 20 (dk_at dksX11_fault_0 4 rfl rfl)
theorem dX11_fault_7 : decode cX11_fault 7 = .ok (.iload_n 3, 1) := dk_29 (dk_at dksX11_fault_0 7 rfl rfl)
theorem dX11_fault_8 : decode cX11_fault 8 = .ok (.iload_n 2, 1) := dk_28 (dk_at dksX11_fault_0 8 rfl rfl)
theorem dX11_fault_9 : decode cX11_fault 9 = .ok (.isub, 1) := dk_100 (dk_at dksX11_fault_0 9 rfl rfl)
theorem dX11_fault_10 : decode cX11_fault 10 = .ok (.iconst 1, 1) := dk_4 (dk_at dksX11_fault_0 10 rfl rfl)
theorem dX11_fault_11 : decode cX11_fault 11 = .ok (.if_icmp .ne 7, 3) := dk_160 0 7 (dk_at dksX11_fault_0 11 rfl rfl)
theorem dX11_fault_14 : decode cX11_fault 14 = .ok (.iconst 1, 1) := dk_4 (dk_at dksX11_fault_0 14 rfl rfl)
theorem dX11_fault_15 : decode cX11_fault 15 = .ok (.goto 4, 3) := dk_167 0 4 (dk_at dksX11_fault_0 15 rfl rfl)
theorem dX11_fault_18 : decode cX11_fault 18 = .ok (.iconst 0, 1) := dk_3 (dk_at dksX11_fault_0 18 rfl rfl)
theorem dX11_fault_19 : decode cX11_fault 19 = .ok (.istore 4, 2) := dk_54 4 (dk_at dksX11_fault_0 19 rfl rfl)
theorem dX11_fault_21 : decode cX11_fault 21 = .ok (.goto 58, 3) := dk_167 0 58 (dk_at dksX11_fault_0 21 rfl rfl)
theorem dX11_fault_24 : decode cX11_fault 24 = .ok (.iload_n 0, 1) := dk_26 (dk_at dksX11_fault_1 0 rfl rfl)
theorem dX11_fault_25 : decode cX11_fault 25 = .ok (.iconst 1, 1) := dk_4 (dk_at dksX11_fault_1 1 rfl rfl)
theorem dX11_fault_26 : decode cX11_fault 26 = .ok (.if_icmp .ne 18, 3) := dk_160 0 18 (dk_at dksX11_fault_1 2 rfl rfl)
theorem dX11_fault_29 : decode cX11_fault 29 = .ok (.iload_n 3, 1) := dk_29 (dk_at dksX11_fault_1 5 rfl rfl)
theorem dX11_fault_30 : decode cX11_fault 30 = .ok (.iload_n 2, 1) := dk_28 (dk_at dksX11_fault_1 6 rfl rfl)
theorem dX11_fault_31 : decode cX11_fault 31 = .ok (.if_icmp .ne 7, 3) := dk_160 0 7 (dk_at dksX11_fault_1 7 rfl rfl)
theorem dX11_fault_34 : decode cX11_fault 34 = .ok (.iconst 1, 1) := dk_4 (dk_at dksX11_fault_1 10 rfl rfl)
theorem dX11_fault_35 : decode cX11_fault 35 = .ok (.goto 4, 3) := dk_167 0 4 (dk_at dksX11_fault_1 11 rfl rfl)
theorem dX11_fault_38 : decode cX11_fault 38 = .ok (.iconst 0, 1) := dk_3 (dk_at dksX11_fault_1 14 rfl rfl)
theorem dX11_fault_39 : decode cX11_fault 39 = .ok (.istore 4, 2) := dk_54 4 (dk_at dksX11_fault_1 15 rfl rfl)
theorem dX11_fault_41 : decode cX11_fault 41 = .ok (.goto 38, 3) := dk_167 0 38 (dk_at dksX11_fault_1 17 rfl rfl)
theorem dX11_fault_44 : decode cX11_fault 44 = .ok (.iload_n 0, 1) := dk_26 (dk_at dksX11_fault_1 20 rfl rfl)
theorem dX11_fault_45 : decode cX11_fault 45 = .ok (.iconst 2, 1) := dk_5 (dk_at dksX11_fault_1 21 rfl rfl)
theorem dX11_fault_46 : decode cX11_fault 46 = .ok (.if_icmp .eq 8, 3) := dk_159 0 8 (dk_at dksX11_fault_2 0 rfl rfl)
theorem dX11_fault_49 : decode cX11_fault 49 = .ok (.iload_n 0, 1) := dk_26 (dk_at dksX11_fault_2 3 rfl rfl)
theorem dX11_fault_50 : decode cX11_fault 50 = .ok (.iconst 3, 1) := dk_6 (dk_at dksX11_fault_2 4 rfl rfl)
theorem dX11_fault_51 : decode cX11_fault 51 = .ok (.if_icmp .ne 14, 3) := dk_160 0 14 (dk_at dksX11_fault_2 5 rfl rfl)
theorem dX11_fault_54 : decode cX11_fault 54 = .ok (.aload_n 1, 1) := dk_43 (dk_at dksX11_fault_2 8 rfl rfl)
theorem dX11_fault_55 : decode cX11_fault 55 = .ok (.iload_n 2, 1) := dk_28 (dk_at dksX11_fault_2 9 rfl rfl)
theorem dX11_fault_56 : decode cX11_fault 56 = .ok (.iload_n 3, 1) := dk_29 (dk_at dksX11_fault_2 10 rfl rfl)
theorem dX11_fault_57 : decode cX11_fault 57 = .ok (.invokestatic 44, 3) := dk_184 0 44 (dk_at dksX11_fault_2 11 rfl rfl)
theorem dX11_fault_60 : decode cX11_fault 60 = .ok (.istore 4, 2) := dk_54 4 (dk_at dksX11_fault_2 14 rfl rfl)
theorem dX11_fault_62 : decode cX11_fault 62 = .ok (.goto 17, 3) := dk_167 0 17 (dk_at dksX11_fault_2 16 rfl rfl)
theorem dX11_fault_65 : decode cX11_fault 65 = .ok (.iload_n 0, 1) := dk_26 (dk_at dksX11_fault_2 19 rfl rfl)
theorem dX11_fault_66 : decode cX11_fault 66 = .ok (.bipush 6, 2) := dk_16 6 (dk_at dksX11_fault_2 20 rfl rfl)
theorem dX11_fault_68 : decode cX11_fault 68 = .ok (.if_icmp .ne 11, 3) := dk_160 0 11 (dk_at dksX11_fault_3 0 rfl rfl)
theorem dX11_fault_71 : decode cX11_fault 71 = .ok (.aload_n 1, 1) := dk_43 (dk_at dksX11_fault_3 3 rfl rfl)
theorem dX11_fault_72 : decode cX11_fault 72 = .ok (.iload_n 2, 1) := dk_28 (dk_at dksX11_fault_3 4 rfl rfl)
theorem dX11_fault_73 : decode cX11_fault 73 = .ok (.iload_n 3, 1) := dk_29 (dk_at dksX11_fault_3 5 rfl rfl)
theorem dX11_fault_74 : decode cX11_fault 74 = .ok (.invokestatic 49, 3) := dk_184 0 49 (dk_at dksX11_fault_3 6 rfl rfl)
theorem dX11_fault_77 : decode cX11_fault 77 = .ok (.istore 4, 2) := dk_54 4 (dk_at dksX11_fault_3 9 rfl rfl)
theorem dX11_fault_79 : decode cX11_fault 79 = .ok (.iload 4, 2) := dk_21 4 (dk_at dksX11_fault_3 11 rfl rfl)
theorem dX11_fault_81 : decode cX11_fault 81 = .ok (.ifCond .eq 7, 3) := dk_153 0 7 (dk_at dksX11_fault_3 13 rfl rfl)
theorem dX11_fault_84 : decode cX11_fault 84 = .ok (.iconst 0, 1) := dk_3 (dk_at dksX11_fault_3 16 rfl rfl)
theorem dX11_fault_85 : decode cX11_fault 85 = .ok (.goto 5, 3) := dk_167 0 5 (dk_at dksX11_fault_3 17 rfl rfl)
theorem dX11_fault_88 : decode cX11_fault 88 = .ok (.bipush 16, 2) := dk_16 16 (dk_at dksX11_fault_3 20 rfl rfl)
theorem dX11_fault_90 : decode cX11_fault 90 = .ok (.ireturn, 1) := dk_172 (dk_at dksX11_fault_3 22 rfl rfl)
abbrev cX11_isOid : ByteArray := prog_4_method_3_code
def yX11_isOid : MethodName := ⟨RX11, "isOid", "(LSchemaWorkshop$Bytes;II)Z"⟩
def dkwX11_isOid_2 : List UInt8 := [132, 4, 1, 167, 255, 211, 28, 27, 164, 0, 11, 29, 153, 0, 7, 4, 167, 0, 4, 3, 172]
abbrev dktX11_isOid_2 : List UInt8 := dkwX11_isOid_2 ++ []
def dkwX11_isOid_1 : List UInt8 := [160, 0, 5, 3, 172, 42, 21, 4, 182, 0, 17, 17, 0, 128, 162, 0, 7, 4, 167, 0, 4, 3, 62]
abbrev dktX11_isOid_1 : List UInt8 := dkwX11_isOid_1 ++ dktX11_isOid_2
def dkwX11_isOid_0 : List UInt8 := [4, 62, 27, 54, 4, 21, 4, 28, 162, 0, 45, 29, 153, 0, 17, 42, 21, 4, 182, 0, 17, 17, 0, 128]
abbrev dktX11_isOid_0 : List UInt8 := dkwX11_isOid_0 ++ dktX11_isOid_1
theorem dksX11_isOid_0 : cX11_isOid.data.toList.drop 0 = dktX11_isOid_0 := by decide +kernel
theorem dksX11_isOid_1 : cX11_isOid.data.toList.drop 24 = dktX11_isOid_1 := dk_seg dksX11_isOid_0 24 rfl rfl
theorem dksX11_isOid_2 : cX11_isOid.data.toList.drop 47 = dktX11_isOid_2 := dk_seg dksX11_isOid_1 23 rfl rfl
theorem dX11_isOid_0 : decode cX11_isOid 0 = .ok (.iconst 1, 1) := dk_4 (dk_at dksX11_isOid_0 0 rfl rfl)
theorem dX11_isOid_1 : decode cX11_isOid 1 = .ok (.istore_n 3, 1) := dk_62 (dk_at dksX11_isOid_0 1 rfl rfl)
theorem dX11_isOid_2 : decode cX11_isOid 2 = .ok (.iload_n 1, 1) := dk_27 (dk_at dksX11_isOid_0 2 rfl rfl)
theorem dX11_isOid_3 : decode cX11_isOid 3 = .ok (.istore 4, 2) := dk_54 4 (dk_at dksX11_isOid_0 3 rfl rfl)
theorem dX11_isOid_5 : decode cX11_isOid 5 = .ok (.iload 4, 2) := dk_21 4 (dk_at dksX11_isOid_0 5 rfl rfl)
theorem dX11_isOid_7 : decode cX11_isOid 7 = .ok (.iload_n 2, 1) := dk_28 (dk_at dksX11_isOid_0 7 rfl rfl)
theorem dX11_isOid_8 : decode cX11_isOid 8 = .ok (.if_icmp .ge 45, 3) := dk_162 0 45 (dk_at dksX11_isOid_0 8 rfl rfl)
theorem dX11_isOid_11 : decode cX11_isOid 11 = .ok (.iload_n 3, 1) := dk_29 (dk_at dksX11_isOid_0 11 rfl rfl)
theorem dX11_isOid_12 : decode cX11_isOid 12 = .ok (.ifCond .eq 17, 3) := dk_153 0 17 (dk_at dksX11_isOid_0 12 rfl rfl)
theorem dX11_isOid_15 : decode cX11_isOid 15 = .ok (.aload_n 0, 1) := dk_42 (dk_at dksX11_isOid_0 15 rfl rfl)
theorem dX11_isOid_16 : decode cX11_isOid 16 = .ok (.iload 4, 2) := dk_21 4 (dk_at dksX11_isOid_0 16 rfl rfl)
theorem dX11_isOid_18 : decode cX11_isOid 18 = .ok (.invokevirtual 17, 3) := dk_182 0 17 (dk_at dksX11_isOid_0 18 rfl rfl)
theorem dX11_isOid_21 : decode cX11_isOid 21 = .ok (.sipush 128, 3) := dk_17 0 128 (dk_at dksX11_isOid_0 21 rfl rfl)
theorem dX11_isOid_24 : decode cX11_isOid 24 = .ok (.if_icmp .ne 5, 3) := dk_160 0 5 (dk_at dksX11_isOid_1 0 rfl rfl)
theorem dX11_isOid_27 : decode cX11_isOid 27 = .ok (.iconst 0, 1) := dk_3 (dk_at dksX11_isOid_1 3 rfl rfl)
theorem dX11_isOid_28 : decode cX11_isOid 28 = .ok (.ireturn, 1) := dk_172 (dk_at dksX11_isOid_1 4 rfl rfl)
theorem dX11_isOid_29 : decode cX11_isOid 29 = .ok (.aload_n 0, 1) := dk_42 (dk_at dksX11_isOid_1 5 rfl rfl)
theorem dX11_isOid_30 : decode cX11_isOid 30 = .ok (.iload 4, 2) := dk_21 4 (dk_at dksX11_isOid_1 6 rfl rfl)
theorem dX11_isOid_32 : decode cX11_isOid 32 = .ok (.invokevirtual 17, 3) := dk_182 0 17 (dk_at dksX11_isOid_1 8 rfl rfl)
theorem dX11_isOid_35 : decode cX11_isOid 35 = .ok (.sipush 128, 3) := dk_17 0 128 (dk_at dksX11_isOid_1 11 rfl rfl)
theorem dX11_isOid_38 : decode cX11_isOid 38 = .ok (.if_icmp .ge 7, 3) := dk_162 0 7 (dk_at dksX11_isOid_1 14 rfl rfl)
theorem dX11_isOid_41 : decode cX11_isOid 41 = .ok (.iconst 1, 1) := dk_4 (dk_at dksX11_isOid_1 17 rfl rfl)
theorem dX11_isOid_42 : decode cX11_isOid 42 = .ok (.goto 4, 3) := dk_167 0 4 (dk_at dksX11_isOid_1 18 rfl rfl)
theorem dX11_isOid_45 : decode cX11_isOid 45 = .ok (.iconst 0, 1) := dk_3 (dk_at dksX11_isOid_1 21 rfl rfl)
theorem dX11_isOid_46 : decode cX11_isOid 46 = .ok (.istore_n 3, 1) := dk_62 (dk_at dksX11_isOid_1 22 rfl rfl)
theorem dX11_isOid_47 : decode cX11_isOid 47 = .ok (.iinc 4 1, 3) := dk_132 4 1 (dk_at dksX11_isOid_2 0 rfl rfl)
theorem dX11_isOid_50 : decode cX11_isOid 50 = .ok (.goto (-45), 3) := dk_167 255 211 (dk_at dksX11_isOid_2 3 rfl rfl)
theorem dX11_isOid_53 : decode cX11_isOid 53 = .ok (.iload_n 2, 1) := dk_28 (dk_at dksX11_isOid_2 6 rfl rfl)
theorem dX11_isOid_54 : decode cX11_isOid 54 = .ok (.iload_n 1, 1) := dk_27 (dk_at dksX11_isOid_2 7 rfl rfl)
theorem dX11_isOid_55 : decode cX11_isOid 55 = .ok (.if_icmp .le 11, 3) := dk_164 0 11 (dk_at dksX11_isOid_2 8 rfl rfl)
theorem dX11_isOid_58 : decode cX11_isOid 58 = .ok (.iload_n 3, 1) := dk_29 (dk_at dksX11_isOid_2 11 rfl rfl)
theorem dX11_isOid_59 : decode cX11_isOid 59 = .ok (.ifCond .eq 7, 3) := dk_153 0 7 (dk_at dksX11_isOid_2 12 rfl rfl)
theorem dX11_isOid_62 : decode cX11_isOid 62 = .ok (.iconst 1, 1) := dk_4 (dk_at dksX11_isOid_2 15 rfl rfl)
theorem dX11_isOid_63 : decode cX11_isOid 63 = .ok (.goto 4, 3) := dk_167 0 4 (dk_at dksX11_isOid_2 16 rfl rfl)
theorem dX11_isOid_66 : decode cX11_isOid 66 = .ok (.iconst 0, 1) := dk_3 (dk_at dksX11_isOid_2 19 rfl rfl)
theorem dX11_isOid_67 : decode cX11_isOid 67 = .ok (.ireturn, 1) := dk_172 (dk_at dksX11_isOid_2 20 rfl rfl)
abbrev cX11_characters : ByteArray := prog_4_method_2_code
def yX11_characters : MethodName := ⟨RX11, "characters", "()I"⟩
theorem dX11_characters_0 : decode cX11_characters 0 = .ok (.aload_n 0, 1) := by decide +kernel
theorem dX11_characters_1 : decode cX11_characters 1 = .ok (.getfield 13, 3) := by decide +kernel
theorem dX11_characters_4 : decode cX11_characters 4 = .ok (.ireturn, 1) := by decide +kernel
theorem q308 : (Jvm.Cond.initialized "SchemaWorkshop$Forms") ∈ lw_all := lw_g (lw_at lw_m1 11 rfl) rfl
theorem q609 : (Jvm.Cond.instantiable "SchemaWorkshop$Forms" (4 : Nat)) ∈ lw_all := lw_g (lw_at lw_m2 72 rfl) rfl
theorem q611 : (Jvm.Cond.instanceMethod ({ cls := "SchemaWorkshop$Forms", name := "<init>", desc := "(LSchemaWorkshop$Numbers;)V" } : Jvm.MethodName)) ∈ lw_all := lw_g (lw_at lw_m2 74 rfl) rfl
theorem q612 : (Jvm.Cond.code ({ cls := "SchemaWorkshop$Forms", name := "<init>", desc := "(LSchemaWorkshop$Numbers;)V" } : Jvm.MethodName) prog_4_method_1_code (2 : Nat) (Option.none : Option Jvm.ClassFile.FieldType)) ∈ lw_all := lw_g (lw_at lw_m2 75 rfl) rfl
theorem q613 : (Jvm.Cond.methodLink "SchemaWorkshop$Forms" (1 : Nat) ({ cls := "java/lang/Object", name := "<init>", desc := "()V" } : Jvm.MethodName)) ∈ lw_all := lw_g (lw_at lw_m2 76 rfl) rfl
theorem q614 : (Jvm.Cond.fieldLink "SchemaWorkshop$Forms" (7 : Nat) "SchemaWorkshop$Forms" "numbers" "LSchemaWorkshop$Numbers;") ∈ lw_all := lw_g (lw_at lw_m2 77 rfl) rfl
theorem q615 : (Jvm.Cond.fieldLink "SchemaWorkshop$Forms" (13 : Nat) "SchemaWorkshop$Forms" "characters" "I") ∈ lw_all := lw_g (lw_at lw_m2 78 rfl) rfl
theorem q616 : (Jvm.Cond.fieldLink "SchemaWorkshop$Forms" (62 : Nat) "SchemaWorkshop$Forms" "parts" "I") ∈ lw_all := lw_g (lw_at lw_m2 79 rfl) rfl
theorem q617 : (Jvm.Cond.fieldLink "SchemaWorkshop$Forms" (79 : Nat) "SchemaWorkshop$Forms" "first" "I") ∈ lw_all := lw_g (lw_at lw_m2 80 rfl) rfl
theorem q618 : (Jvm.Cond.laysFinal "SchemaWorkshop$Forms" "SchemaWorkshop$Forms" "numbers" "LSchemaWorkshop$Numbers;") ∈ lw_all := lw_g (lw_at lw_m2 81 rfl) rfl
theorem q619 : (Jvm.Cond.soleField "SchemaWorkshop$Forms" "numbers") ∈ lw_all := lw_g (lw_at lw_m2 82 rfl) rfl
theorem q620 : (Jvm.Cond.lays "SchemaWorkshop$Forms" "SchemaWorkshop$Forms" "characters" "I") ∈ lw_all := lw_g (lw_at lw_m2 83 rfl) rfl
theorem q621 : (Jvm.Cond.soleField "SchemaWorkshop$Forms" "characters") ∈ lw_all := lw_g (lw_at lw_m2 84 rfl) rfl
theorem q622 : (Jvm.Cond.lays "SchemaWorkshop$Forms" "SchemaWorkshop$Forms" "parts" "I") ∈ lw_all := lw_g (lw_at lw_m2 85 rfl) rfl
theorem q623 : (Jvm.Cond.soleField "SchemaWorkshop$Forms" "parts") ∈ lw_all := lw_g (lw_at lw_m2 86 rfl) rfl
theorem q624 : (Jvm.Cond.lays "SchemaWorkshop$Forms" "SchemaWorkshop$Forms" "first" "I") ∈ lw_all := lw_g (lw_at lw_m2 87 rfl) rfl
theorem q625 : (Jvm.Cond.soleField "SchemaWorkshop$Forms" "first") ∈ lw_all := lw_g (lw_at lw_m2 88 rfl) rfl
theorem q626 : (Jvm.Cond.superclass "SchemaWorkshop$Forms" "java/lang/Object") ∈ lw_all := lw_g (lw_at lw_m2 89 rfl) rfl
theorem q1745 : (Jvm.Cond.static ({ cls := "SchemaWorkshop$Forms", name := "bits", desc := "(LSchemaWorkshop$Bytes;II)I" } : Jvm.MethodName)) ∈ lw_all := lw_g (lw_at lw_m7 8 rfl) rfl
theorem q1746 : (Jvm.Cond.code ({ cls := "SchemaWorkshop$Forms", name := "bits", desc := "(LSchemaWorkshop$Bytes;II)I" } : Jvm.MethodName) prog_4_method_10_code (3 : Nat) (Option.some Jvm.ClassFile.FieldType.int)) ∈ lw_all := lw_g (lw_at lw_m7 9 rfl) rfl
theorem q1747 : (Jvm.Cond.methodLink "SchemaWorkshop$Forms" (17 : Nat) ({ cls := "SchemaWorkshop$Bytes", name := "at", desc := "(I)I" } : Jvm.MethodName)) ∈ lw_all := lw_g (lw_at lw_m7 10 rfl) rfl
theorem q1763 : (Jvm.Cond.static ({ cls := "SchemaWorkshop$Forms", name := "needed", desc := "(LSchemaWorkshop$Bytes;II)I" } : Jvm.MethodName)) ∈ lw_all := lw_g (lw_at lw_m7 26 rfl) rfl
theorem q1764 : (Jvm.Cond.code ({ cls := "SchemaWorkshop$Forms", name := "needed", desc := "(LSchemaWorkshop$Bytes;II)I" } : Jvm.MethodName) prog_4_method_12_code (4 : Nat) (Option.some Jvm.ClassFile.FieldType.int)) ∈ lw_all := lw_g (lw_at lw_m7 27 rfl) rfl
theorem q1765 : (Jvm.Cond.methodLink "SchemaWorkshop$Forms" (52 : Nat) ({ cls := "SchemaWorkshop$Forms", name := "bits", desc := "(LSchemaWorkshop$Bytes;II)I" } : Jvm.MethodName)) ∈ lw_all := lw_g (lw_at lw_m7 28 rfl) rfl
theorem q1766 : (Jvm.Cond.methodLink "SchemaWorkshop$Forms" (55 : Nat) ({ cls := "SchemaWorkshop$Forms", name := "bit", desc := "(LSchemaWorkshop$Bytes;II)Z" } : Jvm.MethodName)) ∈ lw_all := lw_g (lw_at lw_m7 29 rfl) rfl
theorem q1767 : (Jvm.Cond.static ({ cls := "SchemaWorkshop$Forms", name := "bit", desc := "(LSchemaWorkshop$Bytes;II)Z" } : Jvm.MethodName)) ∈ lw_all := lw_g (lw_at lw_m7 30 rfl) rfl
theorem q1768 : (Jvm.Cond.code ({ cls := "SchemaWorkshop$Forms", name := "bit", desc := "(LSchemaWorkshop$Bytes;II)Z" } : Jvm.MethodName) prog_4_method_11_code (3 : Nat) (Option.some Jvm.ClassFile.FieldType.boolean)) ∈ lw_all := lw_g (lw_at lw_m7 31 rfl) rfl
theorem q1778 : (Jvm.Cond.static ({ cls := "SchemaWorkshop$Forms", name := "write", desc := "(LSchemaWorkshop$Bytes;IIILSchemaWorkshop$Bytes;)V" } : Jvm.MethodName)) ∈ lw_all := lw_g (lw_at lw_m7 41 rfl) rfl
theorem q1779 : (Jvm.Cond.code ({ cls := "SchemaWorkshop$Forms", name := "write", desc := "(LSchemaWorkshop$Bytes;IIILSchemaWorkshop$Bytes;)V" } : Jvm.MethodName) prog_4_method_13_code (9 : Nat) (Option.none : Option Jvm.ClassFile.FieldType)) ∈ lw_all := lw_g (lw_at lw_m7 42 rfl) rfl
theorem q1780 : (Jvm.Cond.methodLink "SchemaWorkshop$Forms" (58 : Nat) ({ cls := "SchemaWorkshop$Bytes", name := "add", desc := "(I)V" } : Jvm.MethodName)) ∈ lw_all := lw_g (lw_at lw_m7 43 rfl) rfl
theorem q1805 : (Jvm.Cond.instanceMethod ({ cls := "SchemaWorkshop$Forms", name := "beginOid", desc := "()V" } : Jvm.MethodName)) ∈ lw_all := lw_g (lw_at lw_m7 68 rfl) rfl
theorem q1806 : (Jvm.Cond.selects "SchemaWorkshop$Forms" ({ cls := "SchemaWorkshop$Forms", name := "beginOid", desc := "()V" } : Jvm.MethodName) ({ cls := "SchemaWorkshop$Forms", name := "beginOid", desc := "()V" } : Jvm.MethodName)) ∈ lw_all := lw_g (lw_at lw_m7 69 rfl) rfl
theorem q1807 : (Jvm.Cond.code ({ cls := "SchemaWorkshop$Forms", name := "beginOid", desc := "()V" } : Jvm.MethodName) prog_4_method_14_code (1 : Nat) (Option.none : Option Jvm.ClassFile.FieldType)) ∈ lw_all := lw_g (lw_at lw_m7 70 rfl) rfl
theorem q1824 : (Jvm.Cond.instanceMethod ({ cls := "SchemaWorkshop$Forms", name := "addOid", desc := "(ILSchemaWorkshop$Bytes;)Z" } : Jvm.MethodName)) ∈ lw_all := lw_g (lw_at lw_m7 87 rfl) rfl
theorem q1825 : (Jvm.Cond.selects "SchemaWorkshop$Forms" ({ cls := "SchemaWorkshop$Forms", name := "addOid", desc := "(ILSchemaWorkshop$Bytes;)Z" } : Jvm.MethodName) ({ cls := "SchemaWorkshop$Forms", name := "addOid", desc := "(ILSchemaWorkshop$Bytes;)Z" } : Jvm.MethodName)) ∈ lw_all := lw_g (lw_at lw_m7 88 rfl) rfl
theorem q1826 : (Jvm.Cond.code ({ cls := "SchemaWorkshop$Forms", name := "addOid", desc := "(ILSchemaWorkshop$Bytes;)Z" } : Jvm.MethodName) prog_4_method_16_code (3 : Nat) (Option.some Jvm.ClassFile.FieldType.boolean)) ∈ lw_all := lw_g (lw_at lw_m7 89 rfl) rfl
theorem q1827 : (Jvm.Cond.methodLink "SchemaWorkshop$Forms" (73 : Nat) ({ cls := "SchemaWorkshop$Numbers", name := "set", desc := "(I)V" } : Jvm.MethodName)) ∈ lw_all := lw_g (lw_at lw_m7 90 rfl) rfl
theorem q1828 : (Jvm.Cond.methodLink "SchemaWorkshop$Forms" (69 : Nat) ({ cls := "SchemaWorkshop$Forms", name := "addOid", desc := "(LSchemaWorkshop$Bytes;)Z" } : Jvm.MethodName)) ∈ lw_all := lw_g (lw_at lw_m7 91 rfl) rfl
theorem q1829 : (Jvm.Cond.privateMethod ({ cls := "SchemaWorkshop$Forms", name := "addOid", desc := "(LSchemaWorkshop$Bytes;)Z" } : Jvm.MethodName)) ∈ lw_tbl := lw_at lw_m7 92 rfl
theorem q1830 : (Jvm.Cond.instanceMethod ({ cls := "SchemaWorkshop$Forms", name := "addOid", desc := "(LSchemaWorkshop$Bytes;)Z" } : Jvm.MethodName)) ∈ lw_all := lw_g (lw_at lw_m7 93 rfl) rfl
theorem q1831 : (Jvm.Cond.code ({ cls := "SchemaWorkshop$Forms", name := "addOid", desc := "(LSchemaWorkshop$Bytes;)Z" } : Jvm.MethodName) prog_4_method_17_code (2 : Nat) (Option.some Jvm.ClassFile.FieldType.boolean)) ∈ lw_all := lw_g (lw_at lw_m7 94 rfl) rfl
theorem q1832 : (Jvm.Cond.methodLink "SchemaWorkshop$Forms" (76 : Nat) ({ cls := "SchemaWorkshop$Numbers", name := "small", desc := "(I)I" } : Jvm.MethodName)) ∈ lw_all := lw_g (lw_at lw_m7 95 rfl) rfl
theorem q1836 : (Jvm.Cond.methodLink "SchemaWorkshop$Forms" (82 : Nat) ({ cls := "SchemaWorkshop$Numbers", name := "groups", desc := "(ILSchemaWorkshop$Bytes;)V" } : Jvm.MethodName)) ∈ lw_all := lw_g (lw_at lw_m7 99 rfl) rfl
theorem q1846 : (Jvm.Cond.instanceMethod ({ cls := "SchemaWorkshop$Forms", name := "addOid", desc := "(LSchemaWorkshop$Bytes;IILSchemaWorkshop$Bytes;)Z" } : Jvm.MethodName)) ∈ lw_all := lw_g (lw_at lw_m7 109 rfl) rfl
theorem q1847 : (Jvm.Cond.selects "SchemaWorkshop$Forms" ({ cls := "SchemaWorkshop$Forms", name := "addOid", desc := "(LSchemaWorkshop$Bytes;IILSchemaWorkshop$Bytes;)Z" } : Jvm.MethodName) ({ cls := "SchemaWorkshop$Forms", name := "addOid", desc := "(LSchemaWorkshop$Bytes;IILSchemaWorkshop$Bytes;)Z" } : Jvm.MethodName)) ∈ lw_all := lw_g (lw_at lw_m7 110 rfl) rfl
theorem q1848 : (Jvm.Cond.code ({ cls := "SchemaWorkshop$Forms", name := "addOid", desc := "(LSchemaWorkshop$Bytes;IILSchemaWorkshop$Bytes;)Z" } : Jvm.MethodName) prog_4_method_15_code (5 : Nat) (Option.some Jvm.ClassFile.FieldType.boolean)) ∈ lw_all := lw_g (lw_at lw_m7 111 rfl) rfl
theorem q1849 : (Jvm.Cond.methodLink "SchemaWorkshop$Forms" (65 : Nat) ({ cls := "SchemaWorkshop$Numbers", name := "read", desc := "(LSchemaWorkshop$Bytes;II)V" } : Jvm.MethodName)) ∈ lw_all := lw_g (lw_at lw_m7 112 rfl) rfl
theorem q1851 : (Jvm.Cond.instanceMethod ({ cls := "SchemaWorkshop$Forms", name := "endsOid", desc := "()Z" } : Jvm.MethodName)) ∈ lw_all := lw_g (lw_at lw_m7 114 rfl) rfl
theorem q1852 : (Jvm.Cond.selects "SchemaWorkshop$Forms" ({ cls := "SchemaWorkshop$Forms", name := "endsOid", desc := "()Z" } : Jvm.MethodName) ({ cls := "SchemaWorkshop$Forms", name := "endsOid", desc := "()Z" } : Jvm.MethodName)) ∈ lw_all := lw_g (lw_at lw_m7 115 rfl) rfl
theorem q1853 : (Jvm.Cond.code ({ cls := "SchemaWorkshop$Forms", name := "endsOid", desc := "()Z" } : Jvm.MethodName) prog_4_method_18_code (1 : Nat) (Option.some Jvm.ClassFile.FieldType.boolean)) ∈ lw_all := lw_g (lw_at lw_m7 116 rfl) rfl
theorem q1910 : (Jvm.Cond.instanceMethod ({ cls := "SchemaWorkshop$Forms", name := "isString", desc := "(ILSchemaWorkshop$Bytes;II)Z" } : Jvm.MethodName)) ∈ lw_all := lw_g (lw_at lw_m7 173 rfl) rfl
theorem q1911 : (Jvm.Cond.selects "SchemaWorkshop$Forms" ({ cls := "SchemaWorkshop$Forms", name := "isString", desc := "(ILSchemaWorkshop$Bytes;II)Z" } : Jvm.MethodName) ({ cls := "SchemaWorkshop$Forms", name := "isString", desc := "(ILSchemaWorkshop$Bytes;II)Z" } : Jvm.MethodName)) ∈ lw_all := lw_g (lw_at lw_m7 174 rfl) rfl
theorem q1912 : (Jvm.Cond.code ({ cls := "SchemaWorkshop$Forms", name := "isString", desc := "(ILSchemaWorkshop$Bytes;II)Z" } : Jvm.MethodName) prog_4_method_8_code (6 : Nat) (Option.some Jvm.ClassFile.FieldType.boolean)) ∈ lw_all := lw_g (lw_at lw_m7 175 rfl) rfl
theorem q1913 : (Jvm.Cond.methodLink "SchemaWorkshop$Forms" (37 : Nat) ({ cls := "SchemaWorkshop$Forms", name := "isUtf8", desc := "(LSchemaWorkshop$Bytes;II)Z" } : Jvm.MethodName)) ∈ lw_all := lw_g (lw_at lw_m7 176 rfl) rfl
theorem q1914 : (Jvm.Cond.privateMethod ({ cls := "SchemaWorkshop$Forms", name := "isUtf8", desc := "(LSchemaWorkshop$Bytes;II)Z" } : Jvm.MethodName)) ∈ lw_tbl := lw_at lw_m7 177 rfl
theorem q1915 : (Jvm.Cond.instanceMethod ({ cls := "SchemaWorkshop$Forms", name := "isUtf8", desc := "(LSchemaWorkshop$Bytes;II)Z" } : Jvm.MethodName)) ∈ lw_all := lw_g (lw_at lw_m7 178 rfl) rfl
theorem q1916 : (Jvm.Cond.code ({ cls := "SchemaWorkshop$Forms", name := "isUtf8", desc := "(LSchemaWorkshop$Bytes;II)Z" } : Jvm.MethodName) prog_4_method_7_code (6 : Nat) (Option.some Jvm.ClassFile.FieldType.boolean)) ∈ lw_all := lw_g (lw_at lw_m7 179 rfl) rfl
theorem q1917 : (Jvm.Cond.methodLink "SchemaWorkshop$Forms" (31 : Nat) ({ cls := "SchemaWorkshop$Forms", name := "bytesAt", desc := "(LSchemaWorkshop$Bytes;II)I" } : Jvm.MethodName)) ∈ lw_all := lw_g (lw_at lw_m7 180 rfl) rfl
theorem q1918 : (Jvm.Cond.static ({ cls := "SchemaWorkshop$Forms", name := "bytesAt", desc := "(LSchemaWorkshop$Bytes;II)I" } : Jvm.MethodName)) ∈ lw_all := lw_g (lw_at lw_m7 181 rfl) rfl
theorem q1919 : (Jvm.Cond.code ({ cls := "SchemaWorkshop$Forms", name := "bytesAt", desc := "(LSchemaWorkshop$Bytes;II)I" } : Jvm.MethodName) prog_4_method_6_code (7 : Nat) (Option.some Jvm.ClassFile.FieldType.int)) ∈ lw_all := lw_g (lw_at lw_m7 182 rfl) rfl
theorem q1920 : (Jvm.Cond.constant "SchemaWorkshop$Forms" (27 : Nat) (55296 : Int32)) ∈ lw_all := lw_g (lw_at lw_m7 183 rfl) rfl
theorem q1921 : (Jvm.Cond.constant "SchemaWorkshop$Forms" (28 : Nat) (57343 : Int32)) ∈ lw_all := lw_g (lw_at lw_m7 184 rfl) rfl
theorem q1922 : (Jvm.Cond.constant "SchemaWorkshop$Forms" (29 : Nat) (65536 : Int32)) ∈ lw_all := lw_g (lw_at lw_m7 185 rfl) rfl
theorem q1923 : (Jvm.Cond.constant "SchemaWorkshop$Forms" (30 : Nat) (1114111 : Int32)) ∈ lw_all := lw_g (lw_at lw_m7 186 rfl) rfl
theorem q1924 : (Jvm.Cond.methodLink "SchemaWorkshop$Forms" (41 : Nat) ({ cls := "SchemaWorkshop$Forms", name := "isPrintable", desc := "(I)Z" } : Jvm.MethodName)) ∈ lw_all := lw_g (lw_at lw_m7 187 rfl) rfl
theorem q1925 : (Jvm.Cond.static ({ cls := "SchemaWorkshop$Forms", name := "isPrintable", desc := "(I)Z" } : Jvm.MethodName)) ∈ lw_all := lw_g (lw_at lw_m7 188 rfl) rfl
theorem q1926 : (Jvm.Cond.code ({ cls := "SchemaWorkshop$Forms", name := "isPrintable", desc := "(I)Z" } : Jvm.MethodName) prog_4_method_5_code (1 : Nat) (Option.some Jvm.ClassFile.FieldType.boolean)) ∈ lw_all := lw_g (lw_at lw_m7 189 rfl) rfl
theorem q1927 : (Jvm.Cond.methodLink "SchemaWorkshop$Forms" (23 : Nat) ({ cls := "SchemaWorkshop$Forms", name := "isLetter", desc := "(I)Z" } : Jvm.MethodName)) ∈ lw_all := lw_g (lw_at lw_m7 190 rfl) rfl
theorem q1928 : (Jvm.Cond.static ({ cls := "SchemaWorkshop$Forms", name := "isLetter", desc := "(I)Z" } : Jvm.MethodName)) ∈ lw_all := lw_g (lw_at lw_m7 191 rfl) rfl
theorem q1929 : (Jvm.Cond.code ({ cls := "SchemaWorkshop$Forms", name := "isLetter", desc := "(I)Z" } : Jvm.MethodName) prog_4_method_4_code (1 : Nat) (Option.some Jvm.ClassFile.FieldType.boolean)) ∈ lw_all := lw_g (lw_at lw_m7 192 rfl) rfl
theorem q2205 : (Jvm.Cond.static ({ cls := "SchemaWorkshop$Forms", name := "fault", desc := "(ILSchemaWorkshop$Bytes;II)I" } : Jvm.MethodName)) ∈ lw_all := lw_g (lw_at lw_m8 228 rfl) rfl
theorem q2206 : (Jvm.Cond.code ({ cls := "SchemaWorkshop$Forms", name := "fault", desc := "(ILSchemaWorkshop$Bytes;II)I" } : Jvm.MethodName) prog_4_method_9_code (5 : Nat) (Option.some Jvm.ClassFile.FieldType.int)) ∈ lw_all := lw_g (lw_at lw_m8 229 rfl) rfl
theorem q2207 : (Jvm.Cond.methodLink "SchemaWorkshop$Forms" (44 : Nat) ({ cls := "SchemaWorkshop$Numbers", name := "isShort", desc := "(LSchemaWorkshop$Bytes;II)Z" } : Jvm.MethodName)) ∈ lw_all := lw_g (lw_at lw_m8 230 rfl) rfl
theorem q2210 : (Jvm.Cond.methodLink "SchemaWorkshop$Forms" (49 : Nat) ({ cls := "SchemaWorkshop$Forms", name := "isOid", desc := "(LSchemaWorkshop$Bytes;II)Z" } : Jvm.MethodName)) ∈ lw_all := lw_g (lw_at lw_m8 233 rfl) rfl
theorem q2211 : (Jvm.Cond.static ({ cls := "SchemaWorkshop$Forms", name := "isOid", desc := "(LSchemaWorkshop$Bytes;II)Z" } : Jvm.MethodName)) ∈ lw_all := lw_g (lw_at lw_m8 234 rfl) rfl
theorem q2212 : (Jvm.Cond.code ({ cls := "SchemaWorkshop$Forms", name := "isOid", desc := "(LSchemaWorkshop$Bytes;II)Z" } : Jvm.MethodName) prog_4_method_3_code (5 : Nat) (Option.some Jvm.ClassFile.FieldType.boolean)) ∈ lw_all := lw_g (lw_at lw_m8 235 rfl) rfl
theorem q2240 : (Jvm.Cond.instanceMethod ({ cls := "SchemaWorkshop$Forms", name := "characters", desc := "()I" } : Jvm.MethodName)) ∈ lw_all := lw_g (lw_at lw_m9 23 rfl) rfl
theorem q2241 : (Jvm.Cond.selects "SchemaWorkshop$Forms" ({ cls := "SchemaWorkshop$Forms", name := "characters", desc := "()I" } : Jvm.MethodName) ({ cls := "SchemaWorkshop$Forms", name := "characters", desc := "()I" } : Jvm.MethodName)) ∈ lw_all := lw_g (lw_at lw_m9 24 rfl) rfl
theorem q2242 : (Jvm.Cond.code ({ cls := "SchemaWorkshop$Forms", name := "characters", desc := "()I" } : Jvm.MethodName) prog_4_method_2_code (1 : Nat) (Option.some Jvm.ClassFile.FieldType.int)) ∈ lw_all := lw_g (lw_at lw_m9 25 rfl) rfl
theorem in_X11 : ∀ w ∈ wsX110, w ∈ lw_all := lw_in wsX110 [618, 620, 622, 624] (by decide +kernel) (by decide +kernel)

/-! SchemaWorkshop$Lexemes -/
set_option maxRecDepth 100000
def RX3 : String := "SchemaWorkshop$Lexemes"
def TX3 : u_T := fun k => match k with
  | 0 => ("SchemaWorkshop$Lexemes", "signs", "Ljava/lang/String;", true)
  | 1 => ("SchemaWorkshop$Lexemes", "words", "[Ljava/lang/String;", true)
  | 2 => ("SchemaWorkshop$Lexemes", "text", "LSchemaWorkshop$Bytes;", false)
  | 3 => ("SchemaWorkshop$Lexemes", "at", "I", false)
  | 4 => ("SchemaWorkshop$Lexemes", "kinds", "[I", false)
  | 5 => ("SchemaWorkshop$Lexemes", "starts", "[I", false)
  | 6 => ("SchemaWorkshop$Lexemes", "ends", "[I", false)
  | _ => ("SchemaWorkshop$Lexemes", "size", "I", false)
def tyX3 : Nat → FieldType := fun k => match k with
  | 0 => .object "java/lang/String"
  | 1 => .array (.object "java/lang/String")
  | 2 => .object "SchemaWorkshop$Bytes"
  | 3 => .int
  | 4 => .array .int
  | 5 => .array .int
  | 6 => .array .int
  | _ => .int
abbrev wsX30 : List Cond := u_ws RX3 TX3 8
theorem nmX3 : ∀ a, a < 8 → ∀ b, b < 8 → a ≠ b → (TX3 a).2.1 ≠ (TX3 b).2.1 := by decide +kernel
theorem tyX3_ok : ∀ k, k < 8 → parseFieldDescriptor (TX3 k).2.2.1 = some (tyX3 k) := by decide +kernel
abbrev cX3_init : ByteArray := prog_6_method_1_code
def yX3_init : MethodName := ⟨RX3, "<init>", "()V"⟩
def dkwX3_init_20 : List UInt8 := [188, 10, 181, 0, 177, 42, 16, 64, 188, 10, 181, 0, 181, 42, 16, 64, 188, 10, 181, 0, 184, 177]
abbrev dktX3_init_20 : List UInt8 := dkwX3_init_20 ++ []
def dkwX3_init_19 : List UInt8 := [16, 74, 18, 167, 83, 89, 16, 75, 18, 169, 83, 89, 16, 76, 18, 171, 83, 181, 0, 173, 42, 16, 64]
abbrev dktX3_init_19 : List UInt8 := dkwX3_init_19 ++ dktX3_init_20
def dkwX3_init_18 : List UInt8 := [16, 70, 18, 159, 83, 89, 16, 71, 18, 161, 83, 89, 16, 72, 18, 163, 83, 89, 16, 73, 18, 165, 83, 89]
abbrev dktX3_init_18 : List UInt8 := dkwX3_init_18 ++ dktX3_init_19
def dkwX3_init_17 : List UInt8 := [16, 66, 18, 151, 83, 89, 16, 67, 18, 153, 83, 89, 16, 68, 18, 155, 83, 89, 16, 69, 18, 157, 83, 89]
abbrev dktX3_init_17 : List UInt8 := dkwX3_init_17 ++ dktX3_init_18
def dkwX3_init_16 : List UInt8 := [16, 62, 18, 143, 83, 89, 16, 63, 18, 145, 83, 89, 16, 64, 18, 147, 83, 89, 16, 65, 18, 149, 83, 89]
abbrev dktX3_init_16 : List UInt8 := dkwX3_init_16 ++ dktX3_init_17
def dkwX3_init_15 : List UInt8 := [16, 58, 18, 135, 83, 89, 16, 59, 18, 137, 83, 89, 16, 60, 18, 139, 83, 89, 16, 61, 18, 141, 83, 89]
abbrev dktX3_init_15 : List UInt8 := dkwX3_init_15 ++ dktX3_init_16
def dkwX3_init_14 : List UInt8 := [16, 54, 18, 127, 83, 89, 16, 55, 18, 129, 83, 89, 16, 56, 18, 131, 83, 89, 16, 57, 18, 133, 83, 89]
abbrev dktX3_init_14 : List UInt8 := dkwX3_init_14 ++ dktX3_init_15
def dkwX3_init_13 : List UInt8 := [16, 50, 18, 119, 83, 89, 16, 51, 18, 121, 83, 89, 16, 52, 18, 123, 83, 89, 16, 53, 18, 125, 83, 89]
abbrev dktX3_init_13 : List UInt8 := dkwX3_init_13 ++ dktX3_init_14
def dkwX3_init_12 : List UInt8 := [16, 46, 18, 111, 83, 89, 16, 47, 18, 113, 83, 89, 16, 48, 18, 115, 83, 89, 16, 49, 18, 117, 83, 89]
abbrev dktX3_init_12 : List UInt8 := dkwX3_init_12 ++ dktX3_init_13
def dkwX3_init_11 : List UInt8 := [16, 42, 18, 103, 83, 89, 16, 43, 18, 105, 83, 89, 16, 44, 18, 107, 83, 89, 16, 45, 18, 109, 83, 89]
abbrev dktX3_init_11 : List UInt8 := dkwX3_init_11 ++ dktX3_init_12
def dkwX3_init_10 : List UInt8 := [16, 38, 18, 95, 83, 89, 16, 39, 18, 97, 83, 89, 16, 40, 18, 99, 83, 89, 16, 41, 18, 101, 83, 89]
abbrev dktX3_init_10 : List UInt8 := dkwX3_init_10 ++ dktX3_init_11
def dkwX3_init_9 : List UInt8 := [16, 34, 18, 87, 83, 89, 16, 35, 18, 89, 83, 89, 16, 36, 18, 91, 83, 89, 16, 37, 18, 93, 83, 89]
abbrev dktX3_init_9 : List UInt8 := dkwX3_init_9 ++ dktX3_init_10
def dkwX3_init_8 : List UInt8 := [16, 30, 18, 79, 83, 89, 16, 31, 18, 81, 83, 89, 16, 32, 18, 83, 83, 89, 16, 33, 18, 85, 83, 89]
abbrev dktX3_init_8 : List UInt8 := dkwX3_init_8 ++ dktX3_init_9
def dkwX3_init_7 : List UInt8 := [16, 26, 18, 71, 83, 89, 16, 27, 18, 73, 83, 89, 16, 28, 18, 75, 83, 89, 16, 29, 18, 77, 83, 89]
abbrev dktX3_init_7 : List UInt8 := dkwX3_init_7 ++ dktX3_init_8
def dkwX3_init_6 : List UInt8 := [16, 22, 18, 63, 83, 89, 16, 23, 18, 65, 83, 89, 16, 24, 18, 67, 83, 89, 16, 25, 18, 69, 83, 89]
abbrev dktX3_init_6 : List UInt8 := dkwX3_init_6 ++ dktX3_init_7
def dkwX3_init_5 : List UInt8 := [16, 18, 18, 55, 83, 89, 16, 19, 18, 57, 83, 89, 16, 20, 18, 59, 83, 89, 16, 21, 18, 61, 83, 89]
abbrev dktX3_init_5 : List UInt8 := dkwX3_init_5 ++ dktX3_init_6
def dkwX3_init_4 : List UInt8 := [16, 14, 18, 47, 83, 89, 16, 15, 18, 49, 83, 89, 16, 16, 18, 51, 83, 89, 16, 17, 18, 53, 83, 89]
abbrev dktX3_init_4 : List UInt8 := dkwX3_init_4 ++ dktX3_init_5
def dkwX3_init_3 : List UInt8 := [16, 10, 18, 39, 83, 89, 16, 11, 18, 41, 83, 89, 16, 12, 18, 43, 83, 89, 16, 13, 18, 45, 83, 89]
abbrev dktX3_init_3 : List UInt8 := dkwX3_init_3 ++ dktX3_init_4
def dkwX3_init_2 : List UInt8 := [16, 6, 18, 31, 83, 89, 16, 7, 18, 33, 83, 89, 16, 8, 18, 35, 83, 89, 16, 9, 18, 37, 83, 89]
abbrev dktX3_init_2 : List UInt8 := dkwX3_init_2 ++ dktX3_init_3
def dkwX3_init_1 : List UInt8 := [18, 21, 83, 89, 5, 18, 23, 83, 89, 6, 18, 25, 83, 89, 7, 18, 27, 83, 89, 8, 18, 29, 83, 89]
abbrev dktX3_init_1 : List UInt8 := dkwX3_init_1 ++ dktX3_init_2
def dkwX3_init_0 : List UInt8 := [42, 183, 0, 3, 42, 18, 9, 181, 0, 11, 42, 16, 77, 189, 0, 17, 89, 3, 18, 19, 83, 89, 4]
abbrev dktX3_init_0 : List UInt8 := dkwX3_init_0 ++ dktX3_init_1
theorem dksX3_init_0 : cX3_init.data.toList.drop 0 = dktX3_init_0 := by decide +kernel
theorem dksX3_init_1 : cX3_init.data.toList.drop 23 = dktX3_init_1 := dk_seg dksX3_init_0 23 rfl rfl
theorem dksX3_init_2 : cX3_init.data.toList.drop 47 = dktX3_init_2 := dk_seg dksX3_init_1 24 rfl rfl
theorem dksX3_init_3 : cX3_init.data.toList.drop 71 = dktX3_init_3 := dk_seg dksX3_init_2 24 rfl rfl
theorem dksX3_init_4 : cX3_init.data.toList.drop 95 = dktX3_init_4 := dk_seg dksX3_init_3 24 rfl rfl
theorem dksX3_init_5 : cX3_init.data.toList.drop 119 = dktX3_init_5 := dk_seg dksX3_init_4 24 rfl rfl
theorem dksX3_init_6 : cX3_init.data.toList.drop 143 = dktX3_init_6 := dk_seg dksX3_init_5 24 rfl rfl
theorem dksX3_init_7 : cX3_init.data.toList.drop 167 = dktX3_init_7 := dk_seg dksX3_init_6 24 rfl rfl
theorem dksX3_init_8 : cX3_init.data.toList.drop 191 = dktX3_init_8 := dk_seg dksX3_init_7 24 rfl rfl
theorem dksX3_init_9 : cX3_init.data.toList.drop 215 = dktX3_init_9 := dk_seg dksX3_init_8 24 rfl rfl
theorem dksX3_init_10 : cX3_init.data.toList.drop 239 = dktX3_init_10 := dk_seg dksX3_init_9 24 rfl rfl
theorem dksX3_init_11 : cX3_init.data.toList.drop 263 = dktX3_init_11 := dk_seg dksX3_init_10 24 rfl rfl
theorem dksX3_init_12 : cX3_init.data.toList.drop 287 = dktX3_init_12 := dk_seg dksX3_init_11 24 rfl rfl
theorem dksX3_init_13 : cX3_init.data.toList.drop 311 = dktX3_init_13 := dk_seg dksX3_init_12 24 rfl rfl
theorem dksX3_init_14 : cX3_init.data.toList.drop 335 = dktX3_init_14 := dk_seg dksX3_init_13 24 rfl rfl
theorem dksX3_init_15 : cX3_init.data.toList.drop 359 = dktX3_init_15 := dk_seg dksX3_init_14 24 rfl rfl
theorem dksX3_init_16 : cX3_init.data.toList.drop 383 = dktX3_init_16 := dk_seg dksX3_init_15 24 rfl rfl
theorem dksX3_init_17 : cX3_init.data.toList.drop 407 = dktX3_init_17 := dk_seg dksX3_init_16 24 rfl rfl
theorem dksX3_init_18 : cX3_init.data.toList.drop 431 = dktX3_init_18 := dk_seg dksX3_init_17 24 rfl rfl
theorem dksX3_init_19 : cX3_init.data.toList.drop 455 = dktX3_init_19 := dk_seg dksX3_init_18 24 rfl rfl
theorem dksX3_init_20 : cX3_init.data.toList.drop 478 = dktX3_init_20 := dk_seg dksX3_init_19 23 rfl rfl
theorem dX3_init_0 : decode cX3_init 0 = .ok (.aload_n 0, 1) := dk_42 (dk_at dksX3_init_0 0 rfl rfl)
theorem dX3_init_1 : decode cX3_init 1 = .ok (.invokespecial 3, 3) := dk_183 0 3 (dk_at dksX3_init_0 1 rfl rfl)
theorem dX3_init_4 : decode cX3_init 4 = .ok (.aload_n 0, 1) := dk_42 (dk_at dksX3_init_0 4 rfl rfl)
theorem dX3_init_5 : decode cX3_init 5 = .ok (.ldc 9, 2) := dk_18 9 (dk_at dksX3_init_0 5 rfl rfl)
theorem dX3_init_7 : decode cX3_init 7 = .ok (.putfield 11, 3) := dk_181 0 11 (dk_at dksX3_init_0 7 rfl rfl)
theorem dX3_init_10 : decode cX3_init 10 = .ok (.aload_n 0, 1) := dk_42 (dk_at dksX3_init_0 10 rfl rfl)
theorem dX3_init_11 : decode cX3_init 11 = .ok (.bipush 77, 2) := dk_16 77 (dk_at dksX3_init_0 11 rfl rfl)
theorem dX3_init_13 : decode cX3_init 13 = .ok (.anewarray 17, 3) := dk_189 0 17 (dk_at dksX3_init_0 13 rfl rfl)
theorem dX3_init_16 : decode cX3_init 16 = .ok (.dup, 1) := dk_89 (dk_at dksX3_init_0 16 rfl rfl)
theorem dX3_init_17 : decode cX3_init 17 = .ok (.iconst 0, 1) := dk_3 (dk_at dksX3_init_0 17 rfl rfl)
theorem dX3_init_18 : decode cX3_init 18 = .ok (.ldc 19, 2) := dk_18 19 (dk_at dksX3_init_0 18 rfl rfl)
theorem dX3_init_20 : decode cX3_init 20 = .ok (.aastore, 1) := dk_83 (dk_at dksX3_init_0 20 rfl rfl)
theorem dX3_init_21 : decode cX3_init 21 = .ok (.dup, 1) := dk_89 (dk_at dksX3_init_0 21 rfl rfl)
theorem dX3_init_22 : decode cX3_init 22 = .ok (.iconst 1, 1) := dk_4 (dk_at dksX3_init_0 22 rfl rfl)
theorem dX3_init_23 : decode cX3_init 23 = .ok (.ldc 21, 2) := dk_18 21 (dk_at dksX3_init_1 0 rfl rfl)
theorem dX3_init_25 : decode cX3_init 25 = .ok (.aastore, 1) := dk_83 (dk_at dksX3_init_1 2 rfl rfl)
theorem dX3_init_26 : decode cX3_init 26 = .ok (.dup, 1) := dk_89 (dk_at dksX3_init_1 3 rfl rfl)
theorem dX3_init_27 : decode cX3_init 27 = .ok (.iconst 2, 1) := dk_5 (dk_at dksX3_init_1 4 rfl rfl)
theorem dX3_init_28 : decode cX3_init 28 = .ok (.ldc 23, 2) := dk_18 23 (dk_at dksX3_init_1 5 rfl rfl)
theorem dX3_init_30 : decode cX3_init 30 = .ok (.aastore, 1) := dk_83 (dk_at dksX3_init_1 7 rfl rfl)
theorem dX3_init_31 : decode cX3_init 31 = .ok (.dup, 1) := dk_89 (dk_at dksX3_init_1 8 rfl rfl)
theorem dX3_init_32 : decode cX3_init 32 = .ok (.iconst 3, 1) := dk_6 (dk_at dksX3_init_1 9 rfl rfl)
theorem dX3_init_33 : decode cX3_init 33 = .ok (.ldc 25, 2) := dk_18 25 (dk_at dksX3_init_1 10 rfl rfl)
theorem dX3_init_35 : decode cX3_init 35 = .ok (.aastore, 1) := dk_83 (dk_at dksX3_init_1 12 rfl rfl)
theorem dX3_init_36 : decode cX3_init 36 = .ok (.dup, 1) := dk_89 (dk_at dksX3_init_1 13 rfl rfl)
theorem dX3_init_37 : decode cX3_init 37 = .ok (.iconst 4, 1) := dk_7 (dk_at dksX3_init_1 14 rfl rfl)
theorem dX3_init_38 : decode cX3_init 38 = .ok (.ldc 27, 2) := dk_18 27 (dk_at dksX3_init_1 15 rfl rfl)
theorem dX3_init_40 : decode cX3_init 40 = .ok (.aastore, 1) := dk_83 (dk_at dksX3_init_1 17 rfl rfl)
theorem dX3_init_41 : decode cX3_init 41 = .ok (.dup, 1) := dk_89 (dk_at dksX3_init_1 18 rfl rfl)
theorem dX3_init_42 : decode cX3_init 42 = .ok (.iconst 5, 1) := dk_8 (dk_at dksX3_init_1 19 rfl rfl)
theorem dX3_init_43 : decode cX3_init 43 = .ok (.ldc 29, 2) := dk_18 29 (dk_at dksX3_init_1 20 rfl rfl)
theorem dX3_init_45 : decode cX3_init 45 = .ok (.aastore, 1) := dk_83 (dk_at dksX3_init_1 22 rfl rfl)
theorem dX3_init_46 : decode cX3_init 46 = .ok (.dup, 1) := dk_89 (dk_at dksX3_init_1 23 rfl rfl)
theorem dX3_init_47 : decode cX3_init 47 = .ok (.bipush 6, 2) := dk_16 6 (dk_at dksX3_init_2 0 rfl rfl)
theorem dX3_init_49 : decode cX3_init 49 = .ok (.ldc 31, 2) := dk_18 31 (dk_at dksX3_init_2 2 rfl rfl)
theorem dX3_init_51 : decode cX3_init 51 = .ok (.aastore, 1) := dk_83 (dk_at dksX3_init_2 4 rfl rfl)
theorem dX3_init_52 : decode cX3_init 52 = .ok (.dup, 1) := dk_89 (dk_at dksX3_init_2 5 rfl rfl)
theorem dX3_init_53 : decode cX3_init 53 = .ok (.bipush 7, 2) := dk_16 7 (dk_at dksX3_init_2 6 rfl rfl)
theorem dX3_init_55 : decode cX3_init 55 = .ok (.ldc 33, 2) := dk_18 33 (dk_at dksX3_init_2 8 rfl rfl)
theorem dX3_init_57 : decode cX3_init 57 = .ok (.aastore, 1) := dk_83 (dk_at dksX3_init_2 10 rfl rfl)
theorem dX3_init_58 : decode cX3_init 58 = .ok (.dup, 1) := dk_89 (dk_at dksX3_init_2 11 rfl rfl)
theorem dX3_init_59 : decode cX3_init 59 = .ok (.bipush 8, 2) := dk_16 8 (dk_at dksX3_init_2 12 rfl rfl)
theorem dX3_init_61 : decode cX3_init 61 = .ok (.ldc 35, 2) := dk_18 35 (dk_at dksX3_init_2 14 rfl rfl)
theorem dX3_init_63 : decode cX3_init 63 = .ok (.aastore, 1) := dk_83 (dk_at dksX3_init_2 16 rfl rfl)
theorem dX3_init_64 : decode cX3_init 64 = .ok (.dup, 1) := dk_89 (dk_at dksX3_init_2 17 rfl rfl)
theorem dX3_init_65 : decode cX3_init 65 = .ok (.bipush 9, 2) := dk_16 9 (dk_at dksX3_init_2 18 rfl rfl)
theorem dX3_init_67 : decode cX3_init 67 = .ok (.ldc 37, 2) := dk_18 37 (dk_at dksX3_init_2 20 rfl rfl)
theorem dX3_init_69 : decode cX3_init 69 = .ok (.aastore, 1) := dk_83 (dk_at dksX3_init_2 22 rfl rfl)
theorem dX3_init_70 : decode cX3_init 70 = .ok (.dup, 1) := dk_89 (dk_at dksX3_init_2 23 rfl rfl)
theorem dX3_init_71 : decode cX3_init 71 = .ok (.bipush 10, 2) := dk_16 10 (dk_at dksX3_init_3 0 rfl rfl)
theorem dX3_init_73 : decode cX3_init 73 = .ok (.ldc 39, 2) := dk_18 39 (dk_at dksX3_init_3 2 rfl rfl)
theorem dX3_init_75 : decode cX3_init 75 = .ok (.aastore, 1) := dk_83 (dk_at dksX3_init_3 4 rfl rfl)
theorem dX3_init_76 : decode cX3_init 76 = .ok (.dup, 1) := dk_89 (dk_at dksX3_init_3 5 rfl rfl)
theorem dX3_init_77 : decode cX3_init 77 = .ok (.bipush 11, 2) := dk_16 11 (dk_at dksX3_init_3 6 rfl rfl)
theorem dX3_init_79 : decode cX3_init 79 = .ok (.ldc 41, 2) := dk_18 41 (dk_at dksX3_init_3 8 rfl rfl)
theorem dX3_init_81 : decode cX3_init 81 = .ok (.aastore, 1) := dk_83 (dk_at dksX3_init_3 10 rfl rfl)
theorem dX3_init_82 : decode cX3_init 82 = .ok (.dup, 1) := dk_89 (dk_at dksX3_init_3 11 rfl rfl)
theorem dX3_init_83 : decode cX3_init 83 = .ok (.bipush 12, 2) := dk_16 12 (dk_at dksX3_init_3 12 rfl rfl)
theorem dX3_init_85 : decode cX3_init 85 = .ok (.ldc 43, 2) := dk_18 43 (dk_at dksX3_init_3 14 rfl rfl)
theorem dX3_init_87 : decode cX3_init 87 = .ok (.aastore, 1) := dk_83 (dk_at dksX3_init_3 16 rfl rfl)
theorem dX3_init_88 : decode cX3_init 88 = .ok (.dup, 1) := dk_89 (dk_at dksX3_init_3 17 rfl rfl)
theorem dX3_init_89 : decode cX3_init 89 = .ok (.bipush 13, 2) := dk_16 13 (dk_at dksX3_init_3 18 rfl rfl)
theorem dX3_init_91 : decode cX3_init 91 = .ok (.ldc 45, 2) := dk_18 45 (dk_at dksX3_init_3 20 rfl rfl)
theorem dX3_init_93 : decode cX3_init 93 = .ok (.aastore, 1) := dk_83 (dk_at dksX3_init_3 22 rfl rfl)
theorem dX3_init_94 : decode cX3_init 94 = .ok (.dup, 1) := dk_89 (dk_at dksX3_init_3 23 rfl rfl)
theorem dX3_init_95 : decode cX3_init 95 = .ok (.bipush 14, 2) := dk_16 14 (dk_at dksX3_init_4 0 rfl rfl)
theorem dX3_init_97 : decode cX3_init 97 = .ok (.ldc 47, 2) := dk_18 47 (dk_at dksX3_init_4 2 rfl rfl)
theorem dX3_init_99 : decode cX3_init 99 = .ok (.aastore, 1) := dk_83 (dk_at dksX3_init_4 4 rfl rfl)
theorem dX3_init_100 : decode cX3_init 100 = .ok (.dup, 1) := dk_89 (dk_at dksX3_init_4 5 rfl rfl)
theorem dX3_init_101 : decode cX3_init 101 = .ok (.bipush 15, 2) := dk_16 15 (dk_at dksX3_init_4 6 rfl rfl)
theorem dX3_init_103 : decode cX3_init 103 = .ok (.ldc 49, 2) := dk_18 49 (dk_at dksX3_init_4 8 rfl rfl)
theorem dX3_init_105 : decode cX3_init 105 = .ok (.aastore, 1) := dk_83 (dk_at dksX3_init_4 10 rfl rfl)
theorem dX3_init_106 : decode cX3_init 106 = .ok (.dup, 1) := dk_89 (dk_at dksX3_init_4 11 rfl rfl)
theorem dX3_init_107 : decode cX3_init 107 = .ok (.bipush 16, 2) := dk_16 16 (dk_at dksX3_init_4 12 rfl rfl)
theorem dX3_init_109 : decode cX3_init 109 = .ok (.ldc 51, 2) := dk_18 51 (dk_at dksX3_init_4 14 rfl rfl)
theorem dX3_init_111 : decode cX3_init 111 = .ok (.aastore, 1) := dk_83 (dk_at dksX3_init_4 16 rfl rfl)
theorem dX3_init_112 : decode cX3_init 112 = .ok (.dup, 1) := dk_89 (dk_at dksX3_init_4 17 rfl rfl)
theorem dX3_init_113 : decode cX3_init 113 = .ok (.bipush 17, 2) := dk_16 17 (dk_at dksX3_init_4 18 rfl rfl)
theorem dX3_init_115 : decode cX3_init 115 = .ok (.ldc 53, 2) := dk_18 53 (dk_at dksX3_init_4 20 rfl rfl)
theorem dX3_init_117 : decode cX3_init 117 = .ok (.aastore, 1) := dk_83 (dk_at dksX3_init_4 22 rfl rfl)
theorem dX3_init_118 : decode cX3_init 118 = .ok (.dup, 1) := dk_89 (dk_at dksX3_init_4 23 rfl rfl)
theorem dX3_init_119 : decode cX3_init 119 = .ok (.bipush 18, 2) := dk_16 18 (dk_at dksX3_init_5 0 rfl rfl)
theorem dX3_init_121 : decode cX3_init 121 = .ok (.ldc 55, 2) := dk_18 55 (dk_at dksX3_init_5 2 rfl rfl)
theorem dX3_init_123 : decode cX3_init 123 = .ok (.aastore, 1) := dk_83 (dk_at dksX3_init_5 4 rfl rfl)
theorem dX3_init_124 : decode cX3_init 124 = .ok (.dup, 1) := dk_89 (dk_at dksX3_init_5 5 rfl rfl)
theorem dX3_init_125 : decode cX3_init 125 = .ok (.bipush 19, 2) := dk_16 19 (dk_at dksX3_init_5 6 rfl rfl)
theorem dX3_init_127 : decode cX3_init 127 = .ok (.ldc 57, 2) := dk_18 57 (dk_at dksX3_init_5 8 rfl rfl)
theorem dX3_init_129 : decode cX3_init 129 = .ok (.aastore, 1) := dk_83 (dk_at dksX3_init_5 10 rfl rfl)
theorem dX3_init_130 : decode cX3_init 130 = .ok (.dup, 1) := dk_89 (dk_at dksX3_init_5 11 rfl rfl)
theorem dX3_init_131 : decode cX3_init 131 = .ok (.bipush 20, 2) := dk_16 20 (dk_at dksX3_init_5 12 rfl rfl)
theorem dX3_init_133 : decode cX3_init 133 = .ok (.ldc 59, 2) := dk_18 59 (dk_at dksX3_init_5 14 rfl rfl)
theorem dX3_init_135 : decode cX3_init 135 = .ok (.aastore, 1) := dk_83 (dk_at dksX3_init_5 16 rfl rfl)
theorem dX3_init_136 : decode cX3_init 136 = .ok (.dup, 1) := dk_89 (dk_at dksX3_init_5 17 rfl rfl)
theorem dX3_init_137 : decode cX3_init 137 = .ok (.bipush 21, 2) := dk_16 21 (dk_at dksX3_init_5 18 rfl rfl)
theorem dX3_init_139 : decode cX3_init 139 = .ok (.ldc 61, 2) := dk_18 61 (dk_at dksX3_init_5 20 rfl rfl)
theorem dX3_init_141 : decode cX3_init 141 = .ok (.aastore, 1) := dk_83 (dk_at dksX3_init_5 22 rfl rfl)
theorem dX3_init_142 : decode cX3_init 142 = .ok (.dup, 1) := dk_89 (dk_at dksX3_init_5 23 rfl rfl)
theorem dX3_init_143 : decode cX3_init 143 = .ok (.bipush 22, 2) := dk_16 22 (dk_at dksX3_init_6 0 rfl rfl)
theorem dX3_init_145 : decode cX3_init 145 = .ok (.ldc 63, 2) := dk_18 63 (dk_at dksX3_init_6 2 rfl rfl)
theorem dX3_init_147 : decode cX3_init 147 = .ok (.aastore, 1) := dk_83 (dk_at dksX3_init_6 4 rfl rfl)
theorem dX3_init_148 : decode cX3_init 148 = .ok (.dup, 1) := dk_89 (dk_at dksX3_init_6 5 rfl rfl)
theorem dX3_init_149 : decode cX3_init 149 = .ok (.bipush 23, 2) := dk_16 23 (dk_at dksX3_init_6 6 rfl rfl)
theorem dX3_init_151 : decode cX3_init 151 = .ok (.ldc 65, 2) := dk_18 65 (dk_at dksX3_init_6 8 rfl rfl)
theorem dX3_init_153 : decode cX3_init 153 = .ok (.aastore, 1) := dk_83 (dk_at dksX3_init_6 10 rfl rfl)
theorem dX3_init_154 : decode cX3_init 154 = .ok (.dup, 1) := dk_89 (dk_at dksX3_init_6 11 rfl rfl)
theorem dX3_init_155 : decode cX3_init 155 = .ok (.bipush 24, 2) := dk_16 24 (dk_at dksX3_init_6 12 rfl rfl)
theorem dX3_init_157 : decode cX3_init 157 = .ok (.ldc 67, 2) := dk_18 67 (dk_at dksX3_init_6 14 rfl rfl)
theorem dX3_init_159 : decode cX3_init 159 = .ok (.aastore, 1) := dk_83 (dk_at dksX3_init_6 16 rfl rfl)
theorem dX3_init_160 : decode cX3_init 160 = .ok (.dup, 1) := dk_89 (dk_at dksX3_init_6 17 rfl rfl)
theorem dX3_init_161 : decode cX3_init 161 = .ok (.bipush 25, 2) := dk_16 25 (dk_at dksX3_init_6 18 rfl rfl)
theorem dX3_init_163 : decode cX3_init 163 = .ok (.ldc 69, 2) := dk_18 69 (dk_at dksX3_init_6 20 rfl rfl)
theorem dX3_init_165 : decode cX3_init 165 = .ok (.aastore, 1) := dk_83 (dk_at dksX3_init_6 22 rfl rfl)
theorem dX3_init_166 : decode cX3_init 166 = .ok (.dup, 1) := dk_89 (dk_at dksX3_init_6 23 rfl rfl)
theorem dX3_init_167 : decode cX3_init 167 = .ok (.bipush 26, 2) := dk_16 26 (dk_at dksX3_init_7 0 rfl rfl)
theorem dX3_init_169 : decode cX3_init 169 = .ok (.ldc 71, 2) := dk_18 71 (dk_at dksX3_init_7 2 rfl rfl)
theorem dX3_init_171 : decode cX3_init 171 = .ok (.aastore, 1) := dk_83 (dk_at dksX3_init_7 4 rfl rfl)
theorem dX3_init_172 : decode cX3_init 172 = .ok (.dup, 1) := dk_89 (dk_at dksX3_init_7 5 rfl rfl)
theorem dX3_init_173 : decode cX3_init 173 = .ok (.bipush 27, 2) := dk_16 27 (dk_at dksX3_init_7 6 rfl rfl)
theorem dX3_init_175 : decode cX3_init 175 = .ok (.ldc 73, 2) := dk_18 73 (dk_at dksX3_init_7 8 rfl rfl)
theorem dX3_init_177 : decode cX3_init 177 = .ok (.aastore, 1) := dk_83 (dk_at dksX3_init_7 10 rfl rfl)
theorem dX3_init_178 : decode cX3_init 178 = .ok (.dup, 1) := dk_89 (dk_at dksX3_init_7 11 rfl rfl)
theorem dX3_init_179 : decode cX3_init 179 = .ok (.bipush 28, 2) := dk_16 28 (dk_at dksX3_init_7 12 rfl rfl)
theorem dX3_init_181 : decode cX3_init 181 = .ok (.ldc 75, 2) := dk_18 75 (dk_at dksX3_init_7 14 rfl rfl)
theorem dX3_init_183 : decode cX3_init 183 = .ok (.aastore, 1) := dk_83 (dk_at dksX3_init_7 16 rfl rfl)
theorem dX3_init_184 : decode cX3_init 184 = .ok (.dup, 1) := dk_89 (dk_at dksX3_init_7 17 rfl rfl)
theorem dX3_init_185 : decode cX3_init 185 = .ok (.bipush 29, 2) := dk_16 29 (dk_at dksX3_init_7 18 rfl rfl)
theorem dX3_init_187 : decode cX3_init 187 = .ok (.ldc 77, 2) := dk_18 77 (dk_at dksX3_init_7 20 rfl rfl)
theorem dX3_init_189 : decode cX3_init 189 = .ok (.aastore, 1) := dk_83 (dk_at dksX3_init_7 22 rfl rfl)
theorem dX3_init_190 : decode cX3_init 190 = .ok (.dup, 1) := dk_89 (dk_at dksX3_init_7 23 rfl rfl)
theorem dX3_init_191 : decode cX3_init 191 = .ok (.bipush 30, 2) := dk_16 30 (dk_at dksX3_init_8 0 rfl rfl)
theorem dX3_init_193 : decode cX3_init 193 = .ok (.ldc 79, 2) := dk_18 79 (dk_at dksX3_init_8 2 rfl rfl)
theorem dX3_init_195 : decode cX3_init 195 = .ok (.aastore, 1) := dk_83 (dk_at dksX3_init_8 4 rfl rfl)
theorem dX3_init_196 : decode cX3_init 196 = .ok (.dup, 1) := dk_89 (dk_at dksX3_init_8 5 rfl rfl)
theorem dX3_init_197 : decode cX3_init 197 = .ok (.bipush 31, 2) := dk_16 31 (dk_at dksX3_init_8 6 rfl rfl)
theorem dX3_init_199 : decode cX3_init 199 = .ok (.ldc 81, 2) := dk_18 81 (dk_at dksX3_init_8 8 rfl rfl)
theorem dX3_init_201 : decode cX3_init 201 = .ok (.aastore, 1) := dk_83 (dk_at dksX3_init_8 10 rfl rfl)
theorem dX3_init_202 : decode cX3_init 202 = .ok (.dup, 1) := dk_89 (dk_at dksX3_init_8 11 rfl rfl)
theorem dX3_init_203 : decode cX3_init 203 = .ok (.bipush 32, 2) := dk_16 32 (dk_at dksX3_init_8 12 rfl rfl)
theorem dX3_init_205 : decode cX3_init 205 = .ok (.ldc 83, 2) := dk_18 83 (dk_at dksX3_init_8 14 rfl rfl)
theorem dX3_init_207 : decode cX3_init 207 = .ok (.aastore, 1) := dk_83 (dk_at dksX3_init_8 16 rfl rfl)
theorem dX3_init_208 : decode cX3_init 208 = .ok (.dup, 1) := dk_89 (dk_at dksX3_init_8 17 rfl rfl)
theorem dX3_init_209 : decode cX3_init 209 = .ok (.bipush 33, 2) := dk_16 33 (dk_at dksX3_init_8 18 rfl rfl)
theorem dX3_init_211 : decode cX3_init 211 = .ok (.ldc 85, 2) := dk_18 85 (dk_at dksX3_init_8 20 rfl rfl)
theorem dX3_init_213 : decode cX3_init 213 = .ok (.aastore, 1) := dk_83 (dk_at dksX3_init_8 22 rfl rfl)
theorem dX3_init_214 : decode cX3_init 214 = .ok (.dup, 1) := dk_89 (dk_at dksX3_init_8 23 rfl rfl)
theorem dX3_init_215 : decode cX3_init 215 = .ok (.bipush 34, 2) := dk_16 34 (dk_at dksX3_init_9 0 rfl rfl)
theorem dX3_init_217 : decode cX3_init 217 = .ok (.ldc 87, 2) := dk_18 87 (dk_at dksX3_init_9 2 rfl rfl)
theorem dX3_init_219 : decode cX3_init 219 = .ok (.aastore, 1) := dk_83 (dk_at dksX3_init_9 4 rfl rfl)
theorem dX3_init_220 : decode cX3_init 220 = .ok (.dup, 1) := dk_89 (dk_at dksX3_init_9 5 rfl rfl)
theorem dX3_init_221 : decode cX3_init 221 = .ok (.bipush 35, 2) := dk_16 35 (dk_at dksX3_init_9 6 rfl rfl)
theorem dX3_init_223 : decode cX3_init 223 = .ok (.ldc 89, 2) := dk_18 89 (dk_at dksX3_init_9 8 rfl rfl)
theorem dX3_init_225 : decode cX3_init 225 = .ok (.aastore, 1) := dk_83 (dk_at dksX3_init_9 10 rfl rfl)
theorem dX3_init_226 : decode cX3_init 226 = .ok (.dup, 1) := dk_89 (dk_at dksX3_init_9 11 rfl rfl)
theorem dX3_init_227 : decode cX3_init 227 = .ok (.bipush 36, 2) := dk_16 36 (dk_at dksX3_init_9 12 rfl rfl)
theorem dX3_init_229 : decode cX3_init 229 = .ok (.ldc 91, 2) := dk_18 91 (dk_at dksX3_init_9 14 rfl rfl)
theorem dX3_init_231 : decode cX3_init 231 = .ok (.aastore, 1) := dk_83 (dk_at dksX3_init_9 16 rfl rfl)
theorem dX3_init_232 : decode cX3_init 232 = .ok (.dup, 1) := dk_89 (dk_at dksX3_init_9 17 rfl rfl)
theorem dX3_init_233 : decode cX3_init 233 = .ok (.bipush 37, 2) := dk_16 37 (dk_at dksX3_init_9 18 rfl rfl)
theorem dX3_init_235 : decode cX3_init 235 = .ok (.ldc 93, 2) := dk_18 93 (dk_at dksX3_init_9 20 rfl rfl)
theorem dX3_init_237 : decode cX3_init 237 = .ok (.aastore, 1) := dk_83 (dk_at dksX3_init_9 22 rfl rfl)
theorem dX3_init_238 : decode cX3_init 238 = .ok (.dup, 1) := dk_89 (dk_at dksX3_init_9 23 rfl rfl)
theorem dX3_init_239 : decode cX3_init 239 = .ok (.bipush 38, 2) := dk_16 38 (dk_at dksX3_init_10 0 rfl rfl)
theorem dX3_init_241 : decode cX3_init 241 = .ok (.ldc 95, 2) := dk_18 95 (dk_at dksX3_init_10 2 rfl rfl)
theorem dX3_init_243 : decode cX3_init 243 = .ok (.aastore, 1) := dk_83 (dk_at dksX3_init_10 4 rfl rfl)
theorem dX3_init_244 : decode cX3_init 244 = .ok (.dup, 1) := dk_89 (dk_at dksX3_init_10 5 rfl rfl)
theorem dX3_init_245 : decode cX3_init 245 = .ok (.bipush 39, 2) := dk_16 39 (dk_at dksX3_init_10 6 rfl rfl)
theorem dX3_init_247 : decode cX3_init 247 = .ok (.ldc 97, 2) := dk_18 97 (dk_at dksX3_init_10 8 rfl rfl)
theorem dX3_init_249 : decode cX3_init 249 = .ok (.aastore, 1) := dk_83 (dk_at dksX3_init_10 10 rfl rfl)
theorem dX3_init_250 : decode cX3_init 250 = .ok (.dup, 1) := dk_89 (dk_at dksX3_init_10 11 rfl rfl)
theorem dX3_init_251 : decode cX3_init 251 = .ok (.bipush 40, 2) := dk_16 40 (dk_at dksX3_init_10 12 rfl rfl)
theorem dX3_init_253 : decode cX3_init 253 = .ok (.ldc 99, 2) := dk_18 99 (dk_at dksX3_init_10 14 rfl rfl)
theorem dX3_init_255 : decode cX3_init 255 = .ok (.aastore, 1) := dk_83 (dk_at dksX3_init_10 16 rfl rfl)
theorem dX3_init_256 : decode cX3_init 256 = .ok (.dup, 1) := dk_89 (dk_at dksX3_init_10 17 rfl rfl)
theorem dX3_init_257 : decode cX3_init 257 = .ok (.bipush 41, 2) := dk_16 41 (dk_at dksX3_init_10 18 rfl rfl)
theorem dX3_init_259 : decode cX3_init 259 = .ok (.ldc 101, 2) := dk_18 101 (dk_at dksX3_init_10 20 rfl rfl)
theorem dX3_init_261 : decode cX3_init 261 = .ok (.aastore, 1) := dk_83 (dk_at dksX3_init_10 22 rfl rfl)
theorem dX3_init_262 : decode cX3_init 262 = .ok (.dup, 1) := dk_89 (dk_at dksX3_init_10 23 rfl rfl)
theorem dX3_init_263 : decode cX3_init 263 = .ok (.bipush 42, 2) := dk_16 42 (dk_at dksX3_init_11 0 rfl rfl)
theorem dX3_init_265 : decode cX3_init 265 = .ok (.ldc 103, 2) := dk_18 103 (dk_at dksX3_init_11 2 rfl rfl)
theorem dX3_init_267 : decode cX3_init 267 = .ok (.aastore, 1) := dk_83 (dk_at dksX3_init_11 4 rfl rfl)
theorem dX3_init_268 : decode cX3_init 268 = .ok (.dup, 1) := dk_89 (dk_at dksX3_init_11 5 rfl rfl)
theorem dX3_init_269 : decode cX3_init 269 = .ok (.bipush 43, 2) := dk_16 43 (dk_at dksX3_init_11 6 rfl rfl)
theorem dX3_init_271 : decode cX3_init 271 = .ok (.ldc 105, 2) := dk_18 105 (dk_at dksX3_init_11 8 rfl rfl)
theorem dX3_init_273 : decode cX3_init 273 = .ok (.aastore, 1) := dk_83 (dk_at dksX3_init_11 10 rfl rfl)
theorem dX3_init_274 : decode cX3_init 274 = .ok (.dup, 1) := dk_89 (dk_at dksX3_init_11 11 rfl rfl)
theorem dX3_init_275 : decode cX3_init 275 = .ok (.bipush 44, 2) := dk_16 44 (dk_at dksX3_init_11 12 rfl rfl)
theorem dX3_init_277 : decode cX3_init 277 = .ok (.ldc 107, 2) := dk_18 107 (dk_at dksX3_init_11 14 rfl rfl)
theorem dX3_init_279 : decode cX3_init 279 = .ok (.aastore, 1) := dk_83 (dk_at dksX3_init_11 16 rfl rfl)
theorem dX3_init_280 : decode cX3_init 280 = .ok (.dup, 1) := dk_89 (dk_at dksX3_init_11 17 rfl rfl)
theorem dX3_init_281 : decode cX3_init 281 = .ok (.bipush 45, 2) := dk_16 45 (dk_at dksX3_init_11 18 rfl rfl)
theorem dX3_init_283 : decode cX3_init 283 = .ok (.ldc 109, 2) := dk_18 109 (dk_at dksX3_init_11 20 rfl rfl)
theorem dX3_init_285 : decode cX3_init 285 = .ok (.aastore, 1) := dk_83 (dk_at dksX3_init_11 22 rfl rfl)
theorem dX3_init_286 : decode cX3_init 286 = .ok (.dup, 1) := dk_89 (dk_at dksX3_init_11 23 rfl rfl)
theorem dX3_init_287 : decode cX3_init 287 = .ok (.bipush 46, 2) := dk_16 46 (dk_at dksX3_init_12 0 rfl rfl)
theorem dX3_init_289 : decode cX3_init 289 = .ok (.ldc 111, 2) := dk_18 111 (dk_at dksX3_init_12 2 rfl rfl)
theorem dX3_init_291 : decode cX3_init 291 = .ok (.aastore, 1) := dk_83 (dk_at dksX3_init_12 4 rfl rfl)
theorem dX3_init_292 : decode cX3_init 292 = .ok (.dup, 1) := dk_89 (dk_at dksX3_init_12 5 rfl rfl)
theorem dX3_init_293 : decode cX3_init 293 = .ok (.bipush 47, 2) := dk_16 47 (dk_at dksX3_init_12 6 rfl rfl)
theorem dX3_init_295 : decode cX3_init 295 = .ok (.ldc 113, 2) := dk_18 113 (dk_at dksX3_init_12 8 rfl rfl)
theorem dX3_init_297 : decode cX3_init 297 = .ok (.aastore, 1) := dk_83 (dk_at dksX3_init_12 10 rfl rfl)
theorem dX3_init_298 : decode cX3_init 298 = .ok (.dup, 1) := dk_89 (dk_at dksX3_init_12 11 rfl rfl)
theorem dX3_init_299 : decode cX3_init 299 = .ok (.bipush 48, 2) := dk_16 48 (dk_at dksX3_init_12 12 rfl rfl)
theorem dX3_init_301 : decode cX3_init 301 = .ok (.ldc 115, 2) := dk_18 115 (dk_at dksX3_init_12 14 rfl rfl)
theorem dX3_init_303 : decode cX3_init 303 = .ok (.aastore, 1) := dk_83 (dk_at dksX3_init_12 16 rfl rfl)
theorem dX3_init_304 : decode cX3_init 304 = .ok (.dup, 1) := dk_89 (dk_at dksX3_init_12 17 rfl rfl)
theorem dX3_init_305 : decode cX3_init 305 = .ok (.bipush 49, 2) := dk_16 49 (dk_at dksX3_init_12 18 rfl rfl)
theorem dX3_init_307 : decode cX3_init 307 = .ok (.ldc 117, 2) := dk_18 117 (dk_at dksX3_init_12 20 rfl rfl)
theorem dX3_init_309 : decode cX3_init 309 = .ok (.aastore, 1) := dk_83 (dk_at dksX3_init_12 22 rfl rfl)
theorem dX3_init_310 : decode cX3_init 310 = .ok (.dup, 1) := dk_89 (dk_at dksX3_init_12 23 rfl rfl)
theorem dX3_init_311 : decode cX3_init 311 = .ok (.bipush 50, 2) := dk_16 50 (dk_at dksX3_init_13 0 rfl rfl)
theorem dX3_init_313 : decode cX3_init 313 = .ok (.ldc 119, 2) := dk_18 119 (dk_at dksX3_init_13 2 rfl rfl)
theorem dX3_init_315 : decode cX3_init 315 = .ok (.aastore, 1) := dk_83 (dk_at dksX3_init_13 4 rfl rfl)
theorem dX3_init_316 : decode cX3_init 316 = .ok (.dup, 1) := dk_89 (dk_at dksX3_init_13 5 rfl rfl)
theorem dX3_init_317 : decode cX3_init 317 = .ok (.bipush 51, 2) := dk_16 51 (dk_at dksX3_init_13 6 rfl rfl)
theorem dX3_init_319 : decode cX3_init 319 = .ok (.ldc 121, 2) := dk_18 121 (dk_at dksX3_init_13 8 rfl rfl)
theorem dX3_init_321 : decode cX3_init 321 = .ok (.aastore, 1) := dk_83 (dk_at dksX3_init_13 10 rfl rfl)
theorem dX3_init_322 : decode cX3_init 322 = .ok (.dup, 1) := dk_89 (dk_at dksX3_init_13 11 rfl rfl)
theorem dX3_init_323 : decode cX3_init 323 = .ok (.bipush 52, 2) := dk_16 52 (dk_at dksX3_init_13 12 rfl rfl)
theorem dX3_init_325 : decode cX3_init 325 = .ok (.ldc 123, 2) := dk_18 123 (dk_at dksX3_init_13 14 rfl rfl)
theorem dX3_init_327 : decode cX3_init 327 = .ok (.aastore, 1) := dk_83 (dk_at dksX3_init_13 16 rfl rfl)
theorem dX3_init_328 : decode cX3_init 328 = .ok (.dup, 1) := dk_89 (dk_at dksX3_init_13 17 rfl rfl)
theorem dX3_init_329 : decode cX3_init 329 = .ok (.bipush 53, 2) := dk_16 53 (dk_at dksX3_init_13 18 rfl rfl)
theorem dX3_init_331 : decode cX3_init 331 = .ok (.ldc 125, 2) := dk_18 125 (dk_at dksX3_init_13 20 rfl rfl)
theorem dX3_init_333 : decode cX3_init 333 = .ok (.aastore, 1) := dk_83 (dk_at dksX3_init_13 22 rfl rfl)
theorem dX3_init_334 : decode cX3_init 334 = .ok (.dup, 1) := dk_89 (dk_at dksX3_init_13 23 rfl rfl)
theorem dX3_init_335 : decode cX3_init 335 = .ok (.bipush 54, 2) := dk_16 54 (dk_at dksX3_init_14 0 rfl rfl)
theorem dX3_init_337 : decode cX3_init 337 = .ok (.ldc 127, 2) := dk_18 127 (dk_at dksX3_init_14 2 rfl rfl)
theorem dX3_init_339 : decode cX3_init 339 = .ok (.aastore, 1) := dk_83 (dk_at dksX3_init_14 4 rfl rfl)
theorem dX3_init_340 : decode cX3_init 340 = .ok (.dup, 1) := dk_89 (dk_at dksX3_init_14 5 rfl rfl)
theorem dX3_init_341 : decode cX3_init 341 = .ok (.bipush 55, 2) := dk_16 55 (dk_at dksX3_init_14 6 rfl rfl)
theorem dX3_init_343 : decode cX3_init 343 = .ok (.ldc 129, 2) := dk_18 129 (dk_at dksX3_init_14 8 rfl rfl)
theorem dX3_init_345 : decode cX3_init 345 = .ok (.aastore, 1) := dk_83 (dk_at dksX3_init_14 10 rfl rfl)
theorem dX3_init_346 : decode cX3_init 346 = .ok (.dup, 1) := dk_89 (dk_at dksX3_init_14 11 rfl rfl)
theorem dX3_init_347 : decode cX3_init 347 = .ok (.bipush 56, 2) := dk_16 56 (dk_at dksX3_init_14 12 rfl rfl)
theorem dX3_init_349 : decode cX3_init 349 = .ok (.ldc 131, 2) := dk_18 131 (dk_at dksX3_init_14 14 rfl rfl)
theorem dX3_init_351 : decode cX3_init 351 = .ok (.aastore, 1) := dk_83 (dk_at dksX3_init_14 16 rfl rfl)
theorem dX3_init_352 : decode cX3_init 352 = .ok (.dup, 1) := dk_89 (dk_at dksX3_init_14 17 rfl rfl)
theorem dX3_init_353 : decode cX3_init 353 = .ok (.bipush 57, 2) := dk_16 57 (dk_at dksX3_init_14 18 rfl rfl)
theorem dX3_init_355 : decode cX3_init 355 = .ok (.ldc 133, 2) := dk_18 133 (dk_at dksX3_init_14 20 rfl rfl)
theorem dX3_init_357 : decode cX3_init 357 = .ok (.aastore, 1) := dk_83 (dk_at dksX3_init_14 22 rfl rfl)
theorem dX3_init_358 : decode cX3_init 358 = .ok (.dup, 1) := dk_89 (dk_at dksX3_init_14 23 rfl rfl)
theorem dX3_init_359 : decode cX3_init 359 = .ok (.bipush 58, 2) := dk_16 58 (dk_at dksX3_init_15 0 rfl rfl)
theorem dX3_init_361 : decode cX3_init 361 = .ok (.ldc 135, 2) := dk_18 135 (dk_at dksX3_init_15 2 rfl rfl)
theorem dX3_init_363 : decode cX3_init 363 = .ok (.aastore, 1) := dk_83 (dk_at dksX3_init_15 4 rfl rfl)
theorem dX3_init_364 : decode cX3_init 364 = .ok (.dup, 1) := dk_89 (dk_at dksX3_init_15 5 rfl rfl)
theorem dX3_init_365 : decode cX3_init 365 = .ok (.bipush 59, 2) := dk_16 59 (dk_at dksX3_init_15 6 rfl rfl)
theorem dX3_init_367 : decode cX3_init 367 = .ok (.ldc 137, 2) := dk_18 137 (dk_at dksX3_init_15 8 rfl rfl)
theorem dX3_init_369 : decode cX3_init 369 = .ok (.aastore, 1) := dk_83 (dk_at dksX3_init_15 10 rfl rfl)
theorem dX3_init_370 : decode cX3_init 370 = .ok (.dup, 1) := dk_89 (dk_at dksX3_init_15 11 rfl rfl)
theorem dX3_init_371 : decode cX3_init 371 = .ok (.bipush 60, 2) := dk_16 60 (dk_at dksX3_init_15 12 rfl rfl)
theorem dX3_init_373 : decode cX3_init 373 = .ok (.ldc 139, 2) := dk_18 139 (dk_at dksX3_init_15 14 rfl rfl)
theorem dX3_init_375 : decode cX3_init 375 = .ok (.aastore, 1) := dk_83 (dk_at dksX3_init_15 16 rfl rfl)
theorem dX3_init_376 : decode cX3_init 376 = .ok (.dup, 1) := dk_89 (dk_at dksX3_init_15 17 rfl rfl)
theorem dX3_init_377 : decode cX3_init 377 = .ok (.bipush 61, 2) := dk_16 61 (dk_at dksX3_init_15 18 rfl rfl)
theorem dX3_init_379 : decode cX3_init 379 = .ok (.ldc 141, 2) := dk_18 141 (dk_at dksX3_init_15 20 rfl rfl)
theorem dX3_init_381 : decode cX3_init 381 = .ok (.aastore, 1) := dk_83 (dk_at dksX3_init_15 22 rfl rfl)
theorem dX3_init_382 : decode cX3_init 382 = .ok (.dup, 1) := dk_89 (dk_at dksX3_init_15 23 rfl rfl)
theorem dX3_init_383 : decode cX3_init 383 = .ok (.bipush 62, 2) := dk_16 62 (dk_at dksX3_init_16 0 rfl rfl)
theorem dX3_init_385 : decode cX3_init 385 = .ok (.ldc 143, 2) := dk_18 143 (dk_at dksX3_init_16 2 rfl rfl)
theorem dX3_init_387 : decode cX3_init 387 = .ok (.aastore, 1) := dk_83 (dk_at dksX3_init_16 4 rfl rfl)
theorem dX3_init_388 : decode cX3_init 388 = .ok (.dup, 1) := dk_89 (dk_at dksX3_init_16 5 rfl rfl)
theorem dX3_init_389 : decode cX3_init 389 = .ok (.bipush 63, 2) := dk_16 63 (dk_at dksX3_init_16 6 rfl rfl)
theorem dX3_init_391 : decode cX3_init 391 = .ok (.ldc 145, 2) := dk_18 145 (dk_at dksX3_init_16 8 rfl rfl)
theorem dX3_init_393 : decode cX3_init 393 = .ok (.aastore, 1) := dk_83 (dk_at dksX3_init_16 10 rfl rfl)
theorem dX3_init_394 : decode cX3_init 394 = .ok (.dup, 1) := dk_89 (dk_at dksX3_init_16 11 rfl rfl)
theorem dX3_init_395 : decode cX3_init 395 = .ok (.bipush 64, 2) := dk_16 64 (dk_at dksX3_init_16 12 rfl rfl)
theorem dX3_init_397 : decode cX3_init 397 = .ok (.ldc 147, 2) := dk_18 147 (dk_at dksX3_init_16 14 rfl rfl)
theorem dX3_init_399 : decode cX3_init 399 = .ok (.aastore, 1) := dk_83 (dk_at dksX3_init_16 16 rfl rfl)
theorem dX3_init_400 : decode cX3_init 400 = .ok (.dup, 1) := dk_89 (dk_at dksX3_init_16 17 rfl rfl)
theorem dX3_init_401 : decode cX3_init 401 = .ok (.bipush 65, 2) := dk_16 65 (dk_at dksX3_init_16 18 rfl rfl)
theorem dX3_init_403 : decode cX3_init 403 = .ok (.ldc 149, 2) := dk_18 149 (dk_at dksX3_init_16 20 rfl rfl)
theorem dX3_init_405 : decode cX3_init 405 = .ok (.aastore, 1) := dk_83 (dk_at dksX3_init_16 22 rfl rfl)
theorem dX3_init_406 : decode cX3_init 406 = .ok (.dup, 1) := dk_89 (dk_at dksX3_init_16 23 rfl rfl)
theorem dX3_init_407 : decode cX3_init 407 = .ok (.bipush 66, 2) := dk_16 66 (dk_at dksX3_init_17 0 rfl rfl)
theorem dX3_init_409 : decode cX3_init 409 = .ok (.ldc 151, 2) := dk_18 151 (dk_at dksX3_init_17 2 rfl rfl)
theorem dX3_init_411 : decode cX3_init 411 = .ok (.aastore, 1) := dk_83 (dk_at dksX3_init_17 4 rfl rfl)
theorem dX3_init_412 : decode cX3_init 412 = .ok (.dup, 1) := dk_89 (dk_at dksX3_init_17 5 rfl rfl)
theorem dX3_init_413 : decode cX3_init 413 = .ok (.bipush 67, 2) := dk_16 67 (dk_at dksX3_init_17 6 rfl rfl)
theorem dX3_init_415 : decode cX3_init 415 = .ok (.ldc 153, 2) := dk_18 153 (dk_at dksX3_init_17 8 rfl rfl)
theorem dX3_init_417 : decode cX3_init 417 = .ok (.aastore, 1) := dk_83 (dk_at dksX3_init_17 10 rfl rfl)
theorem dX3_init_418 : decode cX3_init 418 = .ok (.dup, 1) := dk_89 (dk_at dksX3_init_17 11 rfl rfl)
theorem dX3_init_419 : decode cX3_init 419 = .ok (.bipush 68, 2) := dk_16 68 (dk_at dksX3_init_17 12 rfl rfl)
theorem dX3_init_421 : decode cX3_init 421 = .ok (.ldc 155, 2) := dk_18 155 (dk_at dksX3_init_17 14 rfl rfl)
theorem dX3_init_423 : decode cX3_init 423 = .ok (.aastore, 1) := dk_83 (dk_at dksX3_init_17 16 rfl rfl)
theorem dX3_init_424 : decode cX3_init 424 = .ok (.dup, 1) := dk_89 (dk_at dksX3_init_17 17 rfl rfl)
theorem dX3_init_425 : decode cX3_init 425 = .ok (.bipush 69, 2) := dk_16 69 (dk_at dksX3_init_17 18 rfl rfl)
theorem dX3_init_427 : decode cX3_init 427 = .ok (.ldc 157, 2) := dk_18 157 (dk_at dksX3_init_17 20 rfl rfl)
theorem dX3_init_429 : decode cX3_init 429 = .ok (.aastore, 1) := dk_83 (dk_at dksX3_init_17 22 rfl rfl)
theorem dX3_init_430 : decode cX3_init 430 = .ok (.dup, 1) := dk_89 (dk_at dksX3_init_17 23 rfl rfl)
theorem dX3_init_431 : decode cX3_init 431 = .ok (.bipush 70, 2) := dk_16 70 (dk_at dksX3_init_18 0 rfl rfl)
theorem dX3_init_433 : decode cX3_init 433 = .ok (.ldc 159, 2) := dk_18 159 (dk_at dksX3_init_18 2 rfl rfl)
theorem dX3_init_435 : decode cX3_init 435 = .ok (.aastore, 1) := dk_83 (dk_at dksX3_init_18 4 rfl rfl)
theorem dX3_init_436 : decode cX3_init 436 = .ok (.dup, 1) := dk_89 (dk_at dksX3_init_18 5 rfl rfl)
theorem dX3_init_437 : decode cX3_init 437 = .ok (.bipush 71, 2) := dk_16 71 (dk_at dksX3_init_18 6 rfl rfl)
theorem dX3_init_439 : decode cX3_init 439 = .ok (.ldc 161, 2) := dk_18 161 (dk_at dksX3_init_18 8 rfl rfl)
theorem dX3_init_441 : decode cX3_init 441 = .ok (.aastore, 1) := dk_83 (dk_at dksX3_init_18 10 rfl rfl)
theorem dX3_init_442 : decode cX3_init 442 = .ok (.dup, 1) := dk_89 (dk_at dksX3_init_18 11 rfl rfl)
theorem dX3_init_443 : decode cX3_init 443 = .ok (.bipush 72, 2) := dk_16 72 (dk_at dksX3_init_18 12 rfl rfl)
theorem dX3_init_445 : decode cX3_init 445 = .ok (.ldc 163, 2) := dk_18 163 (dk_at dksX3_init_18 14 rfl rfl)
theorem dX3_init_447 : decode cX3_init 447 = .ok (.aastore, 1) := dk_83 (dk_at dksX3_init_18 16 rfl rfl)
theorem dX3_init_448 : decode cX3_init 448 = .ok (.dup, 1) := dk_89 (dk_at dksX3_init_18 17 rfl rfl)
theorem dX3_init_449 : decode cX3_init 449 = .ok (.bipush 73, 2) := dk_16 73 (dk_at dksX3_init_18 18 rfl rfl)
theorem dX3_init_451 : decode cX3_init 451 = .ok (.ldc 165, 2) := dk_18 165 (dk_at dksX3_init_18 20 rfl rfl)
theorem dX3_init_453 : decode cX3_init 453 = .ok (.aastore, 1) := dk_83 (dk_at dksX3_init_18 22 rfl rfl)
theorem dX3_init_454 : decode cX3_init 454 = .ok (.dup, 1) := dk_89 (dk_at dksX3_init_18 23 rfl rfl)
theorem dX3_init_455 : decode cX3_init 455 = .ok (.bipush 74, 2) := dk_16 74 (dk_at dksX3_init_19 0 rfl rfl)
theorem dX3_init_457 : decode cX3_init 457 = .ok (.ldc 167, 2) := dk_18 167 (dk_at dksX3_init_19 2 rfl rfl)
theorem dX3_init_459 : decode cX3_init 459 = .ok (.aastore, 1) := dk_83 (dk_at dksX3_init_19 4 rfl rfl)
theorem dX3_init_460 : decode cX3_init 460 = .ok (.dup, 1) := dk_89 (dk_at dksX3_init_19 5 rfl rfl)
theorem dX3_init_461 : decode cX3_init 461 = .ok (.bipush 75, 2) := dk_16 75 (dk_at dksX3_init_19 6 rfl rfl)
theorem dX3_init_463 : decode cX3_init 463 = .ok (.ldc 169, 2) := dk_18 169 (dk_at dksX3_init_19 8 rfl rfl)
theorem dX3_init_465 : decode cX3_init 465 = .ok (.aastore, 1) := dk_83 (dk_at dksX3_init_19 10 rfl rfl)
theorem dX3_init_466 : decode cX3_init 466 = .ok (.dup, 1) := dk_89 (dk_at dksX3_init_19 11 rfl rfl)
theorem dX3_init_467 : decode cX3_init 467 = .ok (.bipush 76, 2) := dk_16 76 (dk_at dksX3_init_19 12 rfl rfl)
theorem dX3_init_469 : decode cX3_init 469 = .ok (.ldc 171, 2) := dk_18 171 (dk_at dksX3_init_19 14 rfl rfl)
theorem dX3_init_471 : decode cX3_init 471 = .ok (.aastore, 1) := dk_83 (dk_at dksX3_init_19 16 rfl rfl)
theorem dX3_init_472 : decode cX3_init 472 = .ok (.putfield 173, 3) := dk_181 0 173 (dk_at dksX3_init_19 17 rfl rfl)
theorem dX3_init_475 : decode cX3_init 475 = .ok (.aload_n 0, 1) := dk_42 (dk_at dksX3_init_19 20 rfl rfl)
theorem dX3_init_476 : decode cX3_init 476 = .ok (.bipush 64, 2) := dk_16 64 (dk_at dksX3_init_19 21 rfl rfl)
theorem dX3_init_478 : decode cX3_init 478 = .ok (.newarray .int, 2) := dk_188_10 (dk_at dksX3_init_20 0 rfl rfl)
theorem dX3_init_480 : decode cX3_init 480 = .ok (.putfield 177, 3) := dk_181 0 177 (dk_at dksX3_init_20 2 rfl rfl)
theorem dX3_init_483 : decode cX3_init 483 = .ok (.aload_n 0, 1) := dk_42 (dk_at dksX3_init_20 5 rfl rfl)
theorem dX3_init_484 : decode cX3_init 484 = .ok (.bipush 64, 2) := dk_16 64 (dk_at dksX3_init_20 6 rfl rfl)
theorem dX3_init_486 : decode cX3_init 486 = .ok (.newarray .int, 2) := dk_188_10 (dk_at dksX3_init_20 8 rfl rfl)
theorem dX3_init_488 : decode cX3_init 488 = .ok (.putfield 181, 3) := dk_181 0 181 (dk_at dksX3_init_20 10 rfl rfl)
theorem dX3_init_491 : decode cX3_init 491 = .ok (.aload_n 0, 1) := dk_42 (dk_at dksX3_init_20 13 rfl rfl)
theorem dX3_init_492 : decode cX3_init 492 = .ok (.bipush 64, 2) := dk_16 64 (dk_at dksX3_init_20 14 rfl rfl)
theorem dX3_init_494 : decode cX3_init 494 = .ok (.newarray .int, 2) := dk_188_10 (dk_at dksX3_init_20 16 rfl rfl)
theorem dX3_init_496 : decode cX3_init 496 = .ok (.putfield 184, 3) := dk_181 0 184 (dk_at dksX3_init_20 18 rfl rfl)
theorem dX3_init_499 : decode cX3_init 499 = .ok (.return_, 1) := dk_177 (dk_at dksX3_init_20 21 rfl rfl)
abbrev cX3_cut : ByteArray := prog_6_method_25_code
def yX3_cut : MethodName := ⟨RX3, "cut", "(LSchemaWorkshop$Bytes;)I"⟩
def dkwX3_cut_7 : List UInt8 := [54, 4, 167, 0, 9, 42, 182, 1, 22, 54, 4, 21, 4, 154, 0, 5, 28, 172, 167, 255, 87, 2, 172]
abbrev dktX3_cut_7 : List UInt8 := dkwX3_cut_7 ++ []
def dkwX3_cut_6 : List UInt8 := [16, 34, 160, 0, 12, 42, 182, 1, 16, 54, 4, 167, 0, 24, 29, 16, 39, 160, 0, 12, 42, 182, 1, 19]
abbrev dktX3_cut_6 : List UInt8 := dkwX3_cut_6 ++ dktX3_cut_7
def dkwX3_cut_5 : List UInt8 := [42, 182, 1, 10, 167, 0, 55, 29, 184, 0, 210, 153, 0, 12, 42, 182, 1, 13, 54, 4, 167, 0, 39, 29]
abbrev dktX3_cut_5 : List UInt8 := dkwX3_cut_5 ++ dktX3_cut_6
def dkwX3_cut_4 : List UInt8 := [182, 0, 223, 16, 42, 160, 0, 12, 42, 182, 1, 6, 54, 4, 167, 0, 69, 29, 184, 0, 240, 153, 0, 10]
abbrev dktX3_cut_4 : List UInt8 := dkwX3_cut_4 ++ dktX3_cut_5
def dkwX3_cut_3 : List UInt8 := [182, 0, 223, 16, 45, 160, 0, 10, 42, 182, 1, 3, 167, 0, 94, 29, 16, 47, 160, 0, 22, 42, 4]
abbrev dktX3_cut_3 : List UInt8 := dkwX3_cut_3 ++ dktX3_cut_4
def dkwX3_cut_2 : List UInt8 := [153, 0, 16, 42, 89, 180, 0, 200, 4, 96, 181, 0, 200, 167, 0, 117, 29, 16, 45, 160, 0, 20, 42, 4]
abbrev dktX3_cut_2 : List UInt8 := dkwX3_cut_2 ++ dktX3_cut_3
def dkwX3_cut_1 : List UInt8 := [182, 0, 195, 162, 0, 161, 42, 180, 0, 200, 61, 42, 3, 182, 0, 223, 62, 4, 54, 4, 29, 184, 0, 253]
abbrev dktX3_cut_1 : List UInt8 := dkwX3_cut_1 ++ dktX3_cut_2
def dkwX3_cut_0 : List UInt8 := [42, 43, 181, 0, 191, 42, 3, 181, 0, 200, 42, 3, 181, 0, 187, 42, 180, 0, 200, 42, 180, 0, 191]
abbrev dktX3_cut_0 : List UInt8 := dkwX3_cut_0 ++ dktX3_cut_1
theorem dksX3_cut_0 : cX3_cut.data.toList.drop 0 = dktX3_cut_0 := by decide +kernel
theorem dksX3_cut_1 : cX3_cut.data.toList.drop 23 = dktX3_cut_1 := dk_seg dksX3_cut_0 23 rfl rfl
theorem dksX3_cut_2 : cX3_cut.data.toList.drop 47 = dktX3_cut_2 := dk_seg dksX3_cut_1 24 rfl rfl
theorem dksX3_cut_3 : cX3_cut.data.toList.drop 71 = dktX3_cut_3 := dk_seg dksX3_cut_2 24 rfl rfl
theorem dksX3_cut_4 : cX3_cut.data.toList.drop 94 = dktX3_cut_4 := dk_seg dksX3_cut_3 23 rfl rfl
theorem dksX3_cut_5 : cX3_cut.data.toList.drop 118 = dktX3_cut_5 := dk_seg dksX3_cut_4 24 rfl rfl
theorem dksX3_cut_6 : cX3_cut.data.toList.drop 142 = dktX3_cut_6 := dk_seg dksX3_cut_5 24 rfl rfl
theorem dksX3_cut_7 : cX3_cut.data.toList.drop 166 = dktX3_cut_7 := dk_seg dksX3_cut_6 24 rfl rfl
theorem dX3_cut_0 : decode cX3_cut 0 = .ok (.aload_n 0, 1) := dk_42 (dk_at dksX3_cut_0 0 rfl rfl)
theorem dX3_cut_1 : decode cX3_cut 1 = .ok (.aload_n 1, 1) := dk_43 (dk_at dksX3_cut_0 1 rfl rfl)
theorem dX3_cut_2 : decode cX3_cut 2 = .ok (.putfield 191, 3) := dk_181 0 191 (dk_at dksX3_cut_0 2 rfl rfl)
theorem dX3_cut_5 : decode cX3_cut 5 = .ok (.aload_n 0, 1) := dk_42 (dk_at dksX3_cut_0 5 rfl rfl)
theorem dX3_cut_6 : decode cX3_cut 6 = .ok (.iconst 0, 1) := dk_3 (dk_at dksX3_cut_0 6 rfl rfl)
theorem dX3_cut_7 : decode cX3_cut 7 = .ok (.putfield 200, 3) := dk_181 0 200 (dk_at dksX3_cut_0 7 rfl rfl)
theorem dX3_cut_10 : decode cX3_cut 10 = .ok (.aload_n 0, 1) := dk_42 (dk_at dksX3_cut_0 10 rfl rfl)
theorem dX3_cut_11 : decode cX3_cut 11 = .ok (.iconst 0, 1) := dk_3 (dk_at dksX3_cut_0 11 rfl rfl)
theorem dX3_cut_12 : decode cX3_cut 12 = .ok (.putfield 187, 3) := dk_181 0 187 (dk_at dksX3_cut_0 12 rfl rfl)
theorem dX3_cut_15 : decode cX3_cut 15 = .ok (.aload_n 0, 1) := dk_42 (dk_at dksX3_cut_0 15 rfl rfl)
theorem dX3_cut_16 : decode cX3_cut 16 = .ok (.getfield 200, 3) := dk_180 0 200 (dk_at dksX3_cut_0 16 rfl rfl)
theorem dX3_cut_19 : decode cX3_cut 19 = .ok (.aload_n 0, 1) := dk_42 (dk_at dksX3_cut_0 19 rfl rfl)
theorem dX3_cut_20 : decode cX3_cut 20 = .ok (.getfield 191, 3) := dk_180 0 191 (dk_at dksX3_cut_0 20 rfl rfl)
theorem dX3_cut_23 : decode cX3_cut 23 = .ok (.invokevirtual 195, 3) := dk_182 0 195 (dk_at dksX3_cut_1 0 rfl rfl)
theorem dX3_cut_26 : decode cX3_cut 26 = .ok (.if_icmp .ge 161, 3) := dk_162 0 161 (dk_at dksX3_cut_1 3 rfl rfl)
theorem dX3_cut_29 : decode cX3_cut 29 = .ok (.aload_n 0, 1) := dk_42 (dk_at dksX3_cut_1 6 rfl rfl)
theorem dX3_cut_30 : decode cX3_cut 30 = .ok (.getfield 200, 3) := dk_180 0 200 (dk_at dksX3_cut_1 7 rfl rfl)
theorem dX3_cut_33 : decode cX3_cut 33 = .ok (.istore_n 2, 1) := dk_61 (dk_at dksX3_cut_1 10 rfl rfl)
theorem dX3_cut_34 : decode cX3_cut 34 = .ok (.aload_n 0, 1) := dk_42 (dk_at dksX3_cut_1 11 rfl rfl)
theorem dX3_cut_35 : decode cX3_cut 35 = .ok (.iconst 0, 1) := dk_3 (dk_at dksX3_cut_1 12 rfl rfl)
theorem dX3_cut_36 : decode cX3_cut 36 = .ok (.invokevirtual 223, 3) := dk_182 0 223 (dk_at dksX3_cut_1 13 rfl rfl)
theorem dX3_cut_39 : decode cX3_cut 39 = .ok (.istore_n 3, 1) := dk_62 (dk_at dksX3_cut_1 16 rfl rfl)
theorem dX3_cut_40 : decode cX3_cut 40 = .ok (.iconst 1, 1) := dk_4 (dk_at dksX3_cut_1 17 rfl rfl)
theorem dX3_cut_41 : decode cX3_cut 41 = .ok (.istore 4, 2) := dk_54 4 (dk_at dksX3_cut_1 18 rfl rfl)
theorem dX3_cut_43 : decode cX3_cut 43 = .ok (.iload_n 3, 1) := dk_29 (dk_at dksX3_cut_1 20 rfl rfl)
theorem dX3_cut_44 : decode cX3_cut 44 = .ok (.invokestatic 253, 3) := dk_184 0 253 (dk_at dksX3_cut_1 21 rfl rfl)
theorem dX3_cut_47 : decode cX3_cut 47 = .ok (.ifCond .eq 16, 3) := dk_153 0 16 (dk_at dksX3_cut_2 0 rfl rfl)
theorem dX3_cut_50 : decode cX3_cut 50 = .ok (.aload_n 0, 1) := dk_42 (dk_at dksX3_cut_2 3 rfl rfl)
theorem dX3_cut_51 : decode cX3_cut 51 = .ok (.dup, 1) := dk_89 (dk_at dksX3_cut_2 4 rfl rfl)
theorem dX3_cut_52 : decode cX3_cut 52 = .ok (.getfield 200, 3) := dk_180 0 200 (dk_at dksX3_cut_2 5 rfl rfl)
theorem dX3_cut_55 : decode cX3_cut 55 = .ok (.iconst 1, 1) := dk_4 (dk_at dksX3_cut_2 8 rfl rfl)
theorem dX3_cut_56 : decode cX3_cut 56 = .ok (.iadd, 1) := dk_96 (dk_at dksX3_cut_2 9 rfl rfl)
theorem dX3_cut_57 : decode cX3_cut 57 = .ok (.putfield 200, 3) := dk_181 0 200 (dk_at dksX3_cut_2 10 rfl rfl)
theorem dX3_cut_60 : decode cX3_cut 60 = .ok (.goto 117, 3) := dk_167 0 117 (dk_at dksX3_cut_2 13 rfl rfl)
theorem dX3_cut_63 : decode cX3_cut 63 = .ok (.iload_n 3, 1) := dk_29 (dk_at dksX3_cut_2 16 rfl rfl)
theorem dX3_cut_64 : decode cX3_cut 64 = .ok (.bipush 45, 2) := dk_16 45 (dk_at dksX3_cut_2 17 rfl rfl)
theorem dX3_cut_66 : decode cX3_cut 66 = .ok (.if_icmp .ne 20, 3) := dk_160 0 20 (dk_at dksX3_cut_2 19 rfl rfl)
theorem dX3_cut_69 : decode cX3_cut 69 = .ok (.aload_n 0, 1) := dk_42 (dk_at dksX3_cut_2 22 rfl rfl)
theorem dX3_cut_70 : decode cX3_cut 70 = .ok (.iconst 1, 1) := dk_4 (dk_at dksX3_cut_2 23 rfl rfl)
theorem dX3_cut_71 : decode cX3_cut 71 = .ok (.invokevirtual 223, 3) := dk_182 0 223 (dk_at dksX3_cut_3 0 rfl rfl)
theorem dX3_cut_74 : decode cX3_cut 74 = .ok (.bipush 45, 2) := dk_16 45 (dk_at dksX3_cut_3 3 rfl rfl)
theorem dX3_cut_76 : decode cX3_cut 76 = .ok (.if_icmp .ne 10, 3) := dk_160 0 10 (dk_at dksX3_cut_3 5 rfl rfl)
theorem dX3_cut_79 : decode cX3_cut 79 = .ok (.aload_n 0, 1) := dk_42 (dk_at dksX3_cut_3 8 rfl rfl)
theorem dX3_cut_80 : decode cX3_cut 80 = .ok (.invokevirtual 259, 3) := dk_182 1 3 (dk_at dksX3_cut_3 9 rfl rfl)
theorem dX3_cut_83 : decode cX3_cut 83 = .ok (.goto 94, 3) := dk_167 0 94 (dk_at dksX3_cut_3 12 rfl rfl)
theorem dX3_cut_86 : decode cX3_cut 86 = .ok (.iload_n 3, 1) := dk_29 (dk_at dksX3_cut_3 15 rfl rfl)
theorem dX3_cut_87 : decode cX3_cut 87 = .ok (.bipush 47, 2) := dk_16 47 (dk_at dksX3_cut_3 16 rfl rfl)
theorem dX3_cut_89 : decode cX3_cut 89 = .ok (.if_icmp .ne 22, 3) := dk_160 0 22 (dk_at dksX3_cut_3 18 rfl rfl)
theorem dX3_cut_92 : decode cX3_cut 92 = .ok (.aload_n 0, 1) := dk_42 (dk_at dksX3_cut_3 21 rfl rfl)
theorem dX3_cut_93 : decode cX3_cut 93 = .ok (.iconst 1, 1) := dk_4 (dk_at dksX3_cut_3 22 rfl rfl)
theorem dX3_cut_94 : decode cX3_cut 94 = .ok (.invokevirtual 223, 3) := dk_182 0 223 (dk_at dksX3_cut_4 0 rfl rfl)
theorem dX3_cut_97 : decode cX3_cut 97 = .ok (.bipush 42, 2) := dk_16 42 (dk_at dksX3_cut_4 3 rfl rfl)
theorem dX3_cut_99 : decode cX3_cut 99 = .ok (.if_icmp .ne 12, 3) := dk_160 0 12 (dk_at dksX3_cut_4 5 rfl rfl)
theorem dX3_cut_102 : decode cX3_cut 102 = .ok (.aload_n 0, 1) := dk_42 (dk_at dksX3_cut_4 8 rfl rfl)
theorem dX3_cut_103 : decode cX3_cut 103 = .ok (.invokevirtual 262, 3) := dk_182 1 6 (dk_at dksX3_cut_4 9 rfl rfl)
theorem dX3_cut_106 : decode cX3_cut 106 = .ok (.istore 4, 2) := dk_54 4 (dk_at dksX3_cut_4 12 rfl rfl)
theorem dX3_cut_108 : decode cX3_cut 108 = .ok (.goto 69, 3) := dk_167 0 69 (dk_at dksX3_cut_4 14 rfl rfl)
theorem dX3_cut_111 : decode cX3_cut 111 = .ok (.iload_n 3, 1) := dk_29 (dk_at dksX3_cut_4 17 rfl rfl)
theorem dX3_cut_112 : decode cX3_cut 112 = .ok (.invokestatic 240, 3) := dk_184 0 240 (dk_at dksX3_cut_4 18 rfl rfl)
theorem dX3_cut_115 : decode cX3_cut 115 = .ok (.ifCond .eq 10, 3) := dk_153 0 10 (dk_at dksX3_cut_4 21 rfl rfl)
theorem dX3_cut_118 : decode cX3_cut 118 = .ok (.aload_n 0, 1) := dk_42 (dk_at dksX3_cut_5 0 rfl rfl)
theorem dX3_cut_119 : decode cX3_cut 119 = .ok (.invokevirtual 266, 3) := dk_182 1 10 (dk_at dksX3_cut_5 1 rfl rfl)
theorem dX3_cut_122 : decode cX3_cut 122 = .ok (.goto 55, 3) := dk_167 0 55 (dk_at dksX3_cut_5 4 rfl rfl)
theorem dX3_cut_125 : decode cX3_cut 125 = .ok (.iload_n 3, 1) := dk_29 (dk_at dksX3_cut_5 7 rfl rfl)
theorem dX3_cut_126 : decode cX3_cut 126 = .ok (.invokestatic 210, 3) := dk_184 0 210 (dk_at dksX3_cut_5 8 rfl rfl)
theorem dX3_cut_129 : decode cX3_cut 129 = .ok (.ifCond .eq 12, 3) := dk_153 0 12 (dk_at dksX3_cut_5 11 rfl rfl)
theorem dX3_cut_132 : decode cX3_cut 132 = .ok (.aload_n 0, 1) := dk_42 (dk_at dksX3_cut_5 14 rfl rfl)
theorem dX3_cut_133 : decode cX3_cut 133 = .ok (.invokevirtual 269, 3) := dk_182 1 13 (dk_at dksX3_cut_5 15 rfl rfl)
theorem dX3_cut_136 : decode cX3_cut 136 = .ok (.istore 4, 2) := dk_54 4 (dk_at dksX3_cut_5 18 rfl rfl)
theorem dX3_cut_138 : decode cX3_cut 138 = .ok (.goto 39, 3) := dk_167 0 39 (dk_at dksX3_cut_5 20 rfl rfl)
theorem dX3_cut_141 : decode cX3_cut 141 = .ok (.iload_n 3, 1) := dk_29 (dk_at dksX3_cut_5 23 rfl rfl)
theorem dX3_cut_142 : decode cX3_cut 142 = .ok (.bipush 34, 2) := dk_16 34 (dk_at dksX3_cut_6 0 rfl rfl)
theorem dX3_cut_144 : decode cX3_cut 144 = .ok (.if_icmp .ne 12, 3) := dk_160 0 12 (dk_at dksX3_cut_6 2 rfl rfl)
theorem dX3_cut_147 : decode cX3_cut 147 = .ok (.aload_n 0, 1) := dk_42 (dk_at dksX3_cut_6 5 rfl rfl)
theorem dX3_cut_148 : decode cX3_cut 148 = .ok (.invokevirtual 272, 3) := dk_182 1 16 (dk_at dksX3_cut_6 6 rfl rfl)
theorem dX3_cut_151 : decode cX3_cut 151 = .ok (.istore 4, 2) := dk_54 4 (dk_at dksX3_cut_6 9 rfl rfl)
theorem dX3_cut_153 : decode cX3_cut 153 = .ok (.goto 24, 3) := dk_167 0 24 (dk_at dksX3_cut_6 11 rfl rfl)
theorem dX3_cut_156 : decode cX3_cut 156 = .ok (.iload_n 3, 1) := dk_29 (dk_at dksX3_cut_6 14 rfl rfl)
theorem dX3_cut_157 : decode cX3_cut 157 = .ok (.bipush 39, 2) := dk_16 39 (dk_at dksX3_cut_6 15 rfl rfl)
theorem dX3_cut_159 : decode cX3_cut 159 = .ok (.if_icmp .ne 12, 3) := dk_160 0 12 (dk_at dksX3_cut_6 17 rfl rfl)
theorem dX3_cut_162 : decode cX3_cut 162 = .ok (.aload_n 0, 1) := dk_42 (dk_at dksX3_cut_6 20 rfl rfl)
theorem dX3_cut_163 : decode cX3_cut 163 = .ok (.invokevirtual 275, 3) := dk_182 1 19 (dk_at dksX3_cut_6 21 rfl rfl)
theorem dX3_cut_166 : decode cX3_cut 166 = .ok (.istore 4, 2) := dk_54 4 (dk_at dksX3_cut_7 0 rfl rfl)
theorem dX3_cut_168 : decode cX3_cut 168 = .ok (.goto 9, 3) := dk_167 0 9 (dk_at dksX3_cut_7 2 rfl rfl)
theorem dX3_cut_171 : decode cX3_cut 171 = .ok (.aload_n 0, 1) := dk_42 (dk_at dksX3_cut_7 5 rfl rfl)
theorem dX3_cut_172 : decode cX3_cut 172 = .ok (.invokevirtual 278, 3) := dk_182 1 22 (dk_at dksX3_cut_7 6 rfl rfl)
theorem dX3_cut_175 : decode cX3_cut 175 = .ok (.istore 4, 2) := dk_54 4 (dk_at dksX3_cut_7 9 rfl rfl)
theorem dX3_cut_177 : decode cX3_cut 177 = .ok (.iload 4, 2) := dk_21 4 (dk_at dksX3_cut_7 11 rfl rfl)
theorem dX3_cut_179 : decode cX3_cut 179 = .ok (.ifCond .ne 5, 3) := dk_154 0 5 (dk_at dksX3_cut_7 13 rfl rfl)
theorem dX3_cut_182 : decode cX3_cut 182 = .ok (.iload_n 2, 1) := dk_28 (dk_at dksX3_cut_7 16 rfl rfl)
theorem dX3_cut_183 : decode cX3_cut 183 = .ok (.ireturn, 1) := dk_172 (dk_at dksX3_cut_7 17 rfl rfl)
theorem dX3_cut_184 : decode cX3_cut 184 = .ok (.goto (-169), 3) := dk_167 255 87 (dk_at dksX3_cut_7 18 rfl rfl)
theorem dX3_cut_187 : decode cX3_cut 187 = .ok (.iconst (-1), 1) := dk_2 (dk_at dksX3_cut_7 21 rfl rfl)
theorem dX3_cut_188 : decode cX3_cut 188 = .ok (.ireturn, 1) := dk_172 (dk_at dksX3_cut_7 22 rfl rfl)
abbrev cX3_here : ByteArray := prog_6_method_7_code
def yX3_here : MethodName := ⟨RX3, "here", "(I)I"⟩
def dkwX3_here_1 : List UInt8 := [27, 96, 182, 0, 203, 167, 0, 4, 2, 172]
abbrev dktX3_here_1 : List UInt8 := dkwX3_here_1 ++ []
def dkwX3_here_0 : List UInt8 := [42, 180, 0, 200, 27, 96, 42, 180, 0, 191, 182, 0, 195, 162, 0, 19, 42, 180, 0, 191, 42, 180, 0, 200]
abbrev dktX3_here_0 : List UInt8 := dkwX3_here_0 ++ dktX3_here_1
theorem dksX3_here_0 : cX3_here.data.toList.drop 0 = dktX3_here_0 := by decide +kernel
theorem dksX3_here_1 : cX3_here.data.toList.drop 24 = dktX3_here_1 := dk_seg dksX3_here_0 24 rfl rfl
theorem dX3_here_0 : decode cX3_here 0 = .ok (.aload_n 0, 1) := dk_42 (dk_at dksX3_here_0 0 rfl rfl)
theorem dX3_here_1 : decode cX3_here 1 = .ok (.getfield 200, 3) := dk_180 0 200 (dk_at dksX3_here_0 1 rfl rfl)
theorem dX3_here_4 : decode cX3_here 4 = .ok (.iload_n 1, 1) := dk_27 (dk_at dksX3_here_0 4 rfl rfl)
theorem dX3_here_5 : decode cX3_here 5 = .ok (.iadd, 1) := dk_96 (dk_at dksX3_here_0 5 rfl rfl)
theorem dX3_here_6 : decode cX3_here 6 = .ok (.aload_n 0, 1) := dk_42 (dk_at dksX3_here_0 6 rfl rfl)
theorem dX3_here_7 : decode cX3_here 7 = .ok (.getfield 191, 3) := dk_180 0 191 (dk_at dksX3_here_0 7 rfl rfl)
theorem dX3_here_10 : decode cX3_here 10 = .ok (.invokevirtual 195, 3) := dk_182 0 195 (dk_at dksX3_here_0 10 rfl rfl)
theorem dX3_here_13 : decode cX3_here 13 = .ok (.if_icmp .ge 19, 3) := dk_162 0 19 (dk_at dksX3_here_0 13 rfl rfl)
theorem dX3_here_16 : decode cX3_here 16 = .ok (.aload_n 0, 1) := dk_42 (dk_at dksX3_here_0 16 rfl rfl)
theorem dX3_here_17 : decode cX3_here 17 = .ok (.getfield 191, 3) := dk_180 0 191 (dk_at dksX3_here_0 17 rfl rfl)
theorem dX3_here_20 : decode cX3_here 20 = .ok (.aload_n 0, 1) := dk_42 (dk_at dksX3_here_0 20 rfl rfl)
theorem dX3_here_21 : decode cX3_here 21 = .ok (.getfield 200, 3) := dk_180 0 200 (dk_at dksX3_here_0 21 rfl rfl)
theorem dX3_here_24 : decode cX3_here 24 = .ok (.iload_n 1, 1) := dk_27 (dk_at dksX3_here_1 0 rfl rfl)
theorem dX3_here_25 : decode cX3_here 25 = .ok (.iadd, 1) := dk_96 (dk_at dksX3_here_1 1 rfl rfl)
theorem dX3_here_26 : decode cX3_here 26 = .ok (.invokevirtual 203, 3) := dk_182 0 203 (dk_at dksX3_here_1 2 rfl rfl)
theorem dX3_here_29 : decode cX3_here 29 = .ok (.goto 4, 3) := dk_167 0 4 (dk_at dksX3_here_1 5 rfl rfl)
theorem dX3_here_32 : decode cX3_here 32 = .ok (.iconst (-1), 1) := dk_2 (dk_at dksX3_here_1 8 rfl rfl)
theorem dX3_here_33 : decode cX3_here 33 = .ok (.ireturn, 1) := dk_172 (dk_at dksX3_here_1 9 rfl rfl)
abbrev cX3_isWhite : ByteArray := prog_6_method_8_code
def yX3_isWhite : MethodName := ⟨RX3, "isWhite", "(I)Z"⟩
def dkwX3_isWhite_0 : List UInt8 := [26, 16, 9, 161, 0, 9, 26, 16, 13, 164, 0, 9, 26, 16, 32, 160, 0, 7, 4, 167, 0, 4, 3, 172]
abbrev dktX3_isWhite_0 : List UInt8 := dkwX3_isWhite_0 ++ []
theorem dksX3_isWhite_0 : cX3_isWhite.data.toList.drop 0 = dktX3_isWhite_0 := by decide +kernel
theorem dX3_isWhite_0 : decode cX3_isWhite 0 = .ok (.iload_n 0, 1) := dk_26 (dk_at dksX3_isWhite_0 0 rfl rfl)
theorem dX3_isWhite_1 : decode cX3_isWhite 1 = .ok (.bipush 9, 2) := dk_16 9 (dk_at dksX3_isWhite_0 1 rfl rfl)
theorem dX3_isWhite_3 : decode cX3_isWhite 3 = .ok (.if_icmp .lt 9, 3) := dk_161 0 9 (dk_at dksX3_isWhite_0 3 rfl rfl)
theorem dX3_isWhite_6 : decode cX3_isWhite 6 = .ok (.iload_n 0, 1) := dk_26 (dk_at dksX3_isWhite_0 6 rfl rfl)
theorem dX3_isWhite_7 : decode cX3_isWhite 7 = .ok (.bipush 13, 2) := dk_16 13 (dk_at dksX3_isWhite_0 7 rfl rfl)
theorem dX3_isWhite_9 : decode cX3_isWhite 9 = .ok (.if_icmp .le 9, 3) := dk_164 0 9 (dk_at dksX3_isWhite_0 9 rfl rfl)
theorem dX3_isWhite_12 : decode cX3_isWhite 12 = .ok (.iload_n 0, 1) := dk_26 (dk_at dksX3_isWhite_0 12 rfl rfl)
theorem dX3_isWhite_13 : decode cX3_isWhite 13 = .ok (.bipush 32, 2) := dk_16 32 (dk_at dksX3_isWhite_0 13 rfl rfl)
theorem dX3_isWhite_15 : decode cX3_isWhite 15 = .ok (.if_icmp .ne 7, 3) := dk_160 0 7 (dk_at dksX3_isWhite_0 15 rfl rfl)
theorem dX3_isWhite_18 : decode cX3_isWhite 18 = .ok (.iconst 1, 1) := dk_4 (dk_at dksX3_isWhite_0 18 rfl rfl)
theorem dX3_isWhite_19 : decode cX3_isWhite 19 = .ok (.goto 4, 3) := dk_167 0 4 (dk_at dksX3_isWhite_0 19 rfl rfl)
theorem dX3_isWhite_22 : decode cX3_isWhite 22 = .ok (.iconst 0, 1) := dk_3 (dk_at dksX3_isWhite_0 22 rfl rfl)
theorem dX3_isWhite_23 : decode cX3_isWhite 23 = .ok (.ireturn, 1) := dk_172 (dk_at dksX3_isWhite_0 23 rfl rfl)
abbrev cX3_skipLine : ByteArray := prog_6_method_16_code
def yX3_skipLine : MethodName := ⟨RX3, "skipLine", "()V"⟩
def dkwX3_skipLine_3 : List UInt8 := [182, 0, 223, 16, 45, 160, 0, 13, 42, 89, 180, 0, 200, 5, 96, 181, 0, 200, 177]
abbrev dktX3_skipLine_3 : List UInt8 := dkwX3_skipLine_3 ++ []
def dkwX3_skipLine_2 : List UInt8 := [182, 0, 223, 16, 45, 159, 0, 16, 42, 89, 180, 0, 200, 4, 96, 181, 0, 200, 167, 255, 201, 42, 3]
abbrev dktX3_skipLine_2 : List UInt8 := dkwX3_skipLine_2 ++ dktX3_skipLine_3
def dkwX3_skipLine_1 : List UInt8 := [42, 3, 182, 0, 223, 184, 0, 226, 154, 0, 36, 42, 3, 182, 0, 223, 16, 45, 160, 0, 13, 42, 4]
abbrev dktX3_skipLine_1 : List UInt8 := dkwX3_skipLine_1 ++ dktX3_skipLine_2
def dkwX3_skipLine_0 : List UInt8 := [42, 89, 180, 0, 200, 5, 96, 181, 0, 200, 42, 180, 0, 200, 42, 180, 0, 191, 182, 0, 195, 162, 0, 47]
abbrev dktX3_skipLine_0 : List UInt8 := dkwX3_skipLine_0 ++ dktX3_skipLine_1
theorem dksX3_skipLine_0 : cX3_skipLine.data.toList.drop 0 = dktX3_skipLine_0 := by decide +kernel
theorem dksX3_skipLine_1 : cX3_skipLine.data.toList.drop 24 = dktX3_skipLine_1 := dk_seg dksX3_skipLine_0 24 rfl rfl
theorem dksX3_skipLine_2 : cX3_skipLine.data.toList.drop 47 = dktX3_skipLine_2 := dk_seg dksX3_skipLine_1 23 rfl rfl
theorem dksX3_skipLine_3 : cX3_skipLine.data.toList.drop 70 = dktX3_skipLine_3 := dk_seg dksX3_skipLine_2 23 rfl rfl
theorem dX3_skipLine_0 : decode cX3_skipLine 0 = .ok (.aload_n 0, 1) := dk_42 (dk_at dksX3_skipLine_0 0 rfl rfl)
theorem dX3_skipLine_1 : decode cX3_skipLine 1 = .ok (.dup, 1) := dk_89 (dk_at dksX3_skipLine_0 1 rfl rfl)
theorem dX3_skipLine_2 : decode cX3_skipLine 2 = .ok (.getfield 200, 3) := dk_180 0 200 (dk_at dksX3_skipLine_0 2 rfl rfl)
theorem dX3_skipLine_5 : decode cX3_skipLine 5 = .ok (.iconst 2, 1) := dk_5 (dk_at dksX3_skipLine_0 5 rfl rfl)
theorem dX3_skipLine_6 : decode cX3_skipLine 6 = .ok (.iadd, 1) := dk_96 (dk_at dksX3_skipLine_0 6 rfl rfl)
theorem dX3_skipLine_7 : decode cX3_skipLine 7 = .ok (.putfield 200, 3) := dk_181 0 200 (dk_at dksX3_skipLine_0 7 rfl rfl)
theorem dX3_skipLine_10 : decode cX3_skipLine 10 = .ok (.aload_n 0, 1) := dk_42 (dk_at dksX3_skipLine_0 10 rfl rfl)
theorem dX3_skipLine_11 : decode cX3_skipLine 11 = .ok (.getfield 200, 3) := dk_180 0 200 (dk_at dksX3_skipLine_0 11 rfl rfl)
theorem dX3_skipLine_14 : decode cX3_skipLine 14 = .ok (.aload_n 0, 1) := dk_42 (dk_at dksX3_skipLine_0 14 rfl rfl)
theorem dX3_skipLine_15 : decode cX3_skipLine 15 = .ok (.getfield 191, 3) := dk_180 0 191 (dk_at dksX3_skipLine_0 15 rfl rfl)
theorem dX3_skipLine_18 : decode cX3_skipLine 18 = .ok (.invokevirtual 195, 3) := dk_182 0 195 (dk_at dksX3_skipLine_0 18 rfl rfl)
theorem dX3_skipLine_21 : decode cX3_skipLine 21 = .ok (.if_icmp .ge 47, 3) := dk_162 0 47 (dk_at dksX3_skipLine_0 21 rfl rfl)
theorem dX3_skipLine_24 : decode cX3_skipLine 24 = .ok (.aload_n 0, 1) := dk_42 (dk_at dksX3_skipLine_1 0 rfl rfl)
theorem dX3_skipLine_25 : decode cX3_skipLine 25 = .ok (.iconst 0, 1) := dk_3 (dk_at dksX3_skipLine_1 1 rfl rfl)
theorem dX3_skipLine_26 : decode cX3_skipLine 26 = .ok (.invokevirtual 223, 3) := dk_182 0 223 (dk_at dksX3_skipLine_1 2 rfl rfl)
theorem dX3_skipLine_29 : decode cX3_skipLine 29 = .ok (.invokestatic 226, 3) := dk_184 0 226 (dk_at dksX3_skipLine_1 5 rfl rfl)
theorem dX3_skipLine_32 : decode cX3_skipLine 32 = .ok (.ifCond .ne 36, 3) := dk_154 0 36 (dk_at dksX3_skipLine_1 8 rfl rfl)
theorem dX3_skipLine_35 : decode cX3_skipLine 35 = .ok (.aload_n 0, 1) := dk_42 (dk_at dksX3_skipLine_1 11 rfl rfl)
theorem dX3_skipLine_36 : decode cX3_skipLine 36 = .ok (.iconst 0, 1) := dk_3 (dk_at dksX3_skipLine_1 12 rfl rfl)
theorem dX3_skipLine_37 : decode cX3_skipLine 37 = .ok (.invokevirtual 223, 3) := dk_182 0 223 (dk_at dksX3_skipLine_1 13 rfl rfl)
theorem dX3_skipLine_40 : decode cX3_skipLine 40 = .ok (.bipush 45, 2) := dk_16 45 (dk_at dksX3_skipLine_1 16 rfl rfl)
theorem dX3_skipLine_42 : decode cX3_skipLine 42 = .ok (.if_icmp .ne 13, 3) := dk_160 0 13 (dk_at dksX3_skipLine_1 18 rfl rfl)
theorem dX3_skipLine_45 : decode cX3_skipLine 45 = .ok (.aload_n 0, 1) := dk_42 (dk_at dksX3_skipLine_1 21 rfl rfl)
theorem dX3_skipLine_46 : decode cX3_skipLine 46 = .ok (.iconst 1, 1) := dk_4 (dk_at dksX3_skipLine_1 22 rfl rfl)
theorem dX3_skipLine_47 : decode cX3_skipLine 47 = .ok (.invokevirtual 223, 3) := dk_182 0 223 (dk_at dksX3_skipLine_2 0 rfl rfl)
theorem dX3_skipLine_50 : decode cX3_skipLine 50 = .ok (.bipush 45, 2) := dk_16 45 (dk_at dksX3_skipLine_2 3 rfl rfl)
theorem dX3_skipLine_52 : decode cX3_skipLine 52 = .ok (.if_icmp .eq 16, 3) := dk_159 0 16 (dk_at dksX3_skipLine_2 5 rfl rfl)
theorem dX3_skipLine_55 : decode cX3_skipLine 55 = .ok (.aload_n 0, 1) := dk_42 (dk_at dksX3_skipLine_2 8 rfl rfl)
theorem dX3_skipLine_56 : decode cX3_skipLine 56 = .ok (.dup, 1) := dk_89 (dk_at dksX3_skipLine_2 9 rfl rfl)
theorem dX3_skipLine_57 : decode cX3_skipLine 57 = .ok (.getfield 200, 3) := dk_180 0 200 (dk_at dksX3_skipLine_2 10 rfl rfl)
theorem dX3_skipLine_60 : decode cX3_skipLine 60 = .ok (.iconst 1, 1) := dk_4 (dk_at dksX3_skipLine_2 13 rfl rfl)
theorem dX3_skipLine_61 : decode cX3_skipLine 61 = .ok (.iadd, 1) := dk_96 (dk_at dksX3_skipLine_2 14 rfl rfl)
theorem dX3_skipLine_62 : decode cX3_skipLine 62 = .ok (.putfield 200, 3) := dk_181 0 200 (dk_at dksX3_skipLine_2 15 rfl rfl)
theorem dX3_skipLine_65 : decode cX3_skipLine 65 = .ok (.goto (-55), 3) := dk_167 255 201 (dk_at dksX3_skipLine_2 18 rfl rfl)
theorem dX3_skipLine_68 : decode cX3_skipLine 68 = .ok (.aload_n 0, 1) := dk_42 (dk_at dksX3_skipLine_2 21 rfl rfl)
theorem dX3_skipLine_69 : decode cX3_skipLine 69 = .ok (.iconst 0, 1) := dk_3 (dk_at dksX3_skipLine_2 22 rfl rfl)
theorem dX3_skipLine_70 : decode cX3_skipLine 70 = .ok (.invokevirtual 223, 3) := dk_182 0 223 (dk_at dksX3_skipLine_3 0 rfl rfl)
theorem dX3_skipLine_73 : decode cX3_skipLine 73 = .ok (.bipush 45, 2) := dk_16 45 (dk_at dksX3_skipLine_3 3 rfl rfl)
theorem dX3_skipLine_75 : decode cX3_skipLine 75 = .ok (.if_icmp .ne 13, 3) := dk_160 0 13 (dk_at dksX3_skipLine_3 5 rfl rfl)
theorem dX3_skipLine_78 : decode cX3_skipLine 78 = .ok (.aload_n 0, 1) := dk_42 (dk_at dksX3_skipLine_3 8 rfl rfl)
theorem dX3_skipLine_79 : decode cX3_skipLine 79 = .ok (.dup, 1) := dk_89 (dk_at dksX3_skipLine_3 9 rfl rfl)
theorem dX3_skipLine_80 : decode cX3_skipLine 80 = .ok (.getfield 200, 3) := dk_180 0 200 (dk_at dksX3_skipLine_3 10 rfl rfl)
theorem dX3_skipLine_83 : decode cX3_skipLine 83 = .ok (.iconst 2, 1) := dk_5 (dk_at dksX3_skipLine_3 13 rfl rfl)
theorem dX3_skipLine_84 : decode cX3_skipLine 84 = .ok (.iadd, 1) := dk_96 (dk_at dksX3_skipLine_3 14 rfl rfl)
theorem dX3_skipLine_85 : decode cX3_skipLine 85 = .ok (.putfield 200, 3) := dk_181 0 200 (dk_at dksX3_skipLine_3 15 rfl rfl)
theorem dX3_skipLine_88 : decode cX3_skipLine 88 = .ok (.return_, 1) := dk_177 (dk_at dksX3_skipLine_3 18 rfl rfl)
abbrev cX3_isLineEnd : ByteArray := prog_6_method_9_code
def yX3_isLineEnd : MethodName := ⟨RX3, "isLineEnd", "(I)Z"⟩
def dkwX3_isLineEnd_0 : List UInt8 := [26, 16, 10, 161, 0, 13, 26, 16, 13, 163, 0, 7, 4, 167, 0, 4, 3, 172]
abbrev dktX3_isLineEnd_0 : List UInt8 := dkwX3_isLineEnd_0 ++ []
theorem dksX3_isLineEnd_0 : cX3_isLineEnd.data.toList.drop 0 = dktX3_isLineEnd_0 := by decide +kernel
theorem dX3_isLineEnd_0 : decode cX3_isLineEnd 0 = .ok (.iload_n 0, 1) := dk_26 (dk_at dksX3_isLineEnd_0 0 rfl rfl)
theorem dX3_isLineEnd_1 : decode cX3_isLineEnd 1 = .ok (.bipush 10, 2) := dk_16 10 (dk_at dksX3_isLineEnd_0 1 rfl rfl)
theorem dX3_isLineEnd_3 : decode cX3_isLineEnd 3 = .ok (.if_icmp .lt 13, 3) := dk_161 0 13 (dk_at dksX3_isLineEnd_0 3 rfl rfl)
theorem dX3_isLineEnd_6 : decode cX3_isLineEnd 6 = .ok (.iload_n 0, 1) := dk_26 (dk_at dksX3_isLineEnd_0 6 rfl rfl)
theorem dX3_isLineEnd_7 : decode cX3_isLineEnd 7 = .ok (.bipush 13, 2) := dk_16 13 (dk_at dksX3_isLineEnd_0 7 rfl rfl)
theorem dX3_isLineEnd_9 : decode cX3_isLineEnd 9 = .ok (.if_icmp .gt 7, 3) := dk_163 0 7 (dk_at dksX3_isLineEnd_0 9 rfl rfl)
theorem dX3_isLineEnd_12 : decode cX3_isLineEnd 12 = .ok (.iconst 1, 1) := dk_4 (dk_at dksX3_isLineEnd_0 12 rfl rfl)
theorem dX3_isLineEnd_13 : decode cX3_isLineEnd 13 = .ok (.goto 4, 3) := dk_167 0 4 (dk_at dksX3_isLineEnd_0 13 rfl rfl)
theorem dX3_isLineEnd_16 : decode cX3_isLineEnd 16 = .ok (.iconst 0, 1) := dk_3 (dk_at dksX3_isLineEnd_0 16 rfl rfl)
theorem dX3_isLineEnd_17 : decode cX3_isLineEnd 17 = .ok (.ireturn, 1) := dk_172 (dk_at dksX3_isLineEnd_0 17 rfl rfl)
abbrev cX3_skipBlock : ByteArray := prog_6_method_17_code
def yX3_skipBlock : MethodName := ⟨RX3, "skipBlock", "()Z"⟩
def dkwX3_skipBlock_4 : List UInt8 := [42, 180, 0, 191, 182, 0, 195, 161, 255, 159, 27, 154, 0, 7, 4, 167, 0, 4, 3, 172]
abbrev dktX3_skipBlock_4 : List UInt8 := dkwX3_skipBlock_4 ++ []
def dkwX3_skipBlock_3 : List UInt8 := [181, 0, 200, 167, 0, 13, 42, 89, 180, 0, 200, 4, 96, 181, 0, 200, 27, 158, 0, 17, 42, 180, 0, 200]
abbrev dktX3_skipBlock_3 : List UInt8 := dkwX3_skipBlock_3 ++ dktX3_skipBlock_4
def dkwX3_skipBlock_2 : List UInt8 := [160, 0, 29, 42, 4, 182, 0, 223, 16, 47, 160, 0, 19, 132, 1, 255, 42, 89, 180, 0, 200, 5, 96]
abbrev dktX3_skipBlock_2 : List UInt8 := dkwX3_skipBlock_2 ++ dktX3_skipBlock_3
def dkwX3_skipBlock_1 : List UInt8 := [132, 1, 1, 42, 89, 180, 0, 200, 5, 96, 181, 0, 200, 167, 0, 49, 42, 3, 182, 0, 223, 16, 42]
abbrev dktX3_skipBlock_1 : List UInt8 := dkwX3_skipBlock_1 ++ dktX3_skipBlock_2
def dkwX3_skipBlock_0 : List UInt8 := [3, 60, 42, 3, 182, 0, 223, 16, 47, 160, 0, 29, 42, 4, 182, 0, 223, 16, 42, 160, 0, 19]
abbrev dktX3_skipBlock_0 : List UInt8 := dkwX3_skipBlock_0 ++ dktX3_skipBlock_1
theorem dksX3_skipBlock_0 : cX3_skipBlock.data.toList.drop 0 = dktX3_skipBlock_0 := by decide +kernel
theorem dksX3_skipBlock_1 : cX3_skipBlock.data.toList.drop 22 = dktX3_skipBlock_1 := dk_seg dksX3_skipBlock_0 22 rfl rfl
theorem dksX3_skipBlock_2 : cX3_skipBlock.data.toList.drop 45 = dktX3_skipBlock_2 := dk_seg dksX3_skipBlock_1 23 rfl rfl
theorem dksX3_skipBlock_3 : cX3_skipBlock.data.toList.drop 68 = dktX3_skipBlock_3 := dk_seg dksX3_skipBlock_2 23 rfl rfl
theorem dksX3_skipBlock_4 : cX3_skipBlock.data.toList.drop 92 = dktX3_skipBlock_4 := dk_seg dksX3_skipBlock_3 24 rfl rfl
theorem dX3_skipBlock_0 : decode cX3_skipBlock 0 = .ok (.iconst 0, 1) := dk_3 (dk_at dksX3_skipBlock_0 0 rfl rfl)
theorem dX3_skipBlock_1 : decode cX3_skipBlock 1 = .ok (.istore_n 1, 1) := dk_60 (dk_at dksX3_skipBlock_0 1 rfl rfl)
theorem dX3_skipBlock_2 : decode cX3_skipBlock 2 = .ok (.aload_n 0, 1) := dk_42 (dk_at dksX3_skipBlock_0 2 rfl rfl)
theorem dX3_skipBlock_3 : decode cX3_skipBlock 3 = .ok (.iconst 0, 1) := dk_3 (dk_at dksX3_skipBlock_0 3 rfl rfl)
theorem dX3_skipBlock_4 : decode cX3_skipBlock 4 = .ok (.invokevirtual 223, 3) := dk_182 0 223 (dk_at dksX3_skipBlock_0 4 rfl rfl)
theorem dX3_skipBlock_7 : decode cX3_skipBlock 7 = .ok (.bipush 47, 2) := dk_16 47 (dk_at dksX3_skipBlock_0 7 rfl rfl)
theorem dX3_skipBlock_9 : decode cX3_skipBlock 9 = .ok (.if_icmp .ne 29, 3) := dk_160 0 29 (dk_at dksX3_skipBlock_0 9 rfl rfl)
theorem dX3_skipBlock_12 : decode cX3_skipBlock 12 = .ok (.aload_n 0, 1) := dk_42 (dk_at dksX3_skipBlock_0 12 rfl rfl)
theorem dX3_skipBlock_13 : decode cX3_skipBlock 13 = .ok (.iconst 1, 1) := dk_4 (dk_at dksX3_skipBlock_0 13 rfl rfl)
theorem dX3_skipBlock_14 : decode cX3_skipBlock 14 = .ok (.invokevirtual 223, 3) := dk_182 0 223 (dk_at dksX3_skipBlock_0 14 rfl rfl)
theorem dX3_skipBlock_17 : decode cX3_skipBlock 17 = .ok (.bipush 42, 2) := dk_16 42 (dk_at dksX3_skipBlock_0 17 rfl rfl)
theorem dX3_skipBlock_19 : decode cX3_skipBlock 19 = .ok (.if_icmp .ne 19, 3) := dk_160 0 19 (dk_at dksX3_skipBlock_0 19 rfl rfl)
theorem dX3_skipBlock_22 : decode cX3_skipBlock 22 = .ok (.iinc 1 1, 3) := dk_132 1 1 (dk_at dksX3_skipBlock_1 0 rfl rfl)
theorem dX3_skipBlock_25 : decode cX3_skipBlock 25 = .ok (.aload_n 0, 1) := dk_42 (dk_at dksX3_skipBlock_1 3 rfl rfl)
theorem dX3_skipBlock_26 : decode cX3_skipBlock 26 = .ok (.dup, 1) := dk_89 (dk_at dksX3_skipBlock_1 4 rfl rfl)
theorem dX3_skipBlock_27 : decode cX3_skipBlock 27 = .ok (.getfield 200, 3) := dk_180 0 200 (dk_at dksX3_skipBlock_1 5 rfl rfl)
theorem dX3_skipBlock_30 : decode cX3_skipBlock 30 = .ok (.iconst 2, 1) := dk_5 (dk_at dksX3_skipBlock_1 8 rfl rfl)
theorem dX3_skipBlock_31 : decode cX3_skipBlock 31 = .ok (.iadd, 1) := dk_96 (dk_at dksX3_skipBlock_1 9 rfl rfl)
theorem dX3_skipBlock_32 : decode cX3_skipBlock 32 = .ok (.putfield 200, 3) := dk_181 0 200 (dk_at dksX3_skipBlock_1 10 rfl rfl)
theorem dX3_skipBlock_35 : decode cX3_skipBlock 35 = .ok (.goto 49, 3) := dk_167 0 49 (dk_at dksX3_skipBlock_1 13 rfl rfl)
theorem dX3_skipBlock_38 : decode cX3_skipBlock 38 = .ok (.aload_n 0, 1) := dk_42 (dk_at dksX3_skipBlock_1 16 rfl rfl)
theorem dX3_skipBlock_39 : decode cX3_skipBlock 39 = .ok (.iconst 0, 1) := dk_3 (dk_at dksX3_skipBlock_1 17 rfl rfl)
theorem dX3_skipBlock_40 : decode cX3_skipBlock 40 = .ok (.invokevirtual 223, 3) := dk_182 0 223 (dk_at dksX3_skipBlock_1 18 rfl rfl)
theorem dX3_skipBlock_43 : decode cX3_skipBlock 43 = .ok (.bipush 42, 2) := dk_16 42 (dk_at dksX3_skipBlock_1 21 rfl rfl)
theorem dX3_skipBlock_45 : decode cX3_skipBlock 45 = .ok (.if_icmp .ne 29, 3) := dk_160 0 29 (dk_at dksX3_skipBlock_2 0 rfl rfl)
theorem dX3_skipBlock_48 : decode cX3_skipBlock 48 = .ok (.aload_n 0, 1) := dk_42 (dk_at dksX3_skipBlock_2 3 rfl rfl)
theorem dX3_skipBlock_49 : decode cX3_skipBlock 49 = .ok (.iconst 1, 1) := dk_4 (dk_at dksX3_skipBlock_2 4 rfl rfl)
theorem dX3_skipBlock_50 : decode cX3_skipBlock 50 = .ok (.invokevirtual 223, 3) := dk_182 0 223 (dk_at dksX3_skipBlock_2 5 rfl rfl)
theorem dX3_skipBlock_53 : decode cX3_skipBlock 53 = .ok (.bipush 47, 2) := dk_16 47 (dk_at dksX3_skipBlock_2 8 rfl rfl)
theorem dX3_skipBlock_55 : decode cX3_skipBlock 55 = .ok (.if_icmp .ne 19, 3) := dk_160 0 19 (dk_at dksX3_skipBlock_2 10 rfl rfl)
theorem dX3_skipBlock_58 : decode cX3_skipBlock 58 = .ok (.iinc 1 (-1), 3) := dk_132 1 255 (dk_at dksX3_skipBlock_2 13 rfl rfl)
theorem dX3_skipBlock_61 : decode cX3_skipBlock 61 = .ok (.aload_n 0, 1) := dk_42 (dk_at dksX3_skipBlock_2 16 rfl rfl)
theorem dX3_skipBlock_62 : decode cX3_skipBlock 62 = .ok (.dup, 1) := dk_89 (dk_at dksX3_skipBlock_2 17 rfl rfl)
theorem dX3_skipBlock_63 : decode cX3_skipBlock 63 = .ok (.getfield 200, 3) := dk_180 0 200 (dk_at dksX3_skipBlock_2 18 rfl rfl)
theorem dX3_skipBlock_66 : decode cX3_skipBlock 66 = .ok (.iconst 2, 1) := dk_5 (dk_at dksX3_skipBlock_2 21 rfl rfl)
theorem dX3_skipBlock_67 : decode cX3_skipBlock 67 = .ok (.iadd, 1) := dk_96 (dk_at dksX3_skipBlock_2 22 rfl rfl)
theorem dX3_skipBlock_68 : decode cX3_skipBlock 68 = .ok (.putfield 200, 3) := dk_181 0 200 (dk_at dksX3_skipBlock_3 0 rfl rfl)
theorem dX3_skipBlock_71 : decode cX3_skipBlock 71 = .ok (.goto 13, 3) := dk_167 0 13 (dk_at dksX3_skipBlock_3 3 rfl rfl)
theorem dX3_skipBlock_74 : decode cX3_skipBlock 74 = .ok (.aload_n 0, 1) := dk_42 (dk_at dksX3_skipBlock_3 6 rfl rfl)
theorem dX3_skipBlock_75 : decode cX3_skipBlock 75 = .ok (.dup, 1) := dk_89 (dk_at dksX3_skipBlock_3 7 rfl rfl)
theorem dX3_skipBlock_76 : decode cX3_skipBlock 76 = .ok (.getfield 200, 3) := dk_180 0 200 (dk_at dksX3_skipBlock_3 8 rfl rfl)
theorem dX3_skipBlock_79 : decode cX3_skipBlock 79 = .ok (.iconst 1, 1) := dk_4 (dk_at dksX3_skipBlock_3 11 rfl rfl)
theorem dX3_skipBlock_80 : decode cX3_skipBlock 80 = .ok (.iadd, 1) := dk_96 (dk_at dksX3_skipBlock_3 12 rfl rfl)
theorem dX3_skipBlock_81 : decode cX3_skipBlock 81 = .ok (.putfield 200, 3) := dk_181 0 200 (dk_at dksX3_skipBlock_3 13 rfl rfl)
theorem dX3_skipBlock_84 : decode cX3_skipBlock 84 = .ok (.iload_n 1, 1) := dk_27 (dk_at dksX3_skipBlock_3 16 rfl rfl)
theorem dX3_skipBlock_85 : decode cX3_skipBlock 85 = .ok (.ifCond .le 17, 3) := dk_158 0 17 (dk_at dksX3_skipBlock_3 17 rfl rfl)
theorem dX3_skipBlock_88 : decode cX3_skipBlock 88 = .ok (.aload_n 0, 1) := dk_42 (dk_at dksX3_skipBlock_3 20 rfl rfl)
theorem dX3_skipBlock_89 : decode cX3_skipBlock 89 = .ok (.getfield 200, 3) := dk_180 0 200 (dk_at dksX3_skipBlock_3 21 rfl rfl)
theorem dX3_skipBlock_92 : decode cX3_skipBlock 92 = .ok (.aload_n 0, 1) := dk_42 (dk_at dksX3_skipBlock_4 0 rfl rfl)
theorem dX3_skipBlock_93 : decode cX3_skipBlock 93 = .ok (.getfield 191, 3) := dk_180 0 191 (dk_at dksX3_skipBlock_4 1 rfl rfl)
theorem dX3_skipBlock_96 : decode cX3_skipBlock 96 = .ok (.invokevirtual 195, 3) := dk_182 0 195 (dk_at dksX3_skipBlock_4 4 rfl rfl)
theorem dX3_skipBlock_99 : decode cX3_skipBlock 99 = .ok (.if_icmp .lt (-97), 3) := dk_161 255 159 (dk_at dksX3_skipBlock_4 7 rfl rfl)
theorem dX3_skipBlock_102 : decode cX3_skipBlock 102 = .ok (.iload_n 1, 1) := dk_27 (dk_at dksX3_skipBlock_4 10 rfl rfl)
theorem dX3_skipBlock_103 : decode cX3_skipBlock 103 = .ok (.ifCond .ne 7, 3) := dk_154 0 7 (dk_at dksX3_skipBlock_4 11 rfl rfl)
theorem dX3_skipBlock_106 : decode cX3_skipBlock 106 = .ok (.iconst 1, 1) := dk_4 (dk_at dksX3_skipBlock_4 14 rfl rfl)
theorem dX3_skipBlock_107 : decode cX3_skipBlock 107 = .ok (.goto 4, 3) := dk_167 0 4 (dk_at dksX3_skipBlock_4 15 rfl rfl)
theorem dX3_skipBlock_110 : decode cX3_skipBlock 110 = .ok (.iconst 0, 1) := dk_3 (dk_at dksX3_skipBlock_4 18 rfl rfl)
theorem dX3_skipBlock_111 : decode cX3_skipBlock 111 = .ok (.ireturn, 1) := dk_172 (dk_at dksX3_skipBlock_4 19 rfl rfl)
abbrev cX3_isLetter : ByteArray := prog_6_method_11_code
def yX3_isLetter : MethodName := ⟨RX3, "isLetter", "(I)Z"⟩
def dkwX3_isLetter_1 : List UInt8 := [172]
abbrev dktX3_isLetter_1 : List UInt8 := dkwX3_isLetter_1 ++ []
def dkwX3_isLetter_0 : List UInt8 := [26, 184, 0, 206, 154, 0, 15, 26, 16, 97, 161, 0, 13, 26, 16, 122, 163, 0, 7, 4, 167, 0, 4, 3]
abbrev dktX3_isLetter_0 : List UInt8 := dkwX3_isLetter_0 ++ dktX3_isLetter_1
theorem dksX3_isLetter_0 : cX3_isLetter.data.toList.drop 0 = dktX3_isLetter_0 := by decide +kernel
theorem dksX3_isLetter_1 : cX3_isLetter.data.toList.drop 24 = dktX3_isLetter_1 := dk_seg dksX3_isLetter_0 24 rfl rfl
theorem dX3_isLetter_0 : decode cX3_isLetter 0 = .ok (.iload_n 0, 1) := dk_26 (dk_at dksX3_isLetter_0 0 rfl rfl)
theorem dX3_isLetter_1 : decode cX3_isLetter 1 = .ok (.invokestatic 206, 3) := dk_184 0 206 (dk_at dksX3_isLetter_0 1 rfl rfl)
theorem dX3_isLetter_4 : decode cX3_isLetter 4 = .ok (.ifCond .ne 15, 3) := dk_154 0 15 (dk_at dksX3_isLetter_0 4 rfl rfl)
theorem dX3_isLetter_7 : decode cX3_isLetter 7 = .ok (.iload_n 0, 1) := dk_26 (dk_at dksX3_isLetter_0 7 rfl rfl)
theorem dX3_isLetter_8 : decode cX3_isLetter 8 = .ok (.bipush 97, 2) := dk_16 97 (dk_at dksX3_isLetter_0 8 rfl rfl)
theorem dX3_isLetter_10 : decode cX3_isLetter 10 = .ok (.if_icmp .lt 13, 3) := dk_161 0 13 (dk_at dksX3_isLetter_0 10 rfl rfl)
theorem dX3_isLetter_13 : decode cX3_isLetter 13 = .ok (.iload_n 0, 1) := dk_26 (dk_at dksX3_isLetter_0 13 rfl rfl)
theorem dX3_isLetter_14 : decode cX3_isLetter 14 = .ok (.bipush 122, 2) := dk_16 122 (dk_at dksX3_isLetter_0 14 rfl rfl)
theorem dX3_isLetter_16 : decode cX3_isLetter 16 = .ok (.if_icmp .gt 7, 3) := dk_163 0 7 (dk_at dksX3_isLetter_0 16 rfl rfl)
theorem dX3_isLetter_19 : decode cX3_isLetter 19 = .ok (.iconst 1, 1) := dk_4 (dk_at dksX3_isLetter_0 19 rfl rfl)
theorem dX3_isLetter_20 : decode cX3_isLetter 20 = .ok (.goto 4, 3) := dk_167 0 4 (dk_at dksX3_isLetter_0 20 rfl rfl)
theorem dX3_isLetter_23 : decode cX3_isLetter 23 = .ok (.iconst 0, 1) := dk_3 (dk_at dksX3_isLetter_0 23 rfl rfl)
theorem dX3_isLetter_24 : decode cX3_isLetter 24 = .ok (.ireturn, 1) := dk_172 (dk_at dksX3_isLetter_1 0 rfl rfl)
abbrev cX3_isLarge : ByteArray := prog_6_method_10_code
def yX3_isLarge : MethodName := ⟨RX3, "isLarge", "(I)Z"⟩
def dkwX3_isLarge_0 : List UInt8 := [26, 16, 65, 161, 0, 13, 26, 16, 90, 163, 0, 7, 4, 167, 0, 4, 3, 172]
abbrev dktX3_isLarge_0 : List UInt8 := dkwX3_isLarge_0 ++ []
theorem dksX3_isLarge_0 : cX3_isLarge.data.toList.drop 0 = dktX3_isLarge_0 := by decide +kernel
theorem dX3_isLarge_0 : decode cX3_isLarge 0 = .ok (.iload_n 0, 1) := dk_26 (dk_at dksX3_isLarge_0 0 rfl rfl)
theorem dX3_isLarge_1 : decode cX3_isLarge 1 = .ok (.bipush 65, 2) := dk_16 65 (dk_at dksX3_isLarge_0 1 rfl rfl)
theorem dX3_isLarge_3 : decode cX3_isLarge 3 = .ok (.if_icmp .lt 13, 3) := dk_161 0 13 (dk_at dksX3_isLarge_0 3 rfl rfl)
theorem dX3_isLarge_6 : decode cX3_isLarge 6 = .ok (.iload_n 0, 1) := dk_26 (dk_at dksX3_isLarge_0 6 rfl rfl)
theorem dX3_isLarge_7 : decode cX3_isLarge 7 = .ok (.bipush 90, 2) := dk_16 90 (dk_at dksX3_isLarge_0 7 rfl rfl)
theorem dX3_isLarge_9 : decode cX3_isLarge 9 = .ok (.if_icmp .gt 7, 3) := dk_163 0 7 (dk_at dksX3_isLarge_0 9 rfl rfl)
theorem dX3_isLarge_12 : decode cX3_isLarge 12 = .ok (.iconst 1, 1) := dk_4 (dk_at dksX3_isLarge_0 12 rfl rfl)
theorem dX3_isLarge_13 : decode cX3_isLarge 13 = .ok (.goto 4, 3) := dk_167 0 4 (dk_at dksX3_isLarge_0 13 rfl rfl)
theorem dX3_isLarge_16 : decode cX3_isLarge 16 = .ok (.iconst 0, 1) := dk_3 (dk_at dksX3_isLarge_0 16 rfl rfl)
theorem dX3_isLarge_17 : decode cX3_isLarge 17 = .ok (.ireturn, 1) := dk_172 (dk_at dksX3_isLarge_0 17 rfl rfl)
abbrev cX3_name : ByteArray := prog_6_method_20_code
def yX3_name : MethodName := ⟨RX3, "name", "()V"⟩
def dkwX3_name_6 : List UInt8 := [182, 0, 246, 177]
abbrev dktX3_name_6 : List UInt8 := dkwX3_name_6 ++ []
def dkwX3_name_5 : List UInt8 := [167, 0, 22, 42, 180, 0, 191, 27, 182, 0, 203, 184, 0, 206, 153, 0, 7, 4, 167, 0, 4, 3, 27]
abbrev dktX3_name_5 : List UInt8 := dkwX3_name_5 ++ dktX3_name_6
def dkwX3_name_4 : List UInt8 := [153, 0, 11, 42, 27, 182, 0, 243, 167, 0, 4, 2, 61, 42, 28, 2, 159, 0, 10, 16, 100, 28, 96]
abbrev dktX3_name_4 : List UInt8 := dkwX3_name_4 ++ dktX3_name_5
def dkwX3_name_3 : List UInt8 := [180, 0, 200, 4, 96, 181, 0, 200, 167, 255, 192, 42, 180, 0, 191, 27, 182, 0, 203, 184, 0, 206]
abbrev dktX3_name_3 : List UInt8 := dkwX3_name_3 ++ dktX3_name_4
def dkwX3_name_2 : List UInt8 := [42, 4, 182, 0, 223, 184, 0, 240, 154, 0, 14, 42, 4, 182, 0, 223, 184, 0, 210, 153, 0, 16, 42, 89]
abbrev dktX3_name_2 : List UInt8 := dkwX3_name_2 ++ dktX3_name_3
def dkwX3_name_1 : List UInt8 := [154, 0, 46, 42, 3, 182, 0, 223, 184, 0, 210, 154, 0, 35, 42, 3, 182, 0, 223, 16, 45, 160, 0, 38]
abbrev dktX3_name_1 : List UInt8 := dkwX3_name_1 ++ dktX3_name_2
def dkwX3_name_0 : List UInt8 := [42, 180, 0, 200, 60, 42, 89, 180, 0, 200, 4, 96, 181, 0, 200, 42, 3, 182, 0, 223, 184, 0, 240]
abbrev dktX3_name_0 : List UInt8 := dkwX3_name_0 ++ dktX3_name_1
theorem dksX3_name_0 : cX3_name.data.toList.drop 0 = dktX3_name_0 := by decide +kernel
theorem dksX3_name_1 : cX3_name.data.toList.drop 23 = dktX3_name_1 := dk_seg dksX3_name_0 23 rfl rfl
theorem dksX3_name_2 : cX3_name.data.toList.drop 47 = dktX3_name_2 := dk_seg dksX3_name_1 24 rfl rfl
theorem dksX3_name_3 : cX3_name.data.toList.drop 71 = dktX3_name_3 := dk_seg dksX3_name_2 24 rfl rfl
theorem dksX3_name_4 : cX3_name.data.toList.drop 93 = dktX3_name_4 := dk_seg dksX3_name_3 22 rfl rfl
theorem dksX3_name_5 : cX3_name.data.toList.drop 116 = dktX3_name_5 := dk_seg dksX3_name_4 23 rfl rfl
theorem dksX3_name_6 : cX3_name.data.toList.drop 139 = dktX3_name_6 := dk_seg dksX3_name_5 23 rfl rfl
theorem dX3_name_0 : decode cX3_name 0 = .ok (.aload_n 0, 1) := dk_42 (dk_at dksX3_name_0 0 rfl rfl)
theorem dX3_name_1 : decode cX3_name 1 = .ok (.getfield 200, 3) := dk_180 0 200 (dk_at dksX3_name_0 1 rfl rfl)
theorem dX3_name_4 : decode cX3_name 4 = .ok (.istore_n 1, 1) := dk_60 (dk_at dksX3_name_0 4 rfl rfl)
theorem dX3_name_5 : decode cX3_name 5 = .ok (.aload_n 0, 1) := dk_42 (dk_at dksX3_name_0 5 rfl rfl)
theorem dX3_name_6 : decode cX3_name 6 = .ok (.dup, 1) := dk_89 (dk_at dksX3_name_0 6 rfl rfl)
theorem dX3_name_7 : decode cX3_name 7 = .ok (.getfield 200, 3) := dk_180 0 200 (dk_at dksX3_name_0 7 rfl rfl)
theorem dX3_name_10 : decode cX3_name 10 = .ok (.iconst 1, 1) := dk_4 (dk_at dksX3_name_0 10 rfl rfl)
theorem dX3_name_11 : decode cX3_name 11 = .ok (.iadd, 1) := dk_96 (dk_at dksX3_name_0 11 rfl rfl)
theorem dX3_name_12 : decode cX3_name 12 = .ok (.putfield 200, 3) := dk_181 0 200 (dk_at dksX3_name_0 12 rfl rfl)
theorem dX3_name_15 : decode cX3_name 15 = .ok (.aload_n 0, 1) := dk_42 (dk_at dksX3_name_0 15 rfl rfl)
theorem dX3_name_16 : decode cX3_name 16 = .ok (.iconst 0, 1) := dk_3 (dk_at dksX3_name_0 16 rfl rfl)
theorem dX3_name_17 : decode cX3_name 17 = .ok (.invokevirtual 223, 3) := dk_182 0 223 (dk_at dksX3_name_0 17 rfl rfl)
theorem dX3_name_20 : decode cX3_name 20 = .ok (.invokestatic 240, 3) := dk_184 0 240 (dk_at dksX3_name_0 20 rfl rfl)
theorem dX3_name_23 : decode cX3_name 23 = .ok (.ifCond .ne 46, 3) := dk_154 0 46 (dk_at dksX3_name_1 0 rfl rfl)
theorem dX3_name_26 : decode cX3_name 26 = .ok (.aload_n 0, 1) := dk_42 (dk_at dksX3_name_1 3 rfl rfl)
theorem dX3_name_27 : decode cX3_name 27 = .ok (.iconst 0, 1) := dk_3 (dk_at dksX3_name_1 4 rfl rfl)
theorem dX3_name_28 : decode cX3_name 28 = .ok (.invokevirtual 223, 3) := dk_182 0 223 (dk_at dksX3_name_1 5 rfl rfl)
theorem dX3_name_31 : decode cX3_name 31 = .ok (.invokestatic 210, 3) := dk_184 0 210 (dk_at dksX3_name_1 8 rfl rfl)
theorem dX3_name_34 : decode cX3_name 34 = .ok (.ifCond .ne 35, 3) := dk_154 0 35 (dk_at dksX3_name_1 11 rfl rfl)
theorem dX3_name_37 : decode cX3_name 37 = .ok (.aload_n 0, 1) := dk_42 (dk_at dksX3_name_1 14 rfl rfl)
theorem dX3_name_38 : decode cX3_name 38 = .ok (.iconst 0, 1) := dk_3 (dk_at dksX3_name_1 15 rfl rfl)
theorem dX3_name_39 : decode cX3_name 39 = .ok (.invokevirtual 223, 3) := dk_182 0 223 (dk_at dksX3_name_1 16 rfl rfl)
theorem dX3_name_42 : decode cX3_name 42 = .ok (.bipush 45, 2) := dk_16 45 (dk_at dksX3_name_1 19 rfl rfl)
theorem dX3_name_44 : decode cX3_name 44 = .ok (.if_icmp .ne 38, 3) := dk_160 0 38 (dk_at dksX3_name_1 21 rfl rfl)
theorem dX3_name_47 : decode cX3_name 47 = .ok (.aload_n 0, 1) := dk_42 (dk_at dksX3_name_2 0 rfl rfl)
theorem dX3_name_48 : decode cX3_name 48 = .ok (.iconst 1, 1) := dk_4 (dk_at dksX3_name_2 1 rfl rfl)
theorem dX3_name_49 : decode cX3_name 49 = .ok (.invokevirtual 223, 3) := dk_182 0 223 (dk_at dksX3_name_2 2 rfl rfl)
theorem dX3_name_52 : decode cX3_name 52 = .ok (.invokestatic 240, 3) := dk_184 0 240 (dk_at dksX3_name_2 5 rfl rfl)
theorem dX3_name_55 : decode cX3_name 55 = .ok (.ifCond .ne 14, 3) := dk_154 0 14 (dk_at dksX3_name_2 8 rfl rfl)
theorem dX3_name_58 : decode cX3_name 58 = .ok (.aload_n 0, 1) := dk_42 (dk_at dksX3_name_2 11 rfl rfl)
theorem dX3_name_59 : decode cX3_name 59 = .ok (.iconst 1, 1) := dk_4 (dk_at dksX3_name_2 12 rfl rfl)
theorem dX3_name_60 : decode cX3_name 60 = .ok (.invokevirtual 223, 3) := dk_182 0 223 (dk_at dksX3_name_2 13 rfl rfl)
theorem dX3_name_63 : decode cX3_name 63 = .ok (.invokestatic 210, 3) := dk_184 0 210 (dk_at dksX3_name_2 16 rfl rfl)
theorem dX3_name_66 : decode cX3_name 66 = .ok (.ifCond .eq 16, 3) := dk_153 0 16 (dk_at dksX3_name_2 19 rfl rfl)
theorem dX3_name_69 : decode cX3_name 69 = .ok (.aload_n 0, 1) := dk_42 (dk_at dksX3_name_2 22 rfl rfl)
theorem dX3_name_70 : decode cX3_name 70 = .ok (.dup, 1) := dk_89 (dk_at dksX3_name_2 23 rfl rfl)
theorem dX3_name_71 : decode cX3_name 71 = .ok (.getfield 200, 3) := dk_180 0 200 (dk_at dksX3_name_3 0 rfl rfl)
theorem dX3_name_74 : decode cX3_name 74 = .ok (.iconst 1, 1) := dk_4 (dk_at dksX3_name_3 3 rfl rfl)
theorem dX3_name_75 : decode cX3_name 75 = .ok (.iadd, 1) := dk_96 (dk_at dksX3_name_3 4 rfl rfl)
theorem dX3_name_76 : decode cX3_name 76 = .ok (.putfield 200, 3) := dk_181 0 200 (dk_at dksX3_name_3 5 rfl rfl)
theorem dX3_name_79 : decode cX3_name 79 = .ok (.goto (-64), 3) := dk_167 255 192 (dk_at dksX3_name_3 8 rfl rfl)
theorem dX3_name_82 : decode cX3_name 82 = .ok (.aload_n 0, 1) := dk_42 (dk_at dksX3_name_3 11 rfl rfl)
theorem dX3_name_83 : decode cX3_name 83 = .ok (.getfield 191, 3) := dk_180 0 191 (dk_at dksX3_name_3 12 rfl rfl)
theorem dX3_name_86 : decode cX3_name 86 = .ok (.iload_n 1, 1) := dk_27 (dk_at dksX3_name_3 15 rfl rfl)
theorem dX3_name_87 : decode cX3_name 87 = .ok (.invokevirtual 203, 3) := dk_182 0 203 (dk_at dksX3_name_3 16 rfl rfl)
theorem dX3_name_90 : decode cX3_name 90 = .ok (.invokestatic 206, 3) := dk_184 0 206 (dk_at dksX3_name_3 19 rfl rfl)
theorem dX3_name_93 : decode cX3_name 93 = .ok (.ifCond .eq 11, 3) := dk_153 0 11 (dk_at dksX3_name_4 0 rfl rfl)
theorem dX3_name_96 : decode cX3_name 96 = .ok (.aload_n 0, 1) := dk_42 (dk_at dksX3_name_4 3 rfl rfl)
theorem dX3_name_97 : decode cX3_name 97 = .ok (.iload_n 1, 1) := dk_27 (dk_at dksX3_name_4 4 rfl rfl)
theorem dX3_name_98 : decode cX3_name 98 = .ok (.invokevirtual 243, 3) := dk_182 0 243 (dk_at dksX3_name_4 5 rfl rfl)
theorem dX3_name_101 : decode cX3_name 101 = .ok (.goto 4, 3) := dk_167 0 4 (dk_at dksX3_name_4 8 rfl rfl)
theorem dX3_name_104 : decode cX3_name 104 = .ok (.iconst (-1), 1) := dk_2 (dk_at dksX3_name_4 11 rfl rfl)
theorem dX3_name_105 : decode cX3_name 105 = .ok (.istore_n 2, 1) := dk_61 (dk_at dksX3_name_4 12 rfl rfl)
theorem dX3_name_106 : decode cX3_name 106 = .ok (.aload_n 0, 1) := dk_42 (dk_at dksX3_name_4 13 rfl rfl)
theorem dX3_name_107 : decode cX3_name 107 = .ok (.iload_n 2, 1) := dk_28 (dk_at dksX3_name_4 14 rfl rfl)
theorem dX3_name_108 : decode cX3_name 108 = .ok (.iconst (-1), 1) := dk_2 (dk_at dksX3_name_4 15 rfl rfl)
theorem dX3_name_109 : decode cX3_name 109 = .ok (.if_icmp .eq 10, 3) := dk_159 0 10 (dk_at dksX3_name_4 16 rfl rfl)
theorem dX3_name_112 : decode cX3_name 112 = .ok (.bipush 100, 2) := dk_16 100 (dk_at dksX3_name_4 19 rfl rfl)
theorem dX3_name_114 : decode cX3_name 114 = .ok (.iload_n 2, 1) := dk_28 (dk_at dksX3_name_4 21 rfl rfl)
theorem dX3_name_115 : decode cX3_name 115 = .ok (.iadd, 1) := dk_96 (dk_at dksX3_name_4 22 rfl rfl)
theorem dX3_name_116 : decode cX3_name 116 = .ok (.goto 22, 3) := dk_167 0 22 (dk_at dksX3_name_5 0 rfl rfl)
theorem dX3_name_119 : decode cX3_name 119 = .ok (.aload_n 0, 1) := dk_42 (dk_at dksX3_name_5 3 rfl rfl)
theorem dX3_name_120 : decode cX3_name 120 = .ok (.getfield 191, 3) := dk_180 0 191 (dk_at dksX3_name_5 4 rfl rfl)
theorem dX3_name_123 : decode cX3_name 123 = .ok (.iload_n 1, 1) := dk_27 (dk_at dksX3_name_5 7 rfl rfl)
theorem dX3_name_124 : decode cX3_name 124 = .ok (.invokevirtual 203, 3) := dk_182 0 203 (dk_at dksX3_name_5 8 rfl rfl)
theorem dX3_name_127 : decode cX3_name 127 = .ok (.invokestatic 206, 3) := dk_184 0 206 (dk_at dksX3_name_5 11 rfl rfl)
theorem dX3_name_130 : decode cX3_name 130 = .ok (.ifCond .eq 7, 3) := dk_153 0 7 (dk_at dksX3_name_5 14 rfl rfl)
theorem dX3_name_133 : decode cX3_name 133 = .ok (.iconst 1, 1) := dk_4 (dk_at dksX3_name_5 17 rfl rfl)
theorem dX3_name_134 : decode cX3_name 134 = .ok (.goto 4, 3) := dk_167 0 4 (dk_at dksX3_name_5 18 rfl rfl)
theorem dX3_name_137 : decode cX3_name 137 = .ok (.iconst 0, 1) := dk_3 (dk_at dksX3_name_5 21 rfl rfl)
theorem dX3_name_138 : decode cX3_name 138 = .ok (.iload_n 1, 1) := dk_27 (dk_at dksX3_name_5 22 rfl rfl)
theorem dX3_name_139 : decode cX3_name 139 = .ok (.invokevirtual 246, 3) := dk_182 0 246 (dk_at dksX3_name_6 0 rfl rfl)
theorem dX3_name_142 : decode cX3_name 142 = .ok (.return_, 1) := dk_177 (dk_at dksX3_name_6 3 rfl rfl)
abbrev cX3_isDigit : ByteArray := prog_6_method_12_code
def yX3_isDigit : MethodName := ⟨RX3, "isDigit", "(I)Z"⟩
def dkwX3_isDigit_0 : List UInt8 := [26, 16, 48, 161, 0, 13, 26, 16, 57, 163, 0, 7, 4, 167, 0, 4, 3, 172]
abbrev dktX3_isDigit_0 : List UInt8 := dkwX3_isDigit_0 ++ []
theorem dksX3_isDigit_0 : cX3_isDigit.data.toList.drop 0 = dktX3_isDigit_0 := by decide +kernel
theorem dX3_isDigit_0 : decode cX3_isDigit 0 = .ok (.iload_n 0, 1) := dk_26 (dk_at dksX3_isDigit_0 0 rfl rfl)
theorem dX3_isDigit_1 : decode cX3_isDigit 1 = .ok (.bipush 48, 2) := dk_16 48 (dk_at dksX3_isDigit_0 1 rfl rfl)
theorem dX3_isDigit_3 : decode cX3_isDigit 3 = .ok (.if_icmp .lt 13, 3) := dk_161 0 13 (dk_at dksX3_isDigit_0 3 rfl rfl)
theorem dX3_isDigit_6 : decode cX3_isDigit 6 = .ok (.iload_n 0, 1) := dk_26 (dk_at dksX3_isDigit_0 6 rfl rfl)
theorem dX3_isDigit_7 : decode cX3_isDigit 7 = .ok (.bipush 57, 2) := dk_16 57 (dk_at dksX3_isDigit_0 7 rfl rfl)
theorem dX3_isDigit_9 : decode cX3_isDigit 9 = .ok (.if_icmp .gt 7, 3) := dk_163 0 7 (dk_at dksX3_isDigit_0 9 rfl rfl)
theorem dX3_isDigit_12 : decode cX3_isDigit 12 = .ok (.iconst 1, 1) := dk_4 (dk_at dksX3_isDigit_0 12 rfl rfl)
theorem dX3_isDigit_13 : decode cX3_isDigit 13 = .ok (.goto 4, 3) := dk_167 0 4 (dk_at dksX3_isDigit_0 13 rfl rfl)
theorem dX3_isDigit_16 : decode cX3_isDigit 16 = .ok (.iconst 0, 1) := dk_3 (dk_at dksX3_isDigit_0 16 rfl rfl)
theorem dX3_isDigit_17 : decode cX3_isDigit 17 = .ok (.ireturn, 1) := dk_172 (dk_at dksX3_isDigit_0 17 rfl rfl)
abbrev cX3_wordOf : ByteArray := prog_6_method_18_code
def yX3_wordOf : MethodName := ⟨RX3, "wordOf", "(I)I"⟩
def dkwX3_wordOf_2 : List UInt8 := [156, 0, 11, 21, 4, 4, 100, 62, 167, 0, 8, 21, 4, 4, 96, 61, 167, 255, 204, 2, 172]
abbrev dktX3_wordOf_2 : List UInt8 := dkwX3_wordOf_2 ++ []
def dkwX3_wordOf_1 : List UInt8 := [42, 180, 0, 173, 21, 4, 50, 182, 0, 229, 54, 5, 21, 5, 154, 0, 6, 21, 4, 172, 21, 5]
abbrev dktX3_wordOf_1 : List UInt8 := dkwX3_wordOf_1 ++ dktX3_wordOf_2
def dkwX3_wordOf_0 : List UInt8 := [3, 61, 42, 180, 0, 173, 190, 4, 100, 62, 28, 29, 163, 0, 53, 28, 29, 96, 5, 108, 54, 4, 42, 27]
abbrev dktX3_wordOf_0 : List UInt8 := dkwX3_wordOf_0 ++ dktX3_wordOf_1
theorem dksX3_wordOf_0 : cX3_wordOf.data.toList.drop 0 = dktX3_wordOf_0 := by decide +kernel
theorem dksX3_wordOf_1 : cX3_wordOf.data.toList.drop 24 = dktX3_wordOf_1 := dk_seg dksX3_wordOf_0 24 rfl rfl
theorem dksX3_wordOf_2 : cX3_wordOf.data.toList.drop 46 = dktX3_wordOf_2 := dk_seg dksX3_wordOf_1 22 rfl rfl
theorem dX3_wordOf_0 : decode cX3_wordOf 0 = .ok (.iconst 0, 1) := dk_3 (dk_at dksX3_wordOf_0 0 rfl rfl)
theorem dX3_wordOf_1 : decode cX3_wordOf 1 = .ok (.istore_n 2, 1) := dk_61 (dk_at dksX3_wordOf_0 1 rfl rfl)
theorem dX3_wordOf_2 : decode cX3_wordOf 2 = .ok (.aload_n 0, 1) := dk_42 (dk_at dksX3_wordOf_0 2 rfl rfl)
theorem dX3_wordOf_3 : decode cX3_wordOf 3 = .ok (.getfield 173, 3) := dk_180 0 173 (dk_at dksX3_wordOf_0 3 rfl rfl)
theorem dX3_wordOf_6 : decode cX3_wordOf 6 = .ok (.arraylength, 1) := dk_190 (dk_at dksX3_wordOf_0 6 rfl rfl)
theorem dX3_wordOf_7 : decode cX3_wordOf 7 = .ok (.iconst 1, 1) := dk_4 (dk_at dksX3_wordOf_0 7 rfl rfl)
theorem dX3_wordOf_8 : decode cX3_wordOf 8 = .ok (.isub, 1) := dk_100 (dk_at dksX3_wordOf_0 8 rfl rfl)
theorem dX3_wordOf_9 : decode cX3_wordOf 9 = .ok (.istore_n 3, 1) := dk_62 (dk_at dksX3_wordOf_0 9 rfl rfl)
theorem dX3_wordOf_10 : decode cX3_wordOf 10 = .ok (.iload_n 2, 1) := dk_28 (dk_at dksX3_wordOf_0 10 rfl rfl)
theorem dX3_wordOf_11 : decode cX3_wordOf 11 = .ok (.iload_n 3, 1) := dk_29 (dk_at dksX3_wordOf_0 11 rfl rfl)
theorem dX3_wordOf_12 : decode cX3_wordOf 12 = .ok (.if_icmp .gt 53, 3) := dk_163 0 53 (dk_at dksX3_wordOf_0 12 rfl rfl)
theorem dX3_wordOf_15 : decode cX3_wordOf 15 = .ok (.iload_n 2, 1) := dk_28 (dk_at dksX3_wordOf_0 15 rfl rfl)
theorem dX3_wordOf_16 : decode cX3_wordOf 16 = .ok (.iload_n 3, 1) := dk_29 (dk_at dksX3_wordOf_0 16 rfl rfl)
theorem dX3_wordOf_17 : decode cX3_wordOf 17 = .ok (.iadd, 1) := dk_96 (dk_at dksX3_wordOf_0 17 rfl rfl)
theorem dX3_wordOf_18 : decode cX3_wordOf 18 = .ok (.iconst 2, 1) := dk_5 (dk_at dksX3_wordOf_0 18 rfl rfl)
theorem dX3_wordOf_19 : decode cX3_wordOf 19 = .ok (.idiv, 1) := dk_108 (dk_at dksX3_wordOf_0 19 rfl rfl)
theorem dX3_wordOf_20 : decode cX3_wordOf 20 = .ok (.istore 4, 2) := dk_54 4 (dk_at dksX3_wordOf_0 20 rfl rfl)
theorem dX3_wordOf_22 : decode cX3_wordOf 22 = .ok (.aload_n 0, 1) := dk_42 (dk_at dksX3_wordOf_0 22 rfl rfl)
theorem dX3_wordOf_23 : decode cX3_wordOf 23 = .ok (.iload_n 1, 1) := dk_27 (dk_at dksX3_wordOf_0 23 rfl rfl)
theorem dX3_wordOf_24 : decode cX3_wordOf 24 = .ok (.aload_n 0, 1) := dk_42 (dk_at dksX3_wordOf_1 0 rfl rfl)
theorem dX3_wordOf_25 : decode cX3_wordOf 25 = .ok (.getfield 173, 3) := dk_180 0 173 (dk_at dksX3_wordOf_1 1 rfl rfl)
theorem dX3_wordOf_28 : decode cX3_wordOf 28 = .ok (.iload 4, 2) := dk_21 4 (dk_at dksX3_wordOf_1 4 rfl rfl)
theorem dX3_wordOf_30 : decode cX3_wordOf 30 = .ok (.aaload, 1) := dk_50 (dk_at dksX3_wordOf_1 6 rfl rfl)
theorem dX3_wordOf_31 : decode cX3_wordOf 31 = .ok (.invokevirtual 229, 3) := dk_182 0 229 (dk_at dksX3_wordOf_1 7 rfl rfl)
theorem dX3_wordOf_34 : decode cX3_wordOf 34 = .ok (.istore 5, 2) := dk_54 5 (dk_at dksX3_wordOf_1 10 rfl rfl)
theorem dX3_wordOf_36 : decode cX3_wordOf 36 = .ok (.iload 5, 2) := dk_21 5 (dk_at dksX3_wordOf_1 12 rfl rfl)
theorem dX3_wordOf_38 : decode cX3_wordOf 38 = .ok (.ifCond .ne 6, 3) := dk_154 0 6 (dk_at dksX3_wordOf_1 14 rfl rfl)
theorem dX3_wordOf_41 : decode cX3_wordOf 41 = .ok (.iload 4, 2) := dk_21 4 (dk_at dksX3_wordOf_1 17 rfl rfl)
theorem dX3_wordOf_43 : decode cX3_wordOf 43 = .ok (.ireturn, 1) := dk_172 (dk_at dksX3_wordOf_1 19 rfl rfl)
theorem dX3_wordOf_44 : decode cX3_wordOf 44 = .ok (.iload 5, 2) := dk_21 5 (dk_at dksX3_wordOf_1 20 rfl rfl)
theorem dX3_wordOf_46 : decode cX3_wordOf 46 = .ok (.ifCond .ge 11, 3) := dk_156 0 11 (dk_at dksX3_wordOf_2 0 rfl rfl)
theorem dX3_wordOf_49 : decode cX3_wordOf 49 = .ok (.iload 4, 2) := dk_21 4 (dk_at dksX3_wordOf_2 3 rfl rfl)
theorem dX3_wordOf_51 : decode cX3_wordOf 51 = .ok (.iconst 1, 1) := dk_4 (dk_at dksX3_wordOf_2 5 rfl rfl)
theorem dX3_wordOf_52 : decode cX3_wordOf 52 = .ok (.isub, 1) := dk_100 (dk_at dksX3_wordOf_2 6 rfl rfl)
theorem dX3_wordOf_53 : decode cX3_wordOf 53 = .ok (.istore_n 3, 1) := dk_62 (dk_at dksX3_wordOf_2 7 rfl rfl)
theorem dX3_wordOf_54 : decode cX3_wordOf 54 = .ok (.goto 8, 3) := dk_167 0 8 (dk_at dksX3_wordOf_2 8 rfl rfl)
theorem dX3_wordOf_57 : decode cX3_wordOf 57 = .ok (.iload 4, 2) := dk_21 4 (dk_at dksX3_wordOf_2 11 rfl rfl)
theorem dX3_wordOf_59 : decode cX3_wordOf 59 = .ok (.iconst 1, 1) := dk_4 (dk_at dksX3_wordOf_2 13 rfl rfl)
theorem dX3_wordOf_60 : decode cX3_wordOf 60 = .ok (.iadd, 1) := dk_96 (dk_at dksX3_wordOf_2 14 rfl rfl)
theorem dX3_wordOf_61 : decode cX3_wordOf 61 = .ok (.istore_n 2, 1) := dk_61 (dk_at dksX3_wordOf_2 15 rfl rfl)
theorem dX3_wordOf_62 : decode cX3_wordOf 62 = .ok (.goto (-52), 3) := dk_167 255 204 (dk_at dksX3_wordOf_2 16 rfl rfl)
theorem dX3_wordOf_65 : decode cX3_wordOf 65 = .ok (.iconst (-1), 1) := dk_2 (dk_at dksX3_wordOf_2 19 rfl rfl)
theorem dX3_wordOf_66 : decode cX3_wordOf 66 = .ok (.ireturn, 1) := dk_172 (dk_at dksX3_wordOf_2 20 rfl rfl)
abbrev cX3_compare : ByteArray := prog_6_method_19_code
def yX3_compare : MethodName := ⟨RX3, "compare", "(ILjava/lang/String;)I"⟩
def dkwX3_compare_3 : List UInt8 := [29, 44, 182, 0, 233, 100, 172]
abbrev dktX3_compare_3 : List UInt8 := dkwX3_compare_3 ++ []
def dkwX3_compare_2 : List UInt8 := [180, 0, 191, 27, 21, 4, 96, 182, 0, 203, 44, 21, 4, 182, 0, 236, 100, 172, 132, 4, 1, 167, 255, 199]
abbrev dktX3_compare_2 : List UInt8 := dkwX3_compare_2 ++ dktX3_compare_3
def dkwX3_compare_1 : List UInt8 := [162, 0, 48, 42, 180, 0, 191, 27, 21, 4, 96, 182, 0, 203, 44, 21, 4, 182, 0, 236, 159, 0, 22, 42]
abbrev dktX3_compare_1 : List UInt8 := dkwX3_compare_1 ++ dktX3_compare_2
def dkwX3_compare_0 : List UInt8 := [42, 180, 0, 200, 27, 100, 62, 3, 54, 4, 21, 4, 29, 162, 0, 57, 21, 4, 44, 182, 0, 233]
abbrev dktX3_compare_0 : List UInt8 := dkwX3_compare_0 ++ dktX3_compare_1
theorem dksX3_compare_0 : cX3_compare.data.toList.drop 0 = dktX3_compare_0 := by decide +kernel
theorem dksX3_compare_1 : cX3_compare.data.toList.drop 22 = dktX3_compare_1 := dk_seg dksX3_compare_0 22 rfl rfl
theorem dksX3_compare_2 : cX3_compare.data.toList.drop 46 = dktX3_compare_2 := dk_seg dksX3_compare_1 24 rfl rfl
theorem dksX3_compare_3 : cX3_compare.data.toList.drop 70 = dktX3_compare_3 := dk_seg dksX3_compare_2 24 rfl rfl
theorem dX3_compare_0 : decode cX3_compare 0 = .ok (.aload_n 0, 1) := dk_42 (dk_at dksX3_compare_0 0 rfl rfl)
theorem dX3_compare_1 : decode cX3_compare 1 = .ok (.getfield 200, 3) := dk_180 0 200 (dk_at dksX3_compare_0 1 rfl rfl)
theorem dX3_compare_4 : decode cX3_compare 4 = .ok (.iload_n 1, 1) := dk_27 (dk_at dksX3_compare_0 4 rfl rfl)
theorem dX3_compare_5 : decode cX3_compare 5 = .ok (.isub, 1) := dk_100 (dk_at dksX3_compare_0 5 rfl rfl)
theorem dX3_compare_6 : decode cX3_compare 6 = .ok (.istore_n 3, 1) := dk_62 (dk_at dksX3_compare_0 6 rfl rfl)
theorem dX3_compare_7 : decode cX3_compare 7 = .ok (.iconst 0, 1) := dk_3 (dk_at dksX3_compare_0 7 rfl rfl)
theorem dX3_compare_8 : decode cX3_compare 8 = .ok (.istore 4, 2) := dk_54 4 (dk_at dksX3_compare_0 8 rfl rfl)
theorem dX3_compare_10 : decode cX3_compare 10 = .ok (.iload 4, 2) := dk_21 4 (dk_at dksX3_compare_0 10 rfl rfl)
theorem dX3_compare_12 : decode cX3_compare 12 = .ok (.iload_n 3, 1) := dk_29 (dk_at dksX3_compare_0 12 rfl rfl)
theorem dX3_compare_13 : decode cX3_compare 13 = .ok (.if_icmp .ge 57, 3) := dk_162 0 57 (dk_at dksX3_compare_0 13 rfl rfl)
theorem dX3_compare_16 : decode cX3_compare 16 = .ok (.iload 4, 2) := dk_21 4 (dk_at dksX3_compare_0 16 rfl rfl)
theorem dX3_compare_18 : decode cX3_compare 18 = .ok (.aload_n 2, 1) := dk_44 (dk_at dksX3_compare_0 18 rfl rfl)
theorem dX3_compare_19 : decode cX3_compare 19 = .ok (.invokevirtual 233, 3) := dk_182 0 233 (dk_at dksX3_compare_0 19 rfl rfl)
theorem dX3_compare_22 : decode cX3_compare 22 = .ok (.if_icmp .ge 48, 3) := dk_162 0 48 (dk_at dksX3_compare_1 0 rfl rfl)
theorem dX3_compare_25 : decode cX3_compare 25 = .ok (.aload_n 0, 1) := dk_42 (dk_at dksX3_compare_1 3 rfl rfl)
theorem dX3_compare_26 : decode cX3_compare 26 = .ok (.getfield 191, 3) := dk_180 0 191 (dk_at dksX3_compare_1 4 rfl rfl)
theorem dX3_compare_29 : decode cX3_compare 29 = .ok (.iload_n 1, 1) := dk_27 (dk_at dksX3_compare_1 7 rfl rfl)
theorem dX3_compare_30 : decode cX3_compare 30 = .ok (.iload 4, 2) := dk_21 4 (dk_at dksX3_compare_1 8 rfl rfl)
theorem dX3_compare_32 : decode cX3_compare 32 = .ok (.iadd, 1) := dk_96 (dk_at dksX3_compare_1 10 rfl rfl)
theorem dX3_compare_33 : decode cX3_compare 33 = .ok (.invokevirtual 203, 3) := dk_182 0 203 (dk_at dksX3_compare_1 11 rfl rfl)
theorem dX3_compare_36 : decode cX3_compare 36 = .ok (.aload_n 2, 1) := dk_44 (dk_at dksX3_compare_1 14 rfl rfl)
theorem dX3_compare_37 : decode cX3_compare 37 = .ok (.iload 4, 2) := dk_21 4 (dk_at dksX3_compare_1 15 rfl rfl)
theorem dX3_compare_39 : decode cX3_compare 39 = .ok (.invokevirtual 236, 3) := dk_182 0 236 (dk_at dksX3_compare_1 17 rfl rfl)
theorem dX3_compare_42 : decode cX3_compare 42 = .ok (.if_icmp .eq 22, 3) := dk_159 0 22 (dk_at dksX3_compare_1 20 rfl rfl)
theorem dX3_compare_45 : decode cX3_compare 45 = .ok (.aload_n 0, 1) := dk_42 (dk_at dksX3_compare_1 23 rfl rfl)
theorem dX3_compare_46 : decode cX3_compare 46 = .ok (.getfield 191, 3) := dk_180 0 191 (dk_at dksX3_compare_2 0 rfl rfl)
theorem dX3_compare_49 : decode cX3_compare 49 = .ok (.iload_n 1, 1) := dk_27 (dk_at dksX3_compare_2 3 rfl rfl)
theorem dX3_compare_50 : decode cX3_compare 50 = .ok (.iload 4, 2) := dk_21 4 (dk_at dksX3_compare_2 4 rfl rfl)
theorem dX3_compare_52 : decode cX3_compare 52 = .ok (.iadd, 1) := dk_96 (dk_at dksX3_compare_2 6 rfl rfl)
theorem dX3_compare_53 : decode cX3_compare 53 = .ok (.invokevirtual 203, 3) := dk_182 0 203 (dk_at dksX3_compare_2 7 rfl rfl)
theorem dX3_compare_56 : decode cX3_compare 56 = .ok (.aload_n 2, 1) := dk_44 (dk_at dksX3_compare_2 10 rfl rfl)
theorem dX3_compare_57 : decode cX3_compare 57 = .ok (.iload 4, 2) := dk_21 4 (dk_at dksX3_compare_2 11 rfl rfl)
theorem dX3_compare_59 : decode cX3_compare 59 = .ok (.invokevirtual 236, 3) := dk_182 0 236 (dk_at dksX3_compare_2 13 rfl rfl)
theorem dX3_compare_62 : decode cX3_compare 62 = .ok (.isub, 1) := dk_100 (dk_at dksX3_compare_2 16 rfl rfl)
theorem dX3_compare_63 : decode cX3_compare 63 = .ok (.ireturn, 1) := dk_172 (dk_at dksX3_compare_2 17 rfl rfl)
theorem dX3_compare_64 : decode cX3_compare 64 = .ok (.iinc 4 1, 3) := dk_132 4 1 (dk_at dksX3_compare_2 18 rfl rfl)
theorem dX3_compare_67 : decode cX3_compare 67 = .ok (.goto (-57), 3) := dk_167 255 199 (dk_at dksX3_compare_2 21 rfl rfl)
theorem dX3_compare_70 : decode cX3_compare 70 = .ok (.iload_n 3, 1) := dk_29 (dk_at dksX3_compare_3 0 rfl rfl)
theorem dX3_compare_71 : decode cX3_compare 71 = .ok (.aload_n 2, 1) := dk_44 (dk_at dksX3_compare_3 1 rfl rfl)
theorem dX3_compare_72 : decode cX3_compare 72 = .ok (.invokevirtual 233, 3) := dk_182 0 233 (dk_at dksX3_compare_3 2 rfl rfl)
theorem dX3_compare_75 : decode cX3_compare 75 = .ok (.isub, 1) := dk_100 (dk_at dksX3_compare_3 5 rfl rfl)
theorem dX3_compare_76 : decode cX3_compare 76 = .ok (.ireturn, 1) := dk_172 (dk_at dksX3_compare_3 6 rfl rfl)
abbrev cX3_add : ByteArray := prog_6_method_14_code
def yX3_add : MethodName := ⟨RX3, "add", "(II)V"⟩
def dkwX3_add_3 : List UInt8 := [180, 0, 187, 42, 180, 0, 200, 79, 42, 89, 180, 0, 187, 4, 96, 181, 0, 187, 177]
abbrev dktX3_add_3 : List UInt8 := dkwX3_add_3 ++ []
def dkwX3_add_2 : List UInt8 := [180, 0, 177, 42, 180, 0, 187, 27, 79, 42, 180, 0, 181, 42, 180, 0, 187, 28, 79, 42, 180, 0, 184, 42]
abbrev dktX3_add_2 : List UInt8 := dkwX3_add_2 ++ dktX3_add_3
def dkwX3_add_1 : List UInt8 := [42, 180, 0, 181, 184, 0, 213, 181, 0, 181, 42, 42, 180, 0, 184, 184, 0, 213, 181, 0, 184, 42]
abbrev dktX3_add_1 : List UInt8 := dkwX3_add_1 ++ dktX3_add_2
def dkwX3_add_0 : List UInt8 := [42, 180, 0, 187, 42, 180, 0, 177, 190, 160, 0, 36, 42, 42, 180, 0, 177, 184, 0, 213, 181, 0, 177, 42]
abbrev dktX3_add_0 : List UInt8 := dkwX3_add_0 ++ dktX3_add_1
theorem dksX3_add_0 : cX3_add.data.toList.drop 0 = dktX3_add_0 := by decide +kernel
theorem dksX3_add_1 : cX3_add.data.toList.drop 24 = dktX3_add_1 := dk_seg dksX3_add_0 24 rfl rfl
theorem dksX3_add_2 : cX3_add.data.toList.drop 46 = dktX3_add_2 := dk_seg dksX3_add_1 22 rfl rfl
theorem dksX3_add_3 : cX3_add.data.toList.drop 70 = dktX3_add_3 := dk_seg dksX3_add_2 24 rfl rfl
theorem dX3_add_0 : decode cX3_add 0 = .ok (.aload_n 0, 1) := dk_42 (dk_at dksX3_add_0 0 rfl rfl)
theorem dX3_add_1 : decode cX3_add 1 = .ok (.getfield 187, 3) := dk_180 0 187 (dk_at dksX3_add_0 1 rfl rfl)
theorem dX3_add_4 : decode cX3_add 4 = .ok (.aload_n 0, 1) := dk_42 (dk_at dksX3_add_0 4 rfl rfl)
theorem dX3_add_5 : decode cX3_add 5 = .ok (.getfield 177, 3) := dk_180 0 177 (dk_at dksX3_add_0 5 rfl rfl)
theorem dX3_add_8 : decode cX3_add 8 = .ok (.arraylength, 1) := dk_190 (dk_at dksX3_add_0 8 rfl rfl)
theorem dX3_add_9 : decode cX3_add 9 = .ok (.if_icmp .ne 36, 3) := dk_160 0 36 (dk_at dksX3_add_0 9 rfl rfl)
theorem dX3_add_12 : decode cX3_add 12 = .ok (.aload_n 0, 1) := dk_42 (dk_at dksX3_add_0 12 rfl rfl)
theorem dX3_add_13 : decode cX3_add 13 = .ok (.aload_n 0, 1) := dk_42 (dk_at dksX3_add_0 13 rfl rfl)
theorem dX3_add_14 : decode cX3_add 14 = .ok (.getfield 177, 3) := dk_180 0 177 (dk_at dksX3_add_0 14 rfl rfl)
theorem dX3_add_17 : decode cX3_add 17 = .ok (.invokestatic 213, 3) := dk_184 0 213 (dk_at dksX3_add_0 17 rfl rfl)
theorem dX3_add_20 : decode cX3_add 20 = .ok (.putfield 177, 3) := dk_181 0 177 (dk_at dksX3_add_0 20 rfl rfl)
theorem dX3_add_23 : decode cX3_add 23 = .ok (.aload_n 0, 1) := dk_42 (dk_at dksX3_add_0 23 rfl rfl)
theorem dX3_add_24 : decode cX3_add 24 = .ok (.aload_n 0, 1) := dk_42 (dk_at dksX3_add_1 0 rfl rfl)
theorem dX3_add_25 : decode cX3_add 25 = .ok (.getfield 181, 3) := dk_180 0 181 (dk_at dksX3_add_1 1 rfl rfl)
theorem dX3_add_28 : decode cX3_add 28 = .ok (.invokestatic 213, 3) := dk_184 0 213 (dk_at dksX3_add_1 4 rfl rfl)
theorem dX3_add_31 : decode cX3_add 31 = .ok (.putfield 181, 3) := dk_181 0 181 (dk_at dksX3_add_1 7 rfl rfl)
theorem dX3_add_34 : decode cX3_add 34 = .ok (.aload_n 0, 1) := dk_42 (dk_at dksX3_add_1 10 rfl rfl)
theorem dX3_add_35 : decode cX3_add 35 = .ok (.aload_n 0, 1) := dk_42 (dk_at dksX3_add_1 11 rfl rfl)
theorem dX3_add_36 : decode cX3_add 36 = .ok (.getfield 184, 3) := dk_180 0 184 (dk_at dksX3_add_1 12 rfl rfl)
theorem dX3_add_39 : decode cX3_add 39 = .ok (.invokestatic 213, 3) := dk_184 0 213 (dk_at dksX3_add_1 15 rfl rfl)
theorem dX3_add_42 : decode cX3_add 42 = .ok (.putfield 184, 3) := dk_181 0 184 (dk_at dksX3_add_1 18 rfl rfl)
theorem dX3_add_45 : decode cX3_add 45 = .ok (.aload_n 0, 1) := dk_42 (dk_at dksX3_add_1 21 rfl rfl)
theorem dX3_add_46 : decode cX3_add 46 = .ok (.getfield 177, 3) := dk_180 0 177 (dk_at dksX3_add_2 0 rfl rfl)
theorem dX3_add_49 : decode cX3_add 49 = .ok (.aload_n 0, 1) := dk_42 (dk_at dksX3_add_2 3 rfl rfl)
theorem dX3_add_50 : decode cX3_add 50 = .ok (.getfield 187, 3) := dk_180 0 187 (dk_at dksX3_add_2 4 rfl rfl)
theorem dX3_add_53 : decode cX3_add 53 = .ok (.iload_n 1, 1) := dk_27 (dk_at dksX3_add_2 7 rfl rfl)
theorem dX3_add_54 : decode cX3_add 54 = .ok (.iastore, 1) := dk_79 (dk_at dksX3_add_2 8 rfl rfl)
theorem dX3_add_55 : decode cX3_add 55 = .ok (.aload_n 0, 1) := dk_42 (dk_at dksX3_add_2 9 rfl rfl)
theorem dX3_add_56 : decode cX3_add 56 = .ok (.getfield 181, 3) := dk_180 0 181 (dk_at dksX3_add_2 10 rfl rfl)
theorem dX3_add_59 : decode cX3_add 59 = .ok (.aload_n 0, 1) := dk_42 (dk_at dksX3_add_2 13 rfl rfl)
theorem dX3_add_60 : decode cX3_add 60 = .ok (.getfield 187, 3) := dk_180 0 187 (dk_at dksX3_add_2 14 rfl rfl)
theorem dX3_add_63 : decode cX3_add 63 = .ok (.iload_n 2, 1) := dk_28 (dk_at dksX3_add_2 17 rfl rfl)
theorem dX3_add_64 : decode cX3_add 64 = .ok (.iastore, 1) := dk_79 (dk_at dksX3_add_2 18 rfl rfl)
theorem dX3_add_65 : decode cX3_add 65 = .ok (.aload_n 0, 1) := dk_42 (dk_at dksX3_add_2 19 rfl rfl)
theorem dX3_add_66 : decode cX3_add 66 = .ok (.getfield 184, 3) := dk_180 0 184 (dk_at dksX3_add_2 20 rfl rfl)
theorem dX3_add_69 : decode cX3_add 69 = .ok (.aload_n 0, 1) := dk_42 (dk_at dksX3_add_2 23 rfl rfl)
theorem dX3_add_70 : decode cX3_add 70 = .ok (.getfield 187, 3) := dk_180 0 187 (dk_at dksX3_add_3 0 rfl rfl)
theorem dX3_add_73 : decode cX3_add 73 = .ok (.aload_n 0, 1) := dk_42 (dk_at dksX3_add_3 3 rfl rfl)
theorem dX3_add_74 : decode cX3_add 74 = .ok (.getfield 200, 3) := dk_180 0 200 (dk_at dksX3_add_3 4 rfl rfl)
theorem dX3_add_77 : decode cX3_add 77 = .ok (.iastore, 1) := dk_79 (dk_at dksX3_add_3 7 rfl rfl)
theorem dX3_add_78 : decode cX3_add 78 = .ok (.aload_n 0, 1) := dk_42 (dk_at dksX3_add_3 8 rfl rfl)
theorem dX3_add_79 : decode cX3_add 79 = .ok (.dup, 1) := dk_89 (dk_at dksX3_add_3 9 rfl rfl)
theorem dX3_add_80 : decode cX3_add 80 = .ok (.getfield 187, 3) := dk_180 0 187 (dk_at dksX3_add_3 10 rfl rfl)
theorem dX3_add_83 : decode cX3_add 83 = .ok (.iconst 1, 1) := dk_4 (dk_at dksX3_add_3 13 rfl rfl)
theorem dX3_add_84 : decode cX3_add 84 = .ok (.iadd, 1) := dk_96 (dk_at dksX3_add_3 14 rfl rfl)
theorem dX3_add_85 : decode cX3_add 85 = .ok (.putfield 187, 3) := dk_181 0 187 (dk_at dksX3_add_3 15 rfl rfl)
theorem dX3_add_88 : decode cX3_add 88 = .ok (.return_, 1) := dk_177 (dk_at dksX3_add_3 18 rfl rfl)
abbrev cX3_grown : ByteArray := prog_6_method_15_code
def yX3_grown : MethodName := ⟨RX3, "grown", "([I)[I"⟩
def dkwX3_grown_0 : List UInt8 := [5, 42, 190, 104, 188, 10, 76, 42, 3, 43, 3, 42, 190, 184, 0, 217, 43, 176]
abbrev dktX3_grown_0 : List UInt8 := dkwX3_grown_0 ++ []
theorem dksX3_grown_0 : cX3_grown.data.toList.drop 0 = dktX3_grown_0 := by decide +kernel
theorem dX3_grown_0 : decode cX3_grown 0 = .ok (.iconst 2, 1) := dk_5 (dk_at dksX3_grown_0 0 rfl rfl)
theorem dX3_grown_1 : decode cX3_grown 1 = .ok (.aload_n 0, 1) := dk_42 (dk_at dksX3_grown_0 1 rfl rfl)
theorem dX3_grown_2 : decode cX3_grown 2 = .ok (.arraylength, 1) := dk_190 (dk_at dksX3_grown_0 2 rfl rfl)
theorem dX3_grown_3 : decode cX3_grown 3 = .ok (.imul, 1) := dk_104 (dk_at dksX3_grown_0 3 rfl rfl)
theorem dX3_grown_4 : decode cX3_grown 4 = .ok (.newarray .int, 2) := dk_188_10 (dk_at dksX3_grown_0 4 rfl rfl)
theorem dX3_grown_6 : decode cX3_grown 6 = .ok (.astore_n 1, 1) := dk_76 (dk_at dksX3_grown_0 6 rfl rfl)
theorem dX3_grown_7 : decode cX3_grown 7 = .ok (.aload_n 0, 1) := dk_42 (dk_at dksX3_grown_0 7 rfl rfl)
theorem dX3_grown_8 : decode cX3_grown 8 = .ok (.iconst 0, 1) := dk_3 (dk_at dksX3_grown_0 8 rfl rfl)
theorem dX3_grown_9 : decode cX3_grown 9 = .ok (.aload_n 1, 1) := dk_43 (dk_at dksX3_grown_0 9 rfl rfl)
theorem dX3_grown_10 : decode cX3_grown 10 = .ok (.iconst 0, 1) := dk_3 (dk_at dksX3_grown_0 10 rfl rfl)
theorem dX3_grown_11 : decode cX3_grown 11 = .ok (.aload_n 0, 1) := dk_42 (dk_at dksX3_grown_0 11 rfl rfl)
theorem dX3_grown_12 : decode cX3_grown 12 = .ok (.arraylength, 1) := dk_190 (dk_at dksX3_grown_0 12 rfl rfl)
theorem dX3_grown_13 : decode cX3_grown 13 = .ok (.invokestatic 217, 3) := dk_184 0 217 (dk_at dksX3_grown_0 13 rfl rfl)
theorem dX3_grown_16 : decode cX3_grown 16 = .ok (.aload_n 1, 1) := dk_43 (dk_at dksX3_grown_0 16 rfl rfl)
theorem dX3_grown_17 : decode cX3_grown 17 = .ok (.areturn, 1) := dk_176 (dk_at dksX3_grown_0 17 rfl rfl)
abbrev cX3_number : ByteArray := prog_6_method_21_code
def yX3_number : MethodName := ⟨RX3, "number", "()Z"⟩
def dkwX3_number_3 : List UInt8 := [184, 0, 210, 153, 0, 5, 3, 172, 42, 5, 27, 182, 0, 246, 4, 172]
abbrev dktX3_number_3 : List UInt8 := dkwX3_number_3 ++ []
def dkwX3_number_2 : List UInt8 := [181, 0, 200, 167, 255, 222, 42, 180, 0, 191, 27, 182, 0, 203, 16, 48, 160, 0, 16, 42, 3, 182, 0, 223]
abbrev dktX3_number_2 : List UInt8 := dkwX3_number_2 ++ dktX3_number_3
def dkwX3_number_1 : List UInt8 := [16, 48, 159, 0, 27, 42, 3, 182, 0, 223, 184, 0, 210, 153, 0, 16, 42, 89, 180, 0, 200, 4, 96]
abbrev dktX3_number_1 : List UInt8 := dkwX3_number_1 ++ dktX3_number_2
def dkwX3_number_0 : List UInt8 := [42, 180, 0, 200, 60, 42, 89, 180, 0, 200, 4, 96, 181, 0, 200, 42, 180, 0, 191, 27, 182, 0, 203]
abbrev dktX3_number_0 : List UInt8 := dkwX3_number_0 ++ dktX3_number_1
theorem dksX3_number_0 : cX3_number.data.toList.drop 0 = dktX3_number_0 := by decide +kernel
theorem dksX3_number_1 : cX3_number.data.toList.drop 23 = dktX3_number_1 := dk_seg dksX3_number_0 23 rfl rfl
theorem dksX3_number_2 : cX3_number.data.toList.drop 46 = dktX3_number_2 := dk_seg dksX3_number_1 23 rfl rfl
theorem dksX3_number_3 : cX3_number.data.toList.drop 70 = dktX3_number_3 := dk_seg dksX3_number_2 24 rfl rfl
theorem dX3_number_0 : decode cX3_number 0 = .ok (.aload_n 0, 1) := dk_42 (dk_at dksX3_number_0 0 rfl rfl)
theorem dX3_number_1 : decode cX3_number 1 = .ok (.getfield 200, 3) := dk_180 0 200 (dk_at dksX3_number_0 1 rfl rfl)
theorem dX3_number_4 : decode cX3_number 4 = .ok (.istore_n 1, 1) := dk_60 (dk_at dksX3_number_0 4 rfl rfl)
theorem dX3_number_5 : decode cX3_number 5 = .ok (.aload_n 0, 1) := dk_42 (dk_at dksX3_number_0 5 rfl rfl)
theorem dX3_number_6 : decode cX3_number 6 = .ok (.dup, 1) := dk_89 (dk_at dksX3_number_0 6 rfl rfl)
theorem dX3_number_7 : decode cX3_number 7 = .ok (.getfield 200, 3) := dk_180 0 200 (dk_at dksX3_number_0 7 rfl rfl)
theorem dX3_number_10 : decode cX3_number 10 = .ok (.iconst 1, 1) := dk_4 (dk_at dksX3_number_0 10 rfl rfl)
theorem dX3_number_11 : decode cX3_number 11 = .ok (.iadd, 1) := dk_96 (dk_at dksX3_number_0 11 rfl rfl)
theorem dX3_number_12 : decode cX3_number 12 = .ok (.putfield 200, 3) := dk_181 0 200 (dk_at dksX3_number_0 12 rfl rfl)
theorem dX3_number_15 : decode cX3_number 15 = .ok (.aload_n 0, 1) := dk_42 (dk_at dksX3_number_0 15 rfl rfl)
theorem dX3_number_16 : decode cX3_number 16 = .ok (.getfield 191, 3) := dk_180 0 191 (dk_at dksX3_number_0 16 rfl rfl)
theorem dX3_number_19 : decode cX3_number 19 = .ok (.iload_n 1, 1) := dk_27 (dk_at dksX3_number_0 19 rfl rfl)
theorem dX3_number_20 : decode cX3_number 20 = .ok (.invokevirtual 203, 3) := dk_182 0 203 (dk_at dksX3_number_0 20 rfl rfl)
theorem dX3_number_23 : decode cX3_number 23 = .ok (.bipush 48, 2) := dk_16 48 (dk_at dksX3_number_1 0 rfl rfl)
theorem dX3_number_25 : decode cX3_number 25 = .ok (.if_icmp .eq 27, 3) := dk_159 0 27 (dk_at dksX3_number_1 2 rfl rfl)
theorem dX3_number_28 : decode cX3_number 28 = .ok (.aload_n 0, 1) := dk_42 (dk_at dksX3_number_1 5 rfl rfl)
theorem dX3_number_29 : decode cX3_number 29 = .ok (.iconst 0, 1) := dk_3 (dk_at dksX3_number_1 6 rfl rfl)
theorem dX3_number_30 : decode cX3_number 30 = .ok (.invokevirtual 223, 3) := dk_182 0 223 (dk_at dksX3_number_1 7 rfl rfl)
theorem dX3_number_33 : decode cX3_number 33 = .ok (.invokestatic 210, 3) := dk_184 0 210 (dk_at dksX3_number_1 10 rfl rfl)
theorem dX3_number_36 : decode cX3_number 36 = .ok (.ifCond .eq 16, 3) := dk_153 0 16 (dk_at dksX3_number_1 13 rfl rfl)
theorem dX3_number_39 : decode cX3_number 39 = .ok (.aload_n 0, 1) := dk_42 (dk_at dksX3_number_1 16 rfl rfl)
theorem dX3_number_40 : decode cX3_number 40 = .ok (.dup, 1) := dk_89 (dk_at dksX3_number_1 17 rfl rfl)
theorem dX3_number_41 : decode cX3_number 41 = .ok (.getfield 200, 3) := dk_180 0 200 (dk_at dksX3_number_1 18 rfl rfl)
theorem dX3_number_44 : decode cX3_number 44 = .ok (.iconst 1, 1) := dk_4 (dk_at dksX3_number_1 21 rfl rfl)
theorem dX3_number_45 : decode cX3_number 45 = .ok (.iadd, 1) := dk_96 (dk_at dksX3_number_1 22 rfl rfl)
theorem dX3_number_46 : decode cX3_number 46 = .ok (.putfield 200, 3) := dk_181 0 200 (dk_at dksX3_number_2 0 rfl rfl)
theorem dX3_number_49 : decode cX3_number 49 = .ok (.goto (-34), 3) := dk_167 255 222 (dk_at dksX3_number_2 3 rfl rfl)
theorem dX3_number_52 : decode cX3_number 52 = .ok (.aload_n 0, 1) := dk_42 (dk_at dksX3_number_2 6 rfl rfl)
theorem dX3_number_53 : decode cX3_number 53 = .ok (.getfield 191, 3) := dk_180 0 191 (dk_at dksX3_number_2 7 rfl rfl)
theorem dX3_number_56 : decode cX3_number 56 = .ok (.iload_n 1, 1) := dk_27 (dk_at dksX3_number_2 10 rfl rfl)
theorem dX3_number_57 : decode cX3_number 57 = .ok (.invokevirtual 203, 3) := dk_182 0 203 (dk_at dksX3_number_2 11 rfl rfl)
theorem dX3_number_60 : decode cX3_number 60 = .ok (.bipush 48, 2) := dk_16 48 (dk_at dksX3_number_2 14 rfl rfl)
theorem dX3_number_62 : decode cX3_number 62 = .ok (.if_icmp .ne 16, 3) := dk_160 0 16 (dk_at dksX3_number_2 16 rfl rfl)
theorem dX3_number_65 : decode cX3_number 65 = .ok (.aload_n 0, 1) := dk_42 (dk_at dksX3_number_2 19 rfl rfl)
theorem dX3_number_66 : decode cX3_number 66 = .ok (.iconst 0, 1) := dk_3 (dk_at dksX3_number_2 20 rfl rfl)
theorem dX3_number_67 : decode cX3_number 67 = .ok (.invokevirtual 223, 3) := dk_182 0 223 (dk_at dksX3_number_2 21 rfl rfl)
theorem dX3_number_70 : decode cX3_number 70 = .ok (.invokestatic 210, 3) := dk_184 0 210 (dk_at dksX3_number_3 0 rfl rfl)
theorem dX3_number_73 : decode cX3_number 73 = .ok (.ifCond .eq 5, 3) := dk_153 0 5 (dk_at dksX3_number_3 3 rfl rfl)
theorem dX3_number_76 : decode cX3_number 76 = .ok (.iconst 0, 1) := dk_3 (dk_at dksX3_number_3 6 rfl rfl)
theorem dX3_number_77 : decode cX3_number 77 = .ok (.ireturn, 1) := dk_172 (dk_at dksX3_number_3 7 rfl rfl)
theorem dX3_number_78 : decode cX3_number 78 = .ok (.aload_n 0, 1) := dk_42 (dk_at dksX3_number_3 8 rfl rfl)
theorem dX3_number_79 : decode cX3_number 79 = .ok (.iconst 2, 1) := dk_5 (dk_at dksX3_number_3 9 rfl rfl)
theorem dX3_number_80 : decode cX3_number 80 = .ok (.iload_n 1, 1) := dk_27 (dk_at dksX3_number_3 10 rfl rfl)
theorem dX3_number_81 : decode cX3_number 81 = .ok (.invokevirtual 246, 3) := dk_182 0 246 (dk_at dksX3_number_3 11 rfl rfl)
theorem dX3_number_84 : decode cX3_number 84 = .ok (.iconst 1, 1) := dk_4 (dk_at dksX3_number_3 14 rfl rfl)
theorem dX3_number_85 : decode cX3_number 85 = .ok (.ireturn, 1) := dk_172 (dk_at dksX3_number_3 15 rfl rfl)
abbrev cX3_quoted : ByteArray := prog_6_method_22_code
def yX3_quoted : MethodName := ⟨RX3, "quoted", "()Z"⟩
def dkwX3_quoted_4 : List UInt8 := [42, 89, 180, 0, 200, 4, 96, 181, 0, 200, 42, 8, 27, 182, 0, 246, 4, 172]
abbrev dktX3_quoted_4 : List UInt8 := dkwX3_quoted_4 ++ []
def dkwX3_quoted_3 : List UInt8 := [5, 167, 0, 4, 4, 96, 181, 0, 200, 167, 255, 192, 42, 3, 182, 0, 223, 16, 34, 159, 0, 5, 3, 172]
abbrev dktX3_quoted_3 : List UInt8 := dkwX3_quoted_3 ++ dktX3_quoted_4
def dkwX3_quoted_2 : List UInt8 := [4, 182, 0, 223, 16, 34, 160, 0, 30, 42, 89, 180, 0, 200, 42, 3, 182, 0, 223, 16, 34, 160, 0, 7]
abbrev dktX3_quoted_2 : List UInt8 := dkwX3_quoted_2 ++ dktX3_quoted_3
def dkwX3_quoted_1 : List UInt8 := [161, 0, 60, 42, 3, 182, 0, 223, 16, 126, 163, 0, 50, 42, 3, 182, 0, 223, 16, 34, 160, 0, 13, 42]
abbrev dktX3_quoted_1 : List UInt8 := dkwX3_quoted_1 ++ dktX3_quoted_2
def dkwX3_quoted_0 : List UInt8 := [42, 180, 0, 200, 60, 42, 89, 180, 0, 200, 4, 96, 181, 0, 200, 42, 3, 182, 0, 223, 16, 32]
abbrev dktX3_quoted_0 : List UInt8 := dkwX3_quoted_0 ++ dktX3_quoted_1
theorem dksX3_quoted_0 : cX3_quoted.data.toList.drop 0 = dktX3_quoted_0 := by decide +kernel
theorem dksX3_quoted_1 : cX3_quoted.data.toList.drop 22 = dktX3_quoted_1 := dk_seg dksX3_quoted_0 22 rfl rfl
theorem dksX3_quoted_2 : cX3_quoted.data.toList.drop 46 = dktX3_quoted_2 := dk_seg dksX3_quoted_1 24 rfl rfl
theorem dksX3_quoted_3 : cX3_quoted.data.toList.drop 70 = dktX3_quoted_3 := dk_seg dksX3_quoted_2 24 rfl rfl
theorem dksX3_quoted_4 : cX3_quoted.data.toList.drop 94 = dktX3_quoted_4 := dk_seg dksX3_quoted_3 24 rfl rfl
theorem dX3_quoted_0 : decode cX3_quoted 0 = .ok (.aload_n 0, 1) := dk_42 (dk_at dksX3_quoted_0 0 rfl rfl)
theorem dX3_quoted_1 : decode cX3_quoted 1 = .ok (.getfield 200, 3) := dk_180 0 200 (dk_at dksX3_quoted_0 1 rfl rfl)
theorem dX3_quoted_4 : decode cX3_quoted 4 = .ok (.istore_n 1, 1) := dk_60 (dk_at dksX3_quoted_0 4 rfl rfl)
theorem dX3_quoted_5 : decode cX3_quoted 5 = .ok (.aload_n 0, 1) := dk_42 (dk_at dksX3_quoted_0 5 rfl rfl)
theorem dX3_quoted_6 : decode cX3_quoted 6 = .ok (.dup, 1) := dk_89 (dk_at dksX3_quoted_0 6 rfl rfl)
theorem dX3_quoted_7 : decode cX3_quoted 7 = .ok (.getfield 200, 3) := dk_180 0 200 (dk_at dksX3_quoted_0 7 rfl rfl)
theorem dX3_quoted_10 : decode cX3_quoted 10 = .ok (.iconst 1, 1) := dk_4 (dk_at dksX3_quoted_0 10 rfl rfl)
theorem dX3_quoted_11 : decode cX3_quoted 11 = .ok (.iadd, 1) := dk_96 (dk_at dksX3_quoted_0 11 rfl rfl)
theorem dX3_quoted_12 : decode cX3_quoted 12 = .ok (.putfield 200, 3) := dk_181 0 200 (dk_at dksX3_quoted_0 12 rfl rfl)
theorem dX3_quoted_15 : decode cX3_quoted 15 = .ok (.aload_n 0, 1) := dk_42 (dk_at dksX3_quoted_0 15 rfl rfl)
theorem dX3_quoted_16 : decode cX3_quoted 16 = .ok (.iconst 0, 1) := dk_3 (dk_at dksX3_quoted_0 16 rfl rfl)
theorem dX3_quoted_17 : decode cX3_quoted 17 = .ok (.invokevirtual 223, 3) := dk_182 0 223 (dk_at dksX3_quoted_0 17 rfl rfl)
theorem dX3_quoted_20 : decode cX3_quoted 20 = .ok (.bipush 32, 2) := dk_16 32 (dk_at dksX3_quoted_0 20 rfl rfl)
theorem dX3_quoted_22 : decode cX3_quoted 22 = .ok (.if_icmp .lt 60, 3) := dk_161 0 60 (dk_at dksX3_quoted_1 0 rfl rfl)
theorem dX3_quoted_25 : decode cX3_quoted 25 = .ok (.aload_n 0, 1) := dk_42 (dk_at dksX3_quoted_1 3 rfl rfl)
theorem dX3_quoted_26 : decode cX3_quoted 26 = .ok (.iconst 0, 1) := dk_3 (dk_at dksX3_quoted_1 4 rfl rfl)
theorem dX3_quoted_27 : decode cX3_quoted 27 = .ok (.invokevirtual 223, 3) := dk_182 0 223 (dk_at dksX3_quoted_1 5 rfl rfl)
theorem dX3_quoted_30 : decode cX3_quoted 30 = .ok (.bipush 126, 2) := dk_16 126 (dk_at dksX3_quoted_1 8 rfl rfl)
theorem dX3_quoted_32 : decode cX3_quoted 32 = .ok (.if_icmp .gt 50, 3) := dk_163 0 50 (dk_at dksX3_quoted_1 10 rfl rfl)
theorem dX3_quoted_35 : decode cX3_quoted 35 = .ok (.aload_n 0, 1) := dk_42 (dk_at dksX3_quoted_1 13 rfl rfl)
theorem dX3_quoted_36 : decode cX3_quoted 36 = .ok (.iconst 0, 1) := dk_3 (dk_at dksX3_quoted_1 14 rfl rfl)
theorem dX3_quoted_37 : decode cX3_quoted 37 = .ok (.invokevirtual 223, 3) := dk_182 0 223 (dk_at dksX3_quoted_1 15 rfl rfl)
theorem dX3_quoted_40 : decode cX3_quoted 40 = .ok (.bipush 34, 2) := dk_16 34 (dk_at dksX3_quoted_1 18 rfl rfl)
theorem dX3_quoted_42 : decode cX3_quoted 42 = .ok (.if_icmp .ne 13, 3) := dk_160 0 13 (dk_at dksX3_quoted_1 20 rfl rfl)
theorem dX3_quoted_45 : decode cX3_quoted 45 = .ok (.aload_n 0, 1) := dk_42 (dk_at dksX3_quoted_1 23 rfl rfl)
theorem dX3_quoted_46 : decode cX3_quoted 46 = .ok (.iconst 1, 1) := dk_4 (dk_at dksX3_quoted_2 0 rfl rfl)
theorem dX3_quoted_47 : decode cX3_quoted 47 = .ok (.invokevirtual 223, 3) := dk_182 0 223 (dk_at dksX3_quoted_2 1 rfl rfl)
theorem dX3_quoted_50 : decode cX3_quoted 50 = .ok (.bipush 34, 2) := dk_16 34 (dk_at dksX3_quoted_2 4 rfl rfl)
theorem dX3_quoted_52 : decode cX3_quoted 52 = .ok (.if_icmp .ne 30, 3) := dk_160 0 30 (dk_at dksX3_quoted_2 6 rfl rfl)
theorem dX3_quoted_55 : decode cX3_quoted 55 = .ok (.aload_n 0, 1) := dk_42 (dk_at dksX3_quoted_2 9 rfl rfl)
theorem dX3_quoted_56 : decode cX3_quoted 56 = .ok (.dup, 1) := dk_89 (dk_at dksX3_quoted_2 10 rfl rfl)
theorem dX3_quoted_57 : decode cX3_quoted 57 = .ok (.getfield 200, 3) := dk_180 0 200 (dk_at dksX3_quoted_2 11 rfl rfl)
theorem dX3_quoted_60 : decode cX3_quoted 60 = .ok (.aload_n 0, 1) := dk_42 (dk_at dksX3_quoted_2 14 rfl rfl)
theorem dX3_quoted_61 : decode cX3_quoted 61 = .ok (.iconst 0, 1) := dk_3 (dk_at dksX3_quoted_2 15 rfl rfl)
theorem dX3_quoted_62 : decode cX3_quoted 62 = .ok (.invokevirtual 223, 3) := dk_182 0 223 (dk_at dksX3_quoted_2 16 rfl rfl)
theorem dX3_quoted_65 : decode cX3_quoted 65 = .ok (.bipush 34, 2) := dk_16 34 (dk_at dksX3_quoted_2 19 rfl rfl)
theorem dX3_quoted_67 : decode cX3_quoted 67 = .ok (.if_icmp .ne 7, 3) := dk_160 0 7 (dk_at dksX3_quoted_2 21 rfl rfl)
theorem dX3_quoted_70 : decode cX3_quoted 70 = .ok (.iconst 2, 1) := dk_5 (dk_at dksX3_quoted_3 0 rfl rfl)
theorem dX3_quoted_71 : decode cX3_quoted 71 = .ok (.goto 4, 3) := dk_167 0 4 (dk_at dksX3_quoted_3 1 rfl rfl)
theorem dX3_quoted_74 : decode cX3_quoted 74 = .ok (.iconst 1, 1) := dk_4 (dk_at dksX3_quoted_3 4 rfl rfl)
theorem dX3_quoted_75 : decode cX3_quoted 75 = .ok (.iadd, 1) := dk_96 (dk_at dksX3_quoted_3 5 rfl rfl)
theorem dX3_quoted_76 : decode cX3_quoted 76 = .ok (.putfield 200, 3) := dk_181 0 200 (dk_at dksX3_quoted_3 6 rfl rfl)
theorem dX3_quoted_79 : decode cX3_quoted 79 = .ok (.goto (-64), 3) := dk_167 255 192 (dk_at dksX3_quoted_3 9 rfl rfl)
theorem dX3_quoted_82 : decode cX3_quoted 82 = .ok (.aload_n 0, 1) := dk_42 (dk_at dksX3_quoted_3 12 rfl rfl)
theorem dX3_quoted_83 : decode cX3_quoted 83 = .ok (.iconst 0, 1) := dk_3 (dk_at dksX3_quoted_3 13 rfl rfl)
theorem dX3_quoted_84 : decode cX3_quoted 84 = .ok (.invokevirtual 223, 3) := dk_182 0 223 (dk_at dksX3_quoted_3 14 rfl rfl)
theorem dX3_quoted_87 : decode cX3_quoted 87 = .ok (.bipush 34, 2) := dk_16 34 (dk_at dksX3_quoted_3 17 rfl rfl)
theorem dX3_quoted_89 : decode cX3_quoted 89 = .ok (.if_icmp .eq 5, 3) := dk_159 0 5 (dk_at dksX3_quoted_3 19 rfl rfl)
theorem dX3_quoted_92 : decode cX3_quoted 92 = .ok (.iconst 0, 1) := dk_3 (dk_at dksX3_quoted_3 22 rfl rfl)
theorem dX3_quoted_93 : decode cX3_quoted 93 = .ok (.ireturn, 1) := dk_172 (dk_at dksX3_quoted_3 23 rfl rfl)
theorem dX3_quoted_94 : decode cX3_quoted 94 = .ok (.aload_n 0, 1) := dk_42 (dk_at dksX3_quoted_4 0 rfl rfl)
theorem dX3_quoted_95 : decode cX3_quoted 95 = .ok (.dup, 1) := dk_89 (dk_at dksX3_quoted_4 1 rfl rfl)
theorem dX3_quoted_96 : decode cX3_quoted 96 = .ok (.getfield 200, 3) := dk_180 0 200 (dk_at dksX3_quoted_4 2 rfl rfl)
theorem dX3_quoted_99 : decode cX3_quoted 99 = .ok (.iconst 1, 1) := dk_4 (dk_at dksX3_quoted_4 5 rfl rfl)
theorem dX3_quoted_100 : decode cX3_quoted 100 = .ok (.iadd, 1) := dk_96 (dk_at dksX3_quoted_4 6 rfl rfl)
theorem dX3_quoted_101 : decode cX3_quoted 101 = .ok (.putfield 200, 3) := dk_181 0 200 (dk_at dksX3_quoted_4 7 rfl rfl)
theorem dX3_quoted_104 : decode cX3_quoted 104 = .ok (.aload_n 0, 1) := dk_42 (dk_at dksX3_quoted_4 10 rfl rfl)
theorem dX3_quoted_105 : decode cX3_quoted 105 = .ok (.iconst 5, 1) := dk_8 (dk_at dksX3_quoted_4 11 rfl rfl)
theorem dX3_quoted_106 : decode cX3_quoted 106 = .ok (.iload_n 1, 1) := dk_27 (dk_at dksX3_quoted_4 12 rfl rfl)
theorem dX3_quoted_107 : decode cX3_quoted 107 = .ok (.invokevirtual 246, 3) := dk_182 0 246 (dk_at dksX3_quoted_4 13 rfl rfl)
theorem dX3_quoted_110 : decode cX3_quoted 110 = .ok (.iconst 1, 1) := dk_4 (dk_at dksX3_quoted_4 16 rfl rfl)
theorem dX3_quoted_111 : decode cX3_quoted 111 = .ok (.ireturn, 1) := dk_172 (dk_at dksX3_quoted_4 17 rfl rfl)
abbrev cX3_digits : ByteArray := prog_6_method_23_code
def yX3_digits : MethodName := ⟨RX3, "digits", "()Z"⟩
def dkwX3_digits_6 : List UInt8 := [27, 182, 0, 246, 4, 172]
abbrev dktX3_digits_6 : List UInt8 := dkwX3_digits_6 ++ []
def dkwX3_digits_5 : List UInt8 := [3, 172, 42, 89, 180, 0, 200, 5, 96, 181, 0, 200, 42, 29, 16, 72, 160, 0, 7, 7, 167, 0, 4, 6]
abbrev dktX3_digits_5 : List UInt8 := dkwX3_digits_5 ++ dktX3_digits_6
def dkwX3_digits_4 : List UInt8 := [182, 0, 223, 16, 39, 160, 0, 19, 29, 16, 72, 159, 0, 15, 29, 16, 66, 160, 0, 7, 28, 154, 0, 5]
abbrev dktX3_digits_4 : List UInt8 := dkwX3_digits_4 ++ dktX3_digits_5
def dkwX3_digits_3 : List UInt8 := [61, 42, 89, 180, 0, 200, 4, 96, 181, 0, 200, 167, 255, 193, 42, 4, 182, 0, 223, 62, 42, 3]
abbrev dktX3_digits_3 : List UInt8 := dkwX3_digits_3 ++ dktX3_digits_4
def dkwX3_digits_2 : List UInt8 := [182, 0, 223, 184, 0, 253, 154, 0, 13, 42, 3, 182, 0, 223, 16, 50, 162, 0, 7, 4, 167, 0, 4, 3]
abbrev dktX3_digits_2 : List UInt8 := dkwX3_digits_2 ++ dktX3_digits_3
def dkwX3_digits_1 : List UInt8 := [184, 0, 250, 154, 0, 14, 42, 3, 182, 0, 223, 184, 0, 253, 153, 0, 47, 28, 153, 0, 28, 42, 3]
abbrev dktX3_digits_1 : List UInt8 := dkwX3_digits_1 ++ dktX3_digits_2
def dkwX3_digits_0 : List UInt8 := [42, 180, 0, 200, 60, 4, 61, 42, 89, 180, 0, 200, 4, 96, 181, 0, 200, 42, 3, 182, 0, 223]
abbrev dktX3_digits_0 : List UInt8 := dkwX3_digits_0 ++ dktX3_digits_1
theorem dksX3_digits_0 : cX3_digits.data.toList.drop 0 = dktX3_digits_0 := by decide +kernel
theorem dksX3_digits_1 : cX3_digits.data.toList.drop 22 = dktX3_digits_1 := dk_seg dksX3_digits_0 22 rfl rfl
theorem dksX3_digits_2 : cX3_digits.data.toList.drop 45 = dktX3_digits_2 := dk_seg dksX3_digits_1 23 rfl rfl
theorem dksX3_digits_3 : cX3_digits.data.toList.drop 69 = dktX3_digits_3 := dk_seg dksX3_digits_2 24 rfl rfl
theorem dksX3_digits_4 : cX3_digits.data.toList.drop 91 = dktX3_digits_4 := dk_seg dksX3_digits_3 22 rfl rfl
theorem dksX3_digits_5 : cX3_digits.data.toList.drop 115 = dktX3_digits_5 := dk_seg dksX3_digits_4 24 rfl rfl
theorem dksX3_digits_6 : cX3_digits.data.toList.drop 139 = dktX3_digits_6 := dk_seg dksX3_digits_5 24 rfl rfl
theorem dX3_digits_0 : decode cX3_digits 0 = .ok (.aload_n 0, 1) := dk_42 (dk_at dksX3_digits_0 0 rfl rfl)
theorem dX3_digits_1 : decode cX3_digits 1 = .ok (.getfield 200, 3) := dk_180 0 200 (dk_at dksX3_digits_0 1 rfl rfl)
theorem dX3_digits_4 : decode cX3_digits 4 = .ok (.istore_n 1, 1) := dk_60 (dk_at dksX3_digits_0 4 rfl rfl)
theorem dX3_digits_5 : decode cX3_digits 5 = .ok (.iconst 1, 1) := dk_4 (dk_at dksX3_digits_0 5 rfl rfl)
theorem dX3_digits_6 : decode cX3_digits 6 = .ok (.istore_n 2, 1) := dk_61 (dk_at dksX3_digits_0 6 rfl rfl)
theorem dX3_digits_7 : decode cX3_digits 7 = .ok (.aload_n 0, 1) := dk_42 (dk_at dksX3_digits_0 7 rfl rfl)
theorem dX3_digits_8 : decode cX3_digits 8 = .ok (.dup, 1) := dk_89 (dk_at dksX3_digits_0 8 rfl rfl)
theorem dX3_digits_9 : decode cX3_digits 9 = .ok (.getfield 200, 3) := dk_180 0 200 (dk_at dksX3_digits_0 9 rfl rfl)
theorem dX3_digits_12 : decode cX3_digits 12 = .ok (.iconst 1, 1) := dk_4 (dk_at dksX3_digits_0 12 rfl rfl)
theorem dX3_digits_13 : decode cX3_digits 13 = .ok (.iadd, 1) := dk_96 (dk_at dksX3_digits_0 13 rfl rfl)
theorem dX3_digits_14 : decode cX3_digits 14 = .ok (.putfield 200, 3) := dk_181 0 200 (dk_at dksX3_digits_0 14 rfl rfl)
theorem dX3_digits_17 : decode cX3_digits 17 = .ok (.aload_n 0, 1) := dk_42 (dk_at dksX3_digits_0 17 rfl rfl)
theorem dX3_digits_18 : decode cX3_digits 18 = .ok (.iconst 0, 1) := dk_3 (dk_at dksX3_digits_0 18 rfl rfl)
theorem dX3_digits_19 : decode cX3_digits 19 = .ok (.invokevirtual 223, 3) := dk_182 0 223 (dk_at dksX3_digits_0 19 rfl rfl)
theorem dX3_digits_22 : decode cX3_digits 22 = .ok (.invokestatic 250, 3) := dk_184 0 250 (dk_at dksX3_digits_1 0 rfl rfl)
theorem dX3_digits_25 : decode cX3_digits 25 = .ok (.ifCond .ne 14, 3) := dk_154 0 14 (dk_at dksX3_digits_1 3 rfl rfl)
theorem dX3_digits_28 : decode cX3_digits 28 = .ok (.aload_n 0, 1) := dk_42 (dk_at dksX3_digits_1 6 rfl rfl)
theorem dX3_digits_29 : decode cX3_digits 29 = .ok (.iconst 0, 1) := dk_3 (dk_at dksX3_digits_1 7 rfl rfl)
theorem dX3_digits_30 : decode cX3_digits 30 = .ok (.invokevirtual 223, 3) := dk_182 0 223 (dk_at dksX3_digits_1 8 rfl rfl)
theorem dX3_digits_33 : decode cX3_digits 33 = .ok (.invokestatic 253, 3) := dk_184 0 253 (dk_at dksX3_digits_1 11 rfl rfl)
theorem dX3_digits_36 : decode cX3_digits 36 = .ok (.ifCond .eq 47, 3) := dk_153 0 47 (dk_at dksX3_digits_1 14 rfl rfl)
theorem dX3_digits_39 : decode cX3_digits 39 = .ok (.iload_n 2, 1) := dk_28 (dk_at dksX3_digits_1 17 rfl rfl)
theorem dX3_digits_40 : decode cX3_digits 40 = .ok (.ifCond .eq 28, 3) := dk_153 0 28 (dk_at dksX3_digits_1 18 rfl rfl)
theorem dX3_digits_43 : decode cX3_digits 43 = .ok (.aload_n 0, 1) := dk_42 (dk_at dksX3_digits_1 21 rfl rfl)
theorem dX3_digits_44 : decode cX3_digits 44 = .ok (.iconst 0, 1) := dk_3 (dk_at dksX3_digits_1 22 rfl rfl)
theorem dX3_digits_45 : decode cX3_digits 45 = .ok (.invokevirtual 223, 3) := dk_182 0 223 (dk_at dksX3_digits_2 0 rfl rfl)
theorem dX3_digits_48 : decode cX3_digits 48 = .ok (.invokestatic 253, 3) := dk_184 0 253 (dk_at dksX3_digits_2 3 rfl rfl)
theorem dX3_digits_51 : decode cX3_digits 51 = .ok (.ifCond .ne 13, 3) := dk_154 0 13 (dk_at dksX3_digits_2 6 rfl rfl)
theorem dX3_digits_54 : decode cX3_digits 54 = .ok (.aload_n 0, 1) := dk_42 (dk_at dksX3_digits_2 9 rfl rfl)
theorem dX3_digits_55 : decode cX3_digits 55 = .ok (.iconst 0, 1) := dk_3 (dk_at dksX3_digits_2 10 rfl rfl)
theorem dX3_digits_56 : decode cX3_digits 56 = .ok (.invokevirtual 223, 3) := dk_182 0 223 (dk_at dksX3_digits_2 11 rfl rfl)
theorem dX3_digits_59 : decode cX3_digits 59 = .ok (.bipush 50, 2) := dk_16 50 (dk_at dksX3_digits_2 14 rfl rfl)
theorem dX3_digits_61 : decode cX3_digits 61 = .ok (.if_icmp .ge 7, 3) := dk_162 0 7 (dk_at dksX3_digits_2 16 rfl rfl)
theorem dX3_digits_64 : decode cX3_digits 64 = .ok (.iconst 1, 1) := dk_4 (dk_at dksX3_digits_2 19 rfl rfl)
theorem dX3_digits_65 : decode cX3_digits 65 = .ok (.goto 4, 3) := dk_167 0 4 (dk_at dksX3_digits_2 20 rfl rfl)
theorem dX3_digits_68 : decode cX3_digits 68 = .ok (.iconst 0, 1) := dk_3 (dk_at dksX3_digits_2 23 rfl rfl)
theorem dX3_digits_69 : decode cX3_digits 69 = .ok (.istore_n 2, 1) := dk_61 (dk_at dksX3_digits_3 0 rfl rfl)
theorem dX3_digits_70 : decode cX3_digits 70 = .ok (.aload_n 0, 1) := dk_42 (dk_at dksX3_digits_3 1 rfl rfl)
theorem dX3_digits_71 : decode cX3_digits 71 = .ok (.dup, 1) := dk_89 (dk_at dksX3_digits_3 2 rfl rfl)
theorem dX3_digits_72 : decode cX3_digits 72 = .ok (.getfield 200, 3) := dk_180 0 200 (dk_at dksX3_digits_3 3 rfl rfl)
theorem dX3_digits_75 : decode cX3_digits 75 = .ok (.iconst 1, 1) := dk_4 (dk_at dksX3_digits_3 6 rfl rfl)
theorem dX3_digits_76 : decode cX3_digits 76 = .ok (.iadd, 1) := dk_96 (dk_at dksX3_digits_3 7 rfl rfl)
theorem dX3_digits_77 : decode cX3_digits 77 = .ok (.putfield 200, 3) := dk_181 0 200 (dk_at dksX3_digits_3 8 rfl rfl)
theorem dX3_digits_80 : decode cX3_digits 80 = .ok (.goto (-63), 3) := dk_167 255 193 (dk_at dksX3_digits_3 11 rfl rfl)
theorem dX3_digits_83 : decode cX3_digits 83 = .ok (.aload_n 0, 1) := dk_42 (dk_at dksX3_digits_3 14 rfl rfl)
theorem dX3_digits_84 : decode cX3_digits 84 = .ok (.iconst 1, 1) := dk_4 (dk_at dksX3_digits_3 15 rfl rfl)
theorem dX3_digits_85 : decode cX3_digits 85 = .ok (.invokevirtual 223, 3) := dk_182 0 223 (dk_at dksX3_digits_3 16 rfl rfl)
theorem dX3_digits_88 : decode cX3_digits 88 = .ok (.istore_n 3, 1) := dk_62 (dk_at dksX3_digits_3 19 rfl rfl)
theorem dX3_digits_89 : decode cX3_digits 89 = .ok (.aload_n 0, 1) := dk_42 (dk_at dksX3_digits_3 20 rfl rfl)
theorem dX3_digits_90 : decode cX3_digits 90 = .ok (.iconst 0, 1) := dk_3 (dk_at dksX3_digits_3 21 rfl rfl)
theorem dX3_digits_91 : decode cX3_digits 91 = .ok (.invokevirtual 223, 3) := dk_182 0 223 (dk_at dksX3_digits_4 0 rfl rfl)
theorem dX3_digits_94 : decode cX3_digits 94 = .ok (.bipush 39, 2) := dk_16 39 (dk_at dksX3_digits_4 3 rfl rfl)
theorem dX3_digits_96 : decode cX3_digits 96 = .ok (.if_icmp .ne 19, 3) := dk_160 0 19 (dk_at dksX3_digits_4 5 rfl rfl)
theorem dX3_digits_99 : decode cX3_digits 99 = .ok (.iload_n 3, 1) := dk_29 (dk_at dksX3_digits_4 8 rfl rfl)
theorem dX3_digits_100 : decode cX3_digits 100 = .ok (.bipush 72, 2) := dk_16 72 (dk_at dksX3_digits_4 9 rfl rfl)
theorem dX3_digits_102 : decode cX3_digits 102 = .ok (.if_icmp .eq 15, 3) := dk_159 0 15 (dk_at dksX3_digits_4 11 rfl rfl)
theorem dX3_digits_105 : decode cX3_digits 105 = .ok (.iload_n 3, 1) := dk_29 (dk_at dksX3_digits_4 14 rfl rfl)
theorem dX3_digits_106 : decode cX3_digits 106 = .ok (.bipush 66, 2) := dk_16 66 (dk_at dksX3_digits_4 15 rfl rfl)
theorem dX3_digits_108 : decode cX3_digits 108 = .ok (.if_icmp .ne 7, 3) := dk_160 0 7 (dk_at dksX3_digits_4 17 rfl rfl)
theorem dX3_digits_111 : decode cX3_digits 111 = .ok (.iload_n 2, 1) := dk_28 (dk_at dksX3_digits_4 20 rfl rfl)
theorem dX3_digits_112 : decode cX3_digits 112 = .ok (.ifCond .ne 5, 3) := dk_154 0 5 (dk_at dksX3_digits_4 21 rfl rfl)
theorem dX3_digits_115 : decode cX3_digits 115 = .ok (.iconst 0, 1) := dk_3 (dk_at dksX3_digits_5 0 rfl rfl)
theorem dX3_digits_116 : decode cX3_digits 116 = .ok (.ireturn, 1) := dk_172 (dk_at dksX3_digits_5 1 rfl rfl)
theorem dX3_digits_117 : decode cX3_digits 117 = .ok (.aload_n 0, 1) := dk_42 (dk_at dksX3_digits_5 2 rfl rfl)
theorem dX3_digits_118 : decode cX3_digits 118 = .ok (.dup, 1) := dk_89 (dk_at dksX3_digits_5 3 rfl rfl)
theorem dX3_digits_119 : decode cX3_digits 119 = .ok (.getfield 200, 3) := dk_180 0 200 (dk_at dksX3_digits_5 4 rfl rfl)
theorem dX3_digits_122 : decode cX3_digits 122 = .ok (.iconst 2, 1) := dk_5 (dk_at dksX3_digits_5 7 rfl rfl)
theorem dX3_digits_123 : decode cX3_digits 123 = .ok (.iadd, 1) := dk_96 (dk_at dksX3_digits_5 8 rfl rfl)
theorem dX3_digits_124 : decode cX3_digits 124 = .ok (.putfield 200, 3) := dk_181 0 200 (dk_at dksX3_digits_5 9 rfl rfl)
theorem dX3_digits_127 : decode cX3_digits 127 = .ok (.aload_n 0, 1) := dk_42 (dk_at dksX3_digits_5 12 rfl rfl)
theorem dX3_digits_128 : decode cX3_digits 128 = .ok (.iload_n 3, 1) := dk_29 (dk_at dksX3_digits_5 13 rfl rfl)
theorem dX3_digits_129 : decode cX3_digits 129 = .ok (.bipush 72, 2) := dk_16 72 (dk_at dksX3_digits_5 14 rfl rfl)
theorem dX3_digits_131 : decode cX3_digits 131 = .ok (.if_icmp .ne 7, 3) := dk_160 0 7 (dk_at dksX3_digits_5 16 rfl rfl)
theorem dX3_digits_134 : decode cX3_digits 134 = .ok (.iconst 4, 1) := dk_7 (dk_at dksX3_digits_5 19 rfl rfl)
theorem dX3_digits_135 : decode cX3_digits 135 = .ok (.goto 4, 3) := dk_167 0 4 (dk_at dksX3_digits_5 20 rfl rfl)
theorem dX3_digits_138 : decode cX3_digits 138 = .ok (.iconst 3, 1) := dk_6 (dk_at dksX3_digits_5 23 rfl rfl)
theorem dX3_digits_139 : decode cX3_digits 139 = .ok (.iload_n 1, 1) := dk_27 (dk_at dksX3_digits_6 0 rfl rfl)
theorem dX3_digits_140 : decode cX3_digits 140 = .ok (.invokevirtual 246, 3) := dk_182 0 246 (dk_at dksX3_digits_6 1 rfl rfl)
theorem dX3_digits_143 : decode cX3_digits 143 = .ok (.iconst 1, 1) := dk_4 (dk_at dksX3_digits_6 4 rfl rfl)
theorem dX3_digits_144 : decode cX3_digits 144 = .ok (.ireturn, 1) := dk_172 (dk_at dksX3_digits_6 5 rfl rfl)
abbrev cX3_isHex : ByteArray := prog_6_method_13_code
def yX3_isHex : MethodName := ⟨RX3, "isHex", "(I)Z"⟩
def dkwX3_isHex_1 : List UInt8 := [172]
abbrev dktX3_isHex_1 : List UInt8 := dkwX3_isHex_1 ++ []
def dkwX3_isHex_0 : List UInt8 := [26, 184, 0, 210, 154, 0, 15, 26, 16, 65, 161, 0, 13, 26, 16, 70, 163, 0, 7, 4, 167, 0, 4, 3]
abbrev dktX3_isHex_0 : List UInt8 := dkwX3_isHex_0 ++ dktX3_isHex_1
theorem dksX3_isHex_0 : cX3_isHex.data.toList.drop 0 = dktX3_isHex_0 := by decide +kernel
theorem dksX3_isHex_1 : cX3_isHex.data.toList.drop 24 = dktX3_isHex_1 := dk_seg dksX3_isHex_0 24 rfl rfl
theorem dX3_isHex_0 : decode cX3_isHex 0 = .ok (.iload_n 0, 1) := dk_26 (dk_at dksX3_isHex_0 0 rfl rfl)
theorem dX3_isHex_1 : decode cX3_isHex 1 = .ok (.invokestatic 210, 3) := dk_184 0 210 (dk_at dksX3_isHex_0 1 rfl rfl)
theorem dX3_isHex_4 : decode cX3_isHex 4 = .ok (.ifCond .ne 15, 3) := dk_154 0 15 (dk_at dksX3_isHex_0 4 rfl rfl)
theorem dX3_isHex_7 : decode cX3_isHex 7 = .ok (.iload_n 0, 1) := dk_26 (dk_at dksX3_isHex_0 7 rfl rfl)
theorem dX3_isHex_8 : decode cX3_isHex 8 = .ok (.bipush 65, 2) := dk_16 65 (dk_at dksX3_isHex_0 8 rfl rfl)
theorem dX3_isHex_10 : decode cX3_isHex 10 = .ok (.if_icmp .lt 13, 3) := dk_161 0 13 (dk_at dksX3_isHex_0 10 rfl rfl)
theorem dX3_isHex_13 : decode cX3_isHex 13 = .ok (.iload_n 0, 1) := dk_26 (dk_at dksX3_isHex_0 13 rfl rfl)
theorem dX3_isHex_14 : decode cX3_isHex 14 = .ok (.bipush 70, 2) := dk_16 70 (dk_at dksX3_isHex_0 14 rfl rfl)
theorem dX3_isHex_16 : decode cX3_isHex 16 = .ok (.if_icmp .gt 7, 3) := dk_163 0 7 (dk_at dksX3_isHex_0 16 rfl rfl)
theorem dX3_isHex_19 : decode cX3_isHex 19 = .ok (.iconst 1, 1) := dk_4 (dk_at dksX3_isHex_0 19 rfl rfl)
theorem dX3_isHex_20 : decode cX3_isHex 20 = .ok (.goto 4, 3) := dk_167 0 4 (dk_at dksX3_isHex_0 20 rfl rfl)
theorem dX3_isHex_23 : decode cX3_isHex 23 = .ok (.iconst 0, 1) := dk_3 (dk_at dksX3_isHex_0 23 rfl rfl)
theorem dX3_isHex_24 : decode cX3_isHex 24 = .ok (.ireturn, 1) := dk_172 (dk_at dksX3_isHex_1 0 rfl rfl)
abbrev cX3_sign : ByteArray := prog_6_method_24_code
def yX3_sign : MethodName := ⟨RX3, "sign", "()Z"⟩
def dkwX3_sign_8 : List UInt8 := [167, 0, 5, 16, 14, 27, 182, 0, 246, 167, 0, 12, 42, 16, 15, 29, 96, 27, 182, 0, 246, 4, 172]
abbrev dktX3_sign_8 : List UInt8 := dkwX3_sign_8 ++ []
def dkwX3_sign_7 : List UInt8 := [160, 0, 34, 42, 89, 180, 0, 200, 4, 96, 181, 0, 200, 42, 28, 16, 91, 160, 0, 8, 16, 13]
abbrev dktX3_sign_7 : List UInt8 := dkwX3_sign_7 ++ dktX3_sign_8
def dkwX3_sign_6 : List UInt8 := [182, 0, 246, 167, 0, 64, 28, 16, 91, 159, 0, 9, 28, 16, 93, 160, 0, 43, 42, 3, 182, 0, 223, 28]
abbrev dktX3_sign_6 : List UInt8 := dkwX3_sign_6 ++ dktX3_sign_7
def dkwX3_sign_5 : List UInt8 := [181, 0, 200, 42, 42, 180, 0, 200, 27, 100, 6, 160, 0, 8, 16, 11, 167, 0, 5, 16, 12, 27]
abbrev dktX3_sign_5 : List UInt8 := dkwX3_sign_5 ++ dktX3_sign_6
def dkwX3_sign_4 : List UInt8 := [160, 0, 52, 42, 89, 180, 0, 200, 42, 4, 182, 0, 223, 16, 46, 160, 0, 7, 5, 167, 0, 4, 4, 96]
abbrev dktX3_sign_4 : List UInt8 := dkwX3_sign_4 ++ dktX3_sign_5
def dkwX3_sign_3 : List UInt8 := [16, 10, 27, 182, 0, 246, 167, 0, 129, 28, 16, 46, 160, 0, 62, 42, 3, 182, 0, 223, 16, 46]
abbrev dktX3_sign_3 : List UInt8 := dkwX3_sign_3 ++ dktX3_sign_4
def dkwX3_sign_2 : List UInt8 := [160, 0, 33, 42, 4, 182, 0, 223, 16, 61, 160, 0, 23, 42, 89, 180, 0, 200, 5, 96, 181, 0, 200, 42]
abbrev dktX3_sign_2 : List UInt8 := dkwX3_sign_2 ++ dktX3_sign_3
def dkwX3_sign_1 : List UInt8 := [42, 89, 180, 0, 200, 4, 96, 181, 0, 200, 28, 16, 58, 160, 0, 43, 42, 3, 182, 0, 223, 16, 58]
abbrev dktX3_sign_1 : List UInt8 := dkwX3_sign_1 ++ dktX3_sign_2
def dkwX3_sign_0 : List UInt8 := [42, 180, 0, 200, 60, 42, 3, 182, 0, 223, 61, 18, 9, 28, 182, 1, 0, 62, 29, 156, 0, 5, 3, 172]
abbrev dktX3_sign_0 : List UInt8 := dkwX3_sign_0 ++ dktX3_sign_1
theorem dksX3_sign_0 : cX3_sign.data.toList.drop 0 = dktX3_sign_0 := by decide +kernel
theorem dksX3_sign_1 : cX3_sign.data.toList.drop 24 = dktX3_sign_1 := dk_seg dksX3_sign_0 24 rfl rfl
theorem dksX3_sign_2 : cX3_sign.data.toList.drop 47 = dktX3_sign_2 := dk_seg dksX3_sign_1 23 rfl rfl
theorem dksX3_sign_3 : cX3_sign.data.toList.drop 71 = dktX3_sign_3 := dk_seg dksX3_sign_2 24 rfl rfl
theorem dksX3_sign_4 : cX3_sign.data.toList.drop 93 = dktX3_sign_4 := dk_seg dksX3_sign_3 22 rfl rfl
theorem dksX3_sign_5 : cX3_sign.data.toList.drop 117 = dktX3_sign_5 := dk_seg dksX3_sign_4 24 rfl rfl
theorem dksX3_sign_6 : cX3_sign.data.toList.drop 139 = dktX3_sign_6 := dk_seg dksX3_sign_5 22 rfl rfl
theorem dksX3_sign_7 : cX3_sign.data.toList.drop 163 = dktX3_sign_7 := dk_seg dksX3_sign_6 24 rfl rfl
theorem dksX3_sign_8 : cX3_sign.data.toList.drop 185 = dktX3_sign_8 := dk_seg dksX3_sign_7 22 rfl rfl
theorem dX3_sign_0 : decode cX3_sign 0 = .ok (.aload_n 0, 1) := dk_42 (dk_at dksX3_sign_0 0 rfl rfl)
theorem dX3_sign_1 : decode cX3_sign 1 = .ok (.getfield 200, 3) := dk_180 0 200 (dk_at dksX3_sign_0 1 rfl rfl)
theorem dX3_sign_4 : decode cX3_sign 4 = .ok (.istore_n 1, 1) := dk_60 (dk_at dksX3_sign_0 4 rfl rfl)
theorem dX3_sign_5 : decode cX3_sign 5 = .ok (.aload_n 0, 1) := dk_42 (dk_at dksX3_sign_0 5 rfl rfl)
theorem dX3_sign_6 : decode cX3_sign 6 = .ok (.iconst 0, 1) := dk_3 (dk_at dksX3_sign_0 6 rfl rfl)
theorem dX3_sign_7 : decode cX3_sign 7 = .ok (.invokevirtual 223, 3) := dk_182 0 223 (dk_at dksX3_sign_0 7 rfl rfl)
theorem dX3_sign_10 : decode cX3_sign 10 = .ok (.istore_n 2, 1) := dk_61 (dk_at dksX3_sign_0 10 rfl rfl)
theorem dX3_sign_11 : decode cX3_sign 11 = .ok (.ldc 9, 2) := dk_18 9 (dk_at dksX3_sign_0 11 rfl rfl)
theorem dX3_sign_13 : decode cX3_sign 13 = .ok (.iload_n 2, 1) := dk_28 (dk_at dksX3_sign_0 13 rfl rfl)
theorem dX3_sign_14 : decode cX3_sign 14 = .ok (.invokevirtual 256, 3) := dk_182 1 0 (dk_at dksX3_sign_0 14 rfl rfl)
theorem dX3_sign_17 : decode cX3_sign 17 = .ok (.istore_n 3, 1) := dk_62 (dk_at dksX3_sign_0 17 rfl rfl)
theorem dX3_sign_18 : decode cX3_sign 18 = .ok (.iload_n 3, 1) := dk_29 (dk_at dksX3_sign_0 18 rfl rfl)
theorem dX3_sign_19 : decode cX3_sign 19 = .ok (.ifCond .ge 5, 3) := dk_156 0 5 (dk_at dksX3_sign_0 19 rfl rfl)
theorem dX3_sign_22 : decode cX3_sign 22 = .ok (.iconst 0, 1) := dk_3 (dk_at dksX3_sign_0 22 rfl rfl)
theorem dX3_sign_23 : decode cX3_sign 23 = .ok (.ireturn, 1) := dk_172 (dk_at dksX3_sign_0 23 rfl rfl)
theorem dX3_sign_24 : decode cX3_sign 24 = .ok (.aload_n 0, 1) := dk_42 (dk_at dksX3_sign_1 0 rfl rfl)
theorem dX3_sign_25 : decode cX3_sign 25 = .ok (.dup, 1) := dk_89 (dk_at dksX3_sign_1 1 rfl rfl)
theorem dX3_sign_26 : decode cX3_sign 26 = .ok (.getfield 200, 3) := dk_180 0 200 (dk_at dksX3_sign_1 2 rfl rfl)
theorem dX3_sign_29 : decode cX3_sign 29 = .ok (.iconst 1, 1) := dk_4 (dk_at dksX3_sign_1 5 rfl rfl)
theorem dX3_sign_30 : decode cX3_sign 30 = .ok (.iadd, 1) := dk_96 (dk_at dksX3_sign_1 6 rfl rfl)
theorem dX3_sign_31 : decode cX3_sign 31 = .ok (.putfield 200, 3) := dk_181 0 200 (dk_at dksX3_sign_1 7 rfl rfl)
theorem dX3_sign_34 : decode cX3_sign 34 = .ok (.iload_n 2, 1) := dk_28 (dk_at dksX3_sign_1 10 rfl rfl)
theorem dX3_sign_35 : decode cX3_sign 35 = .ok (.bipush 58, 2) := dk_16 58 (dk_at dksX3_sign_1 11 rfl rfl)
theorem dX3_sign_37 : decode cX3_sign 37 = .ok (.if_icmp .ne 43, 3) := dk_160 0 43 (dk_at dksX3_sign_1 13 rfl rfl)
theorem dX3_sign_40 : decode cX3_sign 40 = .ok (.aload_n 0, 1) := dk_42 (dk_at dksX3_sign_1 16 rfl rfl)
theorem dX3_sign_41 : decode cX3_sign 41 = .ok (.iconst 0, 1) := dk_3 (dk_at dksX3_sign_1 17 rfl rfl)
theorem dX3_sign_42 : decode cX3_sign 42 = .ok (.invokevirtual 223, 3) := dk_182 0 223 (dk_at dksX3_sign_1 18 rfl rfl)
theorem dX3_sign_45 : decode cX3_sign 45 = .ok (.bipush 58, 2) := dk_16 58 (dk_at dksX3_sign_1 21 rfl rfl)
theorem dX3_sign_47 : decode cX3_sign 47 = .ok (.if_icmp .ne 33, 3) := dk_160 0 33 (dk_at dksX3_sign_2 0 rfl rfl)
theorem dX3_sign_50 : decode cX3_sign 50 = .ok (.aload_n 0, 1) := dk_42 (dk_at dksX3_sign_2 3 rfl rfl)
theorem dX3_sign_51 : decode cX3_sign 51 = .ok (.iconst 1, 1) := dk_4 (dk_at dksX3_sign_2 4 rfl rfl)
theorem dX3_sign_52 : decode cX3_sign 52 = .ok (.invokevirtual 223, 3) := dk_182 0 223 (dk_at dksX3_sign_2 5 rfl rfl)
theorem dX3_sign_55 : decode cX3_sign 55 = .ok (.bipush 61, 2) := dk_16 61 (dk_at dksX3_sign_2 8 rfl rfl)
theorem dX3_sign_57 : decode cX3_sign 57 = .ok (.if_icmp .ne 23, 3) := dk_160 0 23 (dk_at dksX3_sign_2 10 rfl rfl)
theorem dX3_sign_60 : decode cX3_sign 60 = .ok (.aload_n 0, 1) := dk_42 (dk_at dksX3_sign_2 13 rfl rfl)
theorem dX3_sign_61 : decode cX3_sign 61 = .ok (.dup, 1) := dk_89 (dk_at dksX3_sign_2 14 rfl rfl)
theorem dX3_sign_62 : decode cX3_sign 62 = .ok (.getfield 200, 3) := dk_180 0 200 (dk_at dksX3_sign_2 15 rfl rfl)
theorem dX3_sign_65 : decode cX3_sign 65 = .ok (.iconst 2, 1) := dk_5 (dk_at dksX3_sign_2 18 rfl rfl)
theorem dX3_sign_66 : decode cX3_sign 66 = .ok (.iadd, 1) := dk_96 (dk_at dksX3_sign_2 19 rfl rfl)
theorem dX3_sign_67 : decode cX3_sign 67 = .ok (.putfield 200, 3) := dk_181 0 200 (dk_at dksX3_sign_2 20 rfl rfl)
theorem dX3_sign_70 : decode cX3_sign 70 = .ok (.aload_n 0, 1) := dk_42 (dk_at dksX3_sign_2 23 rfl rfl)
theorem dX3_sign_71 : decode cX3_sign 71 = .ok (.bipush 10, 2) := dk_16 10 (dk_at dksX3_sign_3 0 rfl rfl)
theorem dX3_sign_73 : decode cX3_sign 73 = .ok (.iload_n 1, 1) := dk_27 (dk_at dksX3_sign_3 2 rfl rfl)
theorem dX3_sign_74 : decode cX3_sign 74 = .ok (.invokevirtual 246, 3) := dk_182 0 246 (dk_at dksX3_sign_3 3 rfl rfl)
theorem dX3_sign_77 : decode cX3_sign 77 = .ok (.goto 129, 3) := dk_167 0 129 (dk_at dksX3_sign_3 6 rfl rfl)
theorem dX3_sign_80 : decode cX3_sign 80 = .ok (.iload_n 2, 1) := dk_28 (dk_at dksX3_sign_3 9 rfl rfl)
theorem dX3_sign_81 : decode cX3_sign 81 = .ok (.bipush 46, 2) := dk_16 46 (dk_at dksX3_sign_3 10 rfl rfl)
theorem dX3_sign_83 : decode cX3_sign 83 = .ok (.if_icmp .ne 62, 3) := dk_160 0 62 (dk_at dksX3_sign_3 12 rfl rfl)
theorem dX3_sign_86 : decode cX3_sign 86 = .ok (.aload_n 0, 1) := dk_42 (dk_at dksX3_sign_3 15 rfl rfl)
theorem dX3_sign_87 : decode cX3_sign 87 = .ok (.iconst 0, 1) := dk_3 (dk_at dksX3_sign_3 16 rfl rfl)
theorem dX3_sign_88 : decode cX3_sign 88 = .ok (.invokevirtual 223, 3) := dk_182 0 223 (dk_at dksX3_sign_3 17 rfl rfl)
theorem dX3_sign_91 : decode cX3_sign 91 = .ok (.bipush 46, 2) := dk_16 46 (dk_at dksX3_sign_3 20 rfl rfl)
theorem dX3_sign_93 : decode cX3_sign 93 = .ok (.if_icmp .ne 52, 3) := dk_160 0 52 (dk_at dksX3_sign_4 0 rfl rfl)
theorem dX3_sign_96 : decode cX3_sign 96 = .ok (.aload_n 0, 1) := dk_42 (dk_at dksX3_sign_4 3 rfl rfl)
theorem dX3_sign_97 : decode cX3_sign 97 = .ok (.dup, 1) := dk_89 (dk_at dksX3_sign_4 4 rfl rfl)
theorem dX3_sign_98 : decode cX3_sign 98 = .ok (.getfield 200, 3) := dk_180 0 200 (dk_at dksX3_sign_4 5 rfl rfl)
theorem dX3_sign_101 : decode cX3_sign 101 = .ok (.aload_n 0, 1) := dk_42 (dk_at dksX3_sign_4 8 rfl rfl)
theorem dX3_sign_102 : decode cX3_sign 102 = .ok (.iconst 1, 1) := dk_4 (dk_at dksX3_sign_4 9 rfl rfl)
theorem dX3_sign_103 : decode cX3_sign 103 = .ok (.invokevirtual 223, 3) := dk_182 0 223 (dk_at dksX3_sign_4 10 rfl rfl)
theorem dX3_sign_106 : decode cX3_sign 106 = .ok (.bipush 46, 2) := dk_16 46 (dk_at dksX3_sign_4 13 rfl rfl)
theorem dX3_sign_108 : decode cX3_sign 108 = .ok (.if_icmp .ne 7, 3) := dk_160 0 7 (dk_at dksX3_sign_4 15 rfl rfl)
theorem dX3_sign_111 : decode cX3_sign 111 = .ok (.iconst 2, 1) := dk_5 (dk_at dksX3_sign_4 18 rfl rfl)
theorem dX3_sign_112 : decode cX3_sign 112 = .ok (.goto 4, 3) := dk_167 0 4 (dk_at dksX3_sign_4 19 rfl rfl)
theorem dX3_sign_115 : decode cX3_sign 115 = .ok (.iconst 1, 1) := dk_4 (dk_at dksX3_sign_4 22 rfl rfl)
theorem dX3_sign_116 : decode cX3_sign 116 = .ok (.iadd, 1) := dk_96 (dk_at dksX3_sign_4 23 rfl rfl)
theorem dX3_sign_117 : decode cX3_sign 117 = .ok (.putfield 200, 3) := dk_181 0 200 (dk_at dksX3_sign_5 0 rfl rfl)
theorem dX3_sign_120 : decode cX3_sign 120 = .ok (.aload_n 0, 1) := dk_42 (dk_at dksX3_sign_5 3 rfl rfl)
theorem dX3_sign_121 : decode cX3_sign 121 = .ok (.aload_n 0, 1) := dk_42 (dk_at dksX3_sign_5 4 rfl rfl)
theorem dX3_sign_122 : decode cX3_sign 122 = .ok (.getfield 200, 3) := dk_180 0 200 (dk_at dksX3_sign_5 5 rfl rfl)
theorem dX3_sign_125 : decode cX3_sign 125 = .ok (.iload_n 1, 1) := dk_27 (dk_at dksX3_sign_5 8 rfl rfl)
theorem dX3_sign_126 : decode cX3_sign 126 = .ok (.isub, 1) := dk_100 (dk_at dksX3_sign_5 9 rfl rfl)
theorem dX3_sign_127 : decode cX3_sign 127 = .ok (.iconst 3, 1) := dk_6 (dk_at dksX3_sign_5 10 rfl rfl)
theorem dX3_sign_128 : decode cX3_sign 128 = .ok (.if_icmp .ne 8, 3) := dk_160 0 8 (dk_at dksX3_sign_5 11 rfl rfl)
theorem dX3_sign_131 : decode cX3_sign 131 = .ok (.bipush 11, 2) := dk_16 11 (dk_at dksX3_sign_5 14 rfl rfl)
theorem dX3_sign_133 : decode cX3_sign 133 = .ok (.goto 5, 3) := dk_167 0 5 (dk_at dksX3_sign_5 16 rfl rfl)
theorem dX3_sign_136 : decode cX3_sign 136 = .ok (.bipush 12, 2) := dk_16 12 (dk_at dksX3_sign_5 19 rfl rfl)
theorem dX3_sign_138 : decode cX3_sign 138 = .ok (.iload_n 1, 1) := dk_27 (dk_at dksX3_sign_5 21 rfl rfl)
theorem dX3_sign_139 : decode cX3_sign 139 = .ok (.invokevirtual 246, 3) := dk_182 0 246 (dk_at dksX3_sign_6 0 rfl rfl)
theorem dX3_sign_142 : decode cX3_sign 142 = .ok (.goto 64, 3) := dk_167 0 64 (dk_at dksX3_sign_6 3 rfl rfl)
theorem dX3_sign_145 : decode cX3_sign 145 = .ok (.iload_n 2, 1) := dk_28 (dk_at dksX3_sign_6 6 rfl rfl)
theorem dX3_sign_146 : decode cX3_sign 146 = .ok (.bipush 91, 2) := dk_16 91 (dk_at dksX3_sign_6 7 rfl rfl)
theorem dX3_sign_148 : decode cX3_sign 148 = .ok (.if_icmp .eq 9, 3) := dk_159 0 9 (dk_at dksX3_sign_6 9 rfl rfl)
theorem dX3_sign_151 : decode cX3_sign 151 = .ok (.iload_n 2, 1) := dk_28 (dk_at dksX3_sign_6 12 rfl rfl)
theorem dX3_sign_152 : decode cX3_sign 152 = .ok (.bipush 93, 2) := dk_16 93 (dk_at dksX3_sign_6 13 rfl rfl)
theorem dX3_sign_154 : decode cX3_sign 154 = .ok (.if_icmp .ne 43, 3) := dk_160 0 43 (dk_at dksX3_sign_6 15 rfl rfl)
theorem dX3_sign_157 : decode cX3_sign 157 = .ok (.aload_n 0, 1) := dk_42 (dk_at dksX3_sign_6 18 rfl rfl)
theorem dX3_sign_158 : decode cX3_sign 158 = .ok (.iconst 0, 1) := dk_3 (dk_at dksX3_sign_6 19 rfl rfl)
theorem dX3_sign_159 : decode cX3_sign 159 = .ok (.invokevirtual 223, 3) := dk_182 0 223 (dk_at dksX3_sign_6 20 rfl rfl)
theorem dX3_sign_162 : decode cX3_sign 162 = .ok (.iload_n 2, 1) := dk_28 (dk_at dksX3_sign_6 23 rfl rfl)
theorem dX3_sign_163 : decode cX3_sign 163 = .ok (.if_icmp .ne 34, 3) := dk_160 0 34 (dk_at dksX3_sign_7 0 rfl rfl)
theorem dX3_sign_166 : decode cX3_sign 166 = .ok (.aload_n 0, 1) := dk_42 (dk_at dksX3_sign_7 3 rfl rfl)
theorem dX3_sign_167 : decode cX3_sign 167 = .ok (.dup, 1) := dk_89 (dk_at dksX3_sign_7 4 rfl rfl)
theorem dX3_sign_168 : decode cX3_sign 168 = .ok (.getfield 200, 3) := dk_180 0 200 (dk_at dksX3_sign_7 5 rfl rfl)
theorem dX3_sign_171 : decode cX3_sign 171 = .ok (.iconst 1, 1) := dk_4 (dk_at dksX3_sign_7 8 rfl rfl)
theorem dX3_sign_172 : decode cX3_sign 172 = .ok (.iadd, 1) := dk_96 (dk_at dksX3_sign_7 9 rfl rfl)
theorem dX3_sign_173 : decode cX3_sign 173 = .ok (.putfield 200, 3) := dk_181 0 200 (dk_at dksX3_sign_7 10 rfl rfl)
theorem dX3_sign_176 : decode cX3_sign 176 = .ok (.aload_n 0, 1) := dk_42 (dk_at dksX3_sign_7 13 rfl rfl)
theorem dX3_sign_177 : decode cX3_sign 177 = .ok (.iload_n 2, 1) := dk_28 (dk_at dksX3_sign_7 14 rfl rfl)
theorem dX3_sign_178 : decode cX3_sign 178 = .ok (.bipush 91, 2) := dk_16 91 (dk_at dksX3_sign_7 15 rfl rfl)
theorem dX3_sign_180 : decode cX3_sign 180 = .ok (.if_icmp .ne 8, 3) := dk_160 0 8 (dk_at dksX3_sign_7 17 rfl rfl)
theorem dX3_sign_183 : decode cX3_sign 183 = .ok (.bipush 13, 2) := dk_16 13 (dk_at dksX3_sign_7 20 rfl rfl)
theorem dX3_sign_185 : decode cX3_sign 185 = .ok (.goto 5, 3) := dk_167 0 5 (dk_at dksX3_sign_8 0 rfl rfl)
theorem dX3_sign_188 : decode cX3_sign 188 = .ok (.bipush 14, 2) := dk_16 14 (dk_at dksX3_sign_8 3 rfl rfl)
theorem dX3_sign_190 : decode cX3_sign 190 = .ok (.iload_n 1, 1) := dk_27 (dk_at dksX3_sign_8 5 rfl rfl)
theorem dX3_sign_191 : decode cX3_sign 191 = .ok (.invokevirtual 246, 3) := dk_182 0 246 (dk_at dksX3_sign_8 6 rfl rfl)
theorem dX3_sign_194 : decode cX3_sign 194 = .ok (.goto 12, 3) := dk_167 0 12 (dk_at dksX3_sign_8 9 rfl rfl)
theorem dX3_sign_197 : decode cX3_sign 197 = .ok (.aload_n 0, 1) := dk_42 (dk_at dksX3_sign_8 12 rfl rfl)
theorem dX3_sign_198 : decode cX3_sign 198 = .ok (.bipush 15, 2) := dk_16 15 (dk_at dksX3_sign_8 13 rfl rfl)
theorem dX3_sign_200 : decode cX3_sign 200 = .ok (.iload_n 3, 1) := dk_29 (dk_at dksX3_sign_8 15 rfl rfl)
theorem dX3_sign_201 : decode cX3_sign 201 = .ok (.iadd, 1) := dk_96 (dk_at dksX3_sign_8 16 rfl rfl)
theorem dX3_sign_202 : decode cX3_sign 202 = .ok (.iload_n 1, 1) := dk_27 (dk_at dksX3_sign_8 17 rfl rfl)
theorem dX3_sign_203 : decode cX3_sign 203 = .ok (.invokevirtual 246, 3) := dk_182 0 246 (dk_at dksX3_sign_8 18 rfl rfl)
theorem dX3_sign_206 : decode cX3_sign 206 = .ok (.iconst 1, 1) := dk_4 (dk_at dksX3_sign_8 21 rfl rfl)
theorem dX3_sign_207 : decode cX3_sign 207 = .ok (.ireturn, 1) := dk_172 (dk_at dksX3_sign_8 22 rfl rfl)
abbrev cX3_kind : ByteArray := prog_6_method_3_code
def yX3_kind : MethodName := ⟨RX3, "kind", "(I)I"⟩
def dkwX3_kind_0 : List UInt8 := [27, 42, 180, 0, 187, 162, 0, 12, 42, 180, 0, 177, 27, 46, 167, 0, 4, 2, 172]
abbrev dktX3_kind_0 : List UInt8 := dkwX3_kind_0 ++ []
theorem dksX3_kind_0 : cX3_kind.data.toList.drop 0 = dktX3_kind_0 := by decide +kernel
theorem dX3_kind_0 : decode cX3_kind 0 = .ok (.iload_n 1, 1) := dk_27 (dk_at dksX3_kind_0 0 rfl rfl)
theorem dX3_kind_1 : decode cX3_kind 1 = .ok (.aload_n 0, 1) := dk_42 (dk_at dksX3_kind_0 1 rfl rfl)
theorem dX3_kind_2 : decode cX3_kind 2 = .ok (.getfield 187, 3) := dk_180 0 187 (dk_at dksX3_kind_0 2 rfl rfl)
theorem dX3_kind_5 : decode cX3_kind 5 = .ok (.if_icmp .ge 12, 3) := dk_162 0 12 (dk_at dksX3_kind_0 5 rfl rfl)
theorem dX3_kind_8 : decode cX3_kind 8 = .ok (.aload_n 0, 1) := dk_42 (dk_at dksX3_kind_0 8 rfl rfl)
theorem dX3_kind_9 : decode cX3_kind 9 = .ok (.getfield 177, 3) := dk_180 0 177 (dk_at dksX3_kind_0 9 rfl rfl)
theorem dX3_kind_12 : decode cX3_kind 12 = .ok (.iload_n 1, 1) := dk_27 (dk_at dksX3_kind_0 12 rfl rfl)
theorem dX3_kind_13 : decode cX3_kind 13 = .ok (.iaload, 1) := dk_46 (dk_at dksX3_kind_0 13 rfl rfl)
theorem dX3_kind_14 : decode cX3_kind 14 = .ok (.goto 4, 3) := dk_167 0 4 (dk_at dksX3_kind_0 14 rfl rfl)
theorem dX3_kind_17 : decode cX3_kind 17 = .ok (.iconst (-1), 1) := dk_2 (dk_at dksX3_kind_0 17 rfl rfl)
theorem dX3_kind_18 : decode cX3_kind 18 = .ok (.ireturn, 1) := dk_172 (dk_at dksX3_kind_0 18 rfl rfl)
abbrev cX3_start : ByteArray := prog_6_method_4_code
def yX3_start : MethodName := ⟨RX3, "start", "(I)I"⟩
def dkwX3_start_1 : List UInt8 := [172]
abbrev dktX3_start_1 : List UInt8 := dkwX3_start_1 ++ []
def dkwX3_start_0 : List UInt8 := [27, 42, 180, 0, 187, 162, 0, 12, 42, 180, 0, 181, 27, 46, 167, 0, 10, 42, 180, 0, 191, 182, 0, 195]
abbrev dktX3_start_0 : List UInt8 := dkwX3_start_0 ++ dktX3_start_1
theorem dksX3_start_0 : cX3_start.data.toList.drop 0 = dktX3_start_0 := by decide +kernel
theorem dksX3_start_1 : cX3_start.data.toList.drop 24 = dktX3_start_1 := dk_seg dksX3_start_0 24 rfl rfl
theorem dX3_start_0 : decode cX3_start 0 = .ok (.iload_n 1, 1) := dk_27 (dk_at dksX3_start_0 0 rfl rfl)
theorem dX3_start_1 : decode cX3_start 1 = .ok (.aload_n 0, 1) := dk_42 (dk_at dksX3_start_0 1 rfl rfl)
theorem dX3_start_2 : decode cX3_start 2 = .ok (.getfield 187, 3) := dk_180 0 187 (dk_at dksX3_start_0 2 rfl rfl)
theorem dX3_start_5 : decode cX3_start 5 = .ok (.if_icmp .ge 12, 3) := dk_162 0 12 (dk_at dksX3_start_0 5 rfl rfl)
theorem dX3_start_8 : decode cX3_start 8 = .ok (.aload_n 0, 1) := dk_42 (dk_at dksX3_start_0 8 rfl rfl)
theorem dX3_start_9 : decode cX3_start 9 = .ok (.getfield 181, 3) := dk_180 0 181 (dk_at dksX3_start_0 9 rfl rfl)
theorem dX3_start_12 : decode cX3_start 12 = .ok (.iload_n 1, 1) := dk_27 (dk_at dksX3_start_0 12 rfl rfl)
theorem dX3_start_13 : decode cX3_start 13 = .ok (.iaload, 1) := dk_46 (dk_at dksX3_start_0 13 rfl rfl)
theorem dX3_start_14 : decode cX3_start 14 = .ok (.goto 10, 3) := dk_167 0 10 (dk_at dksX3_start_0 14 rfl rfl)
theorem dX3_start_17 : decode cX3_start 17 = .ok (.aload_n 0, 1) := dk_42 (dk_at dksX3_start_0 17 rfl rfl)
theorem dX3_start_18 : decode cX3_start 18 = .ok (.getfield 191, 3) := dk_180 0 191 (dk_at dksX3_start_0 18 rfl rfl)
theorem dX3_start_21 : decode cX3_start 21 = .ok (.invokevirtual 195, 3) := dk_182 0 195 (dk_at dksX3_start_0 21 rfl rfl)
theorem dX3_start_24 : decode cX3_start 24 = .ok (.ireturn, 1) := dk_172 (dk_at dksX3_start_1 0 rfl rfl)
abbrev cX3_end : ByteArray := prog_6_method_5_code
def yX3_end : MethodName := ⟨RX3, "end", "(I)I"⟩
def dkwX3_end_0 : List UInt8 := [42, 180, 0, 184, 27, 46, 172]
abbrev dktX3_end_0 : List UInt8 := dkwX3_end_0 ++ []
theorem dksX3_end_0 : cX3_end.data.toList.drop 0 = dktX3_end_0 := by decide +kernel
theorem dX3_end_0 : decode cX3_end 0 = .ok (.aload_n 0, 1) := dk_42 (dk_at dksX3_end_0 0 rfl rfl)
theorem dX3_end_1 : decode cX3_end 1 = .ok (.getfield 184, 3) := dk_180 0 184 (dk_at dksX3_end_0 1 rfl rfl)
theorem dX3_end_4 : decode cX3_end 4 = .ok (.iload_n 1, 1) := dk_27 (dk_at dksX3_end_0 4 rfl rfl)
theorem dX3_end_5 : decode cX3_end 5 = .ok (.iaload, 1) := dk_46 (dk_at dksX3_end_0 5 rfl rfl)
theorem dX3_end_6 : decode cX3_end 6 = .ok (.ireturn, 1) := dk_172 (dk_at dksX3_end_0 6 rfl rfl)
abbrev cX3_text : ByteArray := prog_6_method_6_code
def yX3_text : MethodName := ⟨RX3, "text", "()LSchemaWorkshop$Bytes;"⟩
theorem dX3_text_0 : decode cX3_text 0 = .ok (.aload_n 0, 1) := by decide +kernel
theorem dX3_text_1 : decode cX3_text 1 = .ok (.getfield 191, 3) := by decide +kernel
theorem dX3_text_4 : decode cX3_text 4 = .ok (.areturn, 1) := by decide +kernel
abbrev cX3_size : ByteArray := prog_6_method_2_code
def yX3_size : MethodName := ⟨RX3, "size", "()I"⟩
theorem dX3_size_0 : decode cX3_size 0 = .ok (.aload_n 0, 1) := by decide +kernel
theorem dX3_size_1 : decode cX3_size 1 = .ok (.getfield 187, 3) := by decide +kernel
theorem dX3_size_4 : decode cX3_size 4 = .ok (.ireturn, 1) := by decide +kernel
abbrev cX3_isLike : ByteArray := prog_6_method_26_code
def yX3_isLike : MethodName := ⟨RX3, "isLike", "(II)Z"⟩
def dkwX3_isLike_3 : List UInt8 := [167, 0, 4, 3, 172]
abbrev dktX3_isLike_3 : List UInt8 := dkwX3_isLike_3 ++ []
def dkwX3_isLike_2 : List UInt8 := [180, 0, 191, 42, 180, 0, 181, 28, 46, 42, 180, 0, 184, 28, 46, 182, 1, 25, 154, 0, 7, 4]
abbrev dktX3_isLike_2 : List UInt8 := dkwX3_isLike_2 ++ dktX3_isLike_3
def dkwX3_isLike_1 : List UInt8 := [46, 100, 160, 0, 45, 42, 180, 0, 191, 42, 180, 0, 181, 27, 46, 42, 180, 0, 184, 27, 46, 42]
abbrev dktX3_isLike_1 : List UInt8 := dkwX3_isLike_1 ++ dktX3_isLike_2
def dkwX3_isLike_0 : List UInt8 := [42, 180, 0, 184, 27, 46, 42, 180, 0, 181, 27, 46, 100, 42, 180, 0, 184, 28, 46, 42, 180, 0, 181, 28]
abbrev dktX3_isLike_0 : List UInt8 := dkwX3_isLike_0 ++ dktX3_isLike_1
theorem dksX3_isLike_0 : cX3_isLike.data.toList.drop 0 = dktX3_isLike_0 := by decide +kernel
theorem dksX3_isLike_1 : cX3_isLike.data.toList.drop 24 = dktX3_isLike_1 := dk_seg dksX3_isLike_0 24 rfl rfl
theorem dksX3_isLike_2 : cX3_isLike.data.toList.drop 46 = dktX3_isLike_2 := dk_seg dksX3_isLike_1 22 rfl rfl
theorem dksX3_isLike_3 : cX3_isLike.data.toList.drop 68 = dktX3_isLike_3 := dk_seg dksX3_isLike_2 22 rfl rfl
theorem dX3_isLike_0 : decode cX3_isLike 0 = .ok (.aload_n 0, 1) := dk_42 (dk_at dksX3_isLike_0 0 rfl rfl)
theorem dX3_isLike_1 : decode cX3_isLike 1 = .ok (.getfield 184, 3) := dk_180 0 184 (dk_at dksX3_isLike_0 1 rfl rfl)
theorem dX3_isLike_4 : decode cX3_isLike 4 = .ok (.iload_n 1, 1) := dk_27 (dk_at dksX3_isLike_0 4 rfl rfl)
theorem dX3_isLike_5 : decode cX3_isLike 5 = .ok (.iaload, 1) := dk_46 (dk_at dksX3_isLike_0 5 rfl rfl)
theorem dX3_isLike_6 : decode cX3_isLike 6 = .ok (.aload_n 0, 1) := dk_42 (dk_at dksX3_isLike_0 6 rfl rfl)
theorem dX3_isLike_7 : decode cX3_isLike 7 = .ok (.getfield 181, 3) := dk_180 0 181 (dk_at dksX3_isLike_0 7 rfl rfl)
theorem dX3_isLike_10 : decode cX3_isLike 10 = .ok (.iload_n 1, 1) := dk_27 (dk_at dksX3_isLike_0 10 rfl rfl)
theorem dX3_isLike_11 : decode cX3_isLike 11 = .ok (.iaload, 1) := dk_46 (dk_at dksX3_isLike_0 11 rfl rfl)
theorem dX3_isLike_12 : decode cX3_isLike 12 = .ok (.isub, 1) := dk_100 (dk_at dksX3_isLike_0 12 rfl rfl)
theorem dX3_isLike_13 : decode cX3_isLike 13 = .ok (.aload_n 0, 1) := dk_42 (dk_at dksX3_isLike_0 13 rfl rfl)
theorem dX3_isLike_14 : decode cX3_isLike 14 = .ok (.getfield 184, 3) := dk_180 0 184 (dk_at dksX3_isLike_0 14 rfl rfl)
theorem dX3_isLike_17 : decode cX3_isLike 17 = .ok (.iload_n 2, 1) := dk_28 (dk_at dksX3_isLike_0 17 rfl rfl)
theorem dX3_isLike_18 : decode cX3_isLike 18 = .ok (.iaload, 1) := dk_46 (dk_at dksX3_isLike_0 18 rfl rfl)
theorem dX3_isLike_19 : decode cX3_isLike 19 = .ok (.aload_n 0, 1) := dk_42 (dk_at dksX3_isLike_0 19 rfl rfl)
theorem dX3_isLike_20 : decode cX3_isLike 20 = .ok (.getfield 181, 3) := dk_180 0 181 (dk_at dksX3_isLike_0 20 rfl rfl)
theorem dX3_isLike_23 : decode cX3_isLike 23 = .ok (.iload_n 2, 1) := dk_28 (dk_at dksX3_isLike_0 23 rfl rfl)
theorem dX3_isLike_24 : decode cX3_isLike 24 = .ok (.iaload, 1) := dk_46 (dk_at dksX3_isLike_1 0 rfl rfl)
theorem dX3_isLike_25 : decode cX3_isLike 25 = .ok (.isub, 1) := dk_100 (dk_at dksX3_isLike_1 1 rfl rfl)
theorem dX3_isLike_26 : decode cX3_isLike 26 = .ok (.if_icmp .ne 45, 3) := dk_160 0 45 (dk_at dksX3_isLike_1 2 rfl rfl)
theorem dX3_isLike_29 : decode cX3_isLike 29 = .ok (.aload_n 0, 1) := dk_42 (dk_at dksX3_isLike_1 5 rfl rfl)
theorem dX3_isLike_30 : decode cX3_isLike 30 = .ok (.getfield 191, 3) := dk_180 0 191 (dk_at dksX3_isLike_1 6 rfl rfl)
theorem dX3_isLike_33 : decode cX3_isLike 33 = .ok (.aload_n 0, 1) := dk_42 (dk_at dksX3_isLike_1 9 rfl rfl)
theorem dX3_isLike_34 : decode cX3_isLike 34 = .ok (.getfield 181, 3) := dk_180 0 181 (dk_at dksX3_isLike_1 10 rfl rfl)
theorem dX3_isLike_37 : decode cX3_isLike 37 = .ok (.iload_n 1, 1) := dk_27 (dk_at dksX3_isLike_1 13 rfl rfl)
theorem dX3_isLike_38 : decode cX3_isLike 38 = .ok (.iaload, 1) := dk_46 (dk_at dksX3_isLike_1 14 rfl rfl)
theorem dX3_isLike_39 : decode cX3_isLike 39 = .ok (.aload_n 0, 1) := dk_42 (dk_at dksX3_isLike_1 15 rfl rfl)
theorem dX3_isLike_40 : decode cX3_isLike 40 = .ok (.getfield 184, 3) := dk_180 0 184 (dk_at dksX3_isLike_1 16 rfl rfl)
theorem dX3_isLike_43 : decode cX3_isLike 43 = .ok (.iload_n 1, 1) := dk_27 (dk_at dksX3_isLike_1 19 rfl rfl)
theorem dX3_isLike_44 : decode cX3_isLike 44 = .ok (.iaload, 1) := dk_46 (dk_at dksX3_isLike_1 20 rfl rfl)
theorem dX3_isLike_45 : decode cX3_isLike 45 = .ok (.aload_n 0, 1) := dk_42 (dk_at dksX3_isLike_1 21 rfl rfl)
theorem dX3_isLike_46 : decode cX3_isLike 46 = .ok (.getfield 191, 3) := dk_180 0 191 (dk_at dksX3_isLike_2 0 rfl rfl)
theorem dX3_isLike_49 : decode cX3_isLike 49 = .ok (.aload_n 0, 1) := dk_42 (dk_at dksX3_isLike_2 3 rfl rfl)
theorem dX3_isLike_50 : decode cX3_isLike 50 = .ok (.getfield 181, 3) := dk_180 0 181 (dk_at dksX3_isLike_2 4 rfl rfl)
theorem dX3_isLike_53 : decode cX3_isLike 53 = .ok (.iload_n 2, 1) := dk_28 (dk_at dksX3_isLike_2 7 rfl rfl)
theorem dX3_isLike_54 : decode cX3_isLike 54 = .ok (.iaload, 1) := dk_46 (dk_at dksX3_isLike_2 8 rfl rfl)
theorem dX3_isLike_55 : decode cX3_isLike 55 = .ok (.aload_n 0, 1) := dk_42 (dk_at dksX3_isLike_2 9 rfl rfl)
theorem dX3_isLike_56 : decode cX3_isLike 56 = .ok (.getfield 184, 3) := dk_180 0 184 (dk_at dksX3_isLike_2 10 rfl rfl)
theorem dX3_isLike_59 : decode cX3_isLike 59 = .ok (.iload_n 2, 1) := dk_28 (dk_at dksX3_isLike_2 13 rfl rfl)
theorem dX3_isLike_60 : decode cX3_isLike 60 = .ok (.iaload, 1) := dk_46 (dk_at dksX3_isLike_2 14 rfl rfl)
theorem dX3_isLike_61 : decode cX3_isLike 61 = .ok (.invokevirtual 281, 3) := dk_182 1 25 (dk_at dksX3_isLike_2 15 rfl rfl)
theorem dX3_isLike_64 : decode cX3_isLike 64 = .ok (.ifCond .ne 7, 3) := dk_154 0 7 (dk_at dksX3_isLike_2 18 rfl rfl)
theorem dX3_isLike_67 : decode cX3_isLike 67 = .ok (.iconst 1, 1) := dk_4 (dk_at dksX3_isLike_2 21 rfl rfl)
theorem dX3_isLike_68 : decode cX3_isLike 68 = .ok (.goto 4, 3) := dk_167 0 4 (dk_at dksX3_isLike_3 0 rfl rfl)
theorem dX3_isLike_71 : decode cX3_isLike 71 = .ok (.iconst 0, 1) := dk_3 (dk_at dksX3_isLike_3 3 rfl rfl)
theorem dX3_isLike_72 : decode cX3_isLike 72 = .ok (.ireturn, 1) := dk_172 (dk_at dksX3_isLike_3 4 rfl rfl)
theorem q300 : (Jvm.Cond.initialized "SchemaWorkshop$Lexemes") ∈ lw_all := lw_g (lw_at lw_m1 3 rfl) rfl
theorem q349 : (Jvm.Cond.instantiable "SchemaWorkshop$Lexemes" (8 : Nat)) ∈ lw_all := lw_g (lw_at lw_m1 52 rfl) rfl
theorem q351 : (Jvm.Cond.instanceMethod ({ cls := "SchemaWorkshop$Lexemes", name := "<init>", desc := "()V" } : Jvm.MethodName)) ∈ lw_all := lw_g (lw_at lw_m1 54 rfl) rfl
theorem q352 : (Jvm.Cond.code ({ cls := "SchemaWorkshop$Lexemes", name := "<init>", desc := "()V" } : Jvm.MethodName) prog_6_method_1_code (1 : Nat) (Option.none : Option Jvm.ClassFile.FieldType)) ∈ lw_all := lw_g (lw_at lw_m1 55 rfl) rfl
theorem q353 : (Jvm.Cond.methodLink "SchemaWorkshop$Lexemes" (3 : Nat) ({ cls := "java/lang/Object", name := "<init>", desc := "()V" } : Jvm.MethodName)) ∈ lw_all := lw_g (lw_at lw_m1 56 rfl) rfl
theorem q354 : (Jvm.Cond.stringRef "SchemaWorkshop$Lexemes" (9 : Nat) "{}[](),:;|-<.>=@!^*/&") ∈ lw_tbl := lw_at lw_m1 57 rfl
theorem q355 : (Jvm.Cond.classLink "SchemaWorkshop$Lexemes" (17 : Nat) "java/lang/String") ∈ lw_all := lw_g (lw_at lw_m1 58 rfl) rfl
theorem q357 : (Jvm.Cond.stringRef "SchemaWorkshop$Lexemes" (19 : Nat) "ABSENT") ∈ lw_tbl := lw_at lw_m1 60 rfl
theorem q358 : (Jvm.Cond.stringRef "SchemaWorkshop$Lexemes" (21 : Nat) "ALL") ∈ lw_tbl := lw_at lw_m1 61 rfl
theorem q359 : (Jvm.Cond.stringRef "SchemaWorkshop$Lexemes" (23 : Nat) "ANY") ∈ lw_tbl := lw_at lw_m1 62 rfl
theorem q360 : (Jvm.Cond.stringRef "SchemaWorkshop$Lexemes" (25 : Nat) "APPLICATION") ∈ lw_tbl := lw_at lw_m1 63 rfl
theorem q361 : (Jvm.Cond.stringRef "SchemaWorkshop$Lexemes" (27 : Nat) "AUTOMATIC") ∈ lw_tbl := lw_at lw_m1 64 rfl
theorem q362 : (Jvm.Cond.stringRef "SchemaWorkshop$Lexemes" (29 : Nat) "BEGIN") ∈ lw_tbl := lw_at lw_m1 65 rfl
theorem q363 : (Jvm.Cond.stringRef "SchemaWorkshop$Lexemes" (31 : Nat) "BIT") ∈ lw_tbl := lw_at lw_m1 66 rfl
theorem q364 : (Jvm.Cond.stringRef "SchemaWorkshop$Lexemes" (33 : Nat) "BMPString") ∈ lw_tbl := lw_at lw_m1 67 rfl
theorem q365 : (Jvm.Cond.stringRef "SchemaWorkshop$Lexemes" (35 : Nat) "BOOLEAN") ∈ lw_tbl := lw_at lw_m1 68 rfl
theorem q366 : (Jvm.Cond.stringRef "SchemaWorkshop$Lexemes" (37 : Nat) "BY") ∈ lw_tbl := lw_at lw_m1 69 rfl
theorem q367 : (Jvm.Cond.stringRef "SchemaWorkshop$Lexemes" (39 : Nat) "CHARACTER") ∈ lw_tbl := lw_at lw_m1 70 rfl
theorem q368 : (Jvm.Cond.stringRef "SchemaWorkshop$Lexemes" (41 : Nat) "CHOICE") ∈ lw_tbl := lw_at lw_m1 71 rfl
theorem q369 : (Jvm.Cond.stringRef "SchemaWorkshop$Lexemes" (43 : Nat) "CLASS") ∈ lw_tbl := lw_at lw_m1 72 rfl
theorem q370 : (Jvm.Cond.stringRef "SchemaWorkshop$Lexemes" (45 : Nat) "COMPONENT") ∈ lw_tbl := lw_at lw_m1 73 rfl
theorem q371 : (Jvm.Cond.stringRef "SchemaWorkshop$Lexemes" (47 : Nat) "COMPONENTS") ∈ lw_tbl := lw_at lw_m1 74 rfl
theorem q372 : (Jvm.Cond.stringRef "SchemaWorkshop$Lexemes" (49 : Nat) "CONSTRAINED") ∈ lw_tbl := lw_at lw_m1 75 rfl
theorem q373 : (Jvm.Cond.stringRef "SchemaWorkshop$Lexemes" (51 : Nat) "DEFAULT") ∈ lw_tbl := lw_at lw_m1 76 rfl
theorem q374 : (Jvm.Cond.stringRef "SchemaWorkshop$Lexemes" (53 : Nat) "DEFINED") ∈ lw_tbl := lw_at lw_m1 77 rfl
theorem q375 : (Jvm.Cond.stringRef "SchemaWorkshop$Lexemes" (55 : Nat) "DEFINITIONS") ∈ lw_tbl := lw_at lw_m1 78 rfl
theorem q376 : (Jvm.Cond.stringRef "SchemaWorkshop$Lexemes" (57 : Nat) "EMBEDDED") ∈ lw_tbl := lw_at lw_m1 79 rfl
theorem q377 : (Jvm.Cond.stringRef "SchemaWorkshop$Lexemes" (59 : Nat) "END") ∈ lw_tbl := lw_at lw_m1 80 rfl
theorem q378 : (Jvm.Cond.stringRef "SchemaWorkshop$Lexemes" (61 : Nat) "ENUMERATED") ∈ lw_tbl := lw_at lw_m1 81 rfl
theorem q379 : (Jvm.Cond.stringRef "SchemaWorkshop$Lexemes" (63 : Nat) "EXCEPT") ∈ lw_tbl := lw_at lw_m1 82 rfl
theorem q380 : (Jvm.Cond.stringRef "SchemaWorkshop$Lexemes" (65 : Nat) "EXPLICIT") ∈ lw_tbl := lw_at lw_m1 83 rfl
theorem q381 : (Jvm.Cond.stringRef "SchemaWorkshop$Lexemes" (67 : Nat) "EXPORTS") ∈ lw_tbl := lw_at lw_m1 84 rfl
theorem q382 : (Jvm.Cond.stringRef "SchemaWorkshop$Lexemes" (69 : Nat) "EXTENSIBILITY") ∈ lw_tbl := lw_at lw_m1 85 rfl
theorem q383 : (Jvm.Cond.stringRef "SchemaWorkshop$Lexemes" (71 : Nat) "EXTERNAL") ∈ lw_tbl := lw_at lw_m1 86 rfl
theorem q384 : (Jvm.Cond.stringRef "SchemaWorkshop$Lexemes" (73 : Nat) "FALSE") ∈ lw_tbl := lw_at lw_m1 87 rfl
theorem q385 : (Jvm.Cond.stringRef "SchemaWorkshop$Lexemes" (75 : Nat) "FROM") ∈ lw_tbl := lw_at lw_m1 88 rfl
theorem q386 : (Jvm.Cond.stringRef "SchemaWorkshop$Lexemes" (77 : Nat) "GeneralString") ∈ lw_tbl := lw_at lw_m1 89 rfl
theorem q387 : (Jvm.Cond.stringRef "SchemaWorkshop$Lexemes" (79 : Nat) "GeneralizedTime") ∈ lw_tbl := lw_at lw_m1 90 rfl
theorem q388 : (Jvm.Cond.stringRef "SchemaWorkshop$Lexemes" (81 : Nat) "GraphicString") ∈ lw_tbl := lw_at lw_m1 91 rfl
theorem q389 : (Jvm.Cond.stringRef "SchemaWorkshop$Lexemes" (83 : Nat) "IA5String") ∈ lw_tbl := lw_at lw_m1 92 rfl
theorem q390 : (Jvm.Cond.stringRef "SchemaWorkshop$Lexemes" (85 : Nat) "IDENTIFIER") ∈ lw_tbl := lw_at lw_m1 93 rfl
theorem q391 : (Jvm.Cond.stringRef "SchemaWorkshop$Lexemes" (87 : Nat) "IMPLICIT") ∈ lw_tbl := lw_at lw_m1 94 rfl
theorem q392 : (Jvm.Cond.stringRef "SchemaWorkshop$Lexemes" (89 : Nat) "IMPLIED") ∈ lw_tbl := lw_at lw_m1 95 rfl
theorem q393 : (Jvm.Cond.stringRef "SchemaWorkshop$Lexemes" (91 : Nat) "IMPORTS") ∈ lw_tbl := lw_at lw_m1 96 rfl
theorem q394 : (Jvm.Cond.stringRef "SchemaWorkshop$Lexemes" (93 : Nat) "INCLUDES") ∈ lw_tbl := lw_at lw_m1 97 rfl
theorem q395 : (Jvm.Cond.stringRef "SchemaWorkshop$Lexemes" (95 : Nat) "INSTANCE") ∈ lw_tbl := lw_at lw_m1 98 rfl
theorem q396 : (Jvm.Cond.stringRef "SchemaWorkshop$Lexemes" (97 : Nat) "INTEGER") ∈ lw_tbl := lw_at lw_m1 99 rfl
theorem q397 : (Jvm.Cond.stringRef "SchemaWorkshop$Lexemes" (99 : Nat) "INTERSECTION") ∈ lw_tbl := lw_at lw_m1 100 rfl
theorem q398 : (Jvm.Cond.stringRef "SchemaWorkshop$Lexemes" (101 : Nat) "ISO646String") ∈ lw_tbl := lw_at lw_m1 101 rfl
theorem q399 : (Jvm.Cond.stringRef "SchemaWorkshop$Lexemes" (103 : Nat) "MAX") ∈ lw_tbl := lw_at lw_m1 102 rfl
theorem q400 : (Jvm.Cond.stringRef "SchemaWorkshop$Lexemes" (105 : Nat) "MIN") ∈ lw_tbl := lw_at lw_m1 103 rfl
theorem q401 : (Jvm.Cond.stringRef "SchemaWorkshop$Lexemes" (107 : Nat) "MINUS-INFINITY") ∈ lw_tbl := lw_at lw_m1 104 rfl
theorem q402 : (Jvm.Cond.stringRef "SchemaWorkshop$Lexemes" (109 : Nat) "NULL") ∈ lw_tbl := lw_at lw_m1 105 rfl
theorem q403 : (Jvm.Cond.stringRef "SchemaWorkshop$Lexemes" (111 : Nat) "NumericString") ∈ lw_tbl := lw_at lw_m1 106 rfl
theorem q404 : (Jvm.Cond.stringRef "SchemaWorkshop$Lexemes" (113 : Nat) "OBJECT") ∈ lw_tbl := lw_at lw_m1 107 rfl
theorem q405 : (Jvm.Cond.stringRef "SchemaWorkshop$Lexemes" (115 : Nat) "OCTET") ∈ lw_tbl := lw_at lw_m1 108 rfl
theorem q406 : (Jvm.Cond.stringRef "SchemaWorkshop$Lexemes" (117 : Nat) "OF") ∈ lw_tbl := lw_at lw_m1 109 rfl
theorem q407 : (Jvm.Cond.stringRef "SchemaWorkshop$Lexemes" (119 : Nat) "OPTIONAL") ∈ lw_tbl := lw_at lw_m1 110 rfl
theorem q408 : (Jvm.Cond.stringRef "SchemaWorkshop$Lexemes" (121 : Nat) "ObjectDescriptor") ∈ lw_tbl := lw_at lw_m1 111 rfl
theorem q409 : (Jvm.Cond.stringRef "SchemaWorkshop$Lexemes" (123 : Nat) "PDV") ∈ lw_tbl := lw_at lw_m1 112 rfl
theorem q410 : (Jvm.Cond.stringRef "SchemaWorkshop$Lexemes" (125 : Nat) "PLUS-INFINITY") ∈ lw_tbl := lw_at lw_m1 113 rfl
theorem q411 : (Jvm.Cond.stringRef "SchemaWorkshop$Lexemes" (127 : Nat) "PRESENT") ∈ lw_tbl := lw_at lw_m1 114 rfl
theorem q412 : (Jvm.Cond.stringRef "SchemaWorkshop$Lexemes" (129 : Nat) "PRIVATE") ∈ lw_tbl := lw_at lw_m1 115 rfl
theorem q413 : (Jvm.Cond.stringRef "SchemaWorkshop$Lexemes" (131 : Nat) "PrintableString") ∈ lw_tbl := lw_at lw_m1 116 rfl
theorem q414 : (Jvm.Cond.stringRef "SchemaWorkshop$Lexemes" (133 : Nat) "REAL") ∈ lw_tbl := lw_at lw_m1 117 rfl
theorem q415 : (Jvm.Cond.stringRef "SchemaWorkshop$Lexemes" (135 : Nat) "RELATIVE-OID") ∈ lw_tbl := lw_at lw_m1 118 rfl
theorem q416 : (Jvm.Cond.stringRef "SchemaWorkshop$Lexemes" (137 : Nat) "SEQUENCE") ∈ lw_tbl := lw_at lw_m1 119 rfl
theorem q417 : (Jvm.Cond.stringRef "SchemaWorkshop$Lexemes" (139 : Nat) "SET") ∈ lw_tbl := lw_at lw_m1 120 rfl
theorem q418 : (Jvm.Cond.stringRef "SchemaWorkshop$Lexemes" (141 : Nat) "SIZE") ∈ lw_tbl := lw_at lw_m1 121 rfl
theorem q419 : (Jvm.Cond.stringRef "SchemaWorkshop$Lexemes" (143 : Nat) "STRING") ∈ lw_tbl := lw_at lw_m1 122 rfl
theorem q420 : (Jvm.Cond.stringRef "SchemaWorkshop$Lexemes" (145 : Nat) "SYNTAX") ∈ lw_tbl := lw_at lw_m1 123 rfl
theorem q421 : (Jvm.Cond.stringRef "SchemaWorkshop$Lexemes" (147 : Nat) "T61String") ∈ lw_tbl := lw_at lw_m1 124 rfl
theorem q422 : (Jvm.Cond.stringRef "SchemaWorkshop$Lexemes" (149 : Nat) "TAGS") ∈ lw_tbl := lw_at lw_m1 125 rfl
theorem q423 : (Jvm.Cond.stringRef "SchemaWorkshop$Lexemes" (151 : Nat) "TRUE") ∈ lw_tbl := lw_at lw_m1 126 rfl
theorem q424 : (Jvm.Cond.stringRef "SchemaWorkshop$Lexemes" (153 : Nat) "TeletexString") ∈ lw_tbl := lw_at lw_m1 127 rfl
theorem q425 : (Jvm.Cond.stringRef "SchemaWorkshop$Lexemes" (155 : Nat) "UNION") ∈ lw_tbl := lw_at lw_m1 128 rfl
theorem q426 : (Jvm.Cond.stringRef "SchemaWorkshop$Lexemes" (157 : Nat) "UNIQUE") ∈ lw_tbl := lw_at lw_m1 129 rfl
theorem q427 : (Jvm.Cond.stringRef "SchemaWorkshop$Lexemes" (159 : Nat) "UNIVERSAL") ∈ lw_tbl := lw_at lw_m1 130 rfl
theorem q428 : (Jvm.Cond.stringRef "SchemaWorkshop$Lexemes" (161 : Nat) "UTCTime") ∈ lw_tbl := lw_at lw_m1 131 rfl
theorem q429 : (Jvm.Cond.stringRef "SchemaWorkshop$Lexemes" (163 : Nat) "UTF8String") ∈ lw_tbl := lw_at lw_m1 132 rfl
theorem q430 : (Jvm.Cond.stringRef "SchemaWorkshop$Lexemes" (165 : Nat) "UniversalString") ∈ lw_tbl := lw_at lw_m1 133 rfl
theorem q431 : (Jvm.Cond.stringRef "SchemaWorkshop$Lexemes" (167 : Nat) "VideotexString") ∈ lw_tbl := lw_at lw_m1 134 rfl
theorem q432 : (Jvm.Cond.stringRef "SchemaWorkshop$Lexemes" (169 : Nat) "VisibleString") ∈ lw_tbl := lw_at lw_m1 135 rfl
theorem q433 : (Jvm.Cond.stringRef "SchemaWorkshop$Lexemes" (171 : Nat) "WITH") ∈ lw_tbl := lw_at lw_m1 136 rfl
theorem q434 : (Jvm.Cond.fieldLink "SchemaWorkshop$Lexemes" (11 : Nat) "SchemaWorkshop$Lexemes" "signs" "Ljava/lang/String;") ∈ lw_all := lw_g (lw_at lw_m1 137 rfl) rfl
theorem q435 : (Jvm.Cond.fieldLink "SchemaWorkshop$Lexemes" (173 : Nat) "SchemaWorkshop$Lexemes" "words" "[Ljava/lang/String;") ∈ lw_all := lw_g (lw_at lw_m1 138 rfl) rfl
theorem q436 : (Jvm.Cond.fieldLink "SchemaWorkshop$Lexemes" (191 : Nat) "SchemaWorkshop$Lexemes" "text" "LSchemaWorkshop$Bytes;") ∈ lw_all := lw_g (lw_at lw_m1 139 rfl) rfl
theorem q437 : (Jvm.Cond.fieldLink "SchemaWorkshop$Lexemes" (200 : Nat) "SchemaWorkshop$Lexemes" "at" "I") ∈ lw_all := lw_g (lw_at lw_m1 140 rfl) rfl
theorem q438 : (Jvm.Cond.fieldLink "SchemaWorkshop$Lexemes" (177 : Nat) "SchemaWorkshop$Lexemes" "kinds" "[I") ∈ lw_all := lw_g (lw_at lw_m1 141 rfl) rfl
theorem q439 : (Jvm.Cond.fieldLink "SchemaWorkshop$Lexemes" (181 : Nat) "SchemaWorkshop$Lexemes" "starts" "[I") ∈ lw_all := lw_g (lw_at lw_m1 142 rfl) rfl
theorem q440 : (Jvm.Cond.fieldLink "SchemaWorkshop$Lexemes" (184 : Nat) "SchemaWorkshop$Lexemes" "ends" "[I") ∈ lw_all := lw_g (lw_at lw_m1 143 rfl) rfl
theorem q441 : (Jvm.Cond.fieldLink "SchemaWorkshop$Lexemes" (187 : Nat) "SchemaWorkshop$Lexemes" "size" "I") ∈ lw_all := lw_g (lw_at lw_m1 144 rfl) rfl
theorem q442 : (Jvm.Cond.laysFinal "SchemaWorkshop$Lexemes" "SchemaWorkshop$Lexemes" "signs" "Ljava/lang/String;") ∈ lw_all := lw_g (lw_at lw_m1 145 rfl) rfl
theorem q443 : (Jvm.Cond.soleField "SchemaWorkshop$Lexemes" "signs") ∈ lw_all := lw_g (lw_at lw_m1 146 rfl) rfl
theorem q444 : (Jvm.Cond.laysFinal "SchemaWorkshop$Lexemes" "SchemaWorkshop$Lexemes" "words" "[Ljava/lang/String;") ∈ lw_all := lw_g (lw_at lw_m1 147 rfl) rfl
theorem q445 : (Jvm.Cond.soleField "SchemaWorkshop$Lexemes" "words") ∈ lw_all := lw_g (lw_at lw_m1 148 rfl) rfl
theorem q446 : (Jvm.Cond.lays "SchemaWorkshop$Lexemes" "SchemaWorkshop$Lexemes" "text" "LSchemaWorkshop$Bytes;") ∈ lw_all := lw_g (lw_at lw_m1 149 rfl) rfl
theorem q447 : (Jvm.Cond.soleField "SchemaWorkshop$Lexemes" "text") ∈ lw_all := lw_g (lw_at lw_m1 150 rfl) rfl
theorem q448 : (Jvm.Cond.lays "SchemaWorkshop$Lexemes" "SchemaWorkshop$Lexemes" "at" "I") ∈ lw_all := lw_g (lw_at lw_m1 151 rfl) rfl
theorem q449 : (Jvm.Cond.soleField "SchemaWorkshop$Lexemes" "at") ∈ lw_all := lw_g (lw_at lw_m1 152 rfl) rfl
theorem q450 : (Jvm.Cond.lays "SchemaWorkshop$Lexemes" "SchemaWorkshop$Lexemes" "kinds" "[I") ∈ lw_all := lw_g (lw_at lw_m1 153 rfl) rfl
theorem q451 : (Jvm.Cond.soleField "SchemaWorkshop$Lexemes" "kinds") ∈ lw_all := lw_g (lw_at lw_m1 154 rfl) rfl
theorem q452 : (Jvm.Cond.lays "SchemaWorkshop$Lexemes" "SchemaWorkshop$Lexemes" "starts" "[I") ∈ lw_all := lw_g (lw_at lw_m1 155 rfl) rfl
theorem q453 : (Jvm.Cond.soleField "SchemaWorkshop$Lexemes" "starts") ∈ lw_all := lw_g (lw_at lw_m1 156 rfl) rfl
theorem q454 : (Jvm.Cond.lays "SchemaWorkshop$Lexemes" "SchemaWorkshop$Lexemes" "ends" "[I") ∈ lw_all := lw_g (lw_at lw_m1 157 rfl) rfl
theorem q455 : (Jvm.Cond.soleField "SchemaWorkshop$Lexemes" "ends") ∈ lw_all := lw_g (lw_at lw_m1 158 rfl) rfl
theorem q456 : (Jvm.Cond.lays "SchemaWorkshop$Lexemes" "SchemaWorkshop$Lexemes" "size" "I") ∈ lw_all := lw_g (lw_at lw_m1 159 rfl) rfl
theorem q457 : (Jvm.Cond.soleField "SchemaWorkshop$Lexemes" "size") ∈ lw_all := lw_g (lw_at lw_m1 160 rfl) rfl
theorem q458 : (Jvm.Cond.superclass "SchemaWorkshop$Lexemes" "java/lang/Object") ∈ lw_all := lw_g (lw_at lw_m1 161 rfl) rfl
theorem q1063 : (Jvm.Cond.instanceMethod ({ cls := "SchemaWorkshop$Lexemes", name := "cut", desc := "(LSchemaWorkshop$Bytes;)I" } : Jvm.MethodName)) ∈ lw_all := lw_g (lw_at lw_m4 46 rfl) rfl
theorem q1064 : (Jvm.Cond.selects "SchemaWorkshop$Lexemes" ({ cls := "SchemaWorkshop$Lexemes", name := "cut", desc := "(LSchemaWorkshop$Bytes;)I" } : Jvm.MethodName) ({ cls := "SchemaWorkshop$Lexemes", name := "cut", desc := "(LSchemaWorkshop$Bytes;)I" } : Jvm.MethodName)) ∈ lw_all := lw_g (lw_at lw_m4 47 rfl) rfl
theorem q1065 : (Jvm.Cond.code ({ cls := "SchemaWorkshop$Lexemes", name := "cut", desc := "(LSchemaWorkshop$Bytes;)I" } : Jvm.MethodName) prog_6_method_25_code (5 : Nat) (Option.some Jvm.ClassFile.FieldType.int)) ∈ lw_all := lw_g (lw_at lw_m4 48 rfl) rfl
theorem q1066 : (Jvm.Cond.methodLink "SchemaWorkshop$Lexemes" (195 : Nat) ({ cls := "SchemaWorkshop$Bytes", name := "size", desc := "()I" } : Jvm.MethodName)) ∈ lw_all := lw_g (lw_at lw_m4 49 rfl) rfl
theorem q1067 : (Jvm.Cond.methodLink "SchemaWorkshop$Lexemes" (223 : Nat) ({ cls := "SchemaWorkshop$Lexemes", name := "here", desc := "(I)I" } : Jvm.MethodName)) ∈ lw_all := lw_g (lw_at lw_m4 50 rfl) rfl
theorem q1068 : (Jvm.Cond.privateMethod ({ cls := "SchemaWorkshop$Lexemes", name := "here", desc := "(I)I" } : Jvm.MethodName)) ∈ lw_tbl := lw_at lw_m4 51 rfl
theorem q1069 : (Jvm.Cond.instanceMethod ({ cls := "SchemaWorkshop$Lexemes", name := "here", desc := "(I)I" } : Jvm.MethodName)) ∈ lw_all := lw_g (lw_at lw_m4 52 rfl) rfl
theorem q1070 : (Jvm.Cond.code ({ cls := "SchemaWorkshop$Lexemes", name := "here", desc := "(I)I" } : Jvm.MethodName) prog_6_method_7_code (2 : Nat) (Option.some Jvm.ClassFile.FieldType.int)) ∈ lw_all := lw_g (lw_at lw_m4 53 rfl) rfl
theorem q1071 : (Jvm.Cond.methodLink "SchemaWorkshop$Lexemes" (203 : Nat) ({ cls := "SchemaWorkshop$Bytes", name := "at", desc := "(I)I" } : Jvm.MethodName)) ∈ lw_all := lw_g (lw_at lw_m4 54 rfl) rfl
theorem q1075 : (Jvm.Cond.methodLink "SchemaWorkshop$Lexemes" (253 : Nat) ({ cls := "SchemaWorkshop$Lexemes", name := "isWhite", desc := "(I)Z" } : Jvm.MethodName)) ∈ lw_all := lw_g (lw_at lw_m4 58 rfl) rfl
theorem q1076 : (Jvm.Cond.static ({ cls := "SchemaWorkshop$Lexemes", name := "isWhite", desc := "(I)Z" } : Jvm.MethodName)) ∈ lw_all := lw_g (lw_at lw_m4 59 rfl) rfl
theorem q1077 : (Jvm.Cond.code ({ cls := "SchemaWorkshop$Lexemes", name := "isWhite", desc := "(I)Z" } : Jvm.MethodName) prog_6_method_8_code (1 : Nat) (Option.some Jvm.ClassFile.FieldType.boolean)) ∈ lw_all := lw_g (lw_at lw_m4 60 rfl) rfl
theorem q1078 : (Jvm.Cond.methodLink "SchemaWorkshop$Lexemes" (259 : Nat) ({ cls := "SchemaWorkshop$Lexemes", name := "skipLine", desc := "()V" } : Jvm.MethodName)) ∈ lw_all := lw_g (lw_at lw_m4 61 rfl) rfl
theorem q1079 : (Jvm.Cond.privateMethod ({ cls := "SchemaWorkshop$Lexemes", name := "skipLine", desc := "()V" } : Jvm.MethodName)) ∈ lw_tbl := lw_at lw_m4 62 rfl
theorem q1080 : (Jvm.Cond.instanceMethod ({ cls := "SchemaWorkshop$Lexemes", name := "skipLine", desc := "()V" } : Jvm.MethodName)) ∈ lw_all := lw_g (lw_at lw_m4 63 rfl) rfl
theorem q1081 : (Jvm.Cond.code ({ cls := "SchemaWorkshop$Lexemes", name := "skipLine", desc := "()V" } : Jvm.MethodName) prog_6_method_16_code (1 : Nat) (Option.none : Option Jvm.ClassFile.FieldType)) ∈ lw_all := lw_g (lw_at lw_m4 64 rfl) rfl
theorem q1082 : (Jvm.Cond.methodLink "SchemaWorkshop$Lexemes" (226 : Nat) ({ cls := "SchemaWorkshop$Lexemes", name := "isLineEnd", desc := "(I)Z" } : Jvm.MethodName)) ∈ lw_all := lw_g (lw_at lw_m4 65 rfl) rfl
theorem q1083 : (Jvm.Cond.static ({ cls := "SchemaWorkshop$Lexemes", name := "isLineEnd", desc := "(I)Z" } : Jvm.MethodName)) ∈ lw_all := lw_g (lw_at lw_m4 66 rfl) rfl
theorem q1084 : (Jvm.Cond.code ({ cls := "SchemaWorkshop$Lexemes", name := "isLineEnd", desc := "(I)Z" } : Jvm.MethodName) prog_6_method_9_code (1 : Nat) (Option.some Jvm.ClassFile.FieldType.boolean)) ∈ lw_all := lw_g (lw_at lw_m4 67 rfl) rfl
theorem q1085 : (Jvm.Cond.methodLink "SchemaWorkshop$Lexemes" (262 : Nat) ({ cls := "SchemaWorkshop$Lexemes", name := "skipBlock", desc := "()Z" } : Jvm.MethodName)) ∈ lw_all := lw_g (lw_at lw_m4 68 rfl) rfl
theorem q1086 : (Jvm.Cond.privateMethod ({ cls := "SchemaWorkshop$Lexemes", name := "skipBlock", desc := "()Z" } : Jvm.MethodName)) ∈ lw_tbl := lw_at lw_m4 69 rfl
theorem q1087 : (Jvm.Cond.instanceMethod ({ cls := "SchemaWorkshop$Lexemes", name := "skipBlock", desc := "()Z" } : Jvm.MethodName)) ∈ lw_all := lw_g (lw_at lw_m4 70 rfl) rfl
theorem q1088 : (Jvm.Cond.code ({ cls := "SchemaWorkshop$Lexemes", name := "skipBlock", desc := "()Z" } : Jvm.MethodName) prog_6_method_17_code (2 : Nat) (Option.some Jvm.ClassFile.FieldType.boolean)) ∈ lw_all := lw_g (lw_at lw_m4 71 rfl) rfl
theorem q1089 : (Jvm.Cond.methodLink "SchemaWorkshop$Lexemes" (240 : Nat) ({ cls := "SchemaWorkshop$Lexemes", name := "isLetter", desc := "(I)Z" } : Jvm.MethodName)) ∈ lw_all := lw_g (lw_at lw_m4 72 rfl) rfl
theorem q1090 : (Jvm.Cond.static ({ cls := "SchemaWorkshop$Lexemes", name := "isLetter", desc := "(I)Z" } : Jvm.MethodName)) ∈ lw_all := lw_g (lw_at lw_m4 73 rfl) rfl
theorem q1091 : (Jvm.Cond.code ({ cls := "SchemaWorkshop$Lexemes", name := "isLetter", desc := "(I)Z" } : Jvm.MethodName) prog_6_method_11_code (1 : Nat) (Option.some Jvm.ClassFile.FieldType.boolean)) ∈ lw_all := lw_g (lw_at lw_m4 74 rfl) rfl
theorem q1092 : (Jvm.Cond.methodLink "SchemaWorkshop$Lexemes" (206 : Nat) ({ cls := "SchemaWorkshop$Lexemes", name := "isLarge", desc := "(I)Z" } : Jvm.MethodName)) ∈ lw_all := lw_g (lw_at lw_m4 75 rfl) rfl
theorem q1093 : (Jvm.Cond.static ({ cls := "SchemaWorkshop$Lexemes", name := "isLarge", desc := "(I)Z" } : Jvm.MethodName)) ∈ lw_all := lw_g (lw_at lw_m4 76 rfl) rfl
theorem q1094 : (Jvm.Cond.code ({ cls := "SchemaWorkshop$Lexemes", name := "isLarge", desc := "(I)Z" } : Jvm.MethodName) prog_6_method_10_code (1 : Nat) (Option.some Jvm.ClassFile.FieldType.boolean)) ∈ lw_all := lw_g (lw_at lw_m4 77 rfl) rfl
theorem q1095 : (Jvm.Cond.methodLink "SchemaWorkshop$Lexemes" (266 : Nat) ({ cls := "SchemaWorkshop$Lexemes", name := "name", desc := "()V" } : Jvm.MethodName)) ∈ lw_all := lw_g (lw_at lw_m4 78 rfl) rfl
theorem q1096 : (Jvm.Cond.privateMethod ({ cls := "SchemaWorkshop$Lexemes", name := "name", desc := "()V" } : Jvm.MethodName)) ∈ lw_tbl := lw_at lw_m4 79 rfl
theorem q1097 : (Jvm.Cond.instanceMethod ({ cls := "SchemaWorkshop$Lexemes", name := "name", desc := "()V" } : Jvm.MethodName)) ∈ lw_all := lw_g (lw_at lw_m4 80 rfl) rfl
theorem q1098 : (Jvm.Cond.code ({ cls := "SchemaWorkshop$Lexemes", name := "name", desc := "()V" } : Jvm.MethodName) prog_6_method_20_code (3 : Nat) (Option.none : Option Jvm.ClassFile.FieldType)) ∈ lw_all := lw_g (lw_at lw_m4 81 rfl) rfl
theorem q1099 : (Jvm.Cond.methodLink "SchemaWorkshop$Lexemes" (210 : Nat) ({ cls := "SchemaWorkshop$Lexemes", name := "isDigit", desc := "(I)Z" } : Jvm.MethodName)) ∈ lw_all := lw_g (lw_at lw_m4 82 rfl) rfl
theorem q1100 : (Jvm.Cond.static ({ cls := "SchemaWorkshop$Lexemes", name := "isDigit", desc := "(I)Z" } : Jvm.MethodName)) ∈ lw_all := lw_g (lw_at lw_m4 83 rfl) rfl
theorem q1101 : (Jvm.Cond.code ({ cls := "SchemaWorkshop$Lexemes", name := "isDigit", desc := "(I)Z" } : Jvm.MethodName) prog_6_method_12_code (1 : Nat) (Option.some Jvm.ClassFile.FieldType.boolean)) ∈ lw_all := lw_g (lw_at lw_m4 84 rfl) rfl
theorem q1102 : (Jvm.Cond.methodLink "SchemaWorkshop$Lexemes" (243 : Nat) ({ cls := "SchemaWorkshop$Lexemes", name := "wordOf", desc := "(I)I" } : Jvm.MethodName)) ∈ lw_all := lw_g (lw_at lw_m4 85 rfl) rfl
theorem q1103 : (Jvm.Cond.privateMethod ({ cls := "SchemaWorkshop$Lexemes", name := "wordOf", desc := "(I)I" } : Jvm.MethodName)) ∈ lw_tbl := lw_at lw_m4 86 rfl
theorem q1104 : (Jvm.Cond.instanceMethod ({ cls := "SchemaWorkshop$Lexemes", name := "wordOf", desc := "(I)I" } : Jvm.MethodName)) ∈ lw_all := lw_g (lw_at lw_m4 87 rfl) rfl
theorem q1105 : (Jvm.Cond.code ({ cls := "SchemaWorkshop$Lexemes", name := "wordOf", desc := "(I)I" } : Jvm.MethodName) prog_6_method_18_code (6 : Nat) (Option.some Jvm.ClassFile.FieldType.int)) ∈ lw_all := lw_g (lw_at lw_m4 88 rfl) rfl
theorem q1106 : (Jvm.Cond.methodLink "SchemaWorkshop$Lexemes" (229 : Nat) ({ cls := "SchemaWorkshop$Lexemes", name := "compare", desc := "(ILjava/lang/String;)I" } : Jvm.MethodName)) ∈ lw_all := lw_g (lw_at lw_m4 89 rfl) rfl
theorem q1107 : (Jvm.Cond.privateMethod ({ cls := "SchemaWorkshop$Lexemes", name := "compare", desc := "(ILjava/lang/String;)I" } : Jvm.MethodName)) ∈ lw_tbl := lw_at lw_m4 90 rfl
theorem q1108 : (Jvm.Cond.instanceMethod ({ cls := "SchemaWorkshop$Lexemes", name := "compare", desc := "(ILjava/lang/String;)I" } : Jvm.MethodName)) ∈ lw_all := lw_g (lw_at lw_m4 91 rfl) rfl
theorem q1109 : (Jvm.Cond.code ({ cls := "SchemaWorkshop$Lexemes", name := "compare", desc := "(ILjava/lang/String;)I" } : Jvm.MethodName) prog_6_method_19_code (5 : Nat) (Option.some Jvm.ClassFile.FieldType.int)) ∈ lw_all := lw_g (lw_at lw_m4 92 rfl) rfl
theorem q1110 : (Jvm.Cond.methodLink "SchemaWorkshop$Lexemes" (233 : Nat) ({ cls := "java/lang/String", name := "length", desc := "()I" } : Jvm.MethodName)) ∈ lw_all := lw_g (lw_at lw_m4 93 rfl) rfl
theorem q1120 : (Jvm.Cond.methodLink "SchemaWorkshop$Lexemes" (236 : Nat) ({ cls := "java/lang/String", name := "charAt", desc := "(I)C" } : Jvm.MethodName)) ∈ lw_all := lw_g (lw_at lw_m4 103 rfl) rfl
theorem q1158 : (Jvm.Cond.methodLink "SchemaWorkshop$Lexemes" (246 : Nat) ({ cls := "SchemaWorkshop$Lexemes", name := "add", desc := "(II)V" } : Jvm.MethodName)) ∈ lw_all := lw_g (lw_at lw_m4 141 rfl) rfl
theorem q1159 : (Jvm.Cond.privateMethod ({ cls := "SchemaWorkshop$Lexemes", name := "add", desc := "(II)V" } : Jvm.MethodName)) ∈ lw_tbl := lw_at lw_m4 142 rfl
theorem q1160 : (Jvm.Cond.instanceMethod ({ cls := "SchemaWorkshop$Lexemes", name := "add", desc := "(II)V" } : Jvm.MethodName)) ∈ lw_all := lw_g (lw_at lw_m4 143 rfl) rfl
theorem q1161 : (Jvm.Cond.code ({ cls := "SchemaWorkshop$Lexemes", name := "add", desc := "(II)V" } : Jvm.MethodName) prog_6_method_14_code (3 : Nat) (Option.none : Option Jvm.ClassFile.FieldType)) ∈ lw_all := lw_g (lw_at lw_m4 144 rfl) rfl
theorem q1162 : (Jvm.Cond.methodLink "SchemaWorkshop$Lexemes" (213 : Nat) ({ cls := "SchemaWorkshop$Lexemes", name := "grown", desc := "([I)[I" } : Jvm.MethodName)) ∈ lw_all := lw_g (lw_at lw_m4 145 rfl) rfl
theorem q1163 : (Jvm.Cond.static ({ cls := "SchemaWorkshop$Lexemes", name := "grown", desc := "([I)[I" } : Jvm.MethodName)) ∈ lw_all := lw_g (lw_at lw_m4 146 rfl) rfl
theorem q1164 : (Jvm.Cond.code ({ cls := "SchemaWorkshop$Lexemes", name := "grown", desc := "([I)[I" } : Jvm.MethodName) prog_6_method_15_code (2 : Nat) (Option.some (Jvm.ClassFile.FieldType.array Jvm.ClassFile.FieldType.int))) ∈ lw_all := lw_g (lw_at lw_m4 147 rfl) rfl
theorem q1165 : (Jvm.Cond.methodLink "SchemaWorkshop$Lexemes" (217 : Nat) ({ cls := "java/lang/System", name := "arraycopy", desc := "(Ljava/lang/Object;ILjava/lang/Object;II)V" } : Jvm.MethodName)) ∈ lw_all := lw_g (lw_at lw_m4 148 rfl) rfl
theorem q1166 : (Jvm.Cond.methodLink "SchemaWorkshop$Lexemes" (269 : Nat) ({ cls := "SchemaWorkshop$Lexemes", name := "number", desc := "()Z" } : Jvm.MethodName)) ∈ lw_all := lw_g (lw_at lw_m4 149 rfl) rfl
theorem q1167 : (Jvm.Cond.privateMethod ({ cls := "SchemaWorkshop$Lexemes", name := "number", desc := "()Z" } : Jvm.MethodName)) ∈ lw_tbl := lw_at lw_m4 150 rfl
theorem q1168 : (Jvm.Cond.instanceMethod ({ cls := "SchemaWorkshop$Lexemes", name := "number", desc := "()Z" } : Jvm.MethodName)) ∈ lw_all := lw_g (lw_at lw_m4 151 rfl) rfl
theorem q1169 : (Jvm.Cond.code ({ cls := "SchemaWorkshop$Lexemes", name := "number", desc := "()Z" } : Jvm.MethodName) prog_6_method_21_code (2 : Nat) (Option.some Jvm.ClassFile.FieldType.boolean)) ∈ lw_all := lw_g (lw_at lw_m4 152 rfl) rfl
theorem q1170 : (Jvm.Cond.methodLink "SchemaWorkshop$Lexemes" (272 : Nat) ({ cls := "SchemaWorkshop$Lexemes", name := "quoted", desc := "()Z" } : Jvm.MethodName)) ∈ lw_all := lw_g (lw_at lw_m4 153 rfl) rfl
theorem q1171 : (Jvm.Cond.privateMethod ({ cls := "SchemaWorkshop$Lexemes", name := "quoted", desc := "()Z" } : Jvm.MethodName)) ∈ lw_tbl := lw_at lw_m4 154 rfl
theorem q1172 : (Jvm.Cond.instanceMethod ({ cls := "SchemaWorkshop$Lexemes", name := "quoted", desc := "()Z" } : Jvm.MethodName)) ∈ lw_all := lw_g (lw_at lw_m4 155 rfl) rfl
theorem q1173 : (Jvm.Cond.code ({ cls := "SchemaWorkshop$Lexemes", name := "quoted", desc := "()Z" } : Jvm.MethodName) prog_6_method_22_code (2 : Nat) (Option.some Jvm.ClassFile.FieldType.boolean)) ∈ lw_all := lw_g (lw_at lw_m4 156 rfl) rfl
theorem q1174 : (Jvm.Cond.methodLink "SchemaWorkshop$Lexemes" (275 : Nat) ({ cls := "SchemaWorkshop$Lexemes", name := "digits", desc := "()Z" } : Jvm.MethodName)) ∈ lw_all := lw_g (lw_at lw_m4 157 rfl) rfl
theorem q1175 : (Jvm.Cond.privateMethod ({ cls := "SchemaWorkshop$Lexemes", name := "digits", desc := "()Z" } : Jvm.MethodName)) ∈ lw_tbl := lw_at lw_m4 158 rfl
theorem q1176 : (Jvm.Cond.instanceMethod ({ cls := "SchemaWorkshop$Lexemes", name := "digits", desc := "()Z" } : Jvm.MethodName)) ∈ lw_all := lw_g (lw_at lw_m4 159 rfl) rfl
theorem q1177 : (Jvm.Cond.code ({ cls := "SchemaWorkshop$Lexemes", name := "digits", desc := "()Z" } : Jvm.MethodName) prog_6_method_23_code (4 : Nat) (Option.some Jvm.ClassFile.FieldType.boolean)) ∈ lw_all := lw_g (lw_at lw_m4 160 rfl) rfl
theorem q1178 : (Jvm.Cond.methodLink "SchemaWorkshop$Lexemes" (250 : Nat) ({ cls := "SchemaWorkshop$Lexemes", name := "isHex", desc := "(I)Z" } : Jvm.MethodName)) ∈ lw_all := lw_g (lw_at lw_m4 161 rfl) rfl
theorem q1179 : (Jvm.Cond.static ({ cls := "SchemaWorkshop$Lexemes", name := "isHex", desc := "(I)Z" } : Jvm.MethodName)) ∈ lw_all := lw_g (lw_at lw_m4 162 rfl) rfl
theorem q1180 : (Jvm.Cond.code ({ cls := "SchemaWorkshop$Lexemes", name := "isHex", desc := "(I)Z" } : Jvm.MethodName) prog_6_method_13_code (1 : Nat) (Option.some Jvm.ClassFile.FieldType.boolean)) ∈ lw_all := lw_g (lw_at lw_m4 163 rfl) rfl
theorem q1181 : (Jvm.Cond.methodLink "SchemaWorkshop$Lexemes" (278 : Nat) ({ cls := "SchemaWorkshop$Lexemes", name := "sign", desc := "()Z" } : Jvm.MethodName)) ∈ lw_all := lw_g (lw_at lw_m4 164 rfl) rfl
theorem q1182 : (Jvm.Cond.privateMethod ({ cls := "SchemaWorkshop$Lexemes", name := "sign", desc := "()Z" } : Jvm.MethodName)) ∈ lw_tbl := lw_at lw_m4 165 rfl
theorem q1183 : (Jvm.Cond.instanceMethod ({ cls := "SchemaWorkshop$Lexemes", name := "sign", desc := "()Z" } : Jvm.MethodName)) ∈ lw_all := lw_g (lw_at lw_m4 166 rfl) rfl
theorem q1184 : (Jvm.Cond.code ({ cls := "SchemaWorkshop$Lexemes", name := "sign", desc := "()Z" } : Jvm.MethodName) prog_6_method_24_code (4 : Nat) (Option.some Jvm.ClassFile.FieldType.boolean)) ∈ lw_all := lw_g (lw_at lw_m4 167 rfl) rfl
theorem q1185 : (Jvm.Cond.methodLink "SchemaWorkshop$Lexemes" (256 : Nat) ({ cls := "java/lang/String", name := "indexOf", desc := "(I)I" } : Jvm.MethodName)) ∈ lw_all := lw_g (lw_at lw_m4 168 rfl) rfl
theorem q1269 : (Jvm.Cond.instanceMethod ({ cls := "SchemaWorkshop$Lexemes", name := "kind", desc := "(I)I" } : Jvm.MethodName)) ∈ lw_all := lw_g (lw_at lw_m5 12 rfl) rfl
theorem q1270 : (Jvm.Cond.selects "SchemaWorkshop$Lexemes" ({ cls := "SchemaWorkshop$Lexemes", name := "kind", desc := "(I)I" } : Jvm.MethodName) ({ cls := "SchemaWorkshop$Lexemes", name := "kind", desc := "(I)I" } : Jvm.MethodName)) ∈ lw_all := lw_g (lw_at lw_m5 13 rfl) rfl
theorem q1271 : (Jvm.Cond.code ({ cls := "SchemaWorkshop$Lexemes", name := "kind", desc := "(I)I" } : Jvm.MethodName) prog_6_method_3_code (2 : Nat) (Option.some Jvm.ClassFile.FieldType.int)) ∈ lw_all := lw_g (lw_at lw_m5 14 rfl) rfl
theorem q1288 : (Jvm.Cond.instanceMethod ({ cls := "SchemaWorkshop$Lexemes", name := "start", desc := "(I)I" } : Jvm.MethodName)) ∈ lw_all := lw_g (lw_at lw_m5 31 rfl) rfl
theorem q1289 : (Jvm.Cond.selects "SchemaWorkshop$Lexemes" ({ cls := "SchemaWorkshop$Lexemes", name := "start", desc := "(I)I" } : Jvm.MethodName) ({ cls := "SchemaWorkshop$Lexemes", name := "start", desc := "(I)I" } : Jvm.MethodName)) ∈ lw_all := lw_g (lw_at lw_m5 32 rfl) rfl
theorem q1290 : (Jvm.Cond.code ({ cls := "SchemaWorkshop$Lexemes", name := "start", desc := "(I)I" } : Jvm.MethodName) prog_6_method_4_code (2 : Nat) (Option.some Jvm.ClassFile.FieldType.int)) ∈ lw_all := lw_g (lw_at lw_m5 33 rfl) rfl
theorem q1322 : (Jvm.Cond.instanceMethod ({ cls := "SchemaWorkshop$Lexemes", name := "end", desc := "(I)I" } : Jvm.MethodName)) ∈ lw_all := lw_g (lw_at lw_m5 65 rfl) rfl
theorem q1323 : (Jvm.Cond.selects "SchemaWorkshop$Lexemes" ({ cls := "SchemaWorkshop$Lexemes", name := "end", desc := "(I)I" } : Jvm.MethodName) ({ cls := "SchemaWorkshop$Lexemes", name := "end", desc := "(I)I" } : Jvm.MethodName)) ∈ lw_all := lw_g (lw_at lw_m5 66 rfl) rfl
theorem q1324 : (Jvm.Cond.code ({ cls := "SchemaWorkshop$Lexemes", name := "end", desc := "(I)I" } : Jvm.MethodName) prog_6_method_5_code (2 : Nat) (Option.some Jvm.ClassFile.FieldType.int)) ∈ lw_all := lw_g (lw_at lw_m5 67 rfl) rfl
theorem q1328 : (Jvm.Cond.instanceMethod ({ cls := "SchemaWorkshop$Lexemes", name := "text", desc := "()LSchemaWorkshop$Bytes;" } : Jvm.MethodName)) ∈ lw_all := lw_g (lw_at lw_m5 71 rfl) rfl
theorem q1329 : (Jvm.Cond.selects "SchemaWorkshop$Lexemes" ({ cls := "SchemaWorkshop$Lexemes", name := "text", desc := "()LSchemaWorkshop$Bytes;" } : Jvm.MethodName) ({ cls := "SchemaWorkshop$Lexemes", name := "text", desc := "()LSchemaWorkshop$Bytes;" } : Jvm.MethodName)) ∈ lw_all := lw_g (lw_at lw_m5 72 rfl) rfl
theorem q1330 : (Jvm.Cond.code ({ cls := "SchemaWorkshop$Lexemes", name := "text", desc := "()LSchemaWorkshop$Bytes;" } : Jvm.MethodName) prog_6_method_6_code (1 : Nat) (Option.some (Jvm.ClassFile.FieldType.object "SchemaWorkshop$Bytes"))) ∈ lw_all := lw_g (lw_at lw_m5 73 rfl) rfl
theorem q1412 : (Jvm.Cond.instanceMethod ({ cls := "SchemaWorkshop$Lexemes", name := "size", desc := "()I" } : Jvm.MethodName)) ∈ lw_all := lw_g (lw_at lw_m5 155 rfl) rfl
theorem q1413 : (Jvm.Cond.selects "SchemaWorkshop$Lexemes" ({ cls := "SchemaWorkshop$Lexemes", name := "size", desc := "()I" } : Jvm.MethodName) ({ cls := "SchemaWorkshop$Lexemes", name := "size", desc := "()I" } : Jvm.MethodName)) ∈ lw_all := lw_g (lw_at lw_m5 156 rfl) rfl
theorem q1414 : (Jvm.Cond.code ({ cls := "SchemaWorkshop$Lexemes", name := "size", desc := "()I" } : Jvm.MethodName) prog_6_method_2_code (1 : Nat) (Option.some Jvm.ClassFile.FieldType.int)) ∈ lw_all := lw_g (lw_at lw_m5 157 rfl) rfl
theorem q1466 : (Jvm.Cond.instanceMethod ({ cls := "SchemaWorkshop$Lexemes", name := "isLike", desc := "(II)Z" } : Jvm.MethodName)) ∈ lw_all := lw_g (lw_at lw_m5 209 rfl) rfl
theorem q1467 : (Jvm.Cond.selects "SchemaWorkshop$Lexemes" ({ cls := "SchemaWorkshop$Lexemes", name := "isLike", desc := "(II)Z" } : Jvm.MethodName) ({ cls := "SchemaWorkshop$Lexemes", name := "isLike", desc := "(II)Z" } : Jvm.MethodName)) ∈ lw_all := lw_g (lw_at lw_m5 210 rfl) rfl
theorem q1468 : (Jvm.Cond.code ({ cls := "SchemaWorkshop$Lexemes", name := "isLike", desc := "(II)Z" } : Jvm.MethodName) prog_6_method_26_code (3 : Nat) (Option.some Jvm.ClassFile.FieldType.boolean)) ∈ lw_all := lw_g (lw_at lw_m5 211 rfl) rfl
theorem q1469 : (Jvm.Cond.methodLink "SchemaWorkshop$Lexemes" (281 : Nat) ({ cls := "SchemaWorkshop$Bytes", name := "compare", desc := "(IILSchemaWorkshop$Bytes;II)I" } : Jvm.MethodName)) ∈ lw_all := lw_g (lw_at lw_m5 212 rfl) rfl
theorem in_X3 : ∀ w ∈ wsX30, w ∈ lw_all := lw_in wsX30 [442, 444, 446, 448, 450, 452, 454, 456] (by decide +kernel) (by decide +kernel)

/-! SchemaWorkshop$Elements -/
set_option maxRecDepth 100000
def RX12 : String := "SchemaWorkshop$Elements"
def TX12 : u_T := fun k => match k with
  | 0 => ("SchemaWorkshop$Elements", "row", "LSchemaWorkshop$Bytes;", false)
  | 1 => ("SchemaWorkshop$Elements", "at", "I", false)
  | 2 => ("SchemaWorkshop$Elements", "fault", "I", false)
  | 3 => ("SchemaWorkshop$Elements", "place", "I", false)
  | 4 => ("SchemaWorkshop$Elements", "tags", "[I", false)
  | 5 => ("SchemaWorkshop$Elements", "starts", "[I", false)
  | 6 => ("SchemaWorkshop$Elements", "from", "[I", false)
  | 7 => ("SchemaWorkshop$Elements", "to", "[I", false)
  | 8 => ("SchemaWorkshop$Elements", "behind", "[I", false)
  | 9 => ("SchemaWorkshop$Elements", "parts", "[Z", false)
  | 10 => ("SchemaWorkshop$Elements", "size", "I", false)
  | 11 => ("SchemaWorkshop$Elements", "open", "[I", false)
  | 12 => ("SchemaWorkshop$Elements", "ends", "[I", false)
  | 13 => ("SchemaWorkshop$Elements", "bounds", "[I", false)
  | _ => ("SchemaWorkshop$Elements", "depth", "I", false)
def tyX12 : Nat → FieldType := fun k => match k with
  | 0 => .object "SchemaWorkshop$Bytes"
  | 1 => .int
  | 2 => .int
  | 3 => .int
  | 4 => .array .int
  | 5 => .array .int
  | 6 => .array .int
  | 7 => .array .int
  | 8 => .array .int
  | 9 => .array .boolean
  | 10 => .int
  | 11 => .array .int
  | 12 => .array .int
  | 13 => .array .int
  | _ => .int
abbrev wsX120 : List Cond := u_ws RX12 TX12 15
set_option maxRecDepth 100000 in
theorem nmX12 : ∀ a, a < 15 → ∀ b, b < 15 → a ≠ b → (TX12 a).2.1 ≠ (TX12 b).2.1 := by decide +kernel
set_option maxRecDepth 100000 in
theorem tyX12_ok : ∀ k, k < 15 → parseFieldDescriptor (TX12 k).2.2.1 = some (tyX12 k) := by decide +kernel
abbrev cX12_init : ByteArray := prog_3_method_1_code
def yX12_init : MethodName := ⟨RX12, "<init>", "()V"⟩
def dkwX12_init_3 : List UInt8 := [188, 10, 181, 0, 37, 177]
abbrev dktX12_init_3 : List UInt8 := dkwX12_init_3 ++ []
def dkwX12_init_2 : List UInt8 := [188, 4, 181, 0, 27, 42, 16, 16, 188, 10, 181, 0, 31, 42, 16, 16, 188, 10, 181, 0, 34, 42, 16, 16]
abbrev dktX12_init_2 : List UInt8 := dkwX12_init_2 ++ dktX12_init_3
def dkwX12_init_1 : List UInt8 := [188, 10, 181, 0, 18, 42, 16, 64, 188, 10, 181, 0, 21, 42, 16, 64, 188, 10, 181, 0, 24, 42, 16, 64]
abbrev dktX12_init_1 : List UInt8 := dkwX12_init_1 ++ dktX12_init_2
def dkwX12_init_0 : List UInt8 := [42, 183, 0, 3, 42, 16, 64, 188, 10, 181, 0, 9, 42, 16, 64, 188, 10, 181, 0, 15, 42, 16, 64]
abbrev dktX12_init_0 : List UInt8 := dkwX12_init_0 ++ dktX12_init_1
theorem dksX12_init_0 : cX12_init.data.toList.drop 0 = dktX12_init_0 := by decide +kernel
theorem dksX12_init_1 : cX12_init.data.toList.drop 23 = dktX12_init_1 := dk_seg dksX12_init_0 23 rfl rfl
theorem dksX12_init_2 : cX12_init.data.toList.drop 47 = dktX12_init_2 := dk_seg dksX12_init_1 24 rfl rfl
theorem dksX12_init_3 : cX12_init.data.toList.drop 71 = dktX12_init_3 := dk_seg dksX12_init_2 24 rfl rfl
theorem dX12_init_0 : decode cX12_init 0 = .ok (.aload_n 0, 1) := dk_42 (dk_at dksX12_init_0 0 rfl rfl)
theorem dX12_init_1 : decode cX12_init 1 = .ok (.invokespecial 3, 3) := dk_183 0 3 (dk_at dksX12_init_0 1 rfl rfl)
theorem dX12_init_4 : decode cX12_init 4 = .ok (.aload_n 0, 1) := dk_42 (dk_at dksX12_init_0 4 rfl rfl)
theorem dX12_init_5 : decode cX12_init 5 = .ok (.bipush 64, 2) := dk_16 64 (dk_at dksX12_init_0 5 rfl rfl)
theorem dX12_init_7 : decode cX12_init 7 = .ok (.newarray .int, 2) := dk_188_10 (dk_at dksX12_init_0 7 rfl rfl)
theorem dX12_init_9 : decode cX12_init 9 = .ok (.putfield 9, 3) := dk_181 0 9 (dk_at dksX12_init_0 9 rfl rfl)
theorem dX12_init_12 : decode cX12_init 12 = .ok (.aload_n 0, 1) := dk_42 (dk_at dksX12_init_0 12 rfl rfl)
theorem dX12_init_13 : decode cX12_init 13 = .ok (.bipush 64, 2) := dk_16 64 (dk_at dksX12_init_0 13 rfl rfl)
theorem dX12_init_15 : decode cX12_init 15 = .ok (.newarray .int, 2) := dk_188_10 (dk_at dksX12_init_0 15 rfl rfl)
theorem dX12_init_17 : decode cX12_init 17 = .ok (.putfield 15, 3) := dk_181 0 15 (dk_at dksX12_init_0 17 rfl rfl)
theorem dX12_init_20 : decode cX12_init 20 = .ok (.aload_n 0, 1) := dk_42 (dk_at dksX12_init_0 20 rfl rfl)
theorem dX12_init_21 : decode cX12_init 21 = .ok (.bipush 64, 2) := dk_16 64 (dk_at dksX12_init_0 21 rfl rfl)
theorem dX12_init_23 : decode cX12_init 23 = .ok (.newarray .int, 2) := dk_188_10 (dk_at dksX12_init_1 0 rfl rfl)
theorem dX12_init_25 : decode cX12_init 25 = .ok (.putfield 18, 3) := dk_181 0 18 (dk_at dksX12_init_1 2 rfl rfl)
theorem dX12_init_28 : decode cX12_init 28 = .ok (.aload_n 0, 1) := dk_42 (dk_at dksX12_init_1 5 rfl rfl)
theorem dX12_init_29 : decode cX12_init 29 = .ok (.bipush 64, 2) := dk_16 64 (dk_at dksX12_init_1 6 rfl rfl)
theorem dX12_init_31 : decode cX12_init 31 = .ok (.newarray .int, 2) := dk_188_10 (dk_at dksX12_init_1 8 rfl rfl)
theorem dX12_init_33 : decode cX12_init 33 = .ok (.putfield 21, 3) := dk_181 0 21 (dk_at dksX12_init_1 10 rfl rfl)
theorem dX12_init_36 : decode cX12_init 36 = .ok (.aload_n 0, 1) := dk_42 (dk_at dksX12_init_1 13 rfl rfl)
theorem dX12_init_37 : decode cX12_init 37 = .ok (.bipush 64, 2) := dk_16 64 (dk_at dksX12_init_1 14 rfl rfl)
theorem dX12_init_39 : decode cX12_init 39 = .ok (.newarray .int, 2) := dk_188_10 (dk_at dksX12_init_1 16 rfl rfl)
theorem dX12_init_41 : decode cX12_init 41 = .ok (.putfield 24, 3) := dk_181 0 24 (dk_at dksX12_init_1 18 rfl rfl)
theorem dX12_init_44 : decode cX12_init 44 = .ok (.aload_n 0, 1) := dk_42 (dk_at dksX12_init_1 21 rfl rfl)
theorem dX12_init_45 : decode cX12_init 45 = .ok (.bipush 64, 2) := dk_16 64 (dk_at dksX12_init_1 22 rfl rfl)
theorem dX12_init_47 : decode cX12_init 47 = .ok (.newarray .boolean, 2) := dk_188_4 (dk_at dksX12_init_2 0 rfl rfl)
theorem dX12_init_49 : decode cX12_init 49 = .ok (.putfield 27, 3) := dk_181 0 27 (dk_at dksX12_init_2 2 rfl rfl)
theorem dX12_init_52 : decode cX12_init 52 = .ok (.aload_n 0, 1) := dk_42 (dk_at dksX12_init_2 5 rfl rfl)
theorem dX12_init_53 : decode cX12_init 53 = .ok (.bipush 16, 2) := dk_16 16 (dk_at dksX12_init_2 6 rfl rfl)
theorem dX12_init_55 : decode cX12_init 55 = .ok (.newarray .int, 2) := dk_188_10 (dk_at dksX12_init_2 8 rfl rfl)
theorem dX12_init_57 : decode cX12_init 57 = .ok (.putfield 31, 3) := dk_181 0 31 (dk_at dksX12_init_2 10 rfl rfl)
theorem dX12_init_60 : decode cX12_init 60 = .ok (.aload_n 0, 1) := dk_42 (dk_at dksX12_init_2 13 rfl rfl)
theorem dX12_init_61 : decode cX12_init 61 = .ok (.bipush 16, 2) := dk_16 16 (dk_at dksX12_init_2 14 rfl rfl)
theorem dX12_init_63 : decode cX12_init 63 = .ok (.newarray .int, 2) := dk_188_10 (dk_at dksX12_init_2 16 rfl rfl)
theorem dX12_init_65 : decode cX12_init 65 = .ok (.putfield 34, 3) := dk_181 0 34 (dk_at dksX12_init_2 18 rfl rfl)
theorem dX12_init_68 : decode cX12_init 68 = .ok (.aload_n 0, 1) := dk_42 (dk_at dksX12_init_2 21 rfl rfl)
theorem dX12_init_69 : decode cX12_init 69 = .ok (.bipush 16, 2) := dk_16 16 (dk_at dksX12_init_2 22 rfl rfl)
theorem dX12_init_71 : decode cX12_init 71 = .ok (.newarray .int, 2) := dk_188_10 (dk_at dksX12_init_3 0 rfl rfl)
theorem dX12_init_73 : decode cX12_init 73 = .ok (.putfield 37, 3) := dk_181 0 37 (dk_at dksX12_init_3 2 rfl rfl)
theorem dX12_init_76 : decode cX12_init 76 = .ok (.return_, 1) := dk_177 (dk_at dksX12_init_3 5 rfl rfl)
abbrev cX12_read : ByteArray := prog_3_method_17_code
def yX12_read : MethodName := ⟨RX12, "read", "(LSchemaWorkshop$Bytes;I)Z"⟩
def dkwX12_read_4 : List UInt8 := [167, 0, 4, 3, 172]
abbrev dktX12_read_4 : List UInt8 := dkwX12_read_4 ++ []
def dkwX12_read_3 : List UInt8 := [180, 0, 72, 42, 180, 0, 63, 182, 0, 67, 159, 0, 12, 42, 16, 6, 182, 0, 82, 153, 0, 7, 4]
abbrev dktX12_read_3 : List UInt8 := dkwX12_read_3 ++ dktX12_read_4
def dkwX12_read_2 : List UInt8 := [158, 0, 13, 42, 28, 182, 0, 79, 154, 255, 244, 3, 172, 42, 42, 180, 0, 72, 181, 0, 47, 42]
abbrev dktX12_read_2 : List UInt8 := dkwX12_read_2 ++ dktX12_read_3
def dkwX12_read_1 : List UInt8 := [181, 0, 44, 42, 3, 181, 0, 47, 42, 28, 182, 0, 75, 154, 0, 5, 3, 172, 42, 180, 0, 60]
abbrev dktX12_read_1 : List UInt8 := dkwX12_read_1 ++ dktX12_read_2
def dkwX12_read_0 : List UInt8 := [42, 43, 181, 0, 63, 42, 3, 181, 0, 72, 42, 3, 181, 0, 40, 42, 3, 181, 0, 60, 42, 3]
abbrev dktX12_read_0 : List UInt8 := dkwX12_read_0 ++ dktX12_read_1
theorem dksX12_read_0 : cX12_read.data.toList.drop 0 = dktX12_read_0 := by decide +kernel
theorem dksX12_read_1 : cX12_read.data.toList.drop 22 = dktX12_read_1 := dk_seg dksX12_read_0 22 rfl rfl
theorem dksX12_read_2 : cX12_read.data.toList.drop 44 = dktX12_read_2 := dk_seg dksX12_read_1 22 rfl rfl
theorem dksX12_read_3 : cX12_read.data.toList.drop 66 = dktX12_read_3 := dk_seg dksX12_read_2 22 rfl rfl
theorem dksX12_read_4 : cX12_read.data.toList.drop 89 = dktX12_read_4 := dk_seg dksX12_read_3 23 rfl rfl
theorem dX12_read_0 : decode cX12_read 0 = .ok (.aload_n 0, 1) := dk_42 (dk_at dksX12_read_0 0 rfl rfl)
theorem dX12_read_1 : decode cX12_read 1 = .ok (.aload_n 1, 1) := dk_43 (dk_at dksX12_read_0 1 rfl rfl)
theorem dX12_read_2 : decode cX12_read 2 = .ok (.putfield 63, 3) := dk_181 0 63 (dk_at dksX12_read_0 2 rfl rfl)
theorem dX12_read_5 : decode cX12_read 5 = .ok (.aload_n 0, 1) := dk_42 (dk_at dksX12_read_0 5 rfl rfl)
theorem dX12_read_6 : decode cX12_read 6 = .ok (.iconst 0, 1) := dk_3 (dk_at dksX12_read_0 6 rfl rfl)
theorem dX12_read_7 : decode cX12_read 7 = .ok (.putfield 72, 3) := dk_181 0 72 (dk_at dksX12_read_0 7 rfl rfl)
theorem dX12_read_10 : decode cX12_read 10 = .ok (.aload_n 0, 1) := dk_42 (dk_at dksX12_read_0 10 rfl rfl)
theorem dX12_read_11 : decode cX12_read 11 = .ok (.iconst 0, 1) := dk_3 (dk_at dksX12_read_0 11 rfl rfl)
theorem dX12_read_12 : decode cX12_read 12 = .ok (.putfield 40, 3) := dk_181 0 40 (dk_at dksX12_read_0 12 rfl rfl)
theorem dX12_read_15 : decode cX12_read 15 = .ok (.aload_n 0, 1) := dk_42 (dk_at dksX12_read_0 15 rfl rfl)
theorem dX12_read_16 : decode cX12_read 16 = .ok (.iconst 0, 1) := dk_3 (dk_at dksX12_read_0 16 rfl rfl)
theorem dX12_read_17 : decode cX12_read 17 = .ok (.putfield 60, 3) := dk_181 0 60 (dk_at dksX12_read_0 17 rfl rfl)
theorem dX12_read_20 : decode cX12_read 20 = .ok (.aload_n 0, 1) := dk_42 (dk_at dksX12_read_0 20 rfl rfl)
theorem dX12_read_21 : decode cX12_read 21 = .ok (.iconst 0, 1) := dk_3 (dk_at dksX12_read_0 21 rfl rfl)
theorem dX12_read_22 : decode cX12_read 22 = .ok (.putfield 44, 3) := dk_181 0 44 (dk_at dksX12_read_1 0 rfl rfl)
theorem dX12_read_25 : decode cX12_read 25 = .ok (.aload_n 0, 1) := dk_42 (dk_at dksX12_read_1 3 rfl rfl)
theorem dX12_read_26 : decode cX12_read 26 = .ok (.iconst 0, 1) := dk_3 (dk_at dksX12_read_1 4 rfl rfl)
theorem dX12_read_27 : decode cX12_read 27 = .ok (.putfield 47, 3) := dk_181 0 47 (dk_at dksX12_read_1 5 rfl rfl)
theorem dX12_read_30 : decode cX12_read 30 = .ok (.aload_n 0, 1) := dk_42 (dk_at dksX12_read_1 8 rfl rfl)
theorem dX12_read_31 : decode cX12_read 31 = .ok (.iload_n 2, 1) := dk_28 (dk_at dksX12_read_1 9 rfl rfl)
theorem dX12_read_32 : decode cX12_read 32 = .ok (.invokevirtual 75, 3) := dk_182 0 75 (dk_at dksX12_read_1 10 rfl rfl)
theorem dX12_read_35 : decode cX12_read 35 = .ok (.ifCond .ne 5, 3) := dk_154 0 5 (dk_at dksX12_read_1 13 rfl rfl)
theorem dX12_read_38 : decode cX12_read 38 = .ok (.iconst 0, 1) := dk_3 (dk_at dksX12_read_1 16 rfl rfl)
theorem dX12_read_39 : decode cX12_read 39 = .ok (.ireturn, 1) := dk_172 (dk_at dksX12_read_1 17 rfl rfl)
theorem dX12_read_40 : decode cX12_read 40 = .ok (.aload_n 0, 1) := dk_42 (dk_at dksX12_read_1 18 rfl rfl)
theorem dX12_read_41 : decode cX12_read 41 = .ok (.getfield 60, 3) := dk_180 0 60 (dk_at dksX12_read_1 19 rfl rfl)
theorem dX12_read_44 : decode cX12_read 44 = .ok (.ifCond .le 13, 3) := dk_158 0 13 (dk_at dksX12_read_2 0 rfl rfl)
theorem dX12_read_47 : decode cX12_read 47 = .ok (.aload_n 0, 1) := dk_42 (dk_at dksX12_read_2 3 rfl rfl)
theorem dX12_read_48 : decode cX12_read 48 = .ok (.iload_n 2, 1) := dk_28 (dk_at dksX12_read_2 4 rfl rfl)
theorem dX12_read_49 : decode cX12_read 49 = .ok (.invokevirtual 79, 3) := dk_182 0 79 (dk_at dksX12_read_2 5 rfl rfl)
theorem dX12_read_52 : decode cX12_read 52 = .ok (.ifCond .ne (-12), 3) := dk_154 255 244 (dk_at dksX12_read_2 8 rfl rfl)
theorem dX12_read_55 : decode cX12_read 55 = .ok (.iconst 0, 1) := dk_3 (dk_at dksX12_read_2 11 rfl rfl)
theorem dX12_read_56 : decode cX12_read 56 = .ok (.ireturn, 1) := dk_172 (dk_at dksX12_read_2 12 rfl rfl)
theorem dX12_read_57 : decode cX12_read 57 = .ok (.aload_n 0, 1) := dk_42 (dk_at dksX12_read_2 13 rfl rfl)
theorem dX12_read_58 : decode cX12_read 58 = .ok (.aload_n 0, 1) := dk_42 (dk_at dksX12_read_2 14 rfl rfl)
theorem dX12_read_59 : decode cX12_read 59 = .ok (.getfield 72, 3) := dk_180 0 72 (dk_at dksX12_read_2 15 rfl rfl)
theorem dX12_read_62 : decode cX12_read 62 = .ok (.putfield 47, 3) := dk_181 0 47 (dk_at dksX12_read_2 18 rfl rfl)
theorem dX12_read_65 : decode cX12_read 65 = .ok (.aload_n 0, 1) := dk_42 (dk_at dksX12_read_2 21 rfl rfl)
theorem dX12_read_66 : decode cX12_read 66 = .ok (.getfield 72, 3) := dk_180 0 72 (dk_at dksX12_read_3 0 rfl rfl)
theorem dX12_read_69 : decode cX12_read 69 = .ok (.aload_n 0, 1) := dk_42 (dk_at dksX12_read_3 3 rfl rfl)
theorem dX12_read_70 : decode cX12_read 70 = .ok (.getfield 63, 3) := dk_180 0 63 (dk_at dksX12_read_3 4 rfl rfl)
theorem dX12_read_73 : decode cX12_read 73 = .ok (.invokevirtual 67, 3) := dk_182 0 67 (dk_at dksX12_read_3 7 rfl rfl)
theorem dX12_read_76 : decode cX12_read 76 = .ok (.if_icmp .eq 12, 3) := dk_159 0 12 (dk_at dksX12_read_3 10 rfl rfl)
theorem dX12_read_79 : decode cX12_read 79 = .ok (.aload_n 0, 1) := dk_42 (dk_at dksX12_read_3 13 rfl rfl)
theorem dX12_read_80 : decode cX12_read 80 = .ok (.bipush 6, 2) := dk_16 6 (dk_at dksX12_read_3 14 rfl rfl)
theorem dX12_read_82 : decode cX12_read 82 = .ok (.invokevirtual 82, 3) := dk_182 0 82 (dk_at dksX12_read_3 16 rfl rfl)
theorem dX12_read_85 : decode cX12_read 85 = .ok (.ifCond .eq 7, 3) := dk_153 0 7 (dk_at dksX12_read_3 19 rfl rfl)
theorem dX12_read_88 : decode cX12_read 88 = .ok (.iconst 1, 1) := dk_4 (dk_at dksX12_read_3 22 rfl rfl)
theorem dX12_read_89 : decode cX12_read 89 = .ok (.goto 4, 3) := dk_167 0 4 (dk_at dksX12_read_4 0 rfl rfl)
theorem dX12_read_92 : decode cX12_read 92 = .ok (.iconst 0, 1) := dk_3 (dk_at dksX12_read_4 3 rfl rfl)
theorem dX12_read_93 : decode cX12_read 93 = .ok (.ireturn, 1) := dk_172 (dk_at dksX12_read_4 4 rfl rfl)
abbrev cX12_element : ByteArray := prog_3_method_19_code
def yX12_element : MethodName := ⟨RX12, "element", "(I)Z"⟩
def dkwX12_element_11 : List UInt8 := [42, 180, 0, 72, 79, 42, 180, 0, 24, 42, 180, 0, 40, 4, 100, 42, 180, 0, 40, 79, 4, 172]
abbrev dktX12_element_11 : List UInt8 := dkwX12_element_11 ++ []
def dkwX12_element_10 : List UInt8 := [167, 0, 44, 42, 89, 180, 0, 72, 21, 6, 96, 181, 0, 72, 42, 180, 0, 21, 42, 180, 0, 40, 4, 100]
abbrev dktX12_element_10 : List UInt8 := dkwX12_element_10 ++ dktX12_element_11
def dkwX12_element_9 : List UInt8 := [21, 6, 96, 21, 6, 2, 160, 0, 7, 28, 167, 0, 10, 42, 180, 0, 72, 21, 6, 96, 182, 0, 106]
abbrev dktX12_element_9 : List UInt8 := dkwX12_element_9 ++ dktX12_element_10
def dkwX12_element_8 : List UInt8 := [180, 0, 72, 79, 21, 5, 153, 0, 44, 42, 21, 6, 2, 160, 0, 7, 2, 167, 0, 10, 42, 180, 0, 72]
abbrev dktX12_element_8 : List UInt8 := dkwX12_element_8 ++ dktX12_element_9
def dkwX12_element_7 : List UInt8 := [122, 16, 28, 120, 21, 4, 128, 21, 5, 182, 0, 102, 42, 180, 0, 18, 42, 180, 0, 40, 4, 100, 42]
abbrev dktX12_element_7 : List UInt8 := dkwX12_element_7 ++ dktX12_element_8
def dkwX12_element_6 : List UInt8 := [159, 0, 20, 21, 6, 28, 42, 180, 0, 72, 100, 164, 0, 9, 42, 4, 182, 0, 82, 172, 42, 29, 16, 6]
abbrev dktX12_element_6 : List UInt8 := dkwX12_element_6 ++ dktX12_element_7
def dkwX12_element_5 : List UInt8 := [3, 54, 5, 42, 28, 21, 5, 182, 0, 98, 54, 6, 42, 180, 0, 44, 153, 0, 5, 3, 172, 21, 6, 2]
abbrev dktX12_element_5 : List UInt8 := dkwX12_element_5 ++ dktX12_element_6
def dkwX12_element_4 : List UInt8 := [182, 0, 95, 54, 4, 21, 4, 2, 160, 0, 5, 3, 172, 29, 16, 32, 126, 153, 0, 7, 4, 167, 0, 4]
abbrev dktX12_element_4 : List UInt8 := dkwX12_element_4 ++ dktX12_element_5
def dkwX12_element_3 : List UInt8 := [154, 0, 9, 42, 7, 182, 0, 82, 172, 29, 16, 31, 126, 54, 4, 21, 4, 16, 31, 160, 0, 18, 42, 28]
abbrev dktX12_element_3 : List UInt8 := dkwX12_element_3 ++ dktX12_element_4
def dkwX12_element_2 : List UInt8 := [180, 0, 72, 182, 0, 92, 62, 42, 89, 180, 0, 72, 4, 96, 181, 0, 72, 29, 17, 0, 223, 126]
abbrev dktX12_element_2 : List UInt8 := dkwX12_element_2 ++ dktX12_element_3
def dkwX12_element_1 : List UInt8 := [182, 0, 82, 172, 42, 180, 0, 60, 27, 164, 0, 9, 42, 8, 182, 0, 82, 172, 42, 180, 0, 63, 42]
abbrev dktX12_element_1 : List UInt8 := dkwX12_element_1 ++ dktX12_element_2
def dkwX12_element_0 : List UInt8 := [42, 42, 180, 0, 72, 181, 0, 47, 42, 182, 0, 89, 61, 42, 180, 0, 72, 28, 161, 0, 9, 42, 4]
abbrev dktX12_element_0 : List UInt8 := dkwX12_element_0 ++ dktX12_element_1
theorem dksX12_element_0 : cX12_element.data.toList.drop 0 = dktX12_element_0 := by decide +kernel
theorem dksX12_element_1 : cX12_element.data.toList.drop 23 = dktX12_element_1 := dk_seg dksX12_element_0 23 rfl rfl
theorem dksX12_element_2 : cX12_element.data.toList.drop 46 = dktX12_element_2 := dk_seg dksX12_element_1 23 rfl rfl
theorem dksX12_element_3 : cX12_element.data.toList.drop 68 = dktX12_element_3 := dk_seg dksX12_element_2 22 rfl rfl
theorem dksX12_element_4 : cX12_element.data.toList.drop 92 = dktX12_element_4 := dk_seg dksX12_element_3 24 rfl rfl
theorem dksX12_element_5 : cX12_element.data.toList.drop 116 = dktX12_element_5 := dk_seg dksX12_element_4 24 rfl rfl
theorem dksX12_element_6 : cX12_element.data.toList.drop 140 = dktX12_element_6 := dk_seg dksX12_element_5 24 rfl rfl
theorem dksX12_element_7 : cX12_element.data.toList.drop 164 = dktX12_element_7 := dk_seg dksX12_element_6 24 rfl rfl
theorem dksX12_element_8 : cX12_element.data.toList.drop 187 = dktX12_element_8 := dk_seg dksX12_element_7 23 rfl rfl
theorem dksX12_element_9 : cX12_element.data.toList.drop 211 = dktX12_element_9 := dk_seg dksX12_element_8 24 rfl rfl
theorem dksX12_element_10 : cX12_element.data.toList.drop 234 = dktX12_element_10 := dk_seg dksX12_element_9 23 rfl rfl
theorem dksX12_element_11 : cX12_element.data.toList.drop 258 = dktX12_element_11 := dk_seg dksX12_element_10 24 rfl rfl
theorem dX12_element_0 : decode cX12_element 0 = .ok (.aload_n 0, 1) := dk_42 (dk_at dksX12_element_0 0 rfl rfl)
theorem dX12_element_1 : decode cX12_element 1 = .ok (.aload_n 0, 1) := dk_42 (dk_at dksX12_element_0 1 rfl rfl)
theorem dX12_element_2 : decode cX12_element 2 = .ok (.getfield 72, 3) := dk_180 0 72 (dk_at dksX12_element_0 2 rfl rfl)
theorem dX12_element_5 : decode cX12_element 5 = .ok (.putfield 47, 3) := dk_181 0 47 (dk_at dksX12_element_0 5 rfl rfl)
theorem dX12_element_8 : decode cX12_element 8 = .ok (.aload_n 0, 1) := dk_42 (dk_at dksX12_element_0 8 rfl rfl)
theorem dX12_element_9 : decode cX12_element 9 = .ok (.invokevirtual 89, 3) := dk_182 0 89 (dk_at dksX12_element_0 9 rfl rfl)
theorem dX12_element_12 : decode cX12_element 12 = .ok (.istore_n 2, 1) := dk_61 (dk_at dksX12_element_0 12 rfl rfl)
theorem dX12_element_13 : decode cX12_element 13 = .ok (.aload_n 0, 1) := dk_42 (dk_at dksX12_element_0 13 rfl rfl)
theorem dX12_element_14 : decode cX12_element 14 = .ok (.getfield 72, 3) := dk_180 0 72 (dk_at dksX12_element_0 14 rfl rfl)
theorem dX12_element_17 : decode cX12_element 17 = .ok (.iload_n 2, 1) := dk_28 (dk_at dksX12_element_0 17 rfl rfl)
theorem dX12_element_18 : decode cX12_element 18 = .ok (.if_icmp .lt 9, 3) := dk_161 0 9 (dk_at dksX12_element_0 18 rfl rfl)
theorem dX12_element_21 : decode cX12_element 21 = .ok (.aload_n 0, 1) := dk_42 (dk_at dksX12_element_0 21 rfl rfl)
theorem dX12_element_22 : decode cX12_element 22 = .ok (.iconst 1, 1) := dk_4 (dk_at dksX12_element_0 22 rfl rfl)
theorem dX12_element_23 : decode cX12_element 23 = .ok (.invokevirtual 82, 3) := dk_182 0 82 (dk_at dksX12_element_1 0 rfl rfl)
theorem dX12_element_26 : decode cX12_element 26 = .ok (.ireturn, 1) := dk_172 (dk_at dksX12_element_1 3 rfl rfl)
theorem dX12_element_27 : decode cX12_element 27 = .ok (.aload_n 0, 1) := dk_42 (dk_at dksX12_element_1 4 rfl rfl)
theorem dX12_element_28 : decode cX12_element 28 = .ok (.getfield 60, 3) := dk_180 0 60 (dk_at dksX12_element_1 5 rfl rfl)
theorem dX12_element_31 : decode cX12_element 31 = .ok (.iload_n 1, 1) := dk_27 (dk_at dksX12_element_1 8 rfl rfl)
theorem dX12_element_32 : decode cX12_element 32 = .ok (.if_icmp .le 9, 3) := dk_164 0 9 (dk_at dksX12_element_1 9 rfl rfl)
theorem dX12_element_35 : decode cX12_element 35 = .ok (.aload_n 0, 1) := dk_42 (dk_at dksX12_element_1 12 rfl rfl)
theorem dX12_element_36 : decode cX12_element 36 = .ok (.iconst 5, 1) := dk_8 (dk_at dksX12_element_1 13 rfl rfl)
theorem dX12_element_37 : decode cX12_element 37 = .ok (.invokevirtual 82, 3) := dk_182 0 82 (dk_at dksX12_element_1 14 rfl rfl)
theorem dX12_element_40 : decode cX12_element 40 = .ok (.ireturn, 1) := dk_172 (dk_at dksX12_element_1 17 rfl rfl)
theorem dX12_element_41 : decode cX12_element 41 = .ok (.aload_n 0, 1) := dk_42 (dk_at dksX12_element_1 18 rfl rfl)
theorem dX12_element_42 : decode cX12_element 42 = .ok (.getfield 63, 3) := dk_180 0 63 (dk_at dksX12_element_1 19 rfl rfl)
theorem dX12_element_45 : decode cX12_element 45 = .ok (.aload_n 0, 1) := dk_42 (dk_at dksX12_element_1 22 rfl rfl)
theorem dX12_element_46 : decode cX12_element 46 = .ok (.getfield 72, 3) := dk_180 0 72 (dk_at dksX12_element_2 0 rfl rfl)
theorem dX12_element_49 : decode cX12_element 49 = .ok (.invokevirtual 92, 3) := dk_182 0 92 (dk_at dksX12_element_2 3 rfl rfl)
theorem dX12_element_52 : decode cX12_element 52 = .ok (.istore_n 3, 1) := dk_62 (dk_at dksX12_element_2 6 rfl rfl)
theorem dX12_element_53 : decode cX12_element 53 = .ok (.aload_n 0, 1) := dk_42 (dk_at dksX12_element_2 7 rfl rfl)
theorem dX12_element_54 : decode cX12_element 54 = .ok (.dup, 1) := dk_89 (dk_at dksX12_element_2 8 rfl rfl)
theorem dX12_element_55 : decode cX12_element 55 = .ok (.getfield 72, 3) := dk_180 0 72 (dk_at dksX12_element_2 9 rfl rfl)
theorem dX12_element_58 : decode cX12_element 58 = .ok (.iconst 1, 1) := dk_4 (dk_at dksX12_element_2 12 rfl rfl)
theorem dX12_element_59 : decode cX12_element 59 = .ok (.iadd, 1) := dk_96 (dk_at dksX12_element_2 13 rfl rfl)
theorem dX12_element_60 : decode cX12_element 60 = .ok (.putfield 72, 3) := dk_181 0 72 (dk_at dksX12_element_2 14 rfl rfl)
theorem dX12_element_63 : decode cX12_element 63 = .ok (.iload_n 3, 1) := dk_29 (dk_at dksX12_element_2 17 rfl rfl)
theorem dX12_element_64 : decode cX12_element 64 = .ok (.sipush 223, 3) := dk_17 0 223 (dk_at dksX12_element_2 18 rfl rfl)
theorem dX12_element_67 : decode cX12_element 67 = .ok (.iand, 1) := dk_126 (dk_at dksX12_element_2 21 rfl rfl)
theorem dX12_element_68 : decode cX12_element 68 = .ok (.ifCond .ne 9, 3) := dk_154 0 9 (dk_at dksX12_element_3 0 rfl rfl)
theorem dX12_element_71 : decode cX12_element 71 = .ok (.aload_n 0, 1) := dk_42 (dk_at dksX12_element_3 3 rfl rfl)
theorem dX12_element_72 : decode cX12_element 72 = .ok (.iconst 4, 1) := dk_7 (dk_at dksX12_element_3 4 rfl rfl)
theorem dX12_element_73 : decode cX12_element 73 = .ok (.invokevirtual 82, 3) := dk_182 0 82 (dk_at dksX12_element_3 5 rfl rfl)
theorem dX12_element_76 : decode cX12_element 76 = .ok (.ireturn, 1) := dk_172 (dk_at dksX12_element_3 8 rfl rfl)
theorem dX12_element_77 : decode cX12_element 77 = .ok (.iload_n 3, 1) := dk_29 (dk_at dksX12_element_3 9 rfl rfl)
theorem dX12_element_78 : decode cX12_element 78 = .ok (.bipush 31, 2) := dk_16 31 (dk_at dksX12_element_3 10 rfl rfl)
theorem dX12_element_80 : decode cX12_element 80 = .ok (.iand, 1) := dk_126 (dk_at dksX12_element_3 12 rfl rfl)
theorem dX12_element_81 : decode cX12_element 81 = .ok (.istore 4, 2) := dk_54 4 (dk_at dksX12_element_3 13 rfl rfl)
theorem dX12_element_83 : decode cX12_element 83 = .ok (.iload 4, 2) := dk_21 4 (dk_at dksX12_element_3 15 rfl rfl)
theorem dX12_element_85 : decode cX12_element 85 = .ok (.bipush 31, 2) := dk_16 31 (dk_at dksX12_element_3 17 rfl rfl)
theorem dX12_element_87 : decode cX12_element 87 = .ok (.if_icmp .ne 18, 3) := dk_160 0 18 (dk_at dksX12_element_3 19 rfl rfl)
theorem dX12_element_90 : decode cX12_element 90 = .ok (.aload_n 0, 1) := dk_42 (dk_at dksX12_element_3 22 rfl rfl)
theorem dX12_element_91 : decode cX12_element 91 = .ok (.iload_n 2, 1) := dk_28 (dk_at dksX12_element_3 23 rfl rfl)
theorem dX12_element_92 : decode cX12_element 92 = .ok (.invokevirtual 95, 3) := dk_182 0 95 (dk_at dksX12_element_4 0 rfl rfl)
theorem dX12_element_95 : decode cX12_element 95 = .ok (.istore 4, 2) := dk_54 4 (dk_at dksX12_element_4 3 rfl rfl)
theorem dX12_element_97 : decode cX12_element 97 = .ok (.iload 4, 2) := dk_21 4 (dk_at dksX12_element_4 5 rfl rfl)
theorem dX12_element_99 : decode cX12_element 99 = .ok (.iconst (-1), 1) := dk_2 (dk_at dksX12_element_4 7 rfl rfl)
theorem dX12_element_100 : decode cX12_element 100 = .ok (.if_icmp .ne 5, 3) := dk_160 0 5 (dk_at dksX12_element_4 8 rfl rfl)
theorem dX12_element_103 : decode cX12_element 103 = .ok (.iconst 0, 1) := dk_3 (dk_at dksX12_element_4 11 rfl rfl)
theorem dX12_element_104 : decode cX12_element 104 = .ok (.ireturn, 1) := dk_172 (dk_at dksX12_element_4 12 rfl rfl)
theorem dX12_element_105 : decode cX12_element 105 = .ok (.iload_n 3, 1) := dk_29 (dk_at dksX12_element_4 13 rfl rfl)
theorem dX12_element_106 : decode cX12_element 106 = .ok (.bipush 32, 2) := dk_16 32 (dk_at dksX12_element_4 14 rfl rfl)
theorem dX12_element_108 : decode cX12_element 108 = .ok (.iand, 1) := dk_126 (dk_at dksX12_element_4 16 rfl rfl)
theorem dX12_element_109 : decode cX12_element 109 = .ok (.ifCond .eq 7, 3) := dk_153 0 7 (dk_at dksX12_element_4 17 rfl rfl)
theorem dX12_element_112 : decode cX12_element 112 = .ok (.iconst 1, 1) := dk_4 (dk_at dksX12_element_4 20 rfl rfl)
theorem dX12_element_113 : decode cX12_element 113 = .ok (.goto 4, 3) := dk_167 0 4 (dk_at dksX12_element_4 21 rfl rfl)
theorem dX12_element_116 : decode cX12_element 116 = .ok (.iconst 0, 1) := dk_3 (dk_at dksX12_element_5 0 rfl rfl)
theorem dX12_element_117 : decode cX12_element 117 = .ok (.istore 5, 2) := dk_54 5 (dk_at dksX12_element_5 1 rfl rfl)
theorem dX12_element_119 : decode cX12_element 119 = .ok (.aload_n 0, 1) := dk_42 (dk_at dksX12_element_5 3 rfl rfl)
theorem dX12_element_120 : decode cX12_element 120 = .ok (.iload_n 2, 1) := dk_28 (dk_at dksX12_element_5 4 rfl rfl)
theorem dX12_element_121 : decode cX12_element 121 = .ok (.iload 5, 2) := dk_21 5 (dk_at dksX12_element_5 5 rfl rfl)
theorem dX12_element_123 : decode cX12_element 123 = .ok (.invokevirtual 98, 3) := dk_182 0 98 (dk_at dksX12_element_5 7 rfl rfl)
theorem dX12_element_126 : decode cX12_element 126 = .ok (.istore 6, 2) := dk_54 6 (dk_at dksX12_element_5 10 rfl rfl)
theorem dX12_element_128 : decode cX12_element 128 = .ok (.aload_n 0, 1) := dk_42 (dk_at dksX12_element_5 12 rfl rfl)
theorem dX12_element_129 : decode cX12_element 129 = .ok (.getfield 44, 3) := dk_180 0 44 (dk_at dksX12_element_5 13 rfl rfl)
theorem dX12_element_132 : decode cX12_element 132 = .ok (.ifCond .eq 5, 3) := dk_153 0 5 (dk_at dksX12_element_5 16 rfl rfl)
theorem dX12_element_135 : decode cX12_element 135 = .ok (.iconst 0, 1) := dk_3 (dk_at dksX12_element_5 19 rfl rfl)
theorem dX12_element_136 : decode cX12_element 136 = .ok (.ireturn, 1) := dk_172 (dk_at dksX12_element_5 20 rfl rfl)
theorem dX12_element_137 : decode cX12_element 137 = .ok (.iload 6, 2) := dk_21 6 (dk_at dksX12_element_5 21 rfl rfl)
theorem dX12_element_139 : decode cX12_element 139 = .ok (.iconst (-1), 1) := dk_2 (dk_at dksX12_element_5 23 rfl rfl)
theorem dX12_element_140 : decode cX12_element 140 = .ok (.if_icmp .eq 20, 3) := dk_159 0 20 (dk_at dksX12_element_6 0 rfl rfl)
theorem dX12_element_143 : decode cX12_element 143 = .ok (.iload 6, 2) := dk_21 6 (dk_at dksX12_element_6 3 rfl rfl)
theorem dX12_element_145 : decode cX12_element 145 = .ok (.iload_n 2, 1) := dk_28 (dk_at dksX12_element_6 5 rfl rfl)
theorem dX12_element_146 : decode cX12_element 146 = .ok (.aload_n 0, 1) := dk_42 (dk_at dksX12_element_6 6 rfl rfl)
theorem dX12_element_147 : decode cX12_element 147 = .ok (.getfield 72, 3) := dk_180 0 72 (dk_at dksX12_element_6 7 rfl rfl)
theorem dX12_element_150 : decode cX12_element 150 = .ok (.isub, 1) := dk_100 (dk_at dksX12_element_6 10 rfl rfl)
theorem dX12_element_151 : decode cX12_element 151 = .ok (.if_icmp .le 9, 3) := dk_164 0 9 (dk_at dksX12_element_6 11 rfl rfl)
theorem dX12_element_154 : decode cX12_element 154 = .ok (.aload_n 0, 1) := dk_42 (dk_at dksX12_element_6 14 rfl rfl)
theorem dX12_element_155 : decode cX12_element 155 = .ok (.iconst 1, 1) := dk_4 (dk_at dksX12_element_6 15 rfl rfl)
theorem dX12_element_156 : decode cX12_element 156 = .ok (.invokevirtual 82, 3) := dk_182 0 82 (dk_at dksX12_element_6 16 rfl rfl)
theorem dX12_element_159 : decode cX12_element 159 = .ok (.ireturn, 1) := dk_172 (dk_at dksX12_element_6 19 rfl rfl)
theorem dX12_element_160 : decode cX12_element 160 = .ok (.aload_n 0, 1) := dk_42 (dk_at dksX12_element_6 20 rfl rfl)
theorem dX12_element_161 : decode cX12_element 161 = .ok (.iload_n 3, 1) := dk_29 (dk_at dksX12_element_6 21 rfl rfl)
theorem dX12_element_162 : decode cX12_element 162 = .ok (.bipush 6, 2) := dk_16 6 (dk_at dksX12_element_6 22 rfl rfl)
theorem dX12_element_164 : decode cX12_element 164 = .ok (.ishr, 1) := dk_122 (dk_at dksX12_element_7 0 rfl rfl)
theorem dX12_element_165 : decode cX12_element 165 = .ok (.bipush 28, 2) := dk_16 28 (dk_at dksX12_element_7 1 rfl rfl)
theorem dX12_element_167 : decode cX12_element 167 = .ok (.ishl, 1) := dk_120 (dk_at dksX12_element_7 3 rfl rfl)
theorem dX12_element_168 : decode cX12_element 168 = .ok (.iload 4, 2) := dk_21 4 (dk_at dksX12_element_7 4 rfl rfl)
theorem dX12_element_170 : decode cX12_element 170 = .ok (.ior, 1) := dk_128 (dk_at dksX12_element_7 6 rfl rfl)
theorem dX12_element_171 : decode cX12_element 171 = .ok (.iload 5, 2) := dk_21 5 (dk_at dksX12_element_7 7 rfl rfl)
theorem dX12_element_173 : decode cX12_element 173 = .ok (.invokevirtual 102, 3) := dk_182 0 102 (dk_at dksX12_element_7 9 rfl rfl)
theorem dX12_element_176 : decode cX12_element 176 = .ok (.aload_n 0, 1) := dk_42 (dk_at dksX12_element_7 12 rfl rfl)
theorem dX12_element_177 : decode cX12_element 177 = .ok (.getfield 18, 3) := dk_180 0 18 (dk_at dksX12_element_7 13 rfl rfl)
theorem dX12_element_180 : decode cX12_element 180 = .ok (.aload_n 0, 1) := dk_42 (dk_at dksX12_element_7 16 rfl rfl)
theorem dX12_element_181 : decode cX12_element 181 = .ok (.getfield 40, 3) := dk_180 0 40 (dk_at dksX12_element_7 17 rfl rfl)
theorem dX12_element_184 : decode cX12_element 184 = .ok (.iconst 1, 1) := dk_4 (dk_at dksX12_element_7 20 rfl rfl)
theorem dX12_element_185 : decode cX12_element 185 = .ok (.isub, 1) := dk_100 (dk_at dksX12_element_7 21 rfl rfl)
theorem dX12_element_186 : decode cX12_element 186 = .ok (.aload_n 0, 1) := dk_42 (dk_at dksX12_element_7 22 rfl rfl)
theorem dX12_element_187 : decode cX12_element 187 = .ok (.getfield 72, 3) := dk_180 0 72 (dk_at dksX12_element_8 0 rfl rfl)
theorem dX12_element_190 : decode cX12_element 190 = .ok (.iastore, 1) := dk_79 (dk_at dksX12_element_8 3 rfl rfl)
theorem dX12_element_191 : decode cX12_element 191 = .ok (.iload 5, 2) := dk_21 5 (dk_at dksX12_element_8 4 rfl rfl)
theorem dX12_element_193 : decode cX12_element 193 = .ok (.ifCond .eq 44, 3) := dk_153 0 44 (dk_at dksX12_element_8 6 rfl rfl)
theorem dX12_element_196 : decode cX12_element 196 = .ok (.aload_n 0, 1) := dk_42 (dk_at dksX12_element_8 9 rfl rfl)
theorem dX12_element_197 : decode cX12_element 197 = .ok (.iload 6, 2) := dk_21 6 (dk_at dksX12_element_8 10 rfl rfl)
theorem dX12_element_199 : decode cX12_element 199 = .ok (.iconst (-1), 1) := dk_2 (dk_at dksX12_element_8 12 rfl rfl)
theorem dX12_element_200 : decode cX12_element 200 = .ok (.if_icmp .ne 7, 3) := dk_160 0 7 (dk_at dksX12_element_8 13 rfl rfl)
theorem dX12_element_203 : decode cX12_element 203 = .ok (.iconst (-1), 1) := dk_2 (dk_at dksX12_element_8 16 rfl rfl)
theorem dX12_element_204 : decode cX12_element 204 = .ok (.goto 10, 3) := dk_167 0 10 (dk_at dksX12_element_8 17 rfl rfl)
theorem dX12_element_207 : decode cX12_element 207 = .ok (.aload_n 0, 1) := dk_42 (dk_at dksX12_element_8 20 rfl rfl)
theorem dX12_element_208 : decode cX12_element 208 = .ok (.getfield 72, 3) := dk_180 0 72 (dk_at dksX12_element_8 21 rfl rfl)
theorem dX12_element_211 : decode cX12_element 211 = .ok (.iload 6, 2) := dk_21 6 (dk_at dksX12_element_9 0 rfl rfl)
theorem dX12_element_213 : decode cX12_element 213 = .ok (.iadd, 1) := dk_96 (dk_at dksX12_element_9 2 rfl rfl)
theorem dX12_element_214 : decode cX12_element 214 = .ok (.iload 6, 2) := dk_21 6 (dk_at dksX12_element_9 3 rfl rfl)
theorem dX12_element_216 : decode cX12_element 216 = .ok (.iconst (-1), 1) := dk_2 (dk_at dksX12_element_9 5 rfl rfl)
theorem dX12_element_217 : decode cX12_element 217 = .ok (.if_icmp .ne 7, 3) := dk_160 0 7 (dk_at dksX12_element_9 6 rfl rfl)
theorem dX12_element_220 : decode cX12_element 220 = .ok (.iload_n 2, 1) := dk_28 (dk_at dksX12_element_9 9 rfl rfl)
theorem dX12_element_221 : decode cX12_element 221 = .ok (.goto 10, 3) := dk_167 0 10 (dk_at dksX12_element_9 10 rfl rfl)
theorem dX12_element_224 : decode cX12_element 224 = .ok (.aload_n 0, 1) := dk_42 (dk_at dksX12_element_9 13 rfl rfl)
theorem dX12_element_225 : decode cX12_element 225 = .ok (.getfield 72, 3) := dk_180 0 72 (dk_at dksX12_element_9 14 rfl rfl)
theorem dX12_element_228 : decode cX12_element 228 = .ok (.iload 6, 2) := dk_21 6 (dk_at dksX12_element_9 17 rfl rfl)
theorem dX12_element_230 : decode cX12_element 230 = .ok (.iadd, 1) := dk_96 (dk_at dksX12_element_9 19 rfl rfl)
theorem dX12_element_231 : decode cX12_element 231 = .ok (.invokevirtual 106, 3) := dk_182 0 106 (dk_at dksX12_element_9 20 rfl rfl)
theorem dX12_element_234 : decode cX12_element 234 = .ok (.goto 44, 3) := dk_167 0 44 (dk_at dksX12_element_10 0 rfl rfl)
theorem dX12_element_237 : decode cX12_element 237 = .ok (.aload_n 0, 1) := dk_42 (dk_at dksX12_element_10 3 rfl rfl)
theorem dX12_element_238 : decode cX12_element 238 = .ok (.dup, 1) := dk_89 (dk_at dksX12_element_10 4 rfl rfl)
theorem dX12_element_239 : decode cX12_element 239 = .ok (.getfield 72, 3) := dk_180 0 72 (dk_at dksX12_element_10 5 rfl rfl)
theorem dX12_element_242 : decode cX12_element 242 = .ok (.iload 6, 2) := dk_21 6 (dk_at dksX12_element_10 8 rfl rfl)
theorem dX12_element_244 : decode cX12_element 244 = .ok (.iadd, 1) := dk_96 (dk_at dksX12_element_10 10 rfl rfl)
theorem dX12_element_245 : decode cX12_element 245 = .ok (.putfield 72, 3) := dk_181 0 72 (dk_at dksX12_element_10 11 rfl rfl)
theorem dX12_element_248 : decode cX12_element 248 = .ok (.aload_n 0, 1) := dk_42 (dk_at dksX12_element_10 14 rfl rfl)
theorem dX12_element_249 : decode cX12_element 249 = .ok (.getfield 21, 3) := dk_180 0 21 (dk_at dksX12_element_10 15 rfl rfl)
theorem dX12_element_252 : decode cX12_element 252 = .ok (.aload_n 0, 1) := dk_42 (dk_at dksX12_element_10 18 rfl rfl)
theorem dX12_element_253 : decode cX12_element 253 = .ok (.getfield 40, 3) := dk_180 0 40 (dk_at dksX12_element_10 19 rfl rfl)
theorem dX12_element_256 : decode cX12_element 256 = .ok (.iconst 1, 1) := dk_4 (dk_at dksX12_element_10 22 rfl rfl)
theorem dX12_element_257 : decode cX12_element 257 = .ok (.isub, 1) := dk_100 (dk_at dksX12_element_10 23 rfl rfl)
theorem dX12_element_258 : decode cX12_element 258 = .ok (.aload_n 0, 1) := dk_42 (dk_at dksX12_element_11 0 rfl rfl)
theorem dX12_element_259 : decode cX12_element 259 = .ok (.getfield 72, 3) := dk_180 0 72 (dk_at dksX12_element_11 1 rfl rfl)
theorem dX12_element_262 : decode cX12_element 262 = .ok (.iastore, 1) := dk_79 (dk_at dksX12_element_11 4 rfl rfl)
theorem dX12_element_263 : decode cX12_element 263 = .ok (.aload_n 0, 1) := dk_42 (dk_at dksX12_element_11 5 rfl rfl)
theorem dX12_element_264 : decode cX12_element 264 = .ok (.getfield 24, 3) := dk_180 0 24 (dk_at dksX12_element_11 6 rfl rfl)
theorem dX12_element_267 : decode cX12_element 267 = .ok (.aload_n 0, 1) := dk_42 (dk_at dksX12_element_11 9 rfl rfl)
theorem dX12_element_268 : decode cX12_element 268 = .ok (.getfield 40, 3) := dk_180 0 40 (dk_at dksX12_element_11 10 rfl rfl)
theorem dX12_element_271 : decode cX12_element 271 = .ok (.iconst 1, 1) := dk_4 (dk_at dksX12_element_11 13 rfl rfl)
theorem dX12_element_272 : decode cX12_element 272 = .ok (.isub, 1) := dk_100 (dk_at dksX12_element_11 14 rfl rfl)
theorem dX12_element_273 : decode cX12_element 273 = .ok (.aload_n 0, 1) := dk_42 (dk_at dksX12_element_11 15 rfl rfl)
theorem dX12_element_274 : decode cX12_element 274 = .ok (.getfield 40, 3) := dk_180 0 40 (dk_at dksX12_element_11 16 rfl rfl)
theorem dX12_element_277 : decode cX12_element 277 = .ok (.iastore, 1) := dk_79 (dk_at dksX12_element_11 19 rfl rfl)
theorem dX12_element_278 : decode cX12_element 278 = .ok (.iconst 1, 1) := dk_4 (dk_at dksX12_element_11 20 rfl rfl)
theorem dX12_element_279 : decode cX12_element 279 = .ok (.ireturn, 1) := dk_172 (dk_at dksX12_element_11 21 rfl rfl)
abbrev cX12_bound : ByteArray := prog_3_method_16_code
def yX12_bound : MethodName := ⟨RX12, "bound", "()I"⟩
def dkwX12_bound_1 : List UInt8 := [180, 0, 60, 4, 100, 46, 172]
abbrev dktX12_bound_1 : List UInt8 := dkwX12_bound_1 ++ []
def dkwX12_bound_0 : List UInt8 := [42, 180, 0, 60, 154, 0, 13, 42, 180, 0, 63, 182, 0, 67, 167, 0, 14, 42, 180, 0, 37, 42]
abbrev dktX12_bound_0 : List UInt8 := dkwX12_bound_0 ++ dktX12_bound_1
theorem dksX12_bound_0 : cX12_bound.data.toList.drop 0 = dktX12_bound_0 := by decide +kernel
theorem dksX12_bound_1 : cX12_bound.data.toList.drop 22 = dktX12_bound_1 := dk_seg dksX12_bound_0 22 rfl rfl
theorem dX12_bound_0 : decode cX12_bound 0 = .ok (.aload_n 0, 1) := dk_42 (dk_at dksX12_bound_0 0 rfl rfl)
theorem dX12_bound_1 : decode cX12_bound 1 = .ok (.getfield 60, 3) := dk_180 0 60 (dk_at dksX12_bound_0 1 rfl rfl)
theorem dX12_bound_4 : decode cX12_bound 4 = .ok (.ifCond .ne 13, 3) := dk_154 0 13 (dk_at dksX12_bound_0 4 rfl rfl)
theorem dX12_bound_7 : decode cX12_bound 7 = .ok (.aload_n 0, 1) := dk_42 (dk_at dksX12_bound_0 7 rfl rfl)
theorem dX12_bound_8 : decode cX12_bound 8 = .ok (.getfield 63, 3) := dk_180 0 63 (dk_at dksX12_bound_0 8 rfl rfl)
theorem dX12_bound_11 : decode cX12_bound 11 = .ok (.invokevirtual 67, 3) := dk_182 0 67 (dk_at dksX12_bound_0 11 rfl rfl)
theorem dX12_bound_14 : decode cX12_bound 14 = .ok (.goto 14, 3) := dk_167 0 14 (dk_at dksX12_bound_0 14 rfl rfl)
theorem dX12_bound_17 : decode cX12_bound 17 = .ok (.aload_n 0, 1) := dk_42 (dk_at dksX12_bound_0 17 rfl rfl)
theorem dX12_bound_18 : decode cX12_bound 18 = .ok (.getfield 37, 3) := dk_180 0 37 (dk_at dksX12_bound_0 18 rfl rfl)
theorem dX12_bound_21 : decode cX12_bound 21 = .ok (.aload_n 0, 1) := dk_42 (dk_at dksX12_bound_0 21 rfl rfl)
theorem dX12_bound_22 : decode cX12_bound 22 = .ok (.getfield 60, 3) := dk_180 0 60 (dk_at dksX12_bound_1 0 rfl rfl)
theorem dX12_bound_25 : decode cX12_bound 25 = .ok (.iconst 1, 1) := dk_4 (dk_at dksX12_bound_1 3 rfl rfl)
theorem dX12_bound_26 : decode cX12_bound 26 = .ok (.isub, 1) := dk_100 (dk_at dksX12_bound_1 4 rfl rfl)
theorem dX12_bound_27 : decode cX12_bound 27 = .ok (.iaload, 1) := dk_46 (dk_at dksX12_bound_1 5 rfl rfl)
theorem dX12_bound_28 : decode cX12_bound 28 = .ok (.ireturn, 1) := dk_172 (dk_at dksX12_bound_1 6 rfl rfl)
abbrev cX12_wrong : ByteArray := prog_3_method_11_code
def yX12_wrong : MethodName := ⟨RX12, "wrong", "(I)Z"⟩
def dkwX12_wrong_0 : List UInt8 := [42, 27, 181, 0, 44, 3, 172]
abbrev dktX12_wrong_0 : List UInt8 := dkwX12_wrong_0 ++ []
theorem dksX12_wrong_0 : cX12_wrong.data.toList.drop 0 = dktX12_wrong_0 := by decide +kernel
theorem dX12_wrong_0 : decode cX12_wrong 0 = .ok (.aload_n 0, 1) := dk_42 (dk_at dksX12_wrong_0 0 rfl rfl)
theorem dX12_wrong_1 : decode cX12_wrong 1 = .ok (.iload_n 1, 1) := dk_27 (dk_at dksX12_wrong_0 1 rfl rfl)
theorem dX12_wrong_2 : decode cX12_wrong 2 = .ok (.putfield 44, 3) := dk_181 0 44 (dk_at dksX12_wrong_0 2 rfl rfl)
theorem dX12_wrong_5 : decode cX12_wrong 5 = .ok (.iconst 0, 1) := dk_3 (dk_at dksX12_wrong_0 5 rfl rfl)
theorem dX12_wrong_6 : decode cX12_wrong 6 = .ok (.ireturn, 1) := dk_172 (dk_at dksX12_wrong_0 6 rfl rfl)
abbrev cX12_tagNumber : ByteArray := prog_3_method_20_code
def yX12_tagNumber : MethodName := ⟨RX12, "tagNumber", "(I)I"⟩
def dkwX12_tagNumber_5 : List UInt8 := [2, 172, 28, 172]
abbrev dktX12_tagNumber_5 : List UInt8 := dkwX12_tagNumber_5 ++ []
def dkwX12_tagNumber_4 : List UInt8 := [4, 167, 0, 4, 3, 62, 132, 4, 1, 167, 255, 159, 28, 16, 31, 162, 0, 11, 42, 5, 182, 0, 82, 87]
abbrev dktX12_tagNumber_4 : List UInt8 := dkwX12_tagNumber_4 ++ dktX12_tagNumber_5
def dkwX12_tagNumber_3 : List UInt8 := [182, 0, 82, 87, 2, 172, 28, 16, 7, 120, 21, 5, 16, 127, 126, 128, 61, 21, 5, 16, 127, 164, 0, 7]
abbrev dktX12_tagNumber_3 : List UInt8 := dkwX12_tagNumber_3 ++ dktX12_tagNumber_4
def dkwX12_tagNumber_2 : List UInt8 := [181, 0, 72, 21, 4, 154, 0, 11, 21, 5, 17, 0, 128, 159, 0, 9, 28, 18, 110, 164, 0, 11, 42, 5]
abbrev dktX12_tagNumber_2 : List UInt8 := dkwX12_tagNumber_2 ++ dktX12_tagNumber_3
def dkwX12_tagNumber_1 : List UInt8 := [87, 2, 172, 42, 180, 0, 63, 42, 180, 0, 72, 182, 0, 92, 54, 5, 42, 89, 180, 0, 72, 4, 96]
abbrev dktX12_tagNumber_1 : List UInt8 := dkwX12_tagNumber_1 ++ dktX12_tagNumber_2
def dkwX12_tagNumber_0 : List UInt8 := [3, 61, 4, 62, 3, 54, 4, 29, 153, 0, 99, 42, 180, 0, 72, 27, 161, 0, 11, 42, 4, 182, 0, 82]
abbrev dktX12_tagNumber_0 : List UInt8 := dkwX12_tagNumber_0 ++ dktX12_tagNumber_1
theorem dksX12_tagNumber_0 : cX12_tagNumber.data.toList.drop 0 = dktX12_tagNumber_0 := by decide +kernel
theorem dksX12_tagNumber_1 : cX12_tagNumber.data.toList.drop 24 = dktX12_tagNumber_1 := dk_seg dksX12_tagNumber_0 24 rfl rfl
theorem dksX12_tagNumber_2 : cX12_tagNumber.data.toList.drop 47 = dktX12_tagNumber_2 := dk_seg dksX12_tagNumber_1 23 rfl rfl
theorem dksX12_tagNumber_3 : cX12_tagNumber.data.toList.drop 71 = dktX12_tagNumber_3 := dk_seg dksX12_tagNumber_2 24 rfl rfl
theorem dksX12_tagNumber_4 : cX12_tagNumber.data.toList.drop 95 = dktX12_tagNumber_4 := dk_seg dksX12_tagNumber_3 24 rfl rfl
theorem dksX12_tagNumber_5 : cX12_tagNumber.data.toList.drop 119 = dktX12_tagNumber_5 := dk_seg dksX12_tagNumber_4 24 rfl rfl
theorem dX12_tagNumber_0 : decode cX12_tagNumber 0 = .ok (.iconst 0, 1) := dk_3 (dk_at dksX12_tagNumber_0 0 rfl rfl)
theorem dX12_tagNumber_1 : decode cX12_tagNumber 1 = .ok (.istore_n 2, 1) := dk_61 (dk_at dksX12_tagNumber_0 1 rfl rfl)
theorem dX12_tagNumber_2 : decode cX12_tagNumber 2 = .ok (.iconst 1, 1) := dk_4 (dk_at dksX12_tagNumber_0 2 rfl rfl)
theorem dX12_tagNumber_3 : decode cX12_tagNumber 3 = .ok (.istore_n 3, 1) := dk_62 (dk_at dksX12_tagNumber_0 3 rfl rfl)
theorem dX12_tagNumber_4 : decode cX12_tagNumber 4 = .ok (.iconst 0, 1) := dk_3 (dk_at dksX12_tagNumber_0 4 rfl rfl)
theorem dX12_tagNumber_5 : decode cX12_tagNumber 5 = .ok (.istore 4, 2) := dk_54 4 (dk_at dksX12_tagNumber_0 5 rfl rfl)
theorem dX12_tagNumber_7 : decode cX12_tagNumber 7 = .ok (.iload_n 3, 1) := dk_29 (dk_at dksX12_tagNumber_0 7 rfl rfl)
theorem dX12_tagNumber_8 : decode cX12_tagNumber 8 = .ok (.ifCond .eq 99, 3) := dk_153 0 99 (dk_at dksX12_tagNumber_0 8 rfl rfl)
theorem dX12_tagNumber_11 : decode cX12_tagNumber 11 = .ok (.aload_n 0, 1) := dk_42 (dk_at dksX12_tagNumber_0 11 rfl rfl)
theorem dX12_tagNumber_12 : decode cX12_tagNumber 12 = .ok (.getfield 72, 3) := dk_180 0 72 (dk_at dksX12_tagNumber_0 12 rfl rfl)
theorem dX12_tagNumber_15 : decode cX12_tagNumber 15 = .ok (.iload_n 1, 1) := dk_27 (dk_at dksX12_tagNumber_0 15 rfl rfl)
theorem dX12_tagNumber_16 : decode cX12_tagNumber 16 = .ok (.if_icmp .lt 11, 3) := dk_161 0 11 (dk_at dksX12_tagNumber_0 16 rfl rfl)
theorem dX12_tagNumber_19 : decode cX12_tagNumber 19 = .ok (.aload_n 0, 1) := dk_42 (dk_at dksX12_tagNumber_0 19 rfl rfl)
theorem dX12_tagNumber_20 : decode cX12_tagNumber 20 = .ok (.iconst 1, 1) := dk_4 (dk_at dksX12_tagNumber_0 20 rfl rfl)
theorem dX12_tagNumber_21 : decode cX12_tagNumber 21 = .ok (.invokevirtual 82, 3) := dk_182 0 82 (dk_at dksX12_tagNumber_0 21 rfl rfl)
theorem dX12_tagNumber_24 : decode cX12_tagNumber 24 = .ok (.pop, 1) := dk_87 (dk_at dksX12_tagNumber_1 0 rfl rfl)
theorem dX12_tagNumber_25 : decode cX12_tagNumber 25 = .ok (.iconst (-1), 1) := dk_2 (dk_at dksX12_tagNumber_1 1 rfl rfl)
theorem dX12_tagNumber_26 : decode cX12_tagNumber 26 = .ok (.ireturn, 1) := dk_172 (dk_at dksX12_tagNumber_1 2 rfl rfl)
theorem dX12_tagNumber_27 : decode cX12_tagNumber 27 = .ok (.aload_n 0, 1) := dk_42 (dk_at dksX12_tagNumber_1 3 rfl rfl)
theorem dX12_tagNumber_28 : decode cX12_tagNumber 28 = .ok (.getfield 63, 3) := dk_180 0 63 (dk_at dksX12_tagNumber_1 4 rfl rfl)
theorem dX12_tagNumber_31 : decode cX12_tagNumber 31 = .ok (.aload_n 0, 1) := dk_42 (dk_at dksX12_tagNumber_1 7 rfl rfl)
theorem dX12_tagNumber_32 : decode cX12_tagNumber 32 = .ok (.getfield 72, 3) := dk_180 0 72 (dk_at dksX12_tagNumber_1 8 rfl rfl)
theorem dX12_tagNumber_35 : decode cX12_tagNumber 35 = .ok (.invokevirtual 92, 3) := dk_182 0 92 (dk_at dksX12_tagNumber_1 11 rfl rfl)
theorem dX12_tagNumber_38 : decode cX12_tagNumber 38 = .ok (.istore 5, 2) := dk_54 5 (dk_at dksX12_tagNumber_1 14 rfl rfl)
theorem dX12_tagNumber_40 : decode cX12_tagNumber 40 = .ok (.aload_n 0, 1) := dk_42 (dk_at dksX12_tagNumber_1 16 rfl rfl)
theorem dX12_tagNumber_41 : decode cX12_tagNumber 41 = .ok (.dup, 1) := dk_89 (dk_at dksX12_tagNumber_1 17 rfl rfl)
theorem dX12_tagNumber_42 : decode cX12_tagNumber 42 = .ok (.getfield 72, 3) := dk_180 0 72 (dk_at dksX12_tagNumber_1 18 rfl rfl)
theorem dX12_tagNumber_45 : decode cX12_tagNumber 45 = .ok (.iconst 1, 1) := dk_4 (dk_at dksX12_tagNumber_1 21 rfl rfl)
theorem dX12_tagNumber_46 : decode cX12_tagNumber 46 = .ok (.iadd, 1) := dk_96 (dk_at dksX12_tagNumber_1 22 rfl rfl)
theorem dX12_tagNumber_47 : decode cX12_tagNumber 47 = .ok (.putfield 72, 3) := dk_181 0 72 (dk_at dksX12_tagNumber_2 0 rfl rfl)
theorem dX12_tagNumber_50 : decode cX12_tagNumber 50 = .ok (.iload 4, 2) := dk_21 4 (dk_at dksX12_tagNumber_2 3 rfl rfl)
theorem dX12_tagNumber_52 : decode cX12_tagNumber 52 = .ok (.ifCond .ne 11, 3) := dk_154 0 11 (dk_at dksX12_tagNumber_2 5 rfl rfl)
theorem dX12_tagNumber_55 : decode cX12_tagNumber 55 = .ok (.iload 5, 2) := dk_21 5 (dk_at dksX12_tagNumber_2 8 rfl rfl)
theorem dX12_tagNumber_57 : decode cX12_tagNumber 57 = .ok (.sipush 128, 3) := dk_17 0 128 (dk_at dksX12_tagNumber_2 10 rfl rfl)
theorem dX12_tagNumber_60 : decode cX12_tagNumber 60 = .ok (.if_icmp .eq 9, 3) := dk_159 0 9 (dk_at dksX12_tagNumber_2 13 rfl rfl)
theorem dX12_tagNumber_63 : decode cX12_tagNumber 63 = .ok (.iload_n 2, 1) := dk_28 (dk_at dksX12_tagNumber_2 16 rfl rfl)
theorem dX12_tagNumber_64 : decode cX12_tagNumber 64 = .ok (.ldc 110, 2) := dk_18 110 (dk_at dksX12_tagNumber_2 17 rfl rfl)
theorem dX12_tagNumber_66 : decode cX12_tagNumber 66 = .ok (.if_icmp .le 11, 3) := dk_164 0 11 (dk_at dksX12_tagNumber_2 19 rfl rfl)
theorem dX12_tagNumber_69 : decode cX12_tagNumber 69 = .ok (.aload_n 0, 1) := dk_42 (dk_at dksX12_tagNumber_2 22 rfl rfl)
theorem dX12_tagNumber_70 : decode cX12_tagNumber 70 = .ok (.iconst 2, 1) := dk_5 (dk_at dksX12_tagNumber_2 23 rfl rfl)
theorem dX12_tagNumber_71 : decode cX12_tagNumber 71 = .ok (.invokevirtual 82, 3) := dk_182 0 82 (dk_at dksX12_tagNumber_3 0 rfl rfl)
theorem dX12_tagNumber_74 : decode cX12_tagNumber 74 = .ok (.pop, 1) := dk_87 (dk_at dksX12_tagNumber_3 3 rfl rfl)
theorem dX12_tagNumber_75 : decode cX12_tagNumber 75 = .ok (.iconst (-1), 1) := dk_2 (dk_at dksX12_tagNumber_3 4 rfl rfl)
theorem dX12_tagNumber_76 : decode cX12_tagNumber 76 = .ok (.ireturn, 1) := dk_172 (dk_at dksX12_tagNumber_3 5 rfl rfl)
theorem dX12_tagNumber_77 : decode cX12_tagNumber 77 = .ok (.iload_n 2, 1) := dk_28 (dk_at dksX12_tagNumber_3 6 rfl rfl)
theorem dX12_tagNumber_78 : decode cX12_tagNumber 78 = .ok (.bipush 7, 2) := dk_16 7 (dk_at dksX12_tagNumber_3 7 rfl rfl)
theorem dX12_tagNumber_80 : decode cX12_tagNumber 80 = .ok (.ishl, 1) := dk_120 (dk_at dksX12_tagNumber_3 9 rfl rfl)
theorem dX12_tagNumber_81 : decode cX12_tagNumber 81 = .ok (.iload 5, 2) := dk_21 5 (dk_at dksX12_tagNumber_3 10 rfl rfl)
theorem dX12_tagNumber_83 : decode cX12_tagNumber 83 = .ok (.bipush 127, 2) := dk_16 127 (dk_at dksX12_tagNumber_3 12 rfl rfl)
theorem dX12_tagNumber_85 : decode cX12_tagNumber 85 = .ok (.iand, 1) := dk_126 (dk_at dksX12_tagNumber_3 14 rfl rfl)
theorem dX12_tagNumber_86 : decode cX12_tagNumber 86 = .ok (.ior, 1) := dk_128 (dk_at dksX12_tagNumber_3 15 rfl rfl)
theorem dX12_tagNumber_87 : decode cX12_tagNumber 87 = .ok (.istore_n 2, 1) := dk_61 (dk_at dksX12_tagNumber_3 16 rfl rfl)
theorem dX12_tagNumber_88 : decode cX12_tagNumber 88 = .ok (.iload 5, 2) := dk_21 5 (dk_at dksX12_tagNumber_3 17 rfl rfl)
theorem dX12_tagNumber_90 : decode cX12_tagNumber 90 = .ok (.bipush 127, 2) := dk_16 127 (dk_at dksX12_tagNumber_3 19 rfl rfl)
theorem dX12_tagNumber_92 : decode cX12_tagNumber 92 = .ok (.if_icmp .le 7, 3) := dk_164 0 7 (dk_at dksX12_tagNumber_3 21 rfl rfl)
theorem dX12_tagNumber_95 : decode cX12_tagNumber 95 = .ok (.iconst 1, 1) := dk_4 (dk_at dksX12_tagNumber_4 0 rfl rfl)
theorem dX12_tagNumber_96 : decode cX12_tagNumber 96 = .ok (.goto 4, 3) := dk_167 0 4 (dk_at dksX12_tagNumber_4 1 rfl rfl)
theorem dX12_tagNumber_99 : decode cX12_tagNumber 99 = .ok (.iconst 0, 1) := dk_3 (dk_at dksX12_tagNumber_4 4 rfl rfl)
theorem dX12_tagNumber_100 : decode cX12_tagNumber 100 = .ok (.istore_n 3, 1) := dk_62 (dk_at dksX12_tagNumber_4 5 rfl rfl)
theorem dX12_tagNumber_101 : decode cX12_tagNumber 101 = .ok (.iinc 4 1, 3) := dk_132 4 1 (dk_at dksX12_tagNumber_4 6 rfl rfl)
theorem dX12_tagNumber_104 : decode cX12_tagNumber 104 = .ok (.goto (-97), 3) := dk_167 255 159 (dk_at dksX12_tagNumber_4 9 rfl rfl)
theorem dX12_tagNumber_107 : decode cX12_tagNumber 107 = .ok (.iload_n 2, 1) := dk_28 (dk_at dksX12_tagNumber_4 12 rfl rfl)
theorem dX12_tagNumber_108 : decode cX12_tagNumber 108 = .ok (.bipush 31, 2) := dk_16 31 (dk_at dksX12_tagNumber_4 13 rfl rfl)
theorem dX12_tagNumber_110 : decode cX12_tagNumber 110 = .ok (.if_icmp .ge 11, 3) := dk_162 0 11 (dk_at dksX12_tagNumber_4 15 rfl rfl)
theorem dX12_tagNumber_113 : decode cX12_tagNumber 113 = .ok (.aload_n 0, 1) := dk_42 (dk_at dksX12_tagNumber_4 18 rfl rfl)
theorem dX12_tagNumber_114 : decode cX12_tagNumber 114 = .ok (.iconst 2, 1) := dk_5 (dk_at dksX12_tagNumber_4 19 rfl rfl)
theorem dX12_tagNumber_115 : decode cX12_tagNumber 115 = .ok (.invokevirtual 82, 3) := dk_182 0 82 (dk_at dksX12_tagNumber_4 20 rfl rfl)
theorem dX12_tagNumber_118 : decode cX12_tagNumber 118 = .ok (.pop, 1) := dk_87 (dk_at dksX12_tagNumber_4 23 rfl rfl)
theorem dX12_tagNumber_119 : decode cX12_tagNumber 119 = .ok (.iconst (-1), 1) := dk_2 (dk_at dksX12_tagNumber_5 0 rfl rfl)
theorem dX12_tagNumber_120 : decode cX12_tagNumber 120 = .ok (.ireturn, 1) := dk_172 (dk_at dksX12_tagNumber_5 1 rfl rfl)
theorem dX12_tagNumber_121 : decode cX12_tagNumber 121 = .ok (.iload_n 2, 1) := dk_28 (dk_at dksX12_tagNumber_5 2 rfl rfl)
theorem dX12_tagNumber_122 : decode cX12_tagNumber 122 = .ok (.ireturn, 1) := dk_172 (dk_at dksX12_tagNumber_5 3 rfl rfl)
abbrev cX12_length : ByteArray := prog_3_method_21_code
def yX12_length : MethodName := ⟨RX12, "length", "(IZ)I"⟩
def dkwX12_length_7 : List UInt8 := [167, 255, 180, 22, 4, 136, 172]
abbrev dktX12_length_7 : List UInt8 := dkwX12_length_7 ++ []
def dkwX12_length_6 : List UInt8 := [181, 0, 72, 22, 4, 20, 0, 111, 148, 158, 0, 11, 42, 6, 182, 0, 82, 87, 2, 172, 132, 6, 1]
abbrev dktX12_length_6 : List UInt8 := dkwX12_length_6 ++ dktX12_length_7
def dkwX12_length_5 : List UInt8 := [42, 180, 0, 63, 42, 180, 0, 72, 182, 0, 92, 133, 129, 55, 4, 42, 89, 180, 0, 72, 4, 96]
abbrev dktX12_length_5 : List UInt8 := dkwX12_length_5 ++ dktX12_length_6
def dkwX12_length_4 : List UInt8 := [162, 0, 72, 42, 180, 0, 72, 27, 161, 0, 11, 42, 4, 182, 0, 82, 87, 2, 172, 22, 4, 16, 8, 121]
abbrev dktX12_length_4 : List UInt8 := dkwX12_length_4 ++ dktX12_length_5
def dkwX12_length_3 : List UInt8 := [172, 29, 17, 0, 128, 160, 0, 5, 2, 172, 9, 55, 4, 3, 54, 6, 21, 6, 29, 17, 0, 128, 100]
abbrev dktX12_length_3 : List UInt8 := dkwX12_length_3 ++ dktX12_length_4
def dkwX12_length_2 : List UInt8 := [17, 0, 255, 159, 0, 14, 29, 17, 0, 128, 160, 0, 15, 28, 154, 0, 11, 42, 6, 182, 0, 82, 87, 2]
abbrev dktX12_length_2 : List UInt8 := dkwX12_length_2 ++ dktX12_length_3
def dkwX12_length_1 : List UInt8 := [182, 0, 92, 62, 42, 89, 180, 0, 72, 4, 96, 181, 0, 72, 29, 17, 0, 128, 162, 0, 5, 29, 172, 29]
abbrev dktX12_length_1 : List UInt8 := dkwX12_length_1 ++ dktX12_length_2
def dkwX12_length_0 : List UInt8 := [42, 180, 0, 72, 27, 161, 0, 11, 42, 4, 182, 0, 82, 87, 2, 172, 42, 180, 0, 63, 42, 180, 0, 72]
abbrev dktX12_length_0 : List UInt8 := dkwX12_length_0 ++ dktX12_length_1
theorem dksX12_length_0 : cX12_length.data.toList.drop 0 = dktX12_length_0 := by decide +kernel
theorem dksX12_length_1 : cX12_length.data.toList.drop 24 = dktX12_length_1 := dk_seg dksX12_length_0 24 rfl rfl
theorem dksX12_length_2 : cX12_length.data.toList.drop 48 = dktX12_length_2 := dk_seg dksX12_length_1 24 rfl rfl
theorem dksX12_length_3 : cX12_length.data.toList.drop 72 = dktX12_length_3 := dk_seg dksX12_length_2 24 rfl rfl
theorem dksX12_length_4 : cX12_length.data.toList.drop 95 = dktX12_length_4 := dk_seg dksX12_length_3 23 rfl rfl
theorem dksX12_length_5 : cX12_length.data.toList.drop 119 = dktX12_length_5 := dk_seg dksX12_length_4 24 rfl rfl
theorem dksX12_length_6 : cX12_length.data.toList.drop 141 = dktX12_length_6 := dk_seg dksX12_length_5 22 rfl rfl
theorem dksX12_length_7 : cX12_length.data.toList.drop 164 = dktX12_length_7 := dk_seg dksX12_length_6 23 rfl rfl
theorem dX12_length_0 : decode cX12_length 0 = .ok (.aload_n 0, 1) := dk_42 (dk_at dksX12_length_0 0 rfl rfl)
theorem dX12_length_1 : decode cX12_length 1 = .ok (.getfield 72, 3) := dk_180 0 72 (dk_at dksX12_length_0 1 rfl rfl)
theorem dX12_length_4 : decode cX12_length 4 = .ok (.iload_n 1, 1) := dk_27 (dk_at dksX12_length_0 4 rfl rfl)
theorem dX12_length_5 : decode cX12_length 5 = .ok (.if_icmp .lt 11, 3) := dk_161 0 11 (dk_at dksX12_length_0 5 rfl rfl)
theorem dX12_length_8 : decode cX12_length 8 = .ok (.aload_n 0, 1) := dk_42 (dk_at dksX12_length_0 8 rfl rfl)
theorem dX12_length_9 : decode cX12_length 9 = .ok (.iconst 1, 1) := dk_4 (dk_at dksX12_length_0 9 rfl rfl)
theorem dX12_length_10 : decode cX12_length 10 = .ok (.invokevirtual 82, 3) := dk_182 0 82 (dk_at dksX12_length_0 10 rfl rfl)
theorem dX12_length_13 : decode cX12_length 13 = .ok (.pop, 1) := dk_87 (dk_at dksX12_length_0 13 rfl rfl)
theorem dX12_length_14 : decode cX12_length 14 = .ok (.iconst (-1), 1) := dk_2 (dk_at dksX12_length_0 14 rfl rfl)
theorem dX12_length_15 : decode cX12_length 15 = .ok (.ireturn, 1) := dk_172 (dk_at dksX12_length_0 15 rfl rfl)
theorem dX12_length_16 : decode cX12_length 16 = .ok (.aload_n 0, 1) := dk_42 (dk_at dksX12_length_0 16 rfl rfl)
theorem dX12_length_17 : decode cX12_length 17 = .ok (.getfield 63, 3) := dk_180 0 63 (dk_at dksX12_length_0 17 rfl rfl)
theorem dX12_length_20 : decode cX12_length 20 = .ok (.aload_n 0, 1) := dk_42 (dk_at dksX12_length_0 20 rfl rfl)
theorem dX12_length_21 : decode cX12_length 21 = .ok (.getfield 72, 3) := dk_180 0 72 (dk_at dksX12_length_0 21 rfl rfl)
theorem dX12_length_24 : decode cX12_length 24 = .ok (.invokevirtual 92, 3) := dk_182 0 92 (dk_at dksX12_length_1 0 rfl rfl)
theorem dX12_length_27 : decode cX12_length 27 = .ok (.istore_n 3, 1) := dk_62 (dk_at dksX12_length_1 3 rfl rfl)
theorem dX12_length_28 : decode cX12_length 28 = .ok (.aload_n 0, 1) := dk_42 (dk_at dksX12_length_1 4 rfl rfl)
theorem dX12_length_29 : decode cX12_length 29 = .ok (.dup, 1) := dk_89 (dk_at dksX12_length_1 5 rfl rfl)
theorem dX12_length_30 : decode cX12_length 30 = .ok (.getfield 72, 3) := dk_180 0 72 (dk_at dksX12_length_1 6 rfl rfl)
theorem dX12_length_33 : decode cX12_length 33 = .ok (.iconst 1, 1) := dk_4 (dk_at dksX12_length_1 9 rfl rfl)
theorem dX12_length_34 : decode cX12_length 34 = .ok (.iadd, 1) := dk_96 (dk_at dksX12_length_1 10 rfl rfl)
theorem dX12_length_35 : decode cX12_length 35 = .ok (.putfield 72, 3) := dk_181 0 72 (dk_at dksX12_length_1 11 rfl rfl)
theorem dX12_length_38 : decode cX12_length 38 = .ok (.iload_n 3, 1) := dk_29 (dk_at dksX12_length_1 14 rfl rfl)
theorem dX12_length_39 : decode cX12_length 39 = .ok (.sipush 128, 3) := dk_17 0 128 (dk_at dksX12_length_1 15 rfl rfl)
theorem dX12_length_42 : decode cX12_length 42 = .ok (.if_icmp .ge 5, 3) := dk_162 0 5 (dk_at dksX12_length_1 18 rfl rfl)
theorem dX12_length_45 : decode cX12_length 45 = .ok (.iload_n 3, 1) := dk_29 (dk_at dksX12_length_1 21 rfl rfl)
theorem dX12_length_46 : decode cX12_length 46 = .ok (.ireturn, 1) := dk_172 (dk_at dksX12_length_1 22 rfl rfl)
theorem dX12_length_47 : decode cX12_length 47 = .ok (.iload_n 3, 1) := dk_29 (dk_at dksX12_length_1 23 rfl rfl)
theorem dX12_length_48 : decode cX12_length 48 = .ok (.sipush 255, 3) := dk_17 0 255 (dk_at dksX12_length_2 0 rfl rfl)
theorem dX12_length_51 : decode cX12_length 51 = .ok (.if_icmp .eq 14, 3) := dk_159 0 14 (dk_at dksX12_length_2 3 rfl rfl)
theorem dX12_length_54 : decode cX12_length 54 = .ok (.iload_n 3, 1) := dk_29 (dk_at dksX12_length_2 6 rfl rfl)
theorem dX12_length_55 : decode cX12_length 55 = .ok (.sipush 128, 3) := dk_17 0 128 (dk_at dksX12_length_2 7 rfl rfl)
theorem dX12_length_58 : decode cX12_length 58 = .ok (.if_icmp .ne 15, 3) := dk_160 0 15 (dk_at dksX12_length_2 10 rfl rfl)
theorem dX12_length_61 : decode cX12_length 61 = .ok (.iload_n 2, 1) := dk_28 (dk_at dksX12_length_2 13 rfl rfl)
theorem dX12_length_62 : decode cX12_length 62 = .ok (.ifCond .ne 11, 3) := dk_154 0 11 (dk_at dksX12_length_2 14 rfl rfl)
theorem dX12_length_65 : decode cX12_length 65 = .ok (.aload_n 0, 1) := dk_42 (dk_at dksX12_length_2 17 rfl rfl)
theorem dX12_length_66 : decode cX12_length 66 = .ok (.iconst 3, 1) := dk_6 (dk_at dksX12_length_2 18 rfl rfl)
theorem dX12_length_67 : decode cX12_length 67 = .ok (.invokevirtual 82, 3) := dk_182 0 82 (dk_at dksX12_length_2 19 rfl rfl)
theorem dX12_length_70 : decode cX12_length 70 = .ok (.pop, 1) := dk_87 (dk_at dksX12_length_2 22 rfl rfl)
theorem dX12_length_71 : decode cX12_length 71 = .ok (.iconst (-1), 1) := dk_2 (dk_at dksX12_length_2 23 rfl rfl)
theorem dX12_length_72 : decode cX12_length 72 = .ok (.ireturn, 1) := dk_172 (dk_at dksX12_length_3 0 rfl rfl)
theorem dX12_length_73 : decode cX12_length 73 = .ok (.iload_n 3, 1) := dk_29 (dk_at dksX12_length_3 1 rfl rfl)
theorem dX12_length_74 : decode cX12_length 74 = .ok (.sipush 128, 3) := dk_17 0 128 (dk_at dksX12_length_3 2 rfl rfl)
theorem dX12_length_77 : decode cX12_length 77 = .ok (.if_icmp .ne 5, 3) := dk_160 0 5 (dk_at dksX12_length_3 5 rfl rfl)
theorem dX12_length_80 : decode cX12_length 80 = .ok (.iconst (-1), 1) := dk_2 (dk_at dksX12_length_3 8 rfl rfl)
theorem dX12_length_81 : decode cX12_length 81 = .ok (.ireturn, 1) := dk_172 (dk_at dksX12_length_3 9 rfl rfl)
theorem dX12_length_82 : decode cX12_length 82 = .ok (.lconst 0, 1) := dk_9 (dk_at dksX12_length_3 10 rfl rfl)
theorem dX12_length_83 : decode cX12_length 83 = .ok (.lstore 4, 2) := dk_55 4 (dk_at dksX12_length_3 11 rfl rfl)
theorem dX12_length_85 : decode cX12_length 85 = .ok (.iconst 0, 1) := dk_3 (dk_at dksX12_length_3 13 rfl rfl)
theorem dX12_length_86 : decode cX12_length 86 = .ok (.istore 6, 2) := dk_54 6 (dk_at dksX12_length_3 14 rfl rfl)
theorem dX12_length_88 : decode cX12_length 88 = .ok (.iload 6, 2) := dk_21 6 (dk_at dksX12_length_3 16 rfl rfl)
theorem dX12_length_90 : decode cX12_length 90 = .ok (.iload_n 3, 1) := dk_29 (dk_at dksX12_length_3 18 rfl rfl)
theorem dX12_length_91 : decode cX12_length 91 = .ok (.sipush 128, 3) := dk_17 0 128 (dk_at dksX12_length_3 19 rfl rfl)
theorem dX12_length_94 : decode cX12_length 94 = .ok (.isub, 1) := dk_100 (dk_at dksX12_length_3 22 rfl rfl)
theorem dX12_length_95 : decode cX12_length 95 = .ok (.if_icmp .ge 72, 3) := dk_162 0 72 (dk_at dksX12_length_4 0 rfl rfl)
theorem dX12_length_98 : decode cX12_length 98 = .ok (.aload_n 0, 1) := dk_42 (dk_at dksX12_length_4 3 rfl rfl)
theorem dX12_length_99 : decode cX12_length 99 = .ok (.getfield 72, 3) := dk_180 0 72 (dk_at dksX12_length_4 4 rfl rfl)
theorem dX12_length_102 : decode cX12_length 102 = .ok (.iload_n 1, 1) := dk_27 (dk_at dksX12_length_4 7 rfl rfl)
theorem dX12_length_103 : decode cX12_length 103 = .ok (.if_icmp .lt 11, 3) := dk_161 0 11 (dk_at dksX12_length_4 8 rfl rfl)
theorem dX12_length_106 : decode cX12_length 106 = .ok (.aload_n 0, 1) := dk_42 (dk_at dksX12_length_4 11 rfl rfl)
theorem dX12_length_107 : decode cX12_length 107 = .ok (.iconst 1, 1) := dk_4 (dk_at dksX12_length_4 12 rfl rfl)
theorem dX12_length_108 : decode cX12_length 108 = .ok (.invokevirtual 82, 3) := dk_182 0 82 (dk_at dksX12_length_4 13 rfl rfl)
theorem dX12_length_111 : decode cX12_length 111 = .ok (.pop, 1) := dk_87 (dk_at dksX12_length_4 16 rfl rfl)
theorem dX12_length_112 : decode cX12_length 112 = .ok (.iconst (-1), 1) := dk_2 (dk_at dksX12_length_4 17 rfl rfl)
theorem dX12_length_113 : decode cX12_length 113 = .ok (.ireturn, 1) := dk_172 (dk_at dksX12_length_4 18 rfl rfl)
theorem dX12_length_114 : decode cX12_length 114 = .ok (.lload 4, 2) := dk_22 4 (dk_at dksX12_length_4 19 rfl rfl)
theorem dX12_length_116 : decode cX12_length 116 = .ok (.bipush 8, 2) := dk_16 8 (dk_at dksX12_length_4 21 rfl rfl)
theorem dX12_length_118 : decode cX12_length 118 = .ok (.lshl, 1) := dk_121 (dk_at dksX12_length_4 23 rfl rfl)
theorem dX12_length_119 : decode cX12_length 119 = .ok (.aload_n 0, 1) := dk_42 (dk_at dksX12_length_5 0 rfl rfl)
theorem dX12_length_120 : decode cX12_length 120 = .ok (.getfield 63, 3) := dk_180 0 63 (dk_at dksX12_length_5 1 rfl rfl)
theorem dX12_length_123 : decode cX12_length 123 = .ok (.aload_n 0, 1) := dk_42 (dk_at dksX12_length_5 4 rfl rfl)
theorem dX12_length_124 : decode cX12_length 124 = .ok (.getfield 72, 3) := dk_180 0 72 (dk_at dksX12_length_5 5 rfl rfl)
theorem dX12_length_127 : decode cX12_length 127 = .ok (.invokevirtual 92, 3) := dk_182 0 92 (dk_at dksX12_length_5 8 rfl rfl)
theorem dX12_length_130 : decode cX12_length 130 = .ok (.i2l, 1) := dk_133 (dk_at dksX12_length_5 11 rfl rfl)
theorem dX12_length_131 : decode cX12_length 131 = .ok (.lor, 1) := dk_129 (dk_at dksX12_length_5 12 rfl rfl)
theorem dX12_length_132 : decode cX12_length 132 = .ok (.lstore 4, 2) := dk_55 4 (dk_at dksX12_length_5 13 rfl rfl)
theorem dX12_length_134 : decode cX12_length 134 = .ok (.aload_n 0, 1) := dk_42 (dk_at dksX12_length_5 15 rfl rfl)
theorem dX12_length_135 : decode cX12_length 135 = .ok (.dup, 1) := dk_89 (dk_at dksX12_length_5 16 rfl rfl)
theorem dX12_length_136 : decode cX12_length 136 = .ok (.getfield 72, 3) := dk_180 0 72 (dk_at dksX12_length_5 17 rfl rfl)
theorem dX12_length_139 : decode cX12_length 139 = .ok (.iconst 1, 1) := dk_4 (dk_at dksX12_length_5 20 rfl rfl)
theorem dX12_length_140 : decode cX12_length 140 = .ok (.iadd, 1) := dk_96 (dk_at dksX12_length_5 21 rfl rfl)
theorem dX12_length_141 : decode cX12_length 141 = .ok (.putfield 72, 3) := dk_181 0 72 (dk_at dksX12_length_6 0 rfl rfl)
theorem dX12_length_144 : decode cX12_length 144 = .ok (.lload 4, 2) := dk_22 4 (dk_at dksX12_length_6 3 rfl rfl)
theorem dX12_length_146 : decode cX12_length 146 = .ok (.ldc2_w 111, 3) := dk_20 0 111 (dk_at dksX12_length_6 5 rfl rfl)
theorem dX12_length_149 : decode cX12_length 149 = .ok (.lcmp, 1) := dk_148 (dk_at dksX12_length_6 8 rfl rfl)
theorem dX12_length_150 : decode cX12_length 150 = .ok (.ifCond .le 11, 3) := dk_158 0 11 (dk_at dksX12_length_6 9 rfl rfl)
theorem dX12_length_153 : decode cX12_length 153 = .ok (.aload_n 0, 1) := dk_42 (dk_at dksX12_length_6 12 rfl rfl)
theorem dX12_length_154 : decode cX12_length 154 = .ok (.iconst 3, 1) := dk_6 (dk_at dksX12_length_6 13 rfl rfl)
theorem dX12_length_155 : decode cX12_length 155 = .ok (.invokevirtual 82, 3) := dk_182 0 82 (dk_at dksX12_length_6 14 rfl rfl)
theorem dX12_length_158 : decode cX12_length 158 = .ok (.pop, 1) := dk_87 (dk_at dksX12_length_6 17 rfl rfl)
theorem dX12_length_159 : decode cX12_length 159 = .ok (.iconst (-1), 1) := dk_2 (dk_at dksX12_length_6 18 rfl rfl)
theorem dX12_length_160 : decode cX12_length 160 = .ok (.ireturn, 1) := dk_172 (dk_at dksX12_length_6 19 rfl rfl)
theorem dX12_length_161 : decode cX12_length 161 = .ok (.iinc 6 1, 3) := dk_132 6 1 (dk_at dksX12_length_6 20 rfl rfl)
theorem dX12_length_164 : decode cX12_length 164 = .ok (.goto (-76), 3) := dk_167 255 180 (dk_at dksX12_length_7 0 rfl rfl)
theorem dX12_length_167 : decode cX12_length 167 = .ok (.lload 4, 2) := dk_22 4 (dk_at dksX12_length_7 3 rfl rfl)
theorem dX12_length_169 : decode cX12_length 169 = .ok (.l2i, 1) := dk_136 (dk_at dksX12_length_7 5 rfl rfl)
theorem dX12_length_170 : decode cX12_length 170 = .ok (.ireturn, 1) := dk_172 (dk_at dksX12_length_7 6 rfl rfl)
abbrev cX12_add : ByteArray := prog_3_method_13_code
def yX12_add : MethodName := ⟨RX12, "add", "(IZ)V"⟩
def dkwX12_add_6 : List UInt8 := [177]
abbrev dktX12_add_6 : List UInt8 := dkwX12_add_6 ++ []
def dkwX12_add_5 : List UInt8 := [180, 0, 47, 79, 42, 180, 0, 27, 42, 180, 0, 40, 28, 84, 42, 89, 180, 0, 40, 4, 96, 181, 0, 40]
abbrev dktX12_add_5 : List UInt8 := dkwX12_add_5 ++ dktX12_add_6
def dkwX12_add_4 : List UInt8 := [181, 0, 27, 42, 180, 0, 9, 42, 180, 0, 40, 27, 79, 42, 180, 0, 15, 42, 180, 0, 40, 42]
abbrev dktX12_add_4 : List UInt8 := dkwX12_add_4 ++ dktX12_add_5
def dkwX12_add_3 : List UInt8 := [180, 0, 40, 104, 188, 4, 78, 42, 180, 0, 27, 3, 45, 3, 42, 180, 0, 40, 184, 0, 50, 42, 45]
abbrev dktX12_add_3 : List UInt8 := dkwX12_add_3 ++ dktX12_add_4
def dkwX12_add_2 : List UInt8 := [180, 0, 21, 184, 0, 56, 181, 0, 21, 42, 42, 180, 0, 24, 184, 0, 56, 181, 0, 24, 5, 42]
abbrev dktX12_add_2 : List UInt8 := dkwX12_add_2 ++ dktX12_add_3
def dkwX12_add_1 : List UInt8 := [42, 180, 0, 15, 184, 0, 56, 181, 0, 15, 42, 42, 180, 0, 18, 184, 0, 56, 181, 0, 18, 42, 42]
abbrev dktX12_add_1 : List UInt8 := dkwX12_add_1 ++ dktX12_add_2
def dkwX12_add_0 : List UInt8 := [42, 180, 0, 40, 42, 180, 0, 9, 190, 160, 0, 86, 42, 42, 180, 0, 9, 184, 0, 56, 181, 0, 9, 42]
abbrev dktX12_add_0 : List UInt8 := dkwX12_add_0 ++ dktX12_add_1
theorem dksX12_add_0 : cX12_add.data.toList.drop 0 = dktX12_add_0 := by decide +kernel
theorem dksX12_add_1 : cX12_add.data.toList.drop 24 = dktX12_add_1 := dk_seg dksX12_add_0 24 rfl rfl
theorem dksX12_add_2 : cX12_add.data.toList.drop 47 = dktX12_add_2 := dk_seg dksX12_add_1 23 rfl rfl
theorem dksX12_add_3 : cX12_add.data.toList.drop 69 = dktX12_add_3 := dk_seg dksX12_add_2 22 rfl rfl
theorem dksX12_add_4 : cX12_add.data.toList.drop 92 = dktX12_add_4 := dk_seg dksX12_add_3 23 rfl rfl
theorem dksX12_add_5 : cX12_add.data.toList.drop 114 = dktX12_add_5 := dk_seg dksX12_add_4 22 rfl rfl
theorem dksX12_add_6 : cX12_add.data.toList.drop 138 = dktX12_add_6 := dk_seg dksX12_add_5 24 rfl rfl
theorem dX12_add_0 : decode cX12_add 0 = .ok (.aload_n 0, 1) := dk_42 (dk_at dksX12_add_0 0 rfl rfl)
theorem dX12_add_1 : decode cX12_add 1 = .ok (.getfield 40, 3) := dk_180 0 40 (dk_at dksX12_add_0 1 rfl rfl)
theorem dX12_add_4 : decode cX12_add 4 = .ok (.aload_n 0, 1) := dk_42 (dk_at dksX12_add_0 4 rfl rfl)
theorem dX12_add_5 : decode cX12_add 5 = .ok (.getfield 9, 3) := dk_180 0 9 (dk_at dksX12_add_0 5 rfl rfl)
theorem dX12_add_8 : decode cX12_add 8 = .ok (.arraylength, 1) := dk_190 (dk_at dksX12_add_0 8 rfl rfl)
theorem dX12_add_9 : decode cX12_add 9 = .ok (.if_icmp .ne 86, 3) := dk_160 0 86 (dk_at dksX12_add_0 9 rfl rfl)
theorem dX12_add_12 : decode cX12_add 12 = .ok (.aload_n 0, 1) := dk_42 (dk_at dksX12_add_0 12 rfl rfl)
theorem dX12_add_13 : decode cX12_add 13 = .ok (.aload_n 0, 1) := dk_42 (dk_at dksX12_add_0 13 rfl rfl)
theorem dX12_add_14 : decode cX12_add 14 = .ok (.getfield 9, 3) := dk_180 0 9 (dk_at dksX12_add_0 14 rfl rfl)
theorem dX12_add_17 : decode cX12_add 17 = .ok (.invokestatic 56, 3) := dk_184 0 56 (dk_at dksX12_add_0 17 rfl rfl)
theorem dX12_add_20 : decode cX12_add 20 = .ok (.putfield 9, 3) := dk_181 0 9 (dk_at dksX12_add_0 20 rfl rfl)
theorem dX12_add_23 : decode cX12_add 23 = .ok (.aload_n 0, 1) := dk_42 (dk_at dksX12_add_0 23 rfl rfl)
theorem dX12_add_24 : decode cX12_add 24 = .ok (.aload_n 0, 1) := dk_42 (dk_at dksX12_add_1 0 rfl rfl)
theorem dX12_add_25 : decode cX12_add 25 = .ok (.getfield 15, 3) := dk_180 0 15 (dk_at dksX12_add_1 1 rfl rfl)
theorem dX12_add_28 : decode cX12_add 28 = .ok (.invokestatic 56, 3) := dk_184 0 56 (dk_at dksX12_add_1 4 rfl rfl)
theorem dX12_add_31 : decode cX12_add 31 = .ok (.putfield 15, 3) := dk_181 0 15 (dk_at dksX12_add_1 7 rfl rfl)
theorem dX12_add_34 : decode cX12_add 34 = .ok (.aload_n 0, 1) := dk_42 (dk_at dksX12_add_1 10 rfl rfl)
theorem dX12_add_35 : decode cX12_add 35 = .ok (.aload_n 0, 1) := dk_42 (dk_at dksX12_add_1 11 rfl rfl)
theorem dX12_add_36 : decode cX12_add 36 = .ok (.getfield 18, 3) := dk_180 0 18 (dk_at dksX12_add_1 12 rfl rfl)
theorem dX12_add_39 : decode cX12_add 39 = .ok (.invokestatic 56, 3) := dk_184 0 56 (dk_at dksX12_add_1 15 rfl rfl)
theorem dX12_add_42 : decode cX12_add 42 = .ok (.putfield 18, 3) := dk_181 0 18 (dk_at dksX12_add_1 18 rfl rfl)
theorem dX12_add_45 : decode cX12_add 45 = .ok (.aload_n 0, 1) := dk_42 (dk_at dksX12_add_1 21 rfl rfl)
theorem dX12_add_46 : decode cX12_add 46 = .ok (.aload_n 0, 1) := dk_42 (dk_at dksX12_add_1 22 rfl rfl)
theorem dX12_add_47 : decode cX12_add 47 = .ok (.getfield 21, 3) := dk_180 0 21 (dk_at dksX12_add_2 0 rfl rfl)
theorem dX12_add_50 : decode cX12_add 50 = .ok (.invokestatic 56, 3) := dk_184 0 56 (dk_at dksX12_add_2 3 rfl rfl)
theorem dX12_add_53 : decode cX12_add 53 = .ok (.putfield 21, 3) := dk_181 0 21 (dk_at dksX12_add_2 6 rfl rfl)
theorem dX12_add_56 : decode cX12_add 56 = .ok (.aload_n 0, 1) := dk_42 (dk_at dksX12_add_2 9 rfl rfl)
theorem dX12_add_57 : decode cX12_add 57 = .ok (.aload_n 0, 1) := dk_42 (dk_at dksX12_add_2 10 rfl rfl)
theorem dX12_add_58 : decode cX12_add 58 = .ok (.getfield 24, 3) := dk_180 0 24 (dk_at dksX12_add_2 11 rfl rfl)
theorem dX12_add_61 : decode cX12_add 61 = .ok (.invokestatic 56, 3) := dk_184 0 56 (dk_at dksX12_add_2 14 rfl rfl)
theorem dX12_add_64 : decode cX12_add 64 = .ok (.putfield 24, 3) := dk_181 0 24 (dk_at dksX12_add_2 17 rfl rfl)
theorem dX12_add_67 : decode cX12_add 67 = .ok (.iconst 2, 1) := dk_5 (dk_at dksX12_add_2 20 rfl rfl)
theorem dX12_add_68 : decode cX12_add 68 = .ok (.aload_n 0, 1) := dk_42 (dk_at dksX12_add_2 21 rfl rfl)
theorem dX12_add_69 : decode cX12_add 69 = .ok (.getfield 40, 3) := dk_180 0 40 (dk_at dksX12_add_3 0 rfl rfl)
theorem dX12_add_72 : decode cX12_add 72 = .ok (.imul, 1) := dk_104 (dk_at dksX12_add_3 3 rfl rfl)
theorem dX12_add_73 : decode cX12_add 73 = .ok (.newarray .boolean, 2) := dk_188_4 (dk_at dksX12_add_3 4 rfl rfl)
theorem dX12_add_75 : decode cX12_add 75 = .ok (.astore_n 3, 1) := dk_78 (dk_at dksX12_add_3 6 rfl rfl)
theorem dX12_add_76 : decode cX12_add 76 = .ok (.aload_n 0, 1) := dk_42 (dk_at dksX12_add_3 7 rfl rfl)
theorem dX12_add_77 : decode cX12_add 77 = .ok (.getfield 27, 3) := dk_180 0 27 (dk_at dksX12_add_3 8 rfl rfl)
theorem dX12_add_80 : decode cX12_add 80 = .ok (.iconst 0, 1) := dk_3 (dk_at dksX12_add_3 11 rfl rfl)
theorem dX12_add_81 : decode cX12_add 81 = .ok (.aload_n 3, 1) := dk_45 (dk_at dksX12_add_3 12 rfl rfl)
theorem dX12_add_82 : decode cX12_add 82 = .ok (.iconst 0, 1) := dk_3 (dk_at dksX12_add_3 13 rfl rfl)
theorem dX12_add_83 : decode cX12_add 83 = .ok (.aload_n 0, 1) := dk_42 (dk_at dksX12_add_3 14 rfl rfl)
theorem dX12_add_84 : decode cX12_add 84 = .ok (.getfield 40, 3) := dk_180 0 40 (dk_at dksX12_add_3 15 rfl rfl)
theorem dX12_add_87 : decode cX12_add 87 = .ok (.invokestatic 50, 3) := dk_184 0 50 (dk_at dksX12_add_3 18 rfl rfl)
theorem dX12_add_90 : decode cX12_add 90 = .ok (.aload_n 0, 1) := dk_42 (dk_at dksX12_add_3 21 rfl rfl)
theorem dX12_add_91 : decode cX12_add 91 = .ok (.aload_n 3, 1) := dk_45 (dk_at dksX12_add_3 22 rfl rfl)
theorem dX12_add_92 : decode cX12_add 92 = .ok (.putfield 27, 3) := dk_181 0 27 (dk_at dksX12_add_4 0 rfl rfl)
theorem dX12_add_95 : decode cX12_add 95 = .ok (.aload_n 0, 1) := dk_42 (dk_at dksX12_add_4 3 rfl rfl)
theorem dX12_add_96 : decode cX12_add 96 = .ok (.getfield 9, 3) := dk_180 0 9 (dk_at dksX12_add_4 4 rfl rfl)
theorem dX12_add_99 : decode cX12_add 99 = .ok (.aload_n 0, 1) := dk_42 (dk_at dksX12_add_4 7 rfl rfl)
theorem dX12_add_100 : decode cX12_add 100 = .ok (.getfield 40, 3) := dk_180 0 40 (dk_at dksX12_add_4 8 rfl rfl)
theorem dX12_add_103 : decode cX12_add 103 = .ok (.iload_n 1, 1) := dk_27 (dk_at dksX12_add_4 11 rfl rfl)
theorem dX12_add_104 : decode cX12_add 104 = .ok (.iastore, 1) := dk_79 (dk_at dksX12_add_4 12 rfl rfl)
theorem dX12_add_105 : decode cX12_add 105 = .ok (.aload_n 0, 1) := dk_42 (dk_at dksX12_add_4 13 rfl rfl)
theorem dX12_add_106 : decode cX12_add 106 = .ok (.getfield 15, 3) := dk_180 0 15 (dk_at dksX12_add_4 14 rfl rfl)
theorem dX12_add_109 : decode cX12_add 109 = .ok (.aload_n 0, 1) := dk_42 (dk_at dksX12_add_4 17 rfl rfl)
theorem dX12_add_110 : decode cX12_add 110 = .ok (.getfield 40, 3) := dk_180 0 40 (dk_at dksX12_add_4 18 rfl rfl)
theorem dX12_add_113 : decode cX12_add 113 = .ok (.aload_n 0, 1) := dk_42 (dk_at dksX12_add_4 21 rfl rfl)
theorem dX12_add_114 : decode cX12_add 114 = .ok (.getfield 47, 3) := dk_180 0 47 (dk_at dksX12_add_5 0 rfl rfl)
theorem dX12_add_117 : decode cX12_add 117 = .ok (.iastore, 1) := dk_79 (dk_at dksX12_add_5 3 rfl rfl)
theorem dX12_add_118 : decode cX12_add 118 = .ok (.aload_n 0, 1) := dk_42 (dk_at dksX12_add_5 4 rfl rfl)
theorem dX12_add_119 : decode cX12_add 119 = .ok (.getfield 27, 3) := dk_180 0 27 (dk_at dksX12_add_5 5 rfl rfl)
theorem dX12_add_122 : decode cX12_add 122 = .ok (.aload_n 0, 1) := dk_42 (dk_at dksX12_add_5 8 rfl rfl)
theorem dX12_add_123 : decode cX12_add 123 = .ok (.getfield 40, 3) := dk_180 0 40 (dk_at dksX12_add_5 9 rfl rfl)
theorem dX12_add_126 : decode cX12_add 126 = .ok (.iload_n 2, 1) := dk_28 (dk_at dksX12_add_5 12 rfl rfl)
theorem dX12_add_127 : decode cX12_add 127 = .ok (.bastore, 1) := dk_84 (dk_at dksX12_add_5 13 rfl rfl)
theorem dX12_add_128 : decode cX12_add 128 = .ok (.aload_n 0, 1) := dk_42 (dk_at dksX12_add_5 14 rfl rfl)
theorem dX12_add_129 : decode cX12_add 129 = .ok (.dup, 1) := dk_89 (dk_at dksX12_add_5 15 rfl rfl)
theorem dX12_add_130 : decode cX12_add 130 = .ok (.getfield 40, 3) := dk_180 0 40 (dk_at dksX12_add_5 16 rfl rfl)
theorem dX12_add_133 : decode cX12_add 133 = .ok (.iconst 1, 1) := dk_4 (dk_at dksX12_add_5 19 rfl rfl)
theorem dX12_add_134 : decode cX12_add 134 = .ok (.iadd, 1) := dk_96 (dk_at dksX12_add_5 20 rfl rfl)
theorem dX12_add_135 : decode cX12_add 135 = .ok (.putfield 40, 3) := dk_181 0 40 (dk_at dksX12_add_5 21 rfl rfl)
theorem dX12_add_138 : decode cX12_add 138 = .ok (.return_, 1) := dk_177 (dk_at dksX12_add_6 0 rfl rfl)
abbrev cX12_grown : ByteArray := prog_3_method_12_code
def yX12_grown : MethodName := ⟨RX12, "grown", "([I)[I"⟩
def dkwX12_grown_0 : List UInt8 := [5, 42, 190, 104, 188, 10, 76, 42, 3, 43, 3, 42, 190, 184, 0, 50, 43, 176]
abbrev dktX12_grown_0 : List UInt8 := dkwX12_grown_0 ++ []
theorem dksX12_grown_0 : cX12_grown.data.toList.drop 0 = dktX12_grown_0 := by decide +kernel
theorem dX12_grown_0 : decode cX12_grown 0 = .ok (.iconst 2, 1) := dk_5 (dk_at dksX12_grown_0 0 rfl rfl)
theorem dX12_grown_1 : decode cX12_grown 1 = .ok (.aload_n 0, 1) := dk_42 (dk_at dksX12_grown_0 1 rfl rfl)
theorem dX12_grown_2 : decode cX12_grown 2 = .ok (.arraylength, 1) := dk_190 (dk_at dksX12_grown_0 2 rfl rfl)
theorem dX12_grown_3 : decode cX12_grown 3 = .ok (.imul, 1) := dk_104 (dk_at dksX12_grown_0 3 rfl rfl)
theorem dX12_grown_4 : decode cX12_grown 4 = .ok (.newarray .int, 2) := dk_188_10 (dk_at dksX12_grown_0 4 rfl rfl)
theorem dX12_grown_6 : decode cX12_grown 6 = .ok (.astore_n 1, 1) := dk_76 (dk_at dksX12_grown_0 6 rfl rfl)
theorem dX12_grown_7 : decode cX12_grown 7 = .ok (.aload_n 0, 1) := dk_42 (dk_at dksX12_grown_0 7 rfl rfl)
theorem dX12_grown_8 : decode cX12_grown 8 = .ok (.iconst 0, 1) := dk_3 (dk_at dksX12_grown_0 8 rfl rfl)
theorem dX12_grown_9 : decode cX12_grown 9 = .ok (.aload_n 1, 1) := dk_43 (dk_at dksX12_grown_0 9 rfl rfl)
theorem dX12_grown_10 : decode cX12_grown 10 = .ok (.iconst 0, 1) := dk_3 (dk_at dksX12_grown_0 10 rfl rfl)
theorem dX12_grown_11 : decode cX12_grown 11 = .ok (.aload_n 0, 1) := dk_42 (dk_at dksX12_grown_0 11 rfl rfl)
theorem dX12_grown_12 : decode cX12_grown 12 = .ok (.arraylength, 1) := dk_190 (dk_at dksX12_grown_0 12 rfl rfl)
theorem dX12_grown_13 : decode cX12_grown 13 = .ok (.invokestatic 50, 3) := dk_184 0 50 (dk_at dksX12_grown_0 13 rfl rfl)
theorem dX12_grown_16 : decode cX12_grown 16 = .ok (.aload_n 1, 1) := dk_43 (dk_at dksX12_grown_0 16 rfl rfl)
theorem dX12_grown_17 : decode cX12_grown 17 = .ok (.areturn, 1) := dk_176 (dk_at dksX12_grown_0 17 rfl rfl)
abbrev cX12_enter : ByteArray := prog_3_method_14_code
def yX12_enter : MethodName := ⟨RX12, "enter", "(II)V"⟩
def dkwX12_enter_3 : List UInt8 := [42, 180, 0, 37, 42, 180, 0, 60, 28, 79, 42, 89, 180, 0, 60, 4, 96, 181, 0, 60, 177]
abbrev dktX12_enter_3 : List UInt8 := dkwX12_enter_3 ++ []
def dkwX12_enter_2 : List UInt8 := [180, 0, 31, 42, 180, 0, 60, 42, 180, 0, 40, 4, 100, 79, 42, 180, 0, 34, 42, 180, 0, 60, 27, 79]
abbrev dktX12_enter_2 : List UInt8 := dkwX12_enter_2 ++ dktX12_enter_3
def dkwX12_enter_1 : List UInt8 := [42, 180, 0, 34, 184, 0, 56, 181, 0, 34, 42, 42, 180, 0, 37, 184, 0, 56, 181, 0, 37, 42]
abbrev dktX12_enter_1 : List UInt8 := dkwX12_enter_1 ++ dktX12_enter_2
def dkwX12_enter_0 : List UInt8 := [42, 180, 0, 60, 42, 180, 0, 31, 190, 160, 0, 36, 42, 42, 180, 0, 31, 184, 0, 56, 181, 0, 31, 42]
abbrev dktX12_enter_0 : List UInt8 := dkwX12_enter_0 ++ dktX12_enter_1
theorem dksX12_enter_0 : cX12_enter.data.toList.drop 0 = dktX12_enter_0 := by decide +kernel
theorem dksX12_enter_1 : cX12_enter.data.toList.drop 24 = dktX12_enter_1 := dk_seg dksX12_enter_0 24 rfl rfl
theorem dksX12_enter_2 : cX12_enter.data.toList.drop 46 = dktX12_enter_2 := dk_seg dksX12_enter_1 22 rfl rfl
theorem dksX12_enter_3 : cX12_enter.data.toList.drop 70 = dktX12_enter_3 := dk_seg dksX12_enter_2 24 rfl rfl
theorem dX12_enter_0 : decode cX12_enter 0 = .ok (.aload_n 0, 1) := dk_42 (dk_at dksX12_enter_0 0 rfl rfl)
theorem dX12_enter_1 : decode cX12_enter 1 = .ok (.getfield 60, 3) := dk_180 0 60 (dk_at dksX12_enter_0 1 rfl rfl)
theorem dX12_enter_4 : decode cX12_enter 4 = .ok (.aload_n 0, 1) := dk_42 (dk_at dksX12_enter_0 4 rfl rfl)
theorem dX12_enter_5 : decode cX12_enter 5 = .ok (.getfield 31, 3) := dk_180 0 31 (dk_at dksX12_enter_0 5 rfl rfl)
theorem dX12_enter_8 : decode cX12_enter 8 = .ok (.arraylength, 1) := dk_190 (dk_at dksX12_enter_0 8 rfl rfl)
theorem dX12_enter_9 : decode cX12_enter 9 = .ok (.if_icmp .ne 36, 3) := dk_160 0 36 (dk_at dksX12_enter_0 9 rfl rfl)
theorem dX12_enter_12 : decode cX12_enter 12 = .ok (.aload_n 0, 1) := dk_42 (dk_at dksX12_enter_0 12 rfl rfl)
theorem dX12_enter_13 : decode cX12_enter 13 = .ok (.aload_n 0, 1) := dk_42 (dk_at dksX12_enter_0 13 rfl rfl)
theorem dX12_enter_14 : decode cX12_enter 14 = .ok (.getfield 31, 3) := dk_180 0 31 (dk_at dksX12_enter_0 14 rfl rfl)
theorem dX12_enter_17 : decode cX12_enter 17 = .ok (.invokestatic 56, 3) := dk_184 0 56 (dk_at dksX12_enter_0 17 rfl rfl)
theorem dX12_enter_20 : decode cX12_enter 20 = .ok (.putfield 31, 3) := dk_181 0 31 (dk_at dksX12_enter_0 20 rfl rfl)
theorem dX12_enter_23 : decode cX12_enter 23 = .ok (.aload_n 0, 1) := dk_42 (dk_at dksX12_enter_0 23 rfl rfl)
theorem dX12_enter_24 : decode cX12_enter 24 = .ok (.aload_n 0, 1) := dk_42 (dk_at dksX12_enter_1 0 rfl rfl)
theorem dX12_enter_25 : decode cX12_enter 25 = .ok (.getfield 34, 3) := dk_180 0 34 (dk_at dksX12_enter_1 1 rfl rfl)
theorem dX12_enter_28 : decode cX12_enter 28 = .ok (.invokestatic 56, 3) := dk_184 0 56 (dk_at dksX12_enter_1 4 rfl rfl)
theorem dX12_enter_31 : decode cX12_enter 31 = .ok (.putfield 34, 3) := dk_181 0 34 (dk_at dksX12_enter_1 7 rfl rfl)
theorem dX12_enter_34 : decode cX12_enter 34 = .ok (.aload_n 0, 1) := dk_42 (dk_at dksX12_enter_1 10 rfl rfl)
theorem dX12_enter_35 : decode cX12_enter 35 = .ok (.aload_n 0, 1) := dk_42 (dk_at dksX12_enter_1 11 rfl rfl)
theorem dX12_enter_36 : decode cX12_enter 36 = .ok (.getfield 37, 3) := dk_180 0 37 (dk_at dksX12_enter_1 12 rfl rfl)
theorem dX12_enter_39 : decode cX12_enter 39 = .ok (.invokestatic 56, 3) := dk_184 0 56 (dk_at dksX12_enter_1 15 rfl rfl)
theorem dX12_enter_42 : decode cX12_enter 42 = .ok (.putfield 37, 3) := dk_181 0 37 (dk_at dksX12_enter_1 18 rfl rfl)
theorem dX12_enter_45 : decode cX12_enter 45 = .ok (.aload_n 0, 1) := dk_42 (dk_at dksX12_enter_1 21 rfl rfl)
theorem dX12_enter_46 : decode cX12_enter 46 = .ok (.getfield 31, 3) := dk_180 0 31 (dk_at dksX12_enter_2 0 rfl rfl)
theorem dX12_enter_49 : decode cX12_enter 49 = .ok (.aload_n 0, 1) := dk_42 (dk_at dksX12_enter_2 3 rfl rfl)
theorem dX12_enter_50 : decode cX12_enter 50 = .ok (.getfield 60, 3) := dk_180 0 60 (dk_at dksX12_enter_2 4 rfl rfl)
theorem dX12_enter_53 : decode cX12_enter 53 = .ok (.aload_n 0, 1) := dk_42 (dk_at dksX12_enter_2 7 rfl rfl)
theorem dX12_enter_54 : decode cX12_enter 54 = .ok (.getfield 40, 3) := dk_180 0 40 (dk_at dksX12_enter_2 8 rfl rfl)
theorem dX12_enter_57 : decode cX12_enter 57 = .ok (.iconst 1, 1) := dk_4 (dk_at dksX12_enter_2 11 rfl rfl)
theorem dX12_enter_58 : decode cX12_enter 58 = .ok (.isub, 1) := dk_100 (dk_at dksX12_enter_2 12 rfl rfl)
theorem dX12_enter_59 : decode cX12_enter 59 = .ok (.iastore, 1) := dk_79 (dk_at dksX12_enter_2 13 rfl rfl)
theorem dX12_enter_60 : decode cX12_enter 60 = .ok (.aload_n 0, 1) := dk_42 (dk_at dksX12_enter_2 14 rfl rfl)
theorem dX12_enter_61 : decode cX12_enter 61 = .ok (.getfield 34, 3) := dk_180 0 34 (dk_at dksX12_enter_2 15 rfl rfl)
theorem dX12_enter_64 : decode cX12_enter 64 = .ok (.aload_n 0, 1) := dk_42 (dk_at dksX12_enter_2 18 rfl rfl)
theorem dX12_enter_65 : decode cX12_enter 65 = .ok (.getfield 60, 3) := dk_180 0 60 (dk_at dksX12_enter_2 19 rfl rfl)
theorem dX12_enter_68 : decode cX12_enter 68 = .ok (.iload_n 1, 1) := dk_27 (dk_at dksX12_enter_2 22 rfl rfl)
theorem dX12_enter_69 : decode cX12_enter 69 = .ok (.iastore, 1) := dk_79 (dk_at dksX12_enter_2 23 rfl rfl)
theorem dX12_enter_70 : decode cX12_enter 70 = .ok (.aload_n 0, 1) := dk_42 (dk_at dksX12_enter_3 0 rfl rfl)
theorem dX12_enter_71 : decode cX12_enter 71 = .ok (.getfield 37, 3) := dk_180 0 37 (dk_at dksX12_enter_3 1 rfl rfl)
theorem dX12_enter_74 : decode cX12_enter 74 = .ok (.aload_n 0, 1) := dk_42 (dk_at dksX12_enter_3 4 rfl rfl)
theorem dX12_enter_75 : decode cX12_enter 75 = .ok (.getfield 60, 3) := dk_180 0 60 (dk_at dksX12_enter_3 5 rfl rfl)
theorem dX12_enter_78 : decode cX12_enter 78 = .ok (.iload_n 2, 1) := dk_28 (dk_at dksX12_enter_3 8 rfl rfl)
theorem dX12_enter_79 : decode cX12_enter 79 = .ok (.iastore, 1) := dk_79 (dk_at dksX12_enter_3 9 rfl rfl)
theorem dX12_enter_80 : decode cX12_enter 80 = .ok (.aload_n 0, 1) := dk_42 (dk_at dksX12_enter_3 10 rfl rfl)
theorem dX12_enter_81 : decode cX12_enter 81 = .ok (.dup, 1) := dk_89 (dk_at dksX12_enter_3 11 rfl rfl)
theorem dX12_enter_82 : decode cX12_enter 82 = .ok (.getfield 60, 3) := dk_180 0 60 (dk_at dksX12_enter_3 12 rfl rfl)
theorem dX12_enter_85 : decode cX12_enter 85 = .ok (.iconst 1, 1) := dk_4 (dk_at dksX12_enter_3 15 rfl rfl)
theorem dX12_enter_86 : decode cX12_enter 86 = .ok (.iadd, 1) := dk_96 (dk_at dksX12_enter_3 16 rfl rfl)
theorem dX12_enter_87 : decode cX12_enter 87 = .ok (.putfield 60, 3) := dk_181 0 60 (dk_at dksX12_enter_3 17 rfl rfl)
theorem dX12_enter_90 : decode cX12_enter 90 = .ok (.return_, 1) := dk_177 (dk_at dksX12_enter_3 20 rfl rfl)
abbrev cX12_step : ByteArray := prog_3_method_18_code
def yX12_step : MethodName := ⟨RX12, "step", "(I)Z"⟩
def dkwX12_step_4 : List UInt8 := [5, 96, 181, 0, 72, 4, 172, 42, 27, 182, 0, 75, 172]
abbrev dktX12_step_4 : List UInt8 := dkwX12_step_4 ++ []
def dkwX12_step_3 : List UInt8 := [180, 0, 72, 4, 96, 182, 0, 92, 154, 0, 23, 42, 42, 180, 0, 72, 182, 0, 85, 42, 89, 180, 0, 72]
abbrev dktX12_step_3 : List UInt8 := dkwX12_step_3 ++ dktX12_step_4
def dkwX12_step_2 : List UInt8 := [162, 0, 53, 42, 180, 0, 63, 42, 180, 0, 72, 182, 0, 92, 154, 0, 39, 42, 180, 0, 63, 42]
abbrev dktX12_step_2 : List UInt8 := dkwX12_step_2 ++ dktX12_step_3
def dkwX12_step_1 : List UInt8 := [180, 0, 72, 182, 0, 85, 4, 172, 28, 2, 160, 0, 66, 42, 180, 0, 72, 4, 96, 42, 182, 0, 89]
abbrev dktX12_step_1 : List UInt8 := dkwX12_step_1 ++ dktX12_step_2
def dkwX12_step_0 : List UInt8 := [42, 180, 0, 34, 42, 180, 0, 60, 4, 100, 46, 61, 28, 42, 180, 0, 72, 160, 0, 13, 42, 42]
abbrev dktX12_step_0 : List UInt8 := dkwX12_step_0 ++ dktX12_step_1
theorem dksX12_step_0 : cX12_step.data.toList.drop 0 = dktX12_step_0 := by decide +kernel
theorem dksX12_step_1 : cX12_step.data.toList.drop 22 = dktX12_step_1 := dk_seg dksX12_step_0 22 rfl rfl
theorem dksX12_step_2 : cX12_step.data.toList.drop 45 = dktX12_step_2 := dk_seg dksX12_step_1 23 rfl rfl
theorem dksX12_step_3 : cX12_step.data.toList.drop 67 = dktX12_step_3 := dk_seg dksX12_step_2 22 rfl rfl
theorem dksX12_step_4 : cX12_step.data.toList.drop 91 = dktX12_step_4 := dk_seg dksX12_step_3 24 rfl rfl
theorem dX12_step_0 : decode cX12_step 0 = .ok (.aload_n 0, 1) := dk_42 (dk_at dksX12_step_0 0 rfl rfl)
theorem dX12_step_1 : decode cX12_step 1 = .ok (.getfield 34, 3) := dk_180 0 34 (dk_at dksX12_step_0 1 rfl rfl)
theorem dX12_step_4 : decode cX12_step 4 = .ok (.aload_n 0, 1) := dk_42 (dk_at dksX12_step_0 4 rfl rfl)
theorem dX12_step_5 : decode cX12_step 5 = .ok (.getfield 60, 3) := dk_180 0 60 (dk_at dksX12_step_0 5 rfl rfl)
theorem dX12_step_8 : decode cX12_step 8 = .ok (.iconst 1, 1) := dk_4 (dk_at dksX12_step_0 8 rfl rfl)
theorem dX12_step_9 : decode cX12_step 9 = .ok (.isub, 1) := dk_100 (dk_at dksX12_step_0 9 rfl rfl)
theorem dX12_step_10 : decode cX12_step 10 = .ok (.iaload, 1) := dk_46 (dk_at dksX12_step_0 10 rfl rfl)
theorem dX12_step_11 : decode cX12_step 11 = .ok (.istore_n 2, 1) := dk_61 (dk_at dksX12_step_0 11 rfl rfl)
theorem dX12_step_12 : decode cX12_step 12 = .ok (.iload_n 2, 1) := dk_28 (dk_at dksX12_step_0 12 rfl rfl)
theorem dX12_step_13 : decode cX12_step 13 = .ok (.aload_n 0, 1) := dk_42 (dk_at dksX12_step_0 13 rfl rfl)
theorem dX12_step_14 : decode cX12_step 14 = .ok (.getfield 72, 3) := dk_180 0 72 (dk_at dksX12_step_0 14 rfl rfl)
theorem dX12_step_17 : decode cX12_step 17 = .ok (.if_icmp .ne 13, 3) := dk_160 0 13 (dk_at dksX12_step_0 17 rfl rfl)
theorem dX12_step_20 : decode cX12_step 20 = .ok (.aload_n 0, 1) := dk_42 (dk_at dksX12_step_0 20 rfl rfl)
theorem dX12_step_21 : decode cX12_step 21 = .ok (.aload_n 0, 1) := dk_42 (dk_at dksX12_step_0 21 rfl rfl)
theorem dX12_step_22 : decode cX12_step 22 = .ok (.getfield 72, 3) := dk_180 0 72 (dk_at dksX12_step_1 0 rfl rfl)
theorem dX12_step_25 : decode cX12_step 25 = .ok (.invokevirtual 85, 3) := dk_182 0 85 (dk_at dksX12_step_1 3 rfl rfl)
theorem dX12_step_28 : decode cX12_step 28 = .ok (.iconst 1, 1) := dk_4 (dk_at dksX12_step_1 6 rfl rfl)
theorem dX12_step_29 : decode cX12_step 29 = .ok (.ireturn, 1) := dk_172 (dk_at dksX12_step_1 7 rfl rfl)
theorem dX12_step_30 : decode cX12_step 30 = .ok (.iload_n 2, 1) := dk_28 (dk_at dksX12_step_1 8 rfl rfl)
theorem dX12_step_31 : decode cX12_step 31 = .ok (.iconst (-1), 1) := dk_2 (dk_at dksX12_step_1 9 rfl rfl)
theorem dX12_step_32 : decode cX12_step 32 = .ok (.if_icmp .ne 66, 3) := dk_160 0 66 (dk_at dksX12_step_1 10 rfl rfl)
theorem dX12_step_35 : decode cX12_step 35 = .ok (.aload_n 0, 1) := dk_42 (dk_at dksX12_step_1 13 rfl rfl)
theorem dX12_step_36 : decode cX12_step 36 = .ok (.getfield 72, 3) := dk_180 0 72 (dk_at dksX12_step_1 14 rfl rfl)
theorem dX12_step_39 : decode cX12_step 39 = .ok (.iconst 1, 1) := dk_4 (dk_at dksX12_step_1 17 rfl rfl)
theorem dX12_step_40 : decode cX12_step 40 = .ok (.iadd, 1) := dk_96 (dk_at dksX12_step_1 18 rfl rfl)
theorem dX12_step_41 : decode cX12_step 41 = .ok (.aload_n 0, 1) := dk_42 (dk_at dksX12_step_1 19 rfl rfl)
theorem dX12_step_42 : decode cX12_step 42 = .ok (.invokevirtual 89, 3) := dk_182 0 89 (dk_at dksX12_step_1 20 rfl rfl)
theorem dX12_step_45 : decode cX12_step 45 = .ok (.if_icmp .ge 53, 3) := dk_162 0 53 (dk_at dksX12_step_2 0 rfl rfl)
theorem dX12_step_48 : decode cX12_step 48 = .ok (.aload_n 0, 1) := dk_42 (dk_at dksX12_step_2 3 rfl rfl)
theorem dX12_step_49 : decode cX12_step 49 = .ok (.getfield 63, 3) := dk_180 0 63 (dk_at dksX12_step_2 4 rfl rfl)
theorem dX12_step_52 : decode cX12_step 52 = .ok (.aload_n 0, 1) := dk_42 (dk_at dksX12_step_2 7 rfl rfl)
theorem dX12_step_53 : decode cX12_step 53 = .ok (.getfield 72, 3) := dk_180 0 72 (dk_at dksX12_step_2 8 rfl rfl)
theorem dX12_step_56 : decode cX12_step 56 = .ok (.invokevirtual 92, 3) := dk_182 0 92 (dk_at dksX12_step_2 11 rfl rfl)
theorem dX12_step_59 : decode cX12_step 59 = .ok (.ifCond .ne 39, 3) := dk_154 0 39 (dk_at dksX12_step_2 14 rfl rfl)
theorem dX12_step_62 : decode cX12_step 62 = .ok (.aload_n 0, 1) := dk_42 (dk_at dksX12_step_2 17 rfl rfl)
theorem dX12_step_63 : decode cX12_step 63 = .ok (.getfield 63, 3) := dk_180 0 63 (dk_at dksX12_step_2 18 rfl rfl)
theorem dX12_step_66 : decode cX12_step 66 = .ok (.aload_n 0, 1) := dk_42 (dk_at dksX12_step_2 21 rfl rfl)
theorem dX12_step_67 : decode cX12_step 67 = .ok (.getfield 72, 3) := dk_180 0 72 (dk_at dksX12_step_3 0 rfl rfl)
theorem dX12_step_70 : decode cX12_step 70 = .ok (.iconst 1, 1) := dk_4 (dk_at dksX12_step_3 3 rfl rfl)
theorem dX12_step_71 : decode cX12_step 71 = .ok (.iadd, 1) := dk_96 (dk_at dksX12_step_3 4 rfl rfl)
theorem dX12_step_72 : decode cX12_step 72 = .ok (.invokevirtual 92, 3) := dk_182 0 92 (dk_at dksX12_step_3 5 rfl rfl)
theorem dX12_step_75 : decode cX12_step 75 = .ok (.ifCond .ne 23, 3) := dk_154 0 23 (dk_at dksX12_step_3 8 rfl rfl)
theorem dX12_step_78 : decode cX12_step 78 = .ok (.aload_n 0, 1) := dk_42 (dk_at dksX12_step_3 11 rfl rfl)
theorem dX12_step_79 : decode cX12_step 79 = .ok (.aload_n 0, 1) := dk_42 (dk_at dksX12_step_3 12 rfl rfl)
theorem dX12_step_80 : decode cX12_step 80 = .ok (.getfield 72, 3) := dk_180 0 72 (dk_at dksX12_step_3 13 rfl rfl)
theorem dX12_step_83 : decode cX12_step 83 = .ok (.invokevirtual 85, 3) := dk_182 0 85 (dk_at dksX12_step_3 16 rfl rfl)
theorem dX12_step_86 : decode cX12_step 86 = .ok (.aload_n 0, 1) := dk_42 (dk_at dksX12_step_3 19 rfl rfl)
theorem dX12_step_87 : decode cX12_step 87 = .ok (.dup, 1) := dk_89 (dk_at dksX12_step_3 20 rfl rfl)
theorem dX12_step_88 : decode cX12_step 88 = .ok (.getfield 72, 3) := dk_180 0 72 (dk_at dksX12_step_3 21 rfl rfl)
theorem dX12_step_91 : decode cX12_step 91 = .ok (.iconst 2, 1) := dk_5 (dk_at dksX12_step_4 0 rfl rfl)
theorem dX12_step_92 : decode cX12_step 92 = .ok (.iadd, 1) := dk_96 (dk_at dksX12_step_4 1 rfl rfl)
theorem dX12_step_93 : decode cX12_step 93 = .ok (.putfield 72, 3) := dk_181 0 72 (dk_at dksX12_step_4 2 rfl rfl)
theorem dX12_step_96 : decode cX12_step 96 = .ok (.iconst 1, 1) := dk_4 (dk_at dksX12_step_4 5 rfl rfl)
theorem dX12_step_97 : decode cX12_step 97 = .ok (.ireturn, 1) := dk_172 (dk_at dksX12_step_4 6 rfl rfl)
theorem dX12_step_98 : decode cX12_step 98 = .ok (.aload_n 0, 1) := dk_42 (dk_at dksX12_step_4 7 rfl rfl)
theorem dX12_step_99 : decode cX12_step 99 = .ok (.iload_n 1, 1) := dk_27 (dk_at dksX12_step_4 8 rfl rfl)
theorem dX12_step_100 : decode cX12_step 100 = .ok (.invokevirtual 75, 3) := dk_182 0 75 (dk_at dksX12_step_4 9 rfl rfl)
theorem dX12_step_103 : decode cX12_step 103 = .ok (.ireturn, 1) := dk_172 (dk_at dksX12_step_4 12 rfl rfl)
abbrev cX12_leave : ByteArray := prog_3_method_15_code
def yX12_leave : MethodName := ⟨RX12, "leave", "(I)V"⟩
def dkwX12_leave_1 : List UInt8 := [79, 42, 180, 0, 24, 42, 180, 0, 31, 42, 180, 0, 60, 46, 42, 180, 0, 40, 79, 177]
abbrev dktX12_leave_1 : List UInt8 := dkwX12_leave_1 ++ []
def dkwX12_leave_0 : List UInt8 := [42, 89, 180, 0, 60, 4, 100, 181, 0, 60, 42, 180, 0, 21, 42, 180, 0, 31, 42, 180, 0, 60, 46, 27]
abbrev dktX12_leave_0 : List UInt8 := dkwX12_leave_0 ++ dktX12_leave_1
theorem dksX12_leave_0 : cX12_leave.data.toList.drop 0 = dktX12_leave_0 := by decide +kernel
theorem dksX12_leave_1 : cX12_leave.data.toList.drop 24 = dktX12_leave_1 := dk_seg dksX12_leave_0 24 rfl rfl
theorem dX12_leave_0 : decode cX12_leave 0 = .ok (.aload_n 0, 1) := dk_42 (dk_at dksX12_leave_0 0 rfl rfl)
theorem dX12_leave_1 : decode cX12_leave 1 = .ok (.dup, 1) := dk_89 (dk_at dksX12_leave_0 1 rfl rfl)
theorem dX12_leave_2 : decode cX12_leave 2 = .ok (.getfield 60, 3) := dk_180 0 60 (dk_at dksX12_leave_0 2 rfl rfl)
theorem dX12_leave_5 : decode cX12_leave 5 = .ok (.iconst 1, 1) := dk_4 (dk_at dksX12_leave_0 5 rfl rfl)
theorem dX12_leave_6 : decode cX12_leave 6 = .ok (.isub, 1) := dk_100 (dk_at dksX12_leave_0 6 rfl rfl)
theorem dX12_leave_7 : decode cX12_leave 7 = .ok (.putfield 60, 3) := dk_181 0 60 (dk_at dksX12_leave_0 7 rfl rfl)
theorem dX12_leave_10 : decode cX12_leave 10 = .ok (.aload_n 0, 1) := dk_42 (dk_at dksX12_leave_0 10 rfl rfl)
theorem dX12_leave_11 : decode cX12_leave 11 = .ok (.getfield 21, 3) := dk_180 0 21 (dk_at dksX12_leave_0 11 rfl rfl)
theorem dX12_leave_14 : decode cX12_leave 14 = .ok (.aload_n 0, 1) := dk_42 (dk_at dksX12_leave_0 14 rfl rfl)
theorem dX12_leave_15 : decode cX12_leave 15 = .ok (.getfield 31, 3) := dk_180 0 31 (dk_at dksX12_leave_0 15 rfl rfl)
theorem dX12_leave_18 : decode cX12_leave 18 = .ok (.aload_n 0, 1) := dk_42 (dk_at dksX12_leave_0 18 rfl rfl)
theorem dX12_leave_19 : decode cX12_leave 19 = .ok (.getfield 60, 3) := dk_180 0 60 (dk_at dksX12_leave_0 19 rfl rfl)
theorem dX12_leave_22 : decode cX12_leave 22 = .ok (.iaload, 1) := dk_46 (dk_at dksX12_leave_0 22 rfl rfl)
theorem dX12_leave_23 : decode cX12_leave 23 = .ok (.iload_n 1, 1) := dk_27 (dk_at dksX12_leave_0 23 rfl rfl)
theorem dX12_leave_24 : decode cX12_leave 24 = .ok (.iastore, 1) := dk_79 (dk_at dksX12_leave_1 0 rfl rfl)
theorem dX12_leave_25 : decode cX12_leave 25 = .ok (.aload_n 0, 1) := dk_42 (dk_at dksX12_leave_1 1 rfl rfl)
theorem dX12_leave_26 : decode cX12_leave 26 = .ok (.getfield 24, 3) := dk_180 0 24 (dk_at dksX12_leave_1 2 rfl rfl)
theorem dX12_leave_29 : decode cX12_leave 29 = .ok (.aload_n 0, 1) := dk_42 (dk_at dksX12_leave_1 5 rfl rfl)
theorem dX12_leave_30 : decode cX12_leave 30 = .ok (.getfield 31, 3) := dk_180 0 31 (dk_at dksX12_leave_1 6 rfl rfl)
theorem dX12_leave_33 : decode cX12_leave 33 = .ok (.aload_n 0, 1) := dk_42 (dk_at dksX12_leave_1 9 rfl rfl)
theorem dX12_leave_34 : decode cX12_leave 34 = .ok (.getfield 60, 3) := dk_180 0 60 (dk_at dksX12_leave_1 10 rfl rfl)
theorem dX12_leave_37 : decode cX12_leave 37 = .ok (.iaload, 1) := dk_46 (dk_at dksX12_leave_1 13 rfl rfl)
theorem dX12_leave_38 : decode cX12_leave 38 = .ok (.aload_n 0, 1) := dk_42 (dk_at dksX12_leave_1 14 rfl rfl)
theorem dX12_leave_39 : decode cX12_leave 39 = .ok (.getfield 40, 3) := dk_180 0 40 (dk_at dksX12_leave_1 15 rfl rfl)
theorem dX12_leave_42 : decode cX12_leave 42 = .ok (.iastore, 1) := dk_79 (dk_at dksX12_leave_1 18 rfl rfl)
theorem dX12_leave_43 : decode cX12_leave 43 = .ok (.return_, 1) := dk_177 (dk_at dksX12_leave_1 19 rfl rfl)
abbrev cX12_fault : ByteArray := prog_3_method_3_code
def yX12_fault : MethodName := ⟨RX12, "fault", "()I"⟩
theorem dX12_fault_0 : decode cX12_fault 0 = .ok (.aload_n 0, 1) := by decide +kernel
theorem dX12_fault_1 : decode cX12_fault 1 = .ok (.getfield 44, 3) := by decide +kernel
theorem dX12_fault_4 : decode cX12_fault 4 = .ok (.ireturn, 1) := by decide +kernel
abbrev cX12_place : ByteArray := prog_3_method_4_code
def yX12_place : MethodName := ⟨RX12, "place", "()I"⟩
theorem dX12_place_0 : decode cX12_place 0 = .ok (.aload_n 0, 1) := by decide +kernel
theorem dX12_place_1 : decode cX12_place 1 = .ok (.getfield 47, 3) := by decide +kernel
theorem dX12_place_4 : decode cX12_place 4 = .ok (.ireturn, 1) := by decide +kernel
abbrev cX12_size : ByteArray := prog_3_method_2_code
def yX12_size : MethodName := ⟨RX12, "size", "()I"⟩
theorem dX12_size_0 : decode cX12_size 0 = .ok (.aload_n 0, 1) := by decide +kernel
theorem dX12_size_1 : decode cX12_size 1 = .ok (.getfield 40, 3) := by decide +kernel
theorem dX12_size_4 : decode cX12_size 4 = .ok (.ireturn, 1) := by decide +kernel
abbrev cX12_tag : ByteArray := prog_3_method_5_code
def yX12_tag : MethodName := ⟨RX12, "tag", "(I)I"⟩
def dkwX12_tag_0 : List UInt8 := [42, 180, 0, 9, 27, 46, 172]
abbrev dktX12_tag_0 : List UInt8 := dkwX12_tag_0 ++ []
theorem dksX12_tag_0 : cX12_tag.data.toList.drop 0 = dktX12_tag_0 := by decide +kernel
theorem dX12_tag_0 : decode cX12_tag 0 = .ok (.aload_n 0, 1) := dk_42 (dk_at dksX12_tag_0 0 rfl rfl)
theorem dX12_tag_1 : decode cX12_tag 1 = .ok (.getfield 9, 3) := dk_180 0 9 (dk_at dksX12_tag_0 1 rfl rfl)
theorem dX12_tag_4 : decode cX12_tag 4 = .ok (.iload_n 1, 1) := dk_27 (dk_at dksX12_tag_0 4 rfl rfl)
theorem dX12_tag_5 : decode cX12_tag 5 = .ok (.iaload, 1) := dk_46 (dk_at dksX12_tag_0 5 rfl rfl)
theorem dX12_tag_6 : decode cX12_tag 6 = .ok (.ireturn, 1) := dk_172 (dk_at dksX12_tag_0 6 rfl rfl)
abbrev cX12_start : ByteArray := prog_3_method_6_code
def yX12_start : MethodName := ⟨RX12, "start", "(I)I"⟩
def dkwX12_start_0 : List UInt8 := [42, 180, 0, 15, 27, 46, 172]
abbrev dktX12_start_0 : List UInt8 := dkwX12_start_0 ++ []
theorem dksX12_start_0 : cX12_start.data.toList.drop 0 = dktX12_start_0 := by decide +kernel
theorem dX12_start_0 : decode cX12_start 0 = .ok (.aload_n 0, 1) := dk_42 (dk_at dksX12_start_0 0 rfl rfl)
theorem dX12_start_1 : decode cX12_start 1 = .ok (.getfield 15, 3) := dk_180 0 15 (dk_at dksX12_start_0 1 rfl rfl)
theorem dX12_start_4 : decode cX12_start 4 = .ok (.iload_n 1, 1) := dk_27 (dk_at dksX12_start_0 4 rfl rfl)
theorem dX12_start_5 : decode cX12_start 5 = .ok (.iaload, 1) := dk_46 (dk_at dksX12_start_0 5 rfl rfl)
theorem dX12_start_6 : decode cX12_start 6 = .ok (.ireturn, 1) := dk_172 (dk_at dksX12_start_0 6 rfl rfl)
abbrev cX12_hasParts : ByteArray := prog_3_method_10_code
def yX12_hasParts : MethodName := ⟨RX12, "hasParts", "(I)Z"⟩
def dkwX12_hasParts_0 : List UInt8 := [42, 180, 0, 27, 27, 51, 172]
abbrev dktX12_hasParts_0 : List UInt8 := dkwX12_hasParts_0 ++ []
theorem dksX12_hasParts_0 : cX12_hasParts.data.toList.drop 0 = dktX12_hasParts_0 := by decide +kernel
theorem dX12_hasParts_0 : decode cX12_hasParts 0 = .ok (.aload_n 0, 1) := dk_42 (dk_at dksX12_hasParts_0 0 rfl rfl)
theorem dX12_hasParts_1 : decode cX12_hasParts 1 = .ok (.getfield 27, 3) := dk_180 0 27 (dk_at dksX12_hasParts_0 1 rfl rfl)
theorem dX12_hasParts_4 : decode cX12_hasParts 4 = .ok (.iload_n 1, 1) := dk_27 (dk_at dksX12_hasParts_0 4 rfl rfl)
theorem dX12_hasParts_5 : decode cX12_hasParts 5 = .ok (.baload, 1) := dk_51 (dk_at dksX12_hasParts_0 5 rfl rfl)
theorem dX12_hasParts_6 : decode cX12_hasParts 6 = .ok (.ireturn, 1) := dk_172 (dk_at dksX12_hasParts_0 6 rfl rfl)
abbrev cX12_from : ByteArray := prog_3_method_7_code
def yX12_from : MethodName := ⟨RX12, "from", "(I)I"⟩
def dkwX12_from_0 : List UInt8 := [42, 180, 0, 18, 27, 46, 172]
abbrev dktX12_from_0 : List UInt8 := dkwX12_from_0 ++ []
theorem dksX12_from_0 : cX12_from.data.toList.drop 0 = dktX12_from_0 := by decide +kernel
theorem dX12_from_0 : decode cX12_from 0 = .ok (.aload_n 0, 1) := dk_42 (dk_at dksX12_from_0 0 rfl rfl)
theorem dX12_from_1 : decode cX12_from 1 = .ok (.getfield 18, 3) := dk_180 0 18 (dk_at dksX12_from_0 1 rfl rfl)
theorem dX12_from_4 : decode cX12_from 4 = .ok (.iload_n 1, 1) := dk_27 (dk_at dksX12_from_0 4 rfl rfl)
theorem dX12_from_5 : decode cX12_from 5 = .ok (.iaload, 1) := dk_46 (dk_at dksX12_from_0 5 rfl rfl)
theorem dX12_from_6 : decode cX12_from 6 = .ok (.ireturn, 1) := dk_172 (dk_at dksX12_from_0 6 rfl rfl)
abbrev cX12_to : ByteArray := prog_3_method_8_code
def yX12_to : MethodName := ⟨RX12, "to", "(I)I"⟩
def dkwX12_to_0 : List UInt8 := [42, 180, 0, 21, 27, 46, 172]
abbrev dktX12_to_0 : List UInt8 := dkwX12_to_0 ++ []
theorem dksX12_to_0 : cX12_to.data.toList.drop 0 = dktX12_to_0 := by decide +kernel
theorem dX12_to_0 : decode cX12_to 0 = .ok (.aload_n 0, 1) := dk_42 (dk_at dksX12_to_0 0 rfl rfl)
theorem dX12_to_1 : decode cX12_to 1 = .ok (.getfield 21, 3) := dk_180 0 21 (dk_at dksX12_to_0 1 rfl rfl)
theorem dX12_to_4 : decode cX12_to 4 = .ok (.iload_n 1, 1) := dk_27 (dk_at dksX12_to_0 4 rfl rfl)
theorem dX12_to_5 : decode cX12_to 5 = .ok (.iaload, 1) := dk_46 (dk_at dksX12_to_0 5 rfl rfl)
theorem dX12_to_6 : decode cX12_to 6 = .ok (.ireturn, 1) := dk_172 (dk_at dksX12_to_0 6 rfl rfl)
abbrev cX12_behind : ByteArray := prog_3_method_9_code
def yX12_behind : MethodName := ⟨RX12, "behind", "(I)I"⟩
def dkwX12_behind_0 : List UInt8 := [42, 180, 0, 24, 27, 46, 172]
abbrev dktX12_behind_0 : List UInt8 := dkwX12_behind_0 ++ []
theorem dksX12_behind_0 : cX12_behind.data.toList.drop 0 = dktX12_behind_0 := by decide +kernel
theorem dX12_behind_0 : decode cX12_behind 0 = .ok (.aload_n 0, 1) := dk_42 (dk_at dksX12_behind_0 0 rfl rfl)
theorem dX12_behind_1 : decode cX12_behind 1 = .ok (.getfield 24, 3) := dk_180 0 24 (dk_at dksX12_behind_0 1 rfl rfl)
theorem dX12_behind_4 : decode cX12_behind 4 = .ok (.iload_n 1, 1) := dk_27 (dk_at dksX12_behind_0 4 rfl rfl)
theorem dX12_behind_5 : decode cX12_behind 5 = .ok (.iaload, 1) := dk_46 (dk_at dksX12_behind_0 5 rfl rfl)
theorem dX12_behind_6 : decode cX12_behind 6 = .ok (.ireturn, 1) := dk_172 (dk_at dksX12_behind_0 6 rfl rfl)
theorem q309 : (Jvm.Cond.initialized "SchemaWorkshop$Elements") ∈ lw_all := lw_g (lw_at lw_m1 12 rfl) rfl
theorem q704 : (Jvm.Cond.instantiable "SchemaWorkshop$Elements" (15 : Nat)) ∈ lw_all := lw_g (lw_at lw_m2 167 rfl) rfl
theorem q706 : (Jvm.Cond.instanceMethod ({ cls := "SchemaWorkshop$Elements", name := "<init>", desc := "()V" } : Jvm.MethodName)) ∈ lw_all := lw_g (lw_at lw_m2 169 rfl) rfl
theorem q707 : (Jvm.Cond.code ({ cls := "SchemaWorkshop$Elements", name := "<init>", desc := "()V" } : Jvm.MethodName) prog_3_method_1_code (1 : Nat) (Option.none : Option Jvm.ClassFile.FieldType)) ∈ lw_all := lw_g (lw_at lw_m2 170 rfl) rfl
theorem q708 : (Jvm.Cond.methodLink "SchemaWorkshop$Elements" (3 : Nat) ({ cls := "java/lang/Object", name := "<init>", desc := "()V" } : Jvm.MethodName)) ∈ lw_all := lw_g (lw_at lw_m2 171 rfl) rfl
theorem q709 : (Jvm.Cond.fieldLink "SchemaWorkshop$Elements" (63 : Nat) "SchemaWorkshop$Elements" "row" "LSchemaWorkshop$Bytes;") ∈ lw_all := lw_g (lw_at lw_m2 172 rfl) rfl
theorem q710 : (Jvm.Cond.fieldLink "SchemaWorkshop$Elements" (72 : Nat) "SchemaWorkshop$Elements" "at" "I") ∈ lw_all := lw_g (lw_at lw_m2 173 rfl) rfl
theorem q711 : (Jvm.Cond.fieldLink "SchemaWorkshop$Elements" (44 : Nat) "SchemaWorkshop$Elements" "fault" "I") ∈ lw_all := lw_g (lw_at lw_m2 174 rfl) rfl
theorem q712 : (Jvm.Cond.fieldLink "SchemaWorkshop$Elements" (47 : Nat) "SchemaWorkshop$Elements" "place" "I") ∈ lw_all := lw_g (lw_at lw_m2 175 rfl) rfl
theorem q713 : (Jvm.Cond.fieldLink "SchemaWorkshop$Elements" (9 : Nat) "SchemaWorkshop$Elements" "tags" "[I") ∈ lw_all := lw_g (lw_at lw_m2 176 rfl) rfl
theorem q714 : (Jvm.Cond.fieldLink "SchemaWorkshop$Elements" (15 : Nat) "SchemaWorkshop$Elements" "starts" "[I") ∈ lw_all := lw_g (lw_at lw_m2 177 rfl) rfl
theorem q715 : (Jvm.Cond.fieldLink "SchemaWorkshop$Elements" (18 : Nat) "SchemaWorkshop$Elements" "from" "[I") ∈ lw_all := lw_g (lw_at lw_m2 178 rfl) rfl
theorem q716 : (Jvm.Cond.fieldLink "SchemaWorkshop$Elements" (21 : Nat) "SchemaWorkshop$Elements" "to" "[I") ∈ lw_all := lw_g (lw_at lw_m2 179 rfl) rfl
theorem q717 : (Jvm.Cond.fieldLink "SchemaWorkshop$Elements" (24 : Nat) "SchemaWorkshop$Elements" "behind" "[I") ∈ lw_all := lw_g (lw_at lw_m2 180 rfl) rfl
theorem q718 : (Jvm.Cond.fieldLink "SchemaWorkshop$Elements" (27 : Nat) "SchemaWorkshop$Elements" "parts" "[Z") ∈ lw_all := lw_g (lw_at lw_m2 181 rfl) rfl
theorem q719 : (Jvm.Cond.fieldLink "SchemaWorkshop$Elements" (40 : Nat) "SchemaWorkshop$Elements" "size" "I") ∈ lw_all := lw_g (lw_at lw_m2 182 rfl) rfl
theorem q720 : (Jvm.Cond.fieldLink "SchemaWorkshop$Elements" (31 : Nat) "SchemaWorkshop$Elements" "open" "[I") ∈ lw_all := lw_g (lw_at lw_m2 183 rfl) rfl
theorem q721 : (Jvm.Cond.fieldLink "SchemaWorkshop$Elements" (34 : Nat) "SchemaWorkshop$Elements" "ends" "[I") ∈ lw_all := lw_g (lw_at lw_m2 184 rfl) rfl
theorem q722 : (Jvm.Cond.fieldLink "SchemaWorkshop$Elements" (37 : Nat) "SchemaWorkshop$Elements" "bounds" "[I") ∈ lw_all := lw_g (lw_at lw_m2 185 rfl) rfl
theorem q723 : (Jvm.Cond.fieldLink "SchemaWorkshop$Elements" (60 : Nat) "SchemaWorkshop$Elements" "depth" "I") ∈ lw_all := lw_g (lw_at lw_m2 186 rfl) rfl
theorem q724 : (Jvm.Cond.lays "SchemaWorkshop$Elements" "SchemaWorkshop$Elements" "row" "LSchemaWorkshop$Bytes;") ∈ lw_all := lw_g (lw_at lw_m2 187 rfl) rfl
theorem q725 : (Jvm.Cond.soleField "SchemaWorkshop$Elements" "row") ∈ lw_all := lw_g (lw_at lw_m2 188 rfl) rfl
theorem q726 : (Jvm.Cond.lays "SchemaWorkshop$Elements" "SchemaWorkshop$Elements" "at" "I") ∈ lw_all := lw_g (lw_at lw_m2 189 rfl) rfl
theorem q727 : (Jvm.Cond.soleField "SchemaWorkshop$Elements" "at") ∈ lw_all := lw_g (lw_at lw_m2 190 rfl) rfl
theorem q728 : (Jvm.Cond.lays "SchemaWorkshop$Elements" "SchemaWorkshop$Elements" "fault" "I") ∈ lw_all := lw_g (lw_at lw_m2 191 rfl) rfl
theorem q729 : (Jvm.Cond.soleField "SchemaWorkshop$Elements" "fault") ∈ lw_all := lw_g (lw_at lw_m2 192 rfl) rfl
theorem q730 : (Jvm.Cond.lays "SchemaWorkshop$Elements" "SchemaWorkshop$Elements" "place" "I") ∈ lw_all := lw_g (lw_at lw_m2 193 rfl) rfl
theorem q731 : (Jvm.Cond.soleField "SchemaWorkshop$Elements" "place") ∈ lw_all := lw_g (lw_at lw_m2 194 rfl) rfl
theorem q732 : (Jvm.Cond.lays "SchemaWorkshop$Elements" "SchemaWorkshop$Elements" "tags" "[I") ∈ lw_all := lw_g (lw_at lw_m2 195 rfl) rfl
theorem q733 : (Jvm.Cond.soleField "SchemaWorkshop$Elements" "tags") ∈ lw_all := lw_g (lw_at lw_m2 196 rfl) rfl
theorem q734 : (Jvm.Cond.lays "SchemaWorkshop$Elements" "SchemaWorkshop$Elements" "starts" "[I") ∈ lw_all := lw_g (lw_at lw_m2 197 rfl) rfl
theorem q735 : (Jvm.Cond.soleField "SchemaWorkshop$Elements" "starts") ∈ lw_all := lw_g (lw_at lw_m2 198 rfl) rfl
theorem q736 : (Jvm.Cond.lays "SchemaWorkshop$Elements" "SchemaWorkshop$Elements" "from" "[I") ∈ lw_all := lw_g (lw_at lw_m2 199 rfl) rfl
theorem q737 : (Jvm.Cond.soleField "SchemaWorkshop$Elements" "from") ∈ lw_all := lw_g (lw_at lw_m2 200 rfl) rfl
theorem q738 : (Jvm.Cond.lays "SchemaWorkshop$Elements" "SchemaWorkshop$Elements" "to" "[I") ∈ lw_all := lw_g (lw_at lw_m2 201 rfl) rfl
theorem q739 : (Jvm.Cond.soleField "SchemaWorkshop$Elements" "to") ∈ lw_all := lw_g (lw_at lw_m2 202 rfl) rfl
theorem q740 : (Jvm.Cond.lays "SchemaWorkshop$Elements" "SchemaWorkshop$Elements" "behind" "[I") ∈ lw_all := lw_g (lw_at lw_m2 203 rfl) rfl
theorem q741 : (Jvm.Cond.soleField "SchemaWorkshop$Elements" "behind") ∈ lw_all := lw_g (lw_at lw_m2 204 rfl) rfl
theorem q742 : (Jvm.Cond.lays "SchemaWorkshop$Elements" "SchemaWorkshop$Elements" "parts" "[Z") ∈ lw_all := lw_g (lw_at lw_m2 205 rfl) rfl
theorem q743 : (Jvm.Cond.soleField "SchemaWorkshop$Elements" "parts") ∈ lw_all := lw_g (lw_at lw_m2 206 rfl) rfl
theorem q744 : (Jvm.Cond.lays "SchemaWorkshop$Elements" "SchemaWorkshop$Elements" "size" "I") ∈ lw_all := lw_g (lw_at lw_m2 207 rfl) rfl
theorem q745 : (Jvm.Cond.soleField "SchemaWorkshop$Elements" "size") ∈ lw_all := lw_g (lw_at lw_m2 208 rfl) rfl
theorem q746 : (Jvm.Cond.lays "SchemaWorkshop$Elements" "SchemaWorkshop$Elements" "open" "[I") ∈ lw_all := lw_g (lw_at lw_m2 209 rfl) rfl
theorem q747 : (Jvm.Cond.soleField "SchemaWorkshop$Elements" "open") ∈ lw_all := lw_g (lw_at lw_m2 210 rfl) rfl
theorem q748 : (Jvm.Cond.lays "SchemaWorkshop$Elements" "SchemaWorkshop$Elements" "ends" "[I") ∈ lw_all := lw_g (lw_at lw_m2 211 rfl) rfl
theorem q749 : (Jvm.Cond.soleField "SchemaWorkshop$Elements" "ends") ∈ lw_all := lw_g (lw_at lw_m2 212 rfl) rfl
theorem q750 : (Jvm.Cond.lays "SchemaWorkshop$Elements" "SchemaWorkshop$Elements" "bounds" "[I") ∈ lw_all := lw_g (lw_at lw_m2 213 rfl) rfl
theorem q751 : (Jvm.Cond.soleField "SchemaWorkshop$Elements" "bounds") ∈ lw_all := lw_g (lw_at lw_m2 214 rfl) rfl
theorem q752 : (Jvm.Cond.lays "SchemaWorkshop$Elements" "SchemaWorkshop$Elements" "depth" "I") ∈ lw_all := lw_g (lw_at lw_m2 215 rfl) rfl
theorem q753 : (Jvm.Cond.soleField "SchemaWorkshop$Elements" "depth") ∈ lw_all := lw_g (lw_at lw_m2 216 rfl) rfl
theorem q754 : (Jvm.Cond.superclass "SchemaWorkshop$Elements" "java/lang/Object") ∈ lw_all := lw_g (lw_at lw_m2 217 rfl) rfl
theorem q2076 : (Jvm.Cond.instanceMethod ({ cls := "SchemaWorkshop$Elements", name := "read", desc := "(LSchemaWorkshop$Bytes;I)Z" } : Jvm.MethodName)) ∈ lw_all := lw_g (lw_at lw_m8 99 rfl) rfl
theorem q2077 : (Jvm.Cond.selects "SchemaWorkshop$Elements" ({ cls := "SchemaWorkshop$Elements", name := "read", desc := "(LSchemaWorkshop$Bytes;I)Z" } : Jvm.MethodName) ({ cls := "SchemaWorkshop$Elements", name := "read", desc := "(LSchemaWorkshop$Bytes;I)Z" } : Jvm.MethodName)) ∈ lw_all := lw_g (lw_at lw_m8 100 rfl) rfl
theorem q2078 : (Jvm.Cond.code ({ cls := "SchemaWorkshop$Elements", name := "read", desc := "(LSchemaWorkshop$Bytes;I)Z" } : Jvm.MethodName) prog_3_method_17_code (3 : Nat) (Option.some Jvm.ClassFile.FieldType.boolean)) ∈ lw_all := lw_g (lw_at lw_m8 101 rfl) rfl
theorem q2079 : (Jvm.Cond.methodLink "SchemaWorkshop$Elements" (75 : Nat) ({ cls := "SchemaWorkshop$Elements", name := "element", desc := "(I)Z" } : Jvm.MethodName)) ∈ lw_all := lw_g (lw_at lw_m8 102 rfl) rfl
theorem q2080 : (Jvm.Cond.privateMethod ({ cls := "SchemaWorkshop$Elements", name := "element", desc := "(I)Z" } : Jvm.MethodName)) ∈ lw_tbl := lw_at lw_m8 103 rfl
theorem q2081 : (Jvm.Cond.instanceMethod ({ cls := "SchemaWorkshop$Elements", name := "element", desc := "(I)Z" } : Jvm.MethodName)) ∈ lw_all := lw_g (lw_at lw_m8 104 rfl) rfl
theorem q2082 : (Jvm.Cond.code ({ cls := "SchemaWorkshop$Elements", name := "element", desc := "(I)Z" } : Jvm.MethodName) prog_3_method_19_code (7 : Nat) (Option.some Jvm.ClassFile.FieldType.boolean)) ∈ lw_all := lw_g (lw_at lw_m8 105 rfl) rfl
theorem q2083 : (Jvm.Cond.methodLink "SchemaWorkshop$Elements" (89 : Nat) ({ cls := "SchemaWorkshop$Elements", name := "bound", desc := "()I" } : Jvm.MethodName)) ∈ lw_all := lw_g (lw_at lw_m8 106 rfl) rfl
theorem q2084 : (Jvm.Cond.privateMethod ({ cls := "SchemaWorkshop$Elements", name := "bound", desc := "()I" } : Jvm.MethodName)) ∈ lw_tbl := lw_at lw_m8 107 rfl
theorem q2085 : (Jvm.Cond.instanceMethod ({ cls := "SchemaWorkshop$Elements", name := "bound", desc := "()I" } : Jvm.MethodName)) ∈ lw_all := lw_g (lw_at lw_m8 108 rfl) rfl
theorem q2086 : (Jvm.Cond.code ({ cls := "SchemaWorkshop$Elements", name := "bound", desc := "()I" } : Jvm.MethodName) prog_3_method_16_code (1 : Nat) (Option.some Jvm.ClassFile.FieldType.int)) ∈ lw_all := lw_g (lw_at lw_m8 109 rfl) rfl
theorem q2087 : (Jvm.Cond.methodLink "SchemaWorkshop$Elements" (67 : Nat) ({ cls := "SchemaWorkshop$Bytes", name := "size", desc := "()I" } : Jvm.MethodName)) ∈ lw_all := lw_g (lw_at lw_m8 110 rfl) rfl
theorem q2088 : (Jvm.Cond.methodLink "SchemaWorkshop$Elements" (82 : Nat) ({ cls := "SchemaWorkshop$Elements", name := "wrong", desc := "(I)Z" } : Jvm.MethodName)) ∈ lw_all := lw_g (lw_at lw_m8 111 rfl) rfl
theorem q2089 : (Jvm.Cond.privateMethod ({ cls := "SchemaWorkshop$Elements", name := "wrong", desc := "(I)Z" } : Jvm.MethodName)) ∈ lw_tbl := lw_at lw_m8 112 rfl
theorem q2090 : (Jvm.Cond.instanceMethod ({ cls := "SchemaWorkshop$Elements", name := "wrong", desc := "(I)Z" } : Jvm.MethodName)) ∈ lw_all := lw_g (lw_at lw_m8 113 rfl) rfl
theorem q2091 : (Jvm.Cond.code ({ cls := "SchemaWorkshop$Elements", name := "wrong", desc := "(I)Z" } : Jvm.MethodName) prog_3_method_11_code (2 : Nat) (Option.some Jvm.ClassFile.FieldType.boolean)) ∈ lw_all := lw_g (lw_at lw_m8 114 rfl) rfl
theorem q2092 : (Jvm.Cond.methodLink "SchemaWorkshop$Elements" (92 : Nat) ({ cls := "SchemaWorkshop$Bytes", name := "at", desc := "(I)I" } : Jvm.MethodName)) ∈ lw_all := lw_g (lw_at lw_m8 115 rfl) rfl
theorem q2093 : (Jvm.Cond.methodLink "SchemaWorkshop$Elements" (95 : Nat) ({ cls := "SchemaWorkshop$Elements", name := "tagNumber", desc := "(I)I" } : Jvm.MethodName)) ∈ lw_all := lw_g (lw_at lw_m8 116 rfl) rfl
theorem q2094 : (Jvm.Cond.privateMethod ({ cls := "SchemaWorkshop$Elements", name := "tagNumber", desc := "(I)I" } : Jvm.MethodName)) ∈ lw_tbl := lw_at lw_m8 117 rfl
theorem q2095 : (Jvm.Cond.instanceMethod ({ cls := "SchemaWorkshop$Elements", name := "tagNumber", desc := "(I)I" } : Jvm.MethodName)) ∈ lw_all := lw_g (lw_at lw_m8 118 rfl) rfl
theorem q2096 : (Jvm.Cond.code ({ cls := "SchemaWorkshop$Elements", name := "tagNumber", desc := "(I)I" } : Jvm.MethodName) prog_3_method_20_code (6 : Nat) (Option.some Jvm.ClassFile.FieldType.int)) ∈ lw_all := lw_g (lw_at lw_m8 119 rfl) rfl
theorem q2097 : (Jvm.Cond.constant "SchemaWorkshop$Elements" (110 : Nat) (2097151 : Int32)) ∈ lw_all := lw_g (lw_at lw_m8 120 rfl) rfl
theorem q2098 : (Jvm.Cond.methodLink "SchemaWorkshop$Elements" (98 : Nat) ({ cls := "SchemaWorkshop$Elements", name := "length", desc := "(IZ)I" } : Jvm.MethodName)) ∈ lw_all := lw_g (lw_at lw_m8 121 rfl) rfl
theorem q2099 : (Jvm.Cond.privateMethod ({ cls := "SchemaWorkshop$Elements", name := "length", desc := "(IZ)I" } : Jvm.MethodName)) ∈ lw_tbl := lw_at lw_m8 122 rfl
theorem q2100 : (Jvm.Cond.instanceMethod ({ cls := "SchemaWorkshop$Elements", name := "length", desc := "(IZ)I" } : Jvm.MethodName)) ∈ lw_all := lw_g (lw_at lw_m8 123 rfl) rfl
theorem q2101 : (Jvm.Cond.code ({ cls := "SchemaWorkshop$Elements", name := "length", desc := "(IZ)I" } : Jvm.MethodName) prog_3_method_21_code (7 : Nat) (Option.some Jvm.ClassFile.FieldType.int)) ∈ lw_all := lw_g (lw_at lw_m8 124 rfl) rfl
theorem q2102 : (Jvm.Cond.constantLong "SchemaWorkshop$Elements" (111 : Nat) (2147483647 : Int64)) ∈ lw_all := lw_g (lw_at lw_m8 125 rfl) rfl
theorem q2103 : (Jvm.Cond.methodLink "SchemaWorkshop$Elements" (102 : Nat) ({ cls := "SchemaWorkshop$Elements", name := "add", desc := "(IZ)V" } : Jvm.MethodName)) ∈ lw_all := lw_g (lw_at lw_m8 126 rfl) rfl
theorem q2104 : (Jvm.Cond.privateMethod ({ cls := "SchemaWorkshop$Elements", name := "add", desc := "(IZ)V" } : Jvm.MethodName)) ∈ lw_tbl := lw_at lw_m8 127 rfl
theorem q2105 : (Jvm.Cond.instanceMethod ({ cls := "SchemaWorkshop$Elements", name := "add", desc := "(IZ)V" } : Jvm.MethodName)) ∈ lw_all := lw_g (lw_at lw_m8 128 rfl) rfl
theorem q2106 : (Jvm.Cond.code ({ cls := "SchemaWorkshop$Elements", name := "add", desc := "(IZ)V" } : Jvm.MethodName) prog_3_method_13_code (4 : Nat) (Option.none : Option Jvm.ClassFile.FieldType)) ∈ lw_all := lw_g (lw_at lw_m8 129 rfl) rfl
theorem q2107 : (Jvm.Cond.methodLink "SchemaWorkshop$Elements" (56 : Nat) ({ cls := "SchemaWorkshop$Elements", name := "grown", desc := "([I)[I" } : Jvm.MethodName)) ∈ lw_all := lw_g (lw_at lw_m8 130 rfl) rfl
theorem q2108 : (Jvm.Cond.static ({ cls := "SchemaWorkshop$Elements", name := "grown", desc := "([I)[I" } : Jvm.MethodName)) ∈ lw_all := lw_g (lw_at lw_m8 131 rfl) rfl
theorem q2109 : (Jvm.Cond.code ({ cls := "SchemaWorkshop$Elements", name := "grown", desc := "([I)[I" } : Jvm.MethodName) prog_3_method_12_code (2 : Nat) (Option.some (Jvm.ClassFile.FieldType.array Jvm.ClassFile.FieldType.int))) ∈ lw_all := lw_g (lw_at lw_m8 132 rfl) rfl
theorem q2110 : (Jvm.Cond.methodLink "SchemaWorkshop$Elements" (50 : Nat) ({ cls := "java/lang/System", name := "arraycopy", desc := "(Ljava/lang/Object;ILjava/lang/Object;II)V" } : Jvm.MethodName)) ∈ lw_all := lw_g (lw_at lw_m8 133 rfl) rfl
theorem q2111 : (Jvm.Cond.methodLink "SchemaWorkshop$Elements" (106 : Nat) ({ cls := "SchemaWorkshop$Elements", name := "enter", desc := "(II)V" } : Jvm.MethodName)) ∈ lw_all := lw_g (lw_at lw_m8 134 rfl) rfl
theorem q2112 : (Jvm.Cond.privateMethod ({ cls := "SchemaWorkshop$Elements", name := "enter", desc := "(II)V" } : Jvm.MethodName)) ∈ lw_tbl := lw_at lw_m8 135 rfl
theorem q2113 : (Jvm.Cond.instanceMethod ({ cls := "SchemaWorkshop$Elements", name := "enter", desc := "(II)V" } : Jvm.MethodName)) ∈ lw_all := lw_g (lw_at lw_m8 136 rfl) rfl
theorem q2114 : (Jvm.Cond.code ({ cls := "SchemaWorkshop$Elements", name := "enter", desc := "(II)V" } : Jvm.MethodName) prog_3_method_14_code (3 : Nat) (Option.none : Option Jvm.ClassFile.FieldType)) ∈ lw_all := lw_g (lw_at lw_m8 137 rfl) rfl
theorem q2115 : (Jvm.Cond.methodLink "SchemaWorkshop$Elements" (79 : Nat) ({ cls := "SchemaWorkshop$Elements", name := "step", desc := "(I)Z" } : Jvm.MethodName)) ∈ lw_all := lw_g (lw_at lw_m8 138 rfl) rfl
theorem q2116 : (Jvm.Cond.privateMethod ({ cls := "SchemaWorkshop$Elements", name := "step", desc := "(I)Z" } : Jvm.MethodName)) ∈ lw_tbl := lw_at lw_m8 139 rfl
theorem q2117 : (Jvm.Cond.instanceMethod ({ cls := "SchemaWorkshop$Elements", name := "step", desc := "(I)Z" } : Jvm.MethodName)) ∈ lw_all := lw_g (lw_at lw_m8 140 rfl) rfl
theorem q2118 : (Jvm.Cond.code ({ cls := "SchemaWorkshop$Elements", name := "step", desc := "(I)Z" } : Jvm.MethodName) prog_3_method_18_code (3 : Nat) (Option.some Jvm.ClassFile.FieldType.boolean)) ∈ lw_all := lw_g (lw_at lw_m8 141 rfl) rfl
theorem q2119 : (Jvm.Cond.methodLink "SchemaWorkshop$Elements" (85 : Nat) ({ cls := "SchemaWorkshop$Elements", name := "leave", desc := "(I)V" } : Jvm.MethodName)) ∈ lw_all := lw_g (lw_at lw_m8 142 rfl) rfl
theorem q2120 : (Jvm.Cond.privateMethod ({ cls := "SchemaWorkshop$Elements", name := "leave", desc := "(I)V" } : Jvm.MethodName)) ∈ lw_tbl := lw_at lw_m8 143 rfl
theorem q2121 : (Jvm.Cond.instanceMethod ({ cls := "SchemaWorkshop$Elements", name := "leave", desc := "(I)V" } : Jvm.MethodName)) ∈ lw_all := lw_g (lw_at lw_m8 144 rfl) rfl
theorem q2122 : (Jvm.Cond.code ({ cls := "SchemaWorkshop$Elements", name := "leave", desc := "(I)V" } : Jvm.MethodName) prog_3_method_15_code (2 : Nat) (Option.none : Option Jvm.ClassFile.FieldType)) ∈ lw_all := lw_g (lw_at lw_m8 145 rfl) rfl
theorem q2124 : (Jvm.Cond.instanceMethod ({ cls := "SchemaWorkshop$Elements", name := "fault", desc := "()I" } : Jvm.MethodName)) ∈ lw_all := lw_g (lw_at lw_m8 147 rfl) rfl
theorem q2125 : (Jvm.Cond.selects "SchemaWorkshop$Elements" ({ cls := "SchemaWorkshop$Elements", name := "fault", desc := "()I" } : Jvm.MethodName) ({ cls := "SchemaWorkshop$Elements", name := "fault", desc := "()I" } : Jvm.MethodName)) ∈ lw_all := lw_g (lw_at lw_m8 148 rfl) rfl
theorem q2126 : (Jvm.Cond.code ({ cls := "SchemaWorkshop$Elements", name := "fault", desc := "()I" } : Jvm.MethodName) prog_3_method_3_code (1 : Nat) (Option.some Jvm.ClassFile.FieldType.int)) ∈ lw_all := lw_g (lw_at lw_m8 149 rfl) rfl
theorem q2128 : (Jvm.Cond.instanceMethod ({ cls := "SchemaWorkshop$Elements", name := "place", desc := "()I" } : Jvm.MethodName)) ∈ lw_all := lw_g (lw_at lw_m8 151 rfl) rfl
theorem q2129 : (Jvm.Cond.selects "SchemaWorkshop$Elements" ({ cls := "SchemaWorkshop$Elements", name := "place", desc := "()I" } : Jvm.MethodName) ({ cls := "SchemaWorkshop$Elements", name := "place", desc := "()I" } : Jvm.MethodName)) ∈ lw_all := lw_g (lw_at lw_m8 152 rfl) rfl
theorem q2130 : (Jvm.Cond.code ({ cls := "SchemaWorkshop$Elements", name := "place", desc := "()I" } : Jvm.MethodName) prog_3_method_4_code (1 : Nat) (Option.some Jvm.ClassFile.FieldType.int)) ∈ lw_all := lw_g (lw_at lw_m8 153 rfl) rfl
theorem q2136 : (Jvm.Cond.instanceMethod ({ cls := "SchemaWorkshop$Elements", name := "size", desc := "()I" } : Jvm.MethodName)) ∈ lw_all := lw_g (lw_at lw_m8 159 rfl) rfl
theorem q2137 : (Jvm.Cond.selects "SchemaWorkshop$Elements" ({ cls := "SchemaWorkshop$Elements", name := "size", desc := "()I" } : Jvm.MethodName) ({ cls := "SchemaWorkshop$Elements", name := "size", desc := "()I" } : Jvm.MethodName)) ∈ lw_all := lw_g (lw_at lw_m8 160 rfl) rfl
theorem q2138 : (Jvm.Cond.code ({ cls := "SchemaWorkshop$Elements", name := "size", desc := "()I" } : Jvm.MethodName) prog_3_method_2_code (1 : Nat) (Option.some Jvm.ClassFile.FieldType.int)) ∈ lw_all := lw_g (lw_at lw_m8 161 rfl) rfl
theorem q2146 : (Jvm.Cond.instanceMethod ({ cls := "SchemaWorkshop$Elements", name := "tag", desc := "(I)I" } : Jvm.MethodName)) ∈ lw_all := lw_g (lw_at lw_m8 169 rfl) rfl
theorem q2147 : (Jvm.Cond.selects "SchemaWorkshop$Elements" ({ cls := "SchemaWorkshop$Elements", name := "tag", desc := "(I)I" } : Jvm.MethodName) ({ cls := "SchemaWorkshop$Elements", name := "tag", desc := "(I)I" } : Jvm.MethodName)) ∈ lw_all := lw_g (lw_at lw_m8 170 rfl) rfl
theorem q2148 : (Jvm.Cond.code ({ cls := "SchemaWorkshop$Elements", name := "tag", desc := "(I)I" } : Jvm.MethodName) prog_3_method_5_code (2 : Nat) (Option.some Jvm.ClassFile.FieldType.int)) ∈ lw_all := lw_g (lw_at lw_m8 171 rfl) rfl
theorem q2163 : (Jvm.Cond.instanceMethod ({ cls := "SchemaWorkshop$Elements", name := "start", desc := "(I)I" } : Jvm.MethodName)) ∈ lw_all := lw_g (lw_at lw_m8 186 rfl) rfl
theorem q2164 : (Jvm.Cond.selects "SchemaWorkshop$Elements" ({ cls := "SchemaWorkshop$Elements", name := "start", desc := "(I)I" } : Jvm.MethodName) ({ cls := "SchemaWorkshop$Elements", name := "start", desc := "(I)I" } : Jvm.MethodName)) ∈ lw_all := lw_g (lw_at lw_m8 187 rfl) rfl
theorem q2165 : (Jvm.Cond.code ({ cls := "SchemaWorkshop$Elements", name := "start", desc := "(I)I" } : Jvm.MethodName) prog_3_method_6_code (2 : Nat) (Option.some Jvm.ClassFile.FieldType.int)) ∈ lw_all := lw_g (lw_at lw_m8 188 rfl) rfl
theorem q2188 : (Jvm.Cond.instanceMethod ({ cls := "SchemaWorkshop$Elements", name := "hasParts", desc := "(I)Z" } : Jvm.MethodName)) ∈ lw_all := lw_g (lw_at lw_m8 211 rfl) rfl
theorem q2189 : (Jvm.Cond.selects "SchemaWorkshop$Elements" ({ cls := "SchemaWorkshop$Elements", name := "hasParts", desc := "(I)Z" } : Jvm.MethodName) ({ cls := "SchemaWorkshop$Elements", name := "hasParts", desc := "(I)Z" } : Jvm.MethodName)) ∈ lw_all := lw_g (lw_at lw_m8 212 rfl) rfl
theorem q2190 : (Jvm.Cond.code ({ cls := "SchemaWorkshop$Elements", name := "hasParts", desc := "(I)Z" } : Jvm.MethodName) prog_3_method_10_code (2 : Nat) (Option.some Jvm.ClassFile.FieldType.boolean)) ∈ lw_all := lw_g (lw_at lw_m8 213 rfl) rfl
theorem q2197 : (Jvm.Cond.instanceMethod ({ cls := "SchemaWorkshop$Elements", name := "from", desc := "(I)I" } : Jvm.MethodName)) ∈ lw_all := lw_g (lw_at lw_m8 220 rfl) rfl
theorem q2198 : (Jvm.Cond.selects "SchemaWorkshop$Elements" ({ cls := "SchemaWorkshop$Elements", name := "from", desc := "(I)I" } : Jvm.MethodName) ({ cls := "SchemaWorkshop$Elements", name := "from", desc := "(I)I" } : Jvm.MethodName)) ∈ lw_all := lw_g (lw_at lw_m8 221 rfl) rfl
theorem q2199 : (Jvm.Cond.code ({ cls := "SchemaWorkshop$Elements", name := "from", desc := "(I)I" } : Jvm.MethodName) prog_3_method_7_code (2 : Nat) (Option.some Jvm.ClassFile.FieldType.int)) ∈ lw_all := lw_g (lw_at lw_m8 222 rfl) rfl
theorem q2201 : (Jvm.Cond.instanceMethod ({ cls := "SchemaWorkshop$Elements", name := "to", desc := "(I)I" } : Jvm.MethodName)) ∈ lw_all := lw_g (lw_at lw_m8 224 rfl) rfl
theorem q2202 : (Jvm.Cond.selects "SchemaWorkshop$Elements" ({ cls := "SchemaWorkshop$Elements", name := "to", desc := "(I)I" } : Jvm.MethodName) ({ cls := "SchemaWorkshop$Elements", name := "to", desc := "(I)I" } : Jvm.MethodName)) ∈ lw_all := lw_g (lw_at lw_m8 225 rfl) rfl
theorem q2203 : (Jvm.Cond.code ({ cls := "SchemaWorkshop$Elements", name := "to", desc := "(I)I" } : Jvm.MethodName) prog_3_method_8_code (2 : Nat) (Option.some Jvm.ClassFile.FieldType.int)) ∈ lw_all := lw_g (lw_at lw_m8 226 rfl) rfl
theorem q2223 : (Jvm.Cond.instanceMethod ({ cls := "SchemaWorkshop$Elements", name := "behind", desc := "(I)I" } : Jvm.MethodName)) ∈ lw_all := lw_g (lw_at lw_m9 6 rfl) rfl
theorem q2224 : (Jvm.Cond.selects "SchemaWorkshop$Elements" ({ cls := "SchemaWorkshop$Elements", name := "behind", desc := "(I)I" } : Jvm.MethodName) ({ cls := "SchemaWorkshop$Elements", name := "behind", desc := "(I)I" } : Jvm.MethodName)) ∈ lw_all := lw_g (lw_at lw_m9 7 rfl) rfl
theorem q2225 : (Jvm.Cond.code ({ cls := "SchemaWorkshop$Elements", name := "behind", desc := "(I)I" } : Jvm.MethodName) prog_3_method_9_code (2 : Nat) (Option.some Jvm.ClassFile.FieldType.int)) ∈ lw_all := lw_g (lw_at lw_m9 8 rfl) rfl
theorem in_X12 : ∀ w ∈ wsX120, w ∈ lw_all := lw_in wsX120 [724, 726, 728, 730, 732, 734, 736, 738, 740, 742, 744, 746, 748, 750, 752] (by decide +kernel) (by decide +kernel)
