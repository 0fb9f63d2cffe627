/-! V-LAYER 1: whole numbers of the machine as Int -/
def w32 (x : Int) : Int := Int.bmod x 4294967296
def w64 (x : Int) : Int := Int.bmod x 18446744073709551616
def rg (x : Int) : Prop := -2147483648 ≤ x ∧ x ≤ 2147483647
def rgL (x : Int) : Prop := -9223372036854775808 ≤ x ∧ x ≤ 9223372036854775807
theorem w32_rg (x : Int) : rg (w32 x) := by
  unfold w32 rg
  have h1 := @Int.le_bmod x 4294967296 (by decide)
  have h2 := @Int.bmod_lt x 4294967296 (by decide)
  constructor
  · omega
  · omega
theorem w64_rg (x : Int) : rgL (w64 x) := by
  unfold w64 rgL
  have h1 := @Int.le_bmod x 18446744073709551616 (by decide)
  have h2 := @Int.bmod_lt x 18446744073709551616 (by decide)
  constructor
  · omega
  · omega
theorem w32_id {x : Int} (h : rg x) : w32 x = x := by
  unfold w32 rg at *
  rw [Int.bmod_def]
  split <;> omega
theorem w64_id {x : Int} (h : rgL x) : w64 x = x := by
  unfold w64 rgL at *
  rw [Int.bmod_def]
  split <;> omega
theorem rg_rgL {x : Int} (h : rg x) : rgL x := by unfold rg rgL at *; omega
theorem w32_w32 (x : Int) : w32 (w32 x) = w32 x := w32_id (w32_rg x)
theorem w64_w64 (x : Int) : w64 (w64 x) = w64 x := w64_id (w64_rg x)
theorem i32_toInt (x : Int) : (Int32.ofInt x).toInt = w32 x := Int32.toInt_ofInt
theorem i64_toInt (x : Int) : (Int64.ofInt x).toInt = w64 x := Int64.toInt_ofInt
theorem i32_w32 (x : Int) : Int32.ofInt (w32 x) = Int32.ofInt x := by
  apply Int32.toInt_inj.mp
  rw [i32_toInt, i32_toInt, w32_w32]
theorem i64_w64 (x : Int) : Int64.ofInt (w64 x) = Int64.ofInt x := by
  apply Int64.toInt_inj.mp
  rw [i64_toInt, i64_toInt, w64_w64]
theorem i32_lt {a b : Int} (ha : rg a) (hb : rg b) : Int32.ofInt a < Int32.ofInt b ↔ a < b := by
  rw [Int32.lt_iff_toInt_lt, i32_toInt, i32_toInt, w32_id ha, w32_id hb]
theorem i32_le {a b : Int} (ha : rg a) (hb : rg b) : Int32.ofInt a ≤ Int32.ofInt b ↔ a ≤ b := by
  rw [Int32.le_iff_toInt_le, i32_toInt, i32_toInt, w32_id ha, w32_id hb]
theorem i32_eq {a b : Int} (ha : rg a) (hb : rg b) : Int32.ofInt a = Int32.ofInt b ↔ a = b := by
  rw [← Int32.toInt_inj, i32_toInt, i32_toInt, w32_id ha, w32_id hb]
theorem i64_lt {a b : Int} (ha : rgL a) (hb : rgL b) : Int64.ofInt a < Int64.ofInt b ↔ a < b := by
  rw [Int64.lt_iff_toInt_lt, i64_toInt, i64_toInt, w64_id ha, w64_id hb]
theorem i64_eq {a b : Int} (ha : rgL a) (hb : rgL b) : Int64.ofInt a = Int64.ofInt b ↔ a = b := by
  rw [← Int64.toInt_inj, i64_toInt, i64_toInt, w64_id ha, w64_id hb]
theorem i32_of (x : Int32) : Int32.ofInt x.toInt = x := Int32.ofInt_toInt x
theorem i64_of (x : Int64) : Int64.ofInt x.toInt = x := Int64.ofInt_toInt x
theorem rg_toInt (x : Int32) : rg x.toInt := by
  have h1 := Int32.le_toInt x
  have h2 := Int32.toInt_lt x
  unfold rg
  constructor <;> omega
theorem rgL_toInt (x : Int64) : rgL x.toInt := by
  have h1 := Int64.le_toInt x
  have h2 := Int64.toInt_lt x
  unfold rgL
  constructor <;> omega
theorem i32_add (a b : Int) : Int32.ofInt a + Int32.ofInt b = Int32.ofInt (w32 (a + b)) := by
  rw [i32_w32, Int32.ofInt_add]
theorem i32_sub (a b : Int) : Int32.ofInt a - Int32.ofInt b = Int32.ofInt (w32 (a - b)) := by
  rw [i32_w32, Int32.ofInt_sub]
theorem i32_mul (a b : Int) : Int32.ofInt a * Int32.ofInt b = Int32.ofInt (w32 (a * b)) := by
  rw [i32_w32, Int32.ofInt_mul]
theorem i32_neg (a : Int) : -Int32.ofInt a = Int32.ofInt (w32 (-a)) := by
  rw [i32_w32, Int32.ofInt_neg]
theorem i64_add (a b : Int) : Int64.ofInt a + Int64.ofInt b = Int64.ofInt (w64 (a + b)) := by
  rw [i64_w64, Int64.ofInt_add]
theorem i64_sub (a b : Int) : Int64.ofInt a - Int64.ofInt b = Int64.ofInt (w64 (a - b)) := by
  rw [i64_w64, Int64.ofInt_sub]
theorem i64_mul (a b : Int) : Int64.ofInt a * Int64.ofInt b = Int64.ofInt (w64 (a * b)) := by
  rw [i64_w64, Int64.ofInt_mul]
theorem i64_i32 {a : Int} (h : rg a) : (Int32.ofInt a).toInt64 = Int64.ofInt a := by
  have e1 : Int32.minValue.toInt = -2147483648 := rfl
  have e2 : Int32.maxValue.toInt = 2147483647 := rfl
  rw [Int32.toInt64_ofInt] <;> (unfold rg at h; omega)
theorem i32_i64 (a : Int) : (Int64.ofInt a).toInt32 = Int32.ofInt (w32 a) := by
  rw [i32_w32, Int64.toInt32_ofInt]
/-- those that are used as they are -/
def d32 (a b : Int) : Int := (Int32.ofInt a / Int32.ofInt b).toInt
def m32 (a b : Int) : Int := (Int32.ofInt a - Int32.ofInt a / Int32.ofInt b * Int32.ofInt b).toInt
def and32 (a b : Int) : Int := (Int32.ofInt a &&& Int32.ofInt b).toInt
def or32 (a b : Int) : Int := (Int32.ofInt a ||| Int32.ofInt b).toInt
def xor32 (a b : Int) : Int := (Int32.ofInt a ^^^ Int32.ofInt b).toInt
def shl32 (a b : Int) : Int := (Int32.ofInt a <<< (Int32.ofInt b &&& 31)).toInt
def shr32 (a b : Int) : Int := (Int32.ofInt a >>> (Int32.ofInt b &&& 31)).toInt
def ushr32 (a b : Int) : Int := (((Int32.ofInt a).toUInt32 >>> ((Int32.ofInt b).toUInt32 &&& Int32.toUInt32 31)).toInt32).toInt
def n8 (a : Int) : Int := ((Int32.ofInt a).toInt8.toInt32).toInt
def bz (a : Int) : Int := (vp_nar .boolean (Int32.ofInt a)).toInt
def and64 (a b : Int) : Int := (Int64.ofInt a &&& Int64.ofInt b).toInt
def or64 (a b : Int) : Int := (Int64.ofInt a ||| Int64.ofInt b).toInt
def d64 (a b : Int) : Int := (Int64.ofInt a / Int64.ofInt b).toInt
def m64 (a b : Int) : Int := (Int64.ofInt a % Int64.ofInt b).toInt
def cmp64 (a b : Int) : Int := if a < b then -1 else if a = b then 0 else 1
theorem cmp64_rg (a b : Int) : rg (cmp64 a b) := by
  unfold cmp64 rg
  split
  · omega
  · split <;> omega
