set_option maxRecDepth 100000 set_option linter.unusedVariables false set_option linter.unusedSimpArgs false
/-! PURE 43: lexemes, as they are -/
def b2i (p : Prop) [Decidable p] : Int := if p then 1 else 0
theorem b2i_zero {p : Prop} [Decidable p] : b2i p = 0 ↔ ¬p := by unfold b2i; by_cases h : p <;> simp [h]
theorem b2i_one {p : Prop} [Decidable p] : b2i p = 1 ↔ p := by unfold b2i; by_cases h : p <;> simp [h]
theorem b2i_congr {p q : Prop} [Decidable p] [Decidable q] (h : p ↔ q) : b2i p = b2i q := by unfold b2i; by_cases k : p <;> simp [k, ← h]
/-- a text's characters, -1 behind it -/
def cha (T : List Int) (i : Int) : Int := if 0 ≤ i ∧ i < T.length then T.getD i.toNat 0 else -1
abbrev cWh (c : Int) : Prop := (9 ≤ c ∧ c ≤ 13) ∨ c = 32
abbrev cLe (c : Int) : Prop := 10 ≤ c ∧ c ≤ 13
abbrev cLa (c : Int) : Prop := 65 ≤ c ∧ c ≤ 90
abbrev cLt (c : Int) : Prop := (65 ≤ c ∧ c ≤ 90) ∨ (97 ≤ c ∧ c ≤ 122)
abbrev cDg (c : Int) : Prop := 48 ≤ c ∧ c ≤ 57
abbrev cHx (c : Int) : Prop := (48 ≤ c ∧ c ≤ 57) ∨ (65 ≤ c ∧ c ≤ 70)
def scan (p : Int → Prop) [DecidablePred p] : Nat → Int → Int
  | 0, i => i
  | k + 1, i => if p i then scan p k (i + 1) else i
abbrev pLine (T : List Int) (i : Int) : Prop := i < T.length ∧ ¬cLe (cha T i) ∧ ¬(cha T i = 45 ∧ cha T (i + 1) = 45)
abbrev pName (T : List Int) (i : Int) : Prop := cLt (cha T i) ∨ cDg (cha T i) ∨ (cha T i = 45 ∧ (cLt (cha T (i + 1)) ∨ cDg (cha T (i + 1))))
abbrev pDig (T : List Int) (i : Int) : Prop := cDg (cha T i)
def lineE (T : List Int) (i : Int) : Int := let j := scan (pLine T) T.length i; if cha T j = 45 then j + 2 else j
/-- comments in each other: how many are left, where it ends -/
def blk (T : List Int) : Nat → Int → Int → Int × Int
  | 0, o, i => (o, i)
  | k + 1, o, i => if 0 < o ∧ i < T.length then (if cha T i = 47 ∧ cha T (i + 1) = 42 then blk T k (o + 1) (i + 2) else if cha T i = 42 ∧ cha T (i + 1) = 47 then blk T k (o - 1) (i + 2) else blk T k o (i + 1)) else (o, i)
def scanQ (T : List Int) : Nat → Int → Int
  | 0, i => i
  | k + 1, i => if (32 ≤ cha T i ∧ cha T i ≤ 126) ∧ (cha T i ≠ 34 ∨ cha T (i + 1) = 34) then scanQ T k (if cha T i = 34 then i + 2 else i + 1) else i
def scanB (T : List Int) : Nat → Int → Int → Int × Int
  | 0, b, i => (b, i)
  | k + 1, b, i => if cHx (cha T i) ∨ cWh (cha T i) then scanB T k (b2i (b ≠ 0 ∧ (cWh (cha T i) ∨ cha T i < 50))) (i + 1) else (b, i)
def wIx (w : List Int) : List (List Int) → Int → Int
  | [], _ => -1
  | b :: l, j => if w = b then j else wIx w l (j + 1)
def lwords : List (List Int) := stB.take 77
def slc (T : List Int) (i j : Int) : List Int := (T.drop i.toNat).take (j - i).toNat
def nameK (T : List Int) (i j : Int) : Int := if cLa (cha T i) then (let w := wIx (slc T i j) lwords 0; if w = -1 then 1 else 100 + w) else 0
/-- what begins at a place: its kind (-2: nothing that counts, -3: no lexeme), where it ends -/
def lunit (T : List Int) (i : Int) : Int × Int :=
  let c := cha T i
  if cWh c then (-2, i + 1)
  else if c = 45 ∧ cha T (i + 1) = 45 then (-2, lineE T (i + 2))
  else if c = 47 ∧ cha T (i + 1) = 42 then (let r := blk T T.length 1 (i + 2); (if r.1 = 0 then -2 else -3, r.2))
  else if cLt c then (let j := scan (pName T) T.length (i + 1); (nameK T i j, j))
  else if cDg c then (if c = 48 then (if cDg (cha T (i + 1)) then -3 else 2, i + 1) else (2, scan (pDig T) T.length (i + 1)))
  else if c = 34 then (let j := scanQ T T.length (i + 1); (if cha T j = 34 then 5 else -3, j + 1))
  else if c = 39 then (let r := scanB T T.length 1 (i + 1); (if cha T r.2 = 39 ∧ (cha T (r.2 + 1) = 72 ∨ (cha T (r.2 + 1) = 66 ∧ r.1 ≠ 0)) then (if cha T (r.2 + 1) = 72 then 4 else 3) else -3, r.2 + 2))
  else if sX 1077 c < 0 then (-3, i + 1)
  else if c = 58 ∧ cha T (i + 1) = 58 ∧ cha T (i + 2) = 61 then (10, i + 3)
  else if c = 46 ∧ cha T (i + 1) = 46 then (if cha T (i + 2) = 46 then (11, i + 3) else (12, i + 2))
  else if c = 91 ∧ cha T (i + 1) = 91 then (13, i + 2)
  else if c = 93 ∧ cha T (i + 1) = 93 then (14, i + 2)
  else (15 + sX 1077 c, i + 1)
/-- all lexemes from a place on; where something begins that is none (-1: nowhere) -/
def lexA (T : List Int) : Nat → Int → List (Int × Int × Int) × Int
  | 0, _ => ([], -1)
  | k + 1, i => if (T.length : Int) ≤ i then ([], -1) else
    let u := lunit T i
    if u.1 = -3 then ([], i) else if u.1 = -2 then lexA T k u.2 else let r := lexA T k u.2; ((u.1, i, u.2) :: r.1, r.2)
def lexT (T : List Int) : List (Int × Int × Int) × Int := lexA T (T.length + 1) 0
theorem cha_in {T : List Int} {i : Int} (h0 : 0 ≤ i) (h1 : i < T.length) : cha T i = T.getD i.toNat 0 := if_pos ⟨h0, h1⟩
theorem cha_out {T : List Int} {i : Int} (h1 : (T.length : Int) ≤ i) : cha T i = -1 := if_neg (by omega)
theorem cha_lt {T : List Int} {i : Int} (h : cha T i ≠ -1) : 0 ≤ i ∧ i < T.length := by
  unfold cha at h; by_cases k : 0 ≤ i ∧ i < T.length
  · exact k
  · rw [if_neg k] at h; exact absurd rfl h
theorem scan_le (p : Int → Prop) [DecidablePred p] {n : Int} (hp : ∀ i, p i → i < n) : ∀ (k : Nat) (i : Int), i ≤ scan p k i ∧ (i ≤ n → scan p k i ≤ n)
  | 0, i => ⟨Int.le_refl _, id⟩
  | k + 1, i => by
    unfold scan
    by_cases h : p i
    · rw [if_pos h]; have := scan_le p hp k (i + 1); have := hp i h; omega
    · rw [if_neg h]; omega
theorem scan_stop (p : Int → Prop) [DecidablePred p] {n : Int} (hp : ∀ i, p i → i < n) : ∀ (k : Nat) (i : Int), n - i ≤ k → ¬p (scan p k i)
  | 0, i, h => fun q => by have := hp _ q; unfold scan at this; omega
  | k + 1, i, h => by
    unfold scan
    by_cases c : p i
    · rw [if_pos c]; exact scan_stop p hp k (i + 1) (by omega)
    · rw [if_neg c]; exact c
theorem scan_more (p : Int → Prop) [DecidablePred p] {n : Int} (hp : ∀ i, p i → i < n) : ∀ (k m : Nat) (i : Int), n - i ≤ k → n - i ≤ m → scan p k i = scan p m i
  | 0, 0, i, _, _ => rfl
  | 0, m + 1, i, h, _ => by unfold scan; rw [if_neg (fun q => by have := hp _ q; omega)]
  | k + 1, 0, i, _, h => by unfold scan; rw [if_neg (fun q => by have := hp _ q; omega)]
  | k + 1, m + 1, i, h1, h2 => by
    unfold scan
    by_cases c : p i
    · rw [if_pos c, if_pos c]; exact scan_more p hp k m (i + 1) (by omega) (by omega)
    · rw [if_neg c, if_neg c]
theorem scan_id (p : Int → Prop) [DecidablePred p] {k : Nat} {i : Int} (h : ¬p i) : scan p k i = i := by
  cases k with
  | zero => rfl
  | succ k => unfold scan; rw [if_neg h]
