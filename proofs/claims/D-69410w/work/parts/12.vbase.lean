set_option maxRecDepth 100000
theorem rg_0 : rg 0 := ⟨by decide, by decide⟩
theorem rgl {n : Int} (h : (decide (-2147483648 ≤ n) && decide (n ≤ 2147483647)) = true) : rg n := by
  simp only [Bool.and_eq_true, decide_eq_true_eq] at h
  exact h
theorem rglL {n : Int} (h : (decide (-9223372036854775808 ≤ n) && decide (n ≤ 9223372036854775807)) = true) : rgL n := by
  simp only [Bool.and_eq_true, decide_eq_true_eq] at h
  exact h
def shl64 (a b : Int) : Int := (Int64.ofInt a <<< ((Int32.ofInt b).toInt64 &&& 63)).toInt
def shr64 (a b : Int) : Int := (Int64.ofInt a >>> ((Int32.ofInt b).toInt64 &&& 63)).toInt
def ushr64 (a b : Int) : Int := (((Int64.ofInt a).toUInt64 >>> ((Int32.ofInt b).toInt64.toUInt64 &&& Int64.toUInt64 63)).toInt64).toInt
theorem lg_cmp64 {x y : Int} (hx : rgL x) (hy : rgL y) : lg_cmp (Int64.ofInt x) (Int64.ofInt y) = Int32.ofInt (cmp64 x y) := by
  unfold lg_cmp cmp64
  simp only [gt_iff_lt, i64_lt hy hx, i64_eq hx hy]
  by_cases h1 : y < x
  · rw [if_pos h1, if_neg (by omega), if_neg (by omega)]
    rfl
  · rw [if_neg h1]
    by_cases h2 : x = y
    · rw [if_pos h2, if_neg (by omega), if_pos h2]
      rfl
    · rw [if_neg h2, if_pos (by omega)]
      rfl
/-! V-LAYER 2: the abstract state, its picture in the heap, the judgement VW -/
/-- whole numbers of fields (by cell and field), arrays (length, contents), moving references (0: null) -/
abbrev vS : Type := (Nat → Nat → Int) × (Nat → Nat × (Int → Int)) × (Nat → Nat → Nat)
def gI (σ : vS) (o f : Nat) : Int := w32 (σ.1 o f)
def gL (σ : vS) (o f : Nat) : Int := w64 (σ.1 o f)
def gR (σ : vS) (o f : Nat) : Nat := σ.2.2 o f
def gN (σ : vS) (a : Nat) : Nat := (σ.2.1 a).1
def gE (σ : vS) (a : Nat) (j : Int) : Int := w32 ((σ.2.1 a).2 j)
def gB (σ : vS) (a : Nat) (j : Int) : Int := n8 ((σ.2.1 a).2 j)
def gZ (σ : vS) (a : Nat) (j : Int) : Int := bz ((σ.2.1 a).2 j)
def gEL (σ : vS) (a : Nat) (j : Int) : Int := w64 ((σ.2.1 a).2 j)
def sI (σ : vS) (o f : Nat) (v : Int) : vS := (fun o' f' => if o' = o ∧ f' = f then v else σ.1 o' f', σ.2)
def sR (σ : vS) (o f : Nat) (v : Nat) : vS := (σ.1, σ.2.1, fun o' f' => if o' = o ∧ f' = f then v else σ.2.2 o' f')
def sA (σ : vS) (a : Nat) (x : Nat × (Int → Int)) : vS := (σ.1, (fun a' => if a' = a then x else σ.2.1 a'), σ.2.2)
def uE (c : Int → Int) (j v : Int) : Int → Int := fun i => if i = j then v else c i
def sE (σ : vS) (a : Nat) (j v : Int) : vS := sA σ a ((σ.2.1 a).1, uE (σ.2.1 a).2 j v)
/-- classes' numbers and slots; array classes by kind; raw fields; addresses of the words -/
abbrev vG : Type := va_G × (Nat → ClassId) × (Nat → Nat → Value) × (Nat → Nat)
/-- how many cells there are; which static references are set; kinds and weights of the cells behind the static ones -/
abbrev vP : Type := Nat × (Nat → Nat → Bool) × List (Nat × Nat)
def P0 (tk : List (Nat × Nat)) : vP := (KF + tk.length, fun _ _ => true, tk)
def vkd (P : vP) (k : Nat) : Nat := if k < KF then kd k else (P.2.2.getD (k - KF) (99, 0)).1
def vfv (G : vG) (P : vP) (σ : vS) (a : Nat → Nat) (o f : Nat) : Value :=
  match fk (vkd P o) f with
  | 0 => .int (Int32.ofInt (σ.1 o f))
  | 1 => .long (Int64.ofInt (σ.1 o f))
  | 2 => if P.2.1 o f = true then .ref (a (ft (vkd P o) f o)) else .null
  | 3 => if σ.2.2 o f = 0 ∨ KF ≤ σ.2.2 o f ∨ 14 ≤ kd (σ.2.2 o f) then .null else .ref (a (σ.2.2 o f))
  | _ => if P.2.1 o f = true then G.2.2.1 o f else .null
def vac (k : Nat) (sa : Nat → Nat) (x : Nat × (Int → Int)) : vp_A :=
  if k = 27 then (x.1, .inr (.inl (fun j => Int64.ofInt (x.2 j))))
  else if k = 28 then (x.1, .inr (.inr (.inr (.inr (fun j => if w32 (x.2 j) = 1 then some (sa j) else none)))))
  else if k = 25 then (x.1, .inl (fun j => Int32.ofInt (n8 (x.2 j))))
  else if k = 26 then (x.1, .inl (fun j => Int32.ofInt (bz (x.2 j))))
  else (x.1, .inl (fun j => Int32.ofInt (x.2 j)))
def vent (G : vG) (P : vP) (σ : vS) (a : Nat → Nat) (k : Nat) : va_E :=
  if vkd P k < 14 then .inr (vkd P k, (List.range (nf (vkd P k))).map (fun f => vfv G P σ a k f)) else .inl (G.2.1 (vkd P k), vac (vkd P k) G.2.2.2 (σ.2.1 k))
def vws (G : vG) (P : vP) (σ : vS) (a : Nat → Nat) : va_W := (List.range P.1).map (fun k => (a k, vent G P σ a k))
/-- values of locals and the stack: int, long, a cell, any other -/
abbrev vA : Type := Int ⊕ Int ⊕ Nat ⊕ Value
abbrev vI (x : Int) : vA := .inl x
abbrev vL (x : Int) : vA := .inr (.inl x)
abbrev vO (k : Nat) : vA := .inr (.inr (.inl k))
abbrev vV (v : Value) : vA := .inr (.inr (.inr v))
def dv (a : Nat → Nat) : vA → Value
  | .inl x => .int (Int32.ofInt x)
  | .inr (.inl x) => .long (Int64.ofInt x)
  | .inr (.inr (.inl k)) => .ref (a k)
  | .inr (.inr (.inr v)) => v
def dvl (a : Nat → Nat) (L : List (Nat × vA)) : List (Nat × Value) := L.map (fun q => (q.1, dv a q.2))
/-- what cells and slots a state accounts for: an object its own; an array that may grow twice its length -/
def lgc (n : Nat) : Nat := Nat.log2 n + 1
def pcW (P : vP) (σ : vS) (k : Nat) : Nat := if vkd P k < 14 then 1 else if k < KF then lgc (σ.2.1 k).1 else (P.2.2.getD (k - KF) (99, 0)).2
def psW (P : vP) (σ : vS) (k : Nat) : Nat := if vkd P k < 14 then nf (vkd P k) else if k < KF then 2 * (σ.2.1 k).1 else (P.2.2.getD (k - KF) (99, 0)).2 * (σ.2.1 k).1
def sumTo (n : Nat) (f : Nat → Nat) : Nat := ((List.range n).map f).sum
/-- place 300 of the references counts the exceptions that were thrown: a cell and six slots each -/
def Pc (P : vP) (σ : vS) : Nat := sumTo P.1 (pcW P σ) + σ.2.2 300 500
def Ps (P : vP) (σ : vS) : Nat := sumTo P.1 (psW P σ) + 6 * σ.2.2 300 500
abbrev vX : Type := Program × Launch × Env × Room × State × MethodId × Array Value × List Frame × Method × Code
/-- a method's run: the machine's things, the world's, what may change, what is to be reached, the accounts at its start and its end, its locals -/
abbrev vM : Type := vX × vG × (Nat → Prop) × (State → Prop) × (Nat × Nat) × (Nat × Nat) × Nat × (Nat → Nat) × (Nat → Nat)
/-- the texts: whose constant each is; their bytes -/
def stL : List (String × Nat × String) := [("SchemaWorkshop$Lexemes", 19, "ABSENT"), ("SchemaWorkshop$Lexemes", 21, "ALL"), ("SchemaWorkshop$Lexemes", 23, "ANY"), ("SchemaWorkshop$Lexemes", 25, "APPLICATION"), ("SchemaWorkshop$Lexemes", 27, "AUTOMATIC"), ("SchemaWorkshop$Lexemes", 29, "BEGIN"), ("SchemaWorkshop$Lexemes", 31, "BIT"), ("SchemaWorkshop$Lexemes", 33, "BMPString"), ("SchemaWorkshop$Lexemes", 35, "BOOLEAN"), ("SchemaWorkshop$Lexemes", 37, "BY"), ("SchemaWorkshop$Lexemes", 39, "CHARACTER"), ("SchemaWorkshop$Lexemes", 41, "CHOICE"), ("SchemaWorkshop$Lexemes", 43, "CLASS"), ("SchemaWorkshop$Lexemes", 45, "COMPONENT"), ("SchemaWorkshop$Lexemes", 47, "COMPONENTS"), ("SchemaWorkshop$Lexemes", 49, "CONSTRAINED"), ("SchemaWorkshop$Lexemes", 51, "DEFAULT"), ("SchemaWorkshop$Lexemes", 53, "DEFINED"), ("SchemaWorkshop$Lexemes", 55, "DEFINITIONS"), ("SchemaWorkshop$Lexemes", 57, "EMBEDDED"), ("SchemaWorkshop$Lexemes", 59, "END"), ("SchemaWorkshop$Lexemes", 61, "ENUMERATED"), ("SchemaWorkshop$Lexemes", 63, "EXCEPT"), ("SchemaWorkshop$Lexemes", 65, "EXPLICIT"), ("SchemaWorkshop$Lexemes", 67, "EXPORTS"), ("SchemaWorkshop$Lexemes", 69, "EXTENSIBILITY"), ("SchemaWorkshop$Lexemes", 71, "EXTERNAL"), ("SchemaWorkshop$Lexemes", 73, "FALSE"), ("SchemaWorkshop$Lexemes", 75, "FROM"), ("SchemaWorkshop$Lexemes", 77, "GeneralString"), ("SchemaWorkshop$Lexemes", 79, "GeneralizedTime"), ("SchemaWorkshop$Lexemes", 81, "GraphicString"), ("SchemaWorkshop$Lexemes", 83, "IA5String"), ("SchemaWorkshop$Lexemes", 85, "IDENTIFIER"), ("SchemaWorkshop$Lexemes", 87, "IMPLICIT"), ("SchemaWorkshop$Lexemes", 89, "IMPLIED"), ("SchemaWorkshop$Lexemes", 91, "IMPORTS"), ("SchemaWorkshop$Lexemes", 93, "INCLUDES"), ("SchemaWorkshop$Lexemes", 95, "INSTANCE"), ("SchemaWorkshop$Lexemes", 97, "INTEGER"), ("SchemaWorkshop$Lexemes", 99, "INTERSECTION"), ("SchemaWorkshop$Lexemes", 101, "ISO646String"), ("SchemaWorkshop$Lexemes", 103, "MAX"), ("SchemaWorkshop$Lexemes", 105, "MIN"), ("SchemaWorkshop$Lexemes", 107, "MINUS-INFINITY"), ("SchemaWorkshop$Lexemes", 109, "NULL"), ("SchemaWorkshop$Lexemes", 111, "NumericString"), ("SchemaWorkshop$Lexemes", 113, "OBJECT"), ("SchemaWorkshop$Lexemes", 115, "OCTET"), ("SchemaWorkshop$Lexemes", 117, "OF"), ("SchemaWorkshop$Lexemes", 119, "OPTIONAL"), ("SchemaWorkshop$Lexemes", 121, "ObjectDescriptor"), ("SchemaWorkshop$Lexemes", 123, "PDV"), ("SchemaWorkshop$Lexemes", 125, "PLUS-INFINITY"), ("SchemaWorkshop$Lexemes", 127, "PRESENT"), ("SchemaWorkshop$Lexemes", 129, "PRIVATE"), ("SchemaWorkshop$Lexemes", 131, "PrintableString"), ("SchemaWorkshop$Lexemes", 133, "REAL"), ("SchemaWorkshop$Lexemes", 135, "RELATIVE-OID"), ("SchemaWorkshop$Lexemes", 137, "SEQUENCE"), ("SchemaWorkshop$Lexemes", 139, "SET"), ("SchemaWorkshop$Lexemes", 141, "SIZE"), ("SchemaWorkshop$Lexemes", 143, "STRING"), ("SchemaWorkshop$Lexemes", 145, "SYNTAX"), ("SchemaWorkshop$Lexemes", 147, "T61String"), ("SchemaWorkshop$Lexemes", 149, "TAGS"), ("SchemaWorkshop$Lexemes", 151, "TRUE"), ("SchemaWorkshop$Lexemes", 153, "TeletexString"), ("SchemaWorkshop$Lexemes", 155, "UNION"), ("SchemaWorkshop$Lexemes", 157, "UNIQUE"), ("SchemaWorkshop$Lexemes", 159, "UNIVERSAL"), ("SchemaWorkshop$Lexemes", 161, "UTCTime"), ("SchemaWorkshop$Lexemes", 163, "UTF8String"), ("SchemaWorkshop$Lexemes", 165, "UniversalString"), ("SchemaWorkshop$Lexemes", 167, "VideotexString"), ("SchemaWorkshop$Lexemes", 169, "VisibleString"), ("SchemaWorkshop$Lexemes", 171, "WITH"), ("SchemaWorkshop$Lexemes", 9, "{}[](),:;|-<.>=@!^*/&"), ("SchemaWorkshop$Meaning", 404, "itu-t"), ("SchemaWorkshop$Meaning", 410, "ccitt"), ("SchemaWorkshop$Meaning", 412, "iso"), ("SchemaWorkshop$Meaning", 414, "joint-iso-itu-t"), ("SchemaWorkshop$Meaning", 416, "joint-iso-ccitt")]
def stB : List (List Int) := [[65, 66, 83, 69, 78, 84], [65, 76, 76], [65, 78, 89], [65, 80, 80, 76, 73, 67, 65, 84, 73, 79, 78], [65, 85, 84, 79, 77, 65, 84, 73, 67], [66, 69, 71, 73, 78], [66, 73, 84], [66, 77, 80, 83, 116, 114, 105, 110, 103], [66, 79, 79, 76, 69, 65, 78], [66, 89], [67, 72, 65, 82, 65, 67, 84, 69, 82], [67, 72, 79, 73, 67, 69], [67, 76, 65, 83, 83], [67, 79, 77, 80, 79, 78, 69, 78, 84], [67, 79, 77, 80, 79, 78, 69, 78, 84, 83], [67, 79, 78, 83, 84, 82, 65, 73, 78, 69, 68], [68, 69, 70, 65, 85, 76, 84], [68, 69, 70, 73, 78, 69, 68], [68, 69, 70, 73, 78, 73, 84, 73, 79, 78, 83], [69, 77, 66, 69, 68, 68, 69, 68], [69, 78, 68], [69, 78, 85, 77, 69, 82, 65, 84, 69, 68], [69, 88, 67, 69, 80, 84], [69, 88, 80, 76, 73, 67, 73, 84], [69, 88, 80, 79, 82, 84, 83], [69, 88, 84, 69, 78, 83, 73, 66, 73, 76, 73, 84, 89], [69, 88, 84, 69, 82, 78, 65, 76], [70, 65, 76, 83, 69], [70, 82, 79, 77], [71, 101, 110, 101, 114, 97, 108, 83, 116, 114, 105, 110, 103], [71, 101, 110, 101, 114, 97, 108, 105, 122, 101, 100, 84, 105, 109, 101], [71, 114, 97, 112, 104, 105, 99, 83, 116, 114, 105, 110, 103], [73, 65, 53, 83, 116, 114, 105, 110, 103], [73, 68, 69, 78, 84, 73, 70, 73, 69, 82], [73, 77, 80, 76, 73, 67, 73, 84], [73, 77, 80, 76, 73, 69, 68], [73, 77, 80, 79, 82, 84, 83], [73, 78, 67, 76, 85, 68, 69, 83], [73, 78, 83, 84, 65, 78, 67, 69], [73, 78, 84, 69, 71, 69, 82], [73, 78, 84, 69, 82, 83, 69, 67, 84, 73, 79, 78], [73, 83, 79, 54, 52, 54, 83, 116, 114, 105, 110, 103], [77, 65, 88], [77, 73, 78], [77, 73, 78, 85, 83, 45, 73, 78, 70, 73, 78, 73, 84, 89], [78, 85, 76, 76], [78, 117, 109, 101, 114, 105, 99, 83, 116, 114, 105, 110, 103], [79, 66, 74, 69, 67, 84], [79, 67, 84, 69, 84], [79, 70], [79, 80, 84, 73, 79, 78, 65, 76], [79, 98, 106, 101, 99, 116, 68, 101, 115, 99, 114, 105, 112, 116, 111, 114], [80, 68, 86], [80, 76, 85, 83, 45, 73, 78, 70, 73, 78, 73, 84, 89], [80, 82, 69, 83, 69, 78, 84], [80, 82, 73, 86, 65, 84, 69], [80, 114, 105, 110, 116, 97, 98, 108, 101, 83, 116, 114, 105, 110, 103], [82, 69, 65, 76], [82, 69, 76, 65, 84, 73, 86, 69, 45, 79, 73, 68], [83, 69, 81, 85, 69, 78, 67, 69], [83, 69, 84], [83, 73, 90, 69], [83, 84, 82, 73, 78, 71], [83, 89, 78, 84, 65, 88], [84, 54, 49, 83, 116, 114, 105, 110, 103], [84, 65, 71, 83], [84, 82, 85, 69], [84, 101, 108, 101, 116, 101, 120, 83, 116, 114, 105, 110, 103], [85, 78, 73, 79, 78], [85, 78, 73, 81, 85, 69], [85, 78, 73, 86, 69, 82, 83, 65, 76], [85, 84, 67, 84, 105, 109, 101], [85, 84, 70, 56, 83, 116, 114, 105, 110, 103], [85, 110, 105, 118, 101, 114, 115, 97, 108, 83, 116, 114, 105, 110, 103], [86, 105, 100, 101, 111, 116, 101, 120, 83, 116, 114, 105, 110, 103], [86, 105, 115, 105, 98, 108, 101, 83, 116, 114, 105, 110, 103], [87, 73, 84, 72], [123, 125, 91, 93, 40, 41, 44, 58, 59, 124, 45, 60, 46, 62, 61, 64, 33, 94, 42, 47, 38], [105, 116, 117, 45, 116], [99, 99, 105, 116, 116], [105, 115, 111], [106, 111, 105, 110, 116, 45, 105, 115, 111, 45, 105, 116, 117, 45, 116], [106, 111, 105, 110, 116, 45, 105, 115, 111, 45, 99, 99, 105, 116, 116]]
def stO (i : Nat) : String × Nat × String := stL.getD i ("", 0, "")
/-- how long the text of number i is; its byte at k -/
def sLen (i : Nat) : Nat := (stB.getD i []).length
def sByt (i k : Nat) : Int := (stB.getD i []).getD k 0
/-- the texts are there, and stay: text i is cell 1000 + i, its bytes are cell 1100 + i -/
def vstr (a : Nat → Nat) (A : Nat → Prop) (U : State) (H : Heap) : Prop :=
  (∀ i : Nat, i < 83 → va_O "java/lang/String" (a (1000 + i)) A U H ∧ va_OF "java/lang/String" "coder" "B" (.int 0) (a (1000 + i)) A U H ∧ va_OF "java/lang/String" "value" "[B" (.ref (a (1100 + i))) (a (1000 + i)) A U H ∧ va_T .byte (a (1100 + i)) (sLen i) (fun j => .int (Int32.ofInt (sByt i j))) A U H ∧ vk_R (stO i).1 (stO i).2.1 (stO i).2.2 (a (1000 + i)) U) ∧
  va_Z "java/lang/String" "COMPACT_STRINGS" "Z" (.int 1) A U H ∧ va_Zq "jdk/internal/util/Preconditions" "SIOOBE_FORMATTER" "Ljava/util/function/BiFunction;" A U H
/-- the texts that the objects hold -/
def vlnk (G : vG) (a : Nat → Nat) : Prop := (∀ i : Nat, i < 77 → G.2.2.2 i = a (1000 + i)) ∧ G.2.2.1 5 0 = .ref (a 1077)
/-- arrays only grow; one of its old length is where it was (but for the two that are exchanged, 82 and 83) -/
abbrev kpK (k : Nat) : Prop := k < KF ∧ k ≠ 82 ∧ k ≠ 83
def vJ (l0 a0 : Nat → Nat) (σ : vS) (a : Nat → Nat) : Prop := (∀ k : Nat, kpK k → l0 k = 0 ∨ (kd k < 14 ∧ a k = a0 k) ∨ (14 ≤ kd k ∧ l0 k ≤ (σ.2.1 k).1 + 1 ∧ ((σ.2.1 k).1 + 1 = l0 k → a k = a0 k))) ∧ ∀ k : Nat, 1000 ≤ k → a k = a0 k
/-- how long arrays were (and one more: 0 is for what was not there) -/
def lz (σ : vS) (k : Nat) : Nat := (σ.2.1 k).1 + 1
theorem vJ_rf (σ : vS) (a : Nat → Nat) : vJ (lz σ) a σ a := ⟨fun k _ => by
  by_cases h : kd k < 14
  · exact Or.inr (Or.inl ⟨h, rfl⟩)
  · exact Or.inr (Or.inr ⟨by omega, Nat.le_refl _, fun _ => rfl⟩), fun _ _ => rfl⟩
def VI : vM → vP → vS → Nat → List (Nat × vA) → List vA → Prop
  | ((p, l, e, R, s, m, args, below, meth, c), G, A, Q, b, _, nL, l0, a0), P, σ, pc, L, st =>
    ∀ (H : Heap) (locs : List Loc) (a : Nat → Nat) (ls : Array Slot), va_P G.1 vcl (vws G P σ a) H → va_D A (vws G P σ a) → va_S A s.heap H locs → lv_has ls nL (dvl a L) → vJ l0 a0 σ a → b.1 ≤ Pc P σ → b.2 ≤ Ps P σ →
      W p l e R s m args below meth c H locs (Pc P σ - b.1) (Ps P σ - b.2) Q (F0 m pc ls (st.map (dv a)))
/-- array classes by kind -/
def vtys (G : vG) : List (ClassId × FieldType) := [(G.2.1 24, .int), (G.2.1 25, .byte), (G.2.1 26, .boolean), (G.2.1 27, .long), (G.2.1 28, .object "java/lang/String")]
/-- the nest mates' words that own code uses -/
def vnest : List Cond := lw_tbl.filter (fun w => match w with | .methodLinkNest _ _ _ _ => true | .fieldLinkNest _ _ _ _ _ _ => true | .castable _ _ => true | .declares _ => true | _ => false)
/-- the nest mates' words, the texts, no stack traces -/
def VN (G : vG) (a : Nat → Nat) (A : Nat → Prop) (l : Launch) (U : State) (H : Heap) : Prop := (∀ w ∈ vnest, va_Nw w U) ∧ vstr a A U H ∧ vlnk G a ∧ l.stackTraces = false ∧ vx_Zq Bundle.tN "UNASSIGNED_STACK" Bundle.steD A U H ∧ vx_Zq Bundle.tN "SUPPRESSED_SENTINEL" Bundle.listD A U H ∧ va_Nc "java/lang/IllegalStateException" "java/lang/IllegalArgumentException" U ∧ va_Nc "java/lang/IllegalArgumentException" "java/lang/IndexOutOfBoundsException" U ∧ va_AO "java/lang/String" U
def VX : vM → ByteArray → String → Prop
  | ((p, l, e, R, s, m, args, below, meth, c), G, A, Q, b, o, nL, _, a0), cc, own =>
    p.tables.exec = Jvm.exec ∧ c.code = cc ∧ c.maxLocals = nL ∧ s.vm.findClass own = some m.cls ∧ (∀ w ∈ lw_all, w.before args s = true) ∧ va_K G.1 vcl (vtys G) s ∧ meth.locks = false ∧ (∀ q : Nat, s.heap.size ≤ q → A q) ∧ o.1 - b.1 ≤ R.cells ∧ o.2 - b.2 ≤ R.slots ∧ VN G a0 A l s s.heap
def vpost (G : vG) (σ : vS) (a : Nat → Nat) (sz : Nat) (rv : Option vA) (σ' : vS) (tko : List (Nat × Nat)) : Array Value → State → Outcome → State → Prop := fun _ st oc t =>
  (∃ a' : Nat → Nat, oc = .returned (rv.map (dv a')) ∧ va_P G.1 vcl (vws G (P0 tko) σ' a') t.heap ∧ va_D (va_A (vws G (P0 []) σ a) sz) (vws G (P0 tko) σ' a') ∧ vJ (lz σ) a σ' a') ∧ va_F (va_A (vws G (P0 []) σ a) sz) st t
/-- how it is thrown: the class, the world then -/
def vpostX (G : vG) (σ : vS) (a : Nat → Nat) (sz : Nat) (E : String) (σ' : vS) : String → State → State → Prop := fun E' st t =>
  E' = E ∧ (∃ a' : Nat → Nat, va_P G.1 vcl (vws G (P0 []) σ' a') t.heap ∧ va_D (va_A (vws G (P0 []) σ a) sz) (vws G (P0 []) σ' a') ∧ vJ (lz σ) a σ' a') ∧ va_F (va_A (vws G (P0 []) σ a) sz) st t
/-- a run whose answer is the raw null is one that throws, the class by the answer's type; a raw number: a method with handlers, which by the answer's type -/
def rvT : Option vA → Bool
  | some (.inr (.inr (.inr .null))) => true
  | _ => false
def rvH : Option vA → Bool
  | some (.inr (.inr (.inr (.int _)))) => true
  | _ => false
/-- the law's own run: a raw long; its script is array 1200 of the last state, its address is that of 1200 -/
def rvL : Option vA → Bool
  | some (.inr (.inr (.inr (.long _)))) => true
  | _ => false
/-- a constructor's run: a raw float; the world at its end is told by the last state's marks -/
def rvC : Option vA → Bool
  | some (.inr (.inr (.inr (.float _)))) => true
  | _ => false
def pOf (σ : vS) : vP := ((σ.2.1 1300).1, fun o f => σ.2.2 (2000 + o) f == 1, [])
def lzC (σ : vS) (k : Nat) : Nat := if k < (σ.2.1 1300).1 then (σ.2.1 k).1 + 1 else 0
def vpostC (G : vG) (σ : vS) (a : Nat → Nat) (sz : Nat) (σ' : vS) : Array Value → State → Outcome → State → Prop := fun _ st oc t =>
  (∃ a' : Nat → Nat, oc = .returned none ∧ va_P G.1 vcl (vws G (pOf σ') σ' a') t.heap ∧ va_D (va_A (vws G (pOf σ) σ a) sz) (vws G (pOf σ') σ' a') ∧ vJ (lzC σ) a σ' a') ∧ va_F (va_A (vws G (pOf σ) σ a) sz) st t
def hhOf : String → List (Nat × Nat × Nat × Nat)
  | "feed" => [(0, 16, 19, 13)]
  | "end" => [(0, 9, 12, 19), (0, 9, 15, 13)]
  | "compile" => [(0, 8, 11, 19)]
  | "fault" => [(0, 9, 12, 28)]
  | "type" => [(0, 10, 13, 28)]
  | "name" => [(0, 10, 13, 28)]
  | "defaultSize" => [(0, 10, 13, 28)]
  | "limit" => [(0, 9, 12, 19)]
  | "transcode" => [(0, 9, 12, 28), (0, 9, 15, 19)]
  | "out" => [(0, 9, 12, 28)]
  | "again" => [(0, 8, 11, 13)]
  | _ => []
def exN : Option FieldType → String
  | some (.object E) => E
  | _ => ""
/-- how a method's run is to end -/
def VR : vM → Option vA → vS → Option FieldType → List (Nat × Nat) → Prop
  | ((_, _, _, R, s, _, args, below, meth, c), G, A, Q, b, o, _, l0, a0), rv, σ', ret, tko => ∃ σ0 : vS, Q = cond (rvT rv) (vx_MQ below (fun _ _ _ _ => False) (vpostX G σ0 a0 s.heap.size (exN ret) σ') args s (o.1 - b.1) (o.2 - b.2) A) (cond (rvL rv) (lw_Z below args s) (cond (rvC rv) (MQ below (vpostC G σ0 a0 s.heap.size σ') args s (o.1 - b.1) (o.2 - b.2) A) (MQ below (vpost G σ0 a0 s.heap.size rv σ' tko) args s (o.1 - b.1) (o.2 - b.2) A))) ∧
    cond (rvL rv) (A = fun q => s.heap.size ≤ q) (cond (rvC rv) (A = va_A (vws G (pOf σ0) σ0 a0) s.heap.size) (A = va_A (vws G (P0 []) σ0 a0) s.heap.size)) ∧ o = (Pc (P0 tko) σ', Ps (P0 tko) σ') ∧ l0 = cond (rvC rv) (lzC σ0) (cond (rvL rv) (fun _ => 0) (lz σ0)) ∧
    cond (rvT rv) (∀ x ∈ c.exceptionTable.toList, False) (cond (rvH rv) (c.exceptionTable.toList.map (fun h => (h.startPc, h.endPc, h.handlerPc, h.catchType)) = hhOf (exN ret) ∧ meth.sig.returnType = some .int)
      (cond (rvL rv) (meth.sig.returnType = ret ∧ args = #[Value.ref (a0 1200)] ∧ R = room_1 ∧ va_X (a0 1200) (σ'.2.1 1200).1 (fun j => Int32.ofInt ((σ'.2.1 1200).2 j)) s s.heap ∧ a0 1200 < s.heap.size) (cond (rvC rv) (meth.name = "<init>" ∧ meth.sig.returnType = none ∧ ∀ k, (σ'.2.1 1301).1 ≤ k → k < 199 → l0 k = 0) (meth.sig.returnType = ret))))
/-- the room that a method has -/
def VM (M : vM) (F L : Nat) : Prop := M.1.2.2.2.1.frames = F ∧ M.1.2.2.2.1.locals = L
/-- a method: its class, the answer and the state that it is to end with, its answer's type, its room (frames, locals' words), its locals -/
abbrev vB : Type := String × Option vA × vS × Option FieldType × Nat × Nat × Nat × List (Nat × Nat)
def rvOk : Option vA → Prop
  | some (.inl r) => rg r
  | some (.inr (.inl r)) => rgL r
  | _ => True
/-- THE JUDGEMENT: the run of a method (its code cc), now at pc with locals L and stack st over the state σ, comes to its end -/
def VW (cc : ByteArray) : vB → vP → vS → Nat → List (Nat × vA) → List vA → Prop
  | (own, rv, σo, ret, F, Lc, nL, tko), P, σ, pc, L, st => (Pc P σ ≤ Pc (P0 tko) σo ∧ Ps P σ ≤ Ps (P0 tko) σo ∧ rvOk rv) ∧ ∀ M : vM, VX M cc own → VR M rv σo ret tko → VM M F Lc → M.2.2.2.2.2.2.1 = nL → VI M P σ pc L st
theorem vws_at (G : vG) (P : vP) (σ : vS) (a : Nat → Nat) {k : Nat} (h : k < P.1) : (vws G P σ a)[k]? = some (a k, vent G P σ a k) := by
  simp [vws, h]
theorem vws_of {G : vG} {P : vP} {σ : vS} {a : Nat → Nat} {k : Nat} {q : Nat × va_E} (h : (vws G P σ a)[k]? = some q) : k < P.1 ∧ q = (a k, vent G P σ a k) := by
  simp only [vws, List.getElem?_map, Option.map_eq_some_iff] at h
  obtain ⟨x, h1, h2⟩ := h
  have h3 := List.getElem?_eq_some_iff.mp h1
  obtain ⟨h4, h5⟩ := h3
  simp at h4 h5
  subst h5
  exact ⟨h4, h2.symm⟩
theorem dvl_at {a : Nat → Nat} {L : List (Nat × vA)} {k i : Nat} {v : vA} (h : L[k]? = some (i, v)) : (dvl a L)[k]? = some (i, dv a v) := by
  simp [dvl, h]
theorem sumTo_le {n : Nat} {f g : Nat → Nat} (h : ∀ k, k < n → f k ≤ g k) : sumTo n f ≤ sumTo n g := by
  induction n with
  | zero => simp [sumTo]
  | succ n ih =>
    have e : ∀ u : Nat → Nat, sumTo (n + 1) u = sumTo n u + u n := fun u => by simp [sumTo, List.range_succ]
    rw [e, e]
    have := ih (fun k hk => h k (by omega))
    have := h n (by omega)
    omega
theorem sumTo_congr {n : Nat} {f g : Nat → Nat} (h : ∀ k, k < n → f k = g k) : sumTo n f = sumTo n g := Nat.le_antisymm (sumTo_le fun k hk => Nat.le_of_eq (h k hk)) (sumTo_le fun k hk => Nat.le_of_eq (h k hk).symm)
theorem sumTo_succ (n : Nat) (f : Nat → Nat) : sumTo (n + 1) f = sumTo n f + f n := by simp [sumTo, List.range_succ]
/-- one place is changed -/
theorem sumTo_one {n : Nat} {f g : Nat → Nat} {j : Nat} (hj : j < n) (h : ∀ k, k ≠ j → f k = g k) : sumTo n f + g j = sumTo n g + f j := by
  induction n with
  | zero => omega
  | succ n ih =>
    rw [sumTo_succ, sumTo_succ]
    by_cases hn : j = n
    · subst hn
      rw [sumTo_congr (f := f) (g := g) (fun k hk => h k (by omega))]
      omega
    · have := ih (by omega)
      have := h n (fun q => hn q.symm)
      omega
/-- a store that changes no array's length keeps the accounts -/
theorem Pc_same {P : vP} {σ τ : vS} (h : ∀ k, (σ.2.1 k).1 = (τ.2.1 k).1) (hg : σ.2.2 300 500 = τ.2.2 300 500 := by rfl) : Pc P σ = Pc P τ := by
  have e : sumTo P.1 (pcW P σ) = sumTo P.1 (pcW P τ) := sumTo_congr fun k _ => by simp [pcW, h]
  unfold Pc
  rw [e, hg]
theorem Ps_same {P : vP} {σ τ : vS} (h : ∀ k, (σ.2.1 k).1 = (τ.2.1 k).1) (hg : σ.2.2 300 500 = τ.2.2 300 500 := by rfl) : Ps P σ = Ps P τ := by
  have e : sumTo P.1 (psW P σ) = sumTo P.1 (psW P τ) := sumTo_congr fun k _ => by simp [psW, h]
  unfold Ps
  rw [e, hg]
