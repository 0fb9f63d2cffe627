set_option maxRecDepth 100000
/-! THE START (by tools/mkstart.py): what narrow_1 gives -/
theorem bl {a b : Cond} {A : Array Value} {s : State} (h : (Cond.and a b).before A s = true) : a.before A s = true := by rw [Cond.before_and, Bool.and_eq_true] at h; exact h.1
theorem br {a b : Cond} {A : Array Value} {s : State} (h : (Cond.and a b).before A s = true) : b.before A s = true := by rw [Cond.before_and, Bool.and_eq_true] at h; exact h.2
theorem ns_0 {A : Array Value} {s : State} (h : narrow_1.before A s = true) : (Cond.exactly (Term.string "SchemaWorkshop$Lexemes" 19) "java/lang/String").before A s = true ∧ (Cond.eq (.field (Term.string "SchemaWorkshop$Lexemes" 19) "java/lang/String" "coder" "B") (.int 0)).before A s = true ∧ (Cond.arrayOf (Term.field (Term.string "SchemaWorkshop$Lexemes" 19) "java/lang/String" "value" "[B") .byte).before A s = true ∧ (Cond.eq (.length (Term.field (Term.string "SchemaWorkshop$Lexemes" 19) "java/lang/String" "value" "[B")) (.int (Int32.ofNat (sLen 0)))).before A s = true ∧ ∀ j : Nat, j < sLen 0 → (Cond.eq (.elem (Term.field (Term.string "SchemaWorkshop$Lexemes" 19) "java/lang/String" "value" "[B") (.int (Int32.ofNat j))) (.int (Int32.ofInt (sByt 0 j)))).before A s = true := by
  refine ⟨(bl (br (bl (bl (br (bl (br (bl (bl (bl h)))))))))), (br (br (bl (bl (br (bl (br (bl (bl (bl h)))))))))), (bl (bl (br (bl (br (bl (br (bl (bl (bl h)))))))))), (br (bl (br (bl (br (bl (br (bl (bl (bl h)))))))))), fun j hj => ?_⟩
  match j, hj with
  | 0, _ => exact (bl (br (br (bl (br (bl (br (bl (bl (bl h))))))))))
  | 1, _ => exact (br (br (br (bl (br (bl (br (bl (bl (bl h))))))))))
  | 2, _ => exact (bl (bl (bl (br (br (bl (br (bl (bl (bl h))))))))))
  | 3, _ => exact (br (bl (bl (br (br (bl (br (bl (bl (bl h))))))))))
  | 4, _ => exact (bl (br (bl (br (br (bl (br (bl (bl (bl h))))))))))
  | 5, _ => exact (br (br (bl (br (br (bl (br (bl (bl (bl h))))))))))
  | j + 6, hj => exact absurd hj (by have : sLen 0 = 6 := rfl; omega)
theorem ns_1 {A : Array Value} {s : State} (h : narrow_1.before A s = true) : (Cond.exactly (Term.string "SchemaWorkshop$Lexemes" 21) "java/lang/String").before A s = true ∧ (Cond.eq (.field (Term.string "SchemaWorkshop$Lexemes" 21) "java/lang/String" "coder" "B") (.int 0)).before A s = true ∧ (Cond.arrayOf (Term.field (Term.string "SchemaWorkshop$Lexemes" 21) "java/lang/String" "value" "[B") .byte).before A s = true ∧ (Cond.eq (.length (Term.field (Term.string "SchemaWorkshop$Lexemes" 21) "java/lang/String" "value" "[B")) (.int (Int32.ofNat (sLen 1)))).before A s = true ∧ ∀ j : Nat, j < sLen 1 → (Cond.eq (.elem (Term.field (Term.string "SchemaWorkshop$Lexemes" 21) "java/lang/String" "value" "[B") (.int (Int32.ofNat j))) (.int (Int32.ofInt (sByt 1 j)))).before A s = true := by
  refine ⟨(bl (bl (br (br (br (bl (br (bl (bl (bl h)))))))))), (br (bl (br (br (br (bl (br (bl (bl (bl h)))))))))), (bl (br (br (br (br (bl (br (bl (bl (bl h)))))))))), (bl (br (br (br (br (br (bl (br (bl (bl (bl h))))))))))), fun j hj => ?_⟩
  match j, hj with
  | 0, _ => exact (br (br (br (br (br (br (bl (br (bl (bl (bl h)))))))))))
  | 1, _ => exact (bl (bl (bl (bl (bl (br (br (bl (bl (bl h))))))))))
  | 2, _ => exact (br (bl (bl (bl (bl (br (br (bl (bl (bl h))))))))))
  | j + 3, hj => exact absurd hj (by have : sLen 1 = 3 := rfl; omega)
theorem ns_2 {A : Array Value} {s : State} (h : narrow_1.before A s = true) : (Cond.exactly (Term.string "SchemaWorkshop$Lexemes" 23) "java/lang/String").before A s = true ∧ (Cond.eq (.field (Term.string "SchemaWorkshop$Lexemes" 23) "java/lang/String" "coder" "B") (.int 0)).before A s = true ∧ (Cond.arrayOf (Term.field (Term.string "SchemaWorkshop$Lexemes" 23) "java/lang/String" "value" "[B") .byte).before A s = true ∧ (Cond.eq (.length (Term.field (Term.string "SchemaWorkshop$Lexemes" 23) "java/lang/String" "value" "[B")) (.int (Int32.ofNat (sLen 2)))).before A s = true ∧ ∀ j : Nat, j < sLen 2 → (Cond.eq (.elem (Term.field (Term.string "SchemaWorkshop$Lexemes" 23) "java/lang/String" "value" "[B") (.int (Int32.ofNat j))) (.int (Int32.ofInt (sByt 2 j)))).before A s = true := by
  refine ⟨(bl (br (bl (bl (bl (br (br (bl (bl (bl h)))))))))), (br (br (bl (bl (bl (br (br (bl (bl (bl h)))))))))), (bl (bl (br (bl (bl (br (br (bl (bl (bl h)))))))))), (br (bl (br (bl (bl (br (br (bl (bl (bl h)))))))))), fun j hj => ?_⟩
  match j, hj with
  | 0, _ => exact (bl (br (br (bl (bl (br (br (bl (bl (bl h))))))))))
  | 1, _ => exact (br (br (br (bl (bl (br (br (bl (bl (bl h))))))))))
  | 2, _ => exact (bl (bl (bl (br (bl (br (br (bl (bl (bl h))))))))))
  | j + 3, hj => exact absurd hj (by have : sLen 2 = 3 := rfl; omega)
theorem ns_3 {A : Array Value} {s : State} (h : narrow_1.before A s = true) : (Cond.exactly (Term.string "SchemaWorkshop$Lexemes" 25) "java/lang/String").before A s = true ∧ (Cond.eq (.field (Term.string "SchemaWorkshop$Lexemes" 25) "java/lang/String" "coder" "B") (.int 0)).before A s = true ∧ (Cond.arrayOf (Term.field (Term.string "SchemaWorkshop$Lexemes" 25) "java/lang/String" "value" "[B") .byte).before A s = true ∧ (Cond.eq (.length (Term.field (Term.string "SchemaWorkshop$Lexemes" 25) "java/lang/String" "value" "[B")) (.int (Int32.ofNat (sLen 3)))).before A s = true ∧ ∀ j : Nat, j < sLen 3 → (Cond.eq (.elem (Term.field (Term.string "SchemaWorkshop$Lexemes" 25) "java/lang/String" "value" "[B") (.int (Int32.ofNat j))) (.int (Int32.ofInt (sByt 3 j)))).before A s = true := by
  refine ⟨(br (bl (bl (br (bl (br (br (bl (bl (bl h)))))))))), (bl (br (bl (br (bl (br (br (bl (bl (bl h)))))))))), (br (br (bl (br (bl (br (br (bl (bl (bl h)))))))))), (bl (bl (br (br (bl (br (br (bl (bl (bl h)))))))))), fun j hj => ?_⟩
  match j, hj with
  | 0, _ => exact (br (bl (br (br (bl (br (br (bl (bl (bl h))))))))))
  | 1, _ => exact (bl (br (br (br (bl (br (br (bl (bl (bl h))))))))))
  | 2, _ => exact (bl (br (br (br (br (bl (br (br (bl (bl (bl h)))))))))))
  | 3, _ => exact (br (br (br (br (br (bl (br (br (bl (bl (bl h)))))))))))
  | 4, _ => exact (bl (bl (bl (bl (br (br (br (bl (bl (bl h))))))))))
  | 5, _ => exact (br (bl (bl (bl (br (br (br (bl (bl (bl h))))))))))
  | 6, _ => exact (bl (br (bl (bl (br (br (br (bl (bl (bl h))))))))))
  | 7, _ => exact (br (br (bl (bl (br (br (br (bl (bl (bl h))))))))))
  | 8, _ => exact (bl (bl (br (bl (br (br (br (bl (bl (bl h))))))))))
  | 9, _ => exact (br (bl (br (bl (br (br (br (bl (bl (bl h))))))))))
  | 10, _ => exact (bl (br (br (bl (br (br (br (bl (bl (bl h))))))))))
  | j + 11, hj => exact absurd hj (by have : sLen 3 = 11 := rfl; omega)
theorem ns_4 {A : Array Value} {s : State} (h : narrow_1.before A s = true) : (Cond.exactly (Term.string "SchemaWorkshop$Lexemes" 27) "java/lang/String").before A s = true ∧ (Cond.eq (.field (Term.string "SchemaWorkshop$Lexemes" 27) "java/lang/String" "coder" "B") (.int 0)).before A s = true ∧ (Cond.arrayOf (Term.field (Term.string "SchemaWorkshop$Lexemes" 27) "java/lang/String" "value" "[B") .byte).before A s = true ∧ (Cond.eq (.length (Term.field (Term.string "SchemaWorkshop$Lexemes" 27) "java/lang/String" "value" "[B")) (.int (Int32.ofNat (sLen 4)))).before A s = true ∧ ∀ j : Nat, j < sLen 4 → (Cond.eq (.elem (Term.field (Term.string "SchemaWorkshop$Lexemes" 27) "java/lang/String" "value" "[B") (.int (Int32.ofNat j))) (.int (Int32.ofInt (sByt 4 j)))).before A s = true := by
  refine ⟨(br (br (br (bl (br (br (br (bl (bl (bl h)))))))))), (bl (bl (bl (br (br (br (br (bl (bl (bl h)))))))))), (br (bl (bl (br (br (br (br (bl (bl (bl h)))))))))), (bl (br (bl (br (br (br (br (bl (bl (bl h)))))))))), fun j hj => ?_⟩
  match j, hj with
  | 0, _ => exact (br (br (bl (br (br (br (br (bl (bl (bl h))))))))))
  | 1, _ => exact (bl (bl (br (br (br (br (br (bl (bl (bl h))))))))))
  | 2, _ => exact (br (bl (br (br (br (br (br (bl (bl (bl h))))))))))
  | 3, _ => exact (bl (br (br (br (br (br (br (bl (bl (bl h))))))))))
  | 4, _ => exact (bl (br (br (br (br (br (br (br (bl (bl (bl h)))))))))))
  | 5, _ => exact (br (br (br (br (br (br (br (br (bl (bl (bl h)))))))))))
  | 6, _ => exact (bl (bl (bl (bl (bl (bl (bl (br (bl (bl h))))))))))
  | 7, _ => exact (br (bl (bl (bl (bl (bl (bl (br (bl (bl h))))))))))
  | 8, _ => exact (bl (br (bl (bl (bl (bl (bl (br (bl (bl h))))))))))
  | j + 9, hj => exact absurd hj (by have : sLen 4 = 9 := rfl; omega)
theorem ns_5 {A : Array Value} {s : State} (h : narrow_1.before A s = true) : (Cond.exactly (Term.string "SchemaWorkshop$Lexemes" 29) "java/lang/String").before A s = true ∧ (Cond.eq (.field (Term.string "SchemaWorkshop$Lexemes" 29) "java/lang/String" "coder" "B") (.int 0)).before A s = true ∧ (Cond.arrayOf (Term.field (Term.string "SchemaWorkshop$Lexemes" 29) "java/lang/String" "value" "[B") .byte).before A s = true ∧ (Cond.eq (.length (Term.field (Term.string "SchemaWorkshop$Lexemes" 29) "java/lang/String" "value" "[B")) (.int (Int32.ofNat (sLen 5)))).before A s = true ∧ ∀ j : Nat, j < sLen 5 → (Cond.eq (.elem (Term.field (Term.string "SchemaWorkshop$Lexemes" 29) "java/lang/String" "value" "[B") (.int (Int32.ofNat j))) (.int (Int32.ofInt (sByt 5 j)))).before A s = true := by
  refine ⟨(br (br (bl (bl (bl (bl (bl (br (bl (bl h)))))))))), (bl (bl (br (bl (bl (bl (bl (br (bl (bl h)))))))))), (br (bl (br (bl (bl (bl (bl (br (bl (bl h)))))))))), (bl (br (br (bl (bl (bl (bl (br (bl (bl h)))))))))), fun j hj => ?_⟩
  match j, hj with
  | 0, _ => exact (br (br (br (bl (bl (bl (bl (br (bl (bl h))))))))))
  | 1, _ => exact (bl (bl (bl (br (bl (bl (bl (br (bl (bl h))))))))))
  | 2, _ => exact (br (bl (bl (br (bl (bl (bl (br (bl (bl h))))))))))
  | 3, _ => exact (bl (br (bl (br (bl (bl (bl (br (bl (bl h))))))))))
  | 4, _ => exact (br (br (bl (br (bl (bl (bl (br (bl (bl h))))))))))
  | j + 5, hj => exact absurd hj (by have : sLen 5 = 5 := rfl; omega)
theorem ns_6 {A : Array Value} {s : State} (h : narrow_1.before A s = true) : (Cond.exactly (Term.string "SchemaWorkshop$Lexemes" 31) "java/lang/String").before A s = true ∧ (Cond.eq (.field (Term.string "SchemaWorkshop$Lexemes" 31) "java/lang/String" "coder" "B") (.int 0)).before A s = true ∧ (Cond.arrayOf (Term.field (Term.string "SchemaWorkshop$Lexemes" 31) "java/lang/String" "value" "[B") .byte).before A s = true ∧ (Cond.eq (.length (Term.field (Term.string "SchemaWorkshop$Lexemes" 31) "java/lang/String" "value" "[B")) (.int (Int32.ofNat (sLen 6)))).before A s = true ∧ ∀ j : Nat, j < sLen 6 → (Cond.eq (.elem (Term.field (Term.string "SchemaWorkshop$Lexemes" 31) "java/lang/String" "value" "[B") (.int (Int32.ofNat j))) (.int (Int32.ofInt (sByt 6 j)))).before A s = true := by
  refine ⟨(bl (bl (br (br (bl (bl (bl (br (bl (bl h)))))))))), (br (bl (br (br (bl (bl (bl (br (bl (bl h)))))))))), (bl (br (br (br (bl (bl (bl (br (bl (bl h)))))))))), (br (br (br (br (bl (bl (bl (br (bl (bl h)))))))))), fun j hj => ?_⟩
  match j, hj with
  | 0, _ => exact (bl (bl (bl (bl (br (bl (bl (br (bl (bl h))))))))))
  | 1, _ => exact (br (bl (bl (bl (br (bl (bl (br (bl (bl h))))))))))
  | 2, _ => exact (bl (br (bl (bl (br (bl (bl (br (bl (bl h))))))))))
  | j + 3, hj => exact absurd hj (by have : sLen 6 = 3 := rfl; omega)
theorem ns_7 {A : Array Value} {s : State} (h : narrow_1.before A s = true) : (Cond.exactly (Term.string "SchemaWorkshop$Lexemes" 33) "java/lang/String").before A s = true ∧ (Cond.eq (.field (Term.string "SchemaWorkshop$Lexemes" 33) "java/lang/String" "coder" "B") (.int 0)).before A s = true ∧ (Cond.arrayOf (Term.field (Term.string "SchemaWorkshop$Lexemes" 33) "java/lang/String" "value" "[B") .byte).before A s = true ∧ (Cond.eq (.length (Term.field (Term.string "SchemaWorkshop$Lexemes" 33) "java/lang/String" "value" "[B")) (.int (Int32.ofNat (sLen 7)))).before A s = true ∧ ∀ j : Nat, j < sLen 7 → (Cond.eq (.elem (Term.field (Term.string "SchemaWorkshop$Lexemes" 33) "java/lang/String" "value" "[B") (.int (Int32.ofNat j))) (.int (Int32.ofInt (sByt 7 j)))).before A s = true := by
  refine ⟨(br (br (bl (bl (br (bl (bl (br (bl (bl h)))))))))), (bl (bl (br (bl (br (bl (bl (br (bl (bl h)))))))))), (br (bl (br (bl (br (bl (bl (br (bl (bl h)))))))))), (bl (br (br (bl (br (bl (bl (br (bl (bl h)))))))))), fun j hj => ?_⟩
  match j, hj with
  | 0, _ => exact (br (br (br (bl (br (bl (bl (br (bl (bl h))))))))))
  | 1, _ => exact (bl (bl (bl (br (br (bl (bl (br (bl (bl h))))))))))
  | 2, _ => exact (br (bl (bl (br (br (bl (bl (br (bl (bl h))))))))))
  | 3, _ => exact (bl (br (bl (br (br (bl (bl (br (bl (bl h))))))))))
  | 4, _ => exact (br (br (bl (br (br (bl (bl (br (bl (bl h))))))))))
  | 5, _ => exact (bl (bl (br (br (br (bl (bl (br (bl (bl h))))))))))
  | 6, _ => exact (br (bl (br (br (br (bl (bl (br (bl (bl h))))))))))
  | 7, _ => exact (bl (br (br (br (br (bl (bl (br (bl (bl h))))))))))
  | 8, _ => exact (bl (br (br (br (br (br (bl (bl (br (bl (bl h)))))))))))
  | j + 9, hj => exact absurd hj (by have : sLen 7 = 9 := rfl; omega)
theorem ns_8 {A : Array Value} {s : State} (h : narrow_1.before A s = true) : (Cond.exactly (Term.string "SchemaWorkshop$Lexemes" 35) "java/lang/String").before A s = true ∧ (Cond.eq (.field (Term.string "SchemaWorkshop$Lexemes" 35) "java/lang/String" "coder" "B") (.int 0)).before A s = true ∧ (Cond.arrayOf (Term.field (Term.string "SchemaWorkshop$Lexemes" 35) "java/lang/String" "value" "[B") .byte).before A s = true ∧ (Cond.eq (.length (Term.field (Term.string "SchemaWorkshop$Lexemes" 35) "java/lang/String" "value" "[B")) (.int (Int32.ofNat (sLen 8)))).before A s = true ∧ ∀ j : Nat, j < sLen 8 → (Cond.eq (.elem (Term.field (Term.string "SchemaWorkshop$Lexemes" 35) "java/lang/String" "value" "[B") (.int (Int32.ofNat j))) (.int (Int32.ofInt (sByt 8 j)))).before A s = true := by
  refine ⟨(br (br (br (br (br (br (bl (bl (br (bl (bl h))))))))))), (bl (bl (bl (bl (bl (br (bl (br (bl (bl h)))))))))), (br (bl (bl (bl (bl (br (bl (br (bl (bl h)))))))))), (bl (br (bl (bl (bl (br (bl (br (bl (bl h)))))))))), fun j hj => ?_⟩
  match j, hj with
  | 0, _ => exact (br (br (bl (bl (bl (br (bl (br (bl (bl h))))))))))
  | 1, _ => exact (bl (bl (br (bl (bl (br (bl (br (bl (bl h))))))))))
  | 2, _ => exact (br (bl (br (bl (bl (br (bl (br (bl (bl h))))))))))
  | 3, _ => exact (bl (br (br (bl (bl (br (bl (br (bl (bl h))))))))))
  | 4, _ => exact (br (br (br (bl (bl (br (bl (br (bl (bl h))))))))))
  | 5, _ => exact (bl (bl (bl (br (bl (br (bl (br (bl (bl h))))))))))
  | 6, _ => exact (br (bl (bl (br (bl (br (bl (br (bl (bl h))))))))))
  | j + 7, hj => exact absurd hj (by have : sLen 8 = 7 := rfl; omega)
theorem ns_9 {A : Array Value} {s : State} (h : narrow_1.before A s = true) : (Cond.exactly (Term.string "SchemaWorkshop$Lexemes" 37) "java/lang/String").before A s = true ∧ (Cond.eq (.field (Term.string "SchemaWorkshop$Lexemes" 37) "java/lang/String" "coder" "B") (.int 0)).before A s = true ∧ (Cond.arrayOf (Term.field (Term.string "SchemaWorkshop$Lexemes" 37) "java/lang/String" "value" "[B") .byte).before A s = true ∧ (Cond.eq (.length (Term.field (Term.string "SchemaWorkshop$Lexemes" 37) "java/lang/String" "value" "[B")) (.int (Int32.ofNat (sLen 9)))).before A s = true ∧ ∀ j : Nat, j < sLen 9 → (Cond.eq (.elem (Term.field (Term.string "SchemaWorkshop$Lexemes" 37) "java/lang/String" "value" "[B") (.int (Int32.ofNat j))) (.int (Int32.ofInt (sByt 9 j)))).before A s = true := by
  refine ⟨(bl (br (bl (br (bl (br (bl (br (bl (bl h)))))))))), (br (br (bl (br (bl (br (bl (br (bl (bl h)))))))))), (bl (bl (br (br (bl (br (bl (br (bl (bl h)))))))))), (br (bl (br (br (bl (br (bl (br (bl (bl h)))))))))), fun j hj => ?_⟩
  match j, hj with
  | 0, _ => exact (bl (br (br (br (bl (br (bl (br (bl (bl h))))))))))
  | 1, _ => exact (br (br (br (br (bl (br (bl (br (bl (bl h))))))))))
  | j + 2, hj => exact absurd hj (by have : sLen 9 = 2 := rfl; omega)
theorem ns_10 {A : Array Value} {s : State} (h : narrow_1.before A s = true) : (Cond.exactly (Term.string "SchemaWorkshop$Lexemes" 39) "java/lang/String").before A s = true ∧ (Cond.eq (.field (Term.string "SchemaWorkshop$Lexemes" 39) "java/lang/String" "coder" "B") (.int 0)).before A s = true ∧ (Cond.arrayOf (Term.field (Term.string "SchemaWorkshop$Lexemes" 39) "java/lang/String" "value" "[B") .byte).before A s = true ∧ (Cond.eq (.length (Term.field (Term.string "SchemaWorkshop$Lexemes" 39) "java/lang/String" "value" "[B")) (.int (Int32.ofNat (sLen 10)))).before A s = true ∧ ∀ j : Nat, j < sLen 10 → (Cond.eq (.elem (Term.field (Term.string "SchemaWorkshop$Lexemes" 39) "java/lang/String" "value" "[B") (.int (Int32.ofNat j))) (.int (Int32.ofInt (sByt 10 j)))).before A s = true := by
  refine ⟨(bl (bl (bl (bl (br (br (bl (br (bl (bl h)))))))))), (br (bl (bl (bl (br (br (bl (br (bl (bl h)))))))))), (bl (br (bl (bl (br (br (bl (br (bl (bl h)))))))))), (br (br (bl (bl (br (br (bl (br (bl (bl h)))))))))), fun j hj => ?_⟩
  match j, hj with
  | 0, _ => exact (bl (bl (br (bl (br (br (bl (br (bl (bl h))))))))))
  | 1, _ => exact (br (bl (br (bl (br (br (bl (br (bl (bl h))))))))))
  | 2, _ => exact (bl (br (br (bl (br (br (bl (br (bl (bl h))))))))))
  | 3, _ => exact (br (br (br (bl (br (br (bl (br (bl (bl h))))))))))
  | 4, _ => exact (bl (bl (bl (br (br (br (bl (br (bl (bl h))))))))))
  | 5, _ => exact (br (bl (bl (br (br (br (bl (br (bl (bl h))))))))))
  | 6, _ => exact (bl (br (bl (br (br (br (bl (br (bl (bl h))))))))))
  | 7, _ => exact (br (br (bl (br (br (br (bl (br (bl (bl h))))))))))
  | 8, _ => exact (bl (bl (br (br (br (br (bl (br (bl (bl h))))))))))
  | j + 9, hj => exact absurd hj (by have : sLen 10 = 9 := rfl; omega)
theorem ns_11 {A : Array Value} {s : State} (h : narrow_1.before A s = true) : (Cond.exactly (Term.string "SchemaWorkshop$Lexemes" 41) "java/lang/String").before A s = true ∧ (Cond.eq (.field (Term.string "SchemaWorkshop$Lexemes" 41) "java/lang/String" "coder" "B") (.int 0)).before A s = true ∧ (Cond.arrayOf (Term.field (Term.string "SchemaWorkshop$Lexemes" 41) "java/lang/String" "value" "[B") .byte).before A s = true ∧ (Cond.eq (.length (Term.field (Term.string "SchemaWorkshop$Lexemes" 41) "java/lang/String" "value" "[B")) (.int (Int32.ofNat (sLen 11)))).before A s = true ∧ ∀ j : Nat, j < sLen 11 → (Cond.eq (.elem (Term.field (Term.string "SchemaWorkshop$Lexemes" 41) "java/lang/String" "value" "[B") (.int (Int32.ofNat j))) (.int (Int32.ofInt (sByt 11 j)))).before A s = true := by
  refine ⟨(br (bl (br (br (br (br (bl (br (bl (bl h)))))))))), (bl (br (br (br (br (br (bl (br (bl (bl h)))))))))), (bl (br (br (br (br (br (br (bl (br (bl (bl h))))))))))), (br (br (br (br (br (br (br (bl (br (bl (bl h))))))))))), fun j hj => ?_⟩
  match j, hj with
  | 0, _ => exact (bl (bl (bl (bl (bl (bl (br (br (bl (bl h))))))))))
  | 1, _ => exact (br (bl (bl (bl (bl (bl (br (br (bl (bl h))))))))))
  | 2, _ => exact (bl (br (bl (bl (bl (bl (br (br (bl (bl h))))))))))
  | 3, _ => exact (br (br (bl (bl (bl (bl (br (br (bl (bl h))))))))))
  | 4, _ => exact (bl (bl (br (bl (bl (bl (br (br (bl (bl h))))))))))
  | 5, _ => exact (br (bl (br (bl (bl (bl (br (br (bl (bl h))))))))))
  | j + 6, hj => exact absurd hj (by have : sLen 11 = 6 := rfl; omega)
theorem ns_12 {A : Array Value} {s : State} (h : narrow_1.before A s = true) : (Cond.exactly (Term.string "SchemaWorkshop$Lexemes" 43) "java/lang/String").before A s = true ∧ (Cond.eq (.field (Term.string "SchemaWorkshop$Lexemes" 43) "java/lang/String" "coder" "B") (.int 0)).before A s = true ∧ (Cond.arrayOf (Term.field (Term.string "SchemaWorkshop$Lexemes" 43) "java/lang/String" "value" "[B") .byte).before A s = true ∧ (Cond.eq (.length (Term.field (Term.string "SchemaWorkshop$Lexemes" 43) "java/lang/String" "value" "[B")) (.int (Int32.ofNat (sLen 12)))).before A s = true ∧ ∀ j : Nat, j < sLen 12 → (Cond.eq (.elem (Term.field (Term.string "SchemaWorkshop$Lexemes" 43) "java/lang/String" "value" "[B") (.int (Int32.ofNat j))) (.int (Int32.ofInt (sByt 12 j)))).before A s = true := by
  refine ⟨(bl (br (br (bl (bl (bl (br (br (bl (bl h)))))))))), (br (br (br (bl (bl (bl (br (br (bl (bl h)))))))))), (bl (bl (bl (br (bl (bl (br (br (bl (bl h)))))))))), (br (bl (bl (br (bl (bl (br (br (bl (bl h)))))))))), fun j hj => ?_⟩
  match j, hj with
  | 0, _ => exact (bl (br (bl (br (bl (bl (br (br (bl (bl h))))))))))
  | 1, _ => exact (br (br (bl (br (bl (bl (br (br (bl (bl h))))))))))
  | 2, _ => exact (bl (bl (br (br (bl (bl (br (br (bl (bl h))))))))))
  | 3, _ => exact (br (bl (br (br (bl (bl (br (br (bl (bl h))))))))))
  | 4, _ => exact (bl (br (br (br (bl (bl (br (br (bl (bl h))))))))))
  | j + 5, hj => exact absurd hj (by have : sLen 12 = 5 := rfl; omega)
theorem ns_13 {A : Array Value} {s : State} (h : narrow_1.before A s = true) : (Cond.exactly (Term.string "SchemaWorkshop$Lexemes" 45) "java/lang/String").before A s = true ∧ (Cond.eq (.field (Term.string "SchemaWorkshop$Lexemes" 45) "java/lang/String" "coder" "B") (.int 0)).before A s = true ∧ (Cond.arrayOf (Term.field (Term.string "SchemaWorkshop$Lexemes" 45) "java/lang/String" "value" "[B") .byte).before A s = true ∧ (Cond.eq (.length (Term.field (Term.string "SchemaWorkshop$Lexemes" 45) "java/lang/String" "value" "[B")) (.int (Int32.ofNat (sLen 13)))).before A s = true ∧ ∀ j : Nat, j < sLen 13 → (Cond.eq (.elem (Term.field (Term.string "SchemaWorkshop$Lexemes" 45) "java/lang/String" "value" "[B") (.int (Int32.ofNat j))) (.int (Int32.ofInt (sByt 13 j)))).before A s = true := by
  refine ⟨(br (br (br (br (bl (bl (br (br (bl (bl h)))))))))), (bl (bl (bl (bl (br (bl (br (br (bl (bl h)))))))))), (br (bl (bl (bl (br (bl (br (br (bl (bl h)))))))))), (bl (br (bl (bl (br (bl (br (br (bl (bl h)))))))))), fun j hj => ?_⟩
  match j, hj with
  | 0, _ => exact (br (br (bl (bl (br (bl (br (br (bl (bl h))))))))))
  | 1, _ => exact (bl (bl (br (bl (br (bl (br (br (bl (bl h))))))))))
  | 2, _ => exact (br (bl (br (bl (br (bl (br (br (bl (bl h))))))))))
  | 3, _ => exact (bl (br (br (bl (br (bl (br (br (bl (bl h))))))))))
  | 4, _ => exact (br (br (br (bl (br (bl (br (br (bl (bl h))))))))))
  | 5, _ => exact (bl (bl (bl (br (br (bl (br (br (bl (bl h))))))))))
  | 6, _ => exact (br (bl (bl (br (br (bl (br (br (bl (bl h))))))))))
  | 7, _ => exact (bl (br (bl (br (br (bl (br (br (bl (bl h))))))))))
  | 8, _ => exact (br (br (bl (br (br (bl (br (br (bl (bl h))))))))))
  | j + 9, hj => exact absurd hj (by have : sLen 13 = 9 := rfl; omega)
theorem ns_14 {A : Array Value} {s : State} (h : narrow_1.before A s = true) : (Cond.exactly (Term.string "SchemaWorkshop$Lexemes" 47) "java/lang/String").before A s = true ∧ (Cond.eq (.field (Term.string "SchemaWorkshop$Lexemes" 47) "java/lang/String" "coder" "B") (.int 0)).before A s = true ∧ (Cond.arrayOf (Term.field (Term.string "SchemaWorkshop$Lexemes" 47) "java/lang/String" "value" "[B") .byte).before A s = true ∧ (Cond.eq (.length (Term.field (Term.string "SchemaWorkshop$Lexemes" 47) "java/lang/String" "value" "[B")) (.int (Int32.ofNat (sLen 14)))).before A s = true ∧ ∀ j : Nat, j < sLen 14 → (Cond.eq (.elem (Term.field (Term.string "SchemaWorkshop$Lexemes" 47) "java/lang/String" "value" "[B") (.int (Int32.ofNat j))) (.int (Int32.ofInt (sByt 14 j)))).before A s = true := by
  refine ⟨(bl (bl (br (br (br (bl (br (br (bl (bl h)))))))))), (br (bl (br (br (br (bl (br (br (bl (bl h)))))))))), (bl (br (br (br (br (bl (br (br (bl (bl h)))))))))), (bl (br (br (br (br (br (bl (br (br (bl (bl h))))))))))), fun j hj => ?_⟩
  match j, hj with
  | 0, _ => exact (br (br (br (br (br (br (bl (br (br (bl (bl h)))))))))))
  | 1, _ => exact (bl (bl (bl (bl (bl (br (br (br (bl (bl h))))))))))
  | 2, _ => exact (br (bl (bl (bl (bl (br (br (br (bl (bl h))))))))))
  | 3, _ => exact (bl (br (bl (bl (bl (br (br (br (bl (bl h))))))))))
  | 4, _ => exact (br (br (bl (bl (bl (br (br (br (bl (bl h))))))))))
  | 5, _ => exact (bl (bl (br (bl (bl (br (br (br (bl (bl h))))))))))
  | 6, _ => exact (br (bl (br (bl (bl (br (br (br (bl (bl h))))))))))
  | 7, _ => exact (bl (br (br (bl (bl (br (br (br (bl (bl h))))))))))
  | 8, _ => exact (br (br (br (bl (bl (br (br (br (bl (bl h))))))))))
  | 9, _ => exact (bl (bl (bl (br (bl (br (br (br (bl (bl h))))))))))
  | j + 10, hj => exact absurd hj (by have : sLen 14 = 10 := rfl; omega)
theorem ns_15 {A : Array Value} {s : State} (h : narrow_1.before A s = true) : (Cond.exactly (Term.string "SchemaWorkshop$Lexemes" 49) "java/lang/String").before A s = true ∧ (Cond.eq (.field (Term.string "SchemaWorkshop$Lexemes" 49) "java/lang/String" "coder" "B") (.int 0)).before A s = true ∧ (Cond.arrayOf (Term.field (Term.string "SchemaWorkshop$Lexemes" 49) "java/lang/String" "value" "[B") .byte).before A s = true ∧ (Cond.eq (.length (Term.field (Term.string "SchemaWorkshop$Lexemes" 49) "java/lang/String" "value" "[B")) (.int (Int32.ofNat (sLen 15)))).before A s = true ∧ ∀ j : Nat, j < sLen 15 → (Cond.eq (.elem (Term.field (Term.string "SchemaWorkshop$Lexemes" 49) "java/lang/String" "value" "[B") (.int (Int32.ofNat j))) (.int (Int32.ofInt (sByt 15 j)))).before A s = true := by
  refine ⟨(br (bl (bl (br (bl (br (br (br (bl (bl h)))))))))), (bl (br (bl (br (bl (br (br (br (bl (bl h)))))))))), (br (br (bl (br (bl (br (br (br (bl (bl h)))))))))), (bl (bl (br (br (bl (br (br (br (bl (bl h)))))))))), fun j hj => ?_⟩
  match j, hj with
  | 0, _ => exact (br (bl (br (br (bl (br (br (br (bl (bl h))))))))))
  | 1, _ => exact (bl (br (br (br (bl (br (br (br (bl (bl h))))))))))
  | 2, _ => exact (bl (br (br (br (br (bl (br (br (br (bl (bl h)))))))))))
  | 3, _ => exact (br (br (br (br (br (bl (br (br (br (bl (bl h)))))))))))
  | 4, _ => exact (bl (bl (bl (bl (br (br (br (br (bl (bl h))))))))))
  | 5, _ => exact (br (bl (bl (bl (br (br (br (br (bl (bl h))))))))))
  | 6, _ => exact (bl (br (bl (bl (br (br (br (br (bl (bl h))))))))))
  | 7, _ => exact (br (br (bl (bl (br (br (br (br (bl (bl h))))))))))
  | 8, _ => exact (bl (bl (br (bl (br (br (br (br (bl (bl h))))))))))
  | 9, _ => exact (br (bl (br (bl (br (br (br (br (bl (bl h))))))))))
  | 10, _ => exact (bl (br (br (bl (br (br (br (br (bl (bl h))))))))))
  | j + 11, hj => exact absurd hj (by have : sLen 15 = 11 := rfl; omega)
theorem ns_16 {A : Array Value} {s : State} (h : narrow_1.before A s = true) : (Cond.exactly (Term.string "SchemaWorkshop$Lexemes" 51) "java/lang/String").before A s = true ∧ (Cond.eq (.field (Term.string "SchemaWorkshop$Lexemes" 51) "java/lang/String" "coder" "B") (.int 0)).before A s = true ∧ (Cond.arrayOf (Term.field (Term.string "SchemaWorkshop$Lexemes" 51) "java/lang/String" "value" "[B") .byte).before A s = true ∧ (Cond.eq (.length (Term.field (Term.string "SchemaWorkshop$Lexemes" 51) "java/lang/String" "value" "[B")) (.int (Int32.ofNat (sLen 16)))).before A s = true ∧ ∀ j : Nat, j < sLen 16 → (Cond.eq (.elem (Term.field (Term.string "SchemaWorkshop$Lexemes" 51) "java/lang/String" "value" "[B") (.int (Int32.ofNat j))) (.int (Int32.ofInt (sByt 16 j)))).before A s = true := by
  refine ⟨(br (br (br (bl (br (br (br (br (bl (bl h)))))))))), (bl (bl (bl (br (br (br (br (br (bl (bl h)))))))))), (br (bl (bl (br (br (br (br (br (bl (bl h)))))))))), (bl (br (bl (br (br (br (br (br (bl (bl h)))))))))), fun j hj => ?_⟩
  match j, hj with
  | 0, _ => exact (br (br (bl (br (br (br (br (br (bl (bl h))))))))))
  | 1, _ => exact (bl (bl (br (br (br (br (br (br (bl (bl h))))))))))
  | 2, _ => exact (br (bl (br (br (br (br (br (br (bl (bl h))))))))))
  | 3, _ => exact (bl (br (br (br (br (br (br (br (bl (bl h))))))))))
  | 4, _ => exact (bl (br (br (br (br (br (br (br (br (bl (bl h)))))))))))
  | 5, _ => exact (br (br (br (br (br (br (br (br (br (bl (bl h)))))))))))
  | 6, _ => exact (bl (bl (bl (bl (bl (bl (bl (bl (br (bl h))))))))))
  | j + 7, hj => exact absurd hj (by have : sLen 16 = 7 := rfl; omega)
theorem ns_17 {A : Array Value} {s : State} (h : narrow_1.before A s = true) : (Cond.exactly (Term.string "SchemaWorkshop$Lexemes" 53) "java/lang/String").before A s = true ∧ (Cond.eq (.field (Term.string "SchemaWorkshop$Lexemes" 53) "java/lang/String" "coder" "B") (.int 0)).before A s = true ∧ (Cond.arrayOf (Term.field (Term.string "SchemaWorkshop$Lexemes" 53) "java/lang/String" "value" "[B") .byte).before A s = true ∧ (Cond.eq (.length (Term.field (Term.string "SchemaWorkshop$Lexemes" 53) "java/lang/String" "value" "[B")) (.int (Int32.ofNat (sLen 17)))).before A s = true ∧ ∀ j : Nat, j < sLen 17 → (Cond.eq (.elem (Term.field (Term.string "SchemaWorkshop$Lexemes" 53) "java/lang/String" "value" "[B") (.int (Int32.ofNat j))) (.int (Int32.ofInt (sByt 17 j)))).before A s = true := by
  refine ⟨(br (bl (bl (bl (bl (bl (bl (bl (br (bl h)))))))))), (bl (br (bl (bl (bl (bl (bl (bl (br (bl h)))))))))), (br (br (bl (bl (bl (bl (bl (bl (br (bl h)))))))))), (bl (bl (br (bl (bl (bl (bl (bl (br (bl h)))))))))), fun j hj => ?_⟩
  match j, hj with
  | 0, _ => exact (br (bl (br (bl (bl (bl (bl (bl (br (bl h))))))))))
  | 1, _ => exact (bl (br (br (bl (bl (bl (bl (bl (br (bl h))))))))))
  | 2, _ => exact (br (br (br (bl (bl (bl (bl (bl (br (bl h))))))))))
  | 3, _ => exact (bl (bl (bl (br (bl (bl (bl (bl (br (bl h))))))))))
  | 4, _ => exact (br (bl (bl (br (bl (bl (bl (bl (br (bl h))))))))))
  | 5, _ => exact (bl (br (bl (br (bl (bl (bl (bl (br (bl h))))))))))
  | 6, _ => exact (br (br (bl (br (bl (bl (bl (bl (br (bl h))))))))))
  | j + 7, hj => exact absurd hj (by have : sLen 17 = 7 := rfl; omega)
theorem ns_18 {A : Array Value} {s : State} (h : narrow_1.before A s = true) : (Cond.exactly (Term.string "SchemaWorkshop$Lexemes" 55) "java/lang/String").before A s = true ∧ (Cond.eq (.field (Term.string "SchemaWorkshop$Lexemes" 55) "java/lang/String" "coder" "B") (.int 0)).before A s = true ∧ (Cond.arrayOf (Term.field (Term.string "SchemaWorkshop$Lexemes" 55) "java/lang/String" "value" "[B") .byte).before A s = true ∧ (Cond.eq (.length (Term.field (Term.string "SchemaWorkshop$Lexemes" 55) "java/lang/String" "value" "[B")) (.int (Int32.ofNat (sLen 18)))).before A s = true ∧ ∀ j : Nat, j < sLen 18 → (Cond.eq (.elem (Term.field (Term.string "SchemaWorkshop$Lexemes" 55) "java/lang/String" "value" "[B") (.int (Int32.ofNat j))) (.int (Int32.ofInt (sByt 18 j)))).before A s = true := by
  refine ⟨(bl (bl (br (br (bl (bl (bl (bl (br (bl h)))))))))), (br (bl (br (br (bl (bl (bl (bl (br (bl h)))))))))), (bl (br (br (br (bl (bl (bl (bl (br (bl h)))))))))), (br (br (br (br (bl (bl (bl (bl (br (bl h)))))))))), fun j hj => ?_⟩
  match j, hj with
  | 0, _ => exact (bl (bl (bl (bl (br (bl (bl (bl (br (bl h))))))))))
  | 1, _ => exact (br (bl (bl (bl (br (bl (bl (bl (br (bl h))))))))))
  | 2, _ => exact (bl (br (bl (bl (br (bl (bl (bl (br (bl h))))))))))
  | 3, _ => exact (br (br (bl (bl (br (bl (bl (bl (br (bl h))))))))))
  | 4, _ => exact (bl (bl (br (bl (br (bl (bl (bl (br (bl h))))))))))
  | 5, _ => exact (br (bl (br (bl (br (bl (bl (bl (br (bl h))))))))))
  | 6, _ => exact (bl (br (br (bl (br (bl (bl (bl (br (bl h))))))))))
  | 7, _ => exact (br (br (br (bl (br (bl (bl (bl (br (bl h))))))))))
  | 8, _ => exact (bl (bl (bl (br (br (bl (bl (bl (br (bl h))))))))))
  | 9, _ => exact (br (bl (bl (br (br (bl (bl (bl (br (bl h))))))))))
  | 10, _ => exact (bl (br (bl (br (br (bl (bl (bl (br (bl h))))))))))
  | j + 11, hj => exact absurd hj (by have : sLen 18 = 11 := rfl; omega)
theorem ns_19 {A : Array Value} {s : State} (h : narrow_1.before A s = true) : (Cond.exactly (Term.string "SchemaWorkshop$Lexemes" 57) "java/lang/String").before A s = true ∧ (Cond.eq (.field (Term.string "SchemaWorkshop$Lexemes" 57) "java/lang/String" "coder" "B") (.int 0)).before A s = true ∧ (Cond.arrayOf (Term.field (Term.string "SchemaWorkshop$Lexemes" 57) "java/lang/String" "value" "[B") .byte).before A s = true ∧ (Cond.eq (.length (Term.field (Term.string "SchemaWorkshop$Lexemes" 57) "java/lang/String" "value" "[B")) (.int (Int32.ofNat (sLen 19)))).before A s = true ∧ ∀ j : Nat, j < sLen 19 → (Cond.eq (.elem (Term.field (Term.string "SchemaWorkshop$Lexemes" 57) "java/lang/String" "value" "[B") (.int (Int32.ofNat j))) (.int (Int32.ofInt (sByt 19 j)))).before A s = true := by
  refine ⟨(br (br (bl (br (br (bl (bl (bl (br (bl h)))))))))), (bl (bl (br (br (br (bl (bl (bl (br (bl h)))))))))), (br (bl (br (br (br (bl (bl (bl (br (bl h)))))))))), (bl (br (br (br (br (bl (bl (bl (br (bl h)))))))))), fun j hj => ?_⟩
  match j, hj with
  | 0, _ => exact (bl (br (br (br (br (br (bl (bl (bl (br (bl h)))))))))))
  | 1, _ => exact (br (br (br (br (br (br (bl (bl (bl (br (bl h)))))))))))
  | 2, _ => exact (bl (bl (bl (bl (bl (br (bl (bl (br (bl h))))))))))
  | 3, _ => exact (br (bl (bl (bl (bl (br (bl (bl (br (bl h))))))))))
  | 4, _ => exact (bl (br (bl (bl (bl (br (bl (bl (br (bl h))))))))))
  | 5, _ => exact (br (br (bl (bl (bl (br (bl (bl (br (bl h))))))))))
  | 6, _ => exact (bl (bl (br (bl (bl (br (bl (bl (br (bl h))))))))))
  | 7, _ => exact (br (bl (br (bl (bl (br (bl (bl (br (bl h))))))))))
  | j + 8, hj => exact absurd hj (by have : sLen 19 = 8 := rfl; omega)
theorem ns_20 {A : Array Value} {s : State} (h : narrow_1.before A s = true) : (Cond.exactly (Term.string "SchemaWorkshop$Lexemes" 59) "java/lang/String").before A s = true ∧ (Cond.eq (.field (Term.string "SchemaWorkshop$Lexemes" 59) "java/lang/String" "coder" "B") (.int 0)).before A s = true ∧ (Cond.arrayOf (Term.field (Term.string "SchemaWorkshop$Lexemes" 59) "java/lang/String" "value" "[B") .byte).before A s = true ∧ (Cond.eq (.length (Term.field (Term.string "SchemaWorkshop$Lexemes" 59) "java/lang/String" "value" "[B")) (.int (Int32.ofNat (sLen 20)))).before A s = true ∧ ∀ j : Nat, j < sLen 20 → (Cond.eq (.elem (Term.field (Term.string "SchemaWorkshop$Lexemes" 59) "java/lang/String" "value" "[B") (.int (Int32.ofNat j))) (.int (Int32.ofInt (sByt 20 j)))).before A s = true := by
  refine ⟨(bl (br (br (bl (bl (br (bl (bl (br (bl h)))))))))), (br (br (br (bl (bl (br (bl (bl (br (bl h)))))))))), (bl (bl (bl (br (bl (br (bl (bl (br (bl h)))))))))), (br (bl (bl (br (bl (br (bl (bl (br (bl h)))))))))), fun j hj => ?_⟩
  match j, hj with
  | 0, _ => exact (bl (br (bl (br (bl (br (bl (bl (br (bl h))))))))))
  | 1, _ => exact (br (br (bl (br (bl (br (bl (bl (br (bl h))))))))))
  | 2, _ => exact (bl (bl (br (br (bl (br (bl (bl (br (bl h))))))))))
  | j + 3, hj => exact absurd hj (by have : sLen 20 = 3 := rfl; omega)
theorem ns_21 {A : Array Value} {s : State} (h : narrow_1.before A s = true) : (Cond.exactly (Term.string "SchemaWorkshop$Lexemes" 61) "java/lang/String").before A s = true ∧ (Cond.eq (.field (Term.string "SchemaWorkshop$Lexemes" 61) "java/lang/String" "coder" "B") (.int 0)).before A s = true ∧ (Cond.arrayOf (Term.field (Term.string "SchemaWorkshop$Lexemes" 61) "java/lang/String" "value" "[B") .byte).before A s = true ∧ (Cond.eq (.length (Term.field (Term.string "SchemaWorkshop$Lexemes" 61) "java/lang/String" "value" "[B")) (.int (Int32.ofNat (sLen 21)))).before A s = true ∧ ∀ j : Nat, j < sLen 21 → (Cond.eq (.elem (Term.field (Term.string "SchemaWorkshop$Lexemes" 61) "java/lang/String" "value" "[B") (.int (Int32.ofNat j))) (.int (Int32.ofInt (sByt 21 j)))).before A s = true := by
  refine ⟨(br (bl (br (br (bl (br (bl (bl (br (bl h)))))))))), (bl (br (br (br (bl (br (bl (bl (br (bl h)))))))))), (br (br (br (br (bl (br (bl (bl (br (bl h)))))))))), (bl (bl (bl (bl (br (br (bl (bl (br (bl h)))))))))), fun j hj => ?_⟩
  match j, hj with
  | 0, _ => exact (br (bl (bl (bl (br (br (bl (bl (br (bl h))))))))))
  | 1, _ => exact (bl (br (bl (bl (br (br (bl (bl (br (bl h))))))))))
  | 2, _ => exact (br (br (bl (bl (br (br (bl (bl (br (bl h))))))))))
  | 3, _ => exact (bl (bl (br (bl (br (br (bl (bl (br (bl h))))))))))
  | 4, _ => exact (br (bl (br (bl (br (br (bl (bl (br (bl h))))))))))
  | 5, _ => exact (bl (br (br (bl (br (br (bl (bl (br (bl h))))))))))
  | 6, _ => exact (br (br (br (bl (br (br (bl (bl (br (bl h))))))))))
  | 7, _ => exact (bl (bl (bl (br (br (br (bl (bl (br (bl h))))))))))
  | 8, _ => exact (br (bl (bl (br (br (br (bl (bl (br (bl h))))))))))
  | 9, _ => exact (bl (br (bl (br (br (br (bl (bl (br (bl h))))))))))
  | j + 10, hj => exact absurd hj (by have : sLen 21 = 10 := rfl; omega)
theorem ns_22 {A : Array Value} {s : State} (h : narrow_1.before A s = true) : (Cond.exactly (Term.string "SchemaWorkshop$Lexemes" 63) "java/lang/String").before A s = true ∧ (Cond.eq (.field (Term.string "SchemaWorkshop$Lexemes" 63) "java/lang/String" "coder" "B") (.int 0)).before A s = true ∧ (Cond.arrayOf (Term.field (Term.string "SchemaWorkshop$Lexemes" 63) "java/lang/String" "value" "[B") .byte).before A s = true ∧ (Cond.eq (.length (Term.field (Term.string "SchemaWorkshop$Lexemes" 63) "java/lang/String" "value" "[B")) (.int (Int32.ofNat (sLen 22)))).before A s = true ∧ ∀ j : Nat, j < sLen 22 → (Cond.eq (.elem (Term.field (Term.string "SchemaWorkshop$Lexemes" 63) "java/lang/String" "value" "[B") (.int (Int32.ofNat j))) (.int (Int32.ofInt (sByt 22 j)))).before A s = true := by
  refine ⟨(br (br (bl (br (br (br (bl (bl (br (bl h)))))))))), (bl (bl (br (br (br (br (bl (bl (br (bl h)))))))))), (br (bl (br (br (br (br (bl (bl (br (bl h)))))))))), (bl (br (br (br (br (br (bl (bl (br (bl h)))))))))), fun j hj => ?_⟩
  match j, hj with
  | 0, _ => exact (bl (br (br (br (br (br (br (bl (bl (br (bl h)))))))))))
  | 1, _ => exact (br (br (br (br (br (br (br (bl (bl (br (bl h)))))))))))
  | 2, _ => exact (bl (bl (bl (bl (bl (bl (br (bl (br (bl h))))))))))
  | 3, _ => exact (br (bl (bl (bl (bl (bl (br (bl (br (bl h))))))))))
  | 4, _ => exact (bl (br (bl (bl (bl (bl (br (bl (br (bl h))))))))))
  | 5, _ => exact (br (br (bl (bl (bl (bl (br (bl (br (bl h))))))))))
  | j + 6, hj => exact absurd hj (by have : sLen 22 = 6 := rfl; omega)
theorem ns_23 {A : Array Value} {s : State} (h : narrow_1.before A s = true) : (Cond.exactly (Term.string "SchemaWorkshop$Lexemes" 65) "java/lang/String").before A s = true ∧ (Cond.eq (.field (Term.string "SchemaWorkshop$Lexemes" 65) "java/lang/String" "coder" "B") (.int 0)).before A s = true ∧ (Cond.arrayOf (Term.field (Term.string "SchemaWorkshop$Lexemes" 65) "java/lang/String" "value" "[B") .byte).before A s = true ∧ (Cond.eq (.length (Term.field (Term.string "SchemaWorkshop$Lexemes" 65) "java/lang/String" "value" "[B")) (.int (Int32.ofNat (sLen 23)))).before A s = true ∧ ∀ j : Nat, j < sLen 23 → (Cond.eq (.elem (Term.field (Term.string "SchemaWorkshop$Lexemes" 65) "java/lang/String" "value" "[B") (.int (Int32.ofNat j))) (.int (Int32.ofInt (sByt 23 j)))).before A s = true := by
  refine ⟨(bl (bl (br (bl (bl (bl (br (bl (br (bl h)))))))))), (br (bl (br (bl (bl (bl (br (bl (br (bl h)))))))))), (bl (br (br (bl (bl (bl (br (bl (br (bl h)))))))))), (br (br (br (bl (bl (bl (br (bl (br (bl h)))))))))), fun j hj => ?_⟩
  match j, hj with
  | 0, _ => exact (bl (bl (bl (br (bl (bl (br (bl (br (bl h))))))))))
  | 1, _ => exact (br (bl (bl (br (bl (bl (br (bl (br (bl h))))))))))
  | 2, _ => exact (bl (br (bl (br (bl (bl (br (bl (br (bl h))))))))))
  | 3, _ => exact (br (br (bl (br (bl (bl (br (bl (br (bl h))))))))))
  | 4, _ => exact (bl (bl (br (br (bl (bl (br (bl (br (bl h))))))))))
  | 5, _ => exact (br (bl (br (br (bl (bl (br (bl (br (bl h))))))))))
  | 6, _ => exact (bl (br (br (br (bl (bl (br (bl (br (bl h))))))))))
  | 7, _ => exact (br (br (br (br (bl (bl (br (bl (br (bl h))))))))))
  | j + 8, hj => exact absurd hj (by have : sLen 23 = 8 := rfl; omega)
theorem ns_24 {A : Array Value} {s : State} (h : narrow_1.before A s = true) : (Cond.exactly (Term.string "SchemaWorkshop$Lexemes" 67) "java/lang/String").before A s = true ∧ (Cond.eq (.field (Term.string "SchemaWorkshop$Lexemes" 67) "java/lang/String" "coder" "B") (.int 0)).before A s = true ∧ (Cond.arrayOf (Term.field (Term.string "SchemaWorkshop$Lexemes" 67) "java/lang/String" "value" "[B") .byte).before A s = true ∧ (Cond.eq (.length (Term.field (Term.string "SchemaWorkshop$Lexemes" 67) "java/lang/String" "value" "[B")) (.int (Int32.ofNat (sLen 24)))).before A s = true ∧ ∀ j : Nat, j < sLen 24 → (Cond.eq (.elem (Term.field (Term.string "SchemaWorkshop$Lexemes" 67) "java/lang/String" "value" "[B") (.int (Int32.ofNat j))) (.int (Int32.ofInt (sByt 24 j)))).before A s = true := by
  refine ⟨(bl (bl (bl (bl (br (bl (br (bl (br (bl h)))))))))), (br (bl (bl (bl (br (bl (br (bl (br (bl h)))))))))), (bl (br (bl (bl (br (bl (br (bl (br (bl h)))))))))), (br (br (bl (bl (br (bl (br (bl (br (bl h)))))))))), fun j hj => ?_⟩
  match j, hj with
  | 0, _ => exact (bl (bl (br (bl (br (bl (br (bl (br (bl h))))))))))
  | 1, _ => exact (br (bl (br (bl (br (bl (br (bl (br (bl h))))))))))
  | 2, _ => exact (bl (br (br (bl (br (bl (br (bl (br (bl h))))))))))
  | 3, _ => exact (br (br (br (bl (br (bl (br (bl (br (bl h))))))))))
  | 4, _ => exact (bl (bl (bl (br (br (bl (br (bl (br (bl h))))))))))
  | 5, _ => exact (br (bl (bl (br (br (bl (br (bl (br (bl h))))))))))
  | 6, _ => exact (bl (br (bl (br (br (bl (br (bl (br (bl h))))))))))
  | j + 7, hj => exact absurd hj (by have : sLen 24 = 7 := rfl; omega)
theorem ns_25 {A : Array Value} {s : State} (h : narrow_1.before A s = true) : (Cond.exactly (Term.string "SchemaWorkshop$Lexemes" 69) "java/lang/String").before A s = true ∧ (Cond.eq (.field (Term.string "SchemaWorkshop$Lexemes" 69) "java/lang/String" "coder" "B") (.int 0)).before A s = true ∧ (Cond.arrayOf (Term.field (Term.string "SchemaWorkshop$Lexemes" 69) "java/lang/String" "value" "[B") .byte).before A s = true ∧ (Cond.eq (.length (Term.field (Term.string "SchemaWorkshop$Lexemes" 69) "java/lang/String" "value" "[B")) (.int (Int32.ofNat (sLen 25)))).before A s = true ∧ ∀ j : Nat, j < sLen 25 → (Cond.eq (.elem (Term.field (Term.string "SchemaWorkshop$Lexemes" 69) "java/lang/String" "value" "[B") (.int (Int32.ofNat j))) (.int (Int32.ofInt (sByt 25 j)))).before A s = true := by
  refine ⟨(br (br (bl (br (br (bl (br (bl (br (bl h)))))))))), (bl (bl (br (br (br (bl (br (bl (br (bl h)))))))))), (br (bl (br (br (br (bl (br (bl (br (bl h)))))))))), (bl (br (br (br (br (bl (br (bl (br (bl h)))))))))), fun j hj => ?_⟩
  match j, hj with
  | 0, _ => exact (bl (br (br (br (br (br (bl (br (bl (br (bl h)))))))))))
  | 1, _ => exact (br (br (br (br (br (br (bl (br (bl (br (bl h)))))))))))
  | 2, _ => exact (bl (bl (bl (bl (bl (br (br (bl (br (bl h))))))))))
  | 3, _ => exact (br (bl (bl (bl (bl (br (br (bl (br (bl h))))))))))
  | 4, _ => exact (bl (br (bl (bl (bl (br (br (bl (br (bl h))))))))))
  | 5, _ => exact (br (br (bl (bl (bl (br (br (bl (br (bl h))))))))))
  | 6, _ => exact (bl (bl (br (bl (bl (br (br (bl (br (bl h))))))))))
  | 7, _ => exact (br (bl (br (bl (bl (br (br (bl (br (bl h))))))))))
  | 8, _ => exact (bl (br (br (bl (bl (br (br (bl (br (bl h))))))))))
  | 9, _ => exact (br (br (br (bl (bl (br (br (bl (br (bl h))))))))))
  | 10, _ => exact (bl (bl (bl (br (bl (br (br (bl (br (bl h))))))))))
  | 11, _ => exact (br (bl (bl (br (bl (br (br (bl (br (bl h))))))))))
  | 12, _ => exact (bl (br (bl (br (bl (br (br (bl (br (bl h))))))))))
  | j + 13, hj => exact absurd hj (by have : sLen 25 = 13 := rfl; omega)
theorem ns_26 {A : Array Value} {s : State} (h : narrow_1.before A s = true) : (Cond.exactly (Term.string "SchemaWorkshop$Lexemes" 71) "java/lang/String").before A s = true ∧ (Cond.eq (.field (Term.string "SchemaWorkshop$Lexemes" 71) "java/lang/String" "coder" "B") (.int 0)).before A s = true ∧ (Cond.arrayOf (Term.field (Term.string "SchemaWorkshop$Lexemes" 71) "java/lang/String" "value" "[B") .byte).before A s = true ∧ (Cond.eq (.length (Term.field (Term.string "SchemaWorkshop$Lexemes" 71) "java/lang/String" "value" "[B")) (.int (Int32.ofNat (sLen 26)))).before A s = true ∧ ∀ j : Nat, j < sLen 26 → (Cond.eq (.elem (Term.field (Term.string "SchemaWorkshop$Lexemes" 71) "java/lang/String" "value" "[B") (.int (Int32.ofNat j))) (.int (Int32.ofInt (sByt 26 j)))).before A s = true := by
  refine ⟨(br (br (bl (br (bl (br (br (bl (br (bl h)))))))))), (bl (bl (br (br (bl (br (br (bl (br (bl h)))))))))), (br (bl (br (br (bl (br (br (bl (br (bl h)))))))))), (bl (br (br (br (bl (br (br (bl (br (bl h)))))))))), fun j hj => ?_⟩
  match j, hj with
  | 0, _ => exact (bl (br (br (br (br (bl (br (br (bl (br (bl h)))))))))))
  | 1, _ => exact (br (br (br (br (br (bl (br (br (bl (br (bl h)))))))))))
  | 2, _ => exact (bl (bl (bl (bl (br (br (br (bl (br (bl h))))))))))
  | 3, _ => exact (br (bl (bl (bl (br (br (br (bl (br (bl h))))))))))
  | 4, _ => exact (bl (br (bl (bl (br (br (br (bl (br (bl h))))))))))
  | 5, _ => exact (br (br (bl (bl (br (br (br (bl (br (bl h))))))))))
  | 6, _ => exact (bl (bl (br (bl (br (br (br (bl (br (bl h))))))))))
  | 7, _ => exact (br (bl (br (bl (br (br (br (bl (br (bl h))))))))))
  | j + 8, hj => exact absurd hj (by have : sLen 26 = 8 := rfl; omega)
theorem ns_27 {A : Array Value} {s : State} (h : narrow_1.before A s = true) : (Cond.exactly (Term.string "SchemaWorkshop$Lexemes" 73) "java/lang/String").before A s = true ∧ (Cond.eq (.field (Term.string "SchemaWorkshop$Lexemes" 73) "java/lang/String" "coder" "B") (.int 0)).before A s = true ∧ (Cond.arrayOf (Term.field (Term.string "SchemaWorkshop$Lexemes" 73) "java/lang/String" "value" "[B") .byte).before A s = true ∧ (Cond.eq (.length (Term.field (Term.string "SchemaWorkshop$Lexemes" 73) "java/lang/String" "value" "[B")) (.int (Int32.ofNat (sLen 27)))).before A s = true ∧ ∀ j : Nat, j < sLen 27 → (Cond.eq (.elem (Term.field (Term.string "SchemaWorkshop$Lexemes" 73) "java/lang/String" "value" "[B") (.int (Int32.ofNat j))) (.int (Int32.ofInt (sByt 27 j)))).before A s = true := by
  refine ⟨(bl (br (br (bl (br (br (br (bl (br (bl h)))))))))), (br (br (br (bl (br (br (br (bl (br (bl h)))))))))), (bl (bl (bl (br (br (br (br (bl (br (bl h)))))))))), (br (bl (bl (br (br (br (br (bl (br (bl h)))))))))), fun j hj => ?_⟩
  match j, hj with
  | 0, _ => exact (bl (br (bl (br (br (br (br (bl (br (bl h))))))))))
  | 1, _ => exact (br (br (bl (br (br (br (br (bl (br (bl h))))))))))
  | 2, _ => exact (bl (bl (br (br (br (br (br (bl (br (bl h))))))))))
  | 3, _ => exact (br (bl (br (br (br (br (br (bl (br (bl h))))))))))
  | 4, _ => exact (bl (br (br (br (br (br (br (bl (br (bl h))))))))))
  | j + 5, hj => exact absurd hj (by have : sLen 27 = 5 := rfl; omega)
theorem ns_28 {A : Array Value} {s : State} (h : narrow_1.before A s = true) : (Cond.exactly (Term.string "SchemaWorkshop$Lexemes" 75) "java/lang/String").before A s = true ∧ (Cond.eq (.field (Term.string "SchemaWorkshop$Lexemes" 75) "java/lang/String" "coder" "B") (.int 0)).before A s = true ∧ (Cond.arrayOf (Term.field (Term.string "SchemaWorkshop$Lexemes" 75) "java/lang/String" "value" "[B") .byte).before A s = true ∧ (Cond.eq (.length (Term.field (Term.string "SchemaWorkshop$Lexemes" 75) "java/lang/String" "value" "[B")) (.int (Int32.ofNat (sLen 28)))).before A s = true ∧ ∀ j : Nat, j < sLen 28 → (Cond.eq (.elem (Term.field (Term.string "SchemaWorkshop$Lexemes" 75) "java/lang/String" "value" "[B") (.int (Int32.ofNat j))) (.int (Int32.ofInt (sByt 28 j)))).before A s = true := by
  refine ⟨(bl (br (br (br (br (br (br (br (bl (br (bl h))))))))))), (br (br (br (br (br (br (br (br (bl (br (bl h))))))))))), (bl (bl (bl (bl (bl (bl (bl (br (br (bl h)))))))))), (br (bl (bl (bl (bl (bl (bl (br (br (bl h)))))))))), fun j hj => ?_⟩
  match j, hj with
  | 0, _ => exact (bl (br (bl (bl (bl (bl (bl (br (br (bl h))))))))))
  | 1, _ => exact (br (br (bl (bl (bl (bl (bl (br (br (bl h))))))))))
  | 2, _ => exact (bl (bl (br (bl (bl (bl (bl (br (br (bl h))))))))))
  | 3, _ => exact (br (bl (br (bl (bl (bl (bl (br (br (bl h))))))))))
  | j + 4, hj => exact absurd hj (by have : sLen 28 = 4 := rfl; omega)
theorem ns_29 {A : Array Value} {s : State} (h : narrow_1.before A s = true) : (Cond.exactly (Term.string "SchemaWorkshop$Lexemes" 77) "java/lang/String").before A s = true ∧ (Cond.eq (.field (Term.string "SchemaWorkshop$Lexemes" 77) "java/lang/String" "coder" "B") (.int 0)).before A s = true ∧ (Cond.arrayOf (Term.field (Term.string "SchemaWorkshop$Lexemes" 77) "java/lang/String" "value" "[B") .byte).before A s = true ∧ (Cond.eq (.length (Term.field (Term.string "SchemaWorkshop$Lexemes" 77) "java/lang/String" "value" "[B")) (.int (Int32.ofNat (sLen 29)))).before A s = true ∧ ∀ j : Nat, j < sLen 29 → (Cond.eq (.elem (Term.field (Term.string "SchemaWorkshop$Lexemes" 77) "java/lang/String" "value" "[B") (.int (Int32.ofNat j))) (.int (Int32.ofInt (sByt 29 j)))).before A s = true := by
  refine ⟨(bl (br (br (bl (bl (bl (bl (br (br (bl h)))))))))), (br (br (br (bl (bl (bl (bl (br (br (bl h)))))))))), (bl (bl (bl (br (bl (bl (bl (br (br (bl h)))))))))), (br (bl (bl (br (bl (bl (bl (br (br (bl h)))))))))), fun j hj => ?_⟩
  match j, hj with
  | 0, _ => exact (bl (br (bl (br (bl (bl (bl (br (br (bl h))))))))))
  | 1, _ => exact (br (br (bl (br (bl (bl (bl (br (br (bl h))))))))))
  | 2, _ => exact (bl (bl (br (br (bl (bl (bl (br (br (bl h))))))))))
  | 3, _ => exact (br (bl (br (br (bl (bl (bl (br (br (bl h))))))))))
  | 4, _ => exact (bl (br (br (br (bl (bl (bl (br (br (bl h))))))))))
  | 5, _ => exact (br (br (br (br (bl (bl (bl (br (br (bl h))))))))))
  | 6, _ => exact (bl (bl (bl (bl (br (bl (bl (br (br (bl h))))))))))
  | 7, _ => exact (br (bl (bl (bl (br (bl (bl (br (br (bl h))))))))))
  | 8, _ => exact (bl (br (bl (bl (br (bl (bl (br (br (bl h))))))))))
  | 9, _ => exact (br (br (bl (bl (br (bl (bl (br (br (bl h))))))))))
  | 10, _ => exact (bl (bl (br (bl (br (bl (bl (br (br (bl h))))))))))
  | 11, _ => exact (br (bl (br (bl (br (bl (bl (br (br (bl h))))))))))
  | 12, _ => exact (bl (br (br (bl (br (bl (bl (br (br (bl h))))))))))
  | j + 13, hj => exact absurd hj (by have : sLen 29 = 13 := rfl; omega)
theorem ns_30 {A : Array Value} {s : State} (h : narrow_1.before A s = true) : (Cond.exactly (Term.string "SchemaWorkshop$Lexemes" 79) "java/lang/String").before A s = true ∧ (Cond.eq (.field (Term.string "SchemaWorkshop$Lexemes" 79) "java/lang/String" "coder" "B") (.int 0)).before A s = true ∧ (Cond.arrayOf (Term.field (Term.string "SchemaWorkshop$Lexemes" 79) "java/lang/String" "value" "[B") .byte).before A s = true ∧ (Cond.eq (.length (Term.field (Term.string "SchemaWorkshop$Lexemes" 79) "java/lang/String" "value" "[B")) (.int (Int32.ofNat (sLen 30)))).before A s = true ∧ ∀ j : Nat, j < sLen 30 → (Cond.eq (.elem (Term.field (Term.string "SchemaWorkshop$Lexemes" 79) "java/lang/String" "value" "[B") (.int (Int32.ofNat j))) (.int (Int32.ofInt (sByt 30 j)))).before A s = true := by
  refine ⟨(br (br (br (bl (br (bl (bl (br (br (bl h)))))))))), (bl (bl (bl (br (br (bl (bl (br (br (bl h)))))))))), (br (bl (bl (br (br (bl (bl (br (br (bl h)))))))))), (bl (br (bl (br (br (bl (bl (br (br (bl h)))))))))), fun j hj => ?_⟩
  match j, hj with
  | 0, _ => exact (br (br (bl (br (br (bl (bl (br (br (bl h))))))))))
  | 1, _ => exact (bl (bl (br (br (br (bl (bl (br (br (bl h))))))))))
  | 2, _ => exact (br (bl (br (br (br (bl (bl (br (br (bl h))))))))))
  | 3, _ => exact (bl (br (br (br (br (bl (bl (br (br (bl h))))))))))
  | 4, _ => exact (bl (br (br (br (br (br (bl (bl (br (br (bl h)))))))))))
  | 5, _ => exact (br (br (br (br (br (br (bl (bl (br (br (bl h)))))))))))
  | 6, _ => exact (bl (bl (bl (bl (bl (br (bl (br (br (bl h))))))))))
  | 7, _ => exact (br (bl (bl (bl (bl (br (bl (br (br (bl h))))))))))
  | 8, _ => exact (bl (br (bl (bl (bl (br (bl (br (br (bl h))))))))))
  | 9, _ => exact (br (br (bl (bl (bl (br (bl (br (br (bl h))))))))))
  | 10, _ => exact (bl (bl (br (bl (bl (br (bl (br (br (bl h))))))))))
  | 11, _ => exact (br (bl (br (bl (bl (br (bl (br (br (bl h))))))))))
  | 12, _ => exact (bl (br (br (bl (bl (br (bl (br (br (bl h))))))))))
  | 13, _ => exact (br (br (br (bl (bl (br (bl (br (br (bl h))))))))))
  | 14, _ => exact (bl (bl (bl (br (bl (br (bl (br (br (bl h))))))))))
  | j + 15, hj => exact absurd hj (by have : sLen 30 = 15 := rfl; omega)
theorem ns_31 {A : Array Value} {s : State} (h : narrow_1.before A s = true) : (Cond.exactly (Term.string "SchemaWorkshop$Lexemes" 81) "java/lang/String").before A s = true ∧ (Cond.eq (.field (Term.string "SchemaWorkshop$Lexemes" 81) "java/lang/String" "coder" "B") (.int 0)).before A s = true ∧ (Cond.arrayOf (Term.field (Term.string "SchemaWorkshop$Lexemes" 81) "java/lang/String" "value" "[B") .byte).before A s = true ∧ (Cond.eq (.length (Term.field (Term.string "SchemaWorkshop$Lexemes" 81) "java/lang/String" "value" "[B")) (.int (Int32.ofNat (sLen 31)))).before A s = true ∧ ∀ j : Nat, j < sLen 31 → (Cond.eq (.elem (Term.field (Term.string "SchemaWorkshop$Lexemes" 81) "java/lang/String" "value" "[B") (.int (Int32.ofNat j))) (.int (Int32.ofInt (sByt 31 j)))).before A s = true := by
  refine ⟨(br (bl (bl (br (bl (br (bl (br (br (bl h)))))))))), (bl (br (bl (br (bl (br (bl (br (br (bl h)))))))))), (br (br (bl (br (bl (br (bl (br (br (bl h)))))))))), (bl (bl (br (br (bl (br (bl (br (br (bl h)))))))))), fun j hj => ?_⟩
  match j, hj with
  | 0, _ => exact (br (bl (br (br (bl (br (bl (br (br (bl h))))))))))
  | 1, _ => exact (bl (br (br (br (bl (br (bl (br (br (bl h))))))))))
  | 2, _ => exact (br (br (br (br (bl (br (bl (br (br (bl h))))))))))
  | 3, _ => exact (bl (bl (bl (bl (br (br (bl (br (br (bl h))))))))))
  | 4, _ => exact (br (bl (bl (bl (br (br (bl (br (br (bl h))))))))))
  | 5, _ => exact (bl (br (bl (bl (br (br (bl (br (br (bl h))))))))))
  | 6, _ => exact (br (br (bl (bl (br (br (bl (br (br (bl h))))))))))
  | 7, _ => exact (bl (bl (br (bl (br (br (bl (br (br (bl h))))))))))
  | 8, _ => exact (br (bl (br (bl (br (br (bl (br (br (bl h))))))))))
  | 9, _ => exact (bl (br (br (bl (br (br (bl (br (br (bl h))))))))))
  | 10, _ => exact (br (br (br (bl (br (br (bl (br (br (bl h))))))))))
  | 11, _ => exact (bl (bl (bl (br (br (br (bl (br (br (bl h))))))))))
  | 12, _ => exact (br (bl (bl (br (br (br (bl (br (br (bl h))))))))))
  | j + 13, hj => exact absurd hj (by have : sLen 31 = 13 := rfl; omega)
theorem ns_32 {A : Array Value} {s : State} (h : narrow_1.before A s = true) : (Cond.exactly (Term.string "SchemaWorkshop$Lexemes" 83) "java/lang/String").before A s = true ∧ (Cond.eq (.field (Term.string "SchemaWorkshop$Lexemes" 83) "java/lang/String" "coder" "B") (.int 0)).before A s = true ∧ (Cond.arrayOf (Term.field (Term.string "SchemaWorkshop$Lexemes" 83) "java/lang/String" "value" "[B") .byte).before A s = true ∧ (Cond.eq (.length (Term.field (Term.string "SchemaWorkshop$Lexemes" 83) "java/lang/String" "value" "[B")) (.int (Int32.ofNat (sLen 32)))).before A s = true ∧ ∀ j : Nat, j < sLen 32 → (Cond.eq (.elem (Term.field (Term.string "SchemaWorkshop$Lexemes" 83) "java/lang/String" "value" "[B") (.int (Int32.ofNat j))) (.int (Int32.ofInt (sByt 32 j)))).before A s = true := by
  refine ⟨(bl (br (bl (br (br (br (bl (br (br (bl h)))))))))), (br (br (bl (br (br (br (bl (br (br (bl h)))))))))), (bl (bl (br (br (br (br (bl (br (br (bl h)))))))))), (br (bl (br (br (br (br (bl (br (br (bl h)))))))))), fun j hj => ?_⟩
  match j, hj with
  | 0, _ => exact (bl (br (br (br (br (br (bl (br (br (bl h))))))))))
  | 1, _ => exact (bl (br (br (br (br (br (br (bl (br (br (bl h)))))))))))
  | 2, _ => exact (br (br (br (br (br (br (br (bl (br (br (bl h)))))))))))
  | 3, _ => exact (bl (bl (bl (bl (bl (bl (br (br (br (bl h))))))))))
  | 4, _ => exact (br (bl (bl (bl (bl (bl (br (br (br (bl h))))))))))
  | 5, _ => exact (bl (br (bl (bl (bl (bl (br (br (br (bl h))))))))))
  | 6, _ => exact (br (br (bl (bl (bl (bl (br (br (br (bl h))))))))))
  | 7, _ => exact (bl (bl (br (bl (bl (bl (br (br (br (bl h))))))))))
  | 8, _ => exact (br (bl (br (bl (bl (bl (br (br (br (bl h))))))))))
  | j + 9, hj => exact absurd hj (by have : sLen 32 = 9 := rfl; omega)
theorem ns_33 {A : Array Value} {s : State} (h : narrow_1.before A s = true) : (Cond.exactly (Term.string "SchemaWorkshop$Lexemes" 85) "java/lang/String").before A s = true ∧ (Cond.eq (.field (Term.string "SchemaWorkshop$Lexemes" 85) "java/lang/String" "coder" "B") (.int 0)).before A s = true ∧ (Cond.arrayOf (Term.field (Term.string "SchemaWorkshop$Lexemes" 85) "java/lang/String" "value" "[B") .byte).before A s = true ∧ (Cond.eq (.length (Term.field (Term.string "SchemaWorkshop$Lexemes" 85) "java/lang/String" "value" "[B")) (.int (Int32.ofNat (sLen 33)))).before A s = true ∧ ∀ j : Nat, j < sLen 33 → (Cond.eq (.elem (Term.field (Term.string "SchemaWorkshop$Lexemes" 85) "java/lang/String" "value" "[B") (.int (Int32.ofNat j))) (.int (Int32.ofInt (sByt 33 j)))).before A s = true := by
  refine ⟨(bl (br (br (bl (bl (bl (br (br (br (bl h)))))))))), (br (br (br (bl (bl (bl (br (br (br (bl h)))))))))), (bl (bl (bl (br (bl (bl (br (br (br (bl h)))))))))), (br (bl (bl (br (bl (bl (br (br (br (bl h)))))))))), fun j hj => ?_⟩
  match j, hj with
  | 0, _ => exact (bl (br (bl (br (bl (bl (br (br (br (bl h))))))))))
  | 1, _ => exact (br (br (bl (br (bl (bl (br (br (br (bl h))))))))))
  | 2, _ => exact (bl (bl (br (br (bl (bl (br (br (br (bl h))))))))))
  | 3, _ => exact (br (bl (br (br (bl (bl (br (br (br (bl h))))))))))
  | 4, _ => exact (bl (br (br (br (bl (bl (br (br (br (bl h))))))))))
  | 5, _ => exact (br (br (br (br (bl (bl (br (br (br (bl h))))))))))
  | 6, _ => exact (bl (bl (bl (bl (br (bl (br (br (br (bl h))))))))))
  | 7, _ => exact (br (bl (bl (bl (br (bl (br (br (br (bl h))))))))))
  | 8, _ => exact (bl (br (bl (bl (br (bl (br (br (br (bl h))))))))))
  | 9, _ => exact (br (br (bl (bl (br (bl (br (br (br (bl h))))))))))
  | j + 10, hj => exact absurd hj (by have : sLen 33 = 10 := rfl; omega)
theorem ns_34 {A : Array Value} {s : State} (h : narrow_1.before A s = true) : (Cond.exactly (Term.string "SchemaWorkshop$Lexemes" 87) "java/lang/String").before A s = true ∧ (Cond.eq (.field (Term.string "SchemaWorkshop$Lexemes" 87) "java/lang/String" "coder" "B") (.int 0)).before A s = true ∧ (Cond.arrayOf (Term.field (Term.string "SchemaWorkshop$Lexemes" 87) "java/lang/String" "value" "[B") .byte).before A s = true ∧ (Cond.eq (.length (Term.field (Term.string "SchemaWorkshop$Lexemes" 87) "java/lang/String" "value" "[B")) (.int (Int32.ofNat (sLen 34)))).before A s = true ∧ ∀ j : Nat, j < sLen 34 → (Cond.eq (.elem (Term.field (Term.string "SchemaWorkshop$Lexemes" 87) "java/lang/String" "value" "[B") (.int (Int32.ofNat j))) (.int (Int32.ofInt (sByt 34 j)))).before A s = true := by
  refine ⟨(bl (bl (br (bl (br (bl (br (br (br (bl h)))))))))), (br (bl (br (bl (br (bl (br (br (br (bl h)))))))))), (bl (br (br (bl (br (bl (br (br (br (bl h)))))))))), (br (br (br (bl (br (bl (br (br (br (bl h)))))))))), fun j hj => ?_⟩
  match j, hj with
  | 0, _ => exact (bl (bl (bl (br (br (bl (br (br (br (bl h))))))))))
  | 1, _ => exact (br (bl (bl (br (br (bl (br (br (br (bl h))))))))))
  | 2, _ => exact (bl (br (bl (br (br (bl (br (br (br (bl h))))))))))
  | 3, _ => exact (br (br (bl (br (br (bl (br (br (br (bl h))))))))))
  | 4, _ => exact (bl (bl (br (br (br (bl (br (br (br (bl h))))))))))
  | 5, _ => exact (br (bl (br (br (br (bl (br (br (br (bl h))))))))))
  | 6, _ => exact (bl (br (br (br (br (bl (br (br (br (bl h))))))))))
  | 7, _ => exact (bl (br (br (br (br (br (bl (br (br (br (bl h)))))))))))
  | j + 8, hj => exact absurd hj (by have : sLen 34 = 8 := rfl; omega)
theorem ns_35 {A : Array Value} {s : State} (h : narrow_1.before A s = true) : (Cond.exactly (Term.string "SchemaWorkshop$Lexemes" 89) "java/lang/String").before A s = true ∧ (Cond.eq (.field (Term.string "SchemaWorkshop$Lexemes" 89) "java/lang/String" "coder" "B") (.int 0)).before A s = true ∧ (Cond.arrayOf (Term.field (Term.string "SchemaWorkshop$Lexemes" 89) "java/lang/String" "value" "[B") .byte).before A s = true ∧ (Cond.eq (.length (Term.field (Term.string "SchemaWorkshop$Lexemes" 89) "java/lang/String" "value" "[B")) (.int (Int32.ofNat (sLen 35)))).before A s = true ∧ ∀ j : Nat, j < sLen 35 → (Cond.eq (.elem (Term.field (Term.string "SchemaWorkshop$Lexemes" 89) "java/lang/String" "value" "[B") (.int (Int32.ofNat j))) (.int (Int32.ofInt (sByt 35 j)))).before A s = true := by
  refine ⟨(br (br (br (br (br (br (bl (br (br (br (bl h))))))))))), (bl (bl (bl (bl (bl (br (br (br (br (bl h)))))))))), (br (bl (bl (bl (bl (br (br (br (br (bl h)))))))))), (bl (br (bl (bl (bl (br (br (br (br (bl h)))))))))), fun j hj => ?_⟩
  match j, hj with
  | 0, _ => exact (br (br (bl (bl (bl (br (br (br (br (bl h))))))))))
  | 1, _ => exact (bl (bl (br (bl (bl (br (br (br (br (bl h))))))))))
  | 2, _ => exact (br (bl (br (bl (bl (br (br (br (br (bl h))))))))))
  | 3, _ => exact (bl (br (br (bl (bl (br (br (br (br (bl h))))))))))
  | 4, _ => exact (br (br (br (bl (bl (br (br (br (br (bl h))))))))))
  | 5, _ => exact (bl (bl (bl (br (bl (br (br (br (br (bl h))))))))))
  | 6, _ => exact (br (bl (bl (br (bl (br (br (br (br (bl h))))))))))
  | j + 7, hj => exact absurd hj (by have : sLen 35 = 7 := rfl; omega)
theorem ns_36 {A : Array Value} {s : State} (h : narrow_1.before A s = true) : (Cond.exactly (Term.string "SchemaWorkshop$Lexemes" 91) "java/lang/String").before A s = true ∧ (Cond.eq (.field (Term.string "SchemaWorkshop$Lexemes" 91) "java/lang/String" "coder" "B") (.int 0)).before A s = true ∧ (Cond.arrayOf (Term.field (Term.string "SchemaWorkshop$Lexemes" 91) "java/lang/String" "value" "[B") .byte).before A s = true ∧ (Cond.eq (.length (Term.field (Term.string "SchemaWorkshop$Lexemes" 91) "java/lang/String" "value" "[B")) (.int (Int32.ofNat (sLen 36)))).before A s = true ∧ ∀ j : Nat, j < sLen 36 → (Cond.eq (.elem (Term.field (Term.string "SchemaWorkshop$Lexemes" 91) "java/lang/String" "value" "[B") (.int (Int32.ofNat j))) (.int (Int32.ofInt (sByt 36 j)))).before A s = true := by
  refine ⟨(bl (br (bl (br (bl (br (br (br (br (bl h)))))))))), (br (br (bl (br (bl (br (br (br (br (bl h)))))))))), (bl (bl (br (br (bl (br (br (br (br (bl h)))))))))), (br (bl (br (br (bl (br (br (br (br (bl h)))))))))), fun j hj => ?_⟩
  match j, hj with
  | 0, _ => exact (bl (br (br (br (bl (br (br (br (br (bl h))))))))))
  | 1, _ => exact (bl (br (br (br (br (bl (br (br (br (br (bl h)))))))))))
  | 2, _ => exact (br (br (br (br (br (bl (br (br (br (br (bl h)))))))))))
  | 3, _ => exact (bl (bl (bl (bl (br (br (br (br (br (bl h))))))))))
  | 4, _ => exact (br (bl (bl (bl (br (br (br (br (br (bl h))))))))))
  | 5, _ => exact (bl (br (bl (bl (br (br (br (br (br (bl h))))))))))
  | 6, _ => exact (br (br (bl (bl (br (br (br (br (br (bl h))))))))))
  | j + 7, hj => exact absurd hj (by have : sLen 36 = 7 := rfl; omega)
theorem ns_37 {A : Array Value} {s : State} (h : narrow_1.before A s = true) : (Cond.exactly (Term.string "SchemaWorkshop$Lexemes" 93) "java/lang/String").before A s = true ∧ (Cond.eq (.field (Term.string "SchemaWorkshop$Lexemes" 93) "java/lang/String" "coder" "B") (.int 0)).before A s = true ∧ (Cond.arrayOf (Term.field (Term.string "SchemaWorkshop$Lexemes" 93) "java/lang/String" "value" "[B") .byte).before A s = true ∧ (Cond.eq (.length (Term.field (Term.string "SchemaWorkshop$Lexemes" 93) "java/lang/String" "value" "[B")) (.int (Int32.ofNat (sLen 37)))).before A s = true ∧ ∀ j : Nat, j < sLen 37 → (Cond.eq (.elem (Term.field (Term.string "SchemaWorkshop$Lexemes" 93) "java/lang/String" "value" "[B") (.int (Int32.ofNat j))) (.int (Int32.ofInt (sByt 37 j)))).before A s = true := by
  refine ⟨(bl (bl (br (bl (br (br (br (br (br (bl h)))))))))), (br (bl (br (bl (br (br (br (br (br (bl h)))))))))), (bl (br (br (bl (br (br (br (br (br (bl h)))))))))), (br (br (br (bl (br (br (br (br (br (bl h)))))))))), fun j hj => ?_⟩
  match j, hj with
  | 0, _ => exact (bl (bl (bl (br (br (br (br (br (br (bl h))))))))))
  | 1, _ => exact (br (bl (bl (br (br (br (br (br (br (bl h))))))))))
  | 2, _ => exact (bl (br (bl (br (br (br (br (br (br (bl h))))))))))
  | 3, _ => exact (br (br (bl (br (br (br (br (br (br (bl h))))))))))
  | 4, _ => exact (bl (bl (br (br (br (br (br (br (br (bl h))))))))))
  | 5, _ => exact (br (bl (br (br (br (br (br (br (br (bl h))))))))))
  | 6, _ => exact (bl (br (br (br (br (br (br (br (br (bl h))))))))))
  | 7, _ => exact (bl (br (br (br (br (br (br (br (br (br (bl h)))))))))))
  | j + 8, hj => exact absurd hj (by have : sLen 37 = 8 := rfl; omega)
theorem ns_38 {A : Array Value} {s : State} (h : narrow_1.before A s = true) : (Cond.exactly (Term.string "SchemaWorkshop$Lexemes" 95) "java/lang/String").before A s = true ∧ (Cond.eq (.field (Term.string "SchemaWorkshop$Lexemes" 95) "java/lang/String" "coder" "B") (.int 0)).before A s = true ∧ (Cond.arrayOf (Term.field (Term.string "SchemaWorkshop$Lexemes" 95) "java/lang/String" "value" "[B") .byte).before A s = true ∧ (Cond.eq (.length (Term.field (Term.string "SchemaWorkshop$Lexemes" 95) "java/lang/String" "value" "[B")) (.int (Int32.ofNat (sLen 38)))).before A s = true ∧ ∀ j : Nat, j < sLen 38 → (Cond.eq (.elem (Term.field (Term.string "SchemaWorkshop$Lexemes" 95) "java/lang/String" "value" "[B") (.int (Int32.ofNat j))) (.int (Int32.ofInt (sByt 38 j)))).before A s = true := by
  refine ⟨(br (br (br (br (br (br (br (br (br (br (bl h))))))))))), (bl (bl (bl (bl (bl (bl (bl (bl (bl (br h)))))))))), (br (bl (bl (bl (bl (bl (bl (bl (bl (br h)))))))))), (bl (br (bl (bl (bl (bl (bl (bl (bl (br h)))))))))), fun j hj => ?_⟩
  match j, hj with
  | 0, _ => exact (br (br (bl (bl (bl (bl (bl (bl (bl (br h))))))))))
  | 1, _ => exact (bl (bl (br (bl (bl (bl (bl (bl (bl (br h))))))))))
  | 2, _ => exact (br (bl (br (bl (bl (bl (bl (bl (bl (br h))))))))))
  | 3, _ => exact (bl (br (br (bl (bl (bl (bl (bl (bl (br h))))))))))
  | 4, _ => exact (br (br (br (bl (bl (bl (bl (bl (bl (br h))))))))))
  | 5, _ => exact (bl (bl (bl (br (bl (bl (bl (bl (bl (br h))))))))))
  | 6, _ => exact (br (bl (bl (br (bl (bl (bl (bl (bl (br h))))))))))
  | 7, _ => exact (bl (br (bl (br (bl (bl (bl (bl (bl (br h))))))))))
  | j + 8, hj => exact absurd hj (by have : sLen 38 = 8 := rfl; omega)
theorem ns_39 {A : Array Value} {s : State} (h : narrow_1.before A s = true) : (Cond.exactly (Term.string "SchemaWorkshop$Lexemes" 97) "java/lang/String").before A s = true ∧ (Cond.eq (.field (Term.string "SchemaWorkshop$Lexemes" 97) "java/lang/String" "coder" "B") (.int 0)).before A s = true ∧ (Cond.arrayOf (Term.field (Term.string "SchemaWorkshop$Lexemes" 97) "java/lang/String" "value" "[B") .byte).before A s = true ∧ (Cond.eq (.length (Term.field (Term.string "SchemaWorkshop$Lexemes" 97) "java/lang/String" "value" "[B")) (.int (Int32.ofNat (sLen 39)))).before A s = true ∧ ∀ j : Nat, j < sLen 39 → (Cond.eq (.elem (Term.field (Term.string "SchemaWorkshop$Lexemes" 97) "java/lang/String" "value" "[B") (.int (Int32.ofNat j))) (.int (Int32.ofInt (sByt 39 j)))).before A s = true := by
  refine ⟨(br (br (bl (br (bl (bl (bl (bl (bl (br h)))))))))), (bl (bl (br (br (bl (bl (bl (bl (bl (br h)))))))))), (br (bl (br (br (bl (bl (bl (bl (bl (br h)))))))))), (bl (br (br (br (bl (bl (bl (bl (bl (br h)))))))))), fun j hj => ?_⟩
  match j, hj with
  | 0, _ => exact (br (br (br (br (bl (bl (bl (bl (bl (br h))))))))))
  | 1, _ => exact (bl (bl (bl (bl (br (bl (bl (bl (bl (br h))))))))))
  | 2, _ => exact (br (bl (bl (bl (br (bl (bl (bl (bl (br h))))))))))
  | 3, _ => exact (bl (br (bl (bl (br (bl (bl (bl (bl (br h))))))))))
  | 4, _ => exact (br (br (bl (bl (br (bl (bl (bl (bl (br h))))))))))
  | 5, _ => exact (bl (bl (br (bl (br (bl (bl (bl (bl (br h))))))))))
  | 6, _ => exact (br (bl (br (bl (br (bl (bl (bl (bl (br h))))))))))
  | j + 7, hj => exact absurd hj (by have : sLen 39 = 7 := rfl; omega)
theorem ns_40 {A : Array Value} {s : State} (h : narrow_1.before A s = true) : (Cond.exactly (Term.string "SchemaWorkshop$Lexemes" 99) "java/lang/String").before A s = true ∧ (Cond.eq (.field (Term.string "SchemaWorkshop$Lexemes" 99) "java/lang/String" "coder" "B") (.int 0)).before A s = true ∧ (Cond.arrayOf (Term.field (Term.string "SchemaWorkshop$Lexemes" 99) "java/lang/String" "value" "[B") .byte).before A s = true ∧ (Cond.eq (.length (Term.field (Term.string "SchemaWorkshop$Lexemes" 99) "java/lang/String" "value" "[B")) (.int (Int32.ofNat (sLen 40)))).before A s = true ∧ ∀ j : Nat, j < sLen 40 → (Cond.eq (.elem (Term.field (Term.string "SchemaWorkshop$Lexemes" 99) "java/lang/String" "value" "[B") (.int (Int32.ofNat j))) (.int (Int32.ofInt (sByt 40 j)))).before A s = true := by
  refine ⟨(bl (br (br (bl (br (bl (bl (bl (bl (br h)))))))))), (br (br (br (bl (br (bl (bl (bl (bl (br h)))))))))), (bl (bl (bl (br (br (bl (bl (bl (bl (br h)))))))))), (br (bl (bl (br (br (bl (bl (bl (bl (br h)))))))))), fun j hj => ?_⟩
  match j, hj with
  | 0, _ => exact (bl (br (bl (br (br (bl (bl (bl (bl (br h))))))))))
  | 1, _ => exact (br (br (bl (br (br (bl (bl (bl (bl (br h))))))))))
  | 2, _ => exact (bl (bl (br (br (br (bl (bl (bl (bl (br h))))))))))
  | 3, _ => exact (br (bl (br (br (br (bl (bl (bl (bl (br h))))))))))
  | 4, _ => exact (bl (br (br (br (br (bl (bl (bl (bl (br h))))))))))
  | 5, _ => exact (bl (br (br (br (br (br (bl (bl (bl (bl (br h)))))))))))
  | 6, _ => exact (br (br (br (br (br (br (bl (bl (bl (bl (br h)))))))))))
  | 7, _ => exact (bl (bl (bl (bl (bl (br (bl (bl (bl (br h))))))))))
  | 8, _ => exact (br (bl (bl (bl (bl (br (bl (bl (bl (br h))))))))))
  | 9, _ => exact (bl (br (bl (bl (bl (br (bl (bl (bl (br h))))))))))
  | 10, _ => exact (br (br (bl (bl (bl (br (bl (bl (bl (br h))))))))))
  | 11, _ => exact (bl (bl (br (bl (bl (br (bl (bl (bl (br h))))))))))
  | j + 12, hj => exact absurd hj (by have : sLen 40 = 12 := rfl; omega)
theorem ns_41 {A : Array Value} {s : State} (h : narrow_1.before A s = true) : (Cond.exactly (Term.string "SchemaWorkshop$Lexemes" 101) "java/lang/String").before A s = true ∧ (Cond.eq (.field (Term.string "SchemaWorkshop$Lexemes" 101) "java/lang/String" "coder" "B") (.int 0)).before A s = true ∧ (Cond.arrayOf (Term.field (Term.string "SchemaWorkshop$Lexemes" 101) "java/lang/String" "value" "[B") .byte).before A s = true ∧ (Cond.eq (.length (Term.field (Term.string "SchemaWorkshop$Lexemes" 101) "java/lang/String" "value" "[B")) (.int (Int32.ofNat (sLen 41)))).before A s = true ∧ ∀ j : Nat, j < sLen 41 → (Cond.eq (.elem (Term.field (Term.string "SchemaWorkshop$Lexemes" 101) "java/lang/String" "value" "[B") (.int (Int32.ofNat j))) (.int (Int32.ofInt (sByt 41 j)))).before A s = true := by
  refine ⟨(br (bl (br (bl (bl (br (bl (bl (bl (br h)))))))))), (bl (br (br (bl (bl (br (bl (bl (bl (br h)))))))))), (br (br (br (bl (bl (br (bl (bl (bl (br h)))))))))), (bl (bl (bl (br (bl (br (bl (bl (bl (br h)))))))))), fun j hj => ?_⟩
  match j, hj with
  | 0, _ => exact (br (bl (bl (br (bl (br (bl (bl (bl (br h))))))))))
  | 1, _ => exact (bl (br (bl (br (bl (br (bl (bl (bl (br h))))))))))
  | 2, _ => exact (br (br (bl (br (bl (br (bl (bl (bl (br h))))))))))
  | 3, _ => exact (bl (bl (br (br (bl (br (bl (bl (bl (br h))))))))))
  | 4, _ => exact (br (bl (br (br (bl (br (bl (bl (bl (br h))))))))))
  | 5, _ => exact (bl (br (br (br (bl (br (bl (bl (bl (br h))))))))))
  | 6, _ => exact (br (br (br (br (bl (br (bl (bl (bl (br h))))))))))
  | 7, _ => exact (bl (bl (bl (bl (br (br (bl (bl (bl (br h))))))))))
  | 8, _ => exact (br (bl (bl (bl (br (br (bl (bl (bl (br h))))))))))
  | 9, _ => exact (bl (br (bl (bl (br (br (bl (bl (bl (br h))))))))))
  | 10, _ => exact (br (br (bl (bl (br (br (bl (bl (bl (br h))))))))))
  | 11, _ => exact (bl (bl (br (bl (br (br (bl (bl (bl (br h))))))))))
  | j + 12, hj => exact absurd hj (by have : sLen 41 = 12 := rfl; omega)
theorem ns_42 {A : Array Value} {s : State} (h : narrow_1.before A s = true) : (Cond.exactly (Term.string "SchemaWorkshop$Lexemes" 103) "java/lang/String").before A s = true ∧ (Cond.eq (.field (Term.string "SchemaWorkshop$Lexemes" 103) "java/lang/String" "coder" "B") (.int 0)).before A s = true ∧ (Cond.arrayOf (Term.field (Term.string "SchemaWorkshop$Lexemes" 103) "java/lang/String" "value" "[B") .byte).before A s = true ∧ (Cond.eq (.length (Term.field (Term.string "SchemaWorkshop$Lexemes" 103) "java/lang/String" "value" "[B")) (.int (Int32.ofNat (sLen 42)))).before A s = true ∧ ∀ j : Nat, j < sLen 42 → (Cond.eq (.elem (Term.field (Term.string "SchemaWorkshop$Lexemes" 103) "java/lang/String" "value" "[B") (.int (Int32.ofNat j))) (.int (Int32.ofInt (sByt 42 j)))).before A s = true := by
  refine ⟨(br (bl (br (bl (br (br (bl (bl (bl (br h)))))))))), (bl (br (br (bl (br (br (bl (bl (bl (br h)))))))))), (br (br (br (bl (br (br (bl (bl (bl (br h)))))))))), (bl (bl (bl (br (br (br (bl (bl (bl (br h)))))))))), fun j hj => ?_⟩
  match j, hj with
  | 0, _ => exact (br (bl (bl (br (br (br (bl (bl (bl (br h))))))))))
  | 1, _ => exact (bl (br (bl (br (br (br (bl (bl (bl (br h))))))))))
  | 2, _ => exact (br (br (bl (br (br (br (bl (bl (bl (br h))))))))))
  | j + 3, hj => exact absurd hj (by have : sLen 42 = 3 := rfl; omega)
theorem ns_43 {A : Array Value} {s : State} (h : narrow_1.before A s = true) : (Cond.exactly (Term.string "SchemaWorkshop$Lexemes" 105) "java/lang/String").before A s = true ∧ (Cond.eq (.field (Term.string "SchemaWorkshop$Lexemes" 105) "java/lang/String" "coder" "B") (.int 0)).before A s = true ∧ (Cond.arrayOf (Term.field (Term.string "SchemaWorkshop$Lexemes" 105) "java/lang/String" "value" "[B") .byte).before A s = true ∧ (Cond.eq (.length (Term.field (Term.string "SchemaWorkshop$Lexemes" 105) "java/lang/String" "value" "[B")) (.int (Int32.ofNat (sLen 43)))).before A s = true ∧ ∀ j : Nat, j < sLen 43 → (Cond.eq (.elem (Term.field (Term.string "SchemaWorkshop$Lexemes" 105) "java/lang/String" "value" "[B") (.int (Int32.ofNat j))) (.int (Int32.ofInt (sByt 43 j)))).before A s = true := by
  refine ⟨(bl (bl (br (br (br (br (bl (bl (bl (br h)))))))))), (br (bl (br (br (br (br (bl (bl (bl (br h)))))))))), (bl (br (br (br (br (br (bl (bl (bl (br h)))))))))), (bl (br (br (br (br (br (br (bl (bl (bl (br h))))))))))), fun j hj => ?_⟩
  match j, hj with
  | 0, _ => exact (br (br (br (br (br (br (br (bl (bl (bl (br h)))))))))))
  | 1, _ => exact (bl (bl (bl (bl (bl (bl (br (bl (bl (br h))))))))))
  | 2, _ => exact (br (bl (bl (bl (bl (bl (br (bl (bl (br h))))))))))
  | j + 3, hj => exact absurd hj (by have : sLen 43 = 3 := rfl; omega)
theorem ns_44 {A : Array Value} {s : State} (h : narrow_1.before A s = true) : (Cond.exactly (Term.string "SchemaWorkshop$Lexemes" 107) "java/lang/String").before A s = true ∧ (Cond.eq (.field (Term.string "SchemaWorkshop$Lexemes" 107) "java/lang/String" "coder" "B") (.int 0)).before A s = true ∧ (Cond.arrayOf (Term.field (Term.string "SchemaWorkshop$Lexemes" 107) "java/lang/String" "value" "[B") .byte).before A s = true ∧ (Cond.eq (.length (Term.field (Term.string "SchemaWorkshop$Lexemes" 107) "java/lang/String" "value" "[B")) (.int (Int32.ofNat (sLen 44)))).before A s = true ∧ ∀ j : Nat, j < sLen 44 → (Cond.eq (.elem (Term.field (Term.string "SchemaWorkshop$Lexemes" 107) "java/lang/String" "value" "[B") (.int (Int32.ofNat j))) (.int (Int32.ofInt (sByt 44 j)))).before A s = true := by
  refine ⟨(bl (br (bl (bl (bl (bl (br (bl (bl (br h)))))))))), (br (br (bl (bl (bl (bl (br (bl (bl (br h)))))))))), (bl (bl (br (bl (bl (bl (br (bl (bl (br h)))))))))), (br (bl (br (bl (bl (bl (br (bl (bl (br h)))))))))), fun j hj => ?_⟩
  match j, hj with
  | 0, _ => exact (bl (br (br (bl (bl (bl (br (bl (bl (br h))))))))))
  | 1, _ => exact (br (br (br (bl (bl (bl (br (bl (bl (br h))))))))))
  | 2, _ => exact (bl (bl (bl (br (bl (bl (br (bl (bl (br h))))))))))
  | 3, _ => exact (br (bl (bl (br (bl (bl (br (bl (bl (br h))))))))))
  | 4, _ => exact (bl (br (bl (br (bl (bl (br (bl (bl (br h))))))))))
  | 5, _ => exact (br (br (bl (br (bl (bl (br (bl (bl (br h))))))))))
  | 6, _ => exact (bl (bl (br (br (bl (bl (br (bl (bl (br h))))))))))
  | 7, _ => exact (br (bl (br (br (bl (bl (br (bl (bl (br h))))))))))
  | 8, _ => exact (bl (br (br (br (bl (bl (br (bl (bl (br h))))))))))
  | 9, _ => exact (br (br (br (br (bl (bl (br (bl (bl (br h))))))))))
  | 10, _ => exact (bl (bl (bl (bl (br (bl (br (bl (bl (br h))))))))))
  | 11, _ => exact (br (bl (bl (bl (br (bl (br (bl (bl (br h))))))))))
  | 12, _ => exact (bl (br (bl (bl (br (bl (br (bl (bl (br h))))))))))
  | 13, _ => exact (br (br (bl (bl (br (bl (br (bl (bl (br h))))))))))
  | j + 14, hj => exact absurd hj (by have : sLen 44 = 14 := rfl; omega)
theorem ns_45 {A : Array Value} {s : State} (h : narrow_1.before A s = true) : (Cond.exactly (Term.string "SchemaWorkshop$Lexemes" 109) "java/lang/String").before A s = true ∧ (Cond.eq (.field (Term.string "SchemaWorkshop$Lexemes" 109) "java/lang/String" "coder" "B") (.int 0)).before A s = true ∧ (Cond.arrayOf (Term.field (Term.string "SchemaWorkshop$Lexemes" 109) "java/lang/String" "value" "[B") .byte).before A s = true ∧ (Cond.eq (.length (Term.field (Term.string "SchemaWorkshop$Lexemes" 109) "java/lang/String" "value" "[B")) (.int (Int32.ofNat (sLen 45)))).before A s = true ∧ ∀ j : Nat, j < sLen 45 → (Cond.eq (.elem (Term.field (Term.string "SchemaWorkshop$Lexemes" 109) "java/lang/String" "value" "[B") (.int (Int32.ofNat j))) (.int (Int32.ofInt (sByt 45 j)))).before A s = true := by
  refine ⟨(bl (bl (br (bl (br (bl (br (bl (bl (br h)))))))))), (br (bl (br (bl (br (bl (br (bl (bl (br h)))))))))), (bl (br (br (bl (br (bl (br (bl (bl (br h)))))))))), (br (br (br (bl (br (bl (br (bl (bl (br h)))))))))), fun j hj => ?_⟩
  match j, hj with
  | 0, _ => exact (bl (bl (bl (br (br (bl (br (bl (bl (br h))))))))))
  | 1, _ => exact (br (bl (bl (br (br (bl (br (bl (bl (br h))))))))))
  | 2, _ => exact (bl (br (bl (br (br (bl (br (bl (bl (br h))))))))))
  | 3, _ => exact (br (br (bl (br (br (bl (br (bl (bl (br h))))))))))
  | j + 4, hj => exact absurd hj (by have : sLen 45 = 4 := rfl; omega)
theorem ns_46 {A : Array Value} {s : State} (h : narrow_1.before A s = true) : (Cond.exactly (Term.string "SchemaWorkshop$Lexemes" 111) "java/lang/String").before A s = true ∧ (Cond.eq (.field (Term.string "SchemaWorkshop$Lexemes" 111) "java/lang/String" "coder" "B") (.int 0)).before A s = true ∧ (Cond.arrayOf (Term.field (Term.string "SchemaWorkshop$Lexemes" 111) "java/lang/String" "value" "[B") .byte).before A s = true ∧ (Cond.eq (.length (Term.field (Term.string "SchemaWorkshop$Lexemes" 111) "java/lang/String" "value" "[B")) (.int (Int32.ofNat (sLen 46)))).before A s = true ∧ ∀ j : Nat, j < sLen 46 → (Cond.eq (.elem (Term.field (Term.string "SchemaWorkshop$Lexemes" 111) "java/lang/String" "value" "[B") (.int (Int32.ofNat j))) (.int (Int32.ofInt (sByt 46 j)))).before A s = true := by
  refine ⟨(bl (bl (br (br (br (bl (br (bl (bl (br h)))))))))), (br (bl (br (br (br (bl (br (bl (bl (br h)))))))))), (bl (br (br (br (br (bl (br (bl (bl (br h)))))))))), (bl (br (br (br (br (br (bl (br (bl (bl (br h))))))))))), fun j hj => ?_⟩
  match j, hj with
  | 0, _ => exact (br (br (br (br (br (br (bl (br (bl (bl (br h)))))))))))
  | 1, _ => exact (bl (bl (bl (bl (bl (br (br (bl (bl (br h))))))))))
  | 2, _ => exact (br (bl (bl (bl (bl (br (br (bl (bl (br h))))))))))
  | 3, _ => exact (bl (br (bl (bl (bl (br (br (bl (bl (br h))))))))))
  | 4, _ => exact (br (br (bl (bl (bl (br (br (bl (bl (br h))))))))))
  | 5, _ => exact (bl (bl (br (bl (bl (br (br (bl (bl (br h))))))))))
  | 6, _ => exact (br (bl (br (bl (bl (br (br (bl (bl (br h))))))))))
  | 7, _ => exact (bl (br (br (bl (bl (br (br (bl (bl (br h))))))))))
  | 8, _ => exact (br (br (br (bl (bl (br (br (bl (bl (br h))))))))))
  | 9, _ => exact (bl (bl (bl (br (bl (br (br (bl (bl (br h))))))))))
  | 10, _ => exact (br (bl (bl (br (bl (br (br (bl (bl (br h))))))))))
  | 11, _ => exact (bl (br (bl (br (bl (br (br (bl (bl (br h))))))))))
  | 12, _ => exact (br (br (bl (br (bl (br (br (bl (bl (br h))))))))))
  | j + 13, hj => exact absurd hj (by have : sLen 46 = 13 := rfl; omega)
theorem ns_47 {A : Array Value} {s : State} (h : narrow_1.before A s = true) : (Cond.exactly (Term.string "SchemaWorkshop$Lexemes" 113) "java/lang/String").before A s = true ∧ (Cond.eq (.field (Term.string "SchemaWorkshop$Lexemes" 113) "java/lang/String" "coder" "B") (.int 0)).before A s = true ∧ (Cond.arrayOf (Term.field (Term.string "SchemaWorkshop$Lexemes" 113) "java/lang/String" "value" "[B") .byte).before A s = true ∧ (Cond.eq (.length (Term.field (Term.string "SchemaWorkshop$Lexemes" 113) "java/lang/String" "value" "[B")) (.int (Int32.ofNat (sLen 47)))).before A s = true ∧ ∀ j : Nat, j < sLen 47 → (Cond.eq (.elem (Term.field (Term.string "SchemaWorkshop$Lexemes" 113) "java/lang/String" "value" "[B") (.int (Int32.ofNat j))) (.int (Int32.ofInt (sByt 47 j)))).before A s = true := by
  refine ⟨(bl (bl (br (br (bl (br (br (bl (bl (br h)))))))))), (br (bl (br (br (bl (br (br (bl (bl (br h)))))))))), (bl (br (br (br (bl (br (br (bl (bl (br h)))))))))), (bl (br (br (br (br (bl (br (br (bl (bl (br h))))))))))), fun j hj => ?_⟩
  match j, hj with
  | 0, _ => exact (br (br (br (br (br (bl (br (br (bl (bl (br h)))))))))))
  | 1, _ => exact (bl (bl (bl (bl (br (br (br (bl (bl (br h))))))))))
  | 2, _ => exact (br (bl (bl (bl (br (br (br (bl (bl (br h))))))))))
  | 3, _ => exact (bl (br (bl (bl (br (br (br (bl (bl (br h))))))))))
  | 4, _ => exact (br (br (bl (bl (br (br (br (bl (bl (br h))))))))))
  | 5, _ => exact (bl (bl (br (bl (br (br (br (bl (bl (br h))))))))))
  | j + 6, hj => exact absurd hj (by have : sLen 47 = 6 := rfl; omega)
theorem ns_48 {A : Array Value} {s : State} (h : narrow_1.before A s = true) : (Cond.exactly (Term.string "SchemaWorkshop$Lexemes" 115) "java/lang/String").before A s = true ∧ (Cond.eq (.field (Term.string "SchemaWorkshop$Lexemes" 115) "java/lang/String" "coder" "B") (.int 0)).before A s = true ∧ (Cond.arrayOf (Term.field (Term.string "SchemaWorkshop$Lexemes" 115) "java/lang/String" "value" "[B") .byte).before A s = true ∧ (Cond.eq (.length (Term.field (Term.string "SchemaWorkshop$Lexemes" 115) "java/lang/String" "value" "[B")) (.int (Int32.ofNat (sLen 48)))).before A s = true ∧ ∀ j : Nat, j < sLen 48 → (Cond.eq (.elem (Term.field (Term.string "SchemaWorkshop$Lexemes" 115) "java/lang/String" "value" "[B") (.int (Int32.ofNat j))) (.int (Int32.ofInt (sByt 48 j)))).before A s = true := by
  refine ⟨(br (bl (br (bl (br (br (br (bl (bl (br h)))))))))), (bl (br (br (bl (br (br (br (bl (bl (br h)))))))))), (br (br (br (bl (br (br (br (bl (bl (br h)))))))))), (bl (bl (bl (br (br (br (br (bl (bl (br h)))))))))), fun j hj => ?_⟩
  match j, hj with
  | 0, _ => exact (br (bl (bl (br (br (br (br (bl (bl (br h))))))))))
  | 1, _ => exact (bl (br (bl (br (br (br (br (bl (bl (br h))))))))))
  | 2, _ => exact (br (br (bl (br (br (br (br (bl (bl (br h))))))))))
  | 3, _ => exact (bl (bl (br (br (br (br (br (bl (bl (br h))))))))))
  | 4, _ => exact (br (bl (br (br (br (br (br (bl (bl (br h))))))))))
  | j + 5, hj => exact absurd hj (by have : sLen 48 = 5 := rfl; omega)
theorem ns_49 {A : Array Value} {s : State} (h : narrow_1.before A s = true) : (Cond.exactly (Term.string "SchemaWorkshop$Lexemes" 117) "java/lang/String").before A s = true ∧ (Cond.eq (.field (Term.string "SchemaWorkshop$Lexemes" 117) "java/lang/String" "coder" "B") (.int 0)).before A s = true ∧ (Cond.arrayOf (Term.field (Term.string "SchemaWorkshop$Lexemes" 117) "java/lang/String" "value" "[B") .byte).before A s = true ∧ (Cond.eq (.length (Term.field (Term.string "SchemaWorkshop$Lexemes" 117) "java/lang/String" "value" "[B")) (.int (Int32.ofNat (sLen 49)))).before A s = true ∧ ∀ j : Nat, j < sLen 49 → (Cond.eq (.elem (Term.field (Term.string "SchemaWorkshop$Lexemes" 117) "java/lang/String" "value" "[B") (.int (Int32.ofNat j))) (.int (Int32.ofInt (sByt 49 j)))).before A s = true := by
  refine ⟨(bl (br (br (br (br (br (br (bl (bl (br h)))))))))), (bl (br (br (br (br (br (br (br (bl (bl (br h))))))))))), (br (br (br (br (br (br (br (br (bl (bl (br h))))))))))), (bl (bl (bl (bl (bl (bl (bl (br (bl (br h)))))))))), fun j hj => ?_⟩
  match j, hj with
  | 0, _ => exact (br (bl (bl (bl (bl (bl (bl (br (bl (br h))))))))))
  | 1, _ => exact (bl (br (bl (bl (bl (bl (bl (br (bl (br h))))))))))
  | j + 2, hj => exact absurd hj (by have : sLen 49 = 2 := rfl; omega)
theorem ns_50 {A : Array Value} {s : State} (h : narrow_1.before A s = true) : (Cond.exactly (Term.string "SchemaWorkshop$Lexemes" 119) "java/lang/String").before A s = true ∧ (Cond.eq (.field (Term.string "SchemaWorkshop$Lexemes" 119) "java/lang/String" "coder" "B") (.int 0)).before A s = true ∧ (Cond.arrayOf (Term.field (Term.string "SchemaWorkshop$Lexemes" 119) "java/lang/String" "value" "[B") .byte).before A s = true ∧ (Cond.eq (.length (Term.field (Term.string "SchemaWorkshop$Lexemes" 119) "java/lang/String" "value" "[B")) (.int (Int32.ofNat (sLen 50)))).before A s = true ∧ ∀ j : Nat, j < sLen 50 → (Cond.eq (.elem (Term.field (Term.string "SchemaWorkshop$Lexemes" 119) "java/lang/String" "value" "[B") (.int (Int32.ofNat j))) (.int (Int32.ofInt (sByt 50 j)))).before A s = true := by
  refine ⟨(br (br (bl (bl (bl (bl (bl (br (bl (br h)))))))))), (bl (bl (br (bl (bl (bl (bl (br (bl (br h)))))))))), (br (bl (br (bl (bl (bl (bl (br (bl (br h)))))))))), (bl (br (br (bl (bl (bl (bl (br (bl (br h)))))))))), fun j hj => ?_⟩
  match j, hj with
  | 0, _ => exact (br (br (br (bl (bl (bl (bl (br (bl (br h))))))))))
  | 1, _ => exact (bl (bl (bl (br (bl (bl (bl (br (bl (br h))))))))))
  | 2, _ => exact (br (bl (bl (br (bl (bl (bl (br (bl (br h))))))))))
  | 3, _ => exact (bl (br (bl (br (bl (bl (bl (br (bl (br h))))))))))
  | 4, _ => exact (br (br (bl (br (bl (bl (bl (br (bl (br h))))))))))
  | 5, _ => exact (bl (bl (br (br (bl (bl (bl (br (bl (br h))))))))))
  | 6, _ => exact (br (bl (br (br (bl (bl (bl (br (bl (br h))))))))))
  | 7, _ => exact (bl (br (br (br (bl (bl (bl (br (bl (br h))))))))))
  | j + 8, hj => exact absurd hj (by have : sLen 50 = 8 := rfl; omega)
theorem ns_51 {A : Array Value} {s : State} (h : narrow_1.before A s = true) : (Cond.exactly (Term.string "SchemaWorkshop$Lexemes" 121) "java/lang/String").before A s = true ∧ (Cond.eq (.field (Term.string "SchemaWorkshop$Lexemes" 121) "java/lang/String" "coder" "B") (.int 0)).before A s = true ∧ (Cond.arrayOf (Term.field (Term.string "SchemaWorkshop$Lexemes" 121) "java/lang/String" "value" "[B") .byte).before A s = true ∧ (Cond.eq (.length (Term.field (Term.string "SchemaWorkshop$Lexemes" 121) "java/lang/String" "value" "[B")) (.int (Int32.ofNat (sLen 51)))).before A s = true ∧ ∀ j : Nat, j < sLen 51 → (Cond.eq (.elem (Term.field (Term.string "SchemaWorkshop$Lexemes" 121) "java/lang/String" "value" "[B") (.int (Int32.ofNat j))) (.int (Int32.ofInt (sByt 51 j)))).before A s = true := by
  refine ⟨(br (br (br (br (bl (bl (bl (br (bl (br h)))))))))), (bl (bl (bl (bl (br (bl (bl (br (bl (br h)))))))))), (br (bl (bl (bl (br (bl (bl (br (bl (br h)))))))))), (bl (br (bl (bl (br (bl (bl (br (bl (br h)))))))))), fun j hj => ?_⟩
  match j, hj with
  | 0, _ => exact (br (br (bl (bl (br (bl (bl (br (bl (br h))))))))))
  | 1, _ => exact (bl (bl (br (bl (br (bl (bl (br (bl (br h))))))))))
  | 2, _ => exact (br (bl (br (bl (br (bl (bl (br (bl (br h))))))))))
  | 3, _ => exact (bl (br (br (bl (br (bl (bl (br (bl (br h))))))))))
  | 4, _ => exact (br (br (br (bl (br (bl (bl (br (bl (br h))))))))))
  | 5, _ => exact (bl (bl (bl (br (br (bl (bl (br (bl (br h))))))))))
  | 6, _ => exact (br (bl (bl (br (br (bl (bl (br (bl (br h))))))))))
  | 7, _ => exact (bl (br (bl (br (br (bl (bl (br (bl (br h))))))))))
  | 8, _ => exact (br (br (bl (br (br (bl (bl (br (bl (br h))))))))))
  | 9, _ => exact (bl (bl (br (br (br (bl (bl (br (bl (br h))))))))))
  | 10, _ => exact (br (bl (br (br (br (bl (bl (br (bl (br h))))))))))
  | 11, _ => exact (bl (br (br (br (br (bl (bl (br (bl (br h))))))))))
  | 12, _ => exact (bl (br (br (br (br (br (bl (bl (br (bl (br h)))))))))))
  | 13, _ => exact (br (br (br (br (br (br (bl (bl (br (bl (br h)))))))))))
  | 14, _ => exact (bl (bl (bl (bl (bl (br (bl (br (bl (br h))))))))))
  | 15, _ => exact (br (bl (bl (bl (bl (br (bl (br (bl (br h))))))))))
  | j + 16, hj => exact absurd hj (by have : sLen 51 = 16 := rfl; omega)
theorem ns_52 {A : Array Value} {s : State} (h : narrow_1.before A s = true) : (Cond.exactly (Term.string "SchemaWorkshop$Lexemes" 123) "java/lang/String").before A s = true ∧ (Cond.eq (.field (Term.string "SchemaWorkshop$Lexemes" 123) "java/lang/String" "coder" "B") (.int 0)).before A s = true ∧ (Cond.arrayOf (Term.field (Term.string "SchemaWorkshop$Lexemes" 123) "java/lang/String" "value" "[B") .byte).before A s = true ∧ (Cond.eq (.length (Term.field (Term.string "SchemaWorkshop$Lexemes" 123) "java/lang/String" "value" "[B")) (.int (Int32.ofNat (sLen 52)))).before A s = true ∧ ∀ j : Nat, j < sLen 52 → (Cond.eq (.elem (Term.field (Term.string "SchemaWorkshop$Lexemes" 123) "java/lang/String" "value" "[B") (.int (Int32.ofNat j))) (.int (Int32.ofInt (sByt 52 j)))).before A s = true := by
  refine ⟨(bl (br (bl (bl (bl (br (bl (br (bl (br h)))))))))), (br (br (bl (bl (bl (br (bl (br (bl (br h)))))))))), (bl (bl (br (bl (bl (br (bl (br (bl (br h)))))))))), (br (bl (br (bl (bl (br (bl (br (bl (br h)))))))))), fun j hj => ?_⟩
  match j, hj with
  | 0, _ => exact (bl (br (br (bl (bl (br (bl (br (bl (br h))))))))))
  | 1, _ => exact (br (br (br (bl (bl (br (bl (br (bl (br h))))))))))
  | 2, _ => exact (bl (bl (bl (br (bl (br (bl (br (bl (br h))))))))))
  | j + 3, hj => exact absurd hj (by have : sLen 52 = 3 := rfl; omega)
theorem ns_53 {A : Array Value} {s : State} (h : narrow_1.before A s = true) : (Cond.exactly (Term.string "SchemaWorkshop$Lexemes" 125) "java/lang/String").before A s = true ∧ (Cond.eq (.field (Term.string "SchemaWorkshop$Lexemes" 125) "java/lang/String" "coder" "B") (.int 0)).before A s = true ∧ (Cond.arrayOf (Term.field (Term.string "SchemaWorkshop$Lexemes" 125) "java/lang/String" "value" "[B") .byte).before A s = true ∧ (Cond.eq (.length (Term.field (Term.string "SchemaWorkshop$Lexemes" 125) "java/lang/String" "value" "[B")) (.int (Int32.ofNat (sLen 53)))).before A s = true ∧ ∀ j : Nat, j < sLen 53 → (Cond.eq (.elem (Term.field (Term.string "SchemaWorkshop$Lexemes" 125) "java/lang/String" "value" "[B") (.int (Int32.ofNat j))) (.int (Int32.ofInt (sByt 53 j)))).before A s = true := by
  refine ⟨(br (bl (bl (br (bl (br (bl (br (bl (br h)))))))))), (bl (br (bl (br (bl (br (bl (br (bl (br h)))))))))), (br (br (bl (br (bl (br (bl (br (bl (br h)))))))))), (bl (bl (br (br (bl (br (bl (br (bl (br h)))))))))), fun j hj => ?_⟩
  match j, hj with
  | 0, _ => exact (br (bl (br (br (bl (br (bl (br (bl (br h))))))))))
  | 1, _ => exact (bl (br (br (br (bl (br (bl (br (bl (br h))))))))))
  | 2, _ => exact (br (br (br (br (bl (br (bl (br (bl (br h))))))))))
  | 3, _ => exact (bl (bl (bl (bl (br (br (bl (br (bl (br h))))))))))
  | 4, _ => exact (br (bl (bl (bl (br (br (bl (br (bl (br h))))))))))
  | 5, _ => exact (bl (br (bl (bl (br (br (bl (br (bl (br h))))))))))
  | 6, _ => exact (br (br (bl (bl (br (br (bl (br (bl (br h))))))))))
  | 7, _ => exact (bl (bl (br (bl (br (br (bl (br (bl (br h))))))))))
  | 8, _ => exact (br (bl (br (bl (br (br (bl (br (bl (br h))))))))))
  | 9, _ => exact (bl (br (br (bl (br (br (bl (br (bl (br h))))))))))
  | 10, _ => exact (br (br (br (bl (br (br (bl (br (bl (br h))))))))))
  | 11, _ => exact (bl (bl (bl (br (br (br (bl (br (bl (br h))))))))))
  | 12, _ => exact (br (bl (bl (br (br (br (bl (br (bl (br h))))))))))
  | j + 13, hj => exact absurd hj (by have : sLen 53 = 13 := rfl; omega)
theorem ns_54 {A : Array Value} {s : State} (h : narrow_1.before A s = true) : (Cond.exactly (Term.string "SchemaWorkshop$Lexemes" 127) "java/lang/String").before A s = true ∧ (Cond.eq (.field (Term.string "SchemaWorkshop$Lexemes" 127) "java/lang/String" "coder" "B") (.int 0)).before A s = true ∧ (Cond.arrayOf (Term.field (Term.string "SchemaWorkshop$Lexemes" 127) "java/lang/String" "value" "[B") .byte).before A s = true ∧ (Cond.eq (.length (Term.field (Term.string "SchemaWorkshop$Lexemes" 127) "java/lang/String" "value" "[B")) (.int (Int32.ofNat (sLen 54)))).before A s = true ∧ ∀ j : Nat, j < sLen 54 → (Cond.eq (.elem (Term.field (Term.string "SchemaWorkshop$Lexemes" 127) "java/lang/String" "value" "[B") (.int (Int32.ofNat j))) (.int (Int32.ofInt (sByt 54 j)))).before A s = true := by
  refine ⟨(bl (br (bl (br (br (br (bl (br (bl (br h)))))))))), (br (br (bl (br (br (br (bl (br (bl (br h)))))))))), (bl (bl (br (br (br (br (bl (br (bl (br h)))))))))), (br (bl (br (br (br (br (bl (br (bl (br h)))))))))), fun j hj => ?_⟩
  match j, hj with
  | 0, _ => exact (bl (br (br (br (br (br (bl (br (bl (br h))))))))))
  | 1, _ => exact (bl (br (br (br (br (br (br (bl (br (bl (br h)))))))))))
  | 2, _ => exact (br (br (br (br (br (br (br (bl (br (bl (br h)))))))))))
  | 3, _ => exact (bl (bl (bl (bl (bl (bl (br (br (bl (br h))))))))))
  | 4, _ => exact (br (bl (bl (bl (bl (bl (br (br (bl (br h))))))))))
  | 5, _ => exact (bl (br (bl (bl (bl (bl (br (br (bl (br h))))))))))
  | 6, _ => exact (br (br (bl (bl (bl (bl (br (br (bl (br h))))))))))
  | j + 7, hj => exact absurd hj (by have : sLen 54 = 7 := rfl; omega)
theorem ns_55 {A : Array Value} {s : State} (h : narrow_1.before A s = true) : (Cond.exactly (Term.string "SchemaWorkshop$Lexemes" 129) "java/lang/String").before A s = true ∧ (Cond.eq (.field (Term.string "SchemaWorkshop$Lexemes" 129) "java/lang/String" "coder" "B") (.int 0)).before A s = true ∧ (Cond.arrayOf (Term.field (Term.string "SchemaWorkshop$Lexemes" 129) "java/lang/String" "value" "[B") .byte).before A s = true ∧ (Cond.eq (.length (Term.field (Term.string "SchemaWorkshop$Lexemes" 129) "java/lang/String" "value" "[B")) (.int (Int32.ofNat (sLen 55)))).before A s = true ∧ ∀ j : Nat, j < sLen 55 → (Cond.eq (.elem (Term.field (Term.string "SchemaWorkshop$Lexemes" 129) "java/lang/String" "value" "[B") (.int (Int32.ofNat j))) (.int (Int32.ofInt (sByt 55 j)))).before A s = true := by
  refine ⟨(bl (bl (br (bl (bl (bl (br (br (bl (br h)))))))))), (br (bl (br (bl (bl (bl (br (br (bl (br h)))))))))), (bl (br (br (bl (bl (bl (br (br (bl (br h)))))))))), (br (br (br (bl (bl (bl (br (br (bl (br h)))))))))), fun j hj => ?_⟩
  match j, hj with
  | 0, _ => exact (bl (bl (bl (br (bl (bl (br (br (bl (br h))))))))))
  | 1, _ => exact (br (bl (bl (br (bl (bl (br (br (bl (br h))))))))))
  | 2, _ => exact (bl (br (bl (br (bl (bl (br (br (bl (br h))))))))))
  | 3, _ => exact (br (br (bl (br (bl (bl (br (br (bl (br h))))))))))
  | 4, _ => exact (bl (bl (br (br (bl (bl (br (br (bl (br h))))))))))
  | 5, _ => exact (br (bl (br (br (bl (bl (br (br (bl (br h))))))))))
  | 6, _ => exact (bl (br (br (br (bl (bl (br (br (bl (br h))))))))))
  | j + 7, hj => exact absurd hj (by have : sLen 55 = 7 := rfl; omega)
theorem ns_56 {A : Array Value} {s : State} (h : narrow_1.before A s = true) : (Cond.exactly (Term.string "SchemaWorkshop$Lexemes" 131) "java/lang/String").before A s = true ∧ (Cond.eq (.field (Term.string "SchemaWorkshop$Lexemes" 131) "java/lang/String" "coder" "B") (.int 0)).before A s = true ∧ (Cond.arrayOf (Term.field (Term.string "SchemaWorkshop$Lexemes" 131) "java/lang/String" "value" "[B") .byte).before A s = true ∧ (Cond.eq (.length (Term.field (Term.string "SchemaWorkshop$Lexemes" 131) "java/lang/String" "value" "[B")) (.int (Int32.ofNat (sLen 56)))).before A s = true ∧ ∀ j : Nat, j < sLen 56 → (Cond.eq (.elem (Term.field (Term.string "SchemaWorkshop$Lexemes" 131) "java/lang/String" "value" "[B") (.int (Int32.ofNat j))) (.int (Int32.ofInt (sByt 56 j)))).before A s = true := by
  refine ⟨(br (br (br (br (bl (bl (br (br (bl (br h)))))))))), (bl (bl (bl (bl (br (bl (br (br (bl (br h)))))))))), (br (bl (bl (bl (br (bl (br (br (bl (br h)))))))))), (bl (br (bl (bl (br (bl (br (br (bl (br h)))))))))), fun j hj => ?_⟩
  match j, hj with
  | 0, _ => exact (br (br (bl (bl (br (bl (br (br (bl (br h))))))))))
  | 1, _ => exact (bl (bl (br (bl (br (bl (br (br (bl (br h))))))))))
  | 2, _ => exact (br (bl (br (bl (br (bl (br (br (bl (br h))))))))))
  | 3, _ => exact (bl (br (br (bl (br (bl (br (br (bl (br h))))))))))
  | 4, _ => exact (br (br (br (bl (br (bl (br (br (bl (br h))))))))))
  | 5, _ => exact (bl (bl (bl (br (br (bl (br (br (bl (br h))))))))))
  | 6, _ => exact (br (bl (bl (br (br (bl (br (br (bl (br h))))))))))
  | 7, _ => exact (bl (br (bl (br (br (bl (br (br (bl (br h))))))))))
  | 8, _ => exact (br (br (bl (br (br (bl (br (br (bl (br h))))))))))
  | 9, _ => exact (bl (bl (br (br (br (bl (br (br (bl (br h))))))))))
  | 10, _ => exact (br (bl (br (br (br (bl (br (br (bl (br h))))))))))
  | 11, _ => exact (bl (br (br (br (br (bl (br (br (bl (br h))))))))))
  | 12, _ => exact (bl (br (br (br (br (br (bl (br (br (bl (br h)))))))))))
  | 13, _ => exact (br (br (br (br (br (br (bl (br (br (bl (br h)))))))))))
  | 14, _ => exact (bl (bl (bl (bl (bl (br (br (br (bl (br h))))))))))
  | j + 15, hj => exact absurd hj (by have : sLen 56 = 15 := rfl; omega)
theorem ns_57 {A : Array Value} {s : State} (h : narrow_1.before A s = true) : (Cond.exactly (Term.string "SchemaWorkshop$Lexemes" 133) "java/lang/String").before A s = true ∧ (Cond.eq (.field (Term.string "SchemaWorkshop$Lexemes" 133) "java/lang/String" "coder" "B") (.int 0)).before A s = true ∧ (Cond.arrayOf (Term.field (Term.string "SchemaWorkshop$Lexemes" 133) "java/lang/String" "value" "[B") .byte).before A s = true ∧ (Cond.eq (.length (Term.field (Term.string "SchemaWorkshop$Lexemes" 133) "java/lang/String" "value" "[B")) (.int (Int32.ofNat (sLen 57)))).before A s = true ∧ ∀ j : Nat, j < sLen 57 → (Cond.eq (.elem (Term.field (Term.string "SchemaWorkshop$Lexemes" 133) "java/lang/String" "value" "[B") (.int (Int32.ofNat j))) (.int (Int32.ofInt (sByt 57 j)))).before A s = true := by
  refine ⟨(br (bl (bl (bl (bl (br (br (br (bl (br h)))))))))), (bl (br (bl (bl (bl (br (br (br (bl (br h)))))))))), (br (br (bl (bl (bl (br (br (br (bl (br h)))))))))), (bl (bl (br (bl (bl (br (br (br (bl (br h)))))))))), fun j hj => ?_⟩
  match j, hj with
  | 0, _ => exact (br (bl (br (bl (bl (br (br (br (bl (br h))))))))))
  | 1, _ => exact (bl (br (br (bl (bl (br (br (br (bl (br h))))))))))
  | 2, _ => exact (br (br (br (bl (bl (br (br (br (bl (br h))))))))))
  | 3, _ => exact (bl (bl (bl (br (bl (br (br (br (bl (br h))))))))))
  | j + 4, hj => exact absurd hj (by have : sLen 57 = 4 := rfl; omega)
theorem ns_58 {A : Array Value} {s : State} (h : narrow_1.before A s = true) : (Cond.exactly (Term.string "SchemaWorkshop$Lexemes" 135) "java/lang/String").before A s = true ∧ (Cond.eq (.field (Term.string "SchemaWorkshop$Lexemes" 135) "java/lang/String" "coder" "B") (.int 0)).before A s = true ∧ (Cond.arrayOf (Term.field (Term.string "SchemaWorkshop$Lexemes" 135) "java/lang/String" "value" "[B") .byte).before A s = true ∧ (Cond.eq (.length (Term.field (Term.string "SchemaWorkshop$Lexemes" 135) "java/lang/String" "value" "[B")) (.int (Int32.ofNat (sLen 58)))).before A s = true ∧ ∀ j : Nat, j < sLen 58 → (Cond.eq (.elem (Term.field (Term.string "SchemaWorkshop$Lexemes" 135) "java/lang/String" "value" "[B") (.int (Int32.ofNat j))) (.int (Int32.ofInt (sByt 58 j)))).before A s = true := by
  refine ⟨(br (bl (bl (br (bl (br (br (br (bl (br h)))))))))), (bl (br (bl (br (bl (br (br (br (bl (br h)))))))))), (br (br (bl (br (bl (br (br (br (bl (br h)))))))))), (bl (bl (br (br (bl (br (br (br (bl (br h)))))))))), fun j hj => ?_⟩
  match j, hj with
  | 0, _ => exact (br (bl (br (br (bl (br (br (br (bl (br h))))))))))
  | 1, _ => exact (bl (br (br (br (bl (br (br (br (bl (br h))))))))))
  | 2, _ => exact (bl (br (br (br (br (bl (br (br (br (bl (br h)))))))))))
  | 3, _ => exact (br (br (br (br (br (bl (br (br (br (bl (br h)))))))))))
  | 4, _ => exact (bl (bl (bl (bl (br (br (br (br (bl (br h))))))))))
  | 5, _ => exact (br (bl (bl (bl (br (br (br (br (bl (br h))))))))))
  | 6, _ => exact (bl (br (bl (bl (br (br (br (br (bl (br h))))))))))
  | 7, _ => exact (br (br (bl (bl (br (br (br (br (bl (br h))))))))))
  | 8, _ => exact (bl (bl (br (bl (br (br (br (br (bl (br h))))))))))
  | 9, _ => exact (br (bl (br (bl (br (br (br (br (bl (br h))))))))))
  | 10, _ => exact (bl (br (br (bl (br (br (br (br (bl (br h))))))))))
  | 11, _ => exact (br (br (br (bl (br (br (br (br (bl (br h))))))))))
  | j + 12, hj => exact absurd hj (by have : sLen 58 = 12 := rfl; omega)
theorem ns_59 {A : Array Value} {s : State} (h : narrow_1.before A s = true) : (Cond.exactly (Term.string "SchemaWorkshop$Lexemes" 137) "java/lang/String").before A s = true ∧ (Cond.eq (.field (Term.string "SchemaWorkshop$Lexemes" 137) "java/lang/String" "coder" "B") (.int 0)).before A s = true ∧ (Cond.arrayOf (Term.field (Term.string "SchemaWorkshop$Lexemes" 137) "java/lang/String" "value" "[B") .byte).before A s = true ∧ (Cond.eq (.length (Term.field (Term.string "SchemaWorkshop$Lexemes" 137) "java/lang/String" "value" "[B")) (.int (Int32.ofNat (sLen 59)))).before A s = true ∧ ∀ j : Nat, j < sLen 59 → (Cond.eq (.elem (Term.field (Term.string "SchemaWorkshop$Lexemes" 137) "java/lang/String" "value" "[B") (.int (Int32.ofNat j))) (.int (Int32.ofInt (sByt 59 j)))).before A s = true := by
  refine ⟨(bl (bl (bl (br (br (br (br (br (bl (br h)))))))))), (br (bl (bl (br (br (br (br (br (bl (br h)))))))))), (bl (br (bl (br (br (br (br (br (bl (br h)))))))))), (br (br (bl (br (br (br (br (br (bl (br h)))))))))), fun j hj => ?_⟩
  match j, hj with
  | 0, _ => exact (bl (bl (br (br (br (br (br (br (bl (br h))))))))))
  | 1, _ => exact (br (bl (br (br (br (br (br (br (bl (br h))))))))))
  | 2, _ => exact (bl (br (br (br (br (br (br (br (bl (br h))))))))))
  | 3, _ => exact (bl (br (br (br (br (br (br (br (br (bl (br h)))))))))))
  | 4, _ => exact (br (br (br (br (br (br (br (br (br (bl (br h)))))))))))
  | 5, _ => exact (bl (bl (bl (bl (bl (bl (bl (bl (br (br h))))))))))
  | 6, _ => exact (br (bl (bl (bl (bl (bl (bl (bl (br (br h))))))))))
  | 7, _ => exact (bl (br (bl (bl (bl (bl (bl (bl (br (br h))))))))))
  | j + 8, hj => exact absurd hj (by have : sLen 59 = 8 := rfl; omega)
theorem ns_60 {A : Array Value} {s : State} (h : narrow_1.before A s = true) : (Cond.exactly (Term.string "SchemaWorkshop$Lexemes" 139) "java/lang/String").before A s = true ∧ (Cond.eq (.field (Term.string "SchemaWorkshop$Lexemes" 139) "java/lang/String" "coder" "B") (.int 0)).before A s = true ∧ (Cond.arrayOf (Term.field (Term.string "SchemaWorkshop$Lexemes" 139) "java/lang/String" "value" "[B") .byte).before A s = true ∧ (Cond.eq (.length (Term.field (Term.string "SchemaWorkshop$Lexemes" 139) "java/lang/String" "value" "[B")) (.int (Int32.ofNat (sLen 60)))).before A s = true ∧ ∀ j : Nat, j < sLen 60 → (Cond.eq (.elem (Term.field (Term.string "SchemaWorkshop$Lexemes" 139) "java/lang/String" "value" "[B") (.int (Int32.ofNat j))) (.int (Int32.ofInt (sByt 60 j)))).before A s = true := by
  refine ⟨(br (br (bl (bl (bl (bl (bl (bl (br (br h)))))))))), (bl (bl (br (bl (bl (bl (bl (bl (br (br h)))))))))), (br (bl (br (bl (bl (bl (bl (bl (br (br h)))))))))), (bl (br (br (bl (bl (bl (bl (bl (br (br h)))))))))), fun j hj => ?_⟩
  match j, hj with
  | 0, _ => exact (br (br (br (bl (bl (bl (bl (bl (br (br h))))))))))
  | 1, _ => exact (bl (bl (bl (br (bl (bl (bl (bl (br (br h))))))))))
  | 2, _ => exact (br (bl (bl (br (bl (bl (bl (bl (br (br h))))))))))
  | j + 3, hj => exact absurd hj (by have : sLen 60 = 3 := rfl; omega)
theorem ns_61 {A : Array Value} {s : State} (h : narrow_1.before A s = true) : (Cond.exactly (Term.string "SchemaWorkshop$Lexemes" 141) "java/lang/String").before A s = true ∧ (Cond.eq (.field (Term.string "SchemaWorkshop$Lexemes" 141) "java/lang/String" "coder" "B") (.int 0)).before A s = true ∧ (Cond.arrayOf (Term.field (Term.string "SchemaWorkshop$Lexemes" 141) "java/lang/String" "value" "[B") .byte).before A s = true ∧ (Cond.eq (.length (Term.field (Term.string "SchemaWorkshop$Lexemes" 141) "java/lang/String" "value" "[B")) (.int (Int32.ofNat (sLen 61)))).before A s = true ∧ ∀ j : Nat, j < sLen 61 → (Cond.eq (.elem (Term.field (Term.string "SchemaWorkshop$Lexemes" 141) "java/lang/String" "value" "[B") (.int (Int32.ofNat j))) (.int (Int32.ofInt (sByt 61 j)))).before A s = true := by
  refine ⟨(bl (br (bl (br (bl (bl (bl (bl (br (br h)))))))))), (br (br (bl (br (bl (bl (bl (bl (br (br h)))))))))), (bl (bl (br (br (bl (bl (bl (bl (br (br h)))))))))), (br (bl (br (br (bl (bl (bl (bl (br (br h)))))))))), fun j hj => ?_⟩
  match j, hj with
  | 0, _ => exact (bl (br (br (br (bl (bl (bl (bl (br (br h))))))))))
  | 1, _ => exact (br (br (br (br (bl (bl (bl (bl (br (br h))))))))))
  | 2, _ => exact (bl (bl (bl (bl (br (bl (bl (bl (br (br h))))))))))
  | 3, _ => exact (br (bl (bl (bl (br (bl (bl (bl (br (br h))))))))))
  | j + 4, hj => exact absurd hj (by have : sLen 61 = 4 := rfl; omega)
theorem ns_62 {A : Array Value} {s : State} (h : narrow_1.before A s = true) : (Cond.exactly (Term.string "SchemaWorkshop$Lexemes" 143) "java/lang/String").before A s = true ∧ (Cond.eq (.field (Term.string "SchemaWorkshop$Lexemes" 143) "java/lang/String" "coder" "B") (.int 0)).before A s = true ∧ (Cond.arrayOf (Term.field (Term.string "SchemaWorkshop$Lexemes" 143) "java/lang/String" "value" "[B") .byte).before A s = true ∧ (Cond.eq (.length (Term.field (Term.string "SchemaWorkshop$Lexemes" 143) "java/lang/String" "value" "[B")) (.int (Int32.ofNat (sLen 62)))).before A s = true ∧ ∀ j : Nat, j < sLen 62 → (Cond.eq (.elem (Term.field (Term.string "SchemaWorkshop$Lexemes" 143) "java/lang/String" "value" "[B") (.int (Int32.ofNat j))) (.int (Int32.ofInt (sByt 62 j)))).before A s = true := by
  refine ⟨(bl (br (bl (bl (br (bl (bl (bl (br (br h)))))))))), (br (br (bl (bl (br (bl (bl (bl (br (br h)))))))))), (bl (bl (br (bl (br (bl (bl (bl (br (br h)))))))))), (br (bl (br (bl (br (bl (bl (bl (br (br h)))))))))), fun j hj => ?_⟩
  match j, hj with
  | 0, _ => exact (bl (br (br (bl (br (bl (bl (bl (br (br h))))))))))
  | 1, _ => exact (br (br (br (bl (br (bl (bl (bl (br (br h))))))))))
  | 2, _ => exact (bl (bl (bl (br (br (bl (bl (bl (br (br h))))))))))
  | 3, _ => exact (br (bl (bl (br (br (bl (bl (bl (br (br h))))))))))
  | 4, _ => exact (bl (br (bl (br (br (bl (bl (bl (br (br h))))))))))
  | 5, _ => exact (br (br (bl (br (br (bl (bl (bl (br (br h))))))))))
  | j + 6, hj => exact absurd hj (by have : sLen 62 = 6 := rfl; omega)
theorem ns_63 {A : Array Value} {s : State} (h : narrow_1.before A s = true) : (Cond.exactly (Term.string "SchemaWorkshop$Lexemes" 145) "java/lang/String").before A s = true ∧ (Cond.eq (.field (Term.string "SchemaWorkshop$Lexemes" 145) "java/lang/String" "coder" "B") (.int 0)).before A s = true ∧ (Cond.arrayOf (Term.field (Term.string "SchemaWorkshop$Lexemes" 145) "java/lang/String" "value" "[B") .byte).before A s = true ∧ (Cond.eq (.length (Term.field (Term.string "SchemaWorkshop$Lexemes" 145) "java/lang/String" "value" "[B")) (.int (Int32.ofNat (sLen 63)))).before A s = true ∧ ∀ j : Nat, j < sLen 63 → (Cond.eq (.elem (Term.field (Term.string "SchemaWorkshop$Lexemes" 145) "java/lang/String" "value" "[B") (.int (Int32.ofNat j))) (.int (Int32.ofInt (sByt 63 j)))).before A s = true := by
  refine ⟨(bl (bl (br (br (br (bl (bl (bl (br (br h)))))))))), (br (bl (br (br (br (bl (bl (bl (br (br h)))))))))), (bl (br (br (br (br (bl (bl (bl (br (br h)))))))))), (bl (br (br (br (br (br (bl (bl (bl (br (br h))))))))))), fun j hj => ?_⟩
  match j, hj with
  | 0, _ => exact (br (br (br (br (br (br (bl (bl (bl (br (br h)))))))))))
  | 1, _ => exact (bl (bl (bl (bl (bl (br (bl (bl (br (br h))))))))))
  | 2, _ => exact (br (bl (bl (bl (bl (br (bl (bl (br (br h))))))))))
  | 3, _ => exact (bl (br (bl (bl (bl (br (bl (bl (br (br h))))))))))
  | 4, _ => exact (br (br (bl (bl (bl (br (bl (bl (br (br h))))))))))
  | 5, _ => exact (bl (bl (br (bl (bl (br (bl (bl (br (br h))))))))))
  | j + 6, hj => exact absurd hj (by have : sLen 63 = 6 := rfl; omega)
theorem ns_64 {A : Array Value} {s : State} (h : narrow_1.before A s = true) : (Cond.exactly (Term.string "SchemaWorkshop$Lexemes" 147) "java/lang/String").before A s = true ∧ (Cond.eq (.field (Term.string "SchemaWorkshop$Lexemes" 147) "java/lang/String" "coder" "B") (.int 0)).before A s = true ∧ (Cond.arrayOf (Term.field (Term.string "SchemaWorkshop$Lexemes" 147) "java/lang/String" "value" "[B") .byte).before A s = true ∧ (Cond.eq (.length (Term.field (Term.string "SchemaWorkshop$Lexemes" 147) "java/lang/String" "value" "[B")) (.int (Int32.ofNat (sLen 64)))).before A s = true ∧ ∀ j : Nat, j < sLen 64 → (Cond.eq (.elem (Term.field (Term.string "SchemaWorkshop$Lexemes" 147) "java/lang/String" "value" "[B") (.int (Int32.ofNat j))) (.int (Int32.ofInt (sByt 64 j)))).before A s = true := by
  refine ⟨(br (bl (br (bl (bl (br (bl (bl (br (br h)))))))))), (bl (br (br (bl (bl (br (bl (bl (br (br h)))))))))), (br (br (br (bl (bl (br (bl (bl (br (br h)))))))))), (bl (bl (bl (br (bl (br (bl (bl (br (br h)))))))))), fun j hj => ?_⟩
  match j, hj with
  | 0, _ => exact (br (bl (bl (br (bl (br (bl (bl (br (br h))))))))))
  | 1, _ => exact (bl (br (bl (br (bl (br (bl (bl (br (br h))))))))))
  | 2, _ => exact (br (br (bl (br (bl (br (bl (bl (br (br h))))))))))
  | 3, _ => exact (bl (bl (br (br (bl (br (bl (bl (br (br h))))))))))
  | 4, _ => exact (br (bl (br (br (bl (br (bl (bl (br (br h))))))))))
  | 5, _ => exact (bl (br (br (br (bl (br (bl (bl (br (br h))))))))))
  | 6, _ => exact (br (br (br (br (bl (br (bl (bl (br (br h))))))))))
  | 7, _ => exact (bl (bl (bl (bl (br (br (bl (bl (br (br h))))))))))
  | 8, _ => exact (br (bl (bl (bl (br (br (bl (bl (br (br h))))))))))
  | j + 9, hj => exact absurd hj (by have : sLen 64 = 9 := rfl; omega)
theorem ns_65 {A : Array Value} {s : State} (h : narrow_1.before A s = true) : (Cond.exactly (Term.string "SchemaWorkshop$Lexemes" 149) "java/lang/String").before A s = true ∧ (Cond.eq (.field (Term.string "SchemaWorkshop$Lexemes" 149) "java/lang/String" "coder" "B") (.int 0)).before A s = true ∧ (Cond.arrayOf (Term.field (Term.string "SchemaWorkshop$Lexemes" 149) "java/lang/String" "value" "[B") .byte).before A s = true ∧ (Cond.eq (.length (Term.field (Term.string "SchemaWorkshop$Lexemes" 149) "java/lang/String" "value" "[B")) (.int (Int32.ofNat (sLen 65)))).before A s = true ∧ ∀ j : Nat, j < sLen 65 → (Cond.eq (.elem (Term.field (Term.string "SchemaWorkshop$Lexemes" 149) "java/lang/String" "value" "[B") (.int (Int32.ofNat j))) (.int (Int32.ofInt (sByt 65 j)))).before A s = true := by
  refine ⟨(bl (br (bl (bl (br (br (bl (bl (br (br h)))))))))), (br (br (bl (bl (br (br (bl (bl (br (br h)))))))))), (bl (bl (br (bl (br (br (bl (bl (br (br h)))))))))), (br (bl (br (bl (br (br (bl (bl (br (br h)))))))))), fun j hj => ?_⟩
  match j, hj with
  | 0, _ => exact (bl (br (br (bl (br (br (bl (bl (br (br h))))))))))
  | 1, _ => exact (br (br (br (bl (br (br (bl (bl (br (br h))))))))))
  | 2, _ => exact (bl (bl (bl (br (br (br (bl (bl (br (br h))))))))))
  | 3, _ => exact (br (bl (bl (br (br (br (bl (bl (br (br h))))))))))
  | j + 4, hj => exact absurd hj (by have : sLen 65 = 4 := rfl; omega)
theorem ns_66 {A : Array Value} {s : State} (h : narrow_1.before A s = true) : (Cond.exactly (Term.string "SchemaWorkshop$Lexemes" 151) "java/lang/String").before A s = true ∧ (Cond.eq (.field (Term.string "SchemaWorkshop$Lexemes" 151) "java/lang/String" "coder" "B") (.int 0)).before A s = true ∧ (Cond.arrayOf (Term.field (Term.string "SchemaWorkshop$Lexemes" 151) "java/lang/String" "value" "[B") .byte).before A s = true ∧ (Cond.eq (.length (Term.field (Term.string "SchemaWorkshop$Lexemes" 151) "java/lang/String" "value" "[B")) (.int (Int32.ofNat (sLen 66)))).before A s = true ∧ ∀ j : Nat, j < sLen 66 → (Cond.eq (.elem (Term.field (Term.string "SchemaWorkshop$Lexemes" 151) "java/lang/String" "value" "[B") (.int (Int32.ofNat j))) (.int (Int32.ofInt (sByt 66 j)))).before A s = true := by
  refine ⟨(bl (br (bl (br (br (br (bl (bl (br (br h)))))))))), (br (br (bl (br (br (br (bl (bl (br (br h)))))))))), (bl (bl (br (br (br (br (bl (bl (br (br h)))))))))), (br (bl (br (br (br (br (bl (bl (br (br h)))))))))), fun j hj => ?_⟩
  match j, hj with
  | 0, _ => exact (bl (br (br (br (br (br (bl (bl (br (br h))))))))))
  | 1, _ => exact (bl (br (br (br (br (br (br (bl (bl (br (br h)))))))))))
  | 2, _ => exact (br (br (br (br (br (br (br (bl (bl (br (br h)))))))))))
  | 3, _ => exact (bl (bl (bl (bl (bl (bl (br (bl (br (br h))))))))))
  | j + 4, hj => exact absurd hj (by have : sLen 66 = 4 := rfl; omega)
theorem ns_67 {A : Array Value} {s : State} (h : narrow_1.before A s = true) : (Cond.exactly (Term.string "SchemaWorkshop$Lexemes" 153) "java/lang/String").before A s = true ∧ (Cond.eq (.field (Term.string "SchemaWorkshop$Lexemes" 153) "java/lang/String" "coder" "B") (.int 0)).before A s = true ∧ (Cond.arrayOf (Term.field (Term.string "SchemaWorkshop$Lexemes" 153) "java/lang/String" "value" "[B") .byte).before A s = true ∧ (Cond.eq (.length (Term.field (Term.string "SchemaWorkshop$Lexemes" 153) "java/lang/String" "value" "[B")) (.int (Int32.ofNat (sLen 67)))).before A s = true ∧ ∀ j : Nat, j < sLen 67 → (Cond.eq (.elem (Term.field (Term.string "SchemaWorkshop$Lexemes" 153) "java/lang/String" "value" "[B") (.int (Int32.ofNat j))) (.int (Int32.ofInt (sByt 67 j)))).before A s = true := by
  refine ⟨(br (bl (bl (bl (bl (bl (br (bl (br (br h)))))))))), (bl (br (bl (bl (bl (bl (br (bl (br (br h)))))))))), (br (br (bl (bl (bl (bl (br (bl (br (br h)))))))))), (bl (bl (br (bl (bl (bl (br (bl (br (br h)))))))))), fun j hj => ?_⟩
  match j, hj with
  | 0, _ => exact (br (bl (br (bl (bl (bl (br (bl (br (br h))))))))))
  | 1, _ => exact (bl (br (br (bl (bl (bl (br (bl (br (br h))))))))))
  | 2, _ => exact (br (br (br (bl (bl (bl (br (bl (br (br h))))))))))
  | 3, _ => exact (bl (bl (bl (br (bl (bl (br (bl (br (br h))))))))))
  | 4, _ => exact (br (bl (bl (br (bl (bl (br (bl (br (br h))))))))))
  | 5, _ => exact (bl (br (bl (br (bl (bl (br (bl (br (br h))))))))))
  | 6, _ => exact (br (br (bl (br (bl (bl (br (bl (br (br h))))))))))
  | 7, _ => exact (bl (bl (br (br (bl (bl (br (bl (br (br h))))))))))
  | 8, _ => exact (br (bl (br (br (bl (bl (br (bl (br (br h))))))))))
  | 9, _ => exact (bl (br (br (br (bl (bl (br (bl (br (br h))))))))))
  | 10, _ => exact (br (br (br (br (bl (bl (br (bl (br (br h))))))))))
  | 11, _ => exact (bl (bl (bl (bl (br (bl (br (bl (br (br h))))))))))
  | 12, _ => exact (br (bl (bl (bl (br (bl (br (bl (br (br h))))))))))
  | j + 13, hj => exact absurd hj (by have : sLen 67 = 13 := rfl; omega)
theorem ns_68 {A : Array Value} {s : State} (h : narrow_1.before A s = true) : (Cond.exactly (Term.string "SchemaWorkshop$Lexemes" 155) "java/lang/String").before A s = true ∧ (Cond.eq (.field (Term.string "SchemaWorkshop$Lexemes" 155) "java/lang/String" "coder" "B") (.int 0)).before A s = true ∧ (Cond.arrayOf (Term.field (Term.string "SchemaWorkshop$Lexemes" 155) "java/lang/String" "value" "[B") .byte).before A s = true ∧ (Cond.eq (.length (Term.field (Term.string "SchemaWorkshop$Lexemes" 155) "java/lang/String" "value" "[B")) (.int (Int32.ofNat (sLen 68)))).before A s = true ∧ ∀ j : Nat, j < sLen 68 → (Cond.eq (.elem (Term.field (Term.string "SchemaWorkshop$Lexemes" 155) "java/lang/String" "value" "[B") (.int (Int32.ofNat j))) (.int (Int32.ofInt (sByt 68 j)))).before A s = true := by
  refine ⟨(bl (br (bl (bl (br (bl (br (bl (br (br h)))))))))), (br (br (bl (bl (br (bl (br (bl (br (br h)))))))))), (bl (bl (br (bl (br (bl (br (bl (br (br h)))))))))), (br (bl (br (bl (br (bl (br (bl (br (br h)))))))))), fun j hj => ?_⟩
  match j, hj with
  | 0, _ => exact (bl (br (br (bl (br (bl (br (bl (br (br h))))))))))
  | 1, _ => exact (br (br (br (bl (br (bl (br (bl (br (br h))))))))))
  | 2, _ => exact (bl (bl (bl (br (br (bl (br (bl (br (br h))))))))))
  | 3, _ => exact (br (bl (bl (br (br (bl (br (bl (br (br h))))))))))
  | 4, _ => exact (bl (br (bl (br (br (bl (br (bl (br (br h))))))))))
  | j + 5, hj => exact absurd hj (by have : sLen 68 = 5 := rfl; omega)
theorem ns_69 {A : Array Value} {s : State} (h : narrow_1.before A s = true) : (Cond.exactly (Term.string "SchemaWorkshop$Lexemes" 157) "java/lang/String").before A s = true ∧ (Cond.eq (.field (Term.string "SchemaWorkshop$Lexemes" 157) "java/lang/String" "coder" "B") (.int 0)).before A s = true ∧ (Cond.arrayOf (Term.field (Term.string "SchemaWorkshop$Lexemes" 157) "java/lang/String" "value" "[B") .byte).before A s = true ∧ (Cond.eq (.length (Term.field (Term.string "SchemaWorkshop$Lexemes" 157) "java/lang/String" "value" "[B")) (.int (Int32.ofNat (sLen 69)))).before A s = true ∧ ∀ j : Nat, j < sLen 69 → (Cond.eq (.elem (Term.field (Term.string "SchemaWorkshop$Lexemes" 157) "java/lang/String" "value" "[B") (.int (Int32.ofNat j))) (.int (Int32.ofInt (sByt 69 j)))).before A s = true := by
  refine ⟨(br (br (bl (br (br (bl (br (bl (br (br h)))))))))), (bl (bl (br (br (br (bl (br (bl (br (br h)))))))))), (br (bl (br (br (br (bl (br (bl (br (br h)))))))))), (bl (br (br (br (br (bl (br (bl (br (br h)))))))))), fun j hj => ?_⟩
  match j, hj with
  | 0, _ => exact (bl (br (br (br (br (br (bl (br (bl (br (br h)))))))))))
  | 1, _ => exact (br (br (br (br (br (br (bl (br (bl (br (br h)))))))))))
  | 2, _ => exact (bl (bl (bl (bl (bl (br (br (bl (br (br h))))))))))
  | 3, _ => exact (br (bl (bl (bl (bl (br (br (bl (br (br h))))))))))
  | 4, _ => exact (bl (br (bl (bl (bl (br (br (bl (br (br h))))))))))
  | 5, _ => exact (br (br (bl (bl (bl (br (br (bl (br (br h))))))))))
  | j + 6, hj => exact absurd hj (by have : sLen 69 = 6 := rfl; omega)
theorem ns_70 {A : Array Value} {s : State} (h : narrow_1.before A s = true) : (Cond.exactly (Term.string "SchemaWorkshop$Lexemes" 159) "java/lang/String").before A s = true ∧ (Cond.eq (.field (Term.string "SchemaWorkshop$Lexemes" 159) "java/lang/String" "coder" "B") (.int 0)).before A s = true ∧ (Cond.arrayOf (Term.field (Term.string "SchemaWorkshop$Lexemes" 159) "java/lang/String" "value" "[B") .byte).before A s = true ∧ (Cond.eq (.length (Term.field (Term.string "SchemaWorkshop$Lexemes" 159) "java/lang/String" "value" "[B")) (.int (Int32.ofNat (sLen 70)))).before A s = true ∧ ∀ j : Nat, j < sLen 70 → (Cond.eq (.elem (Term.field (Term.string "SchemaWorkshop$Lexemes" 159) "java/lang/String" "value" "[B") (.int (Int32.ofNat j))) (.int (Int32.ofInt (sByt 70 j)))).before A s = true := by
  refine ⟨(bl (bl (br (bl (bl (br (br (bl (br (br h)))))))))), (br (bl (br (bl (bl (br (br (bl (br (br h)))))))))), (bl (br (br (bl (bl (br (br (bl (br (br h)))))))))), (br (br (br (bl (bl (br (br (bl (br (br h)))))))))), fun j hj => ?_⟩
  match j, hj with
  | 0, _ => exact (bl (bl (bl (br (bl (br (br (bl (br (br h))))))))))
  | 1, _ => exact (br (bl (bl (br (bl (br (br (bl (br (br h))))))))))
  | 2, _ => exact (bl (br (bl (br (bl (br (br (bl (br (br h))))))))))
  | 3, _ => exact (br (br (bl (br (bl (br (br (bl (br (br h))))))))))
  | 4, _ => exact (bl (bl (br (br (bl (br (br (bl (br (br h))))))))))
  | 5, _ => exact (br (bl (br (br (bl (br (br (bl (br (br h))))))))))
  | 6, _ => exact (bl (br (br (br (bl (br (br (bl (br (br h))))))))))
  | 7, _ => exact (bl (br (br (br (br (bl (br (br (bl (br (br h)))))))))))
  | 8, _ => exact (br (br (br (br (br (bl (br (br (bl (br (br h)))))))))))
  | j + 9, hj => exact absurd hj (by have : sLen 70 = 9 := rfl; omega)
theorem ns_71 {A : Array Value} {s : State} (h : narrow_1.before A s = true) : (Cond.exactly (Term.string "SchemaWorkshop$Lexemes" 161) "java/lang/String").before A s = true ∧ (Cond.eq (.field (Term.string "SchemaWorkshop$Lexemes" 161) "java/lang/String" "coder" "B") (.int 0)).before A s = true ∧ (Cond.arrayOf (Term.field (Term.string "SchemaWorkshop$Lexemes" 161) "java/lang/String" "value" "[B") .byte).before A s = true ∧ (Cond.eq (.length (Term.field (Term.string "SchemaWorkshop$Lexemes" 161) "java/lang/String" "value" "[B")) (.int (Int32.ofNat (sLen 71)))).before A s = true ∧ ∀ j : Nat, j < sLen 71 → (Cond.eq (.elem (Term.field (Term.string "SchemaWorkshop$Lexemes" 161) "java/lang/String" "value" "[B") (.int (Int32.ofNat j))) (.int (Int32.ofInt (sByt 71 j)))).before A s = true := by
  refine ⟨(bl (bl (bl (bl (br (br (br (bl (br (br h)))))))))), (br (bl (bl (bl (br (br (br (bl (br (br h)))))))))), (bl (br (bl (bl (br (br (br (bl (br (br h)))))))))), (br (br (bl (bl (br (br (br (bl (br (br h)))))))))), fun j hj => ?_⟩
  match j, hj with
  | 0, _ => exact (bl (bl (br (bl (br (br (br (bl (br (br h))))))))))
  | 1, _ => exact (br (bl (br (bl (br (br (br (bl (br (br h))))))))))
  | 2, _ => exact (bl (br (br (bl (br (br (br (bl (br (br h))))))))))
  | 3, _ => exact (br (br (br (bl (br (br (br (bl (br (br h))))))))))
  | 4, _ => exact (bl (bl (bl (br (br (br (br (bl (br (br h))))))))))
  | 5, _ => exact (br (bl (bl (br (br (br (br (bl (br (br h))))))))))
  | 6, _ => exact (bl (br (bl (br (br (br (br (bl (br (br h))))))))))
  | j + 7, hj => exact absurd hj (by have : sLen 71 = 7 := rfl; omega)
theorem ns_72 {A : Array Value} {s : State} (h : narrow_1.before A s = true) : (Cond.exactly (Term.string "SchemaWorkshop$Lexemes" 163) "java/lang/String").before A s = true ∧ (Cond.eq (.field (Term.string "SchemaWorkshop$Lexemes" 163) "java/lang/String" "coder" "B") (.int 0)).before A s = true ∧ (Cond.arrayOf (Term.field (Term.string "SchemaWorkshop$Lexemes" 163) "java/lang/String" "value" "[B") .byte).before A s = true ∧ (Cond.eq (.length (Term.field (Term.string "SchemaWorkshop$Lexemes" 163) "java/lang/String" "value" "[B")) (.int (Int32.ofNat (sLen 72)))).before A s = true ∧ ∀ j : Nat, j < sLen 72 → (Cond.eq (.elem (Term.field (Term.string "SchemaWorkshop$Lexemes" 163) "java/lang/String" "value" "[B") (.int (Int32.ofNat j))) (.int (Int32.ofInt (sByt 72 j)))).before A s = true := by
  refine ⟨(br (br (bl (br (br (br (br (bl (br (br h)))))))))), (bl (bl (br (br (br (br (br (bl (br (br h)))))))))), (br (bl (br (br (br (br (br (bl (br (br h)))))))))), (bl (br (br (br (br (br (br (bl (br (br h)))))))))), fun j hj => ?_⟩
  match j, hj with
  | 0, _ => exact (bl (br (br (br (br (br (br (br (bl (br (br h)))))))))))
  | 1, _ => exact (br (br (br (br (br (br (br (br (bl (br (br h)))))))))))
  | 2, _ => exact (bl (bl (bl (bl (bl (bl (bl (br (br (br h))))))))))
  | 3, _ => exact (br (bl (bl (bl (bl (bl (bl (br (br (br h))))))))))
  | 4, _ => exact (bl (br (bl (bl (bl (bl (bl (br (br (br h))))))))))
  | 5, _ => exact (br (br (bl (bl (bl (bl (bl (br (br (br h))))))))))
  | 6, _ => exact (bl (bl (br (bl (bl (bl (bl (br (br (br h))))))))))
  | 7, _ => exact (br (bl (br (bl (bl (bl (bl (br (br (br h))))))))))
  | 8, _ => exact (bl (br (br (bl (bl (bl (bl (br (br (br h))))))))))
  | 9, _ => exact (br (br (br (bl (bl (bl (bl (br (br (br h))))))))))
  | j + 10, hj => exact absurd hj (by have : sLen 72 = 10 := rfl; omega)
theorem ns_73 {A : Array Value} {s : State} (h : narrow_1.before A s = true) : (Cond.exactly (Term.string "SchemaWorkshop$Lexemes" 165) "java/lang/String").before A s = true ∧ (Cond.eq (.field (Term.string "SchemaWorkshop$Lexemes" 165) "java/lang/String" "coder" "B") (.int 0)).before A s = true ∧ (Cond.arrayOf (Term.field (Term.string "SchemaWorkshop$Lexemes" 165) "java/lang/String" "value" "[B") .byte).before A s = true ∧ (Cond.eq (.length (Term.field (Term.string "SchemaWorkshop$Lexemes" 165) "java/lang/String" "value" "[B")) (.int (Int32.ofNat (sLen 73)))).before A s = true ∧ ∀ j : Nat, j < sLen 73 → (Cond.eq (.elem (Term.field (Term.string "SchemaWorkshop$Lexemes" 165) "java/lang/String" "value" "[B") (.int (Int32.ofNat j))) (.int (Int32.ofInt (sByt 73 j)))).before A s = true := by
  refine ⟨(bl (bl (bl (br (bl (bl (bl (br (br (br h)))))))))), (br (bl (bl (br (bl (bl (bl (br (br (br h)))))))))), (bl (br (bl (br (bl (bl (bl (br (br (br h)))))))))), (br (br (bl (br (bl (bl (bl (br (br (br h)))))))))), fun j hj => ?_⟩
  match j, hj with
  | 0, _ => exact (bl (bl (br (br (bl (bl (bl (br (br (br h))))))))))
  | 1, _ => exact (br (bl (br (br (bl (bl (bl (br (br (br h))))))))))
  | 2, _ => exact (bl (br (br (br (bl (bl (bl (br (br (br h))))))))))
  | 3, _ => exact (br (br (br (br (bl (bl (bl (br (br (br h))))))))))
  | 4, _ => exact (bl (bl (bl (bl (br (bl (bl (br (br (br h))))))))))
  | 5, _ => exact (br (bl (bl (bl (br (bl (bl (br (br (br h))))))))))
  | 6, _ => exact (bl (br (bl (bl (br (bl (bl (br (br (br h))))))))))
  | 7, _ => exact (br (br (bl (bl (br (bl (bl (br (br (br h))))))))))
  | 8, _ => exact (bl (bl (br (bl (br (bl (bl (br (br (br h))))))))))
  | 9, _ => exact (br (bl (br (bl (br (bl (bl (br (br (br h))))))))))
  | 10, _ => exact (bl (br (br (bl (br (bl (bl (br (br (br h))))))))))
  | 11, _ => exact (br (br (br (bl (br (bl (bl (br (br (br h))))))))))
  | 12, _ => exact (bl (bl (bl (br (br (bl (bl (br (br (br h))))))))))
  | 13, _ => exact (br (bl (bl (br (br (bl (bl (br (br (br h))))))))))
  | 14, _ => exact (bl (br (bl (br (br (bl (bl (br (br (br h))))))))))
  | j + 15, hj => exact absurd hj (by have : sLen 73 = 15 := rfl; omega)
theorem ns_74 {A : Array Value} {s : State} (h : narrow_1.before A s = true) : (Cond.exactly (Term.string "SchemaWorkshop$Lexemes" 167) "java/lang/String").before A s = true ∧ (Cond.eq (.field (Term.string "SchemaWorkshop$Lexemes" 167) "java/lang/String" "coder" "B") (.int 0)).before A s = true ∧ (Cond.arrayOf (Term.field (Term.string "SchemaWorkshop$Lexemes" 167) "java/lang/String" "value" "[B") .byte).before A s = true ∧ (Cond.eq (.length (Term.field (Term.string "SchemaWorkshop$Lexemes" 167) "java/lang/String" "value" "[B")) (.int (Int32.ofNat (sLen 74)))).before A s = true ∧ ∀ j : Nat, j < sLen 74 → (Cond.eq (.elem (Term.field (Term.string "SchemaWorkshop$Lexemes" 167) "java/lang/String" "value" "[B") (.int (Int32.ofNat j))) (.int (Int32.ofInt (sByt 74 j)))).before A s = true := by
  refine ⟨(br (br (bl (br (br (bl (bl (br (br (br h)))))))))), (bl (bl (br (br (br (bl (bl (br (br (br h)))))))))), (br (bl (br (br (br (bl (bl (br (br (br h)))))))))), (bl (br (br (br (br (bl (bl (br (br (br h)))))))))), fun j hj => ?_⟩
  match j, hj with
  | 0, _ => exact (bl (br (br (br (br (br (bl (bl (br (br (br h)))))))))))
  | 1, _ => exact (br (br (br (br (br (br (bl (bl (br (br (br h)))))))))))
  | 2, _ => exact (bl (bl (bl (bl (bl (br (bl (br (br (br h))))))))))
  | 3, _ => exact (br (bl (bl (bl (bl (br (bl (br (br (br h))))))))))
  | 4, _ => exact (bl (br (bl (bl (bl (br (bl (br (br (br h))))))))))
  | 5, _ => exact (br (br (bl (bl (bl (br (bl (br (br (br h))))))))))
  | 6, _ => exact (bl (bl (br (bl (bl (br (bl (br (br (br h))))))))))
  | 7, _ => exact (br (bl (br (bl (bl (br (bl (br (br (br h))))))))))
  | 8, _ => exact (bl (br (br (bl (bl (br (bl (br (br (br h))))))))))
  | 9, _ => exact (br (br (br (bl (bl (br (bl (br (br (br h))))))))))
  | 10, _ => exact (bl (bl (bl (br (bl (br (bl (br (br (br h))))))))))
  | 11, _ => exact (br (bl (bl (br (bl (br (bl (br (br (br h))))))))))
  | 12, _ => exact (bl (br (bl (br (bl (br (bl (br (br (br h))))))))))
  | 13, _ => exact (br (br (bl (br (bl (br (bl (br (br (br h))))))))))
  | j + 14, hj => exact absurd hj (by have : sLen 74 = 14 := rfl; omega)
theorem ns_75 {A : Array Value} {s : State} (h : narrow_1.before A s = true) : (Cond.exactly (Term.string "SchemaWorkshop$Lexemes" 169) "java/lang/String").before A s = true ∧ (Cond.eq (.field (Term.string "SchemaWorkshop$Lexemes" 169) "java/lang/String" "coder" "B") (.int 0)).before A s = true ∧ (Cond.arrayOf (Term.field (Term.string "SchemaWorkshop$Lexemes" 169) "java/lang/String" "value" "[B") .byte).before A s = true ∧ (Cond.eq (.length (Term.field (Term.string "SchemaWorkshop$Lexemes" 169) "java/lang/String" "value" "[B")) (.int (Int32.ofNat (sLen 75)))).before A s = true ∧ ∀ j : Nat, j < sLen 75 → (Cond.eq (.elem (Term.field (Term.string "SchemaWorkshop$Lexemes" 169) "java/lang/String" "value" "[B") (.int (Int32.ofNat j))) (.int (Int32.ofInt (sByt 75 j)))).before A s = true := by
  refine ⟨(bl (bl (br (br (bl (br (bl (br (br (br h)))))))))), (br (bl (br (br (bl (br (bl (br (br (br h)))))))))), (bl (br (br (br (bl (br (bl (br (br (br h)))))))))), (br (br (br (br (bl (br (bl (br (br (br h)))))))))), fun j hj => ?_⟩
  match j, hj with
  | 0, _ => exact (bl (bl (bl (bl (br (br (bl (br (br (br h))))))))))
  | 1, _ => exact (br (bl (bl (bl (br (br (bl (br (br (br h))))))))))
  | 2, _ => exact (bl (br (bl (bl (br (br (bl (br (br (br h))))))))))
  | 3, _ => exact (br (br (bl (bl (br (br (bl (br (br (br h))))))))))
  | 4, _ => exact (bl (bl (br (bl (br (br (bl (br (br (br h))))))))))
  | 5, _ => exact (br (bl (br (bl (br (br (bl (br (br (br h))))))))))
  | 6, _ => exact (bl (br (br (bl (br (br (bl (br (br (br h))))))))))
  | 7, _ => exact (br (br (br (bl (br (br (bl (br (br (br h))))))))))
  | 8, _ => exact (bl (bl (bl (br (br (br (bl (br (br (br h))))))))))
  | 9, _ => exact (br (bl (bl (br (br (br (bl (br (br (br h))))))))))
  | 10, _ => exact (bl (br (bl (br (br (br (bl (br (br (br h))))))))))
  | 11, _ => exact (br (br (bl (br (br (br (bl (br (br (br h))))))))))
  | 12, _ => exact (bl (bl (br (br (br (br (bl (br (br (br h))))))))))
  | j + 13, hj => exact absurd hj (by have : sLen 75 = 13 := rfl; omega)
theorem ns_76 {A : Array Value} {s : State} (h : narrow_1.before A s = true) : (Cond.exactly (Term.string "SchemaWorkshop$Lexemes" 171) "java/lang/String").before A s = true ∧ (Cond.eq (.field (Term.string "SchemaWorkshop$Lexemes" 171) "java/lang/String" "coder" "B") (.int 0)).before A s = true ∧ (Cond.arrayOf (Term.field (Term.string "SchemaWorkshop$Lexemes" 171) "java/lang/String" "value" "[B") .byte).before A s = true ∧ (Cond.eq (.length (Term.field (Term.string "SchemaWorkshop$Lexemes" 171) "java/lang/String" "value" "[B")) (.int (Int32.ofNat (sLen 76)))).before A s = true ∧ ∀ j : Nat, j < sLen 76 → (Cond.eq (.elem (Term.field (Term.string "SchemaWorkshop$Lexemes" 171) "java/lang/String" "value" "[B") (.int (Int32.ofNat j))) (.int (Int32.ofInt (sByt 76 j)))).before A s = true := by
  refine ⟨(br (bl (br (br (br (br (bl (br (br (br h)))))))))), (bl (br (br (br (br (br (bl (br (br (br h)))))))))), (bl (br (br (br (br (br (br (bl (br (br (br h))))))))))), (br (br (br (br (br (br (br (bl (br (br (br h))))))))))), fun j hj => ?_⟩
  match j, hj with
  | 0, _ => exact (bl (bl (bl (bl (bl (bl (br (br (br (br h))))))))))
  | 1, _ => exact (br (bl (bl (bl (bl (bl (br (br (br (br h))))))))))
  | 2, _ => exact (bl (br (bl (bl (bl (bl (br (br (br (br h))))))))))
  | 3, _ => exact (br (br (bl (bl (bl (bl (br (br (br (br h))))))))))
  | j + 4, hj => exact absurd hj (by have : sLen 76 = 4 := rfl; omega)
theorem ns_77 {A : Array Value} {s : State} (h : narrow_1.before A s = true) : (Cond.exactly (Term.string "SchemaWorkshop$Lexemes" 9) "java/lang/String").before A s = true ∧ (Cond.eq (.field (Term.string "SchemaWorkshop$Lexemes" 9) "java/lang/String" "coder" "B") (.int 0)).before A s = true ∧ (Cond.arrayOf (Term.field (Term.string "SchemaWorkshop$Lexemes" 9) "java/lang/String" "value" "[B") .byte).before A s = true ∧ (Cond.eq (.length (Term.field (Term.string "SchemaWorkshop$Lexemes" 9) "java/lang/String" "value" "[B")) (.int (Int32.ofNat (sLen 77)))).before A s = true ∧ ∀ j : Nat, j < sLen 77 → (Cond.eq (.elem (Term.field (Term.string "SchemaWorkshop$Lexemes" 9) "java/lang/String" "value" "[B") (.int (Int32.ofNat j))) (.int (Int32.ofInt (sByt 77 j)))).before A s = true := by
  refine ⟨(bl (br (bl (br (br (br (bl (bl (bl (bl h)))))))))), (br (br (bl (br (br (br (bl (bl (bl (bl h)))))))))), (bl (bl (br (br (br (br (bl (bl (bl (bl h)))))))))), (br (bl (br (br (br (br (bl (bl (bl (bl h)))))))))), fun j hj => ?_⟩
  match j, hj with
  | 0, _ => exact (bl (br (br (br (br (br (bl (bl (bl (bl h))))))))))
  | 1, _ => exact (bl (br (br (br (br (br (br (bl (bl (bl (bl h)))))))))))
  | 2, _ => exact (br (br (br (br (br (br (br (bl (bl (bl (bl h)))))))))))
  | 3, _ => exact (bl (bl (bl (bl (bl (bl (br (bl (bl (bl h))))))))))
  | 4, _ => exact (br (bl (bl (bl (bl (bl (br (bl (bl (bl h))))))))))
  | 5, _ => exact (bl (br (bl (bl (bl (bl (br (bl (bl (bl h))))))))))
  | 6, _ => exact (br (br (bl (bl (bl (bl (br (bl (bl (bl h))))))))))
  | 7, _ => exact (bl (bl (br (bl (bl (bl (br (bl (bl (bl h))))))))))
  | 8, _ => exact (br (bl (br (bl (bl (bl (br (bl (bl (bl h))))))))))
  | 9, _ => exact (bl (br (br (bl (bl (bl (br (bl (bl (bl h))))))))))
  | 10, _ => exact (br (br (br (bl (bl (bl (br (bl (bl (bl h))))))))))
  | 11, _ => exact (bl (bl (bl (br (bl (bl (br (bl (bl (bl h))))))))))
  | 12, _ => exact (br (bl (bl (br (bl (bl (br (bl (bl (bl h))))))))))
  | 13, _ => exact (bl (br (bl (br (bl (bl (br (bl (bl (bl h))))))))))
  | 14, _ => exact (br (br (bl (br (bl (bl (br (bl (bl (bl h))))))))))
  | 15, _ => exact (bl (bl (br (br (bl (bl (br (bl (bl (bl h))))))))))
  | 16, _ => exact (br (bl (br (br (bl (bl (br (bl (bl (bl h))))))))))
  | 17, _ => exact (bl (br (br (br (bl (bl (br (bl (bl (bl h))))))))))
  | 18, _ => exact (br (br (br (br (bl (bl (br (bl (bl (bl h))))))))))
  | 19, _ => exact (bl (bl (bl (bl (br (bl (br (bl (bl (bl h))))))))))
  | 20, _ => exact (br (bl (bl (bl (br (bl (br (bl (bl (bl h))))))))))
  | j + 21, hj => exact absurd hj (by have : sLen 77 = 21 := rfl; omega)
theorem ns_78 {A : Array Value} {s : State} (h : narrow_1.before A s = true) : (Cond.exactly (Term.string "SchemaWorkshop$Meaning" 404) "java/lang/String").before A s = true ∧ (Cond.eq (.field (Term.string "SchemaWorkshop$Meaning" 404) "java/lang/String" "coder" "B") (.int 0)).before A s = true ∧ (Cond.arrayOf (Term.field (Term.string "SchemaWorkshop$Meaning" 404) "java/lang/String" "value" "[B") .byte).before A s = true ∧ (Cond.eq (.length (Term.field (Term.string "SchemaWorkshop$Meaning" 404) "java/lang/String" "value" "[B")) (.int (Int32.ofNat (sLen 78)))).before A s = true ∧ ∀ j : Nat, j < sLen 78 → (Cond.eq (.elem (Term.field (Term.string "SchemaWorkshop$Meaning" 404) "java/lang/String" "value" "[B") (.int (Int32.ofNat j))) (.int (Int32.ofInt (sByt 78 j)))).before A s = true := by
  refine ⟨(bl (bl (br (bl (bl (bl (br (br (br (br h)))))))))), (br (bl (br (bl (bl (bl (br (br (br (br h)))))))))), (bl (br (br (bl (bl (bl (br (br (br (br h)))))))))), (br (br (br (bl (bl (bl (br (br (br (br h)))))))))), fun j hj => ?_⟩
  match j, hj with
  | 0, _ => exact (bl (bl (bl (br (bl (bl (br (br (br (br h))))))))))
  | 1, _ => exact (br (bl (bl (br (bl (bl (br (br (br (br h))))))))))
  | 2, _ => exact (bl (br (bl (br (bl (bl (br (br (br (br h))))))))))
  | 3, _ => exact (br (br (bl (br (bl (bl (br (br (br (br h))))))))))
  | 4, _ => exact (bl (bl (br (br (bl (bl (br (br (br (br h))))))))))
  | j + 5, hj => exact absurd hj (by have : sLen 78 = 5 := rfl; omega)
theorem ns_79 {A : Array Value} {s : State} (h : narrow_1.before A s = true) : (Cond.exactly (Term.string "SchemaWorkshop$Meaning" 410) "java/lang/String").before A s = true ∧ (Cond.eq (.field (Term.string "SchemaWorkshop$Meaning" 410) "java/lang/String" "coder" "B") (.int 0)).before A s = true ∧ (Cond.arrayOf (Term.field (Term.string "SchemaWorkshop$Meaning" 410) "java/lang/String" "value" "[B") .byte).before A s = true ∧ (Cond.eq (.length (Term.field (Term.string "SchemaWorkshop$Meaning" 410) "java/lang/String" "value" "[B")) (.int (Int32.ofNat (sLen 79)))).before A s = true ∧ ∀ j : Nat, j < sLen 79 → (Cond.eq (.elem (Term.field (Term.string "SchemaWorkshop$Meaning" 410) "java/lang/String" "value" "[B") (.int (Int32.ofNat j))) (.int (Int32.ofInt (sByt 79 j)))).before A s = true := by
  refine ⟨(br (bl (br (br (bl (bl (br (br (br (br h)))))))))), (bl (br (br (br (bl (bl (br (br (br (br h)))))))))), (br (br (br (br (bl (bl (br (br (br (br h)))))))))), (bl (bl (bl (bl (br (bl (br (br (br (br h)))))))))), fun j hj => ?_⟩
  match j, hj with
  | 0, _ => exact (br (bl (bl (bl (br (bl (br (br (br (br h))))))))))
  | 1, _ => exact (bl (br (bl (bl (br (bl (br (br (br (br h))))))))))
  | 2, _ => exact (br (br (bl (bl (br (bl (br (br (br (br h))))))))))
  | 3, _ => exact (bl (bl (br (bl (br (bl (br (br (br (br h))))))))))
  | 4, _ => exact (br (bl (br (bl (br (bl (br (br (br (br h))))))))))
  | j + 5, hj => exact absurd hj (by have : sLen 79 = 5 := rfl; omega)
theorem ns_80 {A : Array Value} {s : State} (h : narrow_1.before A s = true) : (Cond.exactly (Term.string "SchemaWorkshop$Meaning" 412) "java/lang/String").before A s = true ∧ (Cond.eq (.field (Term.string "SchemaWorkshop$Meaning" 412) "java/lang/String" "coder" "B") (.int 0)).before A s = true ∧ (Cond.arrayOf (Term.field (Term.string "SchemaWorkshop$Meaning" 412) "java/lang/String" "value" "[B") .byte).before A s = true ∧ (Cond.eq (.length (Term.field (Term.string "SchemaWorkshop$Meaning" 412) "java/lang/String" "value" "[B")) (.int (Int32.ofNat (sLen 80)))).before A s = true ∧ ∀ j : Nat, j < sLen 80 → (Cond.eq (.elem (Term.field (Term.string "SchemaWorkshop$Meaning" 412) "java/lang/String" "value" "[B") (.int (Int32.ofNat j))) (.int (Int32.ofInt (sByt 80 j)))).before A s = true := by
  refine ⟨(bl (br (br (bl (br (bl (br (br (br (br h)))))))))), (br (br (br (bl (br (bl (br (br (br (br h)))))))))), (bl (bl (bl (br (br (bl (br (br (br (br h)))))))))), (br (bl (bl (br (br (bl (br (br (br (br h)))))))))), fun j hj => ?_⟩
  match j, hj with
  | 0, _ => exact (bl (br (bl (br (br (bl (br (br (br (br h))))))))))
  | 1, _ => exact (br (br (bl (br (br (bl (br (br (br (br h))))))))))
  | 2, _ => exact (bl (bl (br (br (br (bl (br (br (br (br h))))))))))
  | j + 3, hj => exact absurd hj (by have : sLen 80 = 3 := rfl; omega)
theorem ns_81 {A : Array Value} {s : State} (h : narrow_1.before A s = true) : (Cond.exactly (Term.string "SchemaWorkshop$Meaning" 414) "java/lang/String").before A s = true ∧ (Cond.eq (.field (Term.string "SchemaWorkshop$Meaning" 414) "java/lang/String" "coder" "B") (.int 0)).before A s = true ∧ (Cond.arrayOf (Term.field (Term.string "SchemaWorkshop$Meaning" 414) "java/lang/String" "value" "[B") .byte).before A s = true ∧ (Cond.eq (.length (Term.field (Term.string "SchemaWorkshop$Meaning" 414) "java/lang/String" "value" "[B")) (.int (Int32.ofNat (sLen 81)))).before A s = true ∧ ∀ j : Nat, j < sLen 81 → (Cond.eq (.elem (Term.field (Term.string "SchemaWorkshop$Meaning" 414) "java/lang/String" "value" "[B") (.int (Int32.ofNat j))) (.int (Int32.ofInt (sByt 81 j)))).before A s = true := by
  refine ⟨(br (bl (br (br (br (bl (br (br (br (br h)))))))))), (bl (br (br (br (br (bl (br (br (br (br h)))))))))), (bl (br (br (br (br (br (bl (br (br (br (br h))))))))))), (br (br (br (br (br (br (bl (br (br (br (br h))))))))))), fun j hj => ?_⟩
  match j, hj with
  | 0, _ => exact (bl (bl (bl (bl (bl (br (br (br (br (br h))))))))))
  | 1, _ => exact (br (bl (bl (bl (bl (br (br (br (br (br h))))))))))
  | 2, _ => exact (bl (br (bl (bl (bl (br (br (br (br (br h))))))))))
  | 3, _ => exact (br (br (bl (bl (bl (br (br (br (br (br h))))))))))
  | 4, _ => exact (bl (bl (br (bl (bl (br (br (br (br (br h))))))))))
  | 5, _ => exact (br (bl (br (bl (bl (br (br (br (br (br h))))))))))
  | 6, _ => exact (bl (br (br (bl (bl (br (br (br (br (br h))))))))))
  | 7, _ => exact (br (br (br (bl (bl (br (br (br (br (br h))))))))))
  | 8, _ => exact (bl (bl (bl (br (bl (br (br (br (br (br h))))))))))
  | 9, _ => exact (br (bl (bl (br (bl (br (br (br (br (br h))))))))))
  | 10, _ => exact (bl (br (bl (br (bl (br (br (br (br (br h))))))))))
  | 11, _ => exact (br (br (bl (br (bl (br (br (br (br (br h))))))))))
  | 12, _ => exact (bl (bl (br (br (bl (br (br (br (br (br h))))))))))
  | 13, _ => exact (br (bl (br (br (bl (br (br (br (br (br h))))))))))
  | 14, _ => exact (bl (br (br (br (bl (br (br (br (br (br h))))))))))
  | j + 15, hj => exact absurd hj (by have : sLen 81 = 15 := rfl; omega)
theorem ns_82 {A : Array Value} {s : State} (h : narrow_1.before A s = true) : (Cond.exactly (Term.string "SchemaWorkshop$Meaning" 416) "java/lang/String").before A s = true ∧ (Cond.eq (.field (Term.string "SchemaWorkshop$Meaning" 416) "java/lang/String" "coder" "B") (.int 0)).before A s = true ∧ (Cond.arrayOf (Term.field (Term.string "SchemaWorkshop$Meaning" 416) "java/lang/String" "value" "[B") .byte).before A s = true ∧ (Cond.eq (.length (Term.field (Term.string "SchemaWorkshop$Meaning" 416) "java/lang/String" "value" "[B")) (.int (Int32.ofNat (sLen 82)))).before A s = true ∧ ∀ j : Nat, j < sLen 82 → (Cond.eq (.elem (Term.field (Term.string "SchemaWorkshop$Meaning" 416) "java/lang/String" "value" "[B") (.int (Int32.ofNat j))) (.int (Int32.ofInt (sByt 82 j)))).before A s = true := by
  refine ⟨(bl (br (br (br (br (bl (br (br (br (br (br h))))))))))), (br (br (br (br (br (bl (br (br (br (br (br h))))))))))), (bl (bl (bl (bl (br (br (br (br (br (br h)))))))))), (br (bl (bl (bl (br (br (br (br (br (br h)))))))))), fun j hj => ?_⟩
  match j, hj with
  | 0, _ => exact (bl (br (bl (bl (br (br (br (br (br (br h))))))))))
  | 1, _ => exact (br (br (bl (bl (br (br (br (br (br (br h))))))))))
  | 2, _ => exact (bl (bl (br (bl (br (br (br (br (br (br h))))))))))
  | 3, _ => exact (br (bl (br (bl (br (br (br (br (br (br h))))))))))
  | 4, _ => exact (bl (br (br (bl (br (br (br (br (br (br h))))))))))
  | 5, _ => exact (br (br (br (bl (br (br (br (br (br (br h))))))))))
  | 6, _ => exact (bl (bl (bl (br (br (br (br (br (br (br h))))))))))
  | 7, _ => exact (br (bl (bl (br (br (br (br (br (br (br h))))))))))
  | 8, _ => exact (bl (br (bl (br (br (br (br (br (br (br h))))))))))
  | 9, _ => exact (br (br (bl (br (br (br (br (br (br (br h))))))))))
  | 10, _ => exact (bl (bl (br (br (br (br (br (br (br (br h))))))))))
  | 11, _ => exact (br (bl (br (br (br (br (br (br (br (br h))))))))))
  | 12, _ => exact (bl (br (br (br (br (br (br (br (br (br h))))))))))
  | 13, _ => exact (bl (br (br (br (br (br (br (br (br (br (br h)))))))))))
  | 14, _ => exact (br (br (br (br (br (br (br (br (br (br (br h)))))))))))
  | j + 15, hj => exact absurd hj (by have : sLen 82 = 15 := rfl; omega)
theorem ns_all {A : Array Value} {s : State} (h : narrow_1.before A s = true) : ∀ i : Nat, i < 83 → (Cond.exactly (Term.string (stO i).1 (stO i).2.1) "java/lang/String").before A s = true ∧ (Cond.eq (.field (Term.string (stO i).1 (stO i).2.1) "java/lang/String" "coder" "B") (.int 0)).before A s = true ∧ (Cond.arrayOf (Term.field (Term.string (stO i).1 (stO i).2.1) "java/lang/String" "value" "[B") .byte).before A s = true ∧ (Cond.eq (.length (Term.field (Term.string (stO i).1 (stO i).2.1) "java/lang/String" "value" "[B")) (.int (Int32.ofNat (sLen i)))).before A s = true ∧ ∀ j : Nat, j < sLen i → (Cond.eq (.elem (Term.field (Term.string (stO i).1 (stO i).2.1) "java/lang/String" "value" "[B") (.int (Int32.ofNat j))) (.int (Int32.ofInt (sByt i j)))).before A s = true := by
  intro i hi
  match i, hi with
  | 0, _ => exact ns_0 h
  | 1, _ => exact ns_1 h
  | 2, _ => exact ns_2 h
  | 3, _ => exact ns_3 h
  | 4, _ => exact ns_4 h
  | 5, _ => exact ns_5 h
  | 6, _ => exact ns_6 h
  | 7, _ => exact ns_7 h
  | 8, _ => exact ns_8 h
  | 9, _ => exact ns_9 h
  | 10, _ => exact ns_10 h
  | 11, _ => exact ns_11 h
  | 12, _ => exact ns_12 h
  | 13, _ => exact ns_13 h
  | 14, _ => exact ns_14 h
  | 15, _ => exact ns_15 h
  | 16, _ => exact ns_16 h
  | 17, _ => exact ns_17 h
  | 18, _ => exact ns_18 h
  | 19, _ => exact ns_19 h
  | 20, _ => exact ns_20 h
  | 21, _ => exact ns_21 h
  | 22, _ => exact ns_22 h
  | 23, _ => exact ns_23 h
  | 24, _ => exact ns_24 h
  | 25, _ => exact ns_25 h
  | 26, _ => exact ns_26 h
  | 27, _ => exact ns_27 h
  | 28, _ => exact ns_28 h
  | 29, _ => exact ns_29 h
  | 30, _ => exact ns_30 h
  | 31, _ => exact ns_31 h
  | 32, _ => exact ns_32 h
  | 33, _ => exact ns_33 h
  | 34, _ => exact ns_34 h
  | 35, _ => exact ns_35 h
  | 36, _ => exact ns_36 h
  | 37, _ => exact ns_37 h
  | 38, _ => exact ns_38 h
  | 39, _ => exact ns_39 h
  | 40, _ => exact ns_40 h
  | 41, _ => exact ns_41 h
  | 42, _ => exact ns_42 h
  | 43, _ => exact ns_43 h
  | 44, _ => exact ns_44 h
  | 45, _ => exact ns_45 h
  | 46, _ => exact ns_46 h
  | 47, _ => exact ns_47 h
  | 48, _ => exact ns_48 h
  | 49, _ => exact ns_49 h
  | 50, _ => exact ns_50 h
  | 51, _ => exact ns_51 h
  | 52, _ => exact ns_52 h
  | 53, _ => exact ns_53 h
  | 54, _ => exact ns_54 h
  | 55, _ => exact ns_55 h
  | 56, _ => exact ns_56 h
  | 57, _ => exact ns_57 h
  | 58, _ => exact ns_58 h
  | 59, _ => exact ns_59 h
  | 60, _ => exact ns_60 h
  | 61, _ => exact ns_61 h
  | 62, _ => exact ns_62 h
  | 63, _ => exact ns_63 h
  | 64, _ => exact ns_64 h
  | 65, _ => exact ns_65 h
  | 66, _ => exact ns_66 h
  | 67, _ => exact ns_67 h
  | 68, _ => exact ns_68 h
  | 69, _ => exact ns_69 h
  | 70, _ => exact ns_70 h
  | 71, _ => exact ns_71 h
  | 72, _ => exact ns_72 h
  | 73, _ => exact ns_73 h
  | 74, _ => exact ns_74 h
  | 75, _ => exact ns_75 h
  | 76, _ => exact ns_76 h
  | 77, _ => exact ns_77 h
  | 78, _ => exact ns_78 h
  | 79, _ => exact ns_79 h
  | 80, _ => exact ns_80 h
  | 81, _ => exact ns_81 h
  | 82, _ => exact ns_82 h
  | i + 83, hi => exact absurd hi (by omega)
theorem ns_ref {s : State} {A : Array Value} (hts : ∀ w ∈ lw_tbl, w.before A s = true) : ∀ i : Nat, i < 83 → (Cond.stringRef (stO i).1 (stO i).2.1 (stO i).2.2).before A s = true := by
  intro i hi
  match i, hi with
  | 0, _ => exact hts _ q357
  | 1, _ => exact hts _ q358
  | 2, _ => exact hts _ q359
  | 3, _ => exact hts _ q360
  | 4, _ => exact hts _ q361
  | 5, _ => exact hts _ q362
  | 6, _ => exact hts _ q363
  | 7, _ => exact hts _ q364
  | 8, _ => exact hts _ q365
  | 9, _ => exact hts _ q366
  | 10, _ => exact hts _ q367
  | 11, _ => exact hts _ q368
  | 12, _ => exact hts _ q369
  | 13, _ => exact hts _ q370
  | 14, _ => exact hts _ q371
  | 15, _ => exact hts _ q372
  | 16, _ => exact hts _ q373
  | 17, _ => exact hts _ q374
  | 18, _ => exact hts _ q375
  | 19, _ => exact hts _ q376
  | 20, _ => exact hts _ q377
  | 21, _ => exact hts _ q378
  | 22, _ => exact hts _ q379
  | 23, _ => exact hts _ q380
  | 24, _ => exact hts _ q381
  | 25, _ => exact hts _ q382
  | 26, _ => exact hts _ q383
  | 27, _ => exact hts _ q384
  | 28, _ => exact hts _ q385
  | 29, _ => exact hts _ q386
  | 30, _ => exact hts _ q387
  | 31, _ => exact hts _ q388
  | 32, _ => exact hts _ q389
  | 33, _ => exact hts _ q390
  | 34, _ => exact hts _ q391
  | 35, _ => exact hts _ q392
  | 36, _ => exact hts _ q393
  | 37, _ => exact hts _ q394
  | 38, _ => exact hts _ q395
  | 39, _ => exact hts _ q396
  | 40, _ => exact hts _ q397
  | 41, _ => exact hts _ q398
  | 42, _ => exact hts _ q399
  | 43, _ => exact hts _ q400
  | 44, _ => exact hts _ q401
  | 45, _ => exact hts _ q402
  | 46, _ => exact hts _ q403
  | 47, _ => exact hts _ q404
  | 48, _ => exact hts _ q405
  | 49, _ => exact hts _ q406
  | 50, _ => exact hts _ q407
  | 51, _ => exact hts _ q408
  | 52, _ => exact hts _ q409
  | 53, _ => exact hts _ q410
  | 54, _ => exact hts _ q411
  | 55, _ => exact hts _ q412
  | 56, _ => exact hts _ q413
  | 57, _ => exact hts _ q414
  | 58, _ => exact hts _ q415
  | 59, _ => exact hts _ q416
  | 60, _ => exact hts _ q417
  | 61, _ => exact hts _ q418
  | 62, _ => exact hts _ q419
  | 63, _ => exact hts _ q420
  | 64, _ => exact hts _ q421
  | 65, _ => exact hts _ q422
  | 66, _ => exact hts _ q423
  | 67, _ => exact hts _ q424
  | 68, _ => exact hts _ q425
  | 69, _ => exact hts _ q426
  | 70, _ => exact hts _ q427
  | 71, _ => exact hts _ q428
  | 72, _ => exact hts _ q429
  | 73, _ => exact hts _ q430
  | 74, _ => exact hts _ q431
  | 75, _ => exact hts _ q432
  | 76, _ => exact hts _ q433
  | 77, _ => exact hts _ q354
  | 78, _ => exact hts _ q1812
  | 79, _ => exact hts _ q1819
  | 80, _ => exact hts _ q1820
  | 81, _ => exact hts _ q1821
  | 82, _ => exact hts _ q1822
  | i + 83, hi => exact absurd hi (by omega)
/-- the classes, the array classes -/
theorem st_cls {s : State} {A : Array Value} (hall : ∀ w ∈ lw_all, w.before A s = true) : ∀ c : Nat, ∃ x : ClassId × (Nat → Nat), ∀ q : vw_C, vcl[c]? = some q → u_Kn s q.1 q.2.1 q.2.2 x.1 x.2
  | 0 => by obtain ⟨c, i, h⟩ := u_known (s := s) (args := A) hall in_X1 (hall _ q327); exact ⟨(c, i), fun q hq => by cases hq; exact h⟩
  | 1 => by obtain ⟨c, i, h⟩ := u_known (s := s) (args := A) hall in_X2 (hall _ q335); exact ⟨(c, i), fun q hq => by cases hq; exact h⟩
  | 2 => by obtain ⟨c, i, h⟩ := u_known (s := s) (args := A) hall in_X3 (hall _ q349); exact ⟨(c, i), fun q hq => by cases hq; exact h⟩
  | 3 => by obtain ⟨c, i, h⟩ := u_known (s := s) (args := A) hall in_X4 (hall _ q461); exact ⟨(c, i), fun q hq => by cases hq; exact h⟩
  | 4 => by obtain ⟨c, i, h⟩ := u_known (s := s) (args := A) hall in_X5 (hall _ q495); exact ⟨(c, i), fun q hq => by cases hq; exact h⟩
  | 5 => by obtain ⟨c, i, h⟩ := u_known (s := s) (args := A) hall in_X6 (hall _ q517); exact ⟨(c, i), fun q hq => by cases hq; exact h⟩
  | 6 => by obtain ⟨c, i, h⟩ := u_known (s := s) (args := A) hall in_X7 (hall _ q523); exact ⟨(c, i), fun q hq => by cases hq; exact h⟩
  | 7 => by obtain ⟨c, i, h⟩ := u_known (s := s) (args := A) hall in_X8 (hall _ q536); exact ⟨(c, i), fun q hq => by cases hq; exact h⟩
  | 8 => by obtain ⟨c, i, h⟩ := u_known (s := s) (args := A) hall in_X9 (hall _ q575); exact ⟨(c, i), fun q hq => by cases hq; exact h⟩
  | 9 => by obtain ⟨c, i, h⟩ := u_known (s := s) (args := A) hall in_X10 (hall _ q594); exact ⟨(c, i), fun q hq => by cases hq; exact h⟩
  | 10 => by obtain ⟨c, i, h⟩ := u_known (s := s) (args := A) hall in_X11 (hall _ q609); exact ⟨(c, i), fun q hq => by cases hq; exact h⟩
  | 11 => by obtain ⟨c, i, h⟩ := u_known (s := s) (args := A) hall in_X12 (hall _ q704); exact ⟨(c, i), fun q hq => by cases hq; exact h⟩
  | 12 => by obtain ⟨c, i, h⟩ := u_known (s := s) (args := A) hall in_X13 (hall _ q757); exact ⟨(c, i), fun q hq => by cases hq; exact h⟩
  | 13 => by obtain ⟨c, i, h⟩ := u_known (s := s) (args := A) hall in_X14 (hall _ q2364); exact ⟨(c, i), fun q hq => by cases hq; exact h⟩
  | c + 14 => ⟨(0, fun _ => 0), fun q hq => by cases hq⟩
theorem st_arr {s : State} {A : Array Value} {t : FieldType} (ht : ∀ cA : ClassId, s.vm.findClass ("[" ++ t.toString) = some cA → va_RA s cA t) (h : (Cond.arrayClass t).before A s = true) : ∃ cA : ClassId, ArrOfT s cA t ∧ va_RA s cA t := by
  obtain ⟨c, k, comp, h1, h2, h3⟩ := Cond.arrayClass_spec h
  exact ⟨c, fun n z => ⟨fun k h => (by cases h), k, h2, comp, h3⟩, ht c h1⟩
theorem st_K {s : State} {A : Array Value} (hts : ∀ w ∈ lw_tbl, w.before A s = true) (hall : ∀ w ∈ lw_all, w.before A s = true) : ∃ (D : va_G) (ca : Nat → ClassId), ∀ (r : Nat → Nat → Value) (sa : Nat → Nat), va_K D vcl (vtys (D, ca, r, sa)) s := by
  obtain ⟨x, hx⟩ := Classical.axiomOfChoice (st_cls hall)
  obtain ⟨c1, a1, b1⟩ := st_arr (s := s) (t := .int) (fun _ h => h) (hall _ q459)
  obtain ⟨c2, a2, b2⟩ := st_arr (s := s) (t := .byte) (fun _ h => h) (hall _ q347)
  obtain ⟨c3, a3, b3⟩ := st_arr (s := s) (t := .boolean) (fun _ h => h) (hall _ q755)
  obtain ⟨c4, a4, b4⟩ := st_arr (s := s) (t := .long) (fun _ h => h) (hall _ q2860)
  obtain ⟨comp, c5, k5, h1, -, h2, h3, h4⟩ := Cond.arrayOver_spec (hts _ q356)
  refine ⟨(fun c => (x c).1, fun c => (x c).2), fun t => if t = 24 then c1 else if t = 25 then c2 else if t = 26 then c3 else if t = 27 then c4 else c5, fun r sa => ⟨fun c q hq => hx c q hq, fun k q hq => ?_⟩⟩
  match k, hq with
  | 0, hq => cases hq; exact ⟨a1, b1⟩
  | 1, hq => cases hq; exact ⟨a2, b2⟩
  | 2, hq => cases hq; exact ⟨a3, b3⟩
  | 3, hq => cases hq; exact ⟨a4, b4⟩
  | 4, hq => cases hq; exact ⟨fun n z => ⟨fun k h => (by cases h), k5, h2, comp, h3⟩, k5, comp, h2, h3, h1, h4⟩
  | k + 5, hq => cases hq
/-- the texts' places -/
theorem st_str {s : State} {A : Array Value} (h : narrow_1.before A s = true) (hts : ∀ w ∈ lw_tbl, w.before A s = true) (hall : ∀ w ∈ lw_all, w.before A s = true) : ∃ ad : Nat → Nat × Nat, ∀ i : Nat, i < 83 → va_O "java/lang/String" (ad i).1 (fun q => s.heap.size ≤ q) s s.heap ∧ va_OF "java/lang/String" "coder" "B" (.int 0) (ad i).1 (fun q => s.heap.size ≤ q) s s.heap ∧ va_OF "java/lang/String" "value" "[B" (.ref (ad i).2) (ad i).1 (fun q => s.heap.size ≤ q) s s.heap ∧ va_T .byte (ad i).2 (sLen i) (fun j => .int (Int32.ofInt (sByt i j))) (fun q => s.heap.size ≤ q) s s.heap ∧ vk_R (stO i).1 (stO i).2.1 (stO i).2.2 (ad i).1 s := by
  have hA : ∀ a : Nat, a < s.heap.size → ¬ s.heap.size ≤ a := fun a h => by omega
  have hlen : ∀ i : Nat, i < 83 → sLen i < 2 ^ 31 := by decide
  have h0 : ∀ i : Nat, ∃ q : Nat × Nat, i < 83 → va_O "java/lang/String" q.1 (fun q => s.heap.size ≤ q) s s.heap ∧ va_OF "java/lang/String" "coder" "B" (.int 0) q.1 (fun q => s.heap.size ≤ q) s s.heap ∧ va_OF "java/lang/String" "value" "[B" (.ref q.2) q.1 (fun q => s.heap.size ≤ q) s s.heap ∧ va_T .byte q.2 (sLen i) (fun j => .int (Int32.ofInt (sByt i j))) (fun q => s.heap.size ≤ q) s s.heap ∧ vk_R (stO i).1 (stO i).2.1 (stO i).2.2 q.1 s := by
    intro i
    by_cases hi : i < 83
    · obtain ⟨e1, e2, e3, e4, e5⟩ := ns_all h i hi
      obtain ⟨a, c, cA, kA, q1, q2, q3, q4, q5, q6, -⟩ := Cond.exactly_spec (args := A) (first := s) (o := none) (s := s) (idx := []) e1
      obtain ⟨t, ht, hT⟩ := va_Tof (f := fun j => .int (Int32.ofInt (sByt i j))) (A := fun q => s.heap.size ≤ q) (hlen i hi) e3 (va_eqt e4) (fun j hj => va_eqt (e5 j hj)) hA
      exact ⟨(a, t), fun _ => ⟨⟨cA, q3, q5, by rw [q6]; exact q2, hA a (Array.getElem?_eq_some_iff.mp q3).1⟩, vk_OFof q1 (va_eqt e2) hA, vk_OFof q1 ht hA, hT, vk_R.of (ns_ref hts i hi) q1⟩⟩
    · exact ⟨(0, 0), fun z => absurd z hi⟩
  obtain ⟨ad, had⟩ := Classical.axiomOfChoice h0
  exact ⟨ad, had⟩
/-- the places at the start: texts, their bytes, the script -/
def a00 (ad : Nat → Nat × Nat) (b : Nat) : Nat → Nat := fun k => if k = 1200 then b else if k < 1100 then (ad (k - 1000)).1 else (ad (k - 1100)).2
theorem st_VN {s : State} {l : Launch} {b : Nat} (hflags : l.flags = flags0) (h : narrow_1.before #[Value.ref b] s = true) (hts : ∀ w ∈ lw_tbl, w.before #[Value.ref b] s = true) (hall : ∀ w ∈ lw_all, w.before #[Value.ref b] s = true) : ∃ (G : vG) (a : Nat → Nat), a 1200 = b ∧ va_K G.1 vcl (vtys G) s ∧ VN G a (fun q => s.heap.size ≤ q) l s s.heap := by
  obtain ⟨ad, had⟩ := st_str h hts hall
  obtain ⟨D, ca, hK⟩ := st_K hts hall
  have hA : ∀ a : Nat, a < s.heap.size → ¬ s.heap.size ≤ a := fun a h => by omega
  refine ⟨(D, ca, fun _ _ => .ref (a00 ad b 1077), fun i => a00 ad b (1000 + i)), a00 ad b, rfl, hK _ _, fun w hw => ?_, ⟨fun i hi => ?_, va_Zof (hts _ q1119) (hall _ q318) (va_eqt (bl (bl (br (bl (bl (bl (bl (bl (bl (bl h))))))))))) hA, va_Zqof (hts _ q1135) (hall _ q320) (br (bl (br (bl (bl (bl (bl (bl (bl (bl h)))))))))) hA⟩, ⟨fun i _ => rfl, rfl⟩, ?_, vx_Zqof (hts _ q960) (hall _ q312) (bl (br (bl (bl (bl (bl (bl (bl (bl (bl h)))))))))) hA, vx_Zqof (hts _ q962) (hall _ q312) (br (br (bl (bl (bl (bl (bl (bl (bl (bl h)))))))))) hA, va_Nc.of (br (br (br (bl (bl (br (bl (bl (bl (bl h)))))))))), va_Nc.of (br (bl (bl (br (br (br (bl (bl (bl (bl h)))))))))), va_AO.of (hts _ q356)⟩
  · have h1 := hts w (List.mem_filter.mp hw).1
    rcases nest_case hw with ⟨a, i, x, c, rfl⟩ | ⟨a, i, b, n, d, c, rfl⟩ | ⟨C, T, rfl⟩ | ⟨x, rfl⟩
    · exact h1
    · exact h1
    · exact h1
    · exact h1
  · have e1 : a00 ad b (1000 + i) = (ad i).1 := by
      unfold a00
      rw [if_neg (by omega), if_pos (by omega), Nat.add_sub_cancel_left]
    have e2 : a00 ad b (1100 + i) = (ad i).2 := by
      unfold a00
      rw [if_neg (by omega), if_neg (by omega), Nat.add_sub_cancel_left]
    rw [e1, e2]
    exact had i hi
  · unfold Launch.stackTraces
    rw [hflags]
    simp [flags0]
