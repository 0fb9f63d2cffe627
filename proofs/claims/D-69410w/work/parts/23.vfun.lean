set_option maxRecDepth 100000
/-! FUNCTIONS 1: the words that the extracted functions are written in -/
abbrev inb (i : Int) (n : Nat) : Prop := 0 ≤ i ∧ i < (n : Int)
abbrev naG (n : Int) : Prop := 0 ≤ n ∧ n ≤ 60000000
abbrev cpG (sp dp n : Int) (a b : Nat) : Prop := 0 ≤ sp ∧ 0 ≤ dp ∧ 0 ≤ n ∧ sp + n ≤ (a : Int) ∧ dp + n ≤ (b : Int)
abbrev okB (k c : Nat) : Prop := k < KF ∧ kd k = c
/-- how often a loop may go round -/
def FU : Nat := 1000000000000
def gd (p : Prop) [Decidable p] {α : Type} (k : Option α) : Option α := if p then k else none
theorem gd_some {p : Prop} [Decidable p] {α : Type} {k : Option α} {r : α} (h : gd p k = some r) : p ∧ k = some r := by
  unfold gd at h
  by_cases z : p
  · rw [if_pos z] at h; exact ⟨z, h⟩
  · rw [if_neg z] at h; cases h
theorem gd_pos {p : Prop} [Decidable p] {α : Type} {k : Option α} (h : p) : gd p k = k := by unfold gd; rw [if_pos h]
def stp {α : Type} (s : vS) (k : vS → Option α) : Option α := k s
theorem stp_some {α : Type} {s : vS} {k : vS → Option α} {r : α} (h : stp s k = some r) : ∃ s1, s1 = s ∧ k s1 = some r := ⟨s, rfl, h⟩
def vl {α : Type} (x : Int) (k : Int → Option α) : Option α := k x
theorem vl_some {α : Type} {x : Int} {k : Int → Option α} {r : α} (h : vl x k = some r) : ∃ y, y = x ∧ k y = some r := ⟨x, rfl, h⟩
def bd {α : Type} (m : Option (Int × vS)) (k : Int → vS → Option α) : Option α := m.bind fun q => k q.1 q.2
theorem bd_some {α : Type} {m : Option (Int × vS)} {k : Int → vS → Option α} {r : α} (h : bd m k = some r) : ∃ x s, m = some (x, s) ∧ k x s = some r := by
  match m, h with
  | some (x, s), h => exact ⟨x, s, rfl, h⟩
def bdv {α : Type} (m : Option vS) (k : vS → Option α) : Option α := m.bind k
theorem bdv_some {α : Type} {m : Option vS} {k : vS → Option α} {r : α} (h : bdv m k = some r) : ∃ s, m = some s ∧ k s = some r := by
  match m, h with
  | some s, h => exact ⟨s, rfl, h⟩
def bdo {α : Type} (m : Option (Nat × vS)) (k : Nat → vS → Option α) : Option α := m.bind fun q => k q.1 q.2
theorem bdo_some {α : Type} {m : Option (Nat × vS)} {k : Nat → vS → Option α} {r : α} (h : bdo m k = some r) : ∃ x s, m = some (x, s) ∧ k x s = some r := by
  match m, h with
  | some (x, s), h => exact ⟨x, s, rfl, h⟩
theorem bd_eq {α : Type} (x : Int) (s : vS) (k : Int → vS → Option α) : bd (some (x, s)) k = k x s := rfl
theorem bdv_eq {α : Type} (s : vS) (k : vS → Option α) : bdv (some s) k = k s := rfl
theorem bdo_eq {α : Type} (x : Nat) (s : vS) (k : Nat → vS → Option α) : bdo (some (x, s)) k = k x s := rfl
def lq_0 {α : Type} (m : Option (vS)) (k : vS → Option α) : Option α := m.bind fun q => k q
theorem lq_0_some {α : Type} {m : Option (vS)} {k : vS → Option α} {r : α} (h : lq_0 m k = some r) : ∃ s, m = some s ∧ k s = some r := by
  match m, h with
  | some s, h => exact ⟨s, rfl, h⟩
theorem lq_0_eq {α : Type} (s : vS) (k : vS → Option α) : lq_0 (some s) k = k s := rfl
def lqs_0 {α ρ : Type} (m : Option ((vS) ⊕ ρ)) (k : vS → Option α) (kr : ρ → Option α) : Option α := m.bind fun z => match z with | .inl q => k q | .inr q => kr q
theorem lqs_0_some {α ρ : Type} {m : Option ((vS) ⊕ ρ)} {k : vS → Option α} {kr : ρ → Option α} {r : α} (h : lqs_0 m k kr = some r) : (∃ s, m = some (.inl s) ∧ k s = some r) ∨ (∃ q, m = some (.inr q) ∧ kr q = some r) := by
  match m, h with
  | some (.inl s), h => exact Or.inl ⟨s, rfl, h⟩
  | some (.inr q), h => exact Or.inr ⟨q, rfl, h⟩
def lq_1 {α : Type} (m : Option (Int × vS)) (k : Int → vS → Option α) : Option α := m.bind fun q => k q.1 q.2
theorem lq_1_some {α : Type} {m : Option (Int × vS)} {k : Int → vS → Option α} {r : α} (h : lq_1 m k = some r) : ∃ x0 s, m = some (x0, s) ∧ k x0 s = some r := by
  match m, h with
  | some (x0, s), h => exact ⟨x0, s, rfl, h⟩
theorem lq_1_eq {α : Type} (x0 : Int) (s : vS) (k : Int → vS → Option α) : lq_1 (some (x0, s)) k = k x0 s := rfl
def lqs_1 {α ρ : Type} (m : Option ((Int × vS) ⊕ ρ)) (k : Int → vS → Option α) (kr : ρ → Option α) : Option α := m.bind fun z => match z with | .inl q => k q.1 q.2 | .inr q => kr q
theorem lqs_1_some {α ρ : Type} {m : Option ((Int × vS) ⊕ ρ)} {k : Int → vS → Option α} {kr : ρ → Option α} {r : α} (h : lqs_1 m k kr = some r) : (∃ x0 s, m = some (.inl (x0, s)) ∧ k x0 s = some r) ∨ (∃ q, m = some (.inr q) ∧ kr q = some r) := by
  match m, h with
  | some (.inl (x0, s)), h => exact Or.inl ⟨x0, s, rfl, h⟩
  | some (.inr q), h => exact Or.inr ⟨q, rfl, h⟩
def lq_2 {α : Type} (m : Option (Int × Int × vS)) (k : Int → Int → vS → Option α) : Option α := m.bind fun q => k q.1 q.2.1 q.2.2
theorem lq_2_some {α : Type} {m : Option (Int × Int × vS)} {k : Int → Int → vS → Option α} {r : α} (h : lq_2 m k = some r) : ∃ x0 x1 s, m = some (x0, x1, s) ∧ k x0 x1 s = some r := by
  match m, h with
  | some (x0, x1, s), h => exact ⟨x0, x1, s, rfl, h⟩
theorem lq_2_eq {α : Type} (x0 x1 : Int) (s : vS) (k : Int → Int → vS → Option α) : lq_2 (some (x0, x1, s)) k = k x0 x1 s := rfl
def lqs_2 {α ρ : Type} (m : Option ((Int × Int × vS) ⊕ ρ)) (k : Int → Int → vS → Option α) (kr : ρ → Option α) : Option α := m.bind fun z => match z with | .inl q => k q.1 q.2.1 q.2.2 | .inr q => kr q
theorem lqs_2_some {α ρ : Type} {m : Option ((Int × Int × vS) ⊕ ρ)} {k : Int → Int → vS → Option α} {kr : ρ → Option α} {r : α} (h : lqs_2 m k kr = some r) : (∃ x0 x1 s, m = some (.inl (x0, x1, s)) ∧ k x0 x1 s = some r) ∨ (∃ q, m = some (.inr q) ∧ kr q = some r) := by
  match m, h with
  | some (.inl (x0, x1, s)), h => exact Or.inl ⟨x0, x1, s, rfl, h⟩
  | some (.inr q), h => exact Or.inr ⟨q, rfl, h⟩
def lq_3 {α : Type} (m : Option (Int × Int × Int × vS)) (k : Int → Int → Int → vS → Option α) : Option α := m.bind fun q => k q.1 q.2.1 q.2.2.1 q.2.2.2
theorem lq_3_some {α : Type} {m : Option (Int × Int × Int × vS)} {k : Int → Int → Int → vS → Option α} {r : α} (h : lq_3 m k = some r) : ∃ x0 x1 x2 s, m = some (x0, x1, x2, s) ∧ k x0 x1 x2 s = some r := by
  match m, h with
  | some (x0, x1, x2, s), h => exact ⟨x0, x1, x2, s, rfl, h⟩
theorem lq_3_eq {α : Type} (x0 x1 x2 : Int) (s : vS) (k : Int → Int → Int → vS → Option α) : lq_3 (some (x0, x1, x2, s)) k = k x0 x1 x2 s := rfl
def lqs_3 {α ρ : Type} (m : Option ((Int × Int × Int × vS) ⊕ ρ)) (k : Int → Int → Int → vS → Option α) (kr : ρ → Option α) : Option α := m.bind fun z => match z with | .inl q => k q.1 q.2.1 q.2.2.1 q.2.2.2 | .inr q => kr q
theorem lqs_3_some {α ρ : Type} {m : Option ((Int × Int × Int × vS) ⊕ ρ)} {k : Int → Int → Int → vS → Option α} {kr : ρ → Option α} {r : α} (h : lqs_3 m k kr = some r) : (∃ x0 x1 x2 s, m = some (.inl (x0, x1, x2, s)) ∧ k x0 x1 x2 s = some r) ∨ (∃ q, m = some (.inr q) ∧ kr q = some r) := by
  match m, h with
  | some (.inl (x0, x1, x2, s)), h => exact Or.inl ⟨x0, x1, x2, s, rfl, h⟩
  | some (.inr q), h => exact Or.inr ⟨q, rfl, h⟩
def lq_4 {α : Type} (m : Option (Int × Int × Int × Int × vS)) (k : Int → Int → Int → Int → vS → Option α) : Option α := m.bind fun q => k q.1 q.2.1 q.2.2.1 q.2.2.2.1 q.2.2.2.2
theorem lq_4_some {α : Type} {m : Option (Int × Int × Int × Int × vS)} {k : Int → Int → Int → Int → vS → Option α} {r : α} (h : lq_4 m k = some r) : ∃ x0 x1 x2 x3 s, m = some (x0, x1, x2, x3, s) ∧ k x0 x1 x2 x3 s = some r := by
  match m, h with
  | some (x0, x1, x2, x3, s), h => exact ⟨x0, x1, x2, x3, s, rfl, h⟩
theorem lq_4_eq {α : Type} (x0 x1 x2 x3 : Int) (s : vS) (k : Int → Int → Int → Int → vS → Option α) : lq_4 (some (x0, x1, x2, x3, s)) k = k x0 x1 x2 x3 s := rfl
def lqs_4 {α ρ : Type} (m : Option ((Int × Int × Int × Int × vS) ⊕ ρ)) (k : Int → Int → Int → Int → vS → Option α) (kr : ρ → Option α) : Option α := m.bind fun z => match z with | .inl q => k q.1 q.2.1 q.2.2.1 q.2.2.2.1 q.2.2.2.2 | .inr q => kr q
theorem lqs_4_some {α ρ : Type} {m : Option ((Int × Int × Int × Int × vS) ⊕ ρ)} {k : Int → Int → Int → Int → vS → Option α} {kr : ρ → Option α} {r : α} (h : lqs_4 m k kr = some r) : (∃ x0 x1 x2 x3 s, m = some (.inl (x0, x1, x2, x3, s)) ∧ k x0 x1 x2 x3 s = some r) ∨ (∃ q, m = some (.inr q) ∧ kr q = some r) := by
  match m, h with
  | some (.inl (x0, x1, x2, x3, s)), h => exact Or.inl ⟨x0, x1, x2, x3, s, rfl, h⟩
  | some (.inr q), h => exact Or.inr ⟨q, rfl, h⟩
def lq_5 {α : Type} (m : Option (Int × Int × Int × Int × Int × vS)) (k : Int → Int → Int → Int → Int → vS → Option α) : Option α := m.bind fun q => k q.1 q.2.1 q.2.2.1 q.2.2.2.1 q.2.2.2.2.1 q.2.2.2.2.2
theorem lq_5_some {α : Type} {m : Option (Int × Int × Int × Int × Int × vS)} {k : Int → Int → Int → Int → Int → vS → Option α} {r : α} (h : lq_5 m k = some r) : ∃ x0 x1 x2 x3 x4 s, m = some (x0, x1, x2, x3, x4, s) ∧ k x0 x1 x2 x3 x4 s = some r := by
  match m, h with
  | some (x0, x1, x2, x3, x4, s), h => exact ⟨x0, x1, x2, x3, x4, s, rfl, h⟩
theorem lq_5_eq {α : Type} (x0 x1 x2 x3 x4 : Int) (s : vS) (k : Int → Int → Int → Int → Int → vS → Option α) : lq_5 (some (x0, x1, x2, x3, x4, s)) k = k x0 x1 x2 x3 x4 s := rfl
def lqs_5 {α ρ : Type} (m : Option ((Int × Int × Int × Int × Int × vS) ⊕ ρ)) (k : Int → Int → Int → Int → Int → vS → Option α) (kr : ρ → Option α) : Option α := m.bind fun z => match z with | .inl q => k q.1 q.2.1 q.2.2.1 q.2.2.2.1 q.2.2.2.2.1 q.2.2.2.2.2 | .inr q => kr q
theorem lqs_5_some {α ρ : Type} {m : Option ((Int × Int × Int × Int × Int × vS) ⊕ ρ)} {k : Int → Int → Int → Int → Int → vS → Option α} {kr : ρ → Option α} {r : α} (h : lqs_5 m k kr = some r) : (∃ x0 x1 x2 x3 x4 s, m = some (.inl (x0, x1, x2, x3, x4, s)) ∧ k x0 x1 x2 x3 x4 s = some r) ∨ (∃ q, m = some (.inr q) ∧ kr q = some r) := by
  match m, h with
  | some (.inl (x0, x1, x2, x3, x4, s)), h => exact Or.inl ⟨x0, x1, x2, x3, x4, s, rfl, h⟩
  | some (.inr q), h => exact Or.inr ⟨q, rfl, h⟩
def lq_6 {α : Type} (m : Option (Int × Int × Int × Int × Int × Int × vS)) (k : Int → Int → Int → Int → Int → Int → vS → Option α) : Option α := m.bind fun q => k q.1 q.2.1 q.2.2.1 q.2.2.2.1 q.2.2.2.2.1 q.2.2.2.2.2.1 q.2.2.2.2.2.2
theorem lq_6_some {α : Type} {m : Option (Int × Int × Int × Int × Int × Int × vS)} {k : Int → Int → Int → Int → Int → Int → vS → Option α} {r : α} (h : lq_6 m k = some r) : ∃ x0 x1 x2 x3 x4 x5 s, m = some (x0, x1, x2, x3, x4, x5, s) ∧ k x0 x1 x2 x3 x4 x5 s = some r := by
  match m, h with
  | some (x0, x1, x2, x3, x4, x5, s), h => exact ⟨x0, x1, x2, x3, x4, x5, s, rfl, h⟩
theorem lq_6_eq {α : Type} (x0 x1 x2 x3 x4 x5 : Int) (s : vS) (k : Int → Int → Int → Int → Int → Int → vS → Option α) : lq_6 (some (x0, x1, x2, x3, x4, x5, s)) k = k x0 x1 x2 x3 x4 x5 s := rfl
def lqs_6 {α ρ : Type} (m : Option ((Int × Int × Int × Int × Int × Int × vS) ⊕ ρ)) (k : Int → Int → Int → Int → Int → Int → vS → Option α) (kr : ρ → Option α) : Option α := m.bind fun z => match z with | .inl q => k q.1 q.2.1 q.2.2.1 q.2.2.2.1 q.2.2.2.2.1 q.2.2.2.2.2.1 q.2.2.2.2.2.2 | .inr q => kr q
theorem lqs_6_some {α ρ : Type} {m : Option ((Int × Int × Int × Int × Int × Int × vS) ⊕ ρ)} {k : Int → Int → Int → Int → Int → Int → vS → Option α} {kr : ρ → Option α} {r : α} (h : lqs_6 m k kr = some r) : (∃ x0 x1 x2 x3 x4 x5 s, m = some (.inl (x0, x1, x2, x3, x4, x5, s)) ∧ k x0 x1 x2 x3 x4 x5 s = some r) ∨ (∃ q, m = some (.inr q) ∧ kr q = some r) := by
  match m, h with
  | some (.inl (x0, x1, x2, x3, x4, x5, s)), h => exact Or.inl ⟨x0, x1, x2, x3, x4, x5, s, rfl, h⟩
  | some (.inr q), h => exact Or.inr ⟨q, rfl, h⟩
def lq_7 {α : Type} (m : Option (Int × Int × Int × Int × Int × Int × Int × vS)) (k : Int → Int → Int → Int → Int → Int → Int → vS → Option α) : Option α := m.bind fun q => k q.1 q.2.1 q.2.2.1 q.2.2.2.1 q.2.2.2.2.1 q.2.2.2.2.2.1 q.2.2.2.2.2.2.1 q.2.2.2.2.2.2.2
theorem lq_7_some {α : Type} {m : Option (Int × Int × Int × Int × Int × Int × Int × vS)} {k : Int → Int → Int → Int → Int → Int → Int → vS → Option α} {r : α} (h : lq_7 m k = some r) : ∃ x0 x1 x2 x3 x4 x5 x6 s, m = some (x0, x1, x2, x3, x4, x5, x6, s) ∧ k x0 x1 x2 x3 x4 x5 x6 s = some r := by
  match m, h with
  | some (x0, x1, x2, x3, x4, x5, x6, s), h => exact ⟨x0, x1, x2, x3, x4, x5, x6, s, rfl, h⟩
theorem lq_7_eq {α : Type} (x0 x1 x2 x3 x4 x5 x6 : Int) (s : vS) (k : Int → Int → Int → Int → Int → Int → Int → vS → Option α) : lq_7 (some (x0, x1, x2, x3, x4, x5, x6, s)) k = k x0 x1 x2 x3 x4 x5 x6 s := rfl
def lqs_7 {α ρ : Type} (m : Option ((Int × Int × Int × Int × Int × Int × Int × vS) ⊕ ρ)) (k : Int → Int → Int → Int → Int → Int → Int → vS → Option α) (kr : ρ → Option α) : Option α := m.bind fun z => match z with | .inl q => k q.1 q.2.1 q.2.2.1 q.2.2.2.1 q.2.2.2.2.1 q.2.2.2.2.2.1 q.2.2.2.2.2.2.1 q.2.2.2.2.2.2.2 | .inr q => kr q
theorem lqs_7_some {α ρ : Type} {m : Option ((Int × Int × Int × Int × Int × Int × Int × vS) ⊕ ρ)} {k : Int → Int → Int → Int → Int → Int → Int → vS → Option α} {kr : ρ → Option α} {r : α} (h : lqs_7 m k kr = some r) : (∃ x0 x1 x2 x3 x4 x5 x6 s, m = some (.inl (x0, x1, x2, x3, x4, x5, x6, s)) ∧ k x0 x1 x2 x3 x4 x5 x6 s = some r) ∨ (∃ q, m = some (.inr q) ∧ kr q = some r) := by
  match m, h with
  | some (.inl (x0, x1, x2, x3, x4, x5, x6, s)), h => exact Or.inl ⟨x0, x1, x2, x3, x4, x5, x6, s, rfl, h⟩
  | some (.inr q), h => exact Or.inr ⟨q, rfl, h⟩
def lq_8 {α : Type} (m : Option (Int × Int × Int × Int × Int × Int × Int × Int × vS)) (k : Int → Int → Int → Int → Int → Int → Int → Int → vS → Option α) : Option α := m.bind fun q => k q.1 q.2.1 q.2.2.1 q.2.2.2.1 q.2.2.2.2.1 q.2.2.2.2.2.1 q.2.2.2.2.2.2.1 q.2.2.2.2.2.2.2.1 q.2.2.2.2.2.2.2.2
theorem lq_8_some {α : Type} {m : Option (Int × Int × Int × Int × Int × Int × Int × Int × vS)} {k : Int → Int → Int → Int → Int → Int → Int → Int → vS → Option α} {r : α} (h : lq_8 m k = some r) : ∃ x0 x1 x2 x3 x4 x5 x6 x7 s, m = some (x0, x1, x2, x3, x4, x5, x6, x7, s) ∧ k x0 x1 x2 x3 x4 x5 x6 x7 s = some r := by
  match m, h with
  | some (x0, x1, x2, x3, x4, x5, x6, x7, s), h => exact ⟨x0, x1, x2, x3, x4, x5, x6, x7, s, rfl, h⟩
theorem lq_8_eq {α : Type} (x0 x1 x2 x3 x4 x5 x6 x7 : Int) (s : vS) (k : Int → Int → Int → Int → Int → Int → Int → Int → vS → Option α) : lq_8 (some (x0, x1, x2, x3, x4, x5, x6, x7, s)) k = k x0 x1 x2 x3 x4 x5 x6 x7 s := rfl
def lqs_8 {α ρ : Type} (m : Option ((Int × Int × Int × Int × Int × Int × Int × Int × vS) ⊕ ρ)) (k : Int → Int → Int → Int → Int → Int → Int → Int → vS → Option α) (kr : ρ → Option α) : Option α := m.bind fun z => match z with | .inl q => k q.1 q.2.1 q.2.2.1 q.2.2.2.1 q.2.2.2.2.1 q.2.2.2.2.2.1 q.2.2.2.2.2.2.1 q.2.2.2.2.2.2.2.1 q.2.2.2.2.2.2.2.2 | .inr q => kr q
theorem lqs_8_some {α ρ : Type} {m : Option ((Int × Int × Int × Int × Int × Int × Int × Int × vS) ⊕ ρ)} {k : Int → Int → Int → Int → Int → Int → Int → Int → vS → Option α} {kr : ρ → Option α} {r : α} (h : lqs_8 m k kr = some r) : (∃ x0 x1 x2 x3 x4 x5 x6 x7 s, m = some (.inl (x0, x1, x2, x3, x4, x5, x6, x7, s)) ∧ k x0 x1 x2 x3 x4 x5 x6 x7 s = some r) ∨ (∃ q, m = some (.inr q) ∧ kr q = some r) := by
  match m, h with
  | some (.inl (x0, x1, x2, x3, x4, x5, x6, x7, s)), h => exact Or.inl ⟨x0, x1, x2, x3, x4, x5, x6, x7, s, rfl, h⟩
  | some (.inr q), h => exact Or.inr ⟨q, rfl, h⟩
def lq_9 {α : Type} (m : Option (Int × Int × Int × Int × Int × Int × Int × Int × Int × vS)) (k : Int → Int → Int → Int → Int → Int → Int → Int → Int → vS → Option α) : Option α := m.bind fun q => k q.1 q.2.1 q.2.2.1 q.2.2.2.1 q.2.2.2.2.1 q.2.2.2.2.2.1 q.2.2.2.2.2.2.1 q.2.2.2.2.2.2.2.1 q.2.2.2.2.2.2.2.2.1 q.2.2.2.2.2.2.2.2.2
theorem lq_9_some {α : Type} {m : Option (Int × Int × Int × Int × Int × Int × Int × Int × Int × vS)} {k : Int → Int → Int → Int → Int → Int → Int → Int → Int → vS → Option α} {r : α} (h : lq_9 m k = some r) : ∃ x0 x1 x2 x3 x4 x5 x6 x7 x8 s, m = some (x0, x1, x2, x3, x4, x5, x6, x7, x8, s) ∧ k x0 x1 x2 x3 x4 x5 x6 x7 x8 s = some r := by
  match m, h with
  | some (x0, x1, x2, x3, x4, x5, x6, x7, x8, s), h => exact ⟨x0, x1, x2, x3, x4, x5, x6, x7, x8, s, rfl, h⟩
theorem lq_9_eq {α : Type} (x0 x1 x2 x3 x4 x5 x6 x7 x8 : Int) (s : vS) (k : Int → Int → Int → Int → Int → Int → Int → Int → Int → vS → Option α) : lq_9 (some (x0, x1, x2, x3, x4, x5, x6, x7, x8, s)) k = k x0 x1 x2 x3 x4 x5 x6 x7 x8 s := rfl
def lqs_9 {α ρ : Type} (m : Option ((Int × Int × Int × Int × Int × Int × Int × Int × Int × vS) ⊕ ρ)) (k : Int → Int → Int → Int → Int → Int → Int → Int → Int → vS → Option α) (kr : ρ → Option α) : Option α := m.bind fun z => match z with | .inl q => k q.1 q.2.1 q.2.2.1 q.2.2.2.1 q.2.2.2.2.1 q.2.2.2.2.2.1 q.2.2.2.2.2.2.1 q.2.2.2.2.2.2.2.1 q.2.2.2.2.2.2.2.2.1 q.2.2.2.2.2.2.2.2.2 | .inr q => kr q
theorem lqs_9_some {α ρ : Type} {m : Option ((Int × Int × Int × Int × Int × Int × Int × Int × Int × vS) ⊕ ρ)} {k : Int → Int → Int → Int → Int → Int → Int → Int → Int → vS → Option α} {kr : ρ → Option α} {r : α} (h : lqs_9 m k kr = some r) : (∃ x0 x1 x2 x3 x4 x5 x6 x7 x8 s, m = some (.inl (x0, x1, x2, x3, x4, x5, x6, x7, x8, s)) ∧ k x0 x1 x2 x3 x4 x5 x6 x7 x8 s = some r) ∨ (∃ q, m = some (.inr q) ∧ kr q = some r) := by
  match m, h with
  | some (.inl (x0, x1, x2, x3, x4, x5, x6, x7, x8, s)), h => exact Or.inl ⟨x0, x1, x2, x3, x4, x5, x6, x7, x8, s, rfl, h⟩
  | some (.inr q), h => exact Or.inr ⟨q, rfl, h⟩
def lq_10 {α : Type} (m : Option (Int × Int × Int × Int × Int × Int × Int × Int × Int × Int × vS)) (k : Int → Int → Int → Int → Int → Int → Int → Int → Int → Int → vS → Option α) : Option α := m.bind fun q => k q.1 q.2.1 q.2.2.1 q.2.2.2.1 q.2.2.2.2.1 q.2.2.2.2.2.1 q.2.2.2.2.2.2.1 q.2.2.2.2.2.2.2.1 q.2.2.2.2.2.2.2.2.1 q.2.2.2.2.2.2.2.2.2.1 q.2.2.2.2.2.2.2.2.2.2
theorem lq_10_some {α : Type} {m : Option (Int × Int × Int × Int × Int × Int × Int × Int × Int × Int × vS)} {k : Int → Int → Int → Int → Int → Int → Int → Int → Int → Int → vS → Option α} {r : α} (h : lq_10 m k = some r) : ∃ x0 x1 x2 x3 x4 x5 x6 x7 x8 x9 s, m = some (x0, x1, x2, x3, x4, x5, x6, x7, x8, x9, s) ∧ k x0 x1 x2 x3 x4 x5 x6 x7 x8 x9 s = some r := by
  match m, h with
  | some (x0, x1, x2, x3, x4, x5, x6, x7, x8, x9, s), h => exact ⟨x0, x1, x2, x3, x4, x5, x6, x7, x8, x9, s, rfl, h⟩
theorem lq_10_eq {α : Type} (x0 x1 x2 x3 x4 x5 x6 x7 x8 x9 : Int) (s : vS) (k : Int → Int → Int → Int → Int → Int → Int → Int → Int → Int → vS → Option α) : lq_10 (some (x0, x1, x2, x3, x4, x5, x6, x7, x8, x9, s)) k = k x0 x1 x2 x3 x4 x5 x6 x7 x8 x9 s := rfl
def lqs_10 {α ρ : Type} (m : Option ((Int × Int × Int × Int × Int × Int × Int × Int × Int × Int × vS) ⊕ ρ)) (k : Int → Int → Int → Int → Int → Int → Int → Int → Int → Int → vS → Option α) (kr : ρ → Option α) : Option α := m.bind fun z => match z with | .inl q => k q.1 q.2.1 q.2.2.1 q.2.2.2.1 q.2.2.2.2.1 q.2.2.2.2.2.1 q.2.2.2.2.2.2.1 q.2.2.2.2.2.2.2.1 q.2.2.2.2.2.2.2.2.1 q.2.2.2.2.2.2.2.2.2.1 q.2.2.2.2.2.2.2.2.2.2 | .inr q => kr q
theorem lqs_10_some {α ρ : Type} {m : Option ((Int × Int × Int × Int × Int × Int × Int × Int × Int × Int × vS) ⊕ ρ)} {k : Int → Int → Int → Int → Int → Int → Int → Int → Int → Int → vS → Option α} {kr : ρ → Option α} {r : α} (h : lqs_10 m k kr = some r) : (∃ x0 x1 x2 x3 x4 x5 x6 x7 x8 x9 s, m = some (.inl (x0, x1, x2, x3, x4, x5, x6, x7, x8, x9, s)) ∧ k x0 x1 x2 x3 x4 x5 x6 x7 x8 x9 s = some r) ∨ (∃ q, m = some (.inr q) ∧ kr q = some r) := by
  match m, h with
  | some (.inl (x0, x1, x2, x3, x4, x5, x6, x7, x8, x9, s)), h => exact Or.inl ⟨x0, x1, x2, x3, x4, x5, x6, x7, x8, x9, s, rfl, h⟩
  | some (.inr q), h => exact Or.inr ⟨q, rfl, h⟩
theorem oc0 {tk : List (Nat × Nat)} : ok (P0 tk) 0 0 := ok_of (by decide) rfl
theorem kc0 {σ τ : vS} : kp σ τ 0 := Or.inl ⟨by decide, Or.inr (by decide)⟩
theorem oc1 {tk : List (Nat × Nat)} : ok (P0 tk) 1 1 := ok_of (by decide) rfl
theorem kc1 {σ τ : vS} : kp σ τ 1 := Or.inl ⟨by decide, Or.inr (by decide)⟩
theorem oc2 {tk : List (Nat × Nat)} : ok (P0 tk) 2 25 := ok_of (by decide) rfl
theorem oc3 {tk : List (Nat × Nat)} : ok (P0 tk) 3 1 := ok_of (by decide) rfl
theorem kc3 {σ τ : vS} : kp σ τ 3 := Or.inl ⟨by decide, Or.inr (by decide)⟩
theorem oc4 {tk : List (Nat × Nat)} : ok (P0 tk) 4 25 := ok_of (by decide) rfl
theorem oc5 {tk : List (Nat × Nat)} : ok (P0 tk) 5 2 := ok_of (by decide) rfl
theorem kc5 {σ τ : vS} : kp σ τ 5 := Or.inl ⟨by decide, Or.inr (by decide)⟩
theorem oc6 {tk : List (Nat × Nat)} : ok (P0 tk) 6 28 := ok_of (by decide) rfl
theorem oc7 {tk : List (Nat × Nat)} : ok (P0 tk) 7 24 := ok_of (by decide) rfl
theorem oc8 {tk : List (Nat × Nat)} : ok (P0 tk) 8 24 := ok_of (by decide) rfl
theorem oc9 {tk : List (Nat × Nat)} : ok (P0 tk) 9 24 := ok_of (by decide) rfl
theorem oc10 {tk : List (Nat × Nat)} : ok (P0 tk) 10 3 := ok_of (by decide) rfl
theorem kc10 {σ τ : vS} : kp σ τ 10 := Or.inl ⟨by decide, Or.inr (by decide)⟩
theorem oc11 {tk : List (Nat × Nat)} : ok (P0 tk) 11 24 := ok_of (by decide) rfl
theorem oc12 {tk : List (Nat × Nat)} : ok (P0 tk) 12 4 := ok_of (by decide) rfl
theorem kc12 {σ τ : vS} : kp σ τ 12 := Or.inl ⟨by decide, Or.inr (by decide)⟩
theorem oc13 {tk : List (Nat × Nat)} : ok (P0 tk) 13 5 := ok_of (by decide) rfl
theorem kc13 {σ τ : vS} : kp σ τ 13 := Or.inl ⟨by decide, Or.inr (by decide)⟩
theorem oc14 {tk : List (Nat × Nat)} : ok (P0 tk) 14 6 := ok_of (by decide) rfl
theorem kc14 {σ τ : vS} : kp σ τ 14 := Or.inl ⟨by decide, Or.inr (by decide)⟩
theorem oc15 {tk : List (Nat × Nat)} : ok (P0 tk) 15 24 := ok_of (by decide) rfl
theorem oc16 {tk : List (Nat × Nat)} : ok (P0 tk) 16 7 := ok_of (by decide) rfl
theorem kc16 {σ τ : vS} : kp σ τ 16 := Or.inl ⟨by decide, Or.inr (by decide)⟩
theorem oc17 {tk : List (Nat × Nat)} : ok (P0 tk) 17 1 := ok_of (by decide) rfl
theorem kc17 {σ τ : vS} : kp σ τ 17 := Or.inl ⟨by decide, Or.inr (by decide)⟩
theorem oc18 {tk : List (Nat × Nat)} : ok (P0 tk) 18 25 := ok_of (by decide) rfl
theorem oc19 {tk : List (Nat × Nat)} : ok (P0 tk) 19 8 := ok_of (by decide) rfl
theorem kc19 {σ τ : vS} : kp σ τ 19 := Or.inl ⟨by decide, Or.inr (by decide)⟩
theorem oc20 {tk : List (Nat × Nat)} : ok (P0 tk) 20 24 := ok_of (by decide) rfl
theorem oc21 {tk : List (Nat × Nat)} : ok (P0 tk) 21 24 := ok_of (by decide) rfl
theorem oc22 {tk : List (Nat × Nat)} : ok (P0 tk) 22 8 := ok_of (by decide) rfl
theorem kc22 {σ τ : vS} : kp σ τ 22 := Or.inl ⟨by decide, Or.inr (by decide)⟩
theorem oc23 {tk : List (Nat × Nat)} : ok (P0 tk) 23 24 := ok_of (by decide) rfl
theorem oc24 {tk : List (Nat × Nat)} : ok (P0 tk) 24 24 := ok_of (by decide) rfl
theorem oc25 {tk : List (Nat × Nat)} : ok (P0 tk) 25 8 := ok_of (by decide) rfl
theorem kc25 {σ τ : vS} : kp σ τ 25 := Or.inl ⟨by decide, Or.inr (by decide)⟩
theorem oc26 {tk : List (Nat × Nat)} : ok (P0 tk) 26 24 := ok_of (by decide) rfl
theorem oc27 {tk : List (Nat × Nat)} : ok (P0 tk) 27 24 := ok_of (by decide) rfl
theorem oc28 {tk : List (Nat × Nat)} : ok (P0 tk) 28 9 := ok_of (by decide) rfl
theorem kc28 {σ τ : vS} : kp σ τ 28 := Or.inl ⟨by decide, Or.inr (by decide)⟩
theorem oc29 {tk : List (Nat × Nat)} : ok (P0 tk) 29 24 := ok_of (by decide) rfl
theorem oc30 {tk : List (Nat × Nat)} : ok (P0 tk) 30 1 := ok_of (by decide) rfl
theorem kc30 {σ τ : vS} : kp σ τ 30 := Or.inl ⟨by decide, Or.inr (by decide)⟩
theorem oc31 {tk : List (Nat × Nat)} : ok (P0 tk) 31 25 := ok_of (by decide) rfl
theorem oc32 {tk : List (Nat × Nat)} : ok (P0 tk) 32 1 := ok_of (by decide) rfl
theorem kc32 {σ τ : vS} : kp σ τ 32 := Or.inl ⟨by decide, Or.inr (by decide)⟩
theorem oc33 {tk : List (Nat × Nat)} : ok (P0 tk) 33 25 := ok_of (by decide) rfl
theorem oc34 {tk : List (Nat × Nat)} : ok (P0 tk) 34 24 := ok_of (by decide) rfl
theorem oc35 {tk : List (Nat × Nat)} : ok (P0 tk) 35 24 := ok_of (by decide) rfl
theorem oc36 {tk : List (Nat × Nat)} : ok (P0 tk) 36 24 := ok_of (by decide) rfl
theorem oc37 {tk : List (Nat × Nat)} : ok (P0 tk) 37 24 := ok_of (by decide) rfl
theorem oc38 {tk : List (Nat × Nat)} : ok (P0 tk) 38 24 := ok_of (by decide) rfl
theorem oc39 {tk : List (Nat × Nat)} : ok (P0 tk) 39 24 := ok_of (by decide) rfl
theorem oc40 {tk : List (Nat × Nat)} : ok (P0 tk) 40 24 := ok_of (by decide) rfl
theorem oc41 {tk : List (Nat × Nat)} : ok (P0 tk) 41 24 := ok_of (by decide) rfl
theorem oc42 {tk : List (Nat × Nat)} : ok (P0 tk) 42 24 := ok_of (by decide) rfl
theorem oc43 {tk : List (Nat × Nat)} : ok (P0 tk) 43 10 := ok_of (by decide) rfl
theorem kc43 {σ τ : vS} : kp σ τ 43 := Or.inl ⟨by decide, Or.inr (by decide)⟩
theorem oc44 {tk : List (Nat × Nat)} : ok (P0 tk) 44 11 := ok_of (by decide) rfl
theorem kc44 {σ τ : vS} : kp σ τ 44 := Or.inl ⟨by decide, Or.inr (by decide)⟩
theorem oc45 {tk : List (Nat × Nat)} : ok (P0 tk) 45 24 := ok_of (by decide) rfl
theorem oc46 {tk : List (Nat × Nat)} : ok (P0 tk) 46 24 := ok_of (by decide) rfl
theorem oc47 {tk : List (Nat × Nat)} : ok (P0 tk) 47 24 := ok_of (by decide) rfl
theorem oc48 {tk : List (Nat × Nat)} : ok (P0 tk) 48 24 := ok_of (by decide) rfl
theorem oc49 {tk : List (Nat × Nat)} : ok (P0 tk) 49 24 := ok_of (by decide) rfl
theorem oc50 {tk : List (Nat × Nat)} : ok (P0 tk) 50 26 := ok_of (by decide) rfl
theorem oc51 {tk : List (Nat × Nat)} : ok (P0 tk) 51 24 := ok_of (by decide) rfl
theorem oc52 {tk : List (Nat × Nat)} : ok (P0 tk) 52 24 := ok_of (by decide) rfl
theorem oc53 {tk : List (Nat × Nat)} : ok (P0 tk) 53 24 := ok_of (by decide) rfl
theorem oc54 {tk : List (Nat × Nat)} : ok (P0 tk) 54 12 := ok_of (by decide) rfl
theorem kc54 {σ τ : vS} : kp σ τ 54 := Or.inl ⟨by decide, Or.inr (by decide)⟩
theorem oc55 {tk : List (Nat × Nat)} : ok (P0 tk) 55 10 := ok_of (by decide) rfl
theorem kc55 {σ τ : vS} : kp σ τ 55 := Or.inl ⟨by decide, Or.inr (by decide)⟩
theorem oc56 {tk : List (Nat × Nat)} : ok (P0 tk) 56 6 := ok_of (by decide) rfl
theorem kc56 {σ τ : vS} : kp σ τ 56 := Or.inl ⟨by decide, Or.inr (by decide)⟩
theorem oc57 {tk : List (Nat × Nat)} : ok (P0 tk) 57 24 := ok_of (by decide) rfl
theorem oc58 {tk : List (Nat × Nat)} : ok (P0 tk) 58 7 := ok_of (by decide) rfl
theorem kc58 {σ τ : vS} : kp σ τ 58 := Or.inl ⟨by decide, Or.inr (by decide)⟩
theorem oc59 {tk : List (Nat × Nat)} : ok (P0 tk) 59 1 := ok_of (by decide) rfl
theorem kc59 {σ τ : vS} : kp σ τ 59 := Or.inl ⟨by decide, Or.inr (by decide)⟩
theorem oc60 {tk : List (Nat × Nat)} : ok (P0 tk) 60 25 := ok_of (by decide) rfl
theorem oc61 {tk : List (Nat × Nat)} : ok (P0 tk) 61 24 := ok_of (by decide) rfl
theorem oc62 {tk : List (Nat × Nat)} : ok (P0 tk) 62 24 := ok_of (by decide) rfl
theorem oc63 {tk : List (Nat × Nat)} : ok (P0 tk) 63 24 := ok_of (by decide) rfl
theorem oc64 {tk : List (Nat × Nat)} : ok (P0 tk) 64 24 := ok_of (by decide) rfl
theorem oc65 {tk : List (Nat × Nat)} : ok (P0 tk) 65 24 := ok_of (by decide) rfl
theorem oc66 {tk : List (Nat × Nat)} : ok (P0 tk) 66 24 := ok_of (by decide) rfl
theorem oc67 {tk : List (Nat × Nat)} : ok (P0 tk) 67 24 := ok_of (by decide) rfl
theorem oc68 {tk : List (Nat × Nat)} : ok (P0 tk) 68 24 := ok_of (by decide) rfl
theorem oc69 {tk : List (Nat × Nat)} : ok (P0 tk) 69 24 := ok_of (by decide) rfl
theorem oc70 {tk : List (Nat × Nat)} : ok (P0 tk) 70 24 := ok_of (by decide) rfl
theorem oc71 {tk : List (Nat × Nat)} : ok (P0 tk) 71 24 := ok_of (by decide) rfl
theorem oc72 {tk : List (Nat × Nat)} : ok (P0 tk) 72 24 := ok_of (by decide) rfl
theorem oc73 {tk : List (Nat × Nat)} : ok (P0 tk) 73 1 := ok_of (by decide) rfl
theorem kc73 {σ τ : vS} : kp σ τ 73 := Or.inl ⟨by decide, Or.inr (by decide)⟩
theorem oc74 {tk : List (Nat × Nat)} : ok (P0 tk) 74 25 := ok_of (by decide) rfl
theorem oc75 {tk : List (Nat × Nat)} : ok (P0 tk) 75 1 := ok_of (by decide) rfl
theorem kc75 {σ τ : vS} : kp σ τ 75 := Or.inl ⟨by decide, Or.inr (by decide)⟩
theorem oc76 {tk : List (Nat × Nat)} : ok (P0 tk) 76 25 := ok_of (by decide) rfl
theorem oc77 {tk : List (Nat × Nat)} : ok (P0 tk) 77 1 := ok_of (by decide) rfl
theorem kc77 {σ τ : vS} : kp σ τ 77 := Or.inl ⟨by decide, Or.inr (by decide)⟩
theorem oc78 {tk : List (Nat × Nat)} : ok (P0 tk) 78 25 := ok_of (by decide) rfl
theorem oc79 {tk : List (Nat × Nat)} : ok (P0 tk) 79 24 := ok_of (by decide) rfl
theorem oc80 {tk : List (Nat × Nat)} : ok (P0 tk) 80 24 := ok_of (by decide) rfl
theorem oc81 {tk : List (Nat × Nat)} : ok (P0 tk) 81 24 := ok_of (by decide) rfl
theorem oc82 {tk : List (Nat × Nat)} : ok (P0 tk) 82 24 := ok_of (by decide) rfl
theorem oc83 {tk : List (Nat × Nat)} : ok (P0 tk) 83 24 := ok_of (by decide) rfl
theorem oc84 {tk : List (Nat × Nat)} : ok (P0 tk) 84 1 := ok_of (by decide) rfl
theorem kc84 {σ τ : vS} : kp σ τ 84 := Or.inl ⟨by decide, Or.inr (by decide)⟩
theorem oc85 {tk : List (Nat × Nat)} : ok (P0 tk) 85 25 := ok_of (by decide) rfl
theorem oc86 {tk : List (Nat × Nat)} : ok (P0 tk) 86 24 := ok_of (by decide) rfl
theorem oc87 {tk : List (Nat × Nat)} : ok (P0 tk) 87 13 := ok_of (by decide) rfl
theorem kc87 {σ τ : vS} : kp σ τ 87 := Or.inl ⟨by decide, Or.inr (by decide)⟩
theorem oc88 {tk : List (Nat × Nat)} : ok (P0 tk) 88 24 := ok_of (by decide) rfl
theorem oc89 {tk : List (Nat × Nat)} : ok (P0 tk) 89 24 := ok_of (by decide) rfl
theorem oc90 {tk : List (Nat × Nat)} : ok (P0 tk) 90 24 := ok_of (by decide) rfl
theorem oc91 {tk : List (Nat × Nat)} : ok (P0 tk) 91 24 := ok_of (by decide) rfl
theorem oc92 {tk : List (Nat × Nat)} : ok (P0 tk) 92 24 := ok_of (by decide) rfl
theorem oc93 {tk : List (Nat × Nat)} : ok (P0 tk) 93 24 := ok_of (by decide) rfl
theorem oc94 {tk : List (Nat × Nat)} : ok (P0 tk) 94 24 := ok_of (by decide) rfl
theorem oc95 {tk : List (Nat × Nat)} : ok (P0 tk) 95 24 := ok_of (by decide) rfl
theorem oc96 {tk : List (Nat × Nat)} : ok (P0 tk) 96 24 := ok_of (by decide) rfl
theorem oc97 {tk : List (Nat × Nat)} : ok (P0 tk) 97 24 := ok_of (by decide) rfl
theorem oc98 {tk : List (Nat × Nat)} : ok (P0 tk) 98 24 := ok_of (by decide) rfl
theorem oc99 {tk : List (Nat × Nat)} : ok (P0 tk) 99 24 := ok_of (by decide) rfl
theorem oc100 {tk : List (Nat × Nat)} : ok (P0 tk) 100 24 := ok_of (by decide) rfl
theorem oc101 {tk : List (Nat × Nat)} : ok (P0 tk) 101 24 := ok_of (by decide) rfl
theorem oc102 {tk : List (Nat × Nat)} : ok (P0 tk) 102 24 := ok_of (by decide) rfl
theorem oc103 {tk : List (Nat × Nat)} : ok (P0 tk) 103 24 := ok_of (by decide) rfl
theorem oc104 {tk : List (Nat × Nat)} : ok (P0 tk) 104 24 := ok_of (by decide) rfl
theorem oc105 {tk : List (Nat × Nat)} : ok (P0 tk) 105 24 := ok_of (by decide) rfl
theorem oc106 {tk : List (Nat × Nat)} : ok (P0 tk) 106 24 := ok_of (by decide) rfl
theorem oc107 {tk : List (Nat × Nat)} : ok (P0 tk) 107 24 := ok_of (by decide) rfl
theorem oc108 {tk : List (Nat × Nat)} : ok (P0 tk) 108 24 := ok_of (by decide) rfl
theorem oc109 {tk : List (Nat × Nat)} : ok (P0 tk) 109 24 := ok_of (by decide) rfl
theorem oc110 {tk : List (Nat × Nat)} : ok (P0 tk) 110 24 := ok_of (by decide) rfl
theorem oc111 {tk : List (Nat × Nat)} : ok (P0 tk) 111 24 := ok_of (by decide) rfl
theorem oc112 {tk : List (Nat × Nat)} : ok (P0 tk) 112 24 := ok_of (by decide) rfl
theorem oc113 {tk : List (Nat × Nat)} : ok (P0 tk) 113 24 := ok_of (by decide) rfl
theorem oc114 {tk : List (Nat × Nat)} : ok (P0 tk) 114 26 := ok_of (by decide) rfl
theorem oc115 {tk : List (Nat × Nat)} : ok (P0 tk) 115 24 := ok_of (by decide) rfl
theorem oc116 {tk : List (Nat × Nat)} : ok (P0 tk) 116 24 := ok_of (by decide) rfl
theorem oc117 {tk : List (Nat × Nat)} : ok (P0 tk) 117 24 := ok_of (by decide) rfl
theorem oc118 {tk : List (Nat × Nat)} : ok (P0 tk) 118 24 := ok_of (by decide) rfl
theorem oc119 {tk : List (Nat × Nat)} : ok (P0 tk) 119 24 := ok_of (by decide) rfl
theorem oc120 {tk : List (Nat × Nat)} : ok (P0 tk) 120 24 := ok_of (by decide) rfl
theorem oc121 {tk : List (Nat × Nat)} : ok (P0 tk) 121 24 := ok_of (by decide) rfl
theorem oc122 {tk : List (Nat × Nat)} : ok (P0 tk) 122 26 := ok_of (by decide) rfl
theorem oc123 {tk : List (Nat × Nat)} : ok (P0 tk) 123 24 := ok_of (by decide) rfl
theorem oc124 {tk : List (Nat × Nat)} : ok (P0 tk) 124 24 := ok_of (by decide) rfl
theorem oc125 {tk : List (Nat × Nat)} : ok (P0 tk) 125 24 := ok_of (by decide) rfl
theorem oc126 {tk : List (Nat × Nat)} : ok (P0 tk) 126 24 := ok_of (by decide) rfl
theorem oc127 {tk : List (Nat × Nat)} : ok (P0 tk) 127 26 := ok_of (by decide) rfl
theorem oc128 {tk : List (Nat × Nat)} : ok (P0 tk) 128 24 := ok_of (by decide) rfl
theorem oc129 {tk : List (Nat × Nat)} : ok (P0 tk) 129 26 := ok_of (by decide) rfl
theorem oc130 {tk : List (Nat × Nat)} : ok (P0 tk) 130 24 := ok_of (by decide) rfl
theorem oc131 {tk : List (Nat × Nat)} : ok (P0 tk) 131 24 := ok_of (by decide) rfl
theorem oc132 {tk : List (Nat × Nat)} : ok (P0 tk) 132 24 := ok_of (by decide) rfl
theorem oc133 {tk : List (Nat × Nat)} : ok (P0 tk) 133 24 := ok_of (by decide) rfl
theorem oc134 {tk : List (Nat × Nat)} : ok (P0 tk) 134 24 := ok_of (by decide) rfl
theorem oc135 {tk : List (Nat × Nat)} : ok (P0 tk) 135 26 := ok_of (by decide) rfl
theorem oc136 {tk : List (Nat × Nat)} : ok (P0 tk) 136 24 := ok_of (by decide) rfl
theorem oc137 {tk : List (Nat × Nat)} : ok (P0 tk) 137 24 := ok_of (by decide) rfl
theorem oc138 {tk : List (Nat × Nat)} : ok (P0 tk) 138 24 := ok_of (by decide) rfl
theorem oc139 {tk : List (Nat × Nat)} : ok (P0 tk) 139 24 := ok_of (by decide) rfl
theorem oc140 {tk : List (Nat × Nat)} : ok (P0 tk) 140 24 := ok_of (by decide) rfl
theorem oc141 {tk : List (Nat × Nat)} : ok (P0 tk) 141 24 := ok_of (by decide) rfl
theorem oc142 {tk : List (Nat × Nat)} : ok (P0 tk) 142 24 := ok_of (by decide) rfl
theorem oc143 {tk : List (Nat × Nat)} : ok (P0 tk) 143 24 := ok_of (by decide) rfl
theorem oc144 {tk : List (Nat × Nat)} : ok (P0 tk) 144 24 := ok_of (by decide) rfl
theorem oc145 {tk : List (Nat × Nat)} : ok (P0 tk) 145 24 := ok_of (by decide) rfl
theorem oc146 {tk : List (Nat × Nat)} : ok (P0 tk) 146 24 := ok_of (by decide) rfl
theorem oc147 {tk : List (Nat × Nat)} : ok (P0 tk) 147 24 := ok_of (by decide) rfl
theorem oc148 {tk : List (Nat × Nat)} : ok (P0 tk) 148 24 := ok_of (by decide) rfl
theorem oc149 {tk : List (Nat × Nat)} : ok (P0 tk) 149 24 := ok_of (by decide) rfl
theorem oc150 {tk : List (Nat × Nat)} : ok (P0 tk) 150 24 := ok_of (by decide) rfl
theorem oc151 {tk : List (Nat × Nat)} : ok (P0 tk) 151 24 := ok_of (by decide) rfl
theorem oc152 {tk : List (Nat × Nat)} : ok (P0 tk) 152 24 := ok_of (by decide) rfl
theorem oc153 {tk : List (Nat × Nat)} : ok (P0 tk) 153 24 := ok_of (by decide) rfl
theorem oc154 {tk : List (Nat × Nat)} : ok (P0 tk) 154 24 := ok_of (by decide) rfl
theorem oc155 {tk : List (Nat × Nat)} : ok (P0 tk) 155 26 := ok_of (by decide) rfl
theorem oc156 {tk : List (Nat × Nat)} : ok (P0 tk) 156 27 := ok_of (by decide) rfl
theorem oc157 {tk : List (Nat × Nat)} : ok (P0 tk) 157 24 := ok_of (by decide) rfl
theorem oc158 {tk : List (Nat × Nat)} : ok (P0 tk) 158 27 := ok_of (by decide) rfl
theorem oc159 {tk : List (Nat × Nat)} : ok (P0 tk) 159 27 := ok_of (by decide) rfl
theorem oc160 {tk : List (Nat × Nat)} : ok (P0 tk) 160 24 := ok_of (by decide) rfl
theorem oc161 {tk : List (Nat × Nat)} : ok (P0 tk) 161 24 := ok_of (by decide) rfl
theorem oc162 {tk : List (Nat × Nat)} : ok (P0 tk) 162 24 := ok_of (by decide) rfl
theorem oc163 {tk : List (Nat × Nat)} : ok (P0 tk) 163 24 := ok_of (by decide) rfl
theorem oc164 {tk : List (Nat × Nat)} : ok (P0 tk) 164 24 := ok_of (by decide) rfl
theorem oc165 {tk : List (Nat × Nat)} : ok (P0 tk) 165 24 := ok_of (by decide) rfl
theorem oc166 {tk : List (Nat × Nat)} : ok (P0 tk) 166 24 := ok_of (by decide) rfl
theorem oc167 {tk : List (Nat × Nat)} : ok (P0 tk) 167 24 := ok_of (by decide) rfl
theorem oc168 {tk : List (Nat × Nat)} : ok (P0 tk) 168 24 := ok_of (by decide) rfl
theorem oc169 {tk : List (Nat × Nat)} : ok (P0 tk) 169 24 := ok_of (by decide) rfl
theorem oc170 {tk : List (Nat × Nat)} : ok (P0 tk) 170 24 := ok_of (by decide) rfl
theorem oc171 {tk : List (Nat × Nat)} : ok (P0 tk) 171 24 := ok_of (by decide) rfl
theorem oc172 {tk : List (Nat × Nat)} : ok (P0 tk) 172 24 := ok_of (by decide) rfl
theorem oc173 {tk : List (Nat × Nat)} : ok (P0 tk) 173 24 := ok_of (by decide) rfl
theorem oc174 {tk : List (Nat × Nat)} : ok (P0 tk) 174 26 := ok_of (by decide) rfl
theorem oc175 {tk : List (Nat × Nat)} : ok (P0 tk) 175 24 := ok_of (by decide) rfl
theorem oc176 {tk : List (Nat × Nat)} : ok (P0 tk) 176 24 := ok_of (by decide) rfl
theorem oc177 {tk : List (Nat × Nat)} : ok (P0 tk) 177 24 := ok_of (by decide) rfl
theorem oc178 {tk : List (Nat × Nat)} : ok (P0 tk) 178 26 := ok_of (by decide) rfl
theorem oc179 {tk : List (Nat × Nat)} : ok (P0 tk) 179 24 := ok_of (by decide) rfl
theorem oc180 {tk : List (Nat × Nat)} : ok (P0 tk) 180 24 := ok_of (by decide) rfl
theorem oc181 {tk : List (Nat × Nat)} : ok (P0 tk) 181 24 := ok_of (by decide) rfl
theorem oc182 {tk : List (Nat × Nat)} : ok (P0 tk) 182 24 := ok_of (by decide) rfl
theorem oc183 {tk : List (Nat × Nat)} : ok (P0 tk) 183 24 := ok_of (by decide) rfl
theorem oc184 {tk : List (Nat × Nat)} : ok (P0 tk) 184 24 := ok_of (by decide) rfl
theorem oc185 {tk : List (Nat × Nat)} : ok (P0 tk) 185 24 := ok_of (by decide) rfl
theorem oc186 {tk : List (Nat × Nat)} : ok (P0 tk) 186 24 := ok_of (by decide) rfl
theorem oc187 {tk : List (Nat × Nat)} : ok (P0 tk) 187 24 := ok_of (by decide) rfl
theorem oc188 {tk : List (Nat × Nat)} : ok (P0 tk) 188 24 := ok_of (by decide) rfl
theorem oc189 {tk : List (Nat × Nat)} : ok (P0 tk) 189 24 := ok_of (by decide) rfl
theorem oc190 {tk : List (Nat × Nat)} : ok (P0 tk) 190 24 := ok_of (by decide) rfl
theorem oc191 {tk : List (Nat × Nat)} : ok (P0 tk) 191 24 := ok_of (by decide) rfl
theorem oc192 {tk : List (Nat × Nat)} : ok (P0 tk) 192 24 := ok_of (by decide) rfl
theorem oc193 {tk : List (Nat × Nat)} : ok (P0 tk) 193 24 := ok_of (by decide) rfl
theorem oc194 {tk : List (Nat × Nat)} : ok (P0 tk) 194 24 := ok_of (by decide) rfl
theorem oc195 {tk : List (Nat × Nat)} : ok (P0 tk) 195 24 := ok_of (by decide) rfl
theorem oc196 {tk : List (Nat × Nat)} : ok (P0 tk) 196 24 := ok_of (by decide) rfl
theorem oc197 {tk : List (Nat × Nat)} : ok (P0 tk) 197 24 := ok_of (by decide) rfl
theorem oc198 {tk : List (Nat × Nat)} : ok (P0 tk) 198 27 := ok_of (by decide) rfl
theorem okB_ok {tk : List (Nat × Nat)} {k c : Nat} (h : okB k c) : ok (P0 tk) k c := ok_of h.1 h.2
theorem okB_kp {σ τ : vS} {k c : Nat} (h : okB k c) (hc : c < 14) : kp σ τ k := Or.inl ⟨⟨h.1, fun z => by have := h.2; rw [z, show kd 82 = 24 from rfl] at this; omega, fun z => by have := h.2; rw [z, show kd 83 = 24 from rfl] at this; omega⟩, Or.inr (by rw [h.2]; exact hc)⟩
theorem kp_arr {σ τ : vS} {k : Nat} (h : kpK k) (g : gN τ k = gN σ k) : kp σ τ k := Or.inl ⟨h, Or.inl g⟩
theorem okB_R {k c : Nat} (h : okB k c) (h1 : 1 ≤ c) (h2 : c < 14) : k ≠ 0 ∧ k < KF ∧ kd k < 14 := ⟨fun z => by rw [z] at h; have := h.2; rw [show kd 0 = 0 from rfl] at this; omega, h.1, by rw [h.2]; exact h2⟩
theorem gI_rg (σ : vS) (o f : Nat) : rg (gI σ o f) := w32_rg _
theorem gE_rg (σ : vS) (a : Nat) (j : Int) : rg (gE σ a j) := w32_rg _
theorem gB_rg (σ : vS) (a : Nat) (j : Int) : rg (gB σ a j) := rg_toInt _
theorem gZ_rg (σ : vS) (a : Nat) (j : Int) : rg (gZ σ a j) := rg_toInt _
theorem gL_rg (σ : vS) (o f : Nat) : rgL (gL σ o f) := w64_rg _
theorem gEL_rg (σ : vS) (a : Nat) (j : Int) : rgL (gEL σ a j) := w64_rg _
theorem d32_rg (a b : Int) : rg (d32 a b) := rg_toInt _
theorem m32_rg (a b : Int) : rg (m32 a b) := rg_toInt _
theorem and32_rg (a b : Int) : rg (and32 a b) := rg_toInt _
theorem or32_rg (a b : Int) : rg (or32 a b) := rg_toInt _
theorem xor32_rg (a b : Int) : rg (xor32 a b) := rg_toInt _
theorem shl32_rg (a b : Int) : rg (shl32 a b) := rg_toInt _
theorem shr32_rg (a b : Int) : rg (shr32 a b) := rg_toInt _
theorem ushr32_rg (a b : Int) : rg (ushr32 a b) := rg_toInt _
theorem n8_rg (a : Int) : rg (n8 a) := rg_toInt _
theorem and64_rg (a b : Int) : rgL (and64 a b) := rgL_toInt _
theorem or64_rg (a b : Int) : rgL (or64 a b) := rgL_toInt _
theorem shl64_rg (a b : Int) : rgL (shl64 a b) := rgL_toInt _
theorem shr64_rg (a b : Int) : rgL (shr64 a b) := rgL_toInt _
theorem ushr64_rg (a b : Int) : rgL (ushr64 a b) := rgL_toInt _
