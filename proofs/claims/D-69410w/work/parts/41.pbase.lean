set_option maxRecDepth 100000
/-! PURE SIDE 1: runs that end well; what a run leaves alone -/
/-- the run ends, and what it leaves meets Q -/
def wpo {α : Type} (m : Option α) (Q : α → Prop) : Prop := ∃ r, m = some r ∧ Q r
theorem wpo_some {α : Type} {r : α} {Q : α → Prop} : wpo (some r) Q ↔ Q r := ⟨fun ⟨_, h, q⟩ => (by cases h; exact q), fun q => ⟨r, rfl, q⟩⟩
theorem wpo_none {α : Type} {Q : α → Prop} : wpo none Q ↔ False := ⟨fun h => (by obtain ⟨_, h, _⟩ := h; cases h), False.elim⟩
theorem wpo_gd {α : Type} {p : Prop} [Decidable p] {k : Option α} {Q : α → Prop} : wpo (gd p k) Q ↔ p ∧ wpo k Q := by
  constructor
  · rintro ⟨r, h, q⟩
    obtain ⟨h1, h2⟩ := gd_some h
    exact ⟨h1, r, h2, q⟩
  · rintro ⟨h1, h2⟩
    rw [gd_pos h1]
    exact h2
theorem wpo_stp {α : Type} {s : vS} {k : vS → Option α} {Q : α → Prop} : wpo (stp s k) Q ↔ wpo (k s) Q := Iff.rfl
theorem wpo_vl {α : Type} {x : Int} {k : Int → Option α} {Q : α → Prop} : wpo (vl x k) Q ↔ wpo (k x) Q := Iff.rfl
theorem wpo_bind {α β : Type} {m : Option β} {k : β → Option α} {Q : α → Prop} : wpo (m.bind k) Q ↔ wpo m (fun q => wpo (k q) Q) := by
  cases m with
  | none => exact ⟨fun h => (wpo_none.mp h).elim, fun h => (wpo_none.mp h).elim⟩
  | some r => exact ⟨fun h => wpo_some.mpr h, fun h => (wpo_some (Q := fun q => wpo (k q) Q)).mp h⟩
theorem wpo_bd {α : Type} {m : Option (Int × vS)} {k : Int → vS → Option α} {Q : α → Prop} : wpo (bd m k) Q ↔ wpo m (fun q => wpo (k q.1 q.2) Q) := wpo_bind
theorem wpo_bdv {α : Type} {m : Option vS} {k : vS → Option α} {Q : α → Prop} : wpo (bdv m k) Q ↔ wpo m (fun q => wpo (k q) Q) := wpo_bind
theorem wpo_bdo {α : Type} {m : Option (Nat × vS)} {k : Nat → vS → Option α} {Q : α → Prop} : wpo (bdo m k) Q ↔ wpo m (fun q => wpo (k q.1 q.2) Q) := wpo_bind
theorem wpo_ite {α : Type} {c : Prop} [Decidable c] {a b : Option α} {Q : α → Prop} : wpo (if c then a else b) Q ↔ (c → wpo a Q) ∧ (¬c → wpo b Q) := by
  by_cases h : c
  · rw [if_pos h]; exact ⟨fun q => ⟨fun _ => q, fun n => (n h).elim⟩, fun q => q.1 h⟩
  · rw [if_neg h]; exact ⟨fun q => ⟨fun n => (h n).elim, fun _ => q⟩, fun q => q.2 h⟩
theorem wpo.mono {α : Type} {m : Option α} {P Q : α → Prop} (h : wpo m P) (k : ∀ r, P r → Q r) : wpo m Q := by
  obtain ⟨r, h1, h2⟩ := h
  exact ⟨r, h1, k r h2⟩
theorem wpo.of_eq {α : Type} {m : Option α} {r : α} {Q : α → Prop} (h : m = some r) (q : Q r) : wpo m Q := ⟨r, h, q⟩
theorem wpo.and {α : Type} {m : Option α} {P Q : α → Prop} (h : wpo m P) (k : ∀ r, m = some r → Q r) : wpo m (fun r => P r ∧ Q r) := by
  obtain ⟨r, h1, h2⟩ := h
  exact ⟨r, h1, h2, k r h1⟩
theorem wpo_lq_0 {α : Type} {m : Option (vS)} {k : vS → Option α} {Q : α → Prop} : wpo (lq_0 m k) Q ↔ wpo m (fun q => wpo (k q) Q) := wpo_bind
theorem wpo_lqs_0 {α ρ : Type} {m : Option ((vS) ⊕ ρ)} {k : vS → Option α} {kr : ρ → Option α} {Q : α → Prop} : wpo (lqs_0 m k kr) Q ↔ wpo m (Sum.elim (fun q => wpo (k q) Q) (fun q => wpo (kr q) Q)) := by
  unfold lqs_0
  rw [wpo_bind]
  constructor
  · rintro ⟨r, h, q⟩
    refine ⟨r, h, ?_⟩
    cases r with
    | inl r => exact q
    | inr r => exact q
  · rintro ⟨r, h, q⟩
    refine ⟨r, h, ?_⟩
    cases r with
    | inl r => exact q
    | inr r => exact q
theorem wpo_lq_1 {α : Type} {m : Option (Int × vS)} {k : Int → vS → Option α} {Q : α → Prop} : wpo (lq_1 m k) Q ↔ wpo m (fun q => wpo (k q.1 q.2) Q) := wpo_bind
theorem wpo_lqs_1 {α ρ : Type} {m : Option ((Int × vS) ⊕ ρ)} {k : Int → vS → Option α} {kr : ρ → Option α} {Q : α → Prop} : wpo (lqs_1 m k kr) Q ↔ wpo m (Sum.elim (fun q => wpo (k q.1 q.2) Q) (fun q => wpo (kr q) Q)) := by
  unfold lqs_1
  rw [wpo_bind]
  constructor
  · rintro ⟨r, h, q⟩
    refine ⟨r, h, ?_⟩
    cases r with
    | inl r => exact q
    | inr r => exact q
  · rintro ⟨r, h, q⟩
    refine ⟨r, h, ?_⟩
    cases r with
    | inl r => exact q
    | inr r => exact q
theorem wpo_lq_2 {α : Type} {m : Option (Int × Int × vS)} {k : Int → Int → vS → Option α} {Q : α → Prop} : wpo (lq_2 m k) Q ↔ wpo m (fun q => wpo (k q.1 q.2.1 q.2.2) Q) := wpo_bind
theorem wpo_lqs_2 {α ρ : Type} {m : Option ((Int × Int × vS) ⊕ ρ)} {k : Int → Int → vS → Option α} {kr : ρ → Option α} {Q : α → Prop} : wpo (lqs_2 m k kr) Q ↔ wpo m (Sum.elim (fun q => wpo (k q.1 q.2.1 q.2.2) Q) (fun q => wpo (kr q) Q)) := by
  unfold lqs_2
  rw [wpo_bind]
  constructor
  · rintro ⟨r, h, q⟩
    refine ⟨r, h, ?_⟩
    cases r with
    | inl r => exact q
    | inr r => exact q
  · rintro ⟨r, h, q⟩
    refine ⟨r, h, ?_⟩
    cases r with
    | inl r => exact q
    | inr r => exact q
theorem wpo_lq_3 {α : Type} {m : Option (Int × Int × Int × vS)} {k : Int → Int → Int → vS → Option α} {Q : α → Prop} : wpo (lq_3 m k) Q ↔ wpo m (fun q => wpo (k q.1 q.2.1 q.2.2.1 q.2.2.2) Q) := wpo_bind
theorem wpo_lqs_3 {α ρ : Type} {m : Option ((Int × Int × Int × vS) ⊕ ρ)} {k : Int → Int → Int → vS → Option α} {kr : ρ → Option α} {Q : α → Prop} : wpo (lqs_3 m k kr) Q ↔ wpo m (Sum.elim (fun q => wpo (k q.1 q.2.1 q.2.2.1 q.2.2.2) Q) (fun q => wpo (kr q) Q)) := by
  unfold lqs_3
  rw [wpo_bind]
  constructor
  · rintro ⟨r, h, q⟩
    refine ⟨r, h, ?_⟩
    cases r with
    | inl r => exact q
    | inr r => exact q
  · rintro ⟨r, h, q⟩
    refine ⟨r, h, ?_⟩
    cases r with
    | inl r => exact q
    | inr r => exact q
theorem wpo_lq_4 {α : Type} {m : Option (Int × Int × Int × Int × vS)} {k : Int → Int → Int → Int → vS → Option α} {Q : α → Prop} : wpo (lq_4 m k) Q ↔ wpo m (fun q => wpo (k q.1 q.2.1 q.2.2.1 q.2.2.2.1 q.2.2.2.2) Q) := wpo_bind
theorem wpo_lqs_4 {α ρ : Type} {m : Option ((Int × Int × Int × Int × vS) ⊕ ρ)} {k : Int → Int → Int → Int → vS → Option α} {kr : ρ → Option α} {Q : α → Prop} : wpo (lqs_4 m k kr) Q ↔ wpo m (Sum.elim (fun q => wpo (k q.1 q.2.1 q.2.2.1 q.2.2.2.1 q.2.2.2.2) Q) (fun q => wpo (kr q) Q)) := by
  unfold lqs_4
  rw [wpo_bind]
  constructor
  · rintro ⟨r, h, q⟩
    refine ⟨r, h, ?_⟩
    cases r with
    | inl r => exact q
    | inr r => exact q
  · rintro ⟨r, h, q⟩
    refine ⟨r, h, ?_⟩
    cases r with
    | inl r => exact q
    | inr r => exact q
theorem wpo_lq_5 {α : Type} {m : Option (Int × Int × Int × Int × Int × vS)} {k : Int → Int → Int → Int → Int → vS → Option α} {Q : α → Prop} : wpo (lq_5 m k) Q ↔ wpo m (fun q => wpo (k q.1 q.2.1 q.2.2.1 q.2.2.2.1 q.2.2.2.2.1 q.2.2.2.2.2) Q) := wpo_bind
theorem wpo_lqs_5 {α ρ : Type} {m : Option ((Int × Int × Int × Int × Int × vS) ⊕ ρ)} {k : Int → Int → Int → Int → Int → vS → Option α} {kr : ρ → Option α} {Q : α → Prop} : wpo (lqs_5 m k kr) Q ↔ wpo m (Sum.elim (fun q => wpo (k q.1 q.2.1 q.2.2.1 q.2.2.2.1 q.2.2.2.2.1 q.2.2.2.2.2) Q) (fun q => wpo (kr q) Q)) := by
  unfold lqs_5
  rw [wpo_bind]
  constructor
  · rintro ⟨r, h, q⟩
    refine ⟨r, h, ?_⟩
    cases r with
    | inl r => exact q
    | inr r => exact q
  · rintro ⟨r, h, q⟩
    refine ⟨r, h, ?_⟩
    cases r with
    | inl r => exact q
    | inr r => exact q
theorem wpo_lq_6 {α : Type} {m : Option (Int × Int × Int × Int × Int × Int × vS)} {k : Int → Int → Int → Int → Int → Int → vS → Option α} {Q : α → Prop} : wpo (lq_6 m k) Q ↔ wpo m (fun q => wpo (k q.1 q.2.1 q.2.2.1 q.2.2.2.1 q.2.2.2.2.1 q.2.2.2.2.2.1 q.2.2.2.2.2.2) Q) := wpo_bind
theorem wpo_lqs_6 {α ρ : Type} {m : Option ((Int × Int × Int × Int × Int × Int × vS) ⊕ ρ)} {k : Int → Int → Int → Int → Int → Int → vS → Option α} {kr : ρ → Option α} {Q : α → Prop} : wpo (lqs_6 m k kr) Q ↔ wpo m (Sum.elim (fun q => wpo (k q.1 q.2.1 q.2.2.1 q.2.2.2.1 q.2.2.2.2.1 q.2.2.2.2.2.1 q.2.2.2.2.2.2) Q) (fun q => wpo (kr q) Q)) := by
  unfold lqs_6
  rw [wpo_bind]
  constructor
  · rintro ⟨r, h, q⟩
    refine ⟨r, h, ?_⟩
    cases r with
    | inl r => exact q
    | inr r => exact q
  · rintro ⟨r, h, q⟩
    refine ⟨r, h, ?_⟩
    cases r with
    | inl r => exact q
    | inr r => exact q
theorem wpo_lq_7 {α : Type} {m : Option (Int × Int × Int × Int × Int × Int × Int × vS)} {k : Int → Int → Int → Int → Int → Int → Int → vS → Option α} {Q : α → Prop} : wpo (lq_7 m k) Q ↔ wpo m (fun q => wpo (k q.1 q.2.1 q.2.2.1 q.2.2.2.1 q.2.2.2.2.1 q.2.2.2.2.2.1 q.2.2.2.2.2.2.1 q.2.2.2.2.2.2.2) Q) := wpo_bind
theorem wpo_lqs_7 {α ρ : Type} {m : Option ((Int × Int × Int × Int × Int × Int × Int × vS) ⊕ ρ)} {k : Int → Int → Int → Int → Int → Int → Int → vS → Option α} {kr : ρ → Option α} {Q : α → Prop} : wpo (lqs_7 m k kr) Q ↔ wpo m (Sum.elim (fun q => wpo (k q.1 q.2.1 q.2.2.1 q.2.2.2.1 q.2.2.2.2.1 q.2.2.2.2.2.1 q.2.2.2.2.2.2.1 q.2.2.2.2.2.2.2) Q) (fun q => wpo (kr q) Q)) := by
  unfold lqs_7
  rw [wpo_bind]
  constructor
  · rintro ⟨r, h, q⟩
    refine ⟨r, h, ?_⟩
    cases r with
    | inl r => exact q
    | inr r => exact q
  · rintro ⟨r, h, q⟩
    refine ⟨r, h, ?_⟩
    cases r with
    | inl r => exact q
    | inr r => exact q
theorem wpo_lq_8 {α : Type} {m : Option (Int × Int × Int × Int × Int × Int × Int × Int × vS)} {k : Int → Int → Int → Int → Int → Int → Int → Int → vS → Option α} {Q : α → Prop} : wpo (lq_8 m k) Q ↔ wpo m (fun q => wpo (k q.1 q.2.1 q.2.2.1 q.2.2.2.1 q.2.2.2.2.1 q.2.2.2.2.2.1 q.2.2.2.2.2.2.1 q.2.2.2.2.2.2.2.1 q.2.2.2.2.2.2.2.2) Q) := wpo_bind
theorem wpo_lqs_8 {α ρ : Type} {m : Option ((Int × Int × Int × Int × Int × Int × Int × Int × vS) ⊕ ρ)} {k : Int → Int → Int → Int → Int → Int → Int → Int → vS → Option α} {kr : ρ → Option α} {Q : α → Prop} : wpo (lqs_8 m k kr) Q ↔ wpo m (Sum.elim (fun q => wpo (k q.1 q.2.1 q.2.2.1 q.2.2.2.1 q.2.2.2.2.1 q.2.2.2.2.2.1 q.2.2.2.2.2.2.1 q.2.2.2.2.2.2.2.1 q.2.2.2.2.2.2.2.2) Q) (fun q => wpo (kr q) Q)) := by
  unfold lqs_8
  rw [wpo_bind]
  constructor
  · rintro ⟨r, h, q⟩
    refine ⟨r, h, ?_⟩
    cases r with
    | inl r => exact q
    | inr r => exact q
  · rintro ⟨r, h, q⟩
    refine ⟨r, h, ?_⟩
    cases r with
    | inl r => exact q
    | inr r => exact q
theorem wpo_lq_9 {α : Type} {m : Option (Int × Int × Int × Int × Int × Int × Int × Int × Int × vS)} {k : Int → Int → Int → Int → Int → Int → Int → Int → Int → vS → Option α} {Q : α → Prop} : wpo (lq_9 m k) Q ↔ wpo m (fun q => wpo (k q.1 q.2.1 q.2.2.1 q.2.2.2.1 q.2.2.2.2.1 q.2.2.2.2.2.1 q.2.2.2.2.2.2.1 q.2.2.2.2.2.2.2.1 q.2.2.2.2.2.2.2.2.1 q.2.2.2.2.2.2.2.2.2) Q) := wpo_bind
theorem wpo_lqs_9 {α ρ : Type} {m : Option ((Int × Int × Int × Int × Int × Int × Int × Int × Int × vS) ⊕ ρ)} {k : Int → Int → Int → Int → Int → Int → Int → Int → Int → vS → Option α} {kr : ρ → Option α} {Q : α → Prop} : wpo (lqs_9 m k kr) Q ↔ wpo m (Sum.elim (fun q => wpo (k q.1 q.2.1 q.2.2.1 q.2.2.2.1 q.2.2.2.2.1 q.2.2.2.2.2.1 q.2.2.2.2.2.2.1 q.2.2.2.2.2.2.2.1 q.2.2.2.2.2.2.2.2.1 q.2.2.2.2.2.2.2.2.2) Q) (fun q => wpo (kr q) Q)) := by
  unfold lqs_9
  rw [wpo_bind]
  constructor
  · rintro ⟨r, h, q⟩
    refine ⟨r, h, ?_⟩
    cases r with
    | inl r => exact q
    | inr r => exact q
  · rintro ⟨r, h, q⟩
    refine ⟨r, h, ?_⟩
    cases r with
    | inl r => exact q
    | inr r => exact q
theorem wpo_lq_10 {α : Type} {m : Option (Int × Int × Int × Int × Int × Int × Int × Int × Int × Int × vS)} {k : Int → Int → Int → Int → Int → Int → Int → Int → Int → Int → vS → Option α} {Q : α → Prop} : wpo (lq_10 m k) Q ↔ wpo m (fun q => wpo (k q.1 q.2.1 q.2.2.1 q.2.2.2.1 q.2.2.2.2.1 q.2.2.2.2.2.1 q.2.2.2.2.2.2.1 q.2.2.2.2.2.2.2.1 q.2.2.2.2.2.2.2.2.1 q.2.2.2.2.2.2.2.2.2.1 q.2.2.2.2.2.2.2.2.2.2) Q) := wpo_bind
theorem wpo_lqs_10 {α ρ : Type} {m : Option ((Int × Int × Int × Int × Int × Int × Int × Int × Int × Int × vS) ⊕ ρ)} {k : Int → Int → Int → Int → Int → Int → Int → Int → Int → Int → vS → Option α} {kr : ρ → Option α} {Q : α → Prop} : wpo (lqs_10 m k kr) Q ↔ wpo m (Sum.elim (fun q => wpo (k q.1 q.2.1 q.2.2.1 q.2.2.2.1 q.2.2.2.2.1 q.2.2.2.2.2.1 q.2.2.2.2.2.2.1 q.2.2.2.2.2.2.2.1 q.2.2.2.2.2.2.2.2.1 q.2.2.2.2.2.2.2.2.2.1 q.2.2.2.2.2.2.2.2.2.2) Q) (fun q => wpo (kr q) Q)) := by
  unfold lqs_10
  rw [wpo_bind]
  constructor
  · rintro ⟨r, h, q⟩
    refine ⟨r, h, ?_⟩
    cases r with
    | inl r => exact q
    | inr r => exact q
  · rintro ⟨r, h, q⟩
    refine ⟨r, h, ?_⟩
    cases r with
    | inl r => exact q
    | inr r => exact q
/-- t is s, but for the places of W: 1000 o + f a field, 1000 a + 999 an array's contents, 1000 a + 998 its length -/
def Fr (W : List Nat) (s t : vS) : Prop :=
  (∀ o f : Nat, 1000 * o + f ∉ W → t.1 o f = s.1 o f) ∧ (∀ a : Nat, a < 199 → 1000 * a + 999 ∉ W → (t.2.1 a).2 = (s.2.1 a).2) ∧
  (∀ a : Nat, a < 199 → 1000 * a + 998 ∉ W → (t.2.1 a).1 = (s.2.1 a).1) ∧ (∀ o f : Nat, 1000 * o + f ∉ W → t.2.2 o f = s.2.2 o f)
theorem Fr.rfl {W : List Nat} {s : vS} : Fr W s s := ⟨fun _ _ _ => _root_.rfl, fun _ _ _ => _root_.rfl, fun _ _ _ => _root_.rfl, fun _ _ _ => _root_.rfl⟩
theorem Fr.call {W W' : List Nat} {s t u : vS} (h : Fr W s t) (k : Fr W' t u) (hs : ∀ c ∈ W', c ∈ W) : Fr W s u :=
  ⟨fun o f q => (k.1 o f fun z => q (hs _ z)).trans (h.1 o f q), fun a l q => (k.2.1 a l fun z => q (hs _ z)).trans (h.2.1 a l q),
   fun a l q => (k.2.2.1 a l fun z => q (hs _ z)).trans (h.2.2.1 a l q), fun o f q => (k.2.2.2 o f fun z => q (hs _ z)).trans (h.2.2.2 o f q)⟩
theorem Fr.trans {W : List Nat} {s t u : vS} (h : Fr W s t) (k : Fr W t u) : Fr W s u := h.call k fun _ z => z
theorem Fr.weak {W W' : List Nat} {s t : vS} (h : Fr W s t) (hs : ∀ c ∈ W, c ∈ W') : Fr W' s t := Fr.rfl.call h hs
theorem Fr.same {s t : vS} (h : Fr [] s t) (q : ∀ a : Nat, 199 ≤ a → t.2.1 a = s.2.1 a) : t = s := by
  obtain ⟨h1, h2, h3, h4⟩ := h
  have e1 : t.1 = s.1 := funext fun o => funext fun f => h1 o f (by simp)
  have e2 : t.2.1 = s.2.1 := funext fun a => by
    by_cases l : a < 199
    · exact Prod.ext (h3 a l (by simp)) (h2 a l (by simp))
    · exact q a (by omega)
  have e3 : t.2.2 = s.2.2 := funext fun o => funext fun f => h4 o f (by simp)
  exact Prod.ext e1 (Prod.ext e2 e3)
theorem Fr.wI {W : List Nat} {s0 s : vS} {o f : Nat} {v : Int} (h : Fr W s0 s) (hm : 1000 * o + f ∈ W) : Fr W s0 (sI s o f v) := by
  refine ⟨fun o' f' q => ?_, h.2.1, h.2.2.1, h.2.2.2⟩
  show (if o' = o ∧ f' = f then v else s.1 o' f') = _
  rw [if_neg (by rintro ⟨e1, e2⟩; subst e1; subst e2; exact q hm)]
  exact h.1 o' f' q
theorem Fr.wR {W : List Nat} {s0 s : vS} {o f v : Nat} (h : Fr W s0 s) (hm : 1000 * o + f ∈ W) : Fr W s0 (sR s o f v) := by
  refine ⟨h.1, h.2.1, h.2.2.1, fun o' f' q => ?_⟩
  show (if o' = o ∧ f' = f then v else s.2.2 o' f') = _
  rw [if_neg (by rintro ⟨e1, e2⟩; subst e1; subst e2; exact q hm)]
  exact h.2.2.2 o' f' q
theorem Fr.wA' {W : List Nat} {s0 s : vS} {a : Nat} {x : Nat × (Int → Int)} (h : Fr W s0 s) (h1 : a < 199 → 1000 * a + 999 ∈ W ∨ x.2 = (s.2.1 a).2) (h2 : a < 199 → 1000 * a + 998 ∈ W ∨ x.1 = (s.2.1 a).1) : Fr W s0 (sA s a x) := by
  refine ⟨h.1, fun b l q => ?_, fun b l q => ?_, h.2.2.2⟩
  · show (if b = a then x else s.2.1 b).2 = _
    by_cases e : b = a
    · subst e
      rw [if_pos _root_.rfl]
      rcases h1 l with z | z
      · exact (q z).elim
      · rw [z]; exact h.2.1 b l q
    · rw [if_neg e]; exact h.2.1 b l q
  · show (if b = a then x else s.2.1 b).1 = _
    by_cases e : b = a
    · subst e
      rw [if_pos _root_.rfl]
      rcases h2 l with z | z
      · exact (q z).elim
      · rw [z]; exact h.2.2.1 b l q
    · rw [if_neg e]; exact h.2.2.1 b l q
theorem Fr.wAT {W : List Nat} {s0 s : vS} {a : Nat} {x : Nat × (Int → Int)} (h : Fr W s0 s) (ha : 199 ≤ a) : Fr W s0 (sA s a x) := h.wA' (fun l => by omega) (fun l => by omega)
theorem Fr.wE {W : List Nat} {s0 s : vS} {a : Nat} {j v : Int} (h : Fr W s0 s) (hm : 1000 * a + 999 ∈ W) : Fr W s0 (sE s a j v) := h.wA' (fun _ => Or.inl hm) (fun _ => Or.inr _root_.rfl)
theorem Fr.wET {W : List Nat} {s0 s : vS} {a : Nat} {j v : Int} (h : Fr W s0 s) (ha : 199 ≤ a) : Fr W s0 (sE s a j v) := h.wAT ha
theorem Fr.wcp {W : List Nat} {s0 s : vS} {a b : Nat} {i j n : Int} (h : Fr W s0 s) (hm : 1000 * b + 999 ∈ W) : Fr W s0 (cpA s a b i j n) := h.wA' (fun _ => Or.inl hm) (fun _ => Or.inr _root_.rfl)
theorem Fr.wcpT {W : List Nat} {s0 s : vS} {a b : Nat} {i j n : Int} (h : Fr W s0 s) (ha : 199 ≤ b) : Fr W s0 (cpA s a b i j n) := h.wAT ha
theorem Fr.wsw' {W : List Nat} {s0 s : vS} {x y : Nat} (h : Fr W s0 s) (hx : x < 199 → 1000 * x + 999 ∈ W ∧ 1000 * x + 998 ∈ W) (hy : y < 199 → 1000 * y + 999 ∈ W ∧ 1000 * y + 998 ∈ W) : Fr W s0 (sw2 s x y) := by
  refine ⟨h.1, fun b l q => ?_, fun b l q => ?_, h.2.2.2⟩
  · show (s.2.1 (swp x y b)).2 = _
    have e : swp x y b = b := by
      unfold swp
      rw [if_neg (by rintro e; subst e; exact q (hx l).1), if_neg (by rintro e; subst e; exact q (hy l).1)]
    rw [e]; exact h.2.1 b l q
  · show (s.2.1 (swp x y b)).1 = _
    have e : swp x y b = b := by
      unfold swp
      rw [if_neg (by rintro e; subst e; exact q (hx l).2), if_neg (by rintro e; subst e; exact q (hy l).2)]
    rw [e]; exact h.2.2.1 b l q
theorem Fr.wswT {W : List Nat} {s0 s : vS} {x y : Nat} (h : Fr W s0 s) (hy : 199 ≤ y) (h1 : 1000 * x + 999 ∈ W) (h2 : 1000 * x + 998 ∈ W) : Fr W s0 (sw2 s x y) := h.wsw' (fun _ => ⟨h1, h2⟩) (fun l => by omega)
theorem Fr.wsw {W : List Nat} {s0 s : vS} {x y : Nat} (h : Fr W s0 s) (h1 : 1000 * x + 999 ∈ W) (h2 : 1000 * x + 998 ∈ W) (h3 : 1000 * y + 999 ∈ W) (h4 : 1000 * y + 998 ∈ W) : Fr W s0 (sw2 s x y) := h.wsw' (fun _ => ⟨h1, h2⟩) (fun _ => ⟨h3, h4⟩)
theorem Fr.wrs {W : List Nat} {s0 s : vS} (h : Fr W s0 s) : Fr W s0 (rs s) := by
  refine ⟨h.1, fun b l q => ?_, fun b l q => ?_, h.2.2.2⟩
  · show (if b < KF then s.2.1 b else (0, fun _ => 0)).2 = _
    rw [if_pos (by unfold KF; exact l)]; exact h.2.1 b l q
  · show (if b < KF then s.2.1 b else (0, fun _ => 0)).1 = _
    rw [if_pos (by unfold KF; exact l)]; exact h.2.2.1 b l q
theorem Fr.wmT {W : List Nat} {s0 s t : vS} (h : Fr W s0 s) : Fr W s0 (mT s t) := by
  refine ⟨h.1, fun b l q => ?_, fun b l q => ?_, h.2.2.2⟩
  · show (if b < KF then s.2.1 b else t.2.1 b).2 = _
    rw [if_pos (by unfold KF; exact l)]; exact h.2.1 b l q
  · show (if b < KF then s.2.1 b else t.2.1 b).1 = _
    rw [if_pos (by unfold KF; exact l)]; exact h.2.2.1 b l q
theorem Fr.wgrw {W : List Nat} {s0 s : vS} {a : Nat} {r : Int} (h : Fr W s0 s) (h1 : 1000 * a + 999 ∈ W) (h2 : 1000 * a + 998 ∈ W) : Fr W s0 (grw s a r) := by
  show Fr W s0 (if r = 0 then s else rs (sw2 s a 199))
  by_cases e : r = 0
  · rw [if_pos e]; exact h
  · rw [if_neg e]; exact (h.wswT (by decide) h1 h2).wrs
/-- reading what was left alone -/
theorem Fr.rI {W : List Nat} {s t : vS} (h : Fr W s t) {o f : Nat} (q : 1000 * o + f ∉ W) : gI t o f = gI s o f := by unfold gI; rw [h.1 o f q]
theorem Fr.rL {W : List Nat} {s t : vS} (h : Fr W s t) {o f : Nat} (q : 1000 * o + f ∉ W) : gL t o f = gL s o f := by unfold gL; rw [h.1 o f q]
theorem Fr.rR {W : List Nat} {s t : vS} (h : Fr W s t) {o f : Nat} (q : 1000 * o + f ∉ W) : gR t o f = gR s o f := h.2.2.2 o f q
theorem Fr.rN {W : List Nat} {s t : vS} (h : Fr W s t) {a : Nat} (l : a < 199) (q : 1000 * a + 998 ∉ W) : gN t a = gN s a := h.2.2.1 a l q
theorem Fr.rE {W : List Nat} {s t : vS} (h : Fr W s t) {a : Nat} (l : a < 199) (q : 1000 * a + 999 ∉ W) : gE t a = gE s a := by funext j; unfold gE; rw [h.2.1 a l q]
theorem Fr.rB {W : List Nat} {s t : vS} (h : Fr W s t) {a : Nat} (l : a < 199) (q : 1000 * a + 999 ∉ W) : gB t a = gB s a := by funext j; unfold gB; rw [h.2.1 a l q]
theorem Fr.rZ {W : List Nat} {s t : vS} (h : Fr W s t) {a : Nat} (l : a < 199) (q : 1000 * a + 999 ∉ W) : gZ t a = gZ s a := by funext j; unfold gZ; rw [h.2.1 a l q]
theorem Fr.rEL {W : List Nat} {s t : vS} (h : Fr W s t) {a : Nat} (l : a < 199) (q : 1000 * a + 999 ∉ W) : gEL t a = gEL s a := by funext j; unfold gEL; rw [h.2.1 a l q]
/-- whatever a run answers, it has left all but W alone -/
def PR {β : Type} (W : List Nat) (s0 : vS) (π : β → vS) (m : Option β) : Prop := ∀ r, m = some r → Fr W s0 (π r)
theorem PR.none {β : Type} {W : List Nat} {s0 : vS} {π : β → vS} : PR W s0 π none := fun _ h => by cases h
theorem PR.some {β : Type} {W : List Nat} {s0 : vS} {π : β → vS} {r : β} (h : Fr W s0 (π r)) : PR W s0 π (some r) := fun _ e => by cases e; exact h
theorem PR.gd {β : Type} {W : List Nat} {s0 : vS} {π : β → vS} {p : Prop} [Decidable p] {k : Option β} (h : PR W s0 π k) : PR W s0 π (gd p k) := fun r e => h r (gd_some e).2
theorem PR.vl {β : Type} {W : List Nat} {s0 : vS} {π : β → vS} {x : Int} {k : Int → Option β} (h : ∀ x, PR W s0 π (k x)) : PR W s0 π (vl x k) := h x
theorem PR.stp {β : Type} {W : List Nat} {s0 s1 : vS} {π : β → vS} {k : vS → Option β} (h1 : Fr W s0 s1) (h : ∀ s', Fr W s0 s' → PR W s0 π (k s')) : PR W s0 π (stp s1 k) := h s1 h1
theorem PR.ite {β : Type} {W : List Nat} {s0 : vS} {π : β → vS} {c : Prop} [Decidable c] {a b : Option β} (h1 : c → PR W s0 π a) (h2 : ¬c → PR W s0 π b) : PR W s0 π (if c then a else b) := by
  by_cases h : c
  · rw [if_pos h]; exact h1 h
  · rw [if_neg h]; exact h2 h
theorem PR.tail {β : Type} {W : List Nat} {s0 s1 : vS} {π : β → vS} {m : Option β} (h : Fr W s0 s1) (k : PR W s1 π m) : PR W s0 π m := fun r e => h.trans (k r e)
theorem PR.call {β : Type} {W W' : List Nat} {s0 s1 : vS} {π : β → vS} {m : Option β} (h : Fr W s0 s1) (k : PR W' s1 π m) (hs : ∀ c ∈ W', c ∈ W) : PR W s0 π m := fun r e => h.call (k r e) hs
theorem PR.pure {β : Type} {W : List Nat} {s0 s1 : vS} {π : β → vS} {m : Option β} (h : Fr W s0 s1) (k : PR [] s1 π m) : PR W s0 π m := PR.call h k fun _ z => by cases z
theorem PR.bd {β : Type} {W : List Nat} {s0 : vS} {π : β → vS} {m : Option (Int × vS)} {k : Int → vS → Option β} (h : PR W s0 (fun q => q.2) m) (hk : ∀ x s', Fr W s0 s' → PR W s0 π (k x s')) : PR W s0 π (bd m k) := fun r e => by
  obtain ⟨x, s', e1, e2⟩ := bd_some e
  exact hk x s' (h _ e1) r e2
theorem PR.bdv {β : Type} {W : List Nat} {s0 : vS} {π : β → vS} {m : Option vS} {k : vS → Option β} (h : PR W s0 (fun q => q) m) (hk : ∀ s', Fr W s0 s' → PR W s0 π (k s')) : PR W s0 π (bdv m k) := fun r e => by
  obtain ⟨s', e1, e2⟩ := bdv_some e
  exact hk s' (h _ e1) r e2
theorem PR.bdo {β : Type} {W : List Nat} {s0 : vS} {π : β → vS} {m : Option (Nat × vS)} {k : Nat → vS → Option β} (h : PR W s0 (fun q => q.2) m) (hk : ∀ x s', Fr W s0 s' → PR W s0 π (k x s')) : PR W s0 π (bdo m k) := fun r e => by
  obtain ⟨x, s', e1, e2⟩ := bdo_some e
  exact hk x s' (h _ e1) r e2
theorem PR.lq_0 {β : Type} {W : List Nat} {s0 : vS} {π : β → vS} {m : Option (vS)} {k : vS → Option β} (h : PR W s0 (fun q => q) m) (hk : ∀ s', Fr W s0 s' → PR W s0 π (k s')) : PR W s0 π (lq_0 m k) := fun r e => by
  obtain ⟨s', e1, e2⟩ := lq_0_some e
  exact hk s' (h _ e1) r e2
theorem PR.lqs_0 {β ρ : Type} {W : List Nat} {s0 : vS} {π : β → vS} {π' : ρ → vS} {m : Option ((vS) ⊕ ρ)} {k : vS → Option β} {kr : ρ → Option β} (h : PR W s0 (Sum.elim (fun q => q) π') m) (hk : ∀ s', Fr W s0 s' → PR W s0 π (k s')) (hr : ∀ q, Fr W s0 (π' q) → PR W s0 π (kr q)) : PR W s0 π (lqs_0 m k kr) := fun r e => by
  rcases lqs_0_some e with ⟨s', e1, e2⟩ | ⟨q, e1, e2⟩
  · exact hk s' (h _ e1) r e2
  · exact hr q (h _ e1) r e2
theorem PR.lq_1 {β : Type} {W : List Nat} {s0 : vS} {π : β → vS} {m : Option (Int × vS)} {k : Int → vS → Option β} (h : PR W s0 (fun q => q.2) m) (hk : ∀ x0 s', Fr W s0 s' → PR W s0 π (k x0 s')) : PR W s0 π (lq_1 m k) := fun r e => by
  obtain ⟨x0, s', e1, e2⟩ := lq_1_some e
  exact hk x0 s' (h _ e1) r e2
theorem PR.lqs_1 {β ρ : Type} {W : List Nat} {s0 : vS} {π : β → vS} {π' : ρ → vS} {m : Option ((Int × vS) ⊕ ρ)} {k : Int → vS → Option β} {kr : ρ → Option β} (h : PR W s0 (Sum.elim (fun q => q.2) π') m) (hk : ∀ x0 s', Fr W s0 s' → PR W s0 π (k x0 s')) (hr : ∀ q, Fr W s0 (π' q) → PR W s0 π (kr q)) : PR W s0 π (lqs_1 m k kr) := fun r e => by
  rcases lqs_1_some e with ⟨x0, s', e1, e2⟩ | ⟨q, e1, e2⟩
  · exact hk x0 s' (h _ e1) r e2
  · exact hr q (h _ e1) r e2
theorem PR.lq_2 {β : Type} {W : List Nat} {s0 : vS} {π : β → vS} {m : Option (Int × Int × vS)} {k : Int → Int → vS → Option β} (h : PR W s0 (fun q => q.2.2) m) (hk : ∀ x0 x1 s', Fr W s0 s' → PR W s0 π (k x0 x1 s')) : PR W s0 π (lq_2 m k) := fun r e => by
  obtain ⟨x0, x1, s', e1, e2⟩ := lq_2_some e
  exact hk x0 x1 s' (h _ e1) r e2
theorem PR.lqs_2 {β ρ : Type} {W : List Nat} {s0 : vS} {π : β → vS} {π' : ρ → vS} {m : Option ((Int × Int × vS) ⊕ ρ)} {k : Int → Int → vS → Option β} {kr : ρ → Option β} (h : PR W s0 (Sum.elim (fun q => q.2.2) π') m) (hk : ∀ x0 x1 s', Fr W s0 s' → PR W s0 π (k x0 x1 s')) (hr : ∀ q, Fr W s0 (π' q) → PR W s0 π (kr q)) : PR W s0 π (lqs_2 m k kr) := fun r e => by
  rcases lqs_2_some e with ⟨x0, x1, s', e1, e2⟩ | ⟨q, e1, e2⟩
  · exact hk x0 x1 s' (h _ e1) r e2
  · exact hr q (h _ e1) r e2
theorem PR.lq_3 {β : Type} {W : List Nat} {s0 : vS} {π : β → vS} {m : Option (Int × Int × Int × vS)} {k : Int → Int → Int → vS → Option β} (h : PR W s0 (fun q => q.2.2.2) m) (hk : ∀ x0 x1 x2 s', Fr W s0 s' → PR W s0 π (k x0 x1 x2 s')) : PR W s0 π (lq_3 m k) := fun r e => by
  obtain ⟨x0, x1, x2, s', e1, e2⟩ := lq_3_some e
  exact hk x0 x1 x2 s' (h _ e1) r e2
theorem PR.lqs_3 {β ρ : Type} {W : List Nat} {s0 : vS} {π : β → vS} {π' : ρ → vS} {m : Option ((Int × Int × Int × vS) ⊕ ρ)} {k : Int → Int → Int → vS → Option β} {kr : ρ → Option β} (h : PR W s0 (Sum.elim (fun q => q.2.2.2) π') m) (hk : ∀ x0 x1 x2 s', Fr W s0 s' → PR W s0 π (k x0 x1 x2 s')) (hr : ∀ q, Fr W s0 (π' q) → PR W s0 π (kr q)) : PR W s0 π (lqs_3 m k kr) := fun r e => by
  rcases lqs_3_some e with ⟨x0, x1, x2, s', e1, e2⟩ | ⟨q, e1, e2⟩
  · exact hk x0 x1 x2 s' (h _ e1) r e2
  · exact hr q (h _ e1) r e2
theorem PR.lq_4 {β : Type} {W : List Nat} {s0 : vS} {π : β → vS} {m : Option (Int × Int × Int × Int × vS)} {k : Int → Int → Int → Int → vS → Option β} (h : PR W s0 (fun q => q.2.2.2.2) m) (hk : ∀ x0 x1 x2 x3 s', Fr W s0 s' → PR W s0 π (k x0 x1 x2 x3 s')) : PR W s0 π (lq_4 m k) := fun r e => by
  obtain ⟨x0, x1, x2, x3, s', e1, e2⟩ := lq_4_some e
  exact hk x0 x1 x2 x3 s' (h _ e1) r e2
theorem PR.lqs_4 {β ρ : Type} {W : List Nat} {s0 : vS} {π : β → vS} {π' : ρ → vS} {m : Option ((Int × Int × Int × Int × vS) ⊕ ρ)} {k : Int → Int → Int → Int → vS → Option β} {kr : ρ → Option β} (h : PR W s0 (Sum.elim (fun q => q.2.2.2.2) π') m) (hk : ∀ x0 x1 x2 x3 s', Fr W s0 s' → PR W s0 π (k x0 x1 x2 x3 s')) (hr : ∀ q, Fr W s0 (π' q) → PR W s0 π (kr q)) : PR W s0 π (lqs_4 m k kr) := fun r e => by
  rcases lqs_4_some e with ⟨x0, x1, x2, x3, s', e1, e2⟩ | ⟨q, e1, e2⟩
  · exact hk x0 x1 x2 x3 s' (h _ e1) r e2
  · exact hr q (h _ e1) r e2
theorem PR.lq_5 {β : Type} {W : List Nat} {s0 : vS} {π : β → vS} {m : Option (Int × Int × Int × Int × Int × vS)} {k : Int → Int → Int → Int → Int → vS → Option β} (h : PR W s0 (fun q => q.2.2.2.2.2) m) (hk : ∀ x0 x1 x2 x3 x4 s', Fr W s0 s' → PR W s0 π (k x0 x1 x2 x3 x4 s')) : PR W s0 π (lq_5 m k) := fun r e => by
  obtain ⟨x0, x1, x2, x3, x4, s', e1, e2⟩ := lq_5_some e
  exact hk x0 x1 x2 x3 x4 s' (h _ e1) r e2
theorem PR.lqs_5 {β ρ : Type} {W : List Nat} {s0 : vS} {π : β → vS} {π' : ρ → vS} {m : Option ((Int × Int × Int × Int × Int × vS) ⊕ ρ)} {k : Int → Int → Int → Int → Int → vS → Option β} {kr : ρ → Option β} (h : PR W s0 (Sum.elim (fun q => q.2.2.2.2.2) π') m) (hk : ∀ x0 x1 x2 x3 x4 s', Fr W s0 s' → PR W s0 π (k x0 x1 x2 x3 x4 s')) (hr : ∀ q, Fr W s0 (π' q) → PR W s0 π (kr q)) : PR W s0 π (lqs_5 m k kr) := fun r e => by
  rcases lqs_5_some e with ⟨x0, x1, x2, x3, x4, s', e1, e2⟩ | ⟨q, e1, e2⟩
  · exact hk x0 x1 x2 x3 x4 s' (h _ e1) r e2
  · exact hr q (h _ e1) r e2
theorem PR.lq_6 {β : Type} {W : List Nat} {s0 : vS} {π : β → vS} {m : Option (Int × Int × Int × Int × Int × Int × vS)} {k : Int → Int → Int → Int → Int → Int → vS → Option β} (h : PR W s0 (fun q => q.2.2.2.2.2.2) m) (hk : ∀ x0 x1 x2 x3 x4 x5 s', Fr W s0 s' → PR W s0 π (k x0 x1 x2 x3 x4 x5 s')) : PR W s0 π (lq_6 m k) := fun r e => by
  obtain ⟨x0, x1, x2, x3, x4, x5, s', e1, e2⟩ := lq_6_some e
  exact hk x0 x1 x2 x3 x4 x5 s' (h _ e1) r e2
theorem PR.lqs_6 {β ρ : Type} {W : List Nat} {s0 : vS} {π : β → vS} {π' : ρ → vS} {m : Option ((Int × Int × Int × Int × Int × Int × vS) ⊕ ρ)} {k : Int → Int → Int → Int → Int → Int → vS → Option β} {kr : ρ → Option β} (h : PR W s0 (Sum.elim (fun q => q.2.2.2.2.2.2) π') m) (hk : ∀ x0 x1 x2 x3 x4 x5 s', Fr W s0 s' → PR W s0 π (k x0 x1 x2 x3 x4 x5 s')) (hr : ∀ q, Fr W s0 (π' q) → PR W s0 π (kr q)) : PR W s0 π (lqs_6 m k kr) := fun r e => by
  rcases lqs_6_some e with ⟨x0, x1, x2, x3, x4, x5, s', e1, e2⟩ | ⟨q, e1, e2⟩
  · exact hk x0 x1 x2 x3 x4 x5 s' (h _ e1) r e2
  · exact hr q (h _ e1) r e2
theorem PR.lq_7 {β : Type} {W : List Nat} {s0 : vS} {π : β → vS} {m : Option (Int × Int × Int × Int × Int × Int × Int × vS)} {k : Int → Int → Int → Int → Int → Int → Int → vS → Option β} (h : PR W s0 (fun q => q.2.2.2.2.2.2.2) m) (hk : ∀ x0 x1 x2 x3 x4 x5 x6 s', Fr W s0 s' → PR W s0 π (k x0 x1 x2 x3 x4 x5 x6 s')) : PR W s0 π (lq_7 m k) := fun r e => by
  obtain ⟨x0, x1, x2, x3, x4, x5, x6, s', e1, e2⟩ := lq_7_some e
  exact hk x0 x1 x2 x3 x4 x5 x6 s' (h _ e1) r e2
theorem PR.lqs_7 {β ρ : Type} {W : List Nat} {s0 : vS} {π : β → vS} {π' : ρ → vS} {m : Option ((Int × Int × Int × Int × Int × Int × Int × vS) ⊕ ρ)} {k : Int → Int → Int → Int → Int → Int → Int → vS → Option β} {kr : ρ → Option β} (h : PR W s0 (Sum.elim (fun q => q.2.2.2.2.2.2.2) π') m) (hk : ∀ x0 x1 x2 x3 x4 x5 x6 s', Fr W s0 s' → PR W s0 π (k x0 x1 x2 x3 x4 x5 x6 s')) (hr : ∀ q, Fr W s0 (π' q) → PR W s0 π (kr q)) : PR W s0 π (lqs_7 m k kr) := fun r e => by
  rcases lqs_7_some e with ⟨x0, x1, x2, x3, x4, x5, x6, s', e1, e2⟩ | ⟨q, e1, e2⟩
  · exact hk x0 x1 x2 x3 x4 x5 x6 s' (h _ e1) r e2
  · exact hr q (h _ e1) r e2
theorem PR.lq_8 {β : Type} {W : List Nat} {s0 : vS} {π : β → vS} {m : Option (Int × Int × Int × Int × Int × Int × Int × Int × vS)} {k : Int → Int → Int → Int → Int → Int → Int → Int → vS → Option β} (h : PR W s0 (fun q => q.2.2.2.2.2.2.2.2) m) (hk : ∀ x0 x1 x2 x3 x4 x5 x6 x7 s', Fr W s0 s' → PR W s0 π (k x0 x1 x2 x3 x4 x5 x6 x7 s')) : PR W s0 π (lq_8 m k) := fun r e => by
  obtain ⟨x0, x1, x2, x3, x4, x5, x6, x7, s', e1, e2⟩ := lq_8_some e
  exact hk x0 x1 x2 x3 x4 x5 x6 x7 s' (h _ e1) r e2
theorem PR.lqs_8 {β ρ : Type} {W : List Nat} {s0 : vS} {π : β → vS} {π' : ρ → vS} {m : Option ((Int × Int × Int × Int × Int × Int × Int × Int × vS) ⊕ ρ)} {k : Int → Int → Int → Int → Int → Int → Int → Int → vS → Option β} {kr : ρ → Option β} (h : PR W s0 (Sum.elim (fun q => q.2.2.2.2.2.2.2.2) π') m) (hk : ∀ x0 x1 x2 x3 x4 x5 x6 x7 s', Fr W s0 s' → PR W s0 π (k x0 x1 x2 x3 x4 x5 x6 x7 s')) (hr : ∀ q, Fr W s0 (π' q) → PR W s0 π (kr q)) : PR W s0 π (lqs_8 m k kr) := fun r e => by
  rcases lqs_8_some e with ⟨x0, x1, x2, x3, x4, x5, x6, x7, s', e1, e2⟩ | ⟨q, e1, e2⟩
  · exact hk x0 x1 x2 x3 x4 x5 x6 x7 s' (h _ e1) r e2
  · exact hr q (h _ e1) r e2
theorem PR.lq_9 {β : Type} {W : List Nat} {s0 : vS} {π : β → vS} {m : Option (Int × Int × Int × Int × Int × Int × Int × Int × Int × vS)} {k : Int → Int → Int → Int → Int → Int → Int → Int → Int → vS → Option β} (h : PR W s0 (fun q => q.2.2.2.2.2.2.2.2.2) m) (hk : ∀ x0 x1 x2 x3 x4 x5 x6 x7 x8 s', Fr W s0 s' → PR W s0 π (k x0 x1 x2 x3 x4 x5 x6 x7 x8 s')) : PR W s0 π (lq_9 m k) := fun r e => by
  obtain ⟨x0, x1, x2, x3, x4, x5, x6, x7, x8, s', e1, e2⟩ := lq_9_some e
  exact hk x0 x1 x2 x3 x4 x5 x6 x7 x8 s' (h _ e1) r e2
theorem PR.lqs_9 {β ρ : Type} {W : List Nat} {s0 : vS} {π : β → vS} {π' : ρ → vS} {m : Option ((Int × Int × Int × Int × Int × Int × Int × Int × Int × vS) ⊕ ρ)} {k : Int → Int → Int → Int → Int → Int → Int → Int → Int → vS → Option β} {kr : ρ → Option β} (h : PR W s0 (Sum.elim (fun q => q.2.2.2.2.2.2.2.2.2) π') m) (hk : ∀ x0 x1 x2 x3 x4 x5 x6 x7 x8 s', Fr W s0 s' → PR W s0 π (k x0 x1 x2 x3 x4 x5 x6 x7 x8 s')) (hr : ∀ q, Fr W s0 (π' q) → PR W s0 π (kr q)) : PR W s0 π (lqs_9 m k kr) := fun r e => by
  rcases lqs_9_some e with ⟨x0, x1, x2, x3, x4, x5, x6, x7, x8, s', e1, e2⟩ | ⟨q, e1, e2⟩
  · exact hk x0 x1 x2 x3 x4 x5 x6 x7 x8 s' (h _ e1) r e2
  · exact hr q (h _ e1) r e2
theorem PR.lq_10 {β : Type} {W : List Nat} {s0 : vS} {π : β → vS} {m : Option (Int × Int × Int × Int × Int × Int × Int × Int × Int × Int × vS)} {k : Int → Int → Int → Int → Int → Int → Int → Int → Int → Int → vS → Option β} (h : PR W s0 (fun q => q.2.2.2.2.2.2.2.2.2.2) m) (hk : ∀ x0 x1 x2 x3 x4 x5 x6 x7 x8 x9 s', Fr W s0 s' → PR W s0 π (k x0 x1 x2 x3 x4 x5 x6 x7 x8 x9 s')) : PR W s0 π (lq_10 m k) := fun r e => by
  obtain ⟨x0, x1, x2, x3, x4, x5, x6, x7, x8, x9, s', e1, e2⟩ := lq_10_some e
  exact hk x0 x1 x2 x3 x4 x5 x6 x7 x8 x9 s' (h _ e1) r e2
theorem PR.lqs_10 {β ρ : Type} {W : List Nat} {s0 : vS} {π : β → vS} {π' : ρ → vS} {m : Option ((Int × Int × Int × Int × Int × Int × Int × Int × Int × Int × vS) ⊕ ρ)} {k : Int → Int → Int → Int → Int → Int → Int → Int → Int → Int → vS → Option β} {kr : ρ → Option β} (h : PR W s0 (Sum.elim (fun q => q.2.2.2.2.2.2.2.2.2.2) π') m) (hk : ∀ x0 x1 x2 x3 x4 x5 x6 x7 x8 x9 s', Fr W s0 s' → PR W s0 π (k x0 x1 x2 x3 x4 x5 x6 x7 x8 x9 s')) (hr : ∀ q, Fr W s0 (π' q) → PR W s0 π (kr q)) : PR W s0 π (lqs_10 m k kr) := fun r e => by
  rcases lqs_10_some e with ⟨x0, x1, x2, x3, x4, x5, x6, x7, x8, x9, s', e1, e2⟩ | ⟨q, e1, e2⟩
  · exact hk x0 x1 x2 x3 x4 x5 x6 x7 x8 x9 s' (h _ e1) r e2
  · exact hr q (h _ e1) r e2
theorem wpo_bx {α : Type} {m : Option ((Int × vS) ⊕ (Nat × vS))} {k : Int → vS → Option (α ⊕ (Nat × vS))} {Q : (α ⊕ (Nat × vS)) → Prop} : wpo (bx m k) Q ↔ wpo m (Sum.elim (fun q => wpo (k q.1 q.2) Q) (fun q => Q (.inr q))) := by
  unfold bx
  rw [wpo_bind]
  constructor
  · rintro ⟨r, h, q⟩
    refine ⟨r, h, ?_⟩
    cases r with
    | inl r => exact q
    | inr r => exact (wpo_some (Q := Q)).mp q
  · rintro ⟨r, h, q⟩
    refine ⟨r, h, ?_⟩
    cases r with
    | inl r => exact q
    | inr r => exact wpo_some.mpr q
theorem wpo_bxv {α : Type} {m : Option (vS ⊕ (Nat × vS))} {k : vS → Option (α ⊕ (Nat × vS))} {Q : (α ⊕ (Nat × vS)) → Prop} : wpo (bxv m k) Q ↔ wpo m (Sum.elim (fun q => wpo (k q) Q) (fun q => Q (.inr q))) := by
  unfold bxv
  rw [wpo_bind]
  constructor
  · rintro ⟨r, h, q⟩
    refine ⟨r, h, ?_⟩
    cases r with
    | inl r => exact q
    | inr r => exact (wpo_some (Q := Q)).mp q
  · rintro ⟨r, h, q⟩
    refine ⟨r, h, ?_⟩
    cases r with
    | inl r => exact q
    | inr r => exact wpo_some.mpr q
theorem wpo_nx {α : Type} {m : Option α} {Q : (α ⊕ (Nat × vS)) → Prop} : wpo (nx m) Q ↔ wpo m (fun r => Q (.inl r)) := by
  unfold nx
  rw [wpo_bind]
  simp only [wpo_some]
theorem wpo_hx {α : Type} {m : Option ((Int × vS) ⊕ (Nat × vS))} {k : Int → vS → Option α} {kr : Nat → vS → Option α} {Q : α → Prop} : wpo (hx m k kr) Q ↔ wpo m (Sum.elim (fun q => wpo (k q.1 q.2) Q) (fun q => wpo (kr q.1 q.2) Q)) := by
  unfold hx
  rw [wpo_bind]
  constructor
  · rintro ⟨r, h, q⟩
    refine ⟨r, h, ?_⟩
    cases r with
    | inl r => exact q
    | inr r => exact q
  · rintro ⟨r, h, q⟩
    refine ⟨r, h, ?_⟩
    cases r with
    | inl r => exact q
    | inr r => exact q
theorem wpo_swap {α β : Type} {m : Option α} {n : Option β} {Q : α → β → Prop} (h : wpo n fun b => wpo m fun a => Q a b) : wpo m fun a => wpo n fun b => Q a b := by
  obtain ⟨b, hb, a, ha, q⟩ := h
  exact ⟨a, ha, b, hb, q⟩
/-! reading behind writing -/
theorem gI_sI (s : vS) (o f : Nat) (v : Int) (o' f' : Nat) : gI (sI s o f v) o' f' = if o' = o ∧ f' = f then w32 v else gI s o' f' := by
  unfold gI sI; by_cases h : o' = o ∧ f' = f <;> simp [h]
theorem gI_sR (s : vS) (o f v o' f' : Nat) : gI (sR s o f v) o' f' = gI s o' f' := rfl
theorem gI_sA (s : vS) (a : Nat) (x : Nat × (Int → Int)) (o' f' : Nat) : gI (sA s a x) o' f' = gI s o' f' := rfl
theorem gI_sE (s : vS) (a : Nat) (j v : Int) (o' f' : Nat) : gI (sE s a j v) o' f' = gI s o' f' := rfl
theorem gI_sw2 (s : vS) (x y o' f' : Nat) : gI (sw2 s x y) o' f' = gI s o' f' := rfl
theorem gI_rs (s : vS) (o' f' : Nat) : gI (rs s) o' f' = gI s o' f' := rfl
theorem gI_cpA (s : vS) (a b : Nat) (i j n : Int) (o' f' : Nat) : gI (cpA s a b i j n) o' f' = gI s o' f' := rfl
theorem gI_gh1 (s : vS) (o' f' : Nat) : gI (gh1 s) o' f' = gI s o' f' := rfl
theorem gI_mT (s t : vS) (o' f' : Nat) : gI (mT s t) o' f' = gI s o' f' := rfl
theorem gL_sI (s : vS) (o f : Nat) (v : Int) (o' f' : Nat) : gL (sI s o f v) o' f' = if o' = o ∧ f' = f then w64 v else gL s o' f' := by
  unfold gL sI; by_cases h : o' = o ∧ f' = f <;> simp [h]
theorem gL_sR (s : vS) (o f v o' f' : Nat) : gL (sR s o f v) o' f' = gL s o' f' := rfl
theorem gL_sA (s : vS) (a : Nat) (x : Nat × (Int → Int)) (o' f' : Nat) : gL (sA s a x) o' f' = gL s o' f' := rfl
theorem gL_sE (s : vS) (a : Nat) (j v : Int) (o' f' : Nat) : gL (sE s a j v) o' f' = gL s o' f' := rfl
theorem gL_sw2 (s : vS) (x y o' f' : Nat) : gL (sw2 s x y) o' f' = gL s o' f' := rfl
theorem gL_rs (s : vS) (o' f' : Nat) : gL (rs s) o' f' = gL s o' f' := rfl
theorem gL_cpA (s : vS) (a b : Nat) (i j n : Int) (o' f' : Nat) : gL (cpA s a b i j n) o' f' = gL s o' f' := rfl
theorem gR_sI (s : vS) (o f : Nat) (v : Int) (o' f' : Nat) : gR (sI s o f v) o' f' = gR s o' f' := rfl
theorem gR_sR (s : vS) (o f v o' f' : Nat) : gR (sR s o f v) o' f' = if o' = o ∧ f' = f then v else gR s o' f' := rfl
theorem gR_sA (s : vS) (a : Nat) (x : Nat × (Int → Int)) (o' f' : Nat) : gR (sA s a x) o' f' = gR s o' f' := rfl
theorem gR_sE (s : vS) (a : Nat) (j v : Int) (o' f' : Nat) : gR (sE s a j v) o' f' = gR s o' f' := rfl
theorem gR_sw2 (s : vS) (x y o' f' : Nat) : gR (sw2 s x y) o' f' = gR s o' f' := rfl
theorem gR_rs (s : vS) (o' f' : Nat) : gR (rs s) o' f' = gR s o' f' := rfl
theorem gR_cpA (s : vS) (a b : Nat) (i j n : Int) (o' f' : Nat) : gR (cpA s a b i j n) o' f' = gR s o' f' := rfl
theorem gN_sI (s : vS) (o f : Nat) (v : Int) (b : Nat) : gN (sI s o f v) b = gN s b := rfl
theorem gN_sR (s : vS) (o f v b : Nat) : gN (sR s o f v) b = gN s b := rfl
theorem gN_gh1 (s : vS) (b : Nat) : gN (gh1 s) b = gN s b := rfl
theorem gN_sA (s : vS) (a : Nat) (x : Nat × (Int → Int)) (b : Nat) : gN (sA s a x) b = if b = a then x.1 else gN s b := by
  unfold gN sA; by_cases h : b = a <;> simp [h]
theorem gN_sE (s : vS) (a : Nat) (j v : Int) (b : Nat) : gN (sE s a j v) b = gN s b := by
  unfold gN sE sA; by_cases h : b = a <;> simp [h]
theorem gN_cpA (s : vS) (a c : Nat) (i j n : Int) (b : Nat) : gN (cpA s a c i j n) b = gN s b := by
  unfold gN cpA sA; by_cases h : b = c <;> simp [h]
theorem gN_sw2 (s : vS) (x y b : Nat) : gN (sw2 s x y) b = gN s (if b = x then y else if b = y then x else b) := rfl
theorem gN_rs (s : vS) (b : Nat) : gN (rs s) b = if b < 199 then gN s b else 0 := by
  unfold gN rs KF; by_cases h : b < 199 <;> simp [h]
/-- an array's contents, bare -/
def gC (s : vS) (a : Nat) (j : Int) : Int := (s.2.1 a).2 j
theorem gE_gC (s : vS) (a : Nat) (j : Int) : gE s a j = w32 (gC s a j) := rfl
theorem gB_gC (s : vS) (a : Nat) (j : Int) : gB s a j = n8 (gC s a j) := rfl
theorem gZ_gC (s : vS) (a : Nat) (j : Int) : gZ s a j = bz (gC s a j) := rfl
theorem gEL_gC (s : vS) (a : Nat) (j : Int) : gEL s a j = w64 (gC s a j) := rfl
theorem gC_sI (s : vS) (o f : Nat) (v : Int) (b : Nat) : gC (sI s o f v) b = gC s b := rfl
theorem gC_sR (s : vS) (o f v b : Nat) : gC (sR s o f v) b = gC s b := rfl
theorem gC_gh1 (s : vS) (b : Nat) : gC (gh1 s) b = gC s b := rfl
theorem gC_sA (s : vS) (a : Nat) (x : Nat × (Int → Int)) (b : Nat) : gC (sA s a x) b = if b = a then x.2 else gC s b := by
  funext i; unfold gC sA; by_cases h : b = a <;> simp [h]
theorem gC_sE (s : vS) (a : Nat) (j v : Int) (b : Nat) (i : Int) : gC (sE s a j v) b i = if b = a ∧ i = j then v else gC s b i := by
  unfold gC sE sA uE; by_cases h : b = a
  · subst h; by_cases h2 : i = j <;> simp [h2]
  · simp [h]
theorem gC_cpA (s : vS) (a c : Nat) (i j n : Int) (b : Nat) (k : Int) : gC (cpA s a c i j n) b k = if b = c ∧ j ≤ k ∧ k < j + n then gC s a (i + (k - j)) else gC s b k := by
  unfold gC cpA sA cpE; by_cases h : b = c
  · subst h; by_cases h2 : j ≤ k ∧ k < j + n <;> simp [h2]
  · simp [h]
theorem gC_sw2 (s : vS) (x y b : Nat) : gC (sw2 s x y) b = gC s (if b = x then y else if b = y then x else b) := rfl
theorem gC_rs (s : vS) (b : Nat) : gC (rs s) b = if b < 199 then gC s b else fun _ => 0 := by
  funext i; unfold gC rs KF; by_cases h : b < 199 <;> simp [h]
theorem gE_sI (s : vS) (o f : Nat) (v : Int) (b : Nat) : gE (sI s o f v) b = gE s b := rfl
theorem gE_sR (s : vS) (o f v b : Nat) : gE (sR s o f v) b = gE s b := rfl
theorem gE_sE (s : vS) (a : Nat) (j v : Int) (b : Nat) (i : Int) : gE (sE s a j v) b i = if b = a ∧ i = j then w32 v else gE s b i := by
  rw [gE_gC, gE_gC, gC_sE]; split <;> rfl
theorem gE_sA (s : vS) (a : Nat) (x : Nat × (Int → Int)) (b : Nat) (i : Int) : gE (sA s a x) b i = if b = a then w32 (x.2 i) else gE s b i := by
  rw [gE_gC, gE_gC, gC_sA]; split <;> rfl
theorem gB_sI (s : vS) (o f : Nat) (v : Int) (b : Nat) : gB (sI s o f v) b = gB s b := rfl
theorem gB_sR (s : vS) (o f v b : Nat) : gB (sR s o f v) b = gB s b := rfl
theorem gB_sE (s : vS) (a : Nat) (j v : Int) (b : Nat) (i : Int) : gB (sE s a j v) b i = if b = a ∧ i = j then n8 v else gB s b i := by
  rw [gB_gC, gB_gC, gC_sE]; split <;> rfl
theorem gZ_sI (s : vS) (o f : Nat) (v : Int) (b : Nat) : gZ (sI s o f v) b = gZ s b := rfl
theorem gZ_sE (s : vS) (a : Nat) (j v : Int) (b : Nat) (i : Int) : gZ (sE s a j v) b i = if b = a ∧ i = j then bz v else gZ s b i := by
  rw [gZ_gC, gZ_gC, gC_sE]; split <;> rfl
theorem gEL_sI (s : vS) (o f : Nat) (v : Int) (b : Nat) : gEL (sI s o f v) b = gEL s b := rfl
theorem gEL_sE (s : vS) (a : Nat) (j v : Int) (b : Nat) (i : Int) : gEL (sE s a j v) b i = if b = a ∧ i = j then w64 v else gEL s b i := by
  rw [gEL_gC, gEL_gC, gC_sE]; split <;> rfl
theorem Fr.rC {W : List Nat} {s t : vS} (h : Fr W s t) {a : Nat} (l : a < 199) (q : 1000 * a + 999 ∉ W) : gC t a = gC s a := by funext j; unfold gC; rw [h.2.1 a l q]
theorem vl_eq {α : Type} (x : Int) (k : Int → Option α) : vl x k = k x := id rfl
theorem stp_eq {α : Type} (s : vS) (k : vS → Option α) : stp s k = k s := id rfl
