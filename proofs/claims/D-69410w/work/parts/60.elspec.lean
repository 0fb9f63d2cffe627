set_option maxRecDepth 100000 set_option linter.unusedVariables false set_option linter.unusedSimpArgs false
/-! PURE 60: elements of bytes, as they are -/
def tagN (D : List Int) (b : Int) : Nat → Int → Bool → Int → Int ⊕ (Int × Int)
  | 0, _, _, _ => .inl 0
  | k + 1, v, first, a => if b ≤ a then .inl 1 else if (first = true ∧ cha D a = 128) ∨ 2097151 < v then .inl 2 else if cha D a ≤ 127 then .inr (v * 128 + cha D a % 128, a + 1) else tagN D b k (v * 128 + cha D a % 128) false (a + 1)
def lenN (D : List Int) (b : Int) : Nat → Int → Int → Int ⊕ (Int × Int)
  | 0, v, a => .inr (v, a)
  | k + 1, v, a => if b ≤ a then .inl 1 else if 2147483647 < v * 256 + cha D a then .inl 3 else lenN D b k (v * 256 + cha D a) (a + 1)
/-- a length: -1 without an end -/
def eLen (D : List Int) (b con a : Int) : Int ⊕ (Int × Int) :=
  if b ≤ a then .inl 1 else if cha D a < 128 then .inr (cha D a, a + 1)
  else if cha D a = 255 ∨ (cha D a = 128 ∧ con = 0) then .inl 3
  else if cha D a = 128 then .inr (-1, a + 1) else lenN D b (cha D a - 128).toNat 0 (a + 1)
/-- a tag's number -/
def eNum (D : List Int) (b a : Int) : Int ⊕ (Int × Int) :=
  if cha D a % 32 = 31 then (match tagN D b (D.length + 1) 0 true (a + 1) with | .inl c => .inl c | .inr q => if q.1 < 31 then .inl 2 else .inr q) else .inr (cha D a % 32, a + 1)
/-- the head of an element at a place: tag (class * 2^28 + number), whether it has others, length, behind it; or a fault -/
def eHead (D : List Int) (b a : Int) : Int ⊕ (Int × Int × Int × Int) :=
  if cha D a = 0 ∨ cha D a = 32 then .inl 4 else
  match eNum D b a with
  | .inl c => .inl c
  | .inr q => match eLen D b (cha D a / 32 % 2) q.2 with
    | .inl c => .inl c
    | .inr r => if r.1 ≠ -1 ∧ b - r.2 < r.1 then .inl 1 else .inr (cha D a / 64 * 268435456 + q.1, cha D a / 32 % 2, r.1, r.2)
/-- where, the elements so far (tag, start, from, to, behind, parts), the open ones (element, end, bound), the innermost first -/
abbrev Es3 : Type := Int × List (List Int) × List (Int × Int × Int)
def eBnd (D : List Int) (e : Es3) : Int := match e.2.2 with | [] => D.length | x :: _ => x.2.2
def elm (D : List Int) (lim : Int) (e : Es3) : Ft ⊕ Es3 :=
  if eBnd D e ≤ e.1 then .inl (1, e.1) else if lim < e.2.2.length then .inl (5, e.1) else
  match eHead D (eBnd D e) e.1 with
  | .inl c => .inl (c, e.1)
  | .inr h =>
    if h.2.1 = 0 then .inr (h.2.2.2 + h.2.2.1, e.2.1 ++ [[h.1, e.1, h.2.2.2, h.2.2.2 + h.2.2.1, e.2.1.length + 1, 0]], e.2.2)
    else .inr (h.2.2.2, e.2.1 ++ [[h.1, e.1, h.2.2.2, 0, 0, 1]], ((e.2.1.length : Int), (if h.2.2.1 = -1 then -1 else h.2.2.2 + h.2.2.1), (if h.2.2.1 = -1 then eBnd D e else h.2.2.2 + h.2.2.1)) :: e.2.2)
/-- an open element ends -/
def elv (els : List (List Int)) (x to : Int) : List (List Int) := els.modify x.toNat (fun r => (r.set 3 to).set 4 els.length)
def estep (D : List Int) (lim : Int) (e : Es3) : Ft ⊕ Es3 :=
  match e.2.2 with
  | [] => .inr e
  | x :: r => if x.2.1 = e.1 then .inr (e.1, elv e.2.1 x.1 e.1, r)
    else if x.2.1 = -1 ∧ e.1 + 1 < eBnd D e ∧ cha D e.1 = 0 ∧ cha D (e.1 + 1) = 0 then .inr (e.1 + 2, elv e.2.1 x.1 e.1, r)
    else elm D lim e
def erun (D : List Int) (lim : Int) : Nat → Es3 → Ft ⊕ Es3
  | 0, e => .inr e
  | k + 1, e => if e.2.2 = [] then .inr e else match estep D lim e with | .inl f => .inl f | .inr e' => erun D lim k e'
/-- all elements: one, and nothing more -/
def eAllD (D : List Int) (lim : Int) : Ft ⊕ List (List Int) :=
  match elm D lim (0, [], []) with
  | .inl f => .inl f
  | .inr e => match erun D lim (3 * D.length + 3) e with
    | .inl f => .inl f
    | .inr e' => if e'.1 = D.length then .inr e'.2.1 else .inl (6, e'.1)
theorem tagN_le {D : List Int} {b : Int} : ∀ (k : Nat) (v : Int) (fst : Bool) (a : Int) {q : Int × Int}, 0 ≤ v → tagN D b k v fst a = .inr q → a < q.2 ∧ q.2 ≤ b ∧ 0 ≤ q.1 ∧ q.1 ≤ 268435455
  | 0, _, _, _, _, _, h => by unfold tagN at h; cases h
  | k + 1, v, fst, a, q, hv, h => by
    unfold tagN at h
    by_cases c1 : b ≤ a
    · rw [if_pos c1] at h; cases h
    rw [if_neg c1] at h
    by_cases c2 : (fst = true ∧ cha D a = 128) ∨ 2097151 < v
    · rw [if_pos c2] at h; cases h
    rw [if_neg c2] at h
    by_cases c3 : cha D a ≤ 127
    · rw [if_pos c3] at h; have := Sum.inr.inj h; subst this; simp only; omega
    · rw [if_neg c3] at h
      have := tagN_le k _ false (a + 1) (by omega) h
      omega
theorem lenN_le {D : List Int} {b : Int} (hD : ∀ i : Int, 0 ≤ i → i < D.length → 0 ≤ cha D i ∧ cha D i < 256) (hb : b ≤ D.length) : ∀ (k : Nat) (v a : Int) {q : Int × Int}, 0 ≤ a → 0 ≤ v → v ≤ 2147483647 → lenN D b k v a = .inr q → a ≤ q.2 ∧ (a ≤ b → q.2 ≤ b) ∧ 0 ≤ q.1 ∧ q.1 ≤ 2147483647
  | 0, v, a, q, _, hv, hv2, h => by unfold lenN at h; have := Sum.inr.inj h; subst this; simp only; omega
  | k + 1, v, a, q, a0, hv, hv2, h => by
    unfold lenN at h
    by_cases c1 : b ≤ a
    · rw [if_pos c1] at h; cases h
    rw [if_neg c1] at h
    by_cases c2 : 2147483647 < v * 256 + cha D a
    · rw [if_pos c2] at h; cases h
    rw [if_neg c2] at h
    have := hD a a0 (by omega)
    have := lenN_le hD hb k _ (a + 1) (by omega) (by omega) (by omega) h
    omega
/-- a head goes on, within its bound -/
theorem eHead_le {D : List Int} {b a : Int} (hD : ∀ i : Int, 0 ≤ i → i < D.length → 0 ≤ cha D i ∧ cha D i < 256) (hb : b ≤ D.length) (a0 : 0 ≤ a) (ab : a < b) {h : Int × Int × Int × Int} (e : eHead D b a = .inr h) : a + 2 ≤ h.2.2.2 ∧ h.2.2.2 ≤ b ∧ (h.2.2.1 = -1 ∨ (0 ≤ h.2.2.1 ∧ h.2.2.2 + h.2.2.1 ≤ b)) ∧ (h.2.1 = 0 ∨ h.2.1 = 1) ∧ (h.2.1 = 0 → h.2.2.1 ≠ -1) ∧ 0 ≤ h.1 ∧ h.1 < 1073741824 := by
  have ca := hD a a0 (by omega)
  unfold eHead at e
  by_cases c0 : cha D a = 0 ∨ cha D a = 32
  · rw [if_pos c0] at e; cases e
  rw [if_neg c0] at e
  generalize hn : eNum D b a = R at e
  cases R with
  | inl c => cases e
  | inr q =>
    simp only at e
    have hq : a < q.2 ∧ q.2 ≤ b ∧ 0 ≤ q.1 ∧ q.1 ≤ 268435455 := by
      unfold eNum at hn
      by_cases c1 : cha D a % 32 = 31
      · rw [if_pos c1] at hn
        generalize ht : tagN D b (D.length + 1) 0 true (a + 1) = R2 at hn
        cases R2 with
        | inl c => cases hn
        | inr r =>
          simp only at hn
          by_cases c2 : r.1 < 31
          · rw [if_pos c2] at hn; cases hn
          · rw [if_neg c2] at hn
            have e2 := Sum.inr.inj hn
            subst e2
            have := tagN_le (D.length + 1) 0 true (a + 1) (by decide) ht
            omega
      · rw [if_neg c1] at hn
        have := Sum.inr.inj hn; subst this; simp only; omega
    generalize hl : eLen D b (cha D a / 32 % 2) q.2 = R3 at e
    cases R3 with
    | inl c => cases e
    | inr r =>
      simp only at e
      by_cases c3 : r.1 ≠ -1 ∧ b - r.2 < r.1
      · rw [if_pos c3] at e; cases e
      rw [if_neg c3] at e
      have := Sum.inr.inj e
      subst this
      simp only
      unfold eLen at hl
      by_cases c4 : b ≤ q.2
      · rw [if_pos c4] at hl; cases hl
      rw [if_neg c4] at hl
      have cq := hD q.2 (by omega) (by omega)
      by_cases c5 : cha D q.2 < 128
      · rw [if_pos c5] at hl
        have := Sum.inr.inj hl; subst this; simp only at c3 ⊢; omega
      rw [if_neg c5] at hl
      by_cases c6 : cha D q.2 = 255 ∨ (cha D q.2 = 128 ∧ cha D a / 32 % 2 = 0)
      · rw [if_pos c6] at hl; cases hl
      rw [if_neg c6] at hl
      by_cases c7 : cha D q.2 = 128
      · rw [if_pos c7] at hl
        have := Sum.inr.inj hl; subst this; simp only
        refine ⟨by omega, by omega, Or.inl trivial, by omega, fun z => absurd (Or.inr ⟨c7, z⟩) c6, by omega, by omega⟩
      · rw [if_neg c7] at hl
        have := lenN_le hD hb _ 0 (q.2 + 1) (by omega) (by decide) (by decide) hl
        omega
