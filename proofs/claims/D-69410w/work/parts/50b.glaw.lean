set_option maxRecDepth 100000 set_option linter.unusedVariables false set_option linter.unusedSimpArgs false
/-! PURE 53: what the plain grammar leaves, when it tells no fault: rules -/
/-- tables before a component's type -/
def gcM (a t last : Int) (M : Mt) : Mt :=
  if last < 0 then upM (upM (apM (stN (adN M 22 a) (nN M) 5 0) 3 [a, -7, 0, -1, -1, nN M]) 0 t 8 (clM M 0 t 8 + 1)) 0 t 7 (lnM M 3) else upM (upM (apM (stN (adN M 22 a) (nN M) 5 0) 3 [a, -7, 0, -1, -1, nN M]) 0 t 8 (clM M 0 t 8 + 1)) 3 last 4 (lnM M 3)
def gcF (L : Lx) (X : List Int) (ty : Pg → Ft ⊕ Pg) (t tn lack : Int) (k : Nat) (M : Mt) (lastN : Int) (r : Pg) : Ft ⊕ Pg :=
  if kdL L r.1 = 21 then gComps L X ty t tn lack k (lnM M 3) (nN M) (r.1 + 1, chN r.2 tn 3 lastN (nN M)) else bE (tkE L X 16 r.1) fun a => .inr (a, chN r.2 tn 3 lastN (nN M))
def gcT (M q : Mt) : Mt := upM (stN q (nN M) 3 (nN M + 1)) 3 (lnM M 3) 1 (lnM M 0)
theorem gComps_eq (L : Lx) (X : List Int) (ty : Pg → Ft ⊕ Pg) (t tn lack : Int) (k : Nat) (last lastN a : Int) (M : Mt) : gComps L X ty t tn lack (k + 1) last lastN (a, M) =
  bE (tkE L X 0 a) fun a1 => bE (ty (a1, gcM a t last M)) fun q =>
    if lack ≠ 0 ∧ kdL L q.1 = 150 then gcF L X ty t tn lack k M lastN (q.1 + 1, upM (stN (gcT M q.2) (nN M) 5 1) 3 (lnM M 3) 2 1)
    else if lack ≠ 0 ∧ kdL L q.1 = 116 then
      bE (gValue L X (lnM M 0) (q.1 + 1, upM (stN (gcT M q.2) (nN M) 5 2) 3 (lnM M 3) 2 2)) fun r => gcF L X ty t tn lack k M lastN (r.1, upM (stN r.2 (nN M) 4 (nN (upM (stN (gcT M q.2) (nN M) 5 2) 3 (lnM M 3) 2 2))) 3 (lnM M 3) 3 (lnM (upM (stN (gcT M q.2) (nN M) 5 2) 3 (lnM M 3) 2 2) 6))
    else gcF L X ty t tn lack k M lastN (q.1, gcT M q.2) := rfl
def wE {α : Type} (m : Ft ⊕ α) (P : α → Prop) : Prop := match m with | .inl _ => True | .inr x => P x
theorem wp_t {α : Type} {Q : α → Prop} {x y : Option α} (h : wpo x Q) : wpo (if (0 : Int) = 0 then x else y) Q := by rw [if_pos rfl]; exact h
theorem wp_f {α : Type} {Q : α → Prop} {x y : Option α} (h : wpo y Q) : wpo (if (1 : Int) = 0 then x else y) Q := by rw [if_neg (by decide)]; exact h
theorem bE_l {α β : Type} (e : Ft) (k : α → Ft ⊕ β) : bE (.inl e) k = .inl e := rfl
theorem bE_r {α β : Type} (x : α) (k : α → Ft ⊕ β) : bE (.inr x) k = k x := rfl
theorem tkE_y {L : Lx} {X : List Int} {K a : Int} (h : kdL L a = K) : tkE L X K a = .inr (a + 1) := if_pos h
theorem tkE_n {L : Lx} {X : List Int} {K a : Int} (h : kdL L a ≠ K) : tkE L X K a = .inl (flt L X a) := if_neg h
theorem wE_inl {α : Type} {e : Ft} {P : α → Prop} : wE (.inl e) P := trivial
theorem wE_inr {α : Type} {x : α} {P : α → Prop} (h : P x) : wE (.inr x) P := h
theorem wE_bE {α β : Type} {m : Ft ⊕ α} {k : α → Ft ⊕ β} {P : β → Prop} (h : wE m fun x => wE (k x) P) : wE (bE m k) P := by
  cases m with
  | inl e => trivial
  | inr x => exact h
theorem wE_ite {α : Type} {c : Prop} [Decidable c] {a b : Ft ⊕ α} {P : α → Prop} (h1 : c → wE a P) (h2 : ¬c → wE b P) : wE (if c then a else b) P := by
  by_cases h : c
  · rw [if_pos h]; exact h1 h
  · rw [if_neg h]; exact h2 h
theorem wE_tk {L : Lx} {X : List Int} {K a : Int} {P : Int → Prop} (h : kdL L a = K → P (a + 1)) : wE (tkE L X K a) P := by
  unfold tkE
  by_cases c : kdL L a = K
  · rw [if_pos c]; exact h c
  · rw [if_neg c]; trivial
theorem wE.mono {α : Type} {m : Ft ⊕ α} {P Q : α → Prop} (h : wE m P) (k : ∀ x, P x → Q x) : wE m Q := by
  cases m with
  | inl e => trivial
  | inr x => exact k x h
theorem wE.of {α : Type} {m : Ft ⊕ α} {P : α → Prop} (h : wE m P) {x : α} (e : m = .inr x) : P x := by rw [e] at h; exact h
/-- tables of the assignments stay -/
def K89 (M M' : Mt) : Prop := M' 8 = M 8 ∧ M' 9 = M 9
theorem K89.rfl {M : Mt} : K89 M M := ⟨Eq.refl _, Eq.refl _⟩
theorem K89.trans {M M' M'' : Mt} (h : K89 M M') (k : K89 M' M'') : K89 M M'' := ⟨k.1.trans h.1, k.2.trans h.2⟩
theorem K89.ap {M M' : Mt} (h : K89 M M') {c : Nat} {r : List Int} (h8 : c ≠ 8) (h9 : c ≠ 9) : K89 M (apM M' c r) := by
  unfold K89 apM
  rw [if_neg (fun z => h8 z.symm), if_neg (fun z => h9 z.symm)]; exact h
theorem K89.up {M M' : Mt} (h : K89 M M') {c : Nat} {i v : Int} {j : Nat} (h8 : c ≠ 8) (h9 : c ≠ 9) : K89 M (upM M' c i j v) := by
  unfold K89 upM
  rw [if_neg (fun z => h8 z.symm), if_neg (fun z => h9 z.symm)]; exact h
theorem K89.st {M M' : Mt} (h : K89 M M') {i v : Int} {j : Nat} : K89 M (stN M' i j v) := h.up (by decide) (by decide)
theorem K89.ad {M M' : Mt} (h : K89 M M') {i v : Int} : K89 M (adN M' i v) := h.ap (by decide) (by decide)
theorem K89.ch {M M' : Mt} (h : K89 M M') {o l k : Int} {j : Nat} : K89 M (chN M' o j l k) := by
  unfold chN; split
  · exact h.st
  · exact h.st
theorem K89.ite {c : Prop} [Decidable c] {M M' M'' : Mt} (h : K89 M M') (k : K89 M M'') : K89 M (if c then M' else M'') := by split <;> assumption
theorem K89.adl {M M' : Mt} (h : K89 M M') {t b z n : Int} : K89 M (addL M' t b z n) := by
  unfold addL; simp only; split
  · exact (h.ap (by decide) (by decide)).up (by decide) (by decide)
  · exact (h.ap (by decide) (by decide)).up (by decide) (by decide)
section
variable {L : Lx} {X : List Int}
theorem k89_tag {t : Int} {p : Pg} : wE (gTag L X t p) (fun q => K89 p.2 q.2) := by
  unfold gTag
  (simp only; repeat' (first | exact trivial | refine wE_bE (wE_tk fun _ => ?_) | refine wE_ite (fun _ => ?_) (fun _ => ?_))); all_goals (show K89 _ _; repeat' (first | assumption | exact K89.rfl | refine K89.st ?_ | refine K89.ad ?_ | refine K89.ch ?_ | refine K89.adl ?_ | refine K89.ap ?_ (by decide) (by decide) | refine K89.up ?_ (by decide) (by decide) | refine K89.ite ?_ ?_))
theorem k89_tags {t tn : Int} : ∀ (k : Nat) (last : Int) (p : Pg), wE (gTags L X t tn k last p) (fun q => K89 p.2 q.2) := by
  intro k
  induction k with
  | zero => intro last p; exact K89.rfl
  | succ k ih =>
    intro last p
    unfold gTags
    refine wE_ite (fun _ => ?_) (fun _ => K89.rfl)
    refine wE_bE (k89_tag.mono fun q hq => (ih _ _).mono fun r hr => (hq.ch).trans hr)
theorem k89_item {t kind : Int} {p : Pg} : wE (gItem L X t kind p) (fun q => K89 p.2 q.2) := by
  unfold gItem
  (simp only; repeat' (first | exact trivial | refine wE_bE (wE_tk fun _ => ?_) | refine wE_ite (fun _ => ?_) (fun _ => ?_))); all_goals (show K89 _ _; repeat' (first | assumption | exact K89.rfl | refine K89.st ?_ | refine K89.ad ?_ | refine K89.ch ?_ | refine K89.adl ?_ | refine K89.ap ?_ (by decide) (by decide) | refine K89.up ?_ (by decide) (by decide) | refine K89.ite ?_ ?_))
theorem k89_items {t tn kind : Int} : ∀ (k : Nat) (last : Int) (p : Pg), wE (gItems L X t tn kind k last p) (fun q => K89 p.2 q.2) := by
  intro k
  induction k with
  | zero => intro last p; exact K89.rfl
  | succ k ih =>
    intro last p
    unfold gItems
    refine wE_bE (k89_item.mono fun q hq => ?_)
    refine wE_ite (fun _ => (ih _ _).mono fun r hr => (hq.ch).trans hr) (fun _ => wE_bE (wE_tk fun _ => (by show K89 _ _; repeat' (first | assumption | exact K89.rfl | refine K89.st ?_ | refine K89.ad ?_ | refine K89.ch ?_ | refine K89.adl ?_ | refine K89.ap ?_ (by decide) (by decide) | refine K89.up ?_ (by decide) (by decide) | refine K89.ite ?_ ?_))))
theorem k89_itemsOf {t tn kind : Int} {p : Pg} : wE (gItemsOf L X t tn kind p) (fun q => K89 p.2 q.2) := by
  unfold gItemsOf
  exact (k89_items _ _ _).mono fun q hq => (K89.rfl.up (by decide) (by decide)).trans hq
theorem k89_bound {p : Pg} : wE (gBound L X p) (fun q => K89 p.2 q.2.2.2) := by
  unfold gBound
  (simp only; repeat' (first | exact trivial | refine wE_bE (wE_tk fun _ => ?_) | refine wE_ite (fun _ => ?_) (fun _ => ?_))); all_goals (show K89 _ _; repeat' (first | assumption | exact K89.rfl | refine K89.st ?_ | refine K89.ad ?_ | refine K89.ch ?_ | refine K89.adl ?_ | refine K89.ap ?_ (by decide) (by decide) | refine K89.up ?_ (by decide) (by decide) | refine K89.ite ?_ ?_))
theorem k89_range {l lnd last : Int} {p : Pg} : wE (gRange L X l lnd last p) (fun q => K89 p.2 q.2) := by
  unfold gRange
  refine wE_bE (k89_bound.mono fun q hq => ?_)
  have hq := (K89.rfl.ad.ch).trans hq
  refine wE_ite (fun _ => ?_) (fun _ => (by show K89 _ _; repeat' (first | assumption | exact K89.rfl | refine K89.st ?_ | refine K89.ad ?_ | refine K89.ch ?_ | refine K89.adl ?_ | refine K89.ap ?_ (by decide) (by decide) | refine K89.up ?_ (by decide) (by decide) | refine K89.ite ?_ ?_)))
  refine wE_bE (k89_bound.mono fun r hr => ?_)
  have hr := hq.st.trans hr
  exact (by show K89 _ _; repeat' (first | assumption | exact K89.rfl | refine K89.st ?_ | refine K89.ad ?_ | refine K89.ch ?_ | refine K89.adl ?_ | refine K89.ap ?_ (by decide) (by decide) | refine K89.up ?_ (by decide) (by decide) | refine K89.ite ?_ ?_))
theorem k89_ranges {l lnd : Int} : ∀ (k : Nat) (last : Int) (p : Pg), wE (gRanges L X l lnd k last p) (fun q => K89 p.2 q.2) := by
  intro k
  induction k with
  | zero => intro last p; exact K89.rfl
  | succ k ih =>
    intro last p
    unfold gRanges
    refine wE_bE (k89_range.mono fun q hq => ?_)
    refine wE_ite (fun _ => (ih _ _).mono fun r hr => hq.trans hr) (fun _ => hq)
theorem k89_sizes {t b node : Int} {p : Pg} : wE (gSizes L X t b node p) (fun q => K89 p.2 q.2) := by
  unfold gSizes
  refine wE_bE (wE_tk fun _ => wE_bE ((k89_ranges _ _ _).mono fun q hq => wE_bE (wE_tk fun _ => (by show K89 _ _; refine K89.trans ?_ (by assumption); simp only; repeat' (first | assumption | exact K89.rfl | refine K89.st ?_ | refine K89.ad ?_ | refine K89.ch ?_ | refine K89.adl ?_ | refine K89.ap ?_ (by decide) (by decide) | refine K89.up ?_ (by decide) (by decide) | refine K89.ite ?_ ?_)))))
theorem k89_limit {t : Int} {p : Pg} : wE (gLimit L X t p) (fun q => K89 p.2 q.2) := by
  unfold gLimit
  refine wE_ite (fun _ => wE_bE (k89_sizes.mono fun q hq => wE_bE (wE_tk fun _ => (by show K89 _ _; refine K89.trans ?_ (by assumption); simp only; repeat' (first | assumption | exact K89.rfl | refine K89.st ?_ | refine K89.ad ?_ | refine K89.ch ?_ | refine K89.adl ?_ | refine K89.ap ?_ (by decide) (by decide) | refine K89.up ?_ (by decide) (by decide) | refine K89.ite ?_ ?_))))) (fun _ => wE_bE ((k89_ranges _ _ _).mono fun q hq => wE_bE (wE_tk fun _ => (by show K89 _ _; refine K89.trans ?_ (by assumption); simp only; repeat' (first | assumption | exact K89.rfl | refine K89.st ?_ | refine K89.ad ?_ | refine K89.ch ?_ | refine K89.adl ?_ | refine K89.ap ?_ (by decide) (by decide) | refine K89.up ?_ (by decide) (by decide) | refine K89.ite ?_ ?_)))))
theorem k89_limits {t tn : Int} : ∀ (k : Nat) (last : Int) (p : Pg), wE (gLimits L X t tn k last p) (fun q => K89 p.2 q.2) := by
  intro k
  induction k with
  | zero => intro last p; exact K89.rfl
  | succ k ih =>
    intro last p
    unfold gLimits
    refine wE_ite (fun _ => ?_) (fun _ => K89.rfl)
    refine wE_bE (k89_limit.mono fun q hq => (ih _ _).mono fun r hr => (hq.ch).trans hr)
theorem k89_part {vn last : Int} {p : Pg} : wE (gPart L X vn last p) (fun q => K89 p.2 q.2) := by
  unfold gPart
  (simp only; repeat' (first | exact trivial | refine wE_bE (wE_tk fun _ => ?_) | refine wE_ite (fun _ => ?_) (fun _ => ?_))); all_goals (show K89 _ _; repeat' (first | assumption | exact K89.rfl | refine K89.st ?_ | refine K89.ad ?_ | refine K89.ch ?_ | refine K89.adl ?_ | refine K89.ap ?_ (by decide) (by decide) | refine K89.up ?_ (by decide) (by decide) | refine K89.ite ?_ ?_))
theorem k89_parts {vn : Int} : ∀ (k : Nat) (last : Int) (p : Pg), wE (gParts L X vn k last p) (fun q => K89 p.2 q.2) := by
  intro k
  induction k with
  | zero => intro last p; exact K89.rfl
  | succ k ih =>
    intro last p
    unfold gParts
    refine wE_ite (fun _ => ?_) (fun _ => K89.rfl)
    refine wE_bE (k89_part.mono fun q hq => ?_)
    refine wE_ite (fun _ => wE_ite (fun _ => (ih _ _).mono fun r hr => hq.trans hr) (fun _ => trivial)) (fun _ => (ih _ _).mono fun r hr => hq.trans hr)
theorem k89_value {t : Int} {p : Pg} : wE (gValue L X t p) (fun q => K89 p.2 q.2) := by
  unfold gValue
  refine wE_ite (fun _ => wE_bE (wE_tk fun _ => ?_)) (fun _ => wE_ite (fun _ => wE_bE ((k89_parts _ _ _).mono fun q hq => wE_bE (wE_tk fun _ => ?_))) (fun _ => ?_))
  · exact (by show K89 _ _; repeat' (first | assumption | exact K89.rfl | refine K89.st ?_ | refine K89.ad ?_ | refine K89.ch ?_ | refine K89.adl ?_ | refine K89.ap ?_ (by decide) (by decide) | refine K89.up ?_ (by decide) (by decide) | refine K89.ite ?_ ?_))
  · exact (by show K89 _ _; refine K89.ap (K89.trans ?_ hq) (by decide) (by decide); simp only; repeat' (first | assumption | exact K89.rfl | refine K89.st ?_ | refine K89.ad ?_ | refine K89.ch ?_ | refine K89.adl ?_ | refine K89.ap ?_ (by decide) (by decide) | refine K89.up ?_ (by decide) (by decide) | refine K89.ite ?_ ?_))
  · exact (by show K89 _ _; repeat' (first | assumption | exact K89.rfl | refine K89.st ?_ | refine K89.ad ?_ | refine K89.ch ?_ | refine K89.adl ?_ | refine K89.ap ?_ (by decide) (by decide) | refine K89.up ?_ (by decide) (by decide) | refine K89.ite ?_ ?_))
theorem k89_comps {ty : Pg → Ft ⊕ Pg} (hT : ∀ p, wE (ty p) (fun q => K89 p.2 q.2)) {t tn lack : Int} : ∀ (k : Nat) (last lastN : Int) (p : Pg), wE (gComps L X ty t tn lack k last lastN p) (fun q => K89 p.2 q.2) := by
  intro k
  induction k with
  | zero => intro last lastN p; exact K89.rfl
  | succ k ih =>
    intro last lastN p
    unfold gComps
    refine wE_bE (wE_tk fun _ => wE_bE ((hT _).mono fun q hq => ?_))
    have h1 := K89.trans (M := p.2) (by simp only; repeat' (first | assumption | exact K89.rfl | refine K89.st ?_ | refine K89.ad ?_ | refine K89.ch ?_ | refine K89.adl ?_ | refine K89.ap ?_ (by decide) (by decide) | refine K89.up ?_ (by decide) (by decide) | refine K89.ite ?_ ?_)) hq
    have F : ∀ r : Pg, K89 p.2 r.2 → wE (if kdL L r.1 = 21 then gComps L X ty t tn lack k (lnM p.2 3) (nN p.2) (r.1 + 1, chN r.2 tn 3 lastN (nN p.2)) else bE (tkE L X 16 r.1) fun a => .inr (a, chN r.2 tn 3 lastN (nN p.2))) (fun q => K89 p.2 q.2) := fun r hr => wE_ite (fun _ => (ih _ _ _).mono fun r' hr' => hr.ch.trans hr') (fun _ => wE_bE (wE_tk fun _ => (by show K89 _ _; repeat' (first | assumption | exact K89.rfl | refine K89.st ?_ | refine K89.ad ?_ | refine K89.ch ?_ | refine K89.adl ?_ | refine K89.ap ?_ (by decide) (by decide) | refine K89.up ?_ (by decide) (by decide) | refine K89.ite ?_ ?_))))
    refine wE_ite (fun _ => F _ ?_) (fun _ => wE_ite (fun _ => wE_bE (k89_value.mono fun r hr => F _ ?_)) (fun _ => F _ ?_))
    · exact ((h1.st.up (by decide) (by decide)).st).up (by decide) (by decide)
    · exact (K89.trans (((h1.st.up (by decide) (by decide)).st).up (by decide) (by decide)) hr).st.up (by decide) (by decide)
    · exact h1.st.up (by decide) (by decide)
theorem k89_many {ty : Pg → Ft ⊕ Pg} (hT : ∀ p, wE (ty p) (fun q => K89 p.2 q.2)) {t tn kind lk : Int} {p : Pg} : wE (gMany L X ty t tn kind lk p) (fun q => K89 p.2 q.2) := by
  unfold gMany
  refine wE_ite (fun _ => wE_ite (fun _ => ?_) (fun _ => (k89_comps hT _ _ _ _).mono fun q hq => ?_)) (fun _ => ?_)
  · show K89 _ _; repeat' (first | assumption | exact K89.rfl | refine K89.st ?_ | refine K89.ad ?_ | refine K89.ch ?_ | refine K89.adl ?_ | refine K89.ap ?_ (by decide) (by decide) | refine K89.up ?_ (by decide) (by decide) | refine K89.ite ?_ ?_)
  · exact K89.trans (by simp only; repeat' (first | assumption | exact K89.rfl | refine K89.st ?_ | refine K89.ad ?_ | refine K89.ch ?_ | refine K89.adl ?_ | refine K89.ap ?_ (by decide) (by decide) | refine K89.up ?_ (by decide) (by decide) | refine K89.ite ?_ ?_)) hq
  · refine wE_bE (wE.mono (P := fun q => K89 p.2 q.2) ?_ fun q hq => wE_bE (wE_tk fun _ => wE_bE ((hT _).mono fun r hr => ?_)))
    · refine wE_ite (fun _ => k89_sizes.mono fun q hq => ?_) (fun _ => wE_ite (fun _ => wE_ite (fun _ => wE_bE (k89_sizes.mono fun q hq => wE_bE (wE_tk fun _ => ?_))) (fun _ => trivial)) (fun _ => ?_))
      · exact K89.trans (by simp only; repeat' (first | assumption | exact K89.rfl | refine K89.st ?_ | refine K89.ad ?_ | refine K89.ch ?_ | refine K89.adl ?_ | refine K89.ap ?_ (by decide) (by decide) | refine K89.up ?_ (by decide) (by decide) | refine K89.ite ?_ ?_)) hq
      · exact K89.trans (by simp only; repeat' (first | assumption | exact K89.rfl | refine K89.st ?_ | refine K89.ad ?_ | refine K89.ch ?_ | refine K89.adl ?_ | refine K89.ap ?_ (by decide) (by decide) | refine K89.up ?_ (by decide) (by decide) | refine K89.ite ?_ ?_)) hq
      · show K89 _ _; repeat' (first | assumption | exact K89.rfl | refine K89.st ?_ | refine K89.ad ?_ | refine K89.ch ?_ | refine K89.adl ?_ | refine K89.ap ?_ (by decide) (by decide) | refine K89.up ?_ (by decide) (by decide) | refine K89.ite ?_ ?_)
    · show K89 _ _; refine K89.up (K89.st (K89.trans ?_ hr)) (by decide) (by decide); exact hq.up (by decide) (by decide)
theorem k89_base {ty : Pg → Ft ⊕ Pg} (hT : ∀ p, wE (ty p) (fun q => K89 p.2 q.2)) {t tn : Int} {p : Pg} : wE (gBase L X ty t tn p) (fun q => K89 p.2 q.2) := by
  unfold gBase
  simp only
  repeat' (first | with_reducible refine wE_ite (fun _ => ?_) (fun _ => ?_) | with_reducible exact wE_inl | with_reducible refine wE_bE (wE_tk fun _ => ?_))
  all_goals first | (show K89 _ _; repeat' (first | assumption | exact K89.rfl | refine K89.st ?_ | refine K89.ad ?_ | refine K89.ch ?_ | refine K89.adl ?_ | refine K89.ap ?_ (by decide) (by decide) | refine K89.up ?_ (by decide) (by decide) | refine K89.ite ?_ ?_)) | (refine k89_itemsOf.mono fun q hq => K89.trans ?_ hq; simp only; repeat' (first | assumption | exact K89.rfl | refine K89.st ?_ | refine K89.ad ?_ | refine K89.ch ?_ | refine K89.adl ?_ | refine K89.ap ?_ (by decide) (by decide) | refine K89.up ?_ (by decide) (by decide) | refine K89.ite ?_ ?_)) | (refine (k89_comps hT _ _ _ _).mono fun q hq => K89.trans ?_ hq; simp only; repeat' (first | assumption | exact K89.rfl | refine K89.st ?_ | refine K89.ad ?_ | refine K89.ch ?_ | refine K89.adl ?_ | refine K89.ap ?_ (by decide) (by decide) | refine K89.up ?_ (by decide) (by decide) | refine K89.ite ?_ ?_)) | exact k89_many hT
theorem k89_type : ∀ (d : Nat) (p : Pg), wE (gType L X d p) (fun q => K89 p.2 q.2) := by
  intro d
  induction d with
  | zero => intro p; exact trivial
  | succ d ih =>
    intro p
    unfold gType
    refine wE_bE ((k89_tags _ _ _).mono fun q hq => wE_bE ((k89_base ih).mono fun r hr => (k89_limits _ _ _).mono fun w hw => ?_))
    exact K89.trans (K89.trans (K89.trans (by simp only; repeat' (first | assumption | exact K89.rfl | refine K89.st ?_ | refine K89.ad ?_ | refine K89.ch ?_ | refine K89.adl ?_ | refine K89.ap ?_ (by decide) (by decide) | refine K89.up ?_ (by decide) (by decide) | refine K89.ite ?_ ?_)) hq) hr) hw
end
