set_option maxRecDepth 100000 set_option linter.unusedVariables false set_option linter.unusedSimpArgs false
/-! PURE 50d: which rows of types and components the plain grammar leaves alone -/
theorem clM_upn {M : Mt} {c : Nat} {i : Int} {j : Nat} {v : Int} {d : Nat} {k : Int} {l : Nat} (k0 : 0 ≤ k) (h : ¬(d = c ∧ k = (i.toNat : Int) ∧ l = j)) : clM (upM M c i j v) d k l = clM M d k l := by
  unfold clM upM
  by_cases e : d = c
  · subst e
    simp only [if_true, List.getD_eq_getElem?_getD, List.getElem?_modify]
    cases hq : (M d)[k.toNat]? with
    | none => simp
    | some r =>
      by_cases e2 : i.toNat = k.toNat
      · have e3 : j ≠ l := fun z => h ⟨rfl, by omega, z.symm⟩
        simp [e2, List.getElem?_set, e3]
      · simp [e2]
  · rw [if_neg e]
theorem clM_apn {M : Mt} {c : Nat} {r : List Int} {d : Nat} {k : Int} (k0 : 0 ≤ k) (hk : k < lnM M d) {l : Nat} : clM (apM M c r) d k l = clM M d k l := by
  unfold clM apM
  unfold lnM at hk
  by_cases e : d = c
  · subst e
    simp only [if_true, List.getD_eq_getElem?_getD]
    rw [List.getElem?_append_left (by omega)]
  · rw [if_neg e]
/-- tables of types and components change in E alone, as far as they were there -/
def FX (E : Nat → Int → Nat → Prop) (M M' : Mt) : Prop := (lnM M 0 ≤ lnM M' 0 ∧ lnM M 3 ≤ lnM M' 3) ∧ ∀ (c : Nat) (k : Int) (j : Nat), (c = 0 ∨ c = 3) → 0 ≤ k → k < lnM M c → ¬E c k j → clM M' c k j = clM M c k j
section
variable {E E' : Nat → Int → Nat → Prop} {M M' M'' : Mt}
theorem FX.rfl : FX E M M := ⟨⟨Int.le_refl _, Int.le_refl _⟩, fun _ _ _ _ _ _ _ => Eq.refl _⟩
theorem FX.trans (h : FX E M M') (k : FX E' M' M'') (hE : ∀ c i j, 0 ≤ i → i < lnM M c → E' c i j → E c i j) : FX E M M'' := by
  refine ⟨⟨Int.le_trans h.1.1 k.1.1, Int.le_trans h.1.2 k.1.2⟩, fun c i j hc i0 i1 ne => ?_⟩
  have i2 : i < lnM M' c := by
    rcases hc with rfl | rfl
    · have := h.1.1; omega
    · have := h.1.2; omega
  rw [k.2 c i j hc i0 i2 (fun z => ne (hE c i j i0 i1 z)), h.2 c i j hc i0 i1 ne]
theorem FX.mono (h : FX E M M') (hE : ∀ c i j, 0 ≤ i → i < lnM M c → E c i j → E' c i j) : FX E' M M' := (FX.rfl (E := E') (M := M)).trans h hE
theorem FX.ap (h : FX E M M') {c : Nat} {r : List Int} : FX E M (apM M' c r) := by
  refine h.trans (E' := fun _ _ _ => False) ⟨?_, fun d i j hd i0 i1 _ => clM_apn i0 i1⟩ (fun _ _ _ _ _ z => z.elim)
  simp only [lnM_ap]
  refine ⟨?_, ?_⟩ <;> split <;> first | (rename_i z; rw [← z]; omega) | omega
theorem FX.up (h : FX E M M') {c : Nat} {i v : Int} {j : Nat} (hE : (c = 0 ∨ c = 3) → 0 ≤ i → i < lnM M c → E c i j) (i0 : (c = 0 ∨ c = 3) → 0 ≤ i) : FX E M (upM M' c i j v) := by
  refine h.trans (E' := fun d k l => d = c ∧ k = i ∧ l = j ∧ (c = 0 ∨ c = 3)) ⟨by simp only [lnM_up]; omega, fun d k l hd k0 k1 ne => ?_⟩ (fun d k l k0 k1 z => by rw [z.1, z.2.1, z.2.2.1]; rw [z.1] at k1; rw [z.2.1] at k0 k1; exact hE z.2.2.2 k0 k1)
  exact clM_upn k0 (fun z => by
    have hc : c = 0 ∨ c = 3 := by rw [← z.1]; exact hd
    exact ne ⟨z.1, by have := i0 hc; omega, z.2.2, hc⟩)
theorem FX.st (h : FX E M M') {k v : Int} {j : Nat} : FX E M (stN M' k j v) := h.up (fun z => absurd z (by decide)) (fun z => absurd z (by decide))
theorem FX.ad (h : FX E M M') {k v : Int} : FX E M (adN M' k v) := h.ap
theorem FX.ch (h : FX E M M') {o l k : Int} {j : Nat} : FX E M (chN M' o j l k) := by unfold chN; split <;> exact h.st
theorem FX.ite (h : FX E M M') (k : FX E M M'') {c : Prop} [Decidable c] : FX E M (if c then M' else M'') := by split <;> assumption
theorem FX.adl (h : FX E M M') {t b z n : Int} (hE : E 0 t 10) (t0 : 0 ≤ t) : FX E M (addL M' t b z n) := by
  unfold addL
  simp only
  split
  · exact h.ap.up (fun _ _ _ => hE) (fun _ => t0)
  · exact h.ap.up (fun z => absurd z (by decide)) (fun z => absurd z (by decide))
end
/-- one cell of a type -/
def E0 (t : Int) (js : List Nat) : Nat → Int → Nat → Prop := fun c k j => c = 0 ∧ k = t ∧ j ∈ js
def EN : Nat → Int → Nat → Prop := fun _ _ _ => False
section
variable {L : Lx} {X : List Int} {t tn last : Int}
theorem fx_tag {p : Pg} (t0 : 0 ≤ t) : wE (gTag L X t p) (fun q => FX (E0 t [3]) p.2 q.2) := by
  unfold gTag
  simp only
  ((repeat' (first | with_reducible exact wE_inl | with_reducible refine wE_bE (wE_tk fun _ => ?_) | with_reducible refine wE_ite (fun _ => ?_) (fun _ => ?_))); all_goals (show FX _ _ _; (repeat' (first | assumption | exact FX.rfl | refine FX.st ?_ | refine FX.ad ?_ | refine FX.ch ?_ | refine FX.ap ?_ | refine FX.ite ?_ ?_ | refine FX.up ?_ (fun _ _ _ => ⟨rfl, rfl, by simp⟩) (fun _ => by assumption) | refine FX.up ?_ (fun z => absurd z (by decide)) (fun z => absurd z (by decide))))))
theorem fx_tags (t0 : 0 ≤ t) : ∀ (k : Nat) (last : Int) (p : Pg), wE (gTags L X t tn k last p) (fun q => FX (E0 t [3]) p.2 q.2) := by
  intro k
  induction k with
  | zero => intro last p; exact FX.rfl
  | succ k ih =>
    intro last p
    unfold gTags
    refine wE_ite (fun _ => ?_) (fun _ => FX.rfl)
    exact wE_bE ((fx_tag t0).mono fun q hq => (ih _ _).mono fun r hr => hq.ch.trans hr (fun _ _ _ _ _ z => z))
theorem fx_item {kind : Int} {p : Pg} (t0 : 0 ≤ t) : wE (gItem L X t kind p) (fun q => FX (E0 t [5, 6]) p.2 q.2) := by
  unfold gItem
  simp only
  ((repeat' (first | with_reducible exact wE_inl | with_reducible refine wE_bE (wE_tk fun _ => ?_) | with_reducible refine wE_ite (fun _ => ?_) (fun _ => ?_))); all_goals (show FX _ _ _; (repeat' (first | assumption | exact FX.rfl | refine FX.st ?_ | refine FX.ad ?_ | refine FX.ch ?_ | refine FX.ap ?_ | refine FX.ite ?_ ?_ | refine FX.up ?_ (fun _ _ _ => ⟨rfl, rfl, by simp⟩) (fun _ => by assumption) | refine FX.up ?_ (fun z => absurd z (by decide)) (fun z => absurd z (by decide))))))
theorem fx_items {kind : Int} (t0 : 0 ≤ t) : ∀ (k : Nat) (last : Int) (p : Pg), wE (gItems L X t tn kind k last p) (fun q => FX (E0 t [5, 6]) p.2 q.2) := by
  intro k
  induction k with
  | zero => intro last p; exact FX.rfl
  | succ k ih =>
    intro last p
    unfold gItems
    refine wE_bE ((fx_item t0).mono fun q hq => ?_)
    exact wE_ite (fun _ => (ih _ _).mono fun r hr => hq.ch.trans hr (fun _ _ _ _ _ z => z)) (fun _ => wE_bE (wE_tk fun _ => hq.ch))
theorem fx_itemsOf {kind : Int} {p : Pg} (t0 : 0 ≤ t) : wE (gItemsOf L X t tn kind p) (fun q => FX (E0 t [5, 6]) p.2 q.2) := by
  unfold gItemsOf
  exact (fx_items t0 _ _ _).mono fun q hq => FX.trans (FX.rfl.up (fun _ _ _ => ⟨rfl, rfl, by simp⟩) (fun _ => t0)) hq (fun _ _ _ _ _ z => z)
theorem fx_bound {p : Pg} : wE (gBound L X p) (fun q => FX EN p.2 q.2.2.2) := by
  unfold gBound
  simp only
  ((repeat' (first | with_reducible exact wE_inl | with_reducible refine wE_bE (wE_tk fun _ => ?_) | with_reducible refine wE_ite (fun _ => ?_) (fun _ => ?_))); all_goals (show FX _ _ _; (repeat' (first | assumption | exact FX.rfl | refine FX.st ?_ | refine FX.ad ?_ | refine FX.ch ?_ | refine FX.ap ?_ | refine FX.ite ?_ ?_ | refine FX.up ?_ (fun _ _ _ => ⟨rfl, rfl, by simp⟩) (fun _ => by assumption) | refine FX.up ?_ (fun z => absurd z (by decide)) (fun z => absurd z (by decide))))))
theorem fx_range {l lnd last : Int} {p : Pg} : wE (gRange L X l lnd last p) (fun q => FX EN p.2 q.2) := by
  unfold gRange
  simp only
  refine wE_bE (fx_bound.mono fun q hq => ?_)
  have hq : FX EN p.2 q.2.2.2 := FX.trans (FX.rfl.ad.ch) hq (fun _ _ _ _ _ z => z)
  refine wE_ite (fun _ => ?_) (fun _ => ?_)
  · refine wE_bE (fx_bound.mono fun r hr => ?_)
    have hr : FX EN p.2 r.2.2.2 := FX.trans hq.st hr (fun _ _ _ _ _ z => z)
    exact hr.st.ap.up (fun z => absurd z (by decide)) (fun z => absurd z (by decide))
  · exact hq.st.ap.up (fun z => absurd z (by decide)) (fun z => absurd z (by decide))
theorem fx_ranges {l lnd : Int} : ∀ (k : Nat) (last : Int) (p : Pg), wE (gRanges L X l lnd k last p) (fun q => FX EN p.2 q.2) := by
  intro k
  induction k with
  | zero => intro last p; exact FX.rfl
  | succ k ih =>
    intro last p
    unfold gRanges
    refine wE_bE (fx_range.mono fun q hq => ?_)
    exact wE_ite (fun _ => (ih _ _).mono fun r hr => hq.trans hr (fun _ _ _ _ _ z => z)) (fun _ => hq)
theorem fx_sizes {b node : Int} {p : Pg} (t0 : 0 ≤ t) : wE (gSizes L X t b node p) (fun q => FX (E0 t [10]) p.2 q.2) := by
  unfold gSizes
  refine wE_bE (wE_tk fun _ => wE_bE ((fx_ranges _ _ _).mono fun q hq => wE_bE (wE_tk fun _ => ?_)))
  exact FX.trans ((FX.rfl.adl ⟨rfl, rfl, by simp⟩ t0).st) hq (fun _ _ _ _ _ z => z.elim)
theorem fx_limit {p : Pg} (t0 : 0 ≤ t) : wE (gLimit L X t p) (fun q => FX (E0 t [10]) p.2 q.2) := by
  unfold gLimit
  simp only
  refine wE_ite (fun _ => wE_bE ((fx_sizes t0).mono fun q hq => wE_bE (wE_tk fun _ => ?_))) (fun _ => wE_bE ((fx_ranges _ _ _).mono fun q hq => wE_bE (wE_tk fun _ => ?_)))
  · exact FX.trans (FX.rfl.ad) hq (fun _ _ _ _ _ z => z)
  · exact FX.trans ((FX.rfl.ad.adl ⟨rfl, rfl, by simp⟩ t0).st) hq (fun _ _ _ _ _ z => z.elim)
theorem fx_limits (t0 : 0 ≤ t) : ∀ (k : Nat) (last : Int) (p : Pg), wE (gLimits L X t tn k last p) (fun q => FX (E0 t [10]) p.2 q.2) := by
  intro k
  induction k with
  | zero => intro last p; exact FX.rfl
  | succ k ih =>
    intro last p
    unfold gLimits
    refine wE_ite (fun _ => ?_) (fun _ => FX.rfl)
    exact wE_bE ((fx_limit t0).mono fun q hq => (ih _ _).mono fun r hr => hq.ch.trans hr (fun _ _ _ _ _ z => z))
theorem fx_part {vn last : Int} {p : Pg} : wE (gPart L X vn last p) (fun q => FX EN p.2 q.2) := by
  unfold gPart
  simp only
  ((repeat' (first | with_reducible exact wE_inl | with_reducible refine wE_bE (wE_tk fun _ => ?_) | with_reducible refine wE_ite (fun _ => ?_) (fun _ => ?_))); all_goals (show FX _ _ _; (repeat' (first | assumption | exact FX.rfl | refine FX.st ?_ | refine FX.ad ?_ | refine FX.ch ?_ | refine FX.ap ?_ | refine FX.ite ?_ ?_ | refine FX.up ?_ (fun _ _ _ => ⟨rfl, rfl, by simp⟩) (fun _ => by assumption) | refine FX.up ?_ (fun z => absurd z (by decide)) (fun z => absurd z (by decide))))))
theorem fx_parts {vn : Int} : ∀ (k : Nat) (last : Int) (p : Pg), wE (gParts L X vn k last p) (fun q => FX EN p.2 q.2) := by
  intro k
  induction k with
  | zero => intro last p; exact FX.rfl
  | succ k ih =>
    intro last p
    unfold gParts
    refine wE_ite (fun _ => ?_) (fun _ => FX.rfl)
    refine wE_bE (fx_part.mono fun q hq => ?_)
    exact wE_ite (fun _ => wE_ite (fun _ => (ih _ _).mono fun r hr => hq.trans hr (fun _ _ _ _ _ z => z)) (fun _ => trivial)) (fun _ => (ih _ _).mono fun r hr => hq.trans hr (fun _ _ _ _ _ z => z))
theorem fx_value {p : Pg} : wE (gValue L X t p) (fun q => FX EN p.2 q.2) := by
  unfold gValue
  simp only
  refine wE_ite (fun _ => wE_bE (wE_tk fun _ => ?_)) (fun _ => wE_ite (fun _ => wE_bE ((fx_parts _ _ _).mono fun q hq => wE_bE (wE_tk fun _ => ?_))) (fun _ => ?_))
  · show FX _ _ _; (repeat' (first | assumption | exact FX.rfl | refine FX.st ?_ | refine FX.ad ?_ | refine FX.ch ?_ | refine FX.ap ?_ | refine FX.ite ?_ ?_ | refine FX.up ?_ (fun _ _ _ => ⟨rfl, rfl, by simp⟩) (fun _ => by assumption) | refine FX.up ?_ (fun z => absurd z (by decide)) (fun z => absurd z (by decide))))
  · exact (FX.trans (FX.rfl.ad.st) hq (fun _ _ _ _ _ z => z)).ap
  · show FX _ _ _; (repeat' (first | assumption | exact FX.rfl | refine FX.st ?_ | refine FX.ad ?_ | refine FX.ch ?_ | refine FX.ap ?_ | refine FX.ite ?_ ?_ | refine FX.up ?_ (fun _ _ _ => ⟨rfl, rfl, by simp⟩) (fun _ => by assumption) | refine FX.up ?_ (fun z => absurd z (by decide)) (fun z => absurd z (by decide))))
def EC (t last : Int) : Nat → Int → Nat → Prop := fun c k j => (c = 0 ∧ k = t ∧ (j = 7 ∨ j = 8)) ∨ (c = 3 ∧ k = last ∧ j = 4)
theorem fx_gcM {a last : Int} {M : Mt} (t0 : 0 ≤ t) : FX (EC t last) M (gcM a t last M) := by
  unfold gcM
  have h : FX (EC t last) M (upM (apM (stN (adN M 22 a) (nN M) 5 0) 3 [a, -7, 0, -1, -1, nN M]) 0 t 8 (clM M 0 t 8 + 1)) := FX.up (FX.rfl.ad.st.ap) (fun _ _ _ => Or.inl ⟨rfl, rfl, Or.inr rfl⟩) (fun _ => t0)
  by_cases c : last < 0
  · rw [if_pos c]; exact h.up (fun _ _ _ => Or.inl ⟨rfl, rfl, Or.inl rfl⟩) (fun _ => t0)
  · rw [if_neg c]; exact h.up (fun _ _ _ => Or.inr ⟨rfl, rfl, rfl⟩) (fun _ => by omega)
theorem fx_gcT {M q : Mt} (h : FX (EC t last) M q) : FX (EC t last) M (gcT M q) := by
  unfold gcT
  exact h.st.up (fun _ _ z => absurd z (Int.lt_irrefl _)) (fun _ => by unfold lnM; omega)
theorem fx_comps {ty : Pg → Ft ⊕ Pg} (hT : ∀ p, wE (ty p) (fun q => FX EN p.2 q.2)) {lack : Int} (t0 : 0 ≤ t) : ∀ (k : Nat) (last lastN : Int) (p : Pg), wE (gComps L X ty t tn lack k last lastN p) (fun q => FX (EC t last) p.2 q.2) := by
  intro k
  induction k with
  | zero => intro last lastN p; exact FX.rfl
  | succ k ih =>
    intro last lastN p
    obtain ⟨pa, pM⟩ := p
    rw [gComps_eq]
    refine wE_bE (wE_tk fun _ => wE_bE ((hT _).mono fun q hq => ?_))
    have h1 : FX (EC t last) pM (gcT pM q.2) := fx_gcT ((fx_gcM t0).trans hq (fun _ _ _ _ _ z => z.elim))
    have F : ∀ r : Pg, FX (EC t last) pM r.2 → wE (gcF L X ty t tn lack k pM lastN r) (fun q => FX (EC t last) pM q.2) := by
      intro r hr
      unfold gcF
      refine wE_ite (fun _ => (ih _ _ _).mono fun w hw => hr.ch.trans hw (fun c i j i0 i1 z => ?_)) (fun _ => wE_bE (wE_tk fun _ => hr.ch))
      rcases z with z | z
      · exact Or.inl z
      · exfalso; rw [z.1, z.2.1] at i1; exact Int.lt_irrefl _ i1
    refine wE_ite (fun _ => F _ ?_) (fun _ => wE_ite (fun _ => wE_bE (fx_value.mono fun r hr => F _ ?_)) (fun _ => F _ h1))
    · exact h1.st.up (fun _ _ z => absurd z (Int.lt_irrefl _)) (fun _ => by unfold lnM; omega)
    · have h2 : FX (EC t last) pM (upM (stN (gcT pM q.2) (nN pM) 5 2) 3 (lnM pM 3) 2 2) := h1.st.up (fun _ _ z => absurd z (Int.lt_irrefl _)) (fun _ => by unfold lnM; omega)
      exact (h2.trans hr (fun _ _ _ _ _ z => z.elim)).st.up (fun _ _ z => absurd z (Int.lt_irrefl _)) (fun _ => by unfold lnM; omega)
/-- one type -/
def ET (t : Int) : Nat → Int → Nat → Prop := fun c k _ => c = 0 ∧ k = t
theorem fx_many {ty : Pg → Ft ⊕ Pg} (hT : ∀ p, wE (ty p) (fun q => FX EN p.2 q.2)) {kind lk : Int} {p : Pg} (t0 : 0 ≤ t) : wE (gMany L X ty t tn kind lk p) (fun q => FX (ET t) p.2 q.2) := by
  have hu : ∀ (x : Int), FX (ET t) p.2 (upM p.2 0 t 0 x) := fun x => FX.rfl.up (fun _ _ _ => ⟨rfl, rfl⟩) (fun _ => t0)
  have hc := fx_comps (L := L) (X := X) (tn := tn) hT (lack := 1) t0 (L.length + 1) (-1) (-1) (p.1 + 1, stN (upM p.2 0 t 0 kind) tn 0 kind)
  unfold gMany
  simp only
  refine wE_ite (fun _ => wE_ite (fun _ => (hu kind).st) (fun _ => hc.mono fun q hq => (hu kind).st.trans hq (fun c i j i0 i1 z => ?_))) (fun _ => ?_)
  · rcases z with z | z
    · exact ⟨z.1, z.2.1⟩
    · omega
  refine wE_bE (wE.mono (P := fun q => FX (ET t) p.2 q.2) ?_ fun q hq => wE_bE (wE_tk fun _ => wE_bE ((hT _).mono fun r hr => ?_)))
  · have h3 : FX (ET t) p.2 (stN (adN (stN (upM p.2 0 t 0 kind) tn 0 lk) 23 p.1) tn 4 (nN p.2)) := (hu kind).st.ad.st
    have ez : ∀ c i j, 0 ≤ i → i < lnM p.2 c → E0 t [10] c i j → ET t c i j := fun _ _ _ _ _ z => ⟨z.1, z.2.1⟩
    refine wE_ite (fun _ => (fx_sizes t0).mono fun q hq => h3.trans hq ez) (fun _ => wE_ite (fun _ => wE_ite (fun _ => wE_bE ((fx_sizes t0).mono fun q hq => wE_bE (wE_tk fun _ => h3.trans hq ez))) (fun _ => trivial)) (fun _ => (hu kind).st))
  · have h5 : FX (ET t) p.2 (upM q.2 0 t 0 lk) := hq.up (fun _ _ _ => ⟨rfl, rfl⟩) (fun _ => t0)
    exact (h5.trans hr (fun _ _ _ _ _ z => z.elim)).st.up (fun _ _ _ => ⟨rfl, rfl⟩) (fun _ => t0)
theorem fx_base {ty : Pg → Ft ⊕ Pg} (hT : ∀ p, wE (ty p) (fun q => FX EN p.2 q.2)) {p : Pg} (t0 : 0 ≤ t) : wE (gBase L X ty t tn p) (fun q => FX (ET t) p.2 q.2) := by
  have hu : ∀ (x : Int), FX (ET t) p.2 (stN (upM p.2 0 t 0 x) tn 0 x) := fun x => (FX.rfl.up (fun _ _ _ => ⟨rfl, rfl⟩) (fun _ => t0)).st
  have hi : ∀ (a : Int) (b kind : Int), wE (gItemsOf L X t tn kind (a, stN (upM p.2 0 t 0 b) tn 0 b)) (fun q => FX (ET t) p.2 q.2) := fun a b kind => (fx_itemsOf t0).mono fun q hq => (hu b).trans hq (fun _ _ _ _ _ z => ⟨z.1, z.2.1⟩)
  have hm : ∀ (a kind lk : Int), wE (gMany L X ty t tn kind lk (a, p.2)) (fun q => FX (ET t) p.2 q.2) := fun a kind lk => fx_many hT t0
  have hc : ∀ (a : Int), wE (gComps L X ty t tn 0 (L.length + 1) (-1) (-1) (a, stN (upM p.2 0 t 0 16) tn 0 16)) (fun q => FX (ET t) p.2 q.2) := fun a => (fx_comps hT t0 _ _ _ _).mono fun q hq => (hu 16).trans hq (fun c i j i0 i1 z => by
    rcases z with z | z
    · exact ⟨z.1, z.2.1⟩
    · omega)
  unfold gBase
  simp only
  repeat' (first | with_reducible refine wE_ite (fun _ => ?_) (fun _ => ?_) | with_reducible exact wE_inl | with_reducible refine wE_bE (wE_tk fun _ => ?_))
  all_goals first | (with_reducible exact hc _) | (with_reducible exact hm _ _ _) | (with_reducible exact hi _ _ _) | exact hu _ | (show FX _ _ _; exact FX.st (FX.up (FX.up FX.rfl (fun _ _ _ => ⟨rfl, rfl⟩) (fun _ => t0)) (fun _ _ _ => ⟨rfl, rfl⟩) (fun _ => t0)))
theorem fx_type : ∀ (d : Nat) (p : Pg), wE (gType L X d p) (fun q => FX EN p.2 q.2) := by
  intro d
  induction d with
  | zero => intro p; exact trivial
  | succ d ih =>
    intro p
    unfold gType
    simp only
    have t0 : 0 ≤ lnM p.2 0 := by unfold lnM; omega
    have fin : ∀ c i (j : Nat), 0 ≤ i → i < lnM p.2 c → (c = 0 ∧ i = lnM p.2 0) → False := fun c i j i0 i1 z => by rw [z.1, z.2] at i1; exact Int.lt_irrefl _ i1
    refine wE_bE ((fx_tags t0 _ _ _).mono fun q hq => wE_bE ((fx_base ih t0).mono fun r hr => (fx_limits t0 _ _ _).mono fun w hw => ?_))
    have h1 : FX EN p.2 q.2 := FX.trans (FX.rfl.ad.ap) hq (fun c i j i0 i1 z => fin c i j i0 i1 ⟨z.1, z.2.1⟩)
    have h2 : FX EN p.2 r.2 := h1.trans hr (fun c i j i0 i1 z => fin c i j i0 i1 z)
    exact h2.trans hw (fun c i j i0 i1 z => fin c i j i0 i1 ⟨z.1, z.2.1⟩)
end
