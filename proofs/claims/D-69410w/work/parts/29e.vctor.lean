set_option maxRecDepth 100000
/-! V-LAYER 22: constructors: the world grows, cell by cell, in the order of the numbers -/
/-- a world of K cells; E: which static references are set -/
abbrev pK (K : Nat) (E : Nat → Nat → Bool) : vP := (K, E, [])
/-- the state with marks that tell the world at a constructor's end, and how many cells there were at its start -/
def conS (σ : vS) (P : vP) (K0 : Nat) : vS := (σ.1, fun k => if k = 1300 then (P.1, fun _ => 0) else if k = 1301 then (K0, fun _ => 0) else σ.2.1 k, fun o f => if 2000 ≤ o then (if P.2.1 (o - 2000) f then 1 else 0) else σ.2.2 o f)
theorem pOf_conS (σ : vS) (K : Nat) (E : Nat → Nat → Bool) (K0 : Nat) : pOf (conS σ (pK K E) K0) = pK K E := by
  unfold pOf conS
  refine Prod.ext rfl (Prod.ext ?_ rfl)
  funext o f
  show ((if 2000 ≤ 2000 + o then (if E (2000 + o - 2000) f then 1 else 0) else σ.2.2 (2000 + o) f) == 1) = E o f
  rw [if_pos (by omega), Nat.add_sub_cancel_left]
  cases E o f <;> rfl
theorem conS_len (σ : vS) (P : vP) (K0 : Nat) {k : Nat} (h : k < 1300) : (conS σ P K0).2.1 k = σ.2.1 k := by
  show (if k = 1300 then _ else if k = 1301 then _ else σ.2.1 k) = _
  rw [if_neg (by omega), if_neg (by omega)]
theorem conS_R (σ : vS) (P : vP) (K0 : Nat) {o f : Nat} (h : o < 2000) : (conS σ P K0).2.2 o f = σ.2.2 o f := if_neg (by omega)
/-- more cells and slots than are used -/
def bmp (σ : vS) : vS := (σ.1, σ.2.1, fun o f => if o = 300 ∧ f = 500 then σ.2.2 300 500 + 200 else σ.2.2 o f)
theorem bmp_gh (σ : vS) : (bmp σ).2.2 300 500 = σ.2.2 300 500 + 200 := rfl
theorem bmp_R (σ : vS) {o f : Nat} (h : o ≠ 300) : (bmp σ).2.2 o f = σ.2.2 o f := if_neg (fun z => h z.1)
theorem Pc_bmp (P : vP) (σ : vS) : Pc P (bmp σ) = Pc P σ + 200 := by
  have e : sumTo P.1 (pcW P (bmp σ)) = sumTo P.1 (pcW P σ) := sumTo_congr fun k _ => rfl
  unfold Pc
  rw [e, bmp_gh, Nat.add_assoc]
theorem Ps_bmp (P : vP) (σ : vS) : Ps P (bmp σ) = Ps P σ + 1200 := by
  have e : sumTo P.1 (psW P (bmp σ)) = sumTo P.1 (psW P σ) := sumTo_congr fun k _ => rfl
  unfold Ps
  rw [e, bmp_gh]
  omega
theorem vkd_K (K : Nat) (E : Nat → Nat → Bool) {k : Nat} (h : k < 199) : vkd (pK K E) k = kd k := if_pos h
theorem Pc_con (P : vP) (σ : vS) (Q : vP) (K0 : Nat) (hP : P.1 ≤ 300) : Pc P (conS σ Q K0) = Pc P σ := by
  have e : sumTo P.1 (pcW P (conS σ Q K0)) = sumTo P.1 (pcW P σ) := sumTo_congr fun k hk => by
    unfold pcW
    rw [conS_len σ Q K0 (by omega)]
  unfold Pc
  rw [e, conS_R σ Q K0 (by decide)]
theorem Ps_con (P : vP) (σ : vS) (Q : vP) (K0 : Nat) (hP : P.1 ≤ 300) : Ps P (conS σ Q K0) = Ps P σ := by
  have e : sumTo P.1 (psW P (conS σ Q K0)) = sumTo P.1 (psW P σ) := sumTo_congr fun k hk => by
    unfold psW
    rw [conS_len σ Q K0 (by omega)]
  unfold Ps
  rw [e, conS_R σ Q K0 (by decide)]
/-- two states that differ in no cell of the world -/
theorem vws_cells {G : vG} {K : Nat} {E : Nat → Nat → Bool} {σ τ : vS} {a : Nat → Nat} (hK : K ≤ 199) (h1 : ∀ k f, k < K → τ.1 k f = σ.1 k f) (h2 : ∀ k, k < K → τ.2.1 k = σ.2.1 k) (h3 : ∀ k f, k < K → τ.2.2 k f = σ.2.2 k f) : vws G (pK K E) τ a = vws G (pK K E) σ a := by
  unfold vws
  refine List.map_congr_left (fun k hk => ?_)
  have hk : k < K := List.mem_range.mp hk
  have e : ∀ f, vfv G (pK K E) τ a k f = vfv G (pK K E) σ a k f := by
    intro f
    unfold vfv
    rw [h1 k f hk, h3 k f hk]
  congr 1
  unfold vent
  simp only [e]
  rw [h2 k hk]
theorem vws_con {G : vG} {K : Nat} {E : Nat → Nat → Bool} {σ : vS} {a : Nat → Nat} (Q : vP) (K0 : Nat) (hK : K ≤ 199) : vws G (pK K E) (conS σ Q K0) a = vws G (pK K E) σ a :=
  vws_cells hK (fun _ _ _ => rfl) (fun k hk => conS_len σ Q K0 (by omega)) (fun k f hk => conS_R σ Q K0 (by omega))
theorem vws_bmp {G : vG} {K : Nat} {E : Nat → Nat → Bool} {σ : vS} {a : Nat → Nat} (hK : K ≤ 199) : vws G (pK K E) (bmp σ) a = vws G (pK K E) σ a :=
  vws_cells hK (fun _ _ _ => rfl) (fun k hk => rfl) (fun k f hk => bmp_R σ (by omega))
/-- what is not made yet is nothing; no moving reference is set; a set reference leads to what is there -/
def Zr (K : Nat) (E : Nat → Nat → Bool) (σ : vS) : Prop := (∀ k, K ≤ k → k < 199 → (∀ f, σ.1 k f = 0 ∧ E k f = false) ∧ (σ.2.1 k).1 = 0) ∧ (∀ o f, o < 199 → σ.2.2 o f = 0) ∧ ∀ o f, o < K → E o f = true → fk (kd o) f = 2 → ft (kd o) f o < K
theorem nfsum : sumTo 199 (fun k => if kd k < 14 then nf (kd k) else 0) ≤ 1200 := by decide +kernel
theorem sumTo_split {n m : Nat} (h : n ≤ m) (f : Nat → Nat) : sumTo m f = sumTo n f + sumTo (m - n) (fun i => f (n + i)) := by
  have := sumTo_add n (m - n) f
  rwa [show n + (m - n) = m by omega] at this
theorem sumTo_const (n c : Nat) : sumTo n (fun _ => c) = n * c := by
  induction n with
  | zero => simp [sumTo]
  | succ n ih => rw [sumTo_succ, ih, Nat.succ_mul]
/-- the whole world's account is not much above that of a part -/
theorem Pc_part {K : Nat} {E : Nat → Nat → Bool} {σ : vS} (hK : K ≤ 199) (hz : Zr K E σ) : Pc (P0 []) σ ≤ Pc (pK K E) σ + 200 ∧ Ps (P0 []) σ ≤ Ps (pK K E) σ + 1200 := by
  have e0 : ∀ k, k < 199 → vkd (P0 []) k = kd k := fun k hk => vkd_P0 _ hk
  constructor
  · show sumTo 199 _ + _ ≤ sumTo K _ + _ + 200
    rw [sumTo_split hK]
    have e1 : sumTo K (pcW (P0 []) σ) = sumTo K (pcW (pK K E) σ) := sumTo_congr fun k hk => by
      unfold pcW
      rw [e0 k (by omega), vkd_K K E (by omega), if_pos (show k < KF from by unfold KF; omega), if_pos (show k < KF from by unfold KF; omega)]
    have e2 : sumTo (199 - K) (fun i => pcW (P0 []) σ (K + i)) ≤ sumTo (199 - K) (fun _ => 1) := sumTo_le fun i hi => by
      unfold pcW
      rw [e0 _ (by omega)]
      by_cases h : kd (K + i) < 14
      · rw [if_pos h]; exact Nat.le_refl _
      · rw [if_neg h, if_pos (show K + i < KF from by unfold KF; omega), (hz.1 (K + i) (by omega) (by omega)).2]
        decide
    rw [sumTo_const] at e2
    omega
  · show sumTo 199 _ + _ ≤ sumTo K _ + _ + 1200
    rw [sumTo_split hK]
    have e1 : sumTo K (psW (P0 []) σ) = sumTo K (psW (pK K E) σ) := sumTo_congr fun k hk => by
      unfold psW
      rw [e0 k (by omega), vkd_K K E (by omega), if_pos (show k < KF from by unfold KF; omega), if_pos (show k < KF from by unfold KF; omega)]
    have e2 : sumTo (199 - K) (fun i => psW (P0 []) σ (K + i)) ≤ sumTo (199 - K) (fun i => (fun k => if kd k < 14 then nf (kd k) else 0) (K + i)) := sumTo_le fun i hi => by
      unfold psW
      rw [e0 _ (by omega)]
      by_cases h : kd (K + i) < 14
      · simp only [if_pos h]; exact Nat.le_refl _
      · simp only [if_neg h]
        rw [if_pos (show K + i < KF from by unfold KF; omega), (hz.1 (K + i) (by omega) (by omega)).2]
        exact Nat.le_refl _
    have e3 := nfsum
    rw [sumTo_split hK] at e3
    simp only at e2 e3
    omega
theorem Pc_le {K : Nat} {E : Nat → Nat → Bool} {σ : vS} (hK : K ≤ 199) : Pc (pK K E) σ ≤ Pc (P0 []) σ ∧ Ps (pK K E) σ ≤ Ps (P0 []) σ := by
  have e0 : ∀ k, k < 199 → vkd (P0 []) k = kd k := fun k hk => vkd_P0 _ hk
  constructor
  · show sumTo K _ + _ ≤ sumTo 199 _ + _
    rw [sumTo_split hK (pcW (P0 []) σ)]
    have e1 : sumTo K (pcW (P0 []) σ) = sumTo K (pcW (pK K E) σ) := sumTo_congr fun k hk => by
      unfold pcW
      rw [e0 k (by omega), vkd_K K E (by omega), if_pos (show k < KF from by unfold KF; omega), if_pos (show k < KF from by unfold KF; omega)]
    omega
  · show sumTo K _ + _ ≤ sumTo 199 _ + _
    rw [sumTo_split hK (psW (P0 []) σ)]
    have e1 : sumTo K (psW (P0 []) σ) = sumTo K (psW (pK K E) σ) := sumTo_congr fun k hk => by
      unfold psW
      rw [e0 k (by omega), vkd_K K E (by omega), if_pos (show k < KF from by unfold KF; omega), if_pos (show k < KF from by unfold KF; omega)]
    omega
/-- one cell more -/
theorem Pc_push {K : Nat} {E : Nat → Nat → Bool} {σ τ : vS} (hK : K < 199) (h : ∀ k, k < K → (τ.2.1 k).1 = (σ.2.1 k).1) (hg : τ.2.2 300 500 = σ.2.2 300 500) : Pc (pK (K + 1) E) τ = Pc (pK K E) σ + (if kd K < 14 then 1 else lgc (τ.2.1 K).1) ∧ Ps (pK (K + 1) E) τ = Ps (pK K E) σ + (if kd K < 14 then nf (kd K) else 2 * (τ.2.1 K).1) := by
  have hKF : ∀ k, k ≤ K → k < KF := fun k hk => by unfold KF; omega
  constructor
  · show sumTo (K + 1) _ + _ = sumTo K _ + _ + _
    rw [sumTo_succ, hg]
    have e1 : sumTo K (pcW (pK (K + 1) E) τ) = sumTo K (pcW (pK K E) σ) := sumTo_congr fun k hk => by
      unfold pcW
      rw [vkd_K _ E (by omega), vkd_K _ E (by omega), h k hk, if_pos (hKF k (by omega))]
    have e2 : pcW (pK (K + 1) E) τ K = (if kd K < 14 then 1 else lgc (τ.2.1 K).1) := by
      unfold pcW
      rw [vkd_K _ E hK, if_pos (hKF K (Nat.le_refl _))]
    rw [e1, e2]
    omega
  · show sumTo (K + 1) _ + _ = sumTo K _ + _ + _
    rw [sumTo_succ, hg]
    have e1 : sumTo K (psW (pK (K + 1) E) τ) = sumTo K (psW (pK K E) σ) := sumTo_congr fun k hk => by
      unfold psW
      rw [vkd_K _ E (by omega), vkd_K _ E (by omega), h k hk, if_pos (hKF k (by omega))]
    have e2 : psW (pK (K + 1) E) τ K = (if kd K < 14 then nf (kd K) else 2 * (τ.2.1 K).1) := by
      unfold psW
      rw [vkd_K _ E hK, if_pos (hKF K (Nat.le_refl _))]
    rw [e1, e2]
    omega
/-- the accounts don't look at E -/
theorem Pc_E {K : Nat} {E E' : Nat → Nat → Bool} {σ : vS} : Pc (pK K E) σ = Pc (pK K E') σ ∧ Ps (pK K E) σ = Ps (pK K E') σ := ⟨rfl, rfl⟩
theorem ok_K {K : Nat} {E : Nat → Nat → Bool} {o ci : Nat} (hK : K ≤ 199) (h : o < K) (h1 : kd o = ci) : ok (pK K E) o ci := ⟨h, by rw [vkd_K K E (by omega)]; exact h1⟩
/-- another place for one cell -/
def aS (a : Nat → Nat) (K q : Nat) : Nat → Nat := fun k => if k = K then q else a k
theorem aS_ne {a : Nat → Nat} {K q k : Nat} (h : k ≠ K) : aS a K q k = a k := if_neg h
theorem aS_at {a : Nat → Nat} {K q : Nat} : aS a K q K = q := if_pos rfl
theorem vws_push {G : vG} {K : Nat} {E : Nat → Nat → Bool} {σ τ : vS} {a : Nat → Nat} {q : Nat} {e : va_E} (hK : K < 199) (hz : Zr K E σ) (h1 : τ.1 = σ.1) (h2 : ∀ k, k < K → τ.2.1 k = σ.2.1 k) (h3 : τ.2.2 = σ.2.2) (he : vent G (pK (K + 1) E) τ (aS a K q) K = e) : vws G (pK (K + 1) E) τ (aS a K q) = vws G (pK K E) σ a ++ [(q, e)] := by
  unfold vws
  show List.map _ (List.range (K + 1)) = _
  rw [List.range_succ, List.map_append]
  congr 1
  · refine List.map_congr_left (fun k hk => ?_)
    have hk : k < K := List.mem_range.mp hk
    have hf : ∀ f, vfv G (pK (K + 1) E) τ (aS a K q) k f = vfv G (pK K E) σ a k f := by
      intro f
      unfold vfv
      rw [vkd_K _ E (show k < 199 by omega), vkd_K _ E (show k < 199 by omega), h1, h3]
      generalize hq : fk (kd k) f = w
      match w with
      | 0 => rfl
      | 1 => rfl
      | 2 =>
        show (if E k f = true then _ else _) = (if E k f = true then _ else _)
        by_cases hE : E k f = true
        · rw [if_pos hE, if_pos hE, aS_ne (by have := hz.2.2 k f hk hE hq; omega)]
        · rw [if_neg hE, if_neg hE]
      | 3 =>
        show (if σ.2.2 k f = 0 ∨ _ then _ else _) = (if σ.2.2 k f = 0 ∨ _ then _ else _)
        rw [if_pos (Or.inl (hz.2.1 k f (by omega))), if_pos (Or.inl (hz.2.1 k f (by omega)))]
      | w + 4 => rfl
    rw [aS_ne (by omega)]
    congr 1
    unfold vent
    rw [vkd_K _ E (show k < 199 by omega), vkd_K _ E (show k < 199 by omega), h2 k hk]
    simp only [hf]
  · show [(aS a K q K, _)] = _
    rw [aS_at, he]
/-- cells of locals and stack: below a bound, or texts -/
def LK (n : Nat) : List vA → Prop
  | [] => True
  | .inr (.inr (.inl k)) :: r => (k < n ∨ 1000 ≤ k) ∧ LK n r
  | _ :: r => LK n r
theorem LK_dv {n : Nat} {a a1 : Nat → Nat} (ha : ∀ k : Nat, k < n ∨ 1000 ≤ k → a1 k = a k) : ∀ l : List vA, LK n l → l.map (dv a1) = l.map (dv a)
  | [], _ => rfl
  | .inl x :: r, h => by rw [List.map_cons, List.map_cons, LK_dv ha r h]; rfl
  | .inr (.inl x) :: r, h => by rw [List.map_cons, List.map_cons, LK_dv ha r h]; rfl
  | .inr (.inr (.inl k)) :: r, h => by
    rw [List.map_cons, List.map_cons, LK_dv ha r h.2]
    simp only [dv, ha k h.1]
  | .inr (.inr (.inr v)) :: r, h => by rw [List.map_cons, List.map_cons, LK_dv ha r h]; rfl
theorem LK_dvl {n : Nat} {a a1 : Nat → Nat} (ha : ∀ k : Nat, k < n ∨ 1000 ≤ k → a1 k = a k) (L : List (Nat × vA)) (h : LK n (L.map (fun q => q.2))) : dvl a1 L = dvl a L := by
  induction L with
  | nil => rfl
  | cons q L ih =>
    obtain ⟨i, v⟩ := q
    have e : ∀ b : Nat → Nat, dvl b ((i, v) :: L) = (i, dv b v) :: dvl b L := fun _ => rfl
    rw [e, e]
    match v, h with
    | .inl x, h => rw [ih h]; rfl
    | .inr (.inl x), h => rw [ih h]; rfl
    | .inr (.inr (.inl k)), h =>
      rw [ih h.2]
      simp only [dv, ha k h.1]
    | .inr (.inr (.inr v)), h => rw [ih h]; rfl
/-- one more static reference is set -/
def eS (E : Nat → Nat → Bool) (o f : Nat) : Nat → Nat → Bool := fun o' f' => if o' = o ∧ f' = f then true else E o' f'
theorem eS_at {E : Nat → Nat → Bool} {o f : Nat} : eS E o f o f = true := if_pos ⟨rfl, rfl⟩
theorem eS_ne {E : Nat → Nat → Bool} {o f o' f' : Nat} (h : ¬ (o' = o ∧ f' = f)) : eS E o f o' f' = E o' f' := if_neg h
/-- Zr, step by step -/
theorem Zr_new {K : Nat} {E : Nat → Nat → Bool} {σ : vS} (h : Zr K E σ) (hK : K < 199) : Zr (K + 1) E σ :=
  ⟨fun k h1 h2 => h.1 k (by omega) h2, h.2.1, fun o f ho hE hf => by
    by_cases z : o = K
    · subst z
      have := (h.1 o (Nat.le_refl _) hK).1 f
      rw [this.2] at hE
      cases hE
    · have := h.2.2 o f (by omega) hE hf
      omega⟩
theorem Zr_sA {K : Nat} {E : Nat → Nat → Bool} {σ : vS} {c : Nat} {x : Nat × (Int → Int)} (h : Zr K E σ) (hc : c < K) : Zr K E (sA σ c x) :=
  ⟨fun k h1 h2 => ⟨(h.1 k h1 h2).1, by rw [sA_ne _ _ _ (by omega)]; exact (h.1 k h1 h2).2⟩, h.2.1, h.2.2⟩
theorem Zr_sI {K : Nat} {E : Nat → Nat → Bool} {σ : vS} {c f : Nat} {x : Int} (h : Zr K E σ) (hc : c < K) : Zr K E (sI σ c f x) :=
  ⟨fun k h1 h2 => ⟨fun g => ⟨by show (if k = c ∧ g = f then x else σ.1 k g) = 0; rw [if_neg (by omega)]; exact ((h.1 k h1 h2).1 g).1, ((h.1 k h1 h2).1 g).2⟩, (h.1 k h1 h2).2⟩, h.2.1, h.2.2⟩
theorem Zr_bmp {K : Nat} {E : Nat → Nat → Bool} {σ : vS} (h : Zr K E σ) : Zr K E (bmp σ) :=
  ⟨h.1, fun o f ho => by rw [bmp_R σ (by omega)]; exact h.2.1 o f ho, h.2.2⟩
theorem Zr_eS {K : Nat} {E : Nat → Nat → Bool} {σ : vS} {o f t : Nat} (h : Zr K E σ) (ho : o < K) (ht : ft (kd o) f o = t) (htK : t < K) : Zr K (eS E o f) σ :=
  ⟨fun k h1 h2 => ⟨fun g => ⟨((h.1 k h1 h2).1 g).1, by rw [eS_ne (by omega)]; exact ((h.1 k h1 h2).1 g).2⟩, (h.1 k h1 h2).2⟩, h.2.1, fun o' f' ho' hE hf => by
    by_cases z : o' = o ∧ f' = f
    · obtain ⟨rfl, rfl⟩ := z
      omega
    · rw [eS_ne z] at hE
      exact h.2.2 o' f' ho' hE hf⟩
theorem Zr_eF {K : Nat} {E : Nat → Nat → Bool} {σ : vS} {o f : Nat} (h : Zr K E σ) (ho : o < K) (ht : fk (kd o) f ≠ 2) : Zr K (eS E o f) σ :=
  ⟨fun k h1 h2 => ⟨fun g => ⟨((h.1 k h1 h2).1 g).1, by rw [eS_ne (by omega)]; exact ((h.1 k h1 h2).1 g).2⟩, (h.1 k h1 h2).2⟩, h.2.1, fun o' f' ho' hE hf => by
    by_cases z : o' = o ∧ f' = f
    · obtain ⟨rfl, rfl⟩ := z
      exact absurd hf ht
    · rw [eS_ne z] at hE
      exact h.2.2 o' f' ho' hE hf⟩
