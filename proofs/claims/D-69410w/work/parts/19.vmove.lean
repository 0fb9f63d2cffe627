set_option maxRecDepth 100000
/-! V-LAYER 9: newarray, an array moved into a field, arraycopy -/
theorem vkd_P0 (tk : List (Nat × Nat)) {k : Nat} (h : k < KF) : vkd (P0 tk) k = kd k := by unfold vkd; rw [if_pos h]
theorem vkd_tmp (tk : List (Nat × Nat)) (i : Nat) : vkd (P0 tk) (KF + i) = (tk.getD i (99, 0)).1 := by
  unfold vkd
  rw [if_neg (by omega)]
  show (tk.getD (KF + i - KF) (99, 0)).1 = _
  rw [Nat.add_sub_cancel_left]
theorem ok_of {tk : List (Nat × Nat)} {o ci : Nat} (h : o < KF) (h1 : kd o = ci) : ok (P0 tk) o ci := ⟨by unfold P0; show o < KF + tk.length; omega, by rw [vkd_P0 tk h, h1]⟩
theorem ok_tmp {tk : List (Nat × Nat)} {i t w : Nat} (h : tk[i]? = some (t, w)) : ok (P0 tk) (KF + i) t := by
  have hl := (List.getElem?_eq_some_iff.mp h).1
  refine ⟨by unfold P0; show KF + i < KF + tk.length; omega, ?_⟩
  rw [vkd_tmp, List.getD_eq_getElem?_getD, h]
  rfl
theorem vfv_eq {G : vG} {tk tk' : List (Nat × Nat)} {σ τ : vS} {a a' : Nat → Nat} {o f : Nat} (ho : o < KF) (h1 : τ.1 = σ.1) (h2 : τ.2.2 = σ.2.2) (ha : ∀ t : Nat, t < KF → kd t < 14 → a' t = a t) (hs : fk (kd o) f = 2 → a' (ft (kd o) f o) = a (ft (kd o) f o)) : vfv G (P0 tk') τ a' o f = vfv G (P0 tk) σ a o f := by
  unfold vfv
  rw [vkd_P0 tk ho, vkd_P0 tk' ho, h1, h2]
  generalize hq : fk (kd o) f = q at hs
  match q, hs with
  | 0, _ => rfl
  | 1, _ => rfl
  | 2, hs => simp only [hs rfl]; rfl
  | 3, _ =>
    simp only
    by_cases z : σ.2.2 o f = 0 ∨ KF ≤ σ.2.2 o f ∨ 14 ≤ kd (σ.2.2 o f)
    · rw [if_pos z, if_pos z]
    · rw [if_neg z, if_neg z, ha _ (by omega) (by omega)]
  | q + 4, _ => rfl
theorem nf_of {ci : Nat} : (List.range (nf ci)).length = nf ci := by simp
/-- a static cell that isn't touched -/
theorem vent_eq {G : vG} {tk tk' : List (Nat × Nat)} {σ τ : vS} {a a' : Nat → Nat} {k : Nat} (hk : k < KF) (h1 : τ.1 = σ.1) (h2 : τ.2.2 = σ.2.2) (ha : ∀ t : Nat, t < KF → kd t < 14 → a' t = a t) (hs : kd k < 14 → ∀ f, f < nf (kd k) → fk (kd k) f = 2 → a' (ft (kd k) f k) = a (ft (kd k) f k)) (hx : 14 ≤ kd k → τ.2.1 k = σ.2.1 k) : vent G (P0 tk') τ a' k = vent G (P0 tk) σ a k := by
  unfold vent
  rw [vkd_P0 tk hk, vkd_P0 tk' hk]
  by_cases z : kd k < 14
  · rw [if_pos z, if_pos z]
    congr 2
    apply List.map_congr_left
    intro f hf
    exact vfv_eq hk h1 h2 ha (hs z f (List.mem_range.mp hf))
  · rw [if_neg z, if_neg z, hx (by omega)]
theorem vent_tmp {G : vG} {tk : List (Nat × Nat)} {σ : vS} {a : Nat → Nat} {i t w : Nat} (h : tk[i]? = some (t, w)) (ht : 14 ≤ t) : vent G (P0 tk) σ a (KF + i) = .inl (G.2.1 t, vac t G.2.2.2 (σ.2.1 (KF + i))) := vent_arr (ok_tmp h) ht
theorem tk_ge {tk : List (Nat × Nat)} (h : ∀ x ∈ tk, 14 ≤ x.1) {i : Nat} (hi : i < tk.length) : 14 ≤ vkd (P0 tk) (KF + i) := by
  rw [vkd_tmp, List.getD_eq_getElem?_getD, List.getElem?_eq_getElem hi]
  exact h _ (List.getElem_mem hi)
/-- cells of locals and stack below a bound -/
def LT (n : Nat) : List vA → Prop
  | [] => True
  | .inr (.inr (.inl k)) :: r => k < n ∧ LT n r
  | _ :: r => LT n r
theorem LT_dv {n : Nat} {a a1 : Nat → Nat} (ha : ∀ k : Nat, k < n → a1 k = a k) : ∀ l : List vA, LT n l → l.map (dv a1) = l.map (dv a)
  | [], _ => rfl
  | .inl x :: r, h => by rw [List.map_cons, List.map_cons, LT_dv ha r h]; rfl
  | .inr (.inl x) :: r, h => by rw [List.map_cons, List.map_cons, LT_dv ha r h]; rfl
  | .inr (.inr (.inl k)) :: r, h => by
    rw [List.map_cons, List.map_cons, LT_dv ha r h.2]
    simp only [dv, ha k h.1]
  | .inr (.inr (.inr v)) :: r, h => by rw [List.map_cons, List.map_cons, LT_dv ha r h]; rfl
theorem LT_dvl {n : Nat} {a a1 : Nat → Nat} (ha : ∀ k : Nat, k < n → a1 k = a k) (L : List (Nat × vA)) (h : LT n (L.map (fun q => q.2))) : dvl a1 L = dvl a L := by
  induction L with
  | nil => rfl
  | cons q L ih =>
    obtain ⟨i, v⟩ := q
    have e : ∀ b : Nat → Nat, dvl b ((i, v) :: L) = (i, dv b v) :: dvl b L := fun _ => rfl
    rw [e, e]
    match v, h with
    | .inl x, h => rw [ih h]; rfl
    | .inr (.inl x), h => rw [ih h]; rfl
    | .inr (.inr (.inl k)), h =>
      rw [ih h.2]
      simp only [dv, ha k h.1]
    | .inr (.inr (.inr v)), h => rw [ih h]; rfl
/-- the accounts with one more cell behind -/
theorem sum_push {n : Nat} {f g : Nat → Nat} (h : ∀ k, k < n → f k = g k) : sumTo (n + 1) f = sumTo n g + f n := by rw [sumTo_succ, sumTo_congr h]
theorem getD_app {tk : List (Nat × Nat)} {x : Nat × Nat} {i : Nat} (h : i < tk.length) : (tk ++ [x]).getD i (99, 0) = tk.getD i (99, 0) := by
  rw [List.getD_eq_getElem?_getD, List.getD_eq_getElem?_getD, List.getElem?_append_left h]
theorem getD_end {tk : List (Nat × Nat)} {x : Nat × Nat} : (tk ++ [x]).getD tk.length (99, 0) = x := by
  rw [List.getD_eq_getElem?_getD, List.getElem?_append_right (Nat.le_refl _), Nat.sub_self]
  rfl
theorem vkd_app (tk : List (Nat × Nat)) (x : Nat × Nat) {k : Nat} (h : k < KF + tk.length) : vkd (P0 (tk ++ [x])) k = vkd (P0 tk) k := by
  by_cases z : k < KF
  · rw [vkd_P0 _ z, vkd_P0 _ z]
  · obtain ⟨i, rfl⟩ : ∃ i, k = KF + i := ⟨k - KF, by omega⟩
    rw [vkd_tmp, vkd_tmp, getD_app (by omega)]
theorem acc_push {tk : List (Nat × Nat)} {t w : Nat} {σ : vS} {x : Nat × (Int → Int)} (ht : 14 ≤ t) :
    Pc (P0 (tk ++ [(t, w)])) (sA σ (KF + tk.length) x) = Pc (P0 tk) σ + w ∧ Ps (P0 (tk ++ [(t, w)])) (sA σ (KF + tk.length) x) = Ps (P0 tk) σ + w * x.1 := by
  have e : (P0 (tk ++ [(t, w)])).1 = (P0 tk).1 + 1 := by unfold P0; simp; omega
  have hK : (P0 tk).1 = KF + tk.length := rfl
  have hd : ∀ k : Nat, k < KF + tk.length → ((P0 (tk ++ [(t, w)])).2.2.getD (k - KF) (99, 0)) = ((P0 tk).2.2.getD (k - KF) (99, 0)) ∨ k < KF := by
    intro k hk
    by_cases z : k < KF
    · exact Or.inr z
    · exact Or.inl (getD_app (by omega))
  have hv : vkd (P0 (tk ++ [(t, w)])) (KF + tk.length) = t := by rw [vkd_tmp, getD_end]
  have hg : ((P0 (tk ++ [(t, w)])).2.2.getD (KF + tk.length - KF) (99, 0)) = (t, w) := by rw [Nat.add_sub_cancel_left]; exact getD_end
  constructor
  · unfold Pc
    rw [e, sum_push (g := pcW (P0 tk) σ)]
    · show _ + _ + σ.2.2 300 500 = _
      rw [Nat.add_right_comm]
      congr 1
      rw [hK]
      unfold pcW
      rw [hv, if_neg (by omega), if_neg (by omega), hg]
    · intro k hk
      rw [hK] at hk
      unfold pcW
      rw [vkd_app _ _ hk, sA_ne _ _ _ (by omega)]
      rcases hd k hk with q | q
      · rw [q]
      · rw [if_pos q, if_pos q]
  · unfold Ps
    rw [e, sum_push (g := psW (P0 tk) σ)]
    · show _ + _ + 6 * σ.2.2 300 500 = _
      rw [Nat.add_right_comm]
      congr 1
      rw [hK]
      unfold psW
      rw [hv, if_neg (by omega), if_neg (by omega), hg, sA_at]
    · intro k hk
      rw [hK] at hk
      unfold psW
      rw [vkd_app _ _ hk, sA_ne _ _ _ (by omega)]
      rcases hd k hk with q | q
      · rw [q]
      · rw [if_pos q, if_pos q]
def aty : Nat → FieldType
  | 24 => .int
  | 25 => .byte
  | 26 => .boolean
  | _ => .long
theorem vtys_at {G : vG} {t : Nat} (h1 : 24 ≤ t) (h2 : t ≤ 27) : (vtys G)[t - 24]? = some (G.2.1 t, aty t) := by
  rcases (show t = 24 ∨ t = 25 ∨ t = 26 ∨ t = 27 by omega) with rfl | rfl | rfl | rfl <;> rfl
section
variable {cc : ByteArray} {own : String} {rv : Option vA} {σo : vS} {ret : Option FieldType} {F Lc nL : Nat} {tko : List (Nat × Nat)} {tk : List (Nat × Nat)} {σ τ : vS} {pc : Nat} {L : List (Nat × vA)} {st : List vA}
theorem v_newa {n : Int} {t : Nat} {at0 : ArrayType} (h800 : tk.length < 800) (htk : ∀ x ∈ tk, 14 ≤ x.1) (h1 : 24 ≤ t) (h2 : t ≤ 27) (hty : newarray.typeOf at0 = aty t) (hz : ∀ cA : ClassId, vp_cell cA (vac t (fun _ => 0) (n.toNat, fun _ => 0)) = arrV cA n.toNat (fun _ => defaultValue (aty t))) (harr : Cond.arrayClass (newarray.typeOf at0) ∈ lw_all) (hn : rg n) (h0 : 0 ≤ n) (hm : n ≤ 60000000) (hL : LT (KF + tk.length) (L.map (fun q => q.2))) (hs : LT (KF + tk.length) st) (hd : decode cc pc = .ok (.newarray at0, 2))
    (k : VW cc (own, rv, σo, ret, F, Lc, nL, tko) (P0 (tk ++ [(t, 1)])) (sA σ (KF + tk.length) (n.toNat, fun _ => 0)) (pc + 2) L (vO (KF + tk.length) :: st)) : VW cc (own, rv, σo, ret, F, Lc, nL, tko) (P0 tk) σ pc L (vI n :: st) := by
  obtain ⟨ec, es⟩ := acc_push (tk := tk) (t := t) (w := 1) (σ := σ) (x := (n.toNat, fun _ => 0)) (by omega)
  obtain ⟨k0, k⟩ := k
  rw [ec, es] at k0
  refine And.intro ⟨by omega, by omega, k0.2.2⟩ (fun M hX hR hM hN0 => ?_)
  have k := k M hX hR hM hN0
  obtain ⟨⟨p, l, e, R, s, m, args, below, meth, c⟩, G, A, Q, b, oo, nL0, l0, a0⟩ := M
  intro H locs a ls hP hD hS hl1 hj b1 b2
  obtain ⟨hx, hb, hml, hown, hts, hK, hlk, hA, hRc, hRs, hNw⟩ := hX
  obtain ⟨σ0, hq1, hq2, ho, hq3, hq4⟩ := hR
  have ho1 : oo.1 = Pc (P0 tko) σo := by rw [ho]
  have ho2 : oo.2 = Ps (P0 tko) σo := by rw [ho]
  refine va_newa (D := G.1) (a0 := vac t G.2.2.2 (n.toNat, fun _ => 0)) (N' := n.toNat) hx hb (hts _ harr) hty hK hP hD hS hA ?_ ?_ ?_ ?_ ?_ ?_ hd (fun q cA H1 hK1 hP1 hD1 hS1 => ?_)
  · intro cA
    rw [← hz cA]
    rcases (show t = 24 ∨ t = 25 ∨ t = 26 ∨ t = 27 by omega) with rfl | rfl | rfl | rfl <;> rfl
  · rw [show (0 : Int32) = Int32.ofInt 0 from rfl, i32_lt hn rg_0]
    omega
  · exact cl_of hn h0
  · have : componentBytes (aty t) ≤ 8 := by
      rcases (show t = 24 ∨ t = 25 ∨ t = 26 ∨ t = 27 by omega) with rfl | rfl | rfl | rfl <;> decide
    have h9 : n.toNat ≤ 60000000 := by omega
    calc n.toNat * componentBytes (aty t) ≤ 60000000 * 8 := Nat.mul_le_mul h9 this
      _ ≤ 536870912 := by decide
  · rw [ho1] at hRc; omega
  · rw [ho2] at hRs; simp at k0; omega
  · have hcA : cA = G.2.1 t := by
      have e1 := (hK.2 (t - 24) _ (vtys_at h1 h2)).2
      have e2 := (hK1.2 (vtys G).length (cA, aty t) (by simp)).2
      rcases (show t = 24 ∨ t = 25 ∨ t = 26 ∨ t = 27 by omega) with rfl | rfl | rfl | rfl
      all_goals exact Option.some.inj (e2.symm.trans e1)
    subst hcA
    have hlen : (vws G (P0 tk) σ a).length = KF + tk.length := by simp [vws, P0]
    have hq : q = q := rfl
    have ha : ∀ k : Nat, k < KF + tk.length → (fun k => if k = KF + tk.length then q else a k) k = a k := fun k hk => by simp only; rw [if_neg (by omega)]
    have hw : vws G (P0 tk) σ a ++ [(q, .inl (G.2.1 t, vac t G.2.2.2 (n.toNat, fun _ => 0)))] = vws G (P0 (tk ++ [(t, 1)])) (sA σ (KF + tk.length) (n.toNat, fun _ => 0)) (fun k => if k = KF + tk.length then q else a k) := by
      apply List.ext_getElem?
      intro j
      rcases Nat.lt_trichotomy j (KF + tk.length) with z | z | z
      · rw [List.getElem?_append_left (by rw [hlen]; exact z), vws_at G _ _ _ (show j < (P0 tk).1 from z), vws_at G _ _ _ (show j < (P0 (tk ++ [(t, 1)])).1 by unfold P0; simp; omega)]
        congr 2
        · exact (ha j z).symm
        · by_cases zj : j < KF
          · have hx9 : (sA σ (KF + tk.length) (n.toNat, fun _ => (0 : Int))).2.1 j = σ.2.1 j := sA_ne _ _ _ (by omega)
            exact (vent_eq (σ := σ) (τ := sA σ (KF + tk.length) (n.toNat, fun _ => (0 : Int))) zj rfl rfl (fun t ht _ => ha t (by omega)) (fun z14 f hf h2 => ha _ (by have := ft_lt zj z14 hf h2; omega)) (fun _ => hx9)).symm
          · obtain ⟨i, rfl⟩ : ∃ i, j = KF + i := ⟨j - KF, by omega⟩
            unfold vent
            rw [vkd_app _ _ z, sA_ne _ _ _ (by omega)]
            have z14 : ¬ vkd (P0 tk) (KF + i) < 14 := by have := tk_ge htk (show i < tk.length by omega); omega
            rw [if_neg z14, if_neg z14]
      · subst z
        rw [List.getElem?_append_right (by rw [hlen]; exact Nat.le_refl _), hlen, Nat.sub_self, vws_at G _ _ _ (show KF + tk.length < (P0 (tk ++ [(t, 1)])).1 by unfold P0; simp)]
        rw [vent_arr (t := t) ⟨by unfold P0; simp, by rw [vkd_tmp, getD_end]⟩ (by omega), sA_at]
        simp
      · rw [List.getElem?_eq_none (by simp [hlen]; omega), List.getElem?_eq_none (by simp [vws, P0]; omega)]
    rw [hw] at hP1 hD1
    have k := k H1 locs (fun k => if k = KF + tk.length then q else a k) ls hP1 hD1 hS1 (by rw [LT_dvl ha L hL]; exact hl1) ⟨fun j hj2 => by have := hj2.1; rw [sA_ne _ _ _ (by omega), ha j (by omega)]; exact hj.1 j hj2, fun j hj2 => by show (if j = KF + tk.length then q else a j) = _; rw [if_neg (by unfold KF; omega)]; exact hj.2 j hj2⟩ (by rw [ec]; omega) (by rw [es]; omega)
    rw [ec, es] at k
    rw [show Pc (P0 tk) σ - b.1 + 1 = Pc (P0 tk) σ + 1 - b.1 by omega, show Ps (P0 tk) σ - b.2 + n.toNat = Ps (P0 tk) σ + 1 * n.toNat - b.2 by omega, ← LT_dv ha st hs]
    have e9 : (List.map (dv (fun k => if k = KF + tk.length then q else a k)) (vO (KF + tk.length) :: st)) = Value.ref q :: List.map (dv (fun k => if k = KF + tk.length then q else a k)) st := by
      rw [List.map_cons]
      simp [dv]
    rw [e9] at k
    exact k
/-- what the four kinds ask of newarray -/
theorem v_newa24 {n : Int} (h800 : tk.length < 800) (htk : ∀ x ∈ tk, 14 ≤ x.1) (hn : rg n) (h0 : 0 ≤ n) (hm : n ≤ 60000000) (hL : LT (KF + tk.length) (L.map (fun q => q.2))) (hs : LT (KF + tk.length) st) (harr : Cond.arrayClass .int ∈ lw_all) (hd : decode cc pc = .ok (.newarray .int, 2))
    (k : VW cc (own, rv, σo, ret, F, Lc, nL, tko) (P0 (tk ++ [(24, 1)])) (sA σ (KF + tk.length) (n.toNat, fun _ => 0)) (pc + 2) L (vO (KF + tk.length) :: st)) : VW cc (own, rv, σo, ret, F, Lc, nL, tko) (P0 tk) σ pc L (vI n :: st) :=
  v_newa (t := 24) (at0 := .int) h800 htk (by decide) (by decide) rfl (fun _ => rfl) harr hn h0 hm hL hs hd k
theorem v_newa25 {n : Int} (h800 : tk.length < 800) (htk : ∀ x ∈ tk, 14 ≤ x.1) (hn : rg n) (h0 : 0 ≤ n) (hm : n ≤ 60000000) (hL : LT (KF + tk.length) (L.map (fun q => q.2))) (hs : LT (KF + tk.length) st) (harr : Cond.arrayClass .byte ∈ lw_all) (hd : decode cc pc = .ok (.newarray .byte, 2))
    (k : VW cc (own, rv, σo, ret, F, Lc, nL, tko) (P0 (tk ++ [(25, 1)])) (sA σ (KF + tk.length) (n.toNat, fun _ => 0)) (pc + 2) L (vO (KF + tk.length) :: st)) : VW cc (own, rv, σo, ret, F, Lc, nL, tko) (P0 tk) σ pc L (vI n :: st) :=
  v_newa (t := 25) (at0 := .byte) h800 htk (by decide) (by decide) rfl (fun _ => rfl) harr hn h0 hm hL hs hd k
theorem v_newa26 {n : Int} (h800 : tk.length < 800) (htk : ∀ x ∈ tk, 14 ≤ x.1) (hn : rg n) (h0 : 0 ≤ n) (hm : n ≤ 60000000) (hL : LT (KF + tk.length) (L.map (fun q => q.2))) (hs : LT (KF + tk.length) st) (harr : Cond.arrayClass .boolean ∈ lw_all) (hd : decode cc pc = .ok (.newarray .boolean, 2))
    (k : VW cc (own, rv, σo, ret, F, Lc, nL, tko) (P0 (tk ++ [(26, 1)])) (sA σ (KF + tk.length) (n.toNat, fun _ => 0)) (pc + 2) L (vO (KF + tk.length) :: st)) : VW cc (own, rv, σo, ret, F, Lc, nL, tko) (P0 tk) σ pc L (vI n :: st) :=
  v_newa (t := 26) (at0 := .boolean) h800 htk (by decide) (by decide) rfl (fun _ => by show vp_cell _ (n.toNat, Sum.inl (fun _ => Int32.ofInt (bz 0))) = _; rw [show bz 0 = 0 by decide +kernel]; rfl) harr hn h0 hm hL hs hd k
theorem v_newa27 {n : Int} (h800 : tk.length < 800) (htk : ∀ x ∈ tk, 14 ≤ x.1) (hn : rg n) (h0 : 0 ≤ n) (hm : n ≤ 60000000) (hL : LT (KF + tk.length) (L.map (fun q => q.2))) (hs : LT (KF + tk.length) st) (harr : Cond.arrayClass .long ∈ lw_all) (hd : decode cc pc = .ok (.newarray .long, 2))
    (k : VW cc (own, rv, σo, ret, F, Lc, nL, tko) (P0 (tk ++ [(27, 1)])) (sA σ (KF + tk.length) (n.toNat, fun _ => 0)) (pc + 2) L (vO (KF + tk.length) :: st)) : VW cc (own, rv, σo, ret, F, Lc, nL, tko) (P0 tk) σ pc L (vI n :: st) :=
  v_newa (t := 27) (at0 := .long) h800 htk (by decide) (by decide) rfl (fun _ => rfl) harr hn h0 hm hL hs hd k
end
