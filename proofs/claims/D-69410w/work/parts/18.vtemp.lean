set_option maxRecDepth 100000
/-! V-LAYER 8: nest mates' fields; arrays that are made and moved into fields -/
section
variable {cc : ByteArray} {own host : String} {rv : Option vA} {σo : vS} {ret : Option FieldType} {F Lc nL : Nat} {tko : List (Nat × Nat)} {P : vP} {σ τ : vS} {pc : Nat} {L : List (Nat × vA)} {st : List vA} {G : vG} {a : Nat → Nat} {o ci f i N : Nat} {C : String} {T : u_T} {ty : Nat → FieldType}
theorem v_getIN (cf : CF ci C T N ty) (ho : ok P o ci) (hf : fk ci f = 0) (hN : f < N) (hl : Cond.fieldLinkNest own i (T f).1 (T f).2.1 (T f).2.2.1 host ∈ lw_tbl) (hd : decode cc pc = .ok (.getfield i, 3)) (k : VW cc (own, rv, σo, ret, F, Lc, nL, tko) P σ (pc + 3) L (vI (gI σ o f) :: st)) : VW cc (own, rv, σo, ret, F, Lc, nL, tko) P σ pc L (vO o :: st) := by
  obtain ⟨k0, k⟩ := k
  refine And.intro k0 (fun M hX hR hM hN0 => ?_)
  have k := k M hX hR hM hN0
  obtain ⟨⟨p, l, e, R, s, m, args, below, meth, c⟩, G, A, Q, b, oo, nL0, l0, a0⟩ := M
  intro H locs a ls hP hD hS hl1 hj b1 b2
  have k := k H locs a ls hP hD hS hl1 hj b1 b2
  obtain ⟨hx, hb, hml, hown, hts, hK, hlk, hA, hRc, hRs, hNw⟩ := hX
  refine va_getN (D := G.1) (ci := ci) (v := dv a (vI (gI σ o f))) (C := C) (T := T) (N := N) (host := host) hx hb hts cf.2.2.2.1 hown hK hP o (vws_obj cf ho) cf.1 f hN (va_Nw.use rfl (hNw.1 _ (List.mem_filter.mpr ⟨hl, rfl⟩))) (fun _ h => h) ?_ hd k
  rw [range_at _ hN, vfv_I ho hf]
theorem v_putwN {x : vA} {t0 : FieldType} (cf : CF ci C T N ty) (ho : ok P o ci) (hN : f < N) (hl : Cond.fieldLinkNest own i (T f).1 (T f).2.1 (T f).2.2.1 host ∈ lw_tbl) (hd : decode cc pc = .ok (.putfield i, 3)) (hfin : (T f).2.2.2 = false) (ht : ty f = t0) (hn : ∀ a, narrow t0 (dv a x) = dv a x) (hft : ∀ a, fits t0 (dv a x) = true)
    (hτ : τ.2.1 = σ.2.1 ∧ τ.2.2 300 500 = σ.2.2 300 500) (h1 : ∀ (G : vG) (a : Nat → Nat), vfv G P τ a o f = dv a x) (h2 : ∀ (G : vG) (a : Nat → Nat) (j : Nat), j ≠ f → vfv G P τ a o j = vfv G P σ a o j) (h3 : ∀ (G : vG) (a : Nat → Nat) (j : Nat), j ≠ o → vent G P τ a j = vent G P σ a j)
    (k : VW cc (own, rv, σo, ret, F, Lc, nL, tko) P τ (pc + 3) L st) : VW cc (own, rv, σo, ret, F, Lc, nL, tko) P σ pc L (x :: vO o :: st) := by
  have ec : Pc P τ = Pc P σ := Pc_same (fun k => by rw [hτ.1]) hτ.2
  have es : Ps P τ = Ps P σ := Ps_same (fun k => by rw [hτ.1]) hτ.2
  obtain ⟨k0, k⟩ := k
  rw [ec, es] at k0
  refine And.intro k0 (fun M hX hR hM hN0 => ?_)
  have k := k M hX hR hM hN0
  obtain ⟨⟨p, l, e, R, s, m, args, below, meth, c⟩, G, A, Q, b, oo, nL0, l0, a0⟩ := M
  intro H locs a ls hP hD hS hl1 hj b1 b2
  obtain ⟨hx, hb, hml, hown, hts, hK, hlk, hA, hRc, hRs, hNw⟩ := hX
  refine va_putN (D := G.1) (ci := ci) (v := dv a x) (ty := t0) (C := C) (T := T) (N := N) (host := host) hx hb hts cf.2.2.2.1 ty cf.2.2.2.2.1 cf.2.2.2.2.2 hown hK hP hD hS o (vws_obj cf ho) cf.1 f hN (va_Nw.use rfl (hNw.1 _ (List.mem_filter.mpr ⟨hl, rfl⟩))) (fun _ h => h) hfin (ht ▸ cf.2.2.2.2.1 f hN) (hn a) (hft a) (by simp [hN]) hd (fun H1 locs1 hP1 hD1 hS1 => ?_)
  rw [vws_put cf ho hN (h1 G a) (h2 G a) (h3 G a)] at hP1 hD1
  have := k H1 locs1 a ls hP1 hD1 hS1 hl1 ⟨fun j hjK => by rw [hτ.1]; exact hj.1 j hjK, hj.2⟩ (by rw [ec]; exact b1) (by rw [es]; exact b2)
  rw [ec, es] at this
  exact this
theorem v_putIN {v : Int} (cf : CF ci C T N ty) (ho : ok P o ci) (hf : fk ci f = 0) (hN : f < N) (hl : Cond.fieldLinkNest own i (T f).1 (T f).2.1 (T f).2.2.1 host ∈ lw_tbl) (hd : decode cc pc = .ok (.putfield i, 3)) (hfin : (T f).2.2.2 = false) (ht : ty f = .int) (k : VW cc (own, rv, σo, ret, F, Lc, nL, tko) P (sI σ o f v) (pc + 3) L st) : VW cc (own, rv, σo, ret, F, Lc, nL, tko) P σ pc L (vI v :: vO o :: st) :=
  v_putwN (τ := sI σ o f v) cf ho hN hl hd hfin ht (fun _ => rfl) (fun _ => rfl) ⟨rfl, rfl⟩ (fun G a => by rw [vfv_I ho hf]; simp [gI, sI, dv, i32_w32]) (fun _ _ _ h => vfv_sI h) (fun _ _ _ h => vent_sI h) k
theorem v_putZN {v : Int} (cf : CF ci C T N ty) (ho : ok P o ci) (hf : fk ci f = 0) (hN : f < N) (hl : Cond.fieldLinkNest own i (T f).1 (T f).2.1 (T f).2.2.1 host ∈ lw_tbl) (hd : decode cc pc = .ok (.putfield i, 3)) (hfin : (T f).2.2.2 = false) (ht : ty f = .boolean) (hb : v = 0 ∨ v = 1) (k : VW cc (own, rv, σo, ret, F, Lc, nL, tko) P (sI σ o f v) (pc + 3) L st) : VW cc (own, rv, σo, ret, F, Lc, nL, tko) P σ pc L (vI v :: vO o :: st) :=
  v_putwN (τ := sI σ o f v) cf ho hN hl hd hfin ht (fun _ => by rcases hb with rfl | rfl <;> rfl) (fun _ => by rcases hb with rfl | rfl <;> rfl) ⟨rfl, rfl⟩ (fun G a => by rw [vfv_I ho hf]; simp [gI, sI, dv, i32_w32]) (fun _ _ _ h => vfv_sI h) (fun _ _ _ h => vent_sI h) k
end
/-! tables: static references stay among the static cells, and an array has one place -/
def ftOk : Bool := (List.range KF).all fun o => decide (14 ≤ kd o) || (List.range (nf (kd o))).all fun f => decide (fk (kd o) f ≠ 2) || decide (ft (kd o) f o < KF)
theorem ftOk_ok : ftOk = true := by decide +kernel
theorem ft_lt {o f : Nat} (ho : o < KF) (hk : kd o < 14) (hf : f < nf (kd o)) (h2 : fk (kd o) f = 2) : ft (kd o) f o < KF := by
  have h := ftOk_ok
  unfold ftOk at h
  have h1 := List.all_eq_true.mp h o (List.mem_range.mpr ho)
  simp only [Bool.or_eq_true, decide_eq_true_eq] at h1
  rcases h1 with h1 | h1
  · omega
  · have h3 := List.all_eq_true.mp h1 f (List.mem_range.mpr hf)
    simp only [Bool.or_eq_true, decide_eq_true_eq] at h3
    rcases h3 with h3 | h3
    · exact absurd h2 h3
    · exact h3
/-- whose field an array is: its object, its field -/
def ownOf (t : Nat) : List (Nat × Nat) := (List.range KF).flatMap fun o => if kd o < 14 then ((List.range (nf (kd o))).filter fun f => decide (fk (kd o) f = 2) && decide (ft (kd o) f o = t)).map fun f => (o, f) else []
def ownOk : Bool := (List.range KF).all fun t => decide (kd t < 14) || decide ((ownOf t).length ≤ 1)
theorem ownOk_ok : ownOk = true := by decide +kernel
theorem own_one {t o f o2 f2 : Nat} (ht : t < KF) (hk : 14 ≤ kd t) (ho : o < KF) (hko : kd o < 14) (hf : f < nf (kd o)) (h2 : fk (kd o) f = 2) (e : ft (kd o) f o = t) (ho2 : o2 < KF) (hko2 : kd o2 < 14) (hf2 : f2 < nf (kd o2)) (h22 : fk (kd o2) f2 = 2) (e2 : ft (kd o2) f2 o2 = t) : o2 = o ∧ f2 = f := by
  have h := List.all_eq_true.mp (show ((List.range KF).all fun t => decide (kd t < 14) || decide ((ownOf t).length ≤ 1)) = true from ownOk_ok) t (List.mem_range.mpr ht)
  simp only [Bool.or_eq_true, decide_eq_true_eq] at h
  have hl : (ownOf t).length ≤ 1 := by omega
  have m1 : ∀ {o f : Nat}, o < KF → kd o < 14 → f < nf (kd o) → fk (kd o) f = 2 → ft (kd o) f o = t → (o, f) ∈ ownOf t := by
    intro o f h1 h2 h3 h4 h5
    refine List.mem_flatMap.mpr ⟨o, List.mem_range.mpr h1, ?_⟩
    rw [if_pos h2]
    exact List.mem_map.mpr ⟨f, List.mem_filter.mpr ⟨List.mem_range.mpr h3, by simp [h4, h5]⟩, rfl⟩
  have a1 := m1 ho hko hf h2 e
  have a2 := m1 ho2 hko2 hf2 h22 e2
  match hq : ownOf t, hl with
  | [], _ => rw [hq] at a1; cases a1
  | [x], _ =>
    rw [hq] at a1 a2
    have e1 := List.mem_singleton.mp a1
    have e2 := List.mem_singleton.mp a2
    have e3 := e2.trans e1.symm
    simp at e3
    exact e3
