set_option maxRecDepth 100000
/-! V-LAYER 4: fields and arrays -/
/-- what the names say of a class -/
def CF (ci : Nat) (C : String) (T : u_T) (N : Nat) (ty : Nat → FieldType) : Prop := vcl[ci]? = some (C, T, N) ∧ nf ci = N ∧ ci < 14 ∧ (∀ w ∈ u_ws C T N, w ∈ lw_all) ∧ (∀ k, k < N → parseFieldDescriptor (T k).2.2.1 = some (ty k)) ∧ (∀ a, a < N → ∀ b, b < N → a ≠ b → (T a).2.1 ≠ (T b).2.1)
theorem cf1 : CF 0 RX1 TX1 17 tyX1 := ⟨rfl, rfl, by decide, in_X1, tyX1_ok, nmX1⟩
theorem cf2 : CF 1 RX2 TX2 2 tyX2 := ⟨rfl, rfl, by decide, in_X2, tyX2_ok, nmX2⟩
theorem cf3 : CF 2 RX3 TX3 8 tyX3 := ⟨rfl, rfl, by decide, in_X3, tyX3_ok, nmX3⟩
theorem cf4 : CF 3 RX4 TX4 6 tyX4 := ⟨rfl, rfl, by decide, in_X4, tyX4_ok, nmX4⟩
theorem cf5 : CF 4 RX5 TX5 5 tyX5 := ⟨rfl, rfl, by decide, in_X5, tyX5_ok, nmX5⟩
theorem cf6 : CF 5 RX6 TX6 25 tyX6 := ⟨rfl, rfl, by decide, in_X6, tyX6_ok, nmX6⟩
theorem cf7 : CF 6 RX7 TX7 2 tyX7 := ⟨rfl, rfl, by decide, in_X7, tyX7_ok, nmX7⟩
theorem cf8 : CF 7 RX8 TX8 10 tyX8 := ⟨rfl, rfl, by decide, in_X8, tyX8_ok, nmX8⟩
theorem cf9 : CF 8 RX9 TX9 4 tyX9 := ⟨rfl, rfl, by decide, in_X9, tyX9_ok, nmX9⟩
theorem cf10 : CF 9 RX10 TX10 2 tyX10 := ⟨rfl, rfl, by decide, in_X10, tyX10_ok, nmX10⟩
theorem cf11 : CF 10 RX11 TX11 4 tyX11 := ⟨rfl, rfl, by decide, in_X11, tyX11_ok, nmX11⟩
theorem cf12 : CF 11 RX12 TX12 15 tyX12 := ⟨rfl, rfl, by decide, in_X12, tyX12_ok, nmX12⟩
theorem cf13 : CF 12 RX13 TX13 30 tyX13 := ⟨rfl, rfl, by decide, in_X13, tyX13_ok, nmX13⟩
theorem cf14 : CF 13 RX14 TX14 163 tyX14 := ⟨rfl, rfl, by decide, in_X14, tyX14_ok, nmX14⟩
/-- a cell of a kind -/
def ok (P : vP) (o ci : Nat) : Prop := o < P.1 ∧ vkd P o = ci
section
variable {cc : ByteArray} {own : String} {rv : Option vA} {σo : vS} {ret : Option FieldType} {F Lc nL : Nat} {tko : List (Nat × Nat)} {P : vP} {σ τ : vS} {pc : Nat} {L : List (Nat × vA)} {st : List vA} {G : vG} {a : Nat → Nat} {o ci f i N : Nat} {C : String} {T : u_T} {ty : Nat → FieldType}
theorem vent_obj (cf : CF ci C T N ty) (ho : ok P o ci) : vent G P σ a o = .inr (ci, (List.range N).map (fun f => vfv G P σ a o f)) := by
  unfold vent
  rw [ho.2, cf.2.1, if_pos cf.2.2.1]
theorem vent_arr {t : Nat} (ho : ok P o t) (ht : 14 ≤ t) : vent G P σ a o = .inl (G.2.1 t, vac t G.2.2.2 (σ.2.1 o)) := by
  unfold vent
  rw [ho.2, if_neg (by omega)]
theorem vws_obj (cf : CF ci C T N ty) (ho : ok P o ci) : (vws G P σ a)[o]? = some (a o, .inr (ci, (List.range N).map (fun f => vfv G P σ a o f))) := by
  rw [vws_at G P σ a ho.1, vent_obj cf ho]
theorem vws_arr {t : Nat} (ho : ok P o t) (ht : 14 ≤ t) : (vws G P σ a)[o]? = some (a o, .inl (G.2.1 t, vac t G.2.2.2 (σ.2.1 o))) := by
  rw [vws_at G P σ a ho.1, vent_arr ho ht]
theorem vfv_I (ho : ok P o ci) (hf : fk ci f = 0) : vfv G P σ a o f = dv a (vI (gI σ o f)) := by
  unfold vfv gI
  rw [ho.2, hf]
  simp only [dv, i32_w32]
theorem vfv_L (ho : ok P o ci) (hf : fk ci f = 1) : vfv G P σ a o f = dv a (vL (gL σ o f)) := by
  unfold vfv gL
  rw [ho.2, hf]
  simp only [dv, i64_w64]
theorem vfv_S (ho : ok P o ci) (hf : fk ci f = 2) (hE : P.2.1 o f = true) : vfv G P σ a o f = dv a (vO (ft ci f o)) := by
  unfold vfv
  rw [ho.2, hf]
  simp only [dv, hE, if_true]
theorem vfv_R (ho : ok P o ci) (hf : fk ci f = 3) (h0 : gR σ o f ≠ 0 ∧ gR σ o f < KF ∧ kd (gR σ o f) < 14) : vfv G P σ a o f = dv a (vO (gR σ o f)) := by
  unfold vfv
  rw [ho.2, hf]
  unfold gR at *
  have h1 : ¬ (σ.2.2 o f = 0 ∨ KF ≤ σ.2.2 o f ∨ 14 ≤ kd (σ.2.2 o f)) := by omega
  simp only [dv, h1, if_false]
theorem range_at {β : Type} (g : Nat → β) {n k : Nat} (h : k < n) : ((List.range n).map g)[k]? = some (g k) := by simp [h]
/-- one cell of the world is another one -/
theorem vws_set {e : va_E} (hk : o < P.1) (he : vent G P τ a o = e) (hj : ∀ j, j ≠ o → vent G P τ a j = vent G P σ a j) : (vws G P σ a).set o (a o, e) = vws G P τ a := by
  apply List.ext_getElem?
  intro j
  by_cases hjo : j = o
  · subst hjo
    have hlen : j < (vws G P σ a).length := by simp [vws, hk]
    rw [List.getElem?_set_self hlen, vws_at G P τ a hk, he]
  · rw [List.getElem?_set_ne (fun q => hjo q.symm)]
    by_cases hjP : j < P.1
    · rw [vws_at G P σ a hjP, vws_at G P τ a hjP, hj j hjo]
    · rw [List.getElem?_eq_none (by simp [vws]; omega), List.getElem?_eq_none (by simp [vws]; omega)]
theorem fs_set {n k : Nat} {g h : Nat → Value} {v : Value} (hk : k < n) (h1 : h k = v) (h2 : ∀ j, j ≠ k → h j = g j) : ((List.range n).map g).set k v = (List.range n).map h := by
  apply List.ext_getElem?
  intro j
  by_cases hj : j = k
  · subst hj
    rw [List.getElem?_set_self (by simp [hk]), range_at h hk, h1]
  · rw [List.getElem?_set_ne (fun q => hj q.symm)]
    by_cases hn : j < n
    · rw [range_at g hn, range_at h hn, h2 j hj]
    · rw [List.getElem?_eq_none (by simp; omega), List.getElem?_eq_none (by simp; omega)]
theorem vws_put {v : Value} (cf : CF ci C T N ty) (ho : ok P o ci) (hf : f < N) (h1 : vfv G P τ a o f = v) (h2 : ∀ j, j ≠ f → vfv G P τ a o j = vfv G P σ a o j) (h3 : ∀ j, j ≠ o → vent G P τ a j = vent G P σ a j) : (vws G P σ a).set o (a o, .inr (ci, ((List.range N).map (fun f => vfv G P σ a o f)).set f v)) = vws G P τ a := by
  refine vws_set ho.1 ?_ h3
  rw [vent_obj cf ho, fs_set (h := fun f => vfv G P τ a o f) hf h1 h2]
/-- a getfield, by what the field holds -/
theorem v_getw {x : vA} (cf : CF ci C T N ty) (ho : ok P o ci) (hN : f < N) (hl : Cond.fieldLink own i (T f).1 (T f).2.1 (T f).2.2.1 ∈ lw_all) (hd : decode cc pc = .ok (.getfield i, 3)) (hv : ∀ (G : vG) (a : Nat → Nat), vfv G P σ a o f = dv a x) (k : VW cc (own, rv, σo, ret, F, Lc, nL, tko) P σ (pc + 3) L (x :: st)) : VW cc (own, rv, σo, ret, F, Lc, nL, tko) P σ pc L (vO o :: st) := by
  obtain ⟨k0, k⟩ := k
  refine And.intro k0 (fun M hX hR hM hN0 => ?_)
  have k := k M hX hR hM hN0
  obtain ⟨⟨p, l, e, R, s, m, args, below, meth, c⟩, G, A, Q, b, oo, nL0, l0, a0⟩ := M
  intro H locs a ls hP hD hS hl1 hj b1 b2
  have k := k H locs a ls hP hD hS hl1 hj b1 b2
  obtain ⟨hx, hb, hml, hown, hts, hK, -⟩ := hX
  refine va_get (D := G.1) (ci := ci) (v := dv a x) (C := C) (T := T) (N := N) hx hb hts cf.2.2.2.1 hown hK hP o (vws_obj cf ho) cf.1 f hN (hts _ hl) (fun _ h => h) ?_ hd k
  rw [range_at _ hN, hv G a]
theorem v_getI (cf : CF ci C T N ty) (ho : ok P o ci) (hf : fk ci f = 0) (hN : f < N) (hl : Cond.fieldLink own i (T f).1 (T f).2.1 (T f).2.2.1 ∈ lw_all) (hd : decode cc pc = .ok (.getfield i, 3)) (k : VW cc (own, rv, σo, ret, F, Lc, nL, tko) P σ (pc + 3) L (vI (gI σ o f) :: st)) : VW cc (own, rv, σo, ret, F, Lc, nL, tko) P σ pc L (vO o :: st) :=
  v_getw cf ho hN hl hd (fun _ _ => vfv_I ho hf) k
theorem v_getL (cf : CF ci C T N ty) (ho : ok P o ci) (hf : fk ci f = 1) (hN : f < N) (hl : Cond.fieldLink own i (T f).1 (T f).2.1 (T f).2.2.1 ∈ lw_all) (hd : decode cc pc = .ok (.getfield i, 3)) (k : VW cc (own, rv, σo, ret, F, Lc, nL, tko) P σ (pc + 3) L (vL (gL σ o f) :: st)) : VW cc (own, rv, σo, ret, F, Lc, nL, tko) P σ pc L (vO o :: st) :=
  v_getw cf ho hN hl hd (fun _ _ => vfv_L ho hf) k
theorem v_getS {t : Nat} (cf : CF ci C T N ty) (ho : ok P o ci) (hf : fk ci f = 2) (hE : P.2.1 o f = true) (ht : ft ci f o = t) (hN : f < N) (hl : Cond.fieldLink own i (T f).1 (T f).2.1 (T f).2.2.1 ∈ lw_all) (hd : decode cc pc = .ok (.getfield i, 3)) (k : VW cc (own, rv, σo, ret, F, Lc, nL, tko) P σ (pc + 3) L (vO t :: st)) : VW cc (own, rv, σo, ret, F, Lc, nL, tko) P σ pc L (vO o :: st) :=
  v_getw cf ho hN hl hd (fun _ _ => ht ▸ vfv_S ho hf hE) k
theorem v_getR (cf : CF ci C T N ty) (ho : ok P o ci) (hf : fk ci f = 3) (h0 : gR σ o f ≠ 0 ∧ gR σ o f < KF ∧ kd (gR σ o f) < 14) (hN : f < N) (hl : Cond.fieldLink own i (T f).1 (T f).2.1 (T f).2.2.1 ∈ lw_all) (hd : decode cc pc = .ok (.getfield i, 3)) (k : VW cc (own, rv, σo, ret, F, Lc, nL, tko) P σ (pc + 3) L (vO (gR σ o f) :: st)) : VW cc (own, rv, σo, ret, F, Lc, nL, tko) P σ pc L (vO o :: st) :=
  v_getw cf ho hN hl hd (fun _ _ => vfv_R ho hf h0) k
theorem sR_gh {σ : vS} {o f v : Nat} (h : f ≠ 500) : (sR σ o f v).2.2 300 500 = σ.2.2 300 500 := by
  show (if 300 = o ∧ 500 = f then v else σ.2.2 300 500) = _
  rw [if_neg (fun z => h z.2.symm)]
theorem nf_le (c : Nat) : nf c ≤ 163 := by
  unfold nf
  rcases Nat.lt_or_ge c 14 with h | h
  · have : ∀ c, c < 14 → nfT.getD c 0 ≤ 163 := by decide
    exact this c h
  · rw [List.getD_eq_getElem?_getD, List.getElem?_eq_none (by exact h)]
    exact Nat.zero_le _
theorem cf_ne {ci N f : Nat} {C : String} {T : u_T} {ty : Nat → FieldType} (cf : CF ci C T N ty) (hN : f < N) : f ≠ 500 := by
  have := nf_le ci
  rw [cf.2.1] at this
  omega
/-- a putfield, by what comes out of it -/
theorem v_putw {x : vA} {t0 : FieldType} (cf : CF ci C T N ty) (ho : ok P o ci) (hN : f < N) (hl : Cond.fieldLink own i (T f).1 (T f).2.1 (T f).2.2.1 ∈ lw_all) (hd : decode cc pc = .ok (.putfield i, 3)) (hfin : (T f).2.2.2 = false) (ht : ty f = t0) (hn : ∀ a, narrow t0 (dv a x) = dv a x) (hft : ∀ a, fits t0 (dv a x) = true)
    (hτ : τ.2.1 = σ.2.1 ∧ τ.2.2 300 500 = σ.2.2 300 500) (h1 : ∀ (G : vG) (a : Nat → Nat), vfv G P τ a o f = dv a x) (h2 : ∀ (G : vG) (a : Nat → Nat) (j : Nat), j ≠ f → vfv G P τ a o j = vfv G P σ a o j) (h3 : ∀ (G : vG) (a : Nat → Nat) (j : Nat), j ≠ o → vent G P τ a j = vent G P σ a j)
    (k : VW cc (own, rv, σo, ret, F, Lc, nL, tko) P τ (pc + 3) L st) : VW cc (own, rv, σo, ret, F, Lc, nL, tko) P σ pc L (x :: vO o :: st) := by
  have ec : Pc P τ = Pc P σ := Pc_same (fun k => by rw [hτ.1]) hτ.2
  have es : Ps P τ = Ps P σ := Ps_same (fun k => by rw [hτ.1]) hτ.2
  obtain ⟨k0, k⟩ := k
  rw [ec, es] at k0
  refine And.intro k0 (fun M hX hR hM hN0 => ?_)
  have k := k M hX hR hM hN0
  obtain ⟨⟨p, l, e, R, s, m, args, below, meth, c⟩, G, A, Q, b, oo, nL0, l0, a0⟩ := M
  intro H locs a ls hP hD hS hl1 hj b1 b2
  obtain ⟨hx, hb, hml, hown, hts, hK, -⟩ := hX
  refine va_put (D := G.1) (ci := ci) (v := dv a x) (ty := t0) (C := C) (T := T) (N := N) hx hb hts cf.2.2.2.1 ty cf.2.2.2.2.1 cf.2.2.2.2.2 hown hK hP hD hS o (vws_obj cf ho) cf.1 f hN (hts _ hl) (fun _ h => h) hfin (ht ▸ cf.2.2.2.2.1 f hN) (hn a) (hft a) (by simp [hN]) hd (fun H1 locs1 hP1 hD1 hS1 => ?_)
  rw [vws_put cf ho hN (h1 G a) (h2 G a) (h3 G a)] at hP1 hD1
  have := k H1 locs1 a ls hP1 hD1 hS1 hl1 ⟨fun j hjK => by rw [hτ.1]; exact hj.1 j hjK, hj.2⟩ (by rw [ec]; exact b1) (by rw [es]; exact b2)
  rw [ec, es] at this
  exact this
theorem vent_sI {v : Int} {j : Nat} (h : j ≠ o) : vent G P (sI σ o f v) a j = vent G P σ a j := by
  unfold vent vfv sI
  simp [h]
theorem vfv_sI {v : Int} {j : Nat} (h : j ≠ f) : vfv G P (sI σ o f v) a o j = vfv G P σ a o j := by
  unfold vfv sI
  simp [h]
theorem vent_sR {v j : Nat} (h : j ≠ o) : vent G P (sR σ o f v) a j = vent G P σ a j := by
  unfold vent vfv sR
  simp [h]
theorem vfv_sR {v j : Nat} (h : j ≠ f) : vfv G P (sR σ o f v) a o j = vfv G P σ a o j := by
  unfold vfv sR
  simp [h]
theorem v_putI {v : Int} (cf : CF ci C T N ty) (ho : ok P o ci) (hf : fk ci f = 0) (hN : f < N) (hl : Cond.fieldLink own i (T f).1 (T f).2.1 (T f).2.2.1 ∈ lw_all) (hd : decode cc pc = .ok (.putfield i, 3)) (hfin : (T f).2.2.2 = false) (ht : ty f = .int) (k : VW cc (own, rv, σo, ret, F, Lc, nL, tko) P (sI σ o f v) (pc + 3) L st) : VW cc (own, rv, σo, ret, F, Lc, nL, tko) P σ pc L (vI v :: vO o :: st) :=
  v_putw (τ := sI σ o f v) cf ho hN hl hd hfin ht (fun _ => rfl) (fun _ => rfl) ⟨rfl, rfl⟩ (fun G a => by rw [vfv_I ho hf]; simp [gI, sI, dv, i32_w32]) (fun _ _ _ h => vfv_sI h) (fun _ _ _ h => vent_sI h) k
theorem v_putZ {v : Int} (cf : CF ci C T N ty) (ho : ok P o ci) (hf : fk ci f = 0) (hN : f < N) (hl : Cond.fieldLink own i (T f).1 (T f).2.1 (T f).2.2.1 ∈ lw_all) (hd : decode cc pc = .ok (.putfield i, 3)) (hfin : (T f).2.2.2 = false) (ht : ty f = .boolean) (hb : v = 0 ∨ v = 1) (k : VW cc (own, rv, σo, ret, F, Lc, nL, tko) P (sI σ o f v) (pc + 3) L st) : VW cc (own, rv, σo, ret, F, Lc, nL, tko) P σ pc L (vI v :: vO o :: st) :=
  v_putw (τ := sI σ o f v) cf ho hN hl hd hfin ht (fun _ => by rcases hb with rfl | rfl <;> rfl) (fun _ => by rcases hb with rfl | rfl <;> rfl) ⟨rfl, rfl⟩ (fun G a => by rw [vfv_I ho hf]; simp [gI, sI, dv, i32_w32]) (fun _ _ _ h => vfv_sI h) (fun _ _ _ h => vent_sI h) k
theorem v_putL {v : Int} (cf : CF ci C T N ty) (ho : ok P o ci) (hf : fk ci f = 1) (hN : f < N) (hl : Cond.fieldLink own i (T f).1 (T f).2.1 (T f).2.2.1 ∈ lw_all) (hd : decode cc pc = .ok (.putfield i, 3)) (hfin : (T f).2.2.2 = false) (ht : ty f = .long) (k : VW cc (own, rv, σo, ret, F, Lc, nL, tko) P (sI σ o f v) (pc + 3) L st) : VW cc (own, rv, σo, ret, F, Lc, nL, tko) P σ pc L (vL v :: vO o :: st) :=
  v_putw (τ := sI σ o f v) cf ho hN hl hd hfin ht (fun _ => rfl) (fun _ => rfl) ⟨rfl, rfl⟩ (fun G a => by rw [vfv_L ho hf]; simp [gL, sI, dv, i64_w64]) (fun _ _ _ h => vfv_sI h) (fun _ _ _ h => vent_sI h) k
theorem v_putR {v : Nat} {D : String} (cf : CF ci C T N ty) (ho : ok P o ci) (hf : fk ci f = 3) (h0 : v ≠ 0 ∧ v < KF ∧ kd v < 14) (hN : f < N) (hl : Cond.fieldLink own i (T f).1 (T f).2.1 (T f).2.2.1 ∈ lw_all) (hd : decode cc pc = .ok (.putfield i, 3)) (hfin : (T f).2.2.2 = false) (ht : ty f = .object D) (k : VW cc (own, rv, σo, ret, F, Lc, nL, tko) P (sR σ o f v) (pc + 3) L st) : VW cc (own, rv, σo, ret, F, Lc, nL, tko) P σ pc L (vO v :: vO o :: st) :=
  v_putw (τ := sR σ o f v) cf ho hN hl hd hfin ht (fun _ => rfl) (fun _ => rfl) ⟨rfl, sR_gh (cf_ne cf hN)⟩ (fun G a => by rw [vfv_R ho hf (by simp [gR, sR]; exact h0)]; simp [gR, sR, dv]) (fun _ _ _ h => vfv_sR h) (fun _ _ _ h => vent_sR h) k
/-! arrays -/
theorem cl_of {i : Int} (hi : rg i) (h0 : 0 ≤ i) : (Int32.ofInt i).toNatClampNeg = i.toNat := by
  rw [Int32.toNatClampNeg, i32_toInt, w32_id hi]
theorem vin_of {i : Int} {n : Nat} (hi : rg i) (h0 : 0 ≤ i) (h : i < n) : vp_in (Int32.ofInt i) n := by
  unfold vp_in
  rw [cl_of hi h0]
  rintro (q | q)
  · rw [show (0 : Int32) = Int32.ofInt 0 from rfl, i32_lt hi rg_0] at q
    omega
  · omega
theorem vac_24 (sa : Nat → Nat) (x : Nat × (Int → Int)) : vac 24 sa x = (x.1, .inl (fun j => Int32.ofInt (x.2 j))) := rfl
theorem vac_25 (sa : Nat → Nat) (x : Nat × (Int → Int)) : vac 25 sa x = (x.1, .inl (fun j => Int32.ofInt (n8 (x.2 j)))) := rfl
theorem vac_26 (sa : Nat → Nat) (x : Nat × (Int → Int)) : vac 26 sa x = (x.1, .inl (fun j => Int32.ofInt (bz (x.2 j)))) := rfl
theorem vac_27 (sa : Nat → Nat) (x : Nat × (Int → Int)) : vac 27 sa x = (x.1, .inr (.inl (fun j => Int64.ofInt (x.2 j)))) := rfl
theorem v_iald {j : Int} (ho : ok P o 24) (hj : rg j) (h0 : 0 ≤ j) (h1 : j < gN σ o) (hd : decode cc pc = .ok (.iaload, 1)) (k : VW cc (own, rv, σo, ret, F, Lc, nL, tko) P σ (pc + 1) L (vI (gE σ o j) :: st)) : VW cc (own, rv, σo, ret, F, Lc, nL, tko) P σ pc L (vI j :: vO o :: st) := by
  obtain ⟨k0, k⟩ := k
  refine And.intro k0 (fun M hX hR hM hN0 => ?_)
  have k := k M hX hR hM hN0
  obtain ⟨⟨p, l, e, R, s, m, args, below, meth, c⟩, G, A, Q, b, oo, nL0, l0, a0⟩ := M
  intro H locs a ls hP hD hS hl1 hj1 b1 b2
  have k := k H locs a ls hP hD hS hl1 hj1 b1 b2
  obtain ⟨hx, hb, hml, hown, hts, hK, -⟩ := hX
  refine va_iald (D := G.1) hx hb hK hP o 0 (vws_arr ho (by decide)) rfl (vin_of hj h0 h1) hd ?_
  rw [cl_of hj h0]
  have e1 : ((j.toNat : Nat) : Int) = j := by omega
  rw [e1, ← i32_w32]
  exact k
theorem v_bald {j : Int} (ho : ok P o 25) (hj : rg j) (h0 : 0 ≤ j) (h1 : j < gN σ o) (hd : decode cc pc = .ok (.baload, 1)) (k : VW cc (own, rv, σo, ret, F, Lc, nL, tko) P σ (pc + 1) L (vI (gB σ o j) :: st)) : VW cc (own, rv, σo, ret, F, Lc, nL, tko) P σ pc L (vI j :: vO o :: st) := by
  obtain ⟨k0, k⟩ := k
  refine And.intro k0 (fun M hX hR hM hN0 => ?_)
  have k := k M hX hR hM hN0
  obtain ⟨⟨p, l, e, R, s, m, args, below, meth, c⟩, G, A, Q, b, oo, nL0, l0, a0⟩ := M
  intro H locs a ls hP hD hS hl1 hj1 b1 b2
  have k := k H locs a ls hP hD hS hl1 hj1 b1 b2
  obtain ⟨hx, hb, hml, hown, hts, hK, -⟩ := hX
  refine va_bald (D := G.1) hx hb hK hP o 1 (vws_arr ho (by decide)) rfl (vin_of hj h0 h1) hd ?_
  rw [cl_of hj h0]
  have e1 : ((j.toNat : Nat) : Int) = j := by omega
  rw [e1]
  exact k
theorem v_zald {j : Int} (ho : ok P o 26) (hj : rg j) (h0 : 0 ≤ j) (h1 : j < gN σ o) (hd : decode cc pc = .ok (.baload, 1)) (k : VW cc (own, rv, σo, ret, F, Lc, nL, tko) P σ (pc + 1) L (vI (gZ σ o j) :: st)) : VW cc (own, rv, σo, ret, F, Lc, nL, tko) P σ pc L (vI j :: vO o :: st) := by
  obtain ⟨k0, k⟩ := k
  refine And.intro k0 (fun M hX hR hM hN0 => ?_)
  have k := k M hX hR hM hN0
  obtain ⟨⟨p, l, e, R, s, m, args, below, meth, c⟩, G, A, Q, b, oo, nL0, l0, a0⟩ := M
  intro H locs a ls hP hD hS hl1 hj1 b1 b2
  have k := k H locs a ls hP hD hS hl1 hj1 b1 b2
  obtain ⟨hx, hb, hml, hown, hts, hK, -⟩ := hX
  refine va_zald (D := G.1) hx hb hK hP o 2 (vws_arr ho (by decide)) rfl (vin_of hj h0 h1) hd ?_
  rw [cl_of hj h0]
  have e1 : ((j.toNat : Nat) : Int) = j := by omega
  rw [e1]
  exact k
theorem v_lald {j : Int} (ho : ok P o 27) (hj : rg j) (h0 : 0 ≤ j) (h1 : j < gN σ o) (hd : decode cc pc = .ok (.laload, 1)) (k : VW cc (own, rv, σo, ret, F, Lc, nL, tko) P σ (pc + 1) L (vL (gEL σ o j) :: st)) : VW cc (own, rv, σo, ret, F, Lc, nL, tko) P σ pc L (vI j :: vO o :: st) := by
  obtain ⟨k0, k⟩ := k
  refine And.intro k0 (fun M hX hR hM hN0 => ?_)
  have k := k M hX hR hM hN0
  obtain ⟨⟨p, l, e, R, s, m, args, below, meth, c⟩, G, A, Q, b, oo, nL0, l0, a0⟩ := M
  intro H locs a ls hP hD hS hl1 hj1 b1 b2
  have k := k H locs a ls hP hD hS hl1 hj1 b1 b2
  obtain ⟨hx, hb, hml, hown, hts, hK, -⟩ := hX
  refine va_lald (D := G.1) hx hb hK hP o 3 (vws_arr ho (by decide)) rfl (vin_of hj h0 h1) hd ?_
  rw [cl_of hj h0]
  have e1 : ((j.toNat : Nat) : Int) = j := by omega
  rw [e1, ← i64_w64]
  exact k
end
