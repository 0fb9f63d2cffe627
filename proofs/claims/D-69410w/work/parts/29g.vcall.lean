set_option maxRecDepth 100000
/-! V-LAYER 24: constructors: references set, texts in an array, calls of constructors -/
theorem vlnk_of {G : vG} {a a0 : Nat → Nat} {A : Nat → Prop} {l : Launch} {s : State} (hab : ∀ k : Nat, 1000 ≤ k → a k = a0 k) (h : VN G a0 A l s s.heap) : vlnk G a := h.2.2.1.addr hab
section
variable {cc bytes : ByteArray} {own : String} {rv : Option vA} {σo : vS} {ret : Option FieldType} {F Lc nL rf rl maxL i : Nat} {tko : List (Nat × Nat)} {K : Nat} {E : Nat → Nat → Bool} {σ : vS} {pc : Nat} {L : List (Nat × vA)} {st stk av : List vA} {y : MethodName} {G : vG} {a : Nat → Nat} {o ci f N : Nat} {C : String} {T : u_T} {ty : Nat → FieldType}
theorem vfv_eS {o' f' : Nat} (h : ¬ (o' = o ∧ f' = f)) : vfv G (pK K (eS E o f)) σ a o' f' = vfv G (pK K E) σ a o' f' := by
  unfold vfv
  have e : (pK K (eS E o f)).2.1 o' f' = (pK K E).2.1 o' f' := eS_ne h
  have e2 : vkd (pK K (eS E o f)) o' = vkd (pK K E) o' := rfl
  rw [e, e2]
theorem vws_eS {v : Value} (cf : CF ci C T N ty) (ho : ok (pK K E) o ci) (hf : f < N) (h1 : vfv G (pK K (eS E o f)) σ a o f = v) : (vws G (pK K E) σ a).set o (a o, .inr (ci, ((List.range N).map (fun f => vfv G (pK K E) σ a o f)).set f v)) = vws G (pK K (eS E o f)) σ a := by
  have ho2 : ok (pK K (eS E o f)) o ci := ho
  apply List.ext_getElem?
  intro j
  by_cases hjo : j = o
  · subst hjo
    have hlen : j < (vws G (pK K E) σ a).length := by simp [vws]; exact ho.1
    rw [List.getElem?_set_self hlen, vws_at G (pK K (eS E j f)) σ a ho.1, vent_obj cf ho2, fs_set (h := fun f' => vfv G (pK K (eS E j f)) σ a j f') hf h1 (fun q hq => vfv_eS (by omega))]
  · rw [List.getElem?_set_ne (fun q => hjo q.symm)]
    by_cases hjP : j < K
    · rw [vws_at G _ σ a (show j < (pK K E).1 from hjP), vws_at G _ σ a (show j < (pK K (eS E o f)).1 from hjP)]
      have e2 : vkd (pK K (eS E o f)) j = vkd (pK K E) j := rfl
      congr 2
      unfold vent
      rw [e2]
      have e3 : ∀ q, vfv G (pK K (eS E o f)) σ a j q = vfv G (pK K E) σ a j q := fun q => vfv_eS (by omega)
      simp only [e3]
    · rw [List.getElem?_eq_none (by simp [vws]; omega), List.getElem?_eq_none (by simp [vws]; omega)]
/-- a static reference is set -/
theorem v_putE {x : vA} {t0 : FieldType} (cf : CF ci C T N ty) (hK : K ≤ 199) (ho : o < K) (hk : kd o = ci) (hN : f < N) (hl : Cond.fieldLink own i (T f).1 (T f).2.1 (T f).2.2.1 ∈ lw_all) (hd : decode cc pc = .ok (.putfield i, 3)) (hfin : (T f).2.2.2 = false ∨ ((T f).2.2.2 = true ∧ (T f).1 = own ∧ rvC rv = true ∧ rvT rv = false ∧ rvH rv = false ∧ rvL rv = false)) (ht : ty f = t0) (hn : ∀ a, narrow t0 (dv a x) = dv a x) (hft : ∀ a, fits t0 (dv a x) = true)
    (h1 : ∀ (G : vG) (a : Nat → Nat), vlnk G a → vfv G (pK K (eS E o f)) σ a o f = dv a x)
    (k : VW cc (own, rv, σo, ret, F, Lc, nL, tko) (pK K (eS E o f)) σ (pc + 3) L st) : VW cc (own, rv, σo, ret, F, Lc, nL, tko) (pK K E) σ pc L (x :: vO o :: st) := by
  have ho1 : ok (pK K E) o ci := ok_K hK ho hk
  obtain ⟨k0, k⟩ := k
  refine And.intro k0 (fun M hX hR hM hN0 => ?_)
  have k := k M hX hR hM hN0
  obtain ⟨⟨p, l, e, R, s, m, args, below, meth, c⟩, G, A, Q, b, oo, nL0, l0, a0⟩ := M
  intro H locs a ls hP hD hS hl1 hj b1 b2
  obtain ⟨hx, hb, hml, hown, hts, hKn, hlk, hA, hRc, hRs, hNw⟩ := hX
  have hv := h1 G a (vlnk_of hj.2 hNw)
  rcases hfin with hfin | ⟨hfin, hdecl, hC, hT, hH, hL⟩
  · refine va_put (D := G.1) (ci := ci) (v := dv a x) (ty := t0) (C := C) (T := T) (N := N) hx hb hts cf.2.2.2.1 ty cf.2.2.2.2.1 cf.2.2.2.2.2 hown hKn hP hD hS o (vws_obj cf ho1) cf.1 f hN (hts _ hl) (fun _ h => h) hfin (ht ▸ cf.2.2.2.2.1 f hN) (hn a) (hft a) (by simp [hN]) hd (fun H1 locs1 hP1 hD1 hS1 => ?_)
    rw [vws_eS cf ho1 hN hv] at hP1 hD1
    exact k H1 locs1 a ls hP1 hD1 hS1 hl1 hj b1 b2
  · obtain ⟨σ0, hq1, hq2, hoo, hq3, hq4⟩ := hR
    rw [hT, hH, hL, hC] at hq4
    refine va_putF (D := G.1) (ci := ci) (v := dv a x) (ty := t0) (C := C) (T := T) (N := N) hx hb hts cf.2.2.2.1 ty cf.2.2.2.2.1 cf.2.2.2.2.2 hown hKn hP hD hS o (vws_obj cf ho1) cf.1 f hN (hts _ hl) (fun _ h => h) hfin hq4.1 hdecl (ht ▸ cf.2.2.2.2.1 f hN) (hn a) (hft a) (by simp [hN]) hd (fun H1 locs1 hP1 hD1 hS1 => ?_)
    rw [vws_eS cf ho1 hN hv] at hP1 hD1
    exact k H1 locs1 a ls hP1 hD1 hS1 hl1 hj b1 b2
theorem v_putS {t : Nat} {t0 : FieldType} (cf : CF ci C T N ty) (hK : K ≤ 199) (ho : o < K) (hk : kd o = ci) (hf : fk ci f = 2) (hft9 : ft ci f o = t) (hN : f < N) (hl : Cond.fieldLink own i (T f).1 (T f).2.1 (T f).2.2.1 ∈ lw_all) (hd : decode cc pc = .ok (.putfield i, 3)) (hfin : (T f).2.2.2 = false ∨ ((T f).2.2.2 = true ∧ (T f).1 = own ∧ rvC rv = true ∧ rvT rv = false ∧ rvH rv = false ∧ rvL rv = false)) (ht : ty f = t0) (hn : ∀ a, narrow t0 (dv a (vO t)) = dv a (vO t)) (hft : ∀ a, fits t0 (dv a (vO t)) = true)
    (k : VW cc (own, rv, σo, ret, F, Lc, nL, tko) (pK K (eS E o f)) σ (pc + 3) L st) : VW cc (own, rv, σo, ret, F, Lc, nL, tko) (pK K E) σ pc L (vO t :: vO o :: st) :=
  v_putE cf hK ho hk hN hl hd hfin ht hn hft (fun G a _ => by rw [vfv_S (ok_K hK ho hk) hf eS_at, hft9]) k
/-- the signs' text -/
theorem v_putT {t0 : FieldType} (cf : CF 2 C T N ty) (hK : K ≤ 199) (ho : 5 < K) (hN : 0 < N) (hl : Cond.fieldLink own i (T 0).1 (T 0).2.1 (T 0).2.2.1 ∈ lw_all) (hd : decode cc pc = .ok (.putfield i, 3)) (hfin : (T 0).2.2.2 = false ∨ ((T 0).2.2.2 = true ∧ (T 0).1 = own ∧ rvC rv = true ∧ rvT rv = false ∧ rvH rv = false ∧ rvL rv = false)) (ht : ty 0 = t0) (hn : ∀ a, narrow t0 (dv a (vO 1077)) = dv a (vO 1077)) (hft : ∀ a, fits t0 (dv a (vO 1077)) = true)
    (k : VW cc (own, rv, σo, ret, F, Lc, nL, tko) (pK K (eS E 5 0)) σ (pc + 3) L st) : VW cc (own, rv, σo, ret, F, Lc, nL, tko) (pK K E) σ pc L (vO 1077 :: vO 5 :: st) :=
  v_putE cf hK ho rfl hN hl hd hfin ht hn hft (fun G a hG => by
    unfold vfv
    have e : vkd (pK K (eS E 5 0)) 5 = 2 := by rw [vkd_K _ _ (by omega)]; rfl
    rw [e]
    show (if eS E 5 0 5 0 = true then G.2.2.1 5 0 else .null) = _
    rw [if_pos eS_at, hG.2]
    rfl) k
/-- an array of texts -/
theorem v_newQ {n : Int} (hcl : Cond.classLink own i "java/lang/String" ∈ lw_all) (hz : Zr K E σ) (hg : gw rv σo K) (hK : K < 199) (hk : kd K = 28) (hn : rg n) (h0 : 0 ≤ n) (hm : n ≤ 100000) (hL : LK K (L.map (fun q => q.2))) (hs : LK K st) (hd : decode cc pc = .ok (.anewarray i, 3))
    (k : VW cc (own, rv, σo, ret, F, Lc, nL, tko) (pK (K + 1) E) (sA σ K (n.toNat, fun _ => 0)) (pc + 3) L (vO K :: st)) : VW cc (own, rv, σo, ret, F, Lc, nL, tko) (pK K E) σ pc L (vI n :: st) := by
  obtain ⟨ec, es⟩ := Pc_push (E := E) (σ := σ) (τ := sA σ K (n.toNat, fun _ => 0)) hK (fun k hk => by rw [sA_ne _ _ _ (by omega)]) rfl
  rw [if_neg (by omega), sA_at] at ec es
  have hlc : 1 ≤ lgc n.toNat := by unfold lgc; omega
  simp only at ec es
  obtain ⟨k0, k⟩ := k
  rw [ec, es] at k0
  refine And.intro ⟨by omega, by omega, k0.2.2⟩ (fun M hX hR hM hN0 => ?_)
  have h00 := gw_0 hR hg hK
  have k := k M hX hR hM hN0
  obtain ⟨⟨p, l, e, R, s, m, args, below, meth, c⟩, G, A, Q, b, oo, nL0, l0, a0⟩ := M
  have h00 : l0 K = 0 := h00
  intro H locs a ls hP hD hS hl1 hj b1 b2
  obtain ⟨hx, hb, hml, hown, hts, hKn, hlk, hA, hRc, hRs, hNw⟩ := hX
  obtain ⟨σ0, hq1, hq2, ho, hq3, hq4⟩ := hR
  have ho1 : oo.1 = Pc (P0 tko) σo := by rw [ho]
  have ho2 : oo.2 = Ps (P0 tko) σo := by rw [ho]
  rw [ho1] at hRc
  rw [ho2] at hRs
  refine va_newq (D := G.1) (N' := n.toNat) hx hb hown (hts _ hcl) hNw.2.2.2.2.2.2.2.2 hKn hP hD hS hA ?_ (cl_of hn h0) (by omega) (by omega) (by omega) hd (fun q cA H1 hK1 hP1 hD1 hS1 => ?_)
  · rw [show (0 : Int32) = Int32.ofInt 0 from rfl, i32_lt hn rg_0]
    omega
  · have hcA : cA = G.2.1 28 := by
      obtain ⟨_, _, _, _, _, e1⟩ := (hKn.2 4 (G.2.1 28, .object "java/lang/String") rfl).2
      obtain ⟨_, _, _, _, _, e2⟩ := (hK1.2 (vtys G).length (cA, .object "java/lang/String") (by simp)).2
      exact Option.some.inj (e2.symm.trans e1)
    subst hcA
    have he : vent G (pK (K + 1) E) (sA σ K (n.toNat, fun _ => 0)) (aS a K q) K = .inl (G.2.1 28, n.toNat, .inr (.inr (.inr (.inr (fun _ => none))))) := by
      rw [vent_arr (ok_K (by omega) (by omega) hk) (by omega), sA_at]
      unfold vac
      rw [if_neg (by decide), if_pos rfl]
      congr 5
    rw [← vws_push (τ := sA σ K (n.toNat, fun _ => 0)) hK hz rfl (fun k hk => sA_ne _ _ _ (by omega)) rfl he] at hP1 hD1
    have k := k H1 locs (aS a K q) ls hP1 hD1 hS1 (by rw [LK_dvl (LK_aS hK) L hL]; exact hl1) (vJ_new hK h00 hj (fun k hk => by rw [sA_ne _ _ _ hk])) (by rw [ec]; omega) (by rw [es]; omega)
    rw [ec, es] at k
    rw [← LK_dv (LK_aS (a := a) (q := q) hK) st hs]
    have e9 : (List.map (dv (aS a K q)) (vO K :: st)) = Value.ref q :: List.map (dv (aS a K q)) st := by
      rw [List.map_cons]
      show Value.ref (aS a K q K) :: _ = _
      rw [aS_at]
    rw [e9] at k
    exact W.widen (by omega) (by omega) k
theorem v_aastS {P : vP} {j : Int} {t : Nat} (ho : ok P o 28) (hj : rg j) (h0 : 0 ≤ j) (h1 : j < gN σ o) (h7 : j < 77) (ht : t = 1000 + j.toNat) (hd : decode cc pc = .ok (.aastore, 1)) (k : VW cc (own, rv, σo, ret, F, Lc, nL, tko) P (sE σ o j 1) (pc + 1) L st) : VW cc (own, rv, σo, ret, F, Lc, nL, tko) P σ pc L (vO t :: vI j :: vO o :: st) := by
  have ec : Pc P (sE σ o j 1) = Pc P σ := Pc_same (sE_len σ o j 1)
  have es : Ps P (sE σ o j 1) = Ps P σ := Ps_same (sE_len σ o j 1)
  obtain ⟨k0, k⟩ := k
  rw [ec, es] at k0
  refine And.intro k0 (fun M hX hR hM hN0 => ?_)
  have k := k M hX hR hM hN0
  obtain ⟨⟨p, l, e, R, s, m, args, below, meth, c⟩, G, A, Q, b, oo, nL0, l0, a0⟩ := M
  intro H locs a ls hP hD hS hl1 hj1 b1 b2
  obtain ⟨hx, hb, hml, hown, hts, hK, hlk, hA, hRc, hRs, hNw⟩ := hX
  have hq := (((hNw.2.1.addr hj1.2).kept hS.2.1).1 j.toNat (by omega)).1
  have hlnk : G.2.2.2 j.toNat = a (1000 + j.toNat) := (vlnk_of hj1.2 hNw).1 j.toNat (by omega)
  obtain ⟨cellV, c1, c2, c3, -⟩ := hq
  have hws := vws_arr (G := G) (σ := σ) (a := a) ho (by decide)
  have hv28 : vac 28 G.2.2.2 (σ.2.1 o) = ((σ.2.1 o).1, .inr (.inr (.inr (.inr (fun j => if w32 ((σ.2.1 o).2 j) = 1 then some (G.2.2.2 j) else none))))) := by
    unfold vac
    rw [if_neg (by decide), if_pos rfl]
  rw [hv28] at hws
  have e9 : List.map (dv a) (vO t :: vI j :: vO o :: st) = .ref (a (1000 + j.toNat)) :: .int (Int32.ofInt j) :: .ref (a o) :: st.map (dv a) := by subst ht; rfl
  rw [e9]
  refine vb_astq (D := G.1) (E := "java/lang/String") (C := "java/lang/String") hx hb hK hP hD hS o 4 hws rfl ⟨cellV, c1, c2, c3⟩ vb_asgS (vin_of hj h0 h1) hd (fun H1 locs1 hP1 hD1 hS1 => ?_)
  have he : vent G P (sE σ o j 1) a o = .inl (G.2.1 28, (σ.2.1 o).1, .inr (.inr (.inr (.inr (va_up (fun j => if w32 ((σ.2.1 o).2 j) = 1 then some (G.2.2.2 j) else none) (Int32.ofInt j).toNatClampNeg (some (a (1000 + j.toNat)))))))) := by
    rw [vent_arr ho (by decide)]
    unfold vac
    rw [if_neg (by decide), if_pos rfl]
    congr 2
    show (_, _) = (_, _)
    simp only [sE, sA_at]
    congr 5
    funext q
    rw [cl_of hj h0]
    unfold uE va_up
    by_cases hq : q = j.toNat
    · have hq2 : (q : Int) = j := by omega
      rw [if_pos hq2, if_pos hq, if_pos (by decide), hq, hlnk]
    · have hq2 : ¬ (q : Int) = j := by omega
      rw [if_neg hq2, if_neg hq]
  rw [vws_set ho.1 he (fun j2 h2 => vent_sA h2)] at hP1 hD1
  have := k H1 locs1 a ls hP1 hD1 hS1 hl1 ⟨fun q hq => by rw [sE_len]; exact hj1.1 q hq, hj1.2⟩ (by rw [ec]; exact b1) (by rw [es]; exact b2)
  rw [ec, es] at this
  exact this
/-- every static reference is set: the whole world -/
def eAll (E : Nat → Nat → Bool) : Bool := (List.range 199).all fun o => decide (14 ≤ kd o) || (List.range (nf (kd o))).all fun f => decide (fk (kd o) f = 0) || decide (fk (kd o) f = 1) || decide (fk (kd o) f = 3) || E o f
theorem vws_full (h : eAll E = true) : vws G (pK 199 E) σ a = vws G (P0 []) σ a := by
  unfold vws
  refine List.map_congr_left (fun k hk => ?_)
  have hk : k < 199 := List.mem_range.mp hk
  have h1 := List.all_eq_true.mp h k (List.mem_range.mpr hk)
  congr 1
  unfold vent
  rw [vkd_K _ E hk, vkd_P0 _ (show k < KF from hk)]
  by_cases z : kd k < 14
  · rw [if_pos z, if_pos z]
    congr 2
    refine List.map_congr_left (fun f hf => ?_)
    simp only [Bool.or_eq_true, decide_eq_true_eq] at h1
    rcases h1 with h1 | h1
    · omega
    · have h2 := List.all_eq_true.mp h1 f hf
      simp only [Bool.or_eq_true, decide_eq_true_eq] at h2
      unfold vfv
      rw [vkd_K _ E hk, vkd_P0 _ (show k < KF from hk)]
      rcases h2 with ((h2 | h2) | h2) | h2
      · rw [h2]; rfl
      · rw [h2]; rfl
      · rw [h2]; rfl
      · generalize fk (kd k) f = w
        match w with
        | 0 => rfl
        | 1 => rfl
        | 2 => show (if E k f = true then _ else _) = (if true = true then _ else _); rw [if_pos h2, if_pos rfl]
        | 3 => rfl
        | w + 4 => show (if E k f = true then _ else _) = (if true = true then _ else _); rw [if_pos h2, if_pos rfl]
  · rw [if_neg z, if_neg z]
theorem v_full (h : eAll E = true) (k : VW cc (own, rv, σo, ret, F, Lc, nL, tko) (P0 []) σ pc L st) : VW cc (own, rv, σo, ret, F, Lc, nL, tko) (pK 199 E) σ pc L st := by
  obtain ⟨k0, k⟩ := k
  refine And.intro k0 (fun M hX hR hM hN0 => ?_)
  have k := k M hX hR hM hN0
  obtain ⟨⟨p, l, e, R, s, m, args, below, meth, c⟩, G, A, Q, b, oo, nL0, l0, a0⟩ := M
  intro H locs a ls hP hD hS hl1 hj b1 b2
  rw [vws_full h] at hP hD
  exact k H locs a ls hP hD hS hl1 hj b1 b2
end
