set_option maxRecDepth 100000
/-! V-LAYER 23: constructors' rows -/
abbrev cB (own : String) (σ' : vS) (F Lc nL : Nat) : vB := (own, some (vV (.float 0)), σ', none, F, Lc, nL, [])
def vpreC (l : Launch) (G : vG) (P : vP) (σ : vS) (a : Nat → Nat) (sz : Nat) (U : State) : Prop := U.heap.size = sz ∧ va_P G.1 vcl (vws G P σ a) U.heap ∧ va_K G.1 vcl (vtys G) U ∧ VN G a (va_A (vws G P σ a) sz) l U U.heap ∧ va_D (fun _ => True) (vws G P σ a)
/-- a constructor's contract: from a world of K cells to one of K' -/
def VCI (y : MethodName) (bytes : ByteArray) (maxL rf rl : Nat) (av : List vA) (K : Nat) (E : Nat → Nat → Bool) (σ : vS) (K' : Nat) (E' : Nat → Nat → Bool) (σ' : vS) : Prop :=
  (Pc (pK K E) σ ≤ Pc (P0 []) σ' ∧ Ps (pK K E) σ ≤ Ps (P0 []) σ') ∧ ∀ (l : Launch) (G : vG) (a : Nat → Nat) (sz : Nat),
    Met l y (ws_ y bytes maxL none) ({ frames := rf, cells := Pc (P0 []) σ' - Pc (pK K E) σ, slots := Ps (P0 []) σ' - Ps (pK K E) σ, locals := rl }) (va_Pc (av.map (dv a)) (vpreC l G (pK K E) σ a sz)) (vpostC G (conS σ (pK K E) 0) a sz (conS σ' (pK K' E') K)) (Pc (P0 []) σ' - Pc (pK K E) σ) (Ps (P0 []) σ' - Ps (pK K E) σ) (va_A (vws G (pK K E) σ a) sz)
theorem VCI.of {y : MethodName} {bytes : ByteArray} {maxL rf rl : Nat} {av : List vA} {K K' : Nat} {E E' : Nat → Nat → Bool} {σ σ' : vS} (own : String) (hK : K ≤ 199) (hi : y.name = "<init>") (hy : plainName y.cls = true) (ho : y.cls = own) (hn : argn av ≤ maxL)
    (body : VW bytes (cB own (conS σ' (pK K' E') K) rf rl maxL) (pK K E) σ 0 (argl 0 av) []) : VCI y bytes maxL rf rl av K E σ K' E' σ' := by
  obtain ⟨hle, body⟩ := body
  have c1 : Pc (P0 []) (conS σ' (pK K' E') K) = Pc (P0 []) σ' := Pc_con _ _ _ _ (by decide)
  have c2 : Ps (P0 []) (conS σ' (pK K' E') K) = Ps (P0 []) σ' := Ps_con _ _ _ _ (by decide)
  rw [c1, c2] at hle
  refine ⟨⟨hle.1, hle.2.1⟩, fun l G a sz => ?_⟩
  refine Met.ofW (cc := bytes) (maxL := maxL) (ret := none) hy rfl ?_
  intro p e s m args below meth c s₁ B hml hv
  obtain ⟨rfl, rfl, hP, hKn, hN, hD⟩ := hv
  have hts := atoms_spec (ws := ws_ y bytes maxL none) B.pre
  have hts : ∀ w ∈ lw_all, w.before _ s = true := fun w h => hts w (List.mem_cons_of_mem _ h)
  have hown : s.vm.findClass own = some m.cls := ho ▸ findClass_of_methodNamed B.named
  have hin : meth.name = "<init>" := hi ▸ (name_of_methodNamed B.named B.method).1
  have eA : va_A (vws G (pK K E) σ a) s.heap.size = va_A (vws G (pOf (conS σ (pK K E) 0)) (conS σ (pK K E) 0) a) s.heap.size := by rw [pOf_conS, vws_con _ _ hK]
  have W0 := body ((p, l, e, (headSpec (ws_ y bytes maxL none) ({ frames := rf, cells := Pc (P0 []) σ' - Pc (pK K E) σ, slots := Ps (P0 []) σ' - Ps (pK K E) σ, locals := rl })).room, s, m, (av.map (dv a)).toArray, below, meth, c), G, va_A (vws G (pK K E) σ a) s.heap.size, MQ below (vpostC G (conS σ (pK K E) 0) a s.heap.size (conS σ' (pK K' E') K)) (av.map (dv a)).toArray s (Pc (P0 []) σ' - Pc (pK K E) σ) (Ps (P0 []) σ' - Ps (pK K E) σ) (va_A (vws G (pK K E) σ a) s.heap.size), (Pc (pK K E) σ, Ps (pK K E) σ), (Pc (P0 []) σ', Ps (P0 []) σ'), maxL, lzC (conS σ (pK K E) 0), a)
    ⟨B.exec, B.bytes, hml, hown, hts, hKn, B.notSynchronized, fun q h => Or.inr h, Nat.le_refl _, Nat.le_refl _, hN⟩ ⟨conS σ (pK K E) 0, rfl, eA, by rw [c1, c2], rfl, hin, B.returns, fun k h1 h2 => ?_⟩ ⟨rfl, rfl⟩ rfl
  · have hl := lv_entry (av.map (dv a)) (n := maxL) (by rw [argn_dv]; exact hn)
    rw [argl_dv] at hl
    rw [lg_entry_eq]
    have W1 := W0 s.heap [] a _ hP hD.self va_S.rf hl ⟨fun k hk => ?_, fun _ _ => rfl⟩ (Nat.le_refl _) (Nat.le_refl _)
    · rw [Nat.sub_self, Nat.sub_self] at W1
      exact W1
    · unfold lzC
      by_cases h : k < ((conS σ (pK K E) 0).2.1 1300).1
      · rw [if_pos h]
        have hk9 := hk.1
        rw [conS_len σ _ 0 (by unfold KF at hk9; omega)]
        by_cases h14 : kd k < 14
        · exact Or.inr (Or.inl ⟨h14, rfl⟩)
        · exact Or.inr (Or.inr ⟨by omega, Nat.le_refl _, fun _ => rfl⟩)
      · rw [if_neg h]; exact Or.inl rfl
  · unfold lzC
    have h1 : K ≤ k := h1
    exact if_neg (by show ¬ k < K; omega)
section
variable {cc bytes : ByteArray} {own : String} {σo : vS} {F Lc nL rf rl maxL i : Nat} {K : Nat} {E : Nat → Nat → Bool} {σ : vS} {pc : Nat} {L : List (Nat × vA)} {st stk av : List vA} {y : MethodName}
/-- the constructor's end -/
theorem v_cret {K0 : Nat} (hK : K ≤ 199) (hd : decode cc pc = .ok (.return_, 1)) : VW cc (cB own (conS (bmp σ) (pK K E) K0) F Lc nL) (pK K E) σ pc L [] := by
  have hle := Pc_le (E := E) (σ := σ) hK
  have c1 : Pc (P0 []) (conS (bmp σ) (pK K E) K0) = Pc (P0 []) σ + 200 := by rw [Pc_con _ _ _ _ (by decide), Pc_bmp]
  have c2 : Ps (P0 []) (conS (bmp σ) (pK K E) K0) = Ps (P0 []) σ + 1200 := by rw [Ps_con _ _ _ _ (by decide), Ps_bmp]
  refine And.intro ⟨by omega, by omega, trivial⟩ (fun M hX hR hM hN => ?_)
  obtain ⟨⟨p, l, e, R, s, m, args, below, meth, c⟩, G, A, Q, b, o, nL0, l0, a0⟩ := M
  obtain ⟨σ0, hQ, hA0, ho, hl0, hin, hr, -⟩ := hR
  have hQ : Q = MQ below (vpostC G σ0 a0 s.heap.size (conS (bmp σ) (pK K E) K0)) args s (o.1 - b.1) (o.2 - b.2) A := hQ
  have hA0 : A = va_A (vws G (pOf σ0) σ0 a0) s.heap.size := hA0
  have hl0 : l0 = lzC σ0 := hl0
  have ho1 : o.1 = Pc (P0 []) σ + 200 := by rw [ho]; exact c1
  have ho2 : o.2 = Ps (P0 []) σ + 1200 := by rw [ho]; exact c2
  intro H locs a ls hP hD hS hl hj b1 b2
  rw [hQ]
  refine W.widen (by omega) (by omega) (W.vret hX.1 hX.2.1 hr (fun t ht hW => ⟨⟨a, rfl, ?_, ?_, ?_⟩, ?_⟩) hS.2.2 hd hX.2.2.2.2.2.2.1)
  · rw [pOf_conS, vws_con _ _ hK, vws_bmp hK, ht]; exact hP
  · rw [pOf_conS, vws_con _ _ hK, vws_bmp hK, ← hA0]; exact hD
  · rw [hl0] at hj
    refine ⟨fun k hk => ?_, hj.2⟩
    have h9 := hk.1
    rw [conS_len (bmp σ) _ _ (by unfold KF at h9; omega)]
    exact hj.1 k hk
  · rw [← hA0]; exact hS.F ht
/-- java.lang.Object's own constructor -/
theorem v_oinit {o : Nat} {P : vP} (hl : Cond.methodLink own i Lib.objectInit ∈ lw_all) (hF : 1 ≤ F) (hLc : vc8 st + 12 ≤ Lc) (hd : decode cc pc = .ok (.invokespecial i, 3)) {rv : Option vA} {ret : Option FieldType} {tko : List (Nat × Nat)} (k : VW cc (own, rv, σo, ret, F, Lc, nL, tko) P σ (pc + 3) L st) : VW cc (own, rv, σo, ret, F, Lc, nL, tko) P σ pc L (vO o :: st) := by
  obtain ⟨k0, k⟩ := k
  refine And.intro k0 (fun M hX hR hM hN => ?_)
  have k := k M hX hR hM hN
  obtain ⟨⟨p, l, e, R, s, m, args, below, meth, c⟩, G, A, Q, b, oo, nL0, l0, a0⟩ := M
  intro H locs a ls hP hD hS hl1 hj b1 b2
  have k := k H locs a ls hP hD hS hl1 hj b1 b2
  obtain ⟨hx, hb, hml, hown, hts, hK, hlk, hA, hRc, hRs, hNw⟩ := hX
  have hFr : R.frames = F := hM.1
  have hLr : R.locals = Lc := hM.2
  exact W.objInit hx hb hown (hts _ hl) (hts _ q332) (hts _ q333) (g := F0 m pc ls (dv a (vO o) :: st.map (dv a))) rfl (hl1.1.trans hml.symm) rfl hd (by rw [hFr]; exact hF) (by show 2 * 0 + _ + 12 ≤ _; rw [vc8_dv, hLr]; omega) k

/-- where the world may grow: l0 is nothing there -/
def gw (rv : Option vA) (σo : vS) (K : Nat) : Prop := rvT rv = false ∧ rvH rv = false ∧ ((rvL rv = true ∧ rvC rv = false) ∨ (rvL rv = false ∧ rvC rv = true ∧ (σo.2.1 1301).1 ≤ K))
theorem gw_0 {rv : Option vA} {ret : Option FieldType} {tko : List (Nat × Nat)} {M : vM} (hR : VR M rv σo ret tko) (hg : gw rv σo K) (hK : K < 199) : M.2.2.2.2.2.2.2.1 K = 0 := by
  obtain ⟨⟨p, l, e, R, s, m, args, below, meth, c⟩, G, A, Q, b, o, nL0, l0, a0⟩ := M
  obtain ⟨σ0, hQ, hA0, ho, hl0, hr⟩ := hR
  obtain ⟨hT, hH, hg | ⟨h1, h2, h3⟩⟩ := hg
  · rw [hg.1, hg.2] at hl0
    have hl0 : l0 = fun _ => 0 := hl0
    show l0 K = 0
    rw [hl0]
  · rw [hT, hH, h1, h2] at hr
    exact hr.2.2 K h3 hK
theorem vJ_new {l0 a0 a : Nat → Nat} {τ : vS} {q : Nat} (hK : K < 199) (h0 : l0 K = 0) (hj : vJ l0 a0 σ a) (h2 : ∀ k, k ≠ K → (τ.2.1 k).1 = (σ.2.1 k).1) : vJ l0 a0 τ (aS a K q) := by
  refine ⟨fun k hk => ?_, fun k hk => by rw [aS_ne (by omega)]; exact hj.2 k hk⟩
  by_cases z : k = K
  · subst z; exact Or.inl h0
  · rw [aS_ne z, h2 k z]
    exact hj.1 k hk
theorem LK_aS {a : Nat → Nat} {q : Nat} (hK : K < 199) : ∀ k : Nat, k < K ∨ 1000 ≤ k → aS a K q k = a k := fun k hk => aS_ne (by omega)
variable {rv : Option vA} {ret : Option FieldType} {tko : List (Nat × Nat)}
/-- what a class's fields hold at first -/
def dfl : Nat → Value
  | 0 => .int 0
  | 1 => .long 0
  | _ => .null
theorem v_newO {ci N i : Nat} {C : String} {T : u_T} {ty : Nat → FieldType} (cf : CF ci C T N ty) (hdf : ∀ j, j < N → defaultValue (ty j) = dfl (fk ci j)) (hz : Zr K E σ) (hg : gw rv σo K) (hK : K < 199) (hk : kd K = ci) (hcl : Cond.classLink own i C ∈ lw_all) (hinst : Cond.instantiable C N ∈ lw_all) (hini : Cond.initialized C ∈ lw_all) (hL : LK K (L.map (fun q => q.2))) (hs : LK K st) (hd : decode cc pc = .ok (.new i, 3))
    (k : VW cc (own, rv, σo, ret, F, Lc, nL, tko) (pK (K + 1) E) σ (pc + 3) L (vO K :: st)) : VW cc (own, rv, σo, ret, F, Lc, nL, tko) (pK K E) σ pc L st := by
  obtain ⟨ec, es⟩ := Pc_push (E := E) (σ := σ) (τ := σ) hK (fun _ _ => rfl) rfl
  rw [if_pos (by rw [hk]; exact cf.2.2.1)] at ec es
  rw [hk, cf.2.1] at es
  obtain ⟨k0, k⟩ := k
  rw [ec, es] at k0
  refine And.intro ⟨by omega, by omega, k0.2.2⟩ (fun M hX hR hM hN0 => ?_)
  have h00 := gw_0 hR hg hK
  have k := k M hX hR hM hN0
  obtain ⟨⟨p, l, e, R, s, m, args, below, meth, c⟩, G, A, Q, b, oo, nL0, l0, a0⟩ := M
  have h00 : l0 K = 0 := h00
  intro H locs a ls hP hD hS hl1 hj b1 b2
  obtain ⟨hx, hb, hml, hown, hts, hKn, hlk, hA, hRc, hRs, hNw⟩ := hX
  obtain ⟨σ0, hq1, hq2, ho, hq3, hq4⟩ := hR
  have ho1 : oo.1 = Pc (P0 tko) σo := by rw [ho]
  have ho2 : oo.2 = Ps (P0 tko) σo := by rw [ho]
  rw [ho1] at hRc
  rw [ho2] at hRs
  have hfd : ∀ (q f : Nat), vfv G (pK (K + 1) E) σ (aS a K q) K f = dfl (fk ci f) := by
    intro q f
    unfold vfv
    rw [vkd_K _ E hK, hk]
    have z1 := (hz.1 K (Nat.le_refl _) hK).1 f
    generalize hw : fk ci f = w
    match w with
    | 0 => show Value.int (Int32.ofInt (σ.1 K f)) = _; rw [z1.1]; rfl
    | 1 => show Value.long (Int64.ofInt (σ.1 K f)) = _; rw [z1.1]; rfl
    | 2 => show (if E K f = true then _ else _) = _; rw [if_neg (by rw [z1.2]; decide)]; rfl
    | 3 => show (if σ.2.2 K f = 0 ∨ _ then _ else _) = _; rw [if_pos (Or.inl (hz.2.1 K f hK))]; rfl
    | w + 4 => show (if E K f = true then _ else _) = _; rw [if_neg (by rw [z1.2]; decide)]; rfl
  refine va_new (D := G.1) (ci := ci) (fs := (List.range N).map (fun f => dfl (fk ci f))) (C := C) (T := T) (N := N) hx hb hts cf.2.2.2.1 ty cf.2.2.2.2.1 hown (hts _ hcl) (hts _ hinst) (hts _ hini) hKn hP hD hS hA cf.1 (fun j hj => ?_) (by omega) (by omega) hd (fun q H1 hP1 hD1 hS1 => ?_)
  · rw [hdf j hj]
    unfold vp_V
    simp [hj]
  · have he : vent G (pK (K + 1) E) σ (aS a K q) K = .inr (ci, (List.range N).map (fun f => dfl (fk ci f))) := by
      rw [vent_obj cf (ok_K (by omega) (by omega) hk)]
      congr 2
      exact List.map_congr_left (fun f _ => hfd q f)
    rw [← vws_push (τ := σ) hK hz rfl (fun _ _ => rfl) rfl he] at hP1 hD1
    have k := k H1 locs (aS a K q) ls hP1 hD1 hS1 (by rw [LK_dvl (LK_aS hK) L hL]; exact hl1) (vJ_new hK h00 hj (fun _ _ => rfl)) (by rw [ec]; omega) (by rw [es]; omega)
    rw [ec, es] at k
    rw [show Pc (pK K E) σ - b.1 + 1 = Pc (pK K E) σ + 1 - b.1 by omega, show Ps (pK K E) σ - b.2 + N = Ps (pK K E) σ + N - b.2 by omega, ← LK_dv (LK_aS (a := a) (q := q) hK) st hs]
    have e9 : (List.map (dv (aS a K q)) (vO K :: st)) = Value.ref q :: List.map (dv (aS a K q)) st := by
      rw [List.map_cons]
      show Value.ref (aS a K q K) :: _ = _
      rw [aS_at]
    rw [e9] at k
    exact k
theorem v_newA {n : Int} {t : Nat} {at0 : ArrayType} (h1 : 24 ≤ t) (h2 : t ≤ 27) (hty : newarray.typeOf at0 = aty t) (hz0 : ∀ cA : ClassId, vp_cell cA (vac t (fun _ => 0) (n.toNat, fun _ => 0)) = arrV cA n.toNat (fun _ => defaultValue (aty t))) (harr : Cond.arrayClass (newarray.typeOf at0) ∈ lw_all) (hz : Zr K E σ) (hg : gw rv σo K) (hK : K < 199) (hk : kd K = t) (hn : rg n) (h0 : 0 ≤ n) (hm : n ≤ 100000) (hL : LK K (L.map (fun q => q.2))) (hs : LK K st) (hd : decode cc pc = .ok (.newarray at0, 2))
    (k : VW cc (own, rv, σo, ret, F, Lc, nL, tko) (pK (K + 1) E) (sA σ K (n.toNat, fun _ => 0)) (pc + 2) L (vO K :: st)) : VW cc (own, rv, σo, ret, F, Lc, nL, tko) (pK K E) σ pc L (vI n :: st) := by
  obtain ⟨ec, es⟩ := Pc_push (E := E) (σ := σ) (τ := sA σ K (n.toNat, fun _ => 0)) hK (fun k hk => by rw [sA_ne _ _ _ (by omega)]) rfl
  rw [if_neg (by omega), sA_at] at ec es
  have hlc : 1 ≤ lgc n.toNat := by unfold lgc; omega
  simp only at ec es
  obtain ⟨k0, k⟩ := k
  rw [ec, es] at k0
  refine And.intro ⟨by omega, by omega, k0.2.2⟩ (fun M hX hR hM hN0 => ?_)
  have h00 := gw_0 hR hg hK
  have k := k M hX hR hM hN0
  obtain ⟨⟨p, l, e, R, s, m, args, below, meth, c⟩, G, A, Q, b, oo, nL0, l0, a0⟩ := M
  have h00 : l0 K = 0 := h00
  intro H locs a ls hP hD hS hl1 hj b1 b2
  obtain ⟨hx, hb, hml, hown, hts, hKn, hlk, hA, hRc, hRs, hNw⟩ := hX
  obtain ⟨σ0, hq1, hq2, ho, hq3, hq4⟩ := hR
  have ho1 : oo.1 = Pc (P0 tko) σo := by rw [ho]
  have ho2 : oo.2 = Ps (P0 tko) σo := by rw [ho]
  rw [ho1] at hRc
  rw [ho2] at hRs
  refine va_newa (D := G.1) (a0 := vac t G.2.2.2 (n.toNat, fun _ => 0)) (N' := n.toNat) hx hb (hts _ harr) hty hKn hP hD hS hA ?_ ?_ ?_ ?_ (by omega) (by omega) hd (fun q cA H1 hK1 hP1 hD1 hS1 => ?_)
  · intro cA
    rw [← hz0 cA]
    rcases (show t = 24 ∨ t = 25 ∨ t = 26 ∨ t = 27 by omega) with rfl | rfl | rfl | rfl <;> rfl
  · rw [show (0 : Int32) = Int32.ofInt 0 from rfl, i32_lt hn rg_0]
    omega
  · exact cl_of hn h0
  · have : componentBytes (aty t) ≤ 8 := by
      rcases (show t = 24 ∨ t = 25 ∨ t = 26 ∨ t = 27 by omega) with rfl | rfl | rfl | rfl <;> decide
    have h9 : n.toNat ≤ 60000000 := by omega
    calc n.toNat * componentBytes (aty t) ≤ 60000000 * 8 := Nat.mul_le_mul h9 this
      _ ≤ 536870912 := by decide
  · have hcA : cA = G.2.1 t := by
      have e1 := (hKn.2 (t - 24) _ (vtys_at h1 h2)).2
      have e2 := (hK1.2 (vtys G).length (cA, aty t) (by simp)).2
      rcases (show t = 24 ∨ t = 25 ∨ t = 26 ∨ t = 27 by omega) with rfl | rfl | rfl | rfl
      all_goals exact Option.some.inj (e2.symm.trans e1)
    subst hcA
    have he : vent G (pK (K + 1) E) (sA σ K (n.toNat, fun _ => 0)) (aS a K q) K = .inl (G.2.1 t, vac t G.2.2.2 (n.toNat, fun _ => 0)) := by
      rw [vent_arr (ok_K (by omega) (by omega) hk) (by omega), sA_at]
    rw [← vws_push (τ := sA σ K (n.toNat, fun _ => 0)) hK hz rfl (fun k hk => sA_ne _ _ _ (by omega)) rfl he] at hP1 hD1
    have k := k H1 locs (aS a K q) ls hP1 hD1 hS1 (by rw [LK_dvl (LK_aS hK) L hL]; exact hl1) (vJ_new hK h00 hj (fun k hk => by rw [sA_ne _ _ _ hk])) (by rw [ec]; omega) (by rw [es]; omega)
    rw [ec, es] at k
    rw [← LK_dv (LK_aS (a := a) (q := q) hK) st hs]
    have e9 : (List.map (dv (aS a K q)) (vO K :: st)) = Value.ref q :: List.map (dv (aS a K q)) st := by
      rw [List.map_cons]
      show Value.ref (aS a K q K) :: _ = _
      rw [aS_at]
    rw [e9] at k
    exact W.widen (by omega) (by omega) k
end
