set_option maxRecDepth 100000
/-! V-LAYER 20: methods with handlers (the law's eleven) -/
/-- the contract of a method with handlers: it answers r -/
def VCW (y : MethodName) (bytes : ByteArray) (maxL : Nat) (hh : List (Nat × Nat × Nat × Nat)) (rf rl : Nat) (av : List vA) (σ : vS) (r : Int) (σ' : vS) : Prop :=
  (Pc (P0 []) σ ≤ Pc (P0 []) σ' ∧ Ps (P0 []) σ ≤ Ps (P0 []) σ' ∧ rg r) ∧ ∀ (l : Launch) (G : vG) (a : Nat → Nat) (sz : Nat),
    Met l y (wsW_ y bytes maxL (some .int) hh) ({ frames := rf, cells := Pc (P0 []) σ' - Pc (P0 []) σ, slots := Ps (P0 []) σ' - Ps (P0 []) σ, locals := rl }) (va_Pc (av.map (dv a)) (vpre l G σ a sz)) (vpost G σ a sz (some (vI r)) σ' []) (Pc (P0 []) σ' - Pc (P0 []) σ) (Ps (P0 []) σ' - Ps (P0 []) σ) (va_A (vws G (P0 []) σ a) sz)
abbrev hB (nm own : String) (r : Int) (σ' : vS) (F Lc nL : Nat) : vB := (own, some (vV (.int (Int32.ofInt r))), σ', some (.object nm), F, Lc, nL, [])
theorem Met.ofWH9 {l : Launch} {y : MethodName} {ws ws' : List Cond} {rm : Room} {Pc : Array Value → State → Prop} {Qc : Array Value → State → Outcome → State → Prop} {mc ms : Nat} {free : Addr → Prop} {cc : ByteArray} {maxL : Nat} {ret : Option FieldType} {hh : List (Nat × Nat × Nat × Nat)}
    (hy : plainName y.cls = true) (hw : ws = Cond.codeWith y cc maxL ret hh :: ws')
    (body : ∀ p e s m args below meth c s₁, BodyLoose p l y (headSpec ws rm) cc maxL ret e s m args below meth c s₁ → c.maxLocals = maxL → c.exceptionTable.toList.map (fun h => (h.startPc, h.endPc, h.handlerPc, h.catchType)) = hh → Pc args s →
      W p l e (headSpec ws rm).room s m args below meth c s.heap [] 0 0 (MQ below Qc args s mc ms free) (entryFrame m args maxL)) : Met l y ws rm Pc Qc mc ms free := by
  refine MetFree.of_bodyS (code := cc) (maxLocals := maxL) (ret := ret) hy ?_ ?_
  · intro args s m h hn
    obtain ⟨m9, meth, c, hn9, h1, h2, h3, h4, -, h5, h6, -⟩ := Cond.codeWith_spec (atoms_spec (ws := ws) h _ (by rw [hw]; exact List.mem_cons_self))
    cases hn.symm.trans hn9
    exact ⟨meth, c, h1, h2, h3, h4, h5, h6⟩
  · intro p e s m args below meth c s₁ B hml hP _
    have hh0 : s₁.heap = s.heap := by rw [B.state]; rfl
    have htab : c.exceptionTable.toList.map (fun h => (h.startPc, h.endPc, h.handlerPc, h.catchType)) = hh := by
      obtain ⟨m9, meth9, c9, hn9, h1, h2, h3, h4, h7, -⟩ := Cond.codeWith_spec (atoms_spec (ws := ws) B.pre _ (by rw [hw]; exact List.mem_cons_self))
      cases B.named.symm.trans hn9
      have e1 : meth = meth9 := Option.some.inj (B.method.symm.trans h1)
      subst e1
      have e2 : c = c9 := Option.some.inj ((Stand.of_body B).code.symm.trans h2)
      subst e2
      exact h7
    obtain ⟨t, a1, o, b1, b2, b3⟩ := body p e s m args below meth c s₁ B hml htab hP s₁ hh0 (Stand.of_body B)
    exact ⟨t, o, a1, b1, b2, ⟨b3.1, b3.2⟩⟩
theorem VCW.of {y : MethodName} {bytes : ByteArray} {maxL : Nat} {hh : List (Nat × Nat × Nat × Nat)} {rf rl : Nat} {av : List vA} {σ σ' : vS} {r : Int} (nm own : String) (hnm : hhOf nm = hh) (hr : rg r) (hy : plainName y.cls = true) (ho : y.cls = own) (hn : argn av ≤ maxL)
    (body : VW bytes (hB nm own r σ' rf rl maxL) (P0 []) σ 0 (argl 0 av) []) : VCW y bytes maxL hh rf rl av σ r σ' := by
  obtain ⟨hle, body⟩ := body
  refine ⟨⟨hle.1, hle.2.1, hr⟩, fun l G a sz => ?_⟩
  refine Met.ofWH9 (cc := bytes) (maxL := maxL) (ret := some .int) (hh := hh) hy rfl ?_
  intro p e s m args below meth c s₁ B hml htab hv
  obtain ⟨rfl, rfl, hP, hK, hN, hD⟩ := hv
  have hts := atoms_spec (ws := wsW_ y bytes maxL (some .int) hh) B.pre
  have hts : ∀ w ∈ lw_all, w.before _ s = true := fun w h => hts w (List.mem_cons_of_mem _ h)
  have hown : s.vm.findClass own = some m.cls := ho ▸ findClass_of_methodNamed B.named
  have W0 := body ((p, l, e, (headSpec (wsW_ y bytes maxL (some .int) hh) ({ frames := rf, cells := Pc (P0 []) σ' - Pc (P0 []) σ, slots := Ps (P0 []) σ' - Ps (P0 []) σ, locals := rl })).room, s, m, (av.map (dv a)).toArray, below, meth, c), G, va_A (vws G (P0 []) σ a) s.heap.size, MQ below (vpost G σ a s.heap.size (some (vI r)) σ' []) (av.map (dv a)).toArray s (Pc (P0 []) σ' - Pc (P0 []) σ) (Ps (P0 []) σ' - Ps (P0 []) σ) (va_A (vws G (P0 []) σ a) s.heap.size), (Pc (P0 []) σ, Ps (P0 []) σ), (Pc (P0 []) σ', Ps (P0 []) σ'), maxL, (lz σ), a)
    ⟨B.exec, B.bytes, hml, hown, hts, hK, B.notSynchronized, fun q h => Or.inr h, Nat.le_refl _, Nat.le_refl _, hN⟩ ⟨σ, rfl, rfl, rfl, rfl, ⟨by rw [htab, ← hnm]; rfl, B.returns⟩⟩ ⟨rfl, rfl⟩ rfl
  have hl := lv_entry (av.map (dv a)) (n := maxL) (by rw [argn_dv]; exact hn)
  rw [argl_dv] at hl
  rw [lg_entry_eq]
  have W1 := W0 s.heap [] a _ hP hD.self va_S.rf hl (vJ_rf σ a) (Nat.le_refl _) (Nat.le_refl _)
  rw [Nat.sub_self, Nat.sub_self] at W1
  exact W1
section
variable {cc bytes : ByteArray} {own nm E : String} {ret1 : Option FieldType} {F Lc nL rf rl maxL i : Nat} {σ σ1 σo9 : vS} {pc : Nat} {L : List (Nat × vA)} {st stk av : List vA} {y : MethodName} {r : Int}
theorem v_hret {σ : vS} (hd : decode cc pc = .ok (.ireturn, 1)) : VW cc (hB nm own r σ F Lc nL) (P0 []) σ pc L [vI r] := by
  refine And.intro ⟨Nat.le_refl _, Nat.le_refl _, trivial⟩ (fun M hX hR hM hN => ?_)
  obtain ⟨⟨p, l, e, R, s, m, args, below, meth, c⟩, G, A, Q, b, o, nL0, l0, a0⟩ := M
  obtain ⟨σ0, rfl, rfl, rfl, rfl, -, hr⟩ := hR
  intro H locs a ls hP hD hS hl hj b1 b2
  exact W.iret (v := Int32.ofInt r) hX.1 hX.2.1 hr (fun t ht hW => ⟨⟨a, rfl, by rw [ht]; exact hP, hD, hj⟩, hS.F ht⟩) hS.2.2 hd hX.2.2.2.2.2.2.1
variable {ci o N : Nat} {C : String} {T : u_T} {ty : Nat → FieldType} {As : List vA}
/-- a call that throws, caught by handler j: those ahead of it are not for this exception -/
theorem v_catch {j sp ep hp ct : Nat} (cf : CF ci C T N ty) (ho : ok (P0 []) o ci) (hC : VT y bytes maxL ret1 rf rl (vO o :: As) σ E σ1) (hw : GoodIn lw_all (wsV own i C y (ws_ y bytes maxL ret1))) (hyC : y.cls = C) (hy : yOk y As.length) (hrm : rf + 1 ≤ F ∧ 8 + (maxL + 11) + rl ≤ Lc) (h8 : vc8 st ≤ 8) (hs : stk = (vO o :: As).reverse ++ st) (hd : decode cc pc = .ok (.invokevirtual i, 3))
    (hj : (hhOf nm)[j]? = some (sp, ep, hp, ct)) (hpass : ∀ z ∈ (hhOf nm).take j, z.2.2.2 ≠ 0 ∧ ∃ n9 : String, Cond.classLink own z.2.2.2 n9 ∈ lw_all ∧ ((E = "java/lang/IllegalStateException" ∧ n9 = "java/lang/IllegalArgumentException") ∨ (E = "java/lang/IllegalArgumentException" ∧ n9 = "java/lang/IndexOutOfBoundsException")))
    (hcov : sp ≤ pc ∧ pc < ep) (h0 : ct ≠ 0) (hlink : Cond.classLink own ct E ∈ lw_all) (hcast : Cond.castable E E ∈ vnest) (hkL : KP σ σ1 (L.map (fun q => q.2)))
    (k : VW cc (hB nm own r σo9 F Lc nL) (P0 []) σ1 hp L [vO 900]) : VW cc (hB nm own r σo9 F Lc nL) (P0 []) σ pc L stk := by
  subst hs
  obtain ⟨k0, k⟩ := k
  obtain ⟨hle, hC⟩ := hC
  refine And.intro ⟨Nat.le_trans hle.1 k0.1, Nat.le_trans hle.2 k0.2.1, k0.2.2⟩ (fun M hX hR hM hN => ?_)
  have k := k M hX hR hM hN
  obtain ⟨⟨p, l, e, R, s, m, args, below, meth, c⟩, G, A, Q, b, o9, nL0, l0, a0⟩ := M
  intro H locs a ls hP hD hS hl hj1 b1 b2
  obtain ⟨hx, hb, hml, hown, hts, hK, hlk, hA, hRc, hRs, hNw⟩ := hX
  obtain ⟨σ0, hq1, hq2, ho9, hq3, htab, -⟩ := hR
  have htab : c.exceptionTable.toList.map (fun h => (h.startPc, h.endPc, h.handlerPc, h.catchType)) = hhOf nm := htab
  have ho1 : o9.1 = Pc (P0 []) σo9 := by rw [ho9]
  have ho2 : o9.2 = Ps (P0 []) σo9 := by rw [ho9]
  have hN : nL0 = nL := hN
  have hFr : R.frames = F := hM.1
  have hLr : R.locals = Lc := hM.2
  have hNc := VN.call (B := va_A (vws G (P0 []) σ a) H.size) hj1.2 hS (fun q h1 h2 => h2.elim (fun ⟨k, x, h⟩ => hD.2 k _ h) (fun h => absurd h1 (by omega))) hNw
  have hf : (Pc (P0 []) σ - b.1) + (Pc (P0 []) σ1 - Pc (P0 []) σ) ≤ R.cells ∧ (Ps (P0 []) σ - b.2) + (Ps (P0 []) σ1 - Ps (P0 []) σ) ≤ R.slots := by
    rw [ho1] at hRc
    rw [ho2] at hRs
    omega
  have r9 := vx_runV (e := e) (below := below) (meth := meth) (locs := locs) (As := As.map (dv a)) (b := a o) (rest := st.map (dv a)) (g := F0 m pc ls (((vO o :: As).map (dv a)).reverse ++ st.map (dv a))) ⟨hx, hb, hml.trans hN, hown, hts⟩ (hC l G a H.size) (cwV As.length hts hw rfl rfl rfl ⟨hyC, hy⟩ (by rw [hFr, hLr]; exact hrm)) ⟨vblind l G σ a H.size _, va_recv hK hP cf.1 (vws_obj cf ho), fun U hU hW => ⟨rfl, by rw [hU], by rw [hU]; exact hP, va_K.moved hW.alike hK, by rw [hU]; exact VN.warm hW hNc, hD.weaken (fun _ _ _ _ => trivial)⟩⟩ rfl (by simp) (hl.1.trans hN) (by simp [dv]) (lv_room (by rw [vc8_dv]; exact h8)) hd hf
  rw [List.map_append, List.map_reverse]
  have hsub : ∀ q : Nat, va_A (vws G (P0 []) σ a) H.size q → A q := by
    rintro q (⟨k, x, h⟩ | h)
    · exact hD.2 k _ h
    · exact hA q (Nat.le_trans hS.1 h)
  -- the handler
  have hx9 : ∃ (pre : List ExceptionTableEntry) (x : ExceptionTableEntry) (suf : List ExceptionTableEntry), c.exceptionTable.toList = pre ++ x :: suf ∧ x.startPc = sp ∧ x.endPc = ep ∧ x.handlerPc = hp ∧ x.catchType = ct ∧ pre.map (fun h => (h.startPc, h.endPc, h.handlerPc, h.catchType)) = (hhOf nm).take j := by
    rw [← htab, List.getElem?_map] at hj
    obtain ⟨x, h1, h2⟩ := Option.map_eq_some_iff.mp hj
    obtain ⟨hlt, hxe⟩ := List.getElem?_eq_some_iff.mp h1
    refine ⟨c.exceptionTable.toList.take j, x, c.exceptionTable.toList.drop (j + 1), ?_, ?_⟩
    · rw [← hxe, ← List.drop_eq_getElem_cons hlt, List.take_append_drop]
    · simp only [Prod.mk.injEq] at h2
      exact ⟨h2.1, h2.2.1, h2.2.2.1, h2.2.2.2, by rw [← htab, List.map_take]⟩
  obtain ⟨pre, x, suf, hsplit, hx1, hx2, hx3, hx4, hpre⟩ := hx9
  intro T hT X
  rcases r9 T hT X with ⟨v, st₀, t, T', LL, h0, X', hL, e1, e2, hFalse, -⟩ | ⟨q, st₀, t, T', LL, E', ce, h0', X', hL, e1, e2, ⟨rfl, ⟨a', hP', hD', hJ'⟩, hz, hkk⟩, hce, hcv, hcl, hst⟩
  · exact hFalse.elim
  · rw [h0'] at hz hkk
    have hS' : va_S A s.heap T'.heap (locs ++ LL) := ⟨Nat.le_trans hS.1 (by rw [e1]; exact hz), fun q h1 h2 => by rw [e1, hkk q (Nat.lt_of_lt_of_le h1 hS.1) (fun z => h2 (hsub q z))]; exact hS.2.1 q h1 h2, fun q hq => by
      rcases List.mem_append.mp hq with h | h
      · exact hS.2.2 q h
      · exact hsub _ (hL q h)⟩
    have hw9 : vws G (P0 []) σ1 (fun k => if k = 900 then q else a' k) = vws G (P0 []) σ1 a' := by
      have hlt : ∀ k, k < 199 → (fun k => if k = 900 then q else a' k) k = a' k := fun k hk => by simp only; rw [if_neg (by omega)]
      unfold vws
      refine List.map_congr_left (fun k hk => ?_)
      have hk : k < KF := List.mem_range.mp hk
      rw [vent_eq (G := G) (σ := σ1) (τ := σ1) (a := a') (a' := fun k => if k = 900 then q else a' k) (tk := []) (tk' := []) hk rfl rfl (fun t ht _ => hlt t ht) (fun z14 f hf h2 => hlt _ (ft_lt hk z14 hf h2)) (fun _ => rfl)]
      show ((if k = 900 then q else a' k), _) = _
      rw [if_neg (by unfold KF at hk; omega)]
    have hJ2 : vJ (lz σ) a σ1 (fun k => if k = 900 then q else a' k) := by
      refine ⟨fun k hk => ?_, fun k hk => ?_⟩
      · have h9 := hk.1
        have e9 : (fun k => if k = 900 then q else a' k) k = a' k := by simp only; rw [if_neg (by unfold KF at h9; omega)]
        rw [e9]
        exact hJ'.1 k hk
      · show (if k = 900 then q else a' k) = a k
        rw [if_neg (by omega)]
        exact hJ'.2 k hk
    have k9 := k T'.heap (locs ++ LL) (fun k => if k = 900 then q else a' k) ls (by rw [hw9, e1]; exact hP') (by rw [hw9]; exact hD'.weaken (fun _ _ _ h => hsub _ h)) hS' (by rw [KP_dvl hJ2 L hkL]; exact hl) (vJ_trans hj1 hJ2) (Nat.le_trans b1 hle.1) (Nat.le_trans b2 hle.2)
    rw [show Pc (P0 []) σ1 - b.1 = Pc (P0 []) σ - b.1 + (Pc (P0 []) σ1 - Pc (P0 []) σ) by omega, show Ps (P0 []) σ1 - b.2 = Ps (P0 []) σ - b.2 + (Ps (P0 []) σ1 - Ps (P0 []) σ) by omega] at k9
    have kc := vx_catch (p := p) (l := l) (e := e) (R := R) (below := below) (meth := meth) (H := T'.heap) (locs := locs ++ LL) (Q := Q) (pc := pc) (ls := ls) (rest := st.map (dv a)) (name := E') (E := E') (ce := ce) (q := q) hown pre x suf hsplit (fun z hz9 => ?_) ?_ (by rw [hx4]; exact h0) (by rw [hx4]; exact hts _ hlink) (va_Nw.use (nest_tabs hcast) (hNw.1 _ hcast)) (by rw [e1]; exact hce) hcv hcl (by rw [hx3]; exact k9)
    · obtain ⟨t2, a1, b3⟩ := kc T' rfl X'
      exact ⟨t2, hst.trans a1, b3⟩
    · have hz8 : (z.startPc, z.endPc, z.handlerPc, z.catchType) ∈ (hhOf nm).take j := by rw [← hpre]; exact List.mem_map_of_mem hz9
      obtain ⟨p1, n9, p2, p3⟩ := hpass _ hz8
      refine Or.inr ⟨p1, n9, hts _ p2, ?_⟩
      rcases p3 with ⟨rfl, rfl⟩ | ⟨rfl, rfl⟩
      · exact hNw.2.2.2.2.2.2.1
      · exact hNw.2.2.2.2.2.2.2.1
    · simp only [covers, hx1, hx2, Bool.and_eq_true, decide_eq_true_eq]
      exact hcov
end
section
variable {cc bytes : ByteArray} {own : String} {rv rv1 : Option vA} {σo : vS} {ret ret1 : Option FieldType} {F Lc nL rf rl maxL i : Nat} {tko : List (Nat × Nat)} {σ σ1 : vS} {pc : Nat} {L : List (Nat × vA)} {st stk av : List vA} {y : MethodName} {r : Int} {hh : List (Nat × Nat × Nat × Nat)}
/-- a static call of a method with handlers -/
theorem v_callSW (hC : VCW y bytes maxL hh rf rl av σ r σ1) (hw : GoodIn lw_all (va_wsS own i y (wsW_ y bytes maxL (some .int) hh))) (hy : yOk y av.length) (hrm : rf + 1 ≤ F ∧ 8 + (maxL + 11) + rl ≤ Lc) (hk : KP σ σ1 st) (hkL : KP σ σ1 (L.map (fun q => q.2))) (h8 : vc8 st ≤ 8) (hs : stk = av.reverse ++ st) (hd : decode cc pc = .ok (.invokestatic i, 3))
    (k : VW cc (own, rv, σo, ret, F, Lc, nL, tko) (P0 []) σ1 (pc + 3) L (vI r :: st)) : VW cc (own, rv, σo, ret, F, Lc, nL, tko) (P0 []) σ pc L stk := by
  subst hs
  obtain ⟨k0, k⟩ := k
  obtain ⟨hle, hC⟩ := hC
  refine And.intro ⟨Nat.le_trans hle.1 k0.1, Nat.le_trans hle.2.1 k0.2.1, k0.2.2⟩ (fun M hX hR hM hN => ?_)
  have k := k M hX hR hM hN
  have hR2 := hR
  obtain ⟨⟨p, l, e, R, s, m, args, below, meth, c⟩, G, A, Q, b, o, nL0, l0, a0⟩ := M
  intro H locs a ls hP hD hS hl hj b1 b2
  obtain ⟨hx, hb, hml, hown, hts, hK, hlk, hA, hRc, hRs, hNw⟩ := hX
  obtain ⟨σ0, hq1, hq2, ho, hq3, hq4⟩ := hR2
  have ho1 : o.1 = Pc (P0 tko) σo := by rw [ho]
  have ho2 : o.2 = Ps (P0 tko) σo := by rw [ho]
  have hN : nL0 = nL := hN
  have hFr : R.frames = F := hM.1
  have hLr : R.locals = Lc := hM.2
  have hNc := VN.call (B := va_A (vws G (P0 []) σ a) H.size) hj.2 hS (fun q h1 h2 => h2.elim (fun ⟨k, x, h⟩ => hD.2 k _ h) (fun h => absurd h1 (by omega))) hNw
  have hf : (Pc (P0 []) σ - b.1) + (Pc (P0 []) σ1 - Pc (P0 []) σ) ≤ R.cells ∧ (Ps (P0 []) σ - b.2) + (Ps (P0 []) σ1 - Ps (P0 []) σ) ≤ R.slots := by
    rw [ho1] at hRc
    rw [ho2] at hRs
    omega
  rw [List.map_append, List.map_reverse]
  have r9 := vx_runSW (p := p) (e := e) (below := below) (meth := meth) (locs := locs) (As := av.map (dv a)) (rest := st.map (dv a)) (g := F0 m pc ls ((av.map (dv a)).reverse ++ st.map (dv a))) ⟨hx, hb, hml.trans hN, hown, hts⟩ (hC l G a H.size) (vx_cwSW av.length hts hw rfl rfl rfl hy (by rw [hFr, hLr]; exact hrm)) ⟨vblind l G σ a H.size _, fun U hU hW => ⟨rfl, by rw [hU], by rw [hU]; exact hP, va_K.moved hW.alike hK, by rw [hU]; exact VN.warm hW hNc, hD.weaken (fun _ _ _ _ => trivial)⟩⟩ rfl (by simp) (hl.1.trans hN) rfl (lv_room (by rw [vc8_dv]; exact h8)) hd hf
  refine v_run r9 hD hS hA (fun H1 locs1 a1 hP1 hD1 hS1 hJ1 => ?_)
  have k := k H1 locs1 a1 ls hP1 hD1 hS1 (by rw [KP_dvl hJ1 L hkL]; exact hl) (vJ_trans hj hJ1) (Nat.le_trans b1 hle.1) (Nat.le_trans b2 hle.2.1)
  have e1 : Pc (P0 []) σ - b.1 + (Pc (P0 []) σ1 - Pc (P0 []) σ) = Pc (P0 []) σ1 - b.1 := by omega
  have e2 : Ps (P0 []) σ - b.2 + (Ps (P0 []) σ1 - Ps (P0 []) σ) = Ps (P0 []) σ1 - b.2 := by omega
  rw [e1, e2, ← KP_dv hJ1 st hk]
  exact k
end
