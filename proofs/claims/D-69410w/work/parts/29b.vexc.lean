set_option maxRecDepth 100000
/-! V-LAYER 19: runs that throw: contracts, the throw itself, calls of methods that throw -/
/-- one exception more was thrown -/
def gh1 (σ : vS) : vS := (σ.1, σ.2.1, fun o f => if o = 300 ∧ f = 500 then σ.2.2 300 500 + 1 else σ.2.2 o f)
theorem gh1_gh (σ : vS) : (gh1 σ).2.2 300 500 = σ.2.2 300 500 + 1 := rfl
theorem gh1_R (σ : vS) {o f : Nat} (h : o ≠ 300) : (gh1 σ).2.2 o f = σ.2.2 o f := if_neg (fun z => h z.1)
theorem gh1_Pc (P : vP) (σ : vS) : Pc P (gh1 σ) = Pc P σ + 1 := by
  have e : sumTo P.1 (pcW P (gh1 σ)) = sumTo P.1 (pcW P σ) := sumTo_congr fun k _ => rfl
  unfold Pc
  rw [e, gh1_gh, Nat.add_assoc]
theorem gh1_Ps (P : vP) (σ : vS) : Ps P (gh1 σ) = Ps P σ + 6 := by
  have e : sumTo P.1 (psW P (gh1 σ)) = sumTo P.1 (psW P σ) := sumTo_congr fun k _ => rfl
  unfold Ps
  rw [e, gh1_gh]
  omega
theorem gh1_vws (G : vG) (σ : vS) (a : Nat → Nat) : vws G (P0 []) (gh1 σ) a = vws G (P0 []) σ a := by
  unfold vws
  refine List.map_congr_left (fun k hk => ?_)
  have hk : k < 199 := List.mem_range.mp hk
  congr 1
  have e : ∀ f, vfv G (P0 []) (gh1 σ) a k f = vfv G (P0 []) σ a k f := by
    intro f
    unfold vfv
    rw [gh1_R σ (by omega)]
    rfl
  unfold vent
  simp only [e]
  rfl
theorem nest_tabs {w : Cond} (h : w ∈ vnest) : w.onTables = true := by
  rcases nest_case h with ⟨a, i, x, c, rfl⟩ | ⟨a, i, b, n, d, c, rfl⟩ | ⟨C, T, rfl⟩ | ⟨x, rfl⟩ <;> rfl
/-- the contract: with these arguments and this state the method throws an E and leaves σ' -/
def VT (y : MethodName) (bytes : ByteArray) (maxL : Nat) (ret : Option FieldType) (rf rl : Nat) (av : List vA) (σ : vS) (E : String) (σ' : vS) : Prop :=
  (Pc (P0 []) σ ≤ Pc (P0 []) σ' ∧ Ps (P0 []) σ ≤ Ps (P0 []) σ') ∧ ∀ (l : Launch) (G : vG) (a : Nat → Nat) (sz : Nat),
    vx_Met l y (ws_ y bytes maxL ret) ({ frames := rf, cells := Pc (P0 []) σ' - Pc (P0 []) σ, slots := Ps (P0 []) σ' - Ps (P0 []) σ, locals := rl }) (va_Pc (av.map (dv a)) (vpre l G σ a sz)) (fun _ _ _ _ => False) (vpostX G σ a sz E σ') (Pc (P0 []) σ' - Pc (P0 []) σ) (Ps (P0 []) σ' - Ps (P0 []) σ) (va_A (vws G (P0 []) σ a) sz)
abbrev tB (E own : String) (σ' : vS) (F Lc nL : Nat) : vB := (own, some (vV .null), σ', some (.object E), F, Lc, nL, [])
theorem VT.of {y : MethodName} {bytes : ByteArray} {maxL : Nat} {ret : Option FieldType} {rf rl : Nat} {av : List vA} {σ σ' : vS} {E : String} (own : String) (hy : plainName y.cls = true) (ho : y.cls = own) (hn : argn av ≤ maxL)
    (body : VW bytes (tB E own σ' rf rl maxL) (P0 []) σ 0 (argl 0 av) []) : VT y bytes maxL ret rf rl av σ E σ' := by
  obtain ⟨hle, body⟩ := body
  refine ⟨⟨hle.1, hle.2.1⟩, fun l G a sz => ?_⟩
  refine vx_ofW (cc := bytes) (maxL := maxL) (ret := ret) hy rfl ?_
  intro p e s m args below meth c s₁ B hml htab hv
  obtain ⟨rfl, rfl, hP, hK, hN, hD⟩ := hv
  have hts := atoms_spec (ws := ws_ y bytes maxL ret) B.pre
  have hts : ∀ w ∈ lw_all, w.before _ s = true := fun w h => hts w (List.mem_cons_of_mem _ h)
  have hown : s.vm.findClass own = some m.cls := ho ▸ findClass_of_methodNamed B.named
  have W0 := body ((p, l, e, (headSpec (ws_ y bytes maxL ret) ({ frames := rf, cells := Pc (P0 []) σ' - Pc (P0 []) σ, slots := Ps (P0 []) σ' - Ps (P0 []) σ, locals := rl })).room, s, m, (av.map (dv a)).toArray, below, meth, c), G, va_A (vws G (P0 []) σ a) s.heap.size, vx_MQ below (fun _ _ _ _ => False) (vpostX G σ a s.heap.size E σ') (av.map (dv a)).toArray s (Pc (P0 []) σ' - Pc (P0 []) σ) (Ps (P0 []) σ' - Ps (P0 []) σ) (va_A (vws G (P0 []) σ a) s.heap.size), (Pc (P0 []) σ, Ps (P0 []) σ), (Pc (P0 []) σ', Ps (P0 []) σ'), maxL, (lz σ), a)
    ⟨B.exec, B.bytes, hml, hown, hts, hK, B.notSynchronized, fun q h => Or.inr h, Nat.le_refl _, Nat.le_refl _, hN⟩ ⟨σ, rfl, rfl, rfl, rfl, htab⟩ ⟨rfl, rfl⟩ rfl
  have hl := lv_entry (av.map (dv a)) (n := maxL) (by rw [argn_dv]; exact hn)
  rw [argl_dv] at hl
  rw [lg_entry_eq]
  have W1 := W0 s.heap [] a _ hP hD.self va_S.rf hl (vJ_rf σ a) (Nat.le_refl _) (Nat.le_refl _)
  rw [Nat.sub_self, Nat.sub_self] at W1
  exact W1
section
variable {cc bytes : ByteArray} {own E : String} {ret1 : Option FieldType} {F Lc nL rf rl maxL i ik ic : Nat} {σ σ1 : vS} {pc : Nat} {L : List (Nat × vA)} {st stk av : List vA} {y : MethodName} {names : List String}
/-- new, dup, the constructor without arguments, athrow -/
theorem v_throw0 (hcls : Bundle.fit E = true) (hnames : ∀ n ∈ names, Bundle.fit n = true) (hk : Cond.classLink own ik E ∈ lw_all) (hini : Cond.initialized E ∈ lw_all) (hat : ∀ w ∈ vx_at0 own ic E names, w ∈ lw_all ∨ w ∈ vnest)
    (hgood : ∀ w ∈ Cond.classLink own ik E :: Cond.initialized E :: vx_at0 own ic E names, vx_ot w = true) (hF : names.length + 3 < F) (hLc : vc8 st + (13 * (names.length + 1) + 42) ≤ Lc)
    (d0 : decode cc pc = .ok (.new ik, 3)) (d3 : decode cc (pc + 3) = .ok (.dup, 1)) (d4 : decode cc (pc + 4) = .ok (.invokespecial ic, 3)) (d7 : decode cc (pc + 7) = .ok (.athrow, 1)) :
    VW cc (tB E own (gh1 σ) F Lc nL) (P0 []) σ pc L st := by
  have e1 := gh1_Pc (P0 []) σ
  have e2 := gh1_Ps (P0 []) σ
  refine And.intro ⟨by omega, by omega, trivial⟩ (fun M hX hR hM hN => ?_)
  obtain ⟨⟨p, l, e, R, s, m, args, below, meth, c⟩, G, A, Q, b, o, nL0, l0, a0⟩ := M
  intro H locs a ls hP hD hS hl hj b1 b2
  obtain ⟨hx, hb, hml, hown, hts, hK, hlk, hA, hRc, hRs, hNw⟩ := hX
  obtain ⟨σ0, hq1, hq2, ho, hq3, htab⟩ := hR
  have htab : ∀ x ∈ c.exceptionTable.toList, False := htab
  have hq1 : Q = vx_MQ below (fun _ _ _ _ => False) (vpostX G σ0 a0 s.heap.size E (gh1 σ)) args s (o.1 - b.1) (o.2 - b.2) A := hq1
  have ho1 : o.1 = Pc (P0 []) (gh1 σ) := by rw [ho]
  have ho2 : o.2 = Ps (P0 []) (gh1 σ) := by rw [ho]
  have hFr : R.frames = F := hM.1
  have hLr : R.locals = Lc := hM.2
  rw [hq1]
  refine vx_throw0 (names := names) (cls := E) hx hb hNw.2.2.2.1 hown hcls hnames (hts _ hk) (hts _ hini) (fun w hw => ?_) hgood hNw.2.2.2.2.1 hNw.2.2.2.2.2.1 hS (hl.1.trans hml.symm) d0 d3 d4 d7 (fun x h => (htab x h).elim) (by rw [hFr]; exact hF) (by rw [vc8_dv, hLr]; exact hLc) (by rw [ho1] at hRc; omega) (by rw [ho2] at hRs; omega) hlk ?_ hS.2.2 (by omega) (by omega)
  · rcases hat w hw with h | h
    · exact hts w h
    · exact va_Nw.use (nest_tabs h) (hNw.1 w h)
  · intro t hal hz hk
    refine ⟨rfl, ⟨a, ?_, ?_, ?_⟩, Nat.le_trans hS.1 hz, fun q h1 h2 => ?_⟩
    · rw [gh1_vws]
      intro k q hq
      exact (hP k q hq).kept (hk _ (hP k q hq).lt)
    · rw [gh1_vws, ← hq2]
      exact hD
    · have hj : vJ (lz σ0) a0 σ a := by rw [show l0 = lz σ0 from hq3] at hj; exact hj
      exact hj
    · rw [hk q (Nat.lt_of_lt_of_le h1 hS.1)]
      exact hS.2.1 q h1 (by rw [hq2]; exact h2)
theorem v_callX (hC : VT y bytes maxL ret1 rf rl av σ E σ1) (hs : stk = av.reverse ++ st)
    (hrun : ∀ (p : Program) (l : Launch) (e : Env) (R : Room) (s : State) (m : MethodId) (args : Array Value) (below : List Frame) (meth : Method) (c : Code) (G : vG) (H : Heap) (locs : List Loc) (a : Nat → Nat) (ls : Array Slot) (cells slots : Nat),
      p.tables.exec = Jvm.exec → c.code = cc → c.maxLocals = nL → s.vm.findClass own = some m.cls → (∀ w ∈ lw_all, w.before args s = true) → va_K G.1 vcl (vtys G) s → VN G a (va_A (vws G (P0 []) σ a) H.size) l s H → R.frames = F → R.locals = Lc → ls.size = nL → va_P G.1 vcl (vws G (P0 []) σ a) H → va_D (fun _ => True) (vws G (P0 []) σ a) →
      cells + (Pc (P0 []) σ1 - Pc (P0 []) σ) ≤ R.cells ∧ slots + (Ps (P0 []) σ1 - Ps (P0 []) σ) ≤ R.slots →
      vx_Run p l e R s m args below meth c H locs cells slots (Pc (P0 []) σ1 - Pc (P0 []) σ) (Ps (P0 []) σ1 - Ps (P0 []) σ) (F0 m pc ls ((av.map (dv a)).reverse ++ st.map (dv a))) (st.map (dv a)) (fun _ _ _ => False) (vpostX G σ a H.size E σ1) (va_A (vws G (P0 []) σ a) H.size)) :
    VW cc (tB E own σ1 F Lc nL) (P0 []) σ pc L stk := by
  subst hs
  obtain ⟨hle, hC⟩ := hC
  refine And.intro ⟨hle.1, hle.2, trivial⟩ (fun M hX hR hM hN => ?_)
  obtain ⟨⟨p, l, e, R, s, m, args, below, meth, c⟩, G, A, Q, b, o, nL0, l0, a0⟩ := M
  intro H locs a ls hP hD hS hl hj b1 b2
  obtain ⟨hx, hb, hml, hown, hts, hK, hlk, hA, hRc, hRs, hNw⟩ := hX
  obtain ⟨σ0, hq1, hq2, ho, hq3, htab⟩ := hR
  have htab : ∀ x ∈ c.exceptionTable.toList, False := htab
  have hq1 : Q = vx_MQ below (fun _ _ _ _ => False) (vpostX G σ0 a0 s.heap.size E σ1) args s (o.1 - b.1) (o.2 - b.2) A := hq1
  have ho1 : o.1 = Pc (P0 []) σ1 := by rw [ho]
  have ho2 : o.2 = Ps (P0 []) σ1 := by rw [ho]
  have hN : nL0 = nL := hN
  have hf : (Pc (P0 []) σ - b.1) + (Pc (P0 []) σ1 - Pc (P0 []) σ) ≤ R.cells ∧ (Ps (P0 []) σ - b.2) + (Ps (P0 []) σ1 - Ps (P0 []) σ) ≤ R.slots := by
    rw [ho1] at hRc
    rw [ho2] at hRs
    omega
  have r := hrun p l e R s m args below meth c G H locs a ls (Pc (P0 []) σ - b.1) (Ps (P0 []) σ - b.2) hx hb (hml.trans hN) hown hts hK (VN.call hj.2 hS (fun q h1 h2 => h2.elim (fun ⟨k, x, h⟩ => hD.2 k _ h) (fun h => absurd h1 (by omega))) hNw) hM.1 hM.2 (hl.1.trans hN) hP (hD.weaken (fun _ _ _ _ => trivial)) hf
  rw [List.map_append, List.map_reverse, hq1]
  have hsub : ∀ q : Nat, va_A (vws G (P0 []) σ a) H.size q → A q := by
    rintro q (⟨k, x, h⟩ | h)
    · exact hD.2 k _ h
    · exact hA q (Nat.le_trans hS.1 h)
  intro T hT X
  rcases r T hT X with ⟨v, st₀, t, T', LL, h0, X', hL, e1, e2, hFalse, -⟩ | ⟨q, st₀, t, T', LL, E', ce, h0, X', hL, e1, e2, ⟨rfl, ⟨a', hP', hD', hJ'⟩, hz, hkk⟩, hce, hcv, hcl, hst⟩
  · exact hFalse.elim
  · rw [h0] at hz hkk
    have hS' : va_S A s.heap T'.heap (locs ++ LL) := ⟨Nat.le_trans hS.1 (by rw [e1]; exact hz), fun q h1 h2 => by rw [e1, hkk q (Nat.lt_of_lt_of_le h1 hS.1) (fun z => h2 (hsub q z))]; exact hS.2.1 q h1 h2, fun q hq => by
      rcases List.mem_append.mp hq with h | h
      · exact hS.2.2 q h
      · exact hsub _ (hL q h)⟩
    have hk9 : vx_W p l e R s m args below meth c T'.heap (locs ++ LL) (Pc (P0 []) σ - b.1 + (Pc (P0 []) σ1 - Pc (P0 []) σ)) (Ps (P0 []) σ - b.2 + (Ps (P0 []) σ1 - Ps (P0 []) σ)) (vx_MQ below (fun _ _ _ _ => False) (vpostX G σ0 a0 s.heap.size E' σ1) args s (o.1 - b.1) (o.2 - b.2) A) (F0 m pc ls (st.map (dv a))) q := by
      refine vx_out (E := E') (ce := ce) (fun x h => (htab x h).elim) hlk (by rw [e1]; exact hce) hcv hcl (fun t9 ht9 _ => ?_) hS'.2.2 (by omega) (by omega)
      refine ⟨rfl, ⟨a', by rw [ht9, e1]; exact hP', ?_, ?_⟩, ?_⟩
      · rw [← hq2]
        exact hD'.weaken (fun _ _ _ h => hsub _ h)
      · have hj : vJ (lz σ0) a0 σ a := by rw [show l0 = lz σ0 from hq3] at hj; exact hj
        exact vJ_trans hj hJ'
      · rw [← hq2]
        exact hS'.F ht9
    obtain ⟨t2, a1, b3⟩ := hk9 T' rfl X'
    exact ⟨t2, hst.trans a1, b3⟩
theorem v_callXS (hC : VT y bytes maxL ret1 rf rl av σ E σ1) (hw : GoodIn lw_all (va_wsS own i y (ws_ y bytes maxL ret1))) (hy : yOk y av.length) (hrm : rf + 1 ≤ F ∧ 8 + (maxL + 11) + rl ≤ Lc) (h8 : vc8 st ≤ 8) (hs : stk = av.reverse ++ st) (hd : decode cc pc = .ok (.invokestatic i, 3)) :
    VW cc (tB E own σ1 F Lc nL) (P0 []) σ pc L stk := by
  refine v_callX hC hs (fun p l e R s m args below meth c G H locs a ls cells slots hx hb hml hown hts hK hNw hF hLc hls hP hD hf => ?_)
  exact vx_runS ⟨hx, hb, hml, hown, hts⟩ (hC.2 l G a H.size) (va_cwS av.length hts hw rfl rfl rfl hy (by rw [hF, hLc]; exact hrm)) ⟨vblind l G σ a H.size _, fun U hU hW => ⟨rfl, by rw [hU], by rw [hU]; exact hP, va_K.moved hW.alike hK, by rw [hU]; exact VN.warm hW hNw, hD⟩⟩ rfl (by simp) hls rfl (lv_room (by rw [vc8_dv]; exact h8)) hd hf
variable {ci o N : Nat} {C : String} {T : u_T} {ty : Nat → FieldType} {As : List vA}
theorem v_callXV (cf : CF ci C T N ty) (ho : ok (P0 []) o ci) (hC : VT y bytes maxL ret1 rf rl (vO o :: As) σ E σ1) (hw : GoodIn lw_all (wsV own i C y (ws_ y bytes maxL ret1))) (hyC : y.cls = C) (hy : yOk y As.length) (hrm : rf + 1 ≤ F ∧ 8 + (maxL + 11) + rl ≤ Lc) (h8 : vc8 st ≤ 8) (hs : stk = (vO o :: As).reverse ++ st) (hd : decode cc pc = .ok (.invokevirtual i, 3)) :
    VW cc (tB E own σ1 F Lc nL) (P0 []) σ pc L stk := by
  refine v_callX hC hs (fun p l e R s m args below meth c G H locs a ls cells slots hx hb hml hown hts hK hNw hF hLc hls hP hD hf => ?_)
  exact vx_runV (As := As.map (dv a)) (b := a o) ⟨hx, hb, hml, hown, hts⟩ (hC.2 l G a H.size) (cwV As.length hts hw rfl rfl rfl ⟨hyC, hy⟩ (by rw [hF, hLc]; exact hrm)) ⟨vblind l G σ a H.size _, va_recv hK hP cf.1 (vws_obj cf ho), fun U hU hW => ⟨rfl, by rw [hU], by rw [hU]; exact hP, va_K.moved hW.alike hK, by rw [hU]; exact VN.warm hW hNw, hD⟩⟩ rfl (by simp) hls (by simp [dv]) (lv_room (by rw [vc8_dv]; exact h8)) hd hf
end
/-- which exception: 1, 2, 3 -/
def exE : Nat → String
  | 1 => "java/lang/IllegalStateException"
  | 2 => "java/lang/IllegalArgumentException"
  | _ => "java/lang/IndexOutOfBoundsException"
abbrev exNm : List String := ["java/lang/RuntimeException", "java/lang/Exception"]
set_option maxHeartbeats 2000000
theorem at0_1 : ∀ w ∈ vx_at0 "SchemaWorkshop" 84 "java/lang/IllegalStateException" exNm, w ∈ lw_all ∨ w ∈ vnest := by
  intro w hw
  obtain ⟨h1, h2⟩ := List.mem_filter.mp hw
  rcases List.mem_cons.mp h1 with e | h1
  · rw [e]; exact Or.inl q312
  rcases List.mem_cons.mp h1 with e | h1
  · rw [e]; exact Or.inl q955
  rcases List.mem_cons.mp h1 with e | h1
  · rw [e]; exact Or.inl q964
  rcases List.mem_cons.mp h1 with e | h1
  · rw [e]; exact Or.inl q969
  rcases List.mem_cons.mp h1 with e | h1
  · rw [e]; exact Or.inl q972
  rcases List.mem_cons.mp h1 with e | h1
  · rw [e]; exact Or.inl q974
  rcases List.mem_cons.mp h1 with e | h1
  · rw [e]; exact Or.inl q956
  rcases List.mem_cons.mp h1 with e | h1
  · rw [e]; exact Or.inl q957
  rcases List.mem_cons.mp h1 with e | h1
  · rw [e]; exact Or.inl q332
  rcases List.mem_cons.mp h1 with e | h1
  · rw [e]; exact Or.inl q333
  rcases List.mem_cons.mp h1 with e | h1
  · rw [e]; exact Or.inl q958
  rcases List.mem_cons.mp h1 with e | h1
  · rw [e]; exact Or.inl q963
  rcases List.mem_cons.mp h1 with e | h1
  · rw [e]; exact Or.inl q970
  rcases List.mem_cons.mp h1 with e | h1
  · rw [e]; exact Or.inl q987
  rcases List.mem_cons.mp h1 with e | h1
  · rw [e]; exact Or.inl q945
  rcases List.mem_cons.mp h1 with e | h1
  · rw [e]; exact Or.inl q988
  rcases List.mem_cons.mp h1 with e | h1
  · rw [e]; exact Or.inl q947
  rcases List.mem_cons.mp h1 with e | h1
  · rw [e]; exact Or.inl q989
  rcases List.mem_cons.mp h1 with e | h1
  · rw [e]; exact Or.inl q949
  rcases List.mem_cons.mp h1 with e | h1
  · rw [e]; exact Or.inl q959
  rcases List.mem_cons.mp h1 with e | h1
  · rw [e] at h2; exact absurd h2 (by decide)
  rcases List.mem_cons.mp h1 with e | h1
  · rw [e]; exact Or.inl q961
  rcases List.mem_cons.mp h1 with e | h1
  · rw [e] at h2; exact absurd h2 (by decide)
  rcases List.mem_cons.mp h1 with e | h1
  · rw [e]; exact Or.inl q951
  rcases List.mem_cons.mp h1 with e | h1
  · rw [e]; exact Or.inl q976
  rcases List.mem_cons.mp h1 with e | h1
  · rw [e]; exact Or.inl q977
  rcases List.mem_cons.mp h1 with e | h1
  · rw [e]; exact Or.inl q978
  rcases List.mem_cons.mp h1 with e | h1
  · rw [e]; exact Or.inl q979
  rcases List.mem_cons.mp h1 with e | h1
  · rw [e]; exact Or.inr (List.mem_filter.mpr ⟨q936, rfl⟩)
  rcases List.mem_cons.mp h1 with e | h1
  · rw [e]; exact Or.inl q979
  rcases List.mem_cons.mp h1 with e | h1
  · rw [e]; exact Or.inl q980
  rcases List.mem_cons.mp h1 with e | h1
  · rw [e]; exact Or.inl q981
  rcases List.mem_cons.mp h1 with e | h1
  · rw [e]; exact Or.inl q982
  rcases List.mem_cons.mp h1 with e | h1
  · rw [e]; exact Or.inr (List.mem_filter.mpr ⟨q938, rfl⟩)
  rcases List.mem_cons.mp h1 with e | h1
  · rw [e]; exact Or.inl q982
  rcases List.mem_cons.mp h1 with e | h1
  · rw [e]; exact Or.inl q983
  rcases List.mem_cons.mp h1 with e | h1
  · rw [e]; exact Or.inl q984
  rcases List.mem_cons.mp h1 with e | h1
  · rw [e]; exact Or.inl q956
  rcases List.mem_cons.mp h1 with e | h1
  · rw [e]; exact Or.inr (List.mem_filter.mpr ⟨q940, rfl⟩)
  rcases List.mem_cons.mp h1 with e | h1
  · rw [e]; exact Or.inl q975
  rcases List.mem_cons.mp h1 with e | h1
  · rw [e]; exact Or.inl q934
  rcases List.mem_cons.mp h1 with e | h1
  · rw [e]; exact Or.inr (List.mem_filter.mpr ⟨q935, rfl⟩)
  rcases List.mem_cons.mp h1 with e | h1
  · rw [e]; exact Or.inl q942
  rcases List.mem_cons.mp h1 with e | h1
  · rw [e]; exact Or.inl q943
  rcases List.mem_cons.mp h1 with e | h1
  · rw [e]; exact Or.inl q944
  rcases List.mem_cons.mp h1 with e | h1
  · rw [e]; exact Or.inl q946
  rcases List.mem_cons.mp h1 with e | h1
  · rw [e]; exact Or.inl q948
  rcases List.mem_cons.mp h1 with e | h1
  · rw [e]; exact Or.inl q950
  rcases List.mem_cons.mp h1 with e | h1
  · rw [e] at h2; exact absurd h2 (by decide)
  rcases List.mem_cons.mp h1 with e | h1
  · rw [e] at h2; exact absurd h2 (by decide)
  rcases List.mem_cons.mp h1 with e | h1
  · rw [e]; exact Or.inl q985
  rcases List.mem_cons.mp h1 with e | h1
  · rw [e]; exact Or.inl q953
  rcases List.mem_cons.mp h1 with e | h1
  · rw [e]; exact Or.inl q952
  · cases h1
theorem gd0_1 : ∀ w ∈ Cond.classLink "SchemaWorkshop" 82 "java/lang/IllegalStateException" :: Cond.initialized "java/lang/IllegalStateException" :: vx_at0 "SchemaWorkshop" 84 "java/lang/IllegalStateException" exNm, vx_ot w = true := by decide +kernel
theorem at0_2 : ∀ w ∈ vx_at0 "SchemaWorkshop" 81 "java/lang/IllegalArgumentException" exNm, w ∈ lw_all ∨ w ∈ vnest := by
  intro w hw
  obtain ⟨h1, h2⟩ := List.mem_filter.mp hw
  rcases List.mem_cons.mp h1 with e | h1
  · rw [e]; exact Or.inl q312
  rcases List.mem_cons.mp h1 with e | h1
  · rw [e]; exact Or.inl q955
  rcases List.mem_cons.mp h1 with e | h1
  · rw [e]; exact Or.inl q964
  rcases List.mem_cons.mp h1 with e | h1
  · rw [e]; exact Or.inl q969
  rcases List.mem_cons.mp h1 with e | h1
  · rw [e]; exact Or.inl q972
  rcases List.mem_cons.mp h1 with e | h1
  · rw [e]; exact Or.inl q974
  rcases List.mem_cons.mp h1 with e | h1
  · rw [e]; exact Or.inl q956
  rcases List.mem_cons.mp h1 with e | h1
  · rw [e]; exact Or.inl q957
  rcases List.mem_cons.mp h1 with e | h1
  · rw [e]; exact Or.inl q332
  rcases List.mem_cons.mp h1 with e | h1
  · rw [e]; exact Or.inl q333
  rcases List.mem_cons.mp h1 with e | h1
  · rw [e]; exact Or.inl q958
  rcases List.mem_cons.mp h1 with e | h1
  · rw [e]; exact Or.inl q963
  rcases List.mem_cons.mp h1 with e | h1
  · rw [e]; exact Or.inl q970
  rcases List.mem_cons.mp h1 with e | h1
  · rw [e]; exact Or.inl q987
  rcases List.mem_cons.mp h1 with e | h1
  · rw [e]; exact Or.inl q945
  rcases List.mem_cons.mp h1 with e | h1
  · rw [e]; exact Or.inl q988
  rcases List.mem_cons.mp h1 with e | h1
  · rw [e]; exact Or.inl q947
  rcases List.mem_cons.mp h1 with e | h1
  · rw [e]; exact Or.inl q989
  rcases List.mem_cons.mp h1 with e | h1
  · rw [e]; exact Or.inl q949
  rcases List.mem_cons.mp h1 with e | h1
  · rw [e]; exact Or.inl q959
  rcases List.mem_cons.mp h1 with e | h1
  · rw [e] at h2; exact absurd h2 (by decide)
  rcases List.mem_cons.mp h1 with e | h1
  · rw [e]; exact Or.inl q961
  rcases List.mem_cons.mp h1 with e | h1
  · rw [e] at h2; exact absurd h2 (by decide)
  rcases List.mem_cons.mp h1 with e | h1
  · rw [e]; exact Or.inl q951
  rcases List.mem_cons.mp h1 with e | h1
  · rw [e]; exact Or.inl q1034
  rcases List.mem_cons.mp h1 with e | h1
  · rw [e]; exact Or.inl q1035
  rcases List.mem_cons.mp h1 with e | h1
  · rw [e]; exact Or.inl q1036
  rcases List.mem_cons.mp h1 with e | h1
  · rw [e]; exact Or.inl q979
  rcases List.mem_cons.mp h1 with e | h1
  · rw [e]; exact Or.inr (List.mem_filter.mpr ⟨q936, rfl⟩)
  rcases List.mem_cons.mp h1 with e | h1
  · rw [e]; exact Or.inl q979
  rcases List.mem_cons.mp h1 with e | h1
  · rw [e]; exact Or.inl q980
  rcases List.mem_cons.mp h1 with e | h1
  · rw [e]; exact Or.inl q981
  rcases List.mem_cons.mp h1 with e | h1
  · rw [e]; exact Or.inl q982
  rcases List.mem_cons.mp h1 with e | h1
  · rw [e]; exact Or.inr (List.mem_filter.mpr ⟨q938, rfl⟩)
  rcases List.mem_cons.mp h1 with e | h1
  · rw [e]; exact Or.inl q982
  rcases List.mem_cons.mp h1 with e | h1
  · rw [e]; exact Or.inl q983
  rcases List.mem_cons.mp h1 with e | h1
  · rw [e]; exact Or.inl q984
  rcases List.mem_cons.mp h1 with e | h1
  · rw [e]; exact Or.inl q956
  rcases List.mem_cons.mp h1 with e | h1
  · rw [e]; exact Or.inr (List.mem_filter.mpr ⟨q940, rfl⟩)
  rcases List.mem_cons.mp h1 with e | h1
  · rw [e]; exact Or.inl q1033
  rcases List.mem_cons.mp h1 with e | h1
  · rw [e]; exact Or.inl q1025
  rcases List.mem_cons.mp h1 with e | h1
  · rw [e]; exact Or.inr (List.mem_filter.mpr ⟨q1026, rfl⟩)
  rcases List.mem_cons.mp h1 with e | h1
  · rw [e]; exact Or.inl q1027
  rcases List.mem_cons.mp h1 with e | h1
  · rw [e]; exact Or.inl q967
  rcases List.mem_cons.mp h1 with e | h1
  · rw [e]; exact Or.inl q1028
  rcases List.mem_cons.mp h1 with e | h1
  · rw [e]; exact Or.inl q1029
  rcases List.mem_cons.mp h1 with e | h1
  · rw [e]; exact Or.inl q1030
  rcases List.mem_cons.mp h1 with e | h1
  · rw [e]; exact Or.inl q1031
  rcases List.mem_cons.mp h1 with e | h1
  · rw [e] at h2; exact absurd h2 (by decide)
  rcases List.mem_cons.mp h1 with e | h1
  · rw [e] at h2; exact absurd h2 (by decide)
  rcases List.mem_cons.mp h1 with e | h1
  · rw [e]; exact Or.inl q985
  rcases List.mem_cons.mp h1 with e | h1
  · rw [e]; exact Or.inl q953
  rcases List.mem_cons.mp h1 with e | h1
  · rw [e]; exact Or.inl q1032
  · cases h1
theorem gd0_2 : ∀ w ∈ Cond.classLink "SchemaWorkshop" 79 "java/lang/IllegalArgumentException" :: Cond.initialized "java/lang/IllegalArgumentException" :: vx_at0 "SchemaWorkshop" 81 "java/lang/IllegalArgumentException" exNm, vx_ot w = true := by decide +kernel
theorem at0_3 : ∀ w ∈ vx_at0 "SchemaWorkshop" 78 "java/lang/IndexOutOfBoundsException" exNm, w ∈ lw_all ∨ w ∈ vnest := by
  intro w hw
  obtain ⟨h1, h2⟩ := List.mem_filter.mp hw
  rcases List.mem_cons.mp h1 with e | h1
  · rw [e]; exact Or.inl q312
  rcases List.mem_cons.mp h1 with e | h1
  · rw [e]; exact Or.inl q955
  rcases List.mem_cons.mp h1 with e | h1
  · rw [e]; exact Or.inl q964
  rcases List.mem_cons.mp h1 with e | h1
  · rw [e]; exact Or.inl q969
  rcases List.mem_cons.mp h1 with e | h1
  · rw [e]; exact Or.inl q972
  rcases List.mem_cons.mp h1 with e | h1
  · rw [e]; exact Or.inl q974
  rcases List.mem_cons.mp h1 with e | h1
  · rw [e]; exact Or.inl q956
  rcases List.mem_cons.mp h1 with e | h1
  · rw [e]; exact Or.inl q957
  rcases List.mem_cons.mp h1 with e | h1
  · rw [e]; exact Or.inl q332
  rcases List.mem_cons.mp h1 with e | h1
  · rw [e]; exact Or.inl q333
  rcases List.mem_cons.mp h1 with e | h1
  · rw [e]; exact Or.inl q958
  rcases List.mem_cons.mp h1 with e | h1
  · rw [e]; exact Or.inl q963
  rcases List.mem_cons.mp h1 with e | h1
  · rw [e]; exact Or.inl q970
  rcases List.mem_cons.mp h1 with e | h1
  · rw [e]; exact Or.inl q987
  rcases List.mem_cons.mp h1 with e | h1
  · rw [e]; exact Or.inl q945
  rcases List.mem_cons.mp h1 with e | h1
  · rw [e]; exact Or.inl q988
  rcases List.mem_cons.mp h1 with e | h1
  · rw [e]; exact Or.inl q947
  rcases List.mem_cons.mp h1 with e | h1
  · rw [e]; exact Or.inl q989
  rcases List.mem_cons.mp h1 with e | h1
  · rw [e]; exact Or.inl q949
  rcases List.mem_cons.mp h1 with e | h1
  · rw [e]; exact Or.inl q959
  rcases List.mem_cons.mp h1 with e | h1
  · rw [e] at h2; exact absurd h2 (by decide)
  rcases List.mem_cons.mp h1 with e | h1
  · rw [e]; exact Or.inl q961
  rcases List.mem_cons.mp h1 with e | h1
  · rw [e] at h2; exact absurd h2 (by decide)
  rcases List.mem_cons.mp h1 with e | h1
  · rw [e]; exact Or.inl q951
  rcases List.mem_cons.mp h1 with e | h1
  · rw [e]; exact Or.inl q1998
  rcases List.mem_cons.mp h1 with e | h1
  · rw [e]; exact Or.inl q1999
  rcases List.mem_cons.mp h1 with e | h1
  · rw [e]; exact Or.inl q2000
  rcases List.mem_cons.mp h1 with e | h1
  · rw [e]; exact Or.inl q979
  rcases List.mem_cons.mp h1 with e | h1
  · rw [e]; exact Or.inr (List.mem_filter.mpr ⟨q936, rfl⟩)
  rcases List.mem_cons.mp h1 with e | h1
  · rw [e]; exact Or.inl q979
  rcases List.mem_cons.mp h1 with e | h1
  · rw [e]; exact Or.inl q980
  rcases List.mem_cons.mp h1 with e | h1
  · rw [e]; exact Or.inl q981
  rcases List.mem_cons.mp h1 with e | h1
  · rw [e]; exact Or.inl q982
  rcases List.mem_cons.mp h1 with e | h1
  · rw [e]; exact Or.inr (List.mem_filter.mpr ⟨q938, rfl⟩)
  rcases List.mem_cons.mp h1 with e | h1
  · rw [e]; exact Or.inl q982
  rcases List.mem_cons.mp h1 with e | h1
  · rw [e]; exact Or.inl q983
  rcases List.mem_cons.mp h1 with e | h1
  · rw [e]; exact Or.inl q984
  rcases List.mem_cons.mp h1 with e | h1
  · rw [e]; exact Or.inl q956
  rcases List.mem_cons.mp h1 with e | h1
  · rw [e]; exact Or.inr (List.mem_filter.mpr ⟨q940, rfl⟩)
  rcases List.mem_cons.mp h1 with e | h1
  · rw [e]; exact Or.inl q1997
  rcases List.mem_cons.mp h1 with e | h1
  · rw [e]; exact Or.inl q1989
  rcases List.mem_cons.mp h1 with e | h1
  · rw [e]; exact Or.inr (List.mem_filter.mpr ⟨q1990, rfl⟩)
  rcases List.mem_cons.mp h1 with e | h1
  · rw [e]; exact Or.inl q1991
  rcases List.mem_cons.mp h1 with e | h1
  · rw [e]; exact Or.inl q968
  rcases List.mem_cons.mp h1 with e | h1
  · rw [e]; exact Or.inl q1992
  rcases List.mem_cons.mp h1 with e | h1
  · rw [e]; exact Or.inl q1993
  rcases List.mem_cons.mp h1 with e | h1
  · rw [e]; exact Or.inl q1994
  rcases List.mem_cons.mp h1 with e | h1
  · rw [e]; exact Or.inl q1995
  rcases List.mem_cons.mp h1 with e | h1
  · rw [e] at h2; exact absurd h2 (by decide)
  rcases List.mem_cons.mp h1 with e | h1
  · rw [e] at h2; exact absurd h2 (by decide)
  rcases List.mem_cons.mp h1 with e | h1
  · rw [e]; exact Or.inl q985
  rcases List.mem_cons.mp h1 with e | h1
  · rw [e]; exact Or.inl q953
  rcases List.mem_cons.mp h1 with e | h1
  · rw [e]; exact Or.inl q1996
  · cases h1
theorem gd0_3 : ∀ w ∈ Cond.classLink "SchemaWorkshop" 76 "java/lang/IndexOutOfBoundsException" :: Cond.initialized "java/lang/IndexOutOfBoundsException" :: vx_at0 "SchemaWorkshop" 78 "java/lang/IndexOutOfBoundsException" exNm, vx_ot w = true := by decide +kernel
/-- a run that answers, or throws -/
def nx {α : Type} (m : Option α) : Option (α ⊕ (Nat × vS)) := m.bind fun r => some (.inl r)
theorem nx_some {α : Type} {m : Option α} {r : α} (h : nx m = some (.inl r)) : m = some r := by
  cases m with
  | none => cases h
  | some x => cases h; rfl
theorem nx_no {α : Type} {m : Option α} {q : Nat × vS} (h : nx m = some (.inr q)) : False := by
  cases m with
  | none => cases h
  | some x => cases h
def bx {α : Type} (m : Option ((Int × vS) ⊕ (Nat × vS))) (k : Int → vS → Option (α ⊕ (Nat × vS))) : Option (α ⊕ (Nat × vS)) := m.bind fun z => match z with | .inl q => k q.1 q.2 | .inr q => some (.inr q)
def bxv {α : Type} (m : Option (vS ⊕ (Nat × vS))) (k : vS → Option (α ⊕ (Nat × vS))) : Option (α ⊕ (Nat × vS)) := m.bind fun z => match z with | .inl q => k q | .inr q => some (.inr q)
theorem bx_inl {α : Type} {m : Option ((Int × vS) ⊕ (Nat × vS))} {k : Int → vS → Option (α ⊕ (Nat × vS))} {r : α} (h : bx m k = some (.inl r)) : ∃ x s, m = some (.inl (x, s)) ∧ k x s = some (.inl r) := by
  cases m with
  | none => cases h
  | some z =>
    cases z with
    | inl q => exact ⟨q.1, q.2, rfl, h⟩
    | inr q => cases h
theorem bx_inr {α : Type} {m : Option ((Int × vS) ⊕ (Nat × vS))} {k : Int → vS → Option (α ⊕ (Nat × vS))} {r : Nat × vS} (h : bx m k = some (.inr r)) : m = some (.inr r) ∨ ∃ x s, m = some (.inl (x, s)) ∧ k x s = some (.inr r) := by
  cases m with
  | none => cases h
  | some z =>
    cases z with
    | inl q => exact Or.inr ⟨q.1, q.2, rfl, h⟩
    | inr q => cases h; exact Or.inl rfl
theorem bxv_inl {α : Type} {m : Option (vS ⊕ (Nat × vS))} {k : vS → Option (α ⊕ (Nat × vS))} {r : α} (h : bxv m k = some (.inl r)) : ∃ s, m = some (.inl s) ∧ k s = some (.inl r) := by
  cases m with
  | none => cases h
  | some z =>
    cases z with
    | inl q => exact ⟨q, rfl, h⟩
    | inr q => cases h
theorem bxv_inr {α : Type} {m : Option (vS ⊕ (Nat × vS))} {k : vS → Option (α ⊕ (Nat × vS))} {r : Nat × vS} (h : bxv m k = some (.inr r)) : m = some (.inr r) ∨ ∃ s, m = some (.inl s) ∧ k s = some (.inr r) := by
  cases m with
  | none => cases h
  | some z =>
    cases z with
    | inl q => exact Or.inr ⟨q, rfl, h⟩
    | inr q => cases h; exact Or.inl rfl
