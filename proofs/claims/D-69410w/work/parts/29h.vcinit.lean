set_option maxRecDepth 100000
/-! V-LAYER 25: calls of constructors; tables -/
theorem vblindC (l : Launch) (G : vG) (P : vP) (σ : vS) (a : Nat → Nat) (sz : Nat) (av : List Value) : FrameBlind (va_Pc av (vpreC l G P σ a sz)) := by
  intro x U g mk q
  obtain ⟨q0, q1, qP, qK, qN, qD⟩ := q
  exact ⟨q0, q1, qP, va_K.moved (u := U) (U := U.calling g mk x) (Vm.Alike.refl _) qK, VN.same (s := U) (U := U.calling g mk x) rfl qN, qD⟩
section
variable {p : Program} {l : Launch} {e : Env} {R : Room} {s : State} {m : MethodId} {args : Array Value} {below : List Frame} {meth : Method} {c : Code} {H : Heap} {locs : List Loc} {cells slots mc ms pc : Nat} {Q : State → Prop} {ls : Array Slot} {st0 rest : List Value} {G : vG} {σ σ1 : vS} {a : Nat → Nat} {A : Nat → Prop} {av : Array Value}
theorem v_runC (hr : va_Run p l e R s m args below meth c H locs cells slots mc ms (F0 m pc ls st0) rest (vpostC G σ a H.size σ1 av) (va_A (vws G (pOf σ) σ a) H.size)) (hD : va_D A (vws G (pOf σ) σ a)) (hS : va_S A s.heap H locs) (hA : ∀ q : Nat, s.heap.size ≤ q → A q)
    (kk : ∀ (H1 : Heap) (locs1 : List Loc) (a1 : Nat → Nat), va_P G.1 vcl (vws G (pOf σ1) σ1 a1) H1 → va_D A (vws G (pOf σ1) σ1 a1) → va_S A s.heap H1 locs1 → vJ (lzC σ) a σ1 a1 → W p l e R s m args below meth c H1 locs1 (cells + mc) (slots + ms) Q (F0 m (pc + 3) ls rest)) : W p l e R s m args below meth c H locs cells slots Q (F0 m pc ls st0) := by
  have hsub : ∀ q : Nat, va_A (vws G (pOf σ) σ a) H.size q → A q := by
    rintro q (⟨k, x, h⟩ | h)
    · exact hD.2 k _ h
    · exact hA q (Nat.le_trans hS.1 h)
  intro T hT X
  obtain ⟨v, s0, t, T', L, h0, X', hL, e1, e2, ⟨⟨a1, hv, hP1, hD1, hJ1⟩, hz, hk⟩, hst⟩ := hr T hT X
  cases hv
  rw [h0] at hz hk
  obtain ⟨t2, q1, q2⟩ := kk T'.heap (locs ++ L) a1 (by rw [e1]; exact hP1) (hD1.weaken (fun _ _ _ h => hsub _ h))
    ⟨Nat.le_trans hS.1 (by rw [e1]; exact hz), fun q h1 h2 => by rw [e1, hk q (Nat.lt_of_lt_of_le h1 hS.1) (fun z => h2 (hsub q z))]; exact hS.2.1 q h1 h2, fun q hq => by
      rcases List.mem_append.mp hq with h | h
      · exact hS.2.2 q h
      · exact hsub _ (hL q h)⟩ hJ1 T' rfl X'
  exact ⟨t2, hst t2 q1, q2⟩
end
/-- objects of locals and stack, or texts -/
def LO (n : Nat) : List vA → Prop
  | [] => True
  | .inr (.inr (.inl k)) :: r => ((k < n ∧ kd k < 14) ∨ 1000 ≤ k) ∧ LO n r
  | _ :: r => LO n r
theorem LO_dv {n : Nat} {a a1 : Nat → Nat} (ha : ∀ k : Nat, (k < n ∧ kd k < 14) ∨ 1000 ≤ k → a1 k = a k) : ∀ l : List vA, LO n l → l.map (dv a1) = l.map (dv a)
  | [], _ => rfl
  | .inl x :: r, h => by rw [List.map_cons, List.map_cons, LO_dv ha r h]; rfl
  | .inr (.inl x) :: r, h => by rw [List.map_cons, List.map_cons, LO_dv ha r h]; rfl
  | .inr (.inr (.inl k)) :: r, h => by
    rw [List.map_cons, List.map_cons, LO_dv ha r h.2]
    simp only [dv, ha k h.1]
  | .inr (.inr (.inr v)) :: r, h => by rw [List.map_cons, List.map_cons, LO_dv ha r h]; rfl
theorem LO_dvl {n : Nat} {a a1 : Nat → Nat} (ha : ∀ k : Nat, (k < n ∧ kd k < 14) ∨ 1000 ≤ k → a1 k = a k) (L : List (Nat × vA)) (h : LO n (L.map (fun q => q.2))) : dvl a1 L = dvl a L := by
  induction L with
  | nil => rfl
  | cons q L ih =>
    obtain ⟨i, v⟩ := q
    have e : ∀ b : Nat → Nat, dvl b ((i, v) :: L) = (i, dv b v) :: dvl b L := fun _ => rfl
    rw [e, e]
    match v, h with
    | .inl x, h => rw [ih h]; rfl
    | .inr (.inl x), h => rw [ih h]; rfl
    | .inr (.inr (.inl k)), h =>
      rw [ih h.2]
      simp only [dv, ha k h.1]
    | .inr (.inr (.inr v)), h => rw [ih h]; rfl
section
variable {cc bytes : ByteArray} {own : String} {rv : Option vA} {σo : vS} {ret : Option FieldType} {F Lc nL rf rl maxL i : Nat} {tko : List (Nat × Nat)} {K K' : Nat} {E E' : Nat → Nat → Bool} {σ σ' : vS} {pc : Nat} {L : List (Nat × vA)} {st stk As : List vA} {y : MethodName} {o : Nat}
theorem gw_up {k : Nat} (hg : gw rv σo K) (h : K ≤ k) : gw rv σo k := by
  obtain ⟨h1, h2, h3 | ⟨h3, h4, h5⟩⟩ := hg
  · exact ⟨h1, h2, Or.inl h3⟩
  · exact ⟨h1, h2, Or.inr ⟨h3, h4, by omega⟩⟩
theorem lzC_con {k : Nat} (hK : K ≤ 199) (h : k < K) : lzC (conS σ (pK K E) 0) k = (σ.2.1 k).1 + 1 := by
  have e0 : ((conS σ (pK K E) 0).2.1 1300).1 = K := rfl
  unfold lzC
  rw [e0, if_pos h, conS_len σ (pK K E) 0 (show k < 1300 by omega)]
theorem vJ_C {l0 a0 a a1 : Nat → Nat} {K0 : Nat} (hK : K ≤ 199) (h0 : ∀ k, K ≤ k → k < 199 → l0 k = 0) (h : vJ l0 a0 σ a) (h1 : vJ (lzC (conS σ (pK K E) 0)) a (conS σ' (pK K' E') K0) a1) : vJ l0 a0 (bmp σ') a1 := by
  refine ⟨fun k hk => ?_, fun k hk => (h1.2 k hk).trans (h.2 k hk)⟩
  have hk9 : k < 199 := hk.1
  by_cases z : K ≤ k
  · exact Or.inl (h0 k z hk9)
  have p1 := h.1 k hk
  have q1 := h1.1 k hk
  have e1 : lzC (conS σ (pK K E) 0) k = (σ.2.1 k).1 + 1 := lzC_con hK (by omega)
  rw [e1, conS_len σ' _ _ (by omega)] at q1
  show l0 k = 0 ∨ _ ∨ _ ∧ l0 k ≤ (σ'.2.1 k).1 + 1 ∧ ((σ'.2.1 k).1 + 1 = l0 k → _)
  rcases p1 with z | ⟨z1, z2⟩ | ⟨z1, z2, z3⟩
  · exact Or.inl z
  · rcases q1 with y | ⟨-, y2⟩ | ⟨y1, -⟩
    · omega
    · exact Or.inr (Or.inl ⟨z1, y2.trans z2⟩)
    · omega
  · rcases q1 with y | ⟨y1, -⟩ | ⟨-, y2, y3⟩
    · omega
    · omega
    · refine Or.inr (Or.inr ⟨z1, by omega, fun w => ?_⟩)
      rw [y3 (by omega), z3 (by omega)]
theorem LO_C {a a1 : Nat → Nat} {K0 : Nat} (hK : K ≤ 199) (h1 : vJ (lzC (conS σ (pK K E) 0)) a (conS σ' (pK K' E') K0) a1) : ∀ k : Nat, (k < K ∧ kd k < 14) ∨ 1000 ≤ k → a1 k = a k := by
  rintro k (⟨h, h14⟩ | h)
  · have hkp : kpK k := ⟨show k < 199 by omega, fun z => by subst z; exact absurd h14 (by decide), fun z => by subst z; exact absurd h14 (by decide)⟩
    rcases h1.1 k hkp with z | z | z
    · exfalso
      rw [lzC_con hK h] at z
      omega
    · exact z.2
    · omega
  · exact h1.2 k h
/-- the frame of both rows -/
theorem v_callc (hC : VCI y bytes maxL rf rl (vO o :: As) K E σ K' E' σ') (hz : Zr K' E' σ') (hK : K ≤ 199) (hK' : K' ≤ 199) (hg : gw rv σo K) (hL : LO K (L.map (fun q => q.2))) (hst : LO K st) (hs : stk = (vO o :: As).reverse ++ st)
    (hrun : ∀ (p : Program) (l : Launch) (e : Env) (R : Room) (s : State) (m : MethodId) (args : Array Value) (below : List Frame) (meth : Method) (c : Code) (G : vG) (H : Heap) (locs : List Loc) (a : Nat → Nat) (ls : Array Slot) (cells slots : Nat),
      p.tables.exec = Jvm.exec → c.code = cc → c.maxLocals = nL → s.vm.findClass own = some m.cls → (∀ w ∈ lw_all, w.before args s = true) → va_K G.1 vcl (vtys G) s → VN G a (va_A (vws G (pK K E) σ a) H.size) l s H → R.frames = F → R.locals = Lc → ls.size = nL → va_P G.1 vcl (vws G (pK K E) σ a) H → va_D (fun _ => True) (vws G (pK K E) σ a) →
      cells + (Pc (P0 []) σ' - Pc (pK K E) σ) ≤ R.cells ∧ slots + (Ps (P0 []) σ' - Ps (pK K E) σ) ≤ R.slots →
      va_Run p l e R s m args below meth c H locs cells slots (Pc (P0 []) σ' - Pc (pK K E) σ) (Ps (P0 []) σ' - Ps (pK K E) σ) (F0 m pc ls (((vO o :: As).map (dv a)).reverse ++ st.map (dv a))) (st.map (dv a)) (vpostC G (conS σ (pK K E) 0) a H.size (conS σ' (pK K' E') K) ((vO o :: As).map (dv a)).toArray) (va_A (vws G (pK K E) σ a) H.size))
    (k : VW cc (own, rv, σo, ret, F, Lc, nL, tko) (pK K' E') (bmp σ') (pc + 3) L st) : VW cc (own, rv, σo, ret, F, Lc, nL, tko) (pK K E) σ pc L stk := by
  subst hs
  obtain ⟨hp1, hp2⟩ := Pc_part (E := E') hK' hz
  obtain ⟨k0, k⟩ := k
  obtain ⟨hle, hC⟩ := hC
  have ec := Pc_bmp (pK K' E') σ'
  have es := Ps_bmp (pK K' E') σ'
  rw [ec, es] at k0
  refine And.intro ⟨by omega, by omega, k0.2.2⟩ (fun M hX hR hM hN => ?_)
  have h0 : ∀ k, K ≤ k → k < 199 → M.2.2.2.2.2.2.2.1 k = 0 := fun k h1 h2 => gw_0 hR (gw_up hg h1) h2
  have k := k M hX hR hM hN
  have hR2 := hR
  obtain ⟨⟨p, l, e, R, s, m, args, below, meth, c⟩, G, A, Q, b, oo, nL0, l0, a0⟩ := M
  have h0 : ∀ k, K ≤ k → k < 199 → l0 k = 0 := h0
  intro H locs a ls hP hD hS hl hj b1 b2
  obtain ⟨hx, hb, hml, hown, hts, hKn, hlk, hA, hRc, hRs, hNw⟩ := hX
  obtain ⟨σ0, hq1, hq2, ho, hq3, hq4⟩ := hR2
  have ho1 : oo.1 = Pc (P0 tko) σo := by rw [ho]
  have ho2 : oo.2 = Ps (P0 tko) σo := by rw [ho]
  have hN : nL0 = nL := hN
  rw [ho1] at hRc
  rw [ho2] at hRs
  have hf : (Pc (pK K E) σ - b.1) + (Pc (P0 []) σ' - Pc (pK K E) σ) ≤ R.cells ∧ (Ps (pK K E) σ - b.2) + (Ps (P0 []) σ' - Ps (pK K E) σ) ≤ R.slots := by omega
  have r := hrun p l e R s m args below meth c G H locs a ls (Pc (pK K E) σ - b.1) (Ps (pK K E) σ - b.2) hx hb (hml.trans hN) hown hts hKn (VN.call hj.2 hS (fun q h1 h2 => h2.elim (fun ⟨k, x, h⟩ => hD.2 k _ h) (fun h => absurd h1 (by omega))) hNw) hM.1 hM.2 (hl.1.trans hN) hP (hD.weaken (fun _ _ _ _ => trivial)) hf
  rw [List.map_append, List.map_reverse]
  have e0 : vws G (pOf (conS σ (pK K E) 0)) (conS σ (pK K E) 0) a = vws G (pK K E) σ a := by rw [pOf_conS, vws_con _ _ hK]
  rw [← e0] at r hD
  refine v_runC r hD hS hA (fun H1 locs1 a1 hP1 hD1 hS1 hJ1 => ?_)
  have e1 : vws G (pOf (conS σ' (pK K' E') K)) (conS σ' (pK K' E') K) a1 = vws G (pK K' E') (bmp σ') a1 := by rw [pOf_conS, vws_con _ _ hK', vws_bmp hK']
  rw [e1] at hP1 hD1
  have k := k H1 locs1 a1 ls hP1 hD1 hS1 (by rw [LO_dvl (LO_C hK hJ1) L hL]; exact hl) (vJ_C hK h0 hj hJ1) (by rw [ec]; omega) (by rw [es]; omega)
  rw [ec, es] at k
  rw [← LO_dv (LO_C hK hJ1) st hst]
  exact W.widen (by omega) (by omega) k
theorem v_callI (hC : VCI y bytes maxL rf rl (vO o :: As) K E σ K' E' σ') (hz : Zr K' E' σ') (hK : K ≤ 199) (hK' : K' ≤ 199) (hg : gw rv σo K) (hL : LO K (L.map (fun q => q.2))) (hst : LO K st) (hs : stk = (vO o :: As).reverse ++ st) (hG : Cond.code y bytes maxL none ∈ lw_all) (hini : Cond.initialized y.cls ∈ lw_all) (hl : Cond.methodLink own i y ∈ lw_all) (hin : Cond.instanceMethod y ∈ lw_all) (hyn : y.name = "<init>") (hy : yOk y As.length) (hrm : rf + 1 ≤ F ∧ 8 + (maxL + 11) + rl ≤ Lc) (h8 : vc8 st ≤ 8) (hd : decode cc pc = .ok (.invokespecial i, 3))
    (k : VW cc (own, rv, σo, ret, F, Lc, nL, tko) (pK K' E') (bmp σ') (pc + 3) L st) : VW cc (own, rv, σo, ret, F, Lc, nL, tko) (pK K E) σ pc L stk := by
  refine v_callc hC hz hK hK' hg hL hst hs (fun p l e R s m args below meth c G H locs a ls cells slots hx hb hml hown hts hKn hNw hF hLc hls hP hD hf => ?_) k
  refine va_runI (As := As.map (dv a)) (b := a o) ⟨hx, hb, hml, hown, hts⟩ (hC.2 l G a H.size) (cwI As.length hts (lw_meth hG) rfl rfl rfl (hts _ hini) (hts _ hl) (hts _ hin) hyn hy (by rw [hF, hLc]; exact hrm)) ⟨vblindC l G _ σ a H.size _, fun U hU hW => ⟨rfl, by rw [hU], by rw [hU]; exact hP, va_K.moved hW.alike hKn, by rw [hU]; exact VN.warm hW hNw, hD⟩⟩ rfl (by simp) hls (by simp [dv]) (lv_room (by rw [vc8_dv]; exact h8)) hd hf
theorem v_callIN {host : String} (hC : VCI y bytes maxL rf rl (vO o :: As) K E σ K' E' σ') (hz : Zr K' E' σ') (hK : K ≤ 199) (hK' : K' ≤ 199) (hg : gw rv σo K) (hL : LO K (L.map (fun q => q.2))) (hst : LO K st) (hs : stk = (vO o :: As).reverse ++ st) (hG : Cond.code y bytes maxL none ∈ lw_all) (hini : Cond.initialized y.cls ∈ lw_all) (hl : Cond.methodLinkNest own i y host ∈ lw_tbl) (hin : Cond.instanceMethod y ∈ lw_all) (hyn : y.name = "<init>") (hy : yOk y As.length) (hrm : rf + 1 ≤ F ∧ 8 + (maxL + 11) + rl ≤ Lc) (h8 : vc8 st ≤ 8) (hd : decode cc pc = .ok (.invokespecial i, 3))
    (k : VW cc (own, rv, σo, ret, F, Lc, nL, tko) (pK K' E') (bmp σ') (pc + 3) L st) : VW cc (own, rv, σo, ret, F, Lc, nL, tko) (pK K E) σ pc L stk := by
  refine v_callc hC hz hK hK' hg hL hst hs (fun p l e R s m args below meth c G H locs a ls cells slots hx hb hml hown hts hKn hNw hF hLc hls hP hD hf => ?_) k
  refine va_runIN (As := As.map (dv a)) (b := a o) ⟨hx, hb, hml, hown, hts⟩ (hC.2 l G a H.size) ⟨va_cnB As.length hts (lw_meth hG) rfl rfl rfl (hNw.1 _ (List.mem_filter.mpr ⟨hl, rfl⟩)) (hts _ hini) hy (by rw [hF, hLc]; exact hrm), hyn, hts _ hin⟩ ⟨vblindC l G _ σ a H.size _, fun U hU hW => ⟨rfl, by rw [hU], by rw [hU]; exact hP, va_K.moved hW.alike hKn, by rw [hU]; exact VN.warm hW hNw, hD⟩⟩ rfl (by simp) hls (by simp [dv]) (lv_room (by rw [vc8_dv]; exact h8)) hd hf
end
/-! tables: an array's first n numbers, the last one first -/
def tbr (n : Nat) (l : List Int) : Int → Int := fun j => if 0 ≤ j ∧ j < n then l.getD (n - 1 - j.toNat) 0 else 0
theorem tbr_0 : tbr 0 [] = fun _ => 0 := by
  funext j
  unfold tbr
  rw [if_neg (by omega)]
theorem tbr_s (n : Nat) (l : List Int) (v : Int) : uE (tbr n l) (n : Int) v = tbr (n + 1) (v :: l) := by
  funext j
  unfold uE tbr
  by_cases h : j = (n : Int)
  · subst h
    rw [if_pos rfl, if_pos (by omega), show n + 1 - 1 - (n : Int).toNat = 0 by omega]
    rfl
  · rw [if_neg h]
    by_cases h2 : 0 ≤ j ∧ j < n
    · rw [if_pos h2, if_pos (by omega), show n + 1 - 1 - j.toNat = (n - 1 - j.toNat) + 1 by omega]
      rfl
    · rw [if_neg h2, if_neg (by omega)]
theorem sE_tbr (σ : vS) (a N n : Nat) (l : List Int) (v : Int) : sE (sA σ a (N, tbr n l)) a (n : Int) v = sA σ a (N, tbr (n + 1) (v :: l)) := by
  unfold sE
  rw [sA_at, tbr_s]
  unfold sA
  simp only
  congr 2
  funext k
  by_cases h : k = a
  · rw [if_pos h, if_pos h]
  · rw [if_neg h, if_neg h, if_neg h]
