set_option maxRecDepth 100000
/-! V-LAYER 17: calls while temporaries are held: the callee's world is the static part, temporaries stay -/
def mT (σ1 σ : vS) : vS := (σ1.1, (fun k => if k < KF then σ1.2.1 k else σ.2.1 k), σ1.2.2)
def kpT (σ τ : vS) (k : Nat) : Prop := kp σ τ k ∨ KF ≤ k
def KPT (σ τ : vS) : List vA → Prop
  | [] => True
  | .inr (.inr (.inl k)) :: r => kpT σ τ k ∧ KPT σ τ r
  | _ :: r => KPT σ τ r
theorem KPT_at {σ τ : vS} {a a1 : Nat → Nat} (hJ : vJ (lz σ) a τ a1) {k : Nat} (h : kpT σ τ k) : (if k < KF then a1 k else a k) = a k := by
  rcases h with (h | h) | h
  · rw [if_pos h.1.1]
    exact kp_at hJ (Or.inl h)
  · rw [if_neg (by unfold KF; omega)]
  · rw [if_neg (by omega)]
theorem KPT_dv {σ τ : vS} {a a1 : Nat → Nat} (hJ : vJ (lz σ) a τ a1) : ∀ (l : List vA), KPT σ τ l → l.map (dv (fun k => if k < KF then a1 k else a k)) = l.map (dv a)
  | [], _ => rfl
  | .inl x :: r, h => by rw [List.map_cons, List.map_cons, KPT_dv hJ r h]; rfl
  | .inr (.inl x) :: r, h => by rw [List.map_cons, List.map_cons, KPT_dv hJ r h]; rfl
  | .inr (.inr (.inl k)) :: r, h => by
    rw [List.map_cons, List.map_cons, KPT_dv hJ r h.2]
    simp only [dv, KPT_at hJ h.1]
  | .inr (.inr (.inr v)) :: r, h => by rw [List.map_cons, List.map_cons, KPT_dv hJ r h]; rfl
theorem KPT_dvl {σ τ : vS} {a a1 : Nat → Nat} (hJ : vJ (lz σ) a τ a1) : ∀ (L : List (Nat × vA)), KPT σ τ (L.map (fun q => q.2)) → dvl (fun k => if k < KF then a1 k else a k) L = dvl a L
  | [], _ => rfl
  | (i, v) :: L, h => by
    have e : ∀ b : Nat → Nat, dvl b ((i, v) :: L) = (i, dv b v) :: dvl b L := fun _ => rfl
    rw [e, e]
    match v, h with
    | .inl x, h => rw [KPT_dvl hJ L h]; rfl
    | .inr (.inl x), h => rw [KPT_dvl hJ L h]; rfl
    | .inr (.inr (.inl k)), h =>
      rw [KPT_dvl hJ L h.2]
      simp only [dv, KPT_at hJ h.1]
    | .inr (.inr (.inr v)), h => rw [KPT_dvl hJ L h]; rfl
theorem sumTo_add (n m : Nat) (f : Nat → Nat) : sumTo (n + m) f = sumTo n f + sumTo m (fun i => f (n + i)) := by
  induction m with
  | zero => simp [sumTo]
  | succ m ih => rw [← Nat.add_assoc, sumTo_succ, sumTo_succ, ih, Nat.add_assoc]
theorem acc_tk (tk : List (Nat × Nat)) (σ : vS) : Pc (P0 tk) σ = Pc (P0 []) σ + sumTo tk.length (fun i => pcW (P0 tk) σ (KF + i)) ∧ Ps (P0 tk) σ = Ps (P0 []) σ + sumTo tk.length (fun i => psW (P0 tk) σ (KF + i)) := by
  constructor
  · unfold Pc
    show sumTo (KF + tk.length) _ + σ.2.2 300 500 = sumTo KF _ + σ.2.2 300 500 + _
    have e : sumTo KF (pcW (P0 tk) σ) = sumTo KF (pcW (P0 []) σ) := sumTo_congr (fun k hk => by
      unfold pcW
      rw [vkd_P0 _ hk, vkd_P0 _ hk, if_pos hk, if_pos hk])
    rw [sumTo_add, e, Nat.add_right_comm]
  · unfold Ps
    show sumTo (KF + tk.length) _ + 6 * σ.2.2 300 500 = sumTo KF _ + 6 * σ.2.2 300 500 + _
    have e : sumTo KF (psW (P0 tk) σ) = sumTo KF (psW (P0 []) σ) := sumTo_congr (fun k hk => by
      unfold psW
      rw [vkd_P0 _ hk, vkd_P0 _ hk, if_pos hk, if_pos hk])
    rw [sumTo_add, e, Nat.add_right_comm]
theorem mT_lo (σ1 σ : vS) {k : Nat} (h : k < KF) : (mT σ1 σ).2.1 k = σ1.2.1 k := if_pos h
theorem mT_hi (σ1 σ : vS) (i : Nat) : (mT σ1 σ).2.1 (KF + i) = σ.2.1 (KF + i) := if_neg (by omega)
theorem acc_mT (tk : List (Nat × Nat)) (σ1 σ : vS) : Pc (P0 tk) (mT σ1 σ) = Pc (P0 []) σ1 + sumTo tk.length (fun i => pcW (P0 tk) σ (KF + i)) ∧ Ps (P0 tk) (mT σ1 σ) = Ps (P0 []) σ1 + sumTo tk.length (fun i => psW (P0 tk) σ (KF + i)) := by
  obtain ⟨h1, h2⟩ := acc_tk tk (mT σ1 σ)
  rw [h1, h2]
  have e1 : Pc (P0 []) (mT σ1 σ) = Pc (P0 []) σ1 := by
    unfold Pc
    refine congrArg (fun z => z + σ1.2.2 300 500) (sumTo_congr (fun k hk => ?_))
    have hk : k < KF := hk
    unfold pcW; rw [mT_lo σ1 σ hk]
  have e2 : Ps (P0 []) (mT σ1 σ) = Ps (P0 []) σ1 := by
    unfold Ps
    refine congrArg (fun z => z + 6 * σ1.2.2 300 500) (sumTo_congr (fun k hk => ?_))
    have hk : k < KF := hk
    unfold psW; rw [mT_lo σ1 σ hk]
  have e3 : (fun i => pcW (P0 tk) (mT σ1 σ) (KF + i)) = (fun i => pcW (P0 tk) σ (KF + i)) := by funext i; unfold pcW; rw [mT_hi]
  have e4 : (fun i => psW (P0 tk) (mT σ1 σ) (KF + i)) = (fun i => psW (P0 tk) σ (KF + i)) := by funext i; unfold psW; rw [mT_hi]
  rw [e1, e2, e3, e4]
  exact ⟨rfl, rfl⟩
section
variable {cc bytes : ByteArray} {own : String} {rv rv1 : Option vA} {σo : vS} {ret ret1 : Option FieldType} {F Lc nL rf rl maxL i : Nat} {tko tk : List (Nat × Nat)} {σ σ1 : vS} {pc : Nat} {L : List (Nat × vA)} {st stk av : List vA} {y : MethodName}
theorem v_callwT (htk : ∀ x ∈ tk, 14 ≤ x.1) (hC : VC y bytes maxL ret1 rf rl av σ rv1 σ1 []) (hk : KPT σ σ1 st) (hkL : KPT σ σ1 (L.map (fun q => q.2))) (hs : stk = av.reverse ++ st)
    (hrun : ∀ (p : Program) (l : Launch) (e : Env) (R : Room) (s : State) (m : MethodId) (args : Array Value) (below : List Frame) (meth : Method) (c : Code) (G : vG) (H : Heap) (locs : List Loc) (a : Nat → Nat) (ls : Array Slot) (cells slots : Nat),
      p.tables.exec = Jvm.exec → c.code = cc → c.maxLocals = nL → s.vm.findClass own = some m.cls → (∀ w ∈ lw_all, w.before args s = true) → va_K G.1 vcl (vtys G) s → VN G a (va_A (vws G (P0 []) σ a) H.size) l s H → R.frames = F → R.locals = Lc → ls.size = nL → va_P G.1 vcl (vws G (P0 []) σ a) H → va_D (fun _ => True) (vws G (P0 []) σ a) →
      cells + (Pc (P0 []) σ1 - Pc (P0 []) σ) ≤ R.cells ∧ slots + (Ps (P0 []) σ1 - Ps (P0 []) σ) ≤ R.slots →
      va_Run p l e R s m args below meth c H locs cells slots (Pc (P0 []) σ1 - Pc (P0 []) σ) (Ps (P0 []) σ1 - Ps (P0 []) σ) (F0 m pc ls ((av.map (dv a)).reverse ++ st.map (dv a))) (st.map (dv a)) (vpost G σ a H.size rv1 σ1 [] (av.map (dv a)).toArray) (va_A (vws G (P0 []) σ a) H.size))
    (hrv : ∀ k, rv1 = some (vO k) → k < KF)
    (k : VW cc (own, rv, σo, ret, F, Lc, nL, tko) (P0 tk) (mT σ1 σ) (pc + 3) L (rv1.toList ++ st)) : VW cc (own, rv, σo, ret, F, Lc, nL, tko) (P0 tk) σ pc L stk := by
  subst hs
  obtain ⟨at1, at2⟩ := acc_tk tk σ
  obtain ⟨am1, am2⟩ := acc_mT tk σ1 σ
  obtain ⟨k0, k⟩ := k
  obtain ⟨hle, hC⟩ := hC
  refine And.intro ⟨by omega, by omega, k0.2.2⟩ (fun M hX hR hM hN => ?_)
  have k := k M hX hR hM hN
  have hR2 := hR
  obtain ⟨⟨p, l, e, R, s, m, args, below, meth, c⟩, G, A, Q, b, o, nL0, l0, a0⟩ := M
  intro H locs a ls hP hD hS hl hj b1 b2
  obtain ⟨hx, hb, hml, hown, hts, hK, hlk, hA, hRc, hRs, hNw⟩ := hX
  obtain ⟨σ0, hq1, hq2, ho, hq3, hq4⟩ := hR2
  have ho1 : o.1 = Pc (P0 tko) σo := by rw [ho]
  have ho2 : o.2 = Ps (P0 tko) σo := by rw [ho]
  have hN : nL0 = nL := hN
  have key0 : ∀ (q : Nat) (x : Nat × va_E), (vws G (P0 []) σ a)[q]? = some x → (vws G (P0 tk) σ a)[q]? = some x := by
    intro q x hq
    obtain ⟨hqK, rfl⟩ := vws_of hq
    have hqK : q < KF := hqK
    rw [vws_at G _ _ _ (show q < (P0 tk).1 by unfold P0; show q < KF + tk.length; omega)]
    rw [vent_eq (σ := σ) (τ := σ) (tk := []) (tk' := tk) hqK rfl rfl (fun _ _ _ => rfl) (fun _ _ _ _ => rfl) (fun _ => rfl)]
  have hP0 := perm_P id key0 hP
  have hD0 := perm_D id (fun _ _ h => h) key0 hD
  have hf : (Pc (P0 tk) σ - b.1) + (Pc (P0 []) σ1 - Pc (P0 []) σ) ≤ R.cells ∧ (Ps (P0 tk) σ - b.2) + (Ps (P0 []) σ1 - Ps (P0 []) σ) ≤ R.slots := by
    rw [ho1] at hRc
    rw [ho2] at hRs
    omega
  have r := hrun p l e R s m args below meth c G H locs a ls (Pc (P0 tk) σ - b.1) (Ps (P0 tk) σ - b.2) hx hb (hml.trans hN) hown hts hK (VN.call hj.2 hS (fun q h1 h2 => h2.elim (fun ⟨k, x, h⟩ => hD0.2 k _ h) (fun h => absurd h1 (by omega))) hNw) hM.1 hM.2 (hl.1.trans hN) hP0 (hD0.weaken (fun _ _ _ _ => trivial)) hf
  rw [List.map_append, List.map_reverse]
  have hsub : ∀ q : Nat, va_A (vws G (P0 []) σ a) H.size q → A q := by
    rintro q (⟨k, x, h⟩ | h)
    · exact hD0.2 k _ h
    · exact hA q (Nat.le_trans hS.1 h)
  intro T hT X
  obtain ⟨v, s0, t, T', LL, h0, X', hLL, e1, e2, ⟨⟨a1, hv, hP1, hD1, hJ1⟩, hz, hkk⟩, hst⟩ := r T hT X
  cases hv
  rw [h0] at hz hkk
  rw [← e1] at hz hkk hP1
  have tmp : ∀ u : Nat, u < tk.length → (vws G (P0 tk) σ a)[KF + u]? = some (a (KF + u), vent G (P0 tk) σ a (KF + u)) := fun u hu => vws_at G _ _ _ (by unfold P0; show KF + u < KF + tk.length; omega)
  have tmpA : ∀ u : Nat, u < tk.length → ¬ va_A (vws G (P0 []) σ a) H.size (a (KF + u)) ∧ a (KF + u) < H.size := by
    intro u hu
    have hlt := (hP _ _ (tmp u hu)).lt
    refine ⟨?_, hlt⟩
    rintro (⟨q, x, h⟩ | h)
    · have := hD.1 _ _ _ _ (tmp u hu) (key0 q _ h) rfl
      obtain ⟨hqK, -⟩ := vws_of h
      have hqK : q < KF := hqK
      omega
    · have hlt : a (KF + u) < H.size := hlt
      omega
  have hP2 : va_P G.1 vcl (vws G (P0 tk) (mT σ1 σ) (fun k => if k < KF then a1 k else a k)) T'.heap := by
    intro q x hq
    obtain ⟨hqK, rfl⟩ := vws_of hq
    have hqK : q < KF + tk.length := hqK
    by_cases z : q < KF
    · have hv := vent_eq (G := G) (σ := σ1) (τ := mT σ1 σ) (a := a1) (a' := fun k => if k < KF then a1 k else a k) (tk := []) (tk' := tk) z rfl rfl (fun t ht _ => if_pos ht) (fun z14 f hf h2 => if_pos (ft_lt z z14 hf h2)) (fun _ => mT_lo σ1 σ z)
      rw [hv]
      show va_at G.1 vcl ((if q < KF then a1 q else a q), _) _
      rw [if_pos z]
      exact hP1 q _ (vws_at G _ _ _ (show q < (P0 []).1 from z))
    · obtain ⟨u, rfl⟩ : ∃ u, q = KF + u := ⟨q - KF, by omega⟩
      have hu : u < tk.length := by omega
      have z14 : ¬ vkd (P0 tk) (KF + u) < 14 := by have := tk_ge htk hu; omega
      have hv : vent G (P0 tk) (mT σ1 σ) (fun k => if k < KF then a1 k else a k) (KF + u) = vent G (P0 tk) σ a (KF + u) := by
        unfold vent
        rw [if_neg z14, if_neg z14, mT_hi]
      rw [hv]
      show va_at G.1 vcl ((if KF + u < KF then a1 (KF + u) else a (KF + u)), _) _
      rw [if_neg (by omega)]
      exact (hP _ _ (tmp u hu)).kept (hkk _ (tmpA u hu).2 (tmpA u hu).1)
  have hD2 : va_D A (vws G (P0 tk) (mT σ1 σ) (fun k => if k < KF then a1 k else a k)) := by
    have key : ∀ (q : Nat) (x : Nat × va_E), (vws G (P0 tk) (mT σ1 σ) (fun k => if k < KF then a1 k else a k))[q]? = some x → (q < KF ∧ x.1 = a1 q ∧ ∃ y, (vws G (P0 []) σ1 a1)[q]? = some y ∧ y.1 = x.1) ∨ (∃ u, q = KF + u ∧ u < tk.length ∧ x.1 = a (KF + u)) := by
      intro q x hq
      obtain ⟨hqK, rfl⟩ := vws_of hq
      have hqK : q < KF + tk.length := hqK
      by_cases z : q < KF
      · exact Or.inl ⟨z, if_pos z, _, vws_at G _ _ _ (show q < (P0 []).1 from z), (if_pos z).symm⟩
      · exact Or.inr ⟨q - KF, by omega, by omega, by rw [show KF + (q - KF) = q by omega]; exact if_neg z⟩
    refine ⟨fun i j x y hi hj hxy => ?_, fun q x hq => ?_⟩
    · rcases key i x hi with ⟨zi, ei, x', hx', ex'⟩ | ⟨u, rfl, hu, eu⟩ <;> rcases key j y hj with ⟨zj, ej, y', hy', ey'⟩ | ⟨w, rfl, hw, ew⟩
      · exact hD1.1 i j x' y' hx' hy' (by rw [ex', ey', hxy])
      · have := hD1.2 i x' hx'
        rw [ex', hxy, ew] at this
        exact absurd this (tmpA w hw).1
      · have := hD1.2 j y' hy'
        rw [ey', ← hxy, eu] at this
        exact absurd this (tmpA u hu).1
      · have := hD.1 _ _ _ _ (tmp u hu) (tmp w hw) (by rw [← eu, ← ew, hxy])
        exact this
    · rcases key q x hq with ⟨zi, ei, x', hx', ex'⟩ | ⟨u, rfl, hu, eu⟩
      · rw [← ex']; exact hsub _ (hD1.2 q x' hx')
      · rw [eu]; exact hD.2 _ _ (tmp u hu)
  have k := k T'.heap (locs ++ LL) (fun k => if k < KF then a1 k else a k) ls hP2 hD2
    ⟨Nat.le_trans hS.1 hz, fun q h1 h2 => by rw [hkk q (Nat.lt_of_lt_of_le h1 hS.1) (fun z => h2 (hsub q z))]; exact hS.2.1 q h1 h2, fun q hq => by
      rcases List.mem_append.mp hq with h | h
      · exact hS.2.2 q h
      · exact hsub _ (hLL q h)⟩ (by rw [KPT_dvl hJ1 L hkL]; exact hl) ⟨fun q hq => by
        have := (vJ_trans hj hJ1).1 q hq
        rw [mT_lo σ1 σ hq.1]
        show _ ∨ (_ ∧ (if q < KF then a1 q else a q) = a0 q) ∨ (_ ∧ _ ∧ (_ → (if q < KF then a1 q else a q) = a0 q))
        rw [if_pos hq.1]
        exact this, fun q hq => by
        show (if q < KF then a1 q else a q) = a0 q
        rw [if_neg (by unfold KF; omega)]
        exact hj.2 q hq⟩ (by omega) (by omega)
  rw [show Pc (P0 tk) (mT σ1 σ) - b.1 = Pc (P0 tk) σ - b.1 + (Pc (P0 []) σ1 - Pc (P0 []) σ) by omega, show Ps (P0 tk) (mT σ1 σ) - b.2 = Ps (P0 tk) σ - b.2 + (Ps (P0 []) σ1 - Ps (P0 []) σ) by omega, List.map_append, KPT_dv hJ1 st hk] at k
  have e3 : (rv1.map (dv a1)).toList = rv1.toList.map (dv (fun k => if k < KF then a1 k else a k)) := by
    match rv1, hrv with
    | none, _ => rfl
    | some (.inl x), _ => rfl
    | some (.inr (.inl x)), _ => rfl
    | some (.inr (.inr (.inl q))), h => show [Value.ref (a1 q)] = [Value.ref (if q < KF then a1 q else a q)]; rw [if_pos (h q rfl)]
    | some (.inr (.inr (.inr v))), _ => rfl
  rw [← e3] at k
  obtain ⟨t2, q1, q2⟩ := k T' rfl X'
  exact ⟨t2, hst t2 q1, q2⟩
variable {ci o N : Nat} {C : String} {T : u_T} {ty : Nat → FieldType} {As : List vA}
theorem v_callVT (htk : ∀ x ∈ tk, 14 ≤ x.1) (cf : CF ci C T N ty) (ho : ok (P0 []) o ci) (hC : VC y bytes maxL ret1 rf rl (vO o :: As) σ rv1 σ1 []) (hw : GoodIn lw_all (wsV own i C y (ws_ y bytes maxL ret1))) (hyC : y.cls = C) (hy : yOk y As.length) (hrm : rf + 1 ≤ F ∧ 8 + (maxL + 11) + rl ≤ Lc) (hk : KPT σ σ1 st) (hkL : KPT σ σ1 (L.map (fun q => q.2))) (h8 : vc8 st ≤ 8) (hs : stk = (vO o :: As).reverse ++ st) (hd : decode cc pc = .ok (.invokevirtual i, 3)) (hrv : ∀ k, rv1 = some (vO k) → k < KF)
    (k : VW cc (own, rv, σo, ret, F, Lc, nL, tko) (P0 tk) (mT σ1 σ) (pc + 3) L (rv1.toList ++ st)) : VW cc (own, rv, σo, ret, F, Lc, nL, tko) (P0 tk) σ pc L stk := by
  refine v_callwT htk hC hk hkL hs (fun p l e R s m args below meth c G H locs a ls cells slots hx hb hml hown hts hK hNw hF hLc hls hP hD hf => ?_) hrv k
  refine va_runV (As := As.map (dv a)) (b := a o) ⟨hx, hb, hml, hown, hts⟩ (hC.2 l G a H.size) (cwV As.length hts hw rfl rfl rfl ⟨hyC, hy⟩ (by rw [hF, hLc]; exact hrm)) ⟨vblind l G σ a H.size _, va_recv hK hP cf.1 (vws_obj cf ho), fun U hU hW => ⟨rfl, by rw [hU], by rw [hU]; exact hP, va_K.moved hW.alike hK, by rw [hU]; exact VN.warm hW hNw, hD⟩⟩ rfl (by simp) hls (by simp [dv]) (lv_room (by rw [vc8_dv]; exact h8)) hd hf
end
