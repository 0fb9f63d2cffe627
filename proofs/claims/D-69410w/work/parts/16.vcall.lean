set_option maxRecDepth 100000
/-! V-LAYER 6: contracts, calls, entry and return -/
def vpre (l : Launch) (G : vG) (σ : vS) (a : Nat → Nat) (sz : Nat) (U : State) : Prop := U.heap.size = sz ∧ va_P G.1 vcl (vws G (P0 []) σ a) U.heap ∧ va_K G.1 vcl (vtys G) U ∧ VN G a (va_A (vws G (P0 []) σ a) sz) l U U.heap ∧ va_D (fun _ => True) (vws G (P0 []) σ a)
/-- the contract: with these arguments and this state the method answers rv and leaves σ' -/
def VC (y : MethodName) (bytes : ByteArray) (maxL : Nat) (ret : Option FieldType) (rf rl : Nat) (av : List vA) (σ : vS) (rv : Option vA) (σ' : vS) (tko : List (Nat × Nat)) : Prop :=
  (Pc (P0 []) σ ≤ Pc (P0 tko) σ' ∧ Ps (P0 []) σ ≤ Ps (P0 tko) σ' ∧ rvOk rv) ∧ ∀ (l : Launch) (G : vG) (a : Nat → Nat) (sz : Nat),
    Met l y (ws_ y bytes maxL ret) ({ frames := rf, cells := Pc (P0 tko) σ' - Pc (P0 []) σ, slots := Ps (P0 tko) σ' - Ps (P0 []) σ, locals := rl }) (va_Pc (av.map (dv a)) (vpre l G σ a sz)) (vpost G σ a sz rv σ' tko) (Pc (P0 tko) σ' - Pc (P0 []) σ) (Ps (P0 tko) σ' - Ps (P0 []) σ) (va_A (vws G (P0 []) σ a) sz)
def argl : Nat → List vA → List (Nat × vA)
  | _, [] => []
  | i, v :: vs => (i, v) :: argl (if v2 v then i + 2 else i + 1) vs
theorem argl_dv (a : Nat → Nat) (vs : List vA) : ∀ i, lv_args i (vs.map (dv a)) = dvl a (argl i vs) := by
  induction vs with
  | nil => intro i; rfl
  | cons v vs ih =>
    intro i
    simp only [List.map_cons, lv_args, argl, dvl]
    have h := v2_dv a v
    have e : (if (dv a v).category = 2 then i + 2 else i + 1) = (if v2 v then i + 2 else i + 1) := by
      rw [← h]
      by_cases q : (dv a v).category = 2 <;> simp [q]
    rw [e, ih]
    rfl
def argn (vs : List vA) : Nat := (vs.map fun v => if v2 v then 2 else 1).sum
theorem argn_dv (a : Nat → Nat) (vs : List vA) : (lg_sl (vs.map (dv a))).length = argn vs := by
  induction vs with
  | nil => rfl
  | cons v vs ih =>
    have h := v2_dv a v
    have e : lg_sl (dv a v :: vs.map (dv a)) = (if (dv a v).category = 2 then [.val (dv a v), .second] else [.val (dv a v)]) ++ lg_sl (vs.map (dv a)) := rfl
    rw [List.map_cons, e, List.length_append, ih]
    simp only [argn, List.map_cons, List.sum_cons]
    congr 1
    rw [← h]
    by_cases q : (dv a v).category = 2 <;> simp [q]
/-- a contract out of the walk of the body -/
theorem VC.of {y : MethodName} {bytes : ByteArray} {maxL : Nat} {ret : Option FieldType} {rf rl : Nat} {av : List vA} {σ σ' : vS} {rv : Option vA} {tko : List (Nat × Nat)} (own : String) (hy : plainName y.cls = true) (ho : y.cls = own) (hn : argn av ≤ maxL)
    (body : VW bytes (own, rv, σ', ret, rf, rl, maxL, tko) (P0 []) σ 0 (argl 0 av) []) (hrT : rvT rv = false := by rfl) (hrH : rvH rv = false := by rfl) (hrL : rvL rv = false := by rfl) (hrC : rvC rv = false := by rfl) : VC y bytes maxL ret rf rl av σ rv σ' tko := by
  obtain ⟨hle, body⟩ := body
  refine ⟨hle, fun l G a sz => ?_⟩
  refine Met.ofW (cc := bytes) (maxL := maxL) (ret := ret) hy rfl ?_
  intro p e s m args below meth c s₁ B hml hv
  obtain ⟨rfl, rfl, hP, hK, hN, hD⟩ := hv
  have hts := atoms_spec (ws := ws_ y bytes maxL ret) B.pre
  have hts : ∀ w ∈ lw_all, w.before _ s = true := fun w h => hts w (List.mem_cons_of_mem _ h)
  have hown : s.vm.findClass own = some m.cls := ho ▸ findClass_of_methodNamed B.named
  have W0 := body ((p, l, e, (headSpec (ws_ y bytes maxL ret) ({ frames := rf, cells := Pc (P0 tko) σ' - Pc (P0 []) σ, slots := Ps (P0 tko) σ' - Ps (P0 []) σ, locals := rl })).room, s, m, (av.map (dv a)).toArray, below, meth, c), G, va_A (vws G (P0 []) σ a) s.heap.size, MQ below (vpost G σ a s.heap.size rv σ' tko) (av.map (dv a)).toArray s (Pc (P0 tko) σ' - Pc (P0 []) σ) (Ps (P0 tko) σ' - Ps (P0 []) σ) (va_A (vws G (P0 []) σ a) s.heap.size), (Pc (P0 []) σ, Ps (P0 []) σ), (Pc (P0 tko) σ', Ps (P0 tko) σ'), maxL, (lz σ), a)
    ⟨B.exec, B.bytes, hml, hown, hts, hK, B.notSynchronized, fun q h => Or.inr h, Nat.le_refl _, Nat.le_refl _, hN⟩ ⟨σ, by rw [hrT, hrL, hrC]; rfl, by rw [hrL, hrC]; rfl, rfl, by rw [hrC, hrL]; rfl, by rw [hrT, hrH, hrL, hrC]; exact B.returns⟩ ⟨rfl, rfl⟩ rfl
  have hl := lv_entry (av.map (dv a)) (n := maxL) (by rw [argn_dv]; exact hn)
  rw [argl_dv] at hl
  rw [lg_entry_eq]
  have W1 := W0 s.heap [] a _ hP hD.self va_S.rf hl (vJ_rf σ a) (Nat.le_refl _) (Nat.le_refl _)
  rw [Nat.sub_self, Nat.sub_self] at W1
  exact W1
section
variable {cc : ByteArray} {own : String} {F Lc nL : Nat} {σ : vS} {pc : Nat} {L : List (Nat × vA)} {st : List vA}
theorem v_iret {r : Int} (hr0 : rg r) (hd : decode cc pc = .ok (.ireturn, 1)) : VW cc (own, (some (vI r)), σ, (some .int), F, Lc, nL, []) (P0 []) σ pc L [vI r] := by
  refine And.intro ⟨Nat.le_refl _, Nat.le_refl _, hr0⟩ (fun M hX hR hM hN => ?_)
  obtain ⟨⟨p, l, e, R, s, m, args, below, meth, c⟩, G, A, Q, b, o, nL0, l0, a0⟩ := M
  obtain ⟨σ0, rfl, rfl, rfl, rfl, hr⟩ := hR
  intro H locs a ls hP hD hS hl hj b1 b2
  exact W.iret (v := Int32.ofInt r) hX.1 hX.2.1 hr (fun t ht hW => ⟨⟨a, rfl, by rw [ht]; exact hP, hD, hj⟩, hS.F ht⟩) hS.2.2 hd hX.2.2.2.2.2.2.1
theorem v_zret {r : Int} (hb : r = 0 ∨ r = 1) (hd : decode cc pc = .ok (.ireturn, 1)) : VW cc (own, (some (vI r)), σ, (some .boolean), F, Lc, nL, []) (P0 []) σ pc L [vI r] := by
  refine And.intro ⟨Nat.le_refl _, Nat.le_refl _, by rcases hb with rfl | rfl <;> exact ⟨by decide, by decide⟩⟩ (fun M hX hR hM hN => ?_)
  obtain ⟨⟨p, l, e, R, s, m, args, below, meth, c⟩, G, A, Q, b, o, nL0, l0, a0⟩ := M
  obtain ⟨σ0, rfl, rfl, rfl, rfl, hr⟩ := hR
  intro H locs a ls hP hD hS hl hj b1 b2
  exact W.zret (v := Int32.ofInt r) hX.1 hX.2.1 hr (by rcases hb with rfl | rfl <;> rfl) (fun t ht hW => ⟨⟨a, rfl, by rw [ht]; exact hP, hD, hj⟩, hS.F ht⟩) hS.2.2 hd hX.2.2.2.2.2.2.1
theorem v_lret {r : Int} (hr0 : rgL r) (hd : decode cc pc = .ok (.lreturn, 1)) : VW cc (own, (some (vL r)), σ, (some .long), F, Lc, nL, []) (P0 []) σ pc L [vL r] := by
  refine And.intro ⟨Nat.le_refl _, Nat.le_refl _, hr0⟩ (fun M hX hR hM hN => ?_)
  obtain ⟨⟨p, l, e, R, s, m, args, below, meth, c⟩, G, A, Q, b, o, nL0, l0, a0⟩ := M
  obtain ⟨σ0, rfl, rfl, rfl, rfl, hr⟩ := hR
  intro H locs a ls hP hD hS hl hj b1 b2
  exact W.lret (v := Int64.ofInt r) hX.1 hX.2.1 hr (fun t ht hW => ⟨⟨a, rfl, by rw [ht]; exact hP, hD, hj⟩, hS.F ht⟩) hS.2.2 hd hX.2.2.2.2.2.2.1
theorem v_vret (hd : decode cc pc = .ok (.return_, 1)) : VW cc (own, none, σ, none, F, Lc, nL, []) (P0 []) σ pc L [] := by
  refine And.intro ⟨Nat.le_refl _, Nat.le_refl _, trivial⟩ (fun M hX hR hM hN => ?_)
  obtain ⟨⟨p, l, e, R, s, m, args, below, meth, c⟩, G, A, Q, b, o, nL0, l0, a0⟩ := M
  obtain ⟨σ0, rfl, rfl, rfl, rfl, hr⟩ := hR
  intro H locs a ls hP hD hS hl hj b1 b2
  exact W.vret hX.1 hX.2.1 hr (fun t ht hW => ⟨⟨a, rfl, by rw [ht]; exact hP, hD, hj⟩, hS.F ht⟩) hS.2.2 hd hX.2.2.2.2.2.2.1
/-- a reference to an object comes back -/
theorem v_aret {r : Nat} {D : String} (hd : decode cc pc = .ok (.areturn, 1)) : VW cc (own, (some (vO r)), σ, (some (.object D)), F, Lc, nL, []) (P0 []) σ pc L [vO r] := by
  refine And.intro ⟨Nat.le_refl _, Nat.le_refl _, trivial⟩ (fun M hX hR hM hN => ?_)
  obtain ⟨⟨p, l, e, R, s, m, args, below, meth, c⟩, G, A, Q, b, o, nL0, l0, a0⟩ := M
  obtain ⟨σ0, rfl, rfl, rfl, rfl, hr⟩ := hR
  intro H locs a ls hP hD hS hl hj b1 b2
  exact W.aret (v := Value.ref (a r)) hX.1 hX.2.1 hr (Or.inl ⟨D, rfl⟩) (Or.inr ⟨_, rfl⟩) (fun t ht hW => ⟨⟨a, rfl, by rw [ht]; exact hP, hD, hj⟩, hS.F ht⟩) hS.2.2 hd hX.2.2.2.2.2.2.1
/-- an array comes back that was made -/
theorem v_aretT {r : Nat} {D : FieldType} {tk : List (Nat × Nat)} (hd : decode cc pc = .ok (.areturn, 1)) : VW cc (own, (some (vO r)), σ, (some (.array D)), F, Lc, nL, tk) (P0 tk) σ pc L [vO r] := by
  refine And.intro ⟨Nat.le_refl _, Nat.le_refl _, trivial⟩ (fun M hX hR hM hN => ?_)
  obtain ⟨⟨p, l, e, R, s, m, args, below, meth, c⟩, G, A, Q, b, o, nL0, l0, a0⟩ := M
  obtain ⟨σ0, rfl, rfl, rfl, rfl, hr⟩ := hR
  intro H locs a ls hP hD hS hl hj b1 b2
  exact W.aret (v := Value.ref (a r)) hX.1 hX.2.1 hr (Or.inr ⟨D, rfl⟩) (Or.inr ⟨_, rfl⟩) (fun t ht hW => ⟨⟨a, rfl, by rw [ht]; exact hP, hD, hj⟩, hS.F ht⟩) hS.2.2 hd hX.2.2.2.2.2.2.1
end
