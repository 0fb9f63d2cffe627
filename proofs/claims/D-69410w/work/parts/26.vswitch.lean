set_option maxRecDepth 100000
/-! V-LAYER 15: switches -/
section
variable {cc : ByteArray} {own : String} {rv : Option vA} {σo : vS} {ret : Option FieldType} {F Lc nL : Nat} {tko : List (Nat × Nat)} {P : vP} {σ : vS} {pc : Nat} {L : List (Nat × vA)} {st : List vA} {x dflt off lo hi : Int} {tgt len : Nat}
theorem v_lsw {ps : Array (Int × Int)} (hd : decode cc pc = .ok (.lookupswitch dflt ps, len)) (hx : rg x) (hp : (ps.toList.zip (ps.toList.drop 1)).all (fun (a, next) => a.1 < next.1) = true) (ho : Op.lookupswitch.offset ps.toList dflt x = off) (ht : (pc : Int) + off = (tgt : Int)) (k : VW cc (own, rv, σo, ret, F, Lc, nL, tko) P σ tgt L st) : VW cc (own, rv, σo, ret, F, Lc, nL, tko) P σ pc L (vI x :: st) := by
  obtain ⟨k0, k⟩ := k
  refine And.intro k0 (fun M hX hR hM hN => ?_)
  have k := k M hX hR hM hN
  obtain ⟨⟨p, l, e, R, s, m, args, below, meth, c⟩, G, A, Q, b, o, nL0, l0, a0⟩ := M
  intro H locs a ls hP hD hS hl hj b1 b2
  have k := k H locs a ls hP hD hS hl hj b1 b2
  exact lv_lookup hX.1 hX.2.1 hd hp (by rw [i32_toInt, w32_id hx]; exact ho) ht k
theorem v_tswI {offs : Array Int} (hd : decode cc pc = .ok (.tableswitch dflt lo hi offs, len)) (hx : rg x) (h1 : ¬ x < lo) (h2 : ¬ hi < x) (ho : offs[(x - lo).toNat]? = some off) (ht : (pc : Int) + off = (tgt : Int)) (k : VW cc (own, rv, σo, ret, F, Lc, nL, tko) P σ tgt L st) : VW cc (own, rv, σo, ret, F, Lc, nL, tko) P σ pc L (vI x :: st) := by
  obtain ⟨k0, k⟩ := k
  refine And.intro k0 (fun M hX hR hM hN => ?_)
  have k := k M hX hR hM hN
  obtain ⟨⟨p, l, e, R, s, m, args, below, meth, c⟩, G, A, Q, b, o, nL0, l0, a0⟩ := M
  intro H locs a ls hP hD hS hl hj b1 b2
  have k := k H locs a ls hP hD hS hl hj b1 b2
  exact lv_tableIn hX.1 hX.2.1 hd (by rw [i32_toInt, w32_id hx]; exact h1) (by rw [i32_toInt, w32_id hx]; exact h2) (by rw [i32_toInt, w32_id hx]; exact ho) ht k
theorem v_tswO {offs : Array Int} (hd : decode cc pc = .ok (.tableswitch dflt lo hi offs, len)) (hx : rg x) (h : x < lo ∨ hi < x) (ht : (pc : Int) + dflt = (tgt : Int)) (k : VW cc (own, rv, σo, ret, F, Lc, nL, tko) P σ tgt L st) : VW cc (own, rv, σo, ret, F, Lc, nL, tko) P σ pc L (vI x :: st) := by
  obtain ⟨k0, k⟩ := k
  refine And.intro k0 (fun M hX hR hM hN => ?_)
  have k := k M hX hR hM hN
  obtain ⟨⟨p, l, e, R, s, m, args, below, meth, c⟩, G, A, Q, b, o, nL0, l0, a0⟩ := M
  intro H locs a ls hP hD hS hl hj b1 b2
  have k := k H locs a ls hP hD hS hl hj b1 b2
  exact lv_tableOut hX.1 hX.2.1 hd (by rw [i32_toInt, w32_id hx]; exact h) ht k
end
