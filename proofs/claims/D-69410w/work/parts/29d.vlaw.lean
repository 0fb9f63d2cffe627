set_option maxRecDepth 100000
/-! V-LAYER 21: the law's own run: its script (array 1200 of the last state), its end -/
def lawS (s : vS) (n : Nat) (S : Int → Int) : vS := (s.1, fun k => if k = 1200 then (n, S) else s.2.1 k, s.2.2)
theorem lawS_Pc (s : vS) (n : Nat) (S : Int → Int) : Pc (P0 []) (lawS s n S) = Pc (P0 []) s := by
  have e : sumTo KF (pcW (P0 []) (lawS s n S)) = sumTo KF (pcW (P0 []) s) := sumTo_congr fun k hk => by
    have h9 : (lawS s n S).2.1 k = s.2.1 k := if_neg (by unfold KF at hk; omega)
    unfold pcW
    rw [h9]
  show sumTo KF _ + _ = sumTo KF _ + _
  rw [e]
  rfl
theorem lawS_Ps (s : vS) (n : Nat) (S : Int → Int) : Ps (P0 []) (lawS s n S) = Ps (P0 []) s := by
  have e : sumTo KF (psW (P0 []) (lawS s n S)) = sumTo KF (psW (P0 []) s) := sumTo_congr fun k hk => by
    have h9 : (lawS s n S).2.1 k = s.2.1 k := if_neg (by unfold KF at hk; omega)
    unfold psW
    rw [h9]
  show sumTo KF _ + _ = sumTo KF _ + _
  rw [e]
  rfl
section
variable {cc : ByteArray} {own : String} {σo : vS} {ret1 : Option FieldType} {F Lc nL : Nat} {tko : List (Nat × Nat)} {P : vP} {σ : vS} {pc : Nat} {L : List (Nat × vA)} {st : List vA} {n : Nat} {S : Int → Int}
theorem v_slen (hn : (σo.2.1 1200).1 = n) (hd : decode cc pc = .ok (.arraylength, 1)) (k : VW cc (own, some (vV (.long 0)), σo, ret1, F, Lc, nL, tko) P σ (pc + 1) L (vI (n : Int) :: st)) : VW cc (own, some (vV (.long 0)), σo, ret1, F, Lc, nL, tko) P σ pc L (vO 1200 :: st) := by
  subst hn
  obtain ⟨k0, k⟩ := k
  refine And.intro k0 (fun M hX hR hM hN => ?_)
  have k := k M hX hR hM hN
  obtain ⟨⟨p, l, e, R, s, m, args, below, meth, c⟩, G, A, Q, b, oo, nL0, l0, a0⟩ := M
  intro H locs a ls hP hD hS hl1 hj b1 b2
  have k := k H locs a ls hP hD hS hl1 hj b1 b2
  obtain ⟨σ0, -, hA0, -, -, hr, hargs, hroom, hX9, hlt⟩ := hR
  have hA0 : A = fun q => s.heap.size ≤ q := hA0
  have hbA : ¬ A (a0 1200) := by rw [hA0]; show ¬ s.heap.size ≤ a0 1200; omega
  have e9 : dv a (vO 1200) = .ref (a0 1200) := by show Value.ref (a 1200) = _; rw [hj.2 1200 (by decide)]
  rw [List.map_cons, e9]
  refine va_slen hX.1 hX.2.1 hX9 hlt hbA hS hd ?_
  rw [List.map_cons] at k
  rw [← Int32.ofInt_eq_ofNat]
  exact k
theorem v_sld {j : Int} (hn : (σo.2.1 1200).1 = n) (hS9 : (σo.2.1 1200).2 = S) (hj0 : rg j) (g : 0 ≤ j ∧ j < (n : Int)) (hd : decode cc pc = .ok (.iaload, 1)) (k : VW cc (own, some (vV (.long 0)), σo, ret1, F, Lc, nL, tko) P σ (pc + 1) L (vI (S j) :: st)) : VW cc (own, some (vV (.long 0)), σo, ret1, F, Lc, nL, tko) P σ pc L (vI j :: vO 1200 :: st) := by
  subst hn
  subst hS9
  obtain ⟨k0, k⟩ := k
  refine And.intro k0 (fun M hX hR hM hN => ?_)
  have k := k M hX hR hM hN
  obtain ⟨⟨p, l, e, R, s, m, args, below, meth, c⟩, G, A, Q, b, oo, nL0, l0, a0⟩ := M
  intro H locs a ls hP hD hS hl1 hj b1 b2
  have k := k H locs a ls hP hD hS hl1 hj b1 b2
  obtain ⟨σ0, -, hA0, -, -, hr, hargs, hroom, hX9, hlt⟩ := hR
  have hA0 : A = fun q => s.heap.size ≤ q := hA0
  have hbA : ¬ A (a0 1200) := by rw [hA0]; show ¬ s.heap.size ≤ a0 1200; omega
  have e9 : dv a (vO 1200) = .ref (a0 1200) := by show Value.ref (a 1200) = _; rw [hj.2 1200 (by decide)]
  rw [List.map_cons, List.map_cons, e9]
  refine va_sld (i := Int32.ofInt j) hX.1 hX.2.1 hX9 hlt hbA hS (vin_of hj0 g.1 g.2) hd ?_
  rw [List.map_cons] at k
  rw [cl_of hj0 g.1, show ((j.toNat : Nat) : Int) = j by omega]
  exact k
theorem v_lawret {s : vS} (hd : decode code pc = .ok (.ireturn, 1)) : VW code (own, some (vV (.long 0)), lawS s n S, ret, F, Lc, nL, []) (P0 []) s pc L [vI 1] := by
  refine And.intro ⟨by rw [lawS_Pc]; exact Nat.le_refl _, by rw [lawS_Ps]; exact Nat.le_refl _, trivial⟩ (fun M hX hR hM hN => ?_)
  obtain ⟨⟨p, l, e, R, s9, m, args, below, meth, c⟩, G, A, Q, b, o, nL0, l0, a0⟩ := M
  obtain ⟨σ0, hQ, hA0, ho, hl0, hr, hargs, hroom, hX9, hlt⟩ := hR
  have hA0 : A = fun q => s9.heap.size ≤ q := hA0
  have hQ : Q = lw_Z below args s9 := hQ
  have hargs : args = #[Value.ref (a0 1200)] := hargs
  have hroom : R = room_1 := hroom
  have hr : meth.sig.returnType = ret := hr
  intro H locs a ls hP hD hS hl hj b1 b2
  obtain ⟨hx, hb, hml, hown, hts, hK, hlk, hA, hRc, hRs, hNw⟩ := hX
  have ho1 : o.1 = Pc (P0 []) s := by rw [ho]; exact lawS_Pc s n S
  have ho2 : o.2 = Ps (P0 []) s := by rw [ho]; exact lawS_Ps s n S
  rw [ho1, hroom] at hRc
  rw [ho2, hroom] at hRs
  subst hQ
  subst hargs
  subst hroom
  refine va_forget (fun q hq => by have := hS.2.2 q hq; rw [hA0] at this; exact this) ?_
  exact W.widen hRc hRs (lw_ret hx hb hr hlk hd)
end
theorem and32_mask (k : Nat) (hk : k ≤ 31) (x : Int) : and32 x (2 ^ k - 1) = x % 2 ^ k := by
  have hp : (2 : Nat) ^ k ≤ 2 ^ 31 := Nat.pow_le_pow_right (by decide) hk
  have hp0 : 0 < (2 : Nat) ^ k := Nat.pow_pos (by decide)
  have e0 : ((2 : Int) ^ k - 1) = ((2 ^ k - 1 : Nat) : Int) := by
    have : ((2 ^ k : Nat) : Int) = (2 : Int) ^ k := by simp
    omega
  unfold and32
  show (BitVec.ofInt 32 x &&& BitVec.ofInt 32 (2 ^ k - 1)).toInt = _
  have hn : (BitVec.ofInt 32 x &&& BitVec.ofInt 32 (2 ^ k - 1)).toNat = (x % 4294967296).toNat % 2 ^ k := by
    rw [BitVec.toNat_and, BitVec.toNat_ofInt, BitVec.toNat_ofInt, e0]
    rw [show (((2 ^ k - 1 : Nat) : Int) % ((2 ^ 32 : Nat) : Int)).toNat = 2 ^ k - 1 by
      rw [Int.emod_eq_of_lt (by omega) (by have : (2:Nat)^31 < 2^32 := (by decide); omega)]
      omega]
    rw [Nat.and_two_pow_sub_one_eq_mod]
    rfl
  have hlt : (x % 4294967296).toNat % 2 ^ k < 2 ^ k := Nat.mod_lt _ hp0
  rw [BitVec.toInt_eq_toNat_of_lt (by rw [hn]; have : (2:Nat)^31 * 2 = 2^32 := (by decide); omega), hn]
  have h0 : 0 ≤ x % 4294967296 := Int.emod_nonneg _ (by decide)
  have e1 : (((x % 4294967296).toNat % 2 ^ k : Nat) : Int) = (x % 4294967296) % ((2 ^ k : Nat) : Int) := by
    rw [Int.natCast_emod, Int.toNat_of_nonneg h0]
  rw [e1]
  have hd : ((2 ^ k : Nat) : Int) ∣ 4294967296 := by
    have : (2 : Nat) ^ k ∣ 2 ^ 32 := Nat.pow_dvd_pow 2 (by omega)
    exact Int.natCast_dvd_natCast.mpr this
  rw [Int.emod_emod_of_dvd _ hd]
  simp
theorem and15 {x : Int} (_ : rg x) : 0 ≤ and32 x 15 ∧ and32 x 15 ≤ 15 := by
  have := and32_mask 4 (by decide) x
  rw [show ((2 : Int) ^ 4 - 1) = 15 from rfl] at this
  rw [this]
  omega
