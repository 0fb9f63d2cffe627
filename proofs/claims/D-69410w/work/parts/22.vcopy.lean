set_option maxRecDepth 100000
/-! V-LAYER 12: System.arraycopy -/
def cpE (f g : Int → Int) (sp dp n : Int) : Int → Int := fun j => if dp ≤ j ∧ j < dp + n then f (sp + (j - dp)) else g j
theorem fits_n8 (x : Int) : fits .byte (.int (Int32.ofInt (n8 x))) = true := by
  unfold n8
  rw [i32_of]
  generalize (Int32.ofInt x).toInt8 = y
  have h1 := Int8.le_toInt y
  have h2 := Int8.toInt_lt y
  have a1 : (-128 : Int32) ≤ y.toInt32 := by rw [Int32.le_iff_toInt_le, Int8.toInt_toInt32]; exact h1
  have a2 : y.toInt32 ≤ (127 : Int32) := by rw [Int32.le_iff_toInt_le, Int8.toInt_toInt32]; show y.toInt ≤ 127; omega
  simp [fits, a1, a2]
theorem and1 (x : Int32) : x &&& 1 = 0 ∨ x &&& 1 = 1 := by
  have h : (x &&& 1).toBitVec = 0#32 ∨ (x &&& 1).toBitVec = 1#32 := by
    rw [Int32.toBitVec_and]
    have : x.toBitVec &&& 1#32 = BitVec.ofNat 32 (x.toBitVec.toNat % 2) := by
      apply BitVec.eq_of_toNat_eq
      simp [BitVec.toNat_and, Nat.and_one_is_mod]
      omega
    show x.toBitVec &&& 1#32 = 0#32 ∨ x.toBitVec &&& 1#32 = 1#32
    rw [this]
    rcases Nat.mod_two_eq_zero_or_one x.toBitVec.toNat with h | h <;> rw [h]
    · exact Or.inl rfl
    · exact Or.inr rfl
  rcases h with h | h
  · exact Or.inl (Int32.toBitVec_inj.mp h)
  · exact Or.inr (Int32.toBitVec_inj.mp h)
theorem fits_bz (x : Int) : fits .boolean (.int (Int32.ofInt (bz x))) = true := by
  unfold bz
  rw [i32_of]
  show fits .boolean (.int (Int32.ofInt x &&& 1)) = true
  rcases and1 (Int32.ofInt x) with h | h <;> rw [h] <;> rfl
section
variable {cc : ByteArray} {own : String} {rv : Option vA} {σo : vS} {ret : Option FieldType} {F Lc nL : Nat} {tko : List (Nat × Nat)} {P : vP} {σ τ : vS} {pc : Nat} {L : List (Nat × vA)} {st : List vA} {s0 d0 i t : Nat} {sp dp n : Int}
theorem v_copy (h1 : 24 ≤ t) (h2 : t ≤ 26) (hso : ok P s0 t) (hdo : ok P d0 t) (rs : rg sp) (rd : rg dp) (rn : rg n) (z1 : 0 ≤ sp) (z2 : 0 ≤ dp) (z3 : 0 ≤ n) (b1 : sp + n ≤ gN σ s0) (b2 : dp + n ≤ gN σ d0) (hF : 1 ≤ F) (hLc : vc8 st + 18 ≤ Lc) (hl : Cond.methodLink own i arraycopyName ∈ lw_all) (hd : decode cc pc = .ok (.invokestatic i, 3))
    (k : VW cc (own, rv, σo, ret, F, Lc, nL, tko) P (sA σ d0 ((σ.2.1 d0).1, cpE (σ.2.1 s0).2 (σ.2.1 d0).2 sp dp n)) (pc + 3) L st) : VW cc (own, rv, σo, ret, F, Lc, nL, tko) P σ pc L (vI n :: vI dp :: vO d0 :: vI sp :: vO s0 :: st) := by
  have hlen : ∀ q : Nat, ((sA σ d0 ((σ.2.1 d0).1, cpE (σ.2.1 s0).2 (σ.2.1 d0).2 sp dp n)).2.1 q).1 = (σ.2.1 q).1 := by
    intro q
    by_cases z : q = d0
    · rw [z, sA_at]
    · rw [sA_ne _ _ _ z]
  have ec := Pc_same (P := P) hlen
  have es := Ps_same (P := P) hlen
  obtain ⟨k0, k⟩ := k
  rw [ec, es] at k0
  refine And.intro k0 (fun M hX hR hM hN0 => ?_)
  have k := k M hX hR hM hN0
  obtain ⟨⟨p, l, e, R, s, m, args, below, meth, c⟩, G, A, Q, b, oo, nL0, l0, a0⟩ := M
  intro H locs a ls hP hD hS hl1 hj c1 c2
  obtain ⟨hx, hb, hml, hown, hts, hK, hlk, hA, hRc, hRs, hNw⟩ := hX
  have neg : ∀ {x : Int}, rg x → 0 ≤ x → ¬ Int32.ofInt x < 0 := fun {x} r z q => by
    rw [show (0 : Int32) = Int32.ofInt 0 from rfl, i32_lt r rg_0] at q
    omega
  have hn1 : (∃ g : Int → Int, vac t G.2.2.2 = (fun x => (x.1, Sum.inl (fun j => Int32.ofInt (g (x.2 j))))) ∧ ∀ x, fits (aty t) (.int (Int32.ofInt (g x))) = true) := by
    rcases (show t = 24 ∨ t = 25 ∨ t = 26 by omega) with rfl | rfl | rfl
    · exact ⟨fun x => x, rfl, fun _ => rfl⟩
    · exact ⟨n8, rfl, fits_n8⟩
    · exact ⟨bz, rfl, fits_bz⟩
  obtain ⟨g, hg, hfit⟩ := hn1
  have w1 := vws_arr (G := G) (σ := σ) (a := a) hso (by omega)
  have w2 := vws_arr (G := G) (σ := σ) (a := a) hdo (by omega)
  rw [hg] at w1 w2
  refine va_copyi (D := G.1) (ty := aty t) hx hb (hml.trans hl1.1.symm) hown (hts _ hl) (hts _ q1012) (hts _ q1011) (hts _ q316) hK hP hD hS s0 d0 (t - 24) (t - 24) w1 w2 (vtys_at h1 (by omega)) (vtys_at h1 (by omega)) ?_ (neg rs z1) (neg rd z2) (neg rn z3) ?_ ?_ (fun q _ => hfit _) (by rw [hM.1]; exact hF) (by rw [vc8_dv, hM.2]; exact hLc) hd (fun H1 locs1 hP1 hD1 hS1 => ?_)
  · rcases (show t = 24 ∨ t = 25 ∨ t = 26 by omega) with rfl | rfl | rfl <;> rfl
  · rw [cl_of rs z1, cl_of rn z3]
    have : gN σ s0 = (σ.2.1 s0).1 := rfl
    show sp.toNat + n.toNat ≤ (σ.2.1 s0).1
    omega
  · rw [cl_of rd z2, cl_of rn z3]
    have : gN σ d0 = (σ.2.1 d0).1 := rfl
    show dp.toNat + n.toNat ≤ (σ.2.1 d0).1
    omega
  · have he : vent G P (sA σ d0 ((σ.2.1 d0).1, cpE (σ.2.1 s0).2 (σ.2.1 d0).2 sp dp n)) a d0 = .inl (G.2.1 t, (σ.2.1 d0).1, .inl (va_cpy (fun j => Int32.ofInt (g ((σ.2.1 s0).2 j))) (fun j => Int32.ofInt (g ((σ.2.1 d0).2 j))) (Int32.ofInt sp).toNatClampNeg (Int32.ofInt dp).toNatClampNeg (Int32.ofInt n).toNatClampNeg)) := by
      rw [vent_arr hdo (by omega), hg, sA_at, cl_of rs z1, cl_of rd z2, cl_of rn z3]
      have hcp : (fun j : Nat => Int32.ofInt (g (cpE (σ.2.1 s0).2 (σ.2.1 d0).2 sp dp n j))) = va_cpy (fun j => Int32.ofInt (g ((σ.2.1 s0).2 j))) (fun j => Int32.ofInt (g ((σ.2.1 d0).2 j))) sp.toNat dp.toNat n.toNat := by
        funext q
        unfold va_cpy cpE
        by_cases z : dp.toNat ≤ q ∧ q < dp.toNat + n.toNat
        · rw [if_pos z, if_pos (by omega), show sp + ((q : Int) - dp) = ((sp.toNat + (q - dp.toNat) : Nat) : Int) by omega]
        · rw [if_neg z, if_neg (by omega)]
      rw [← hcp]
    rw [vws_set hdo.1 he (fun j2 h2 => vent_sA h2)] at hP1 hD1
    have k := k H1 locs1 a ls hP1 hD1 hS1 hl1 ⟨fun q hq => by rw [hlen]; exact hj.1 q hq, hj.2⟩ (by rw [ec]; exact c1) (by rw [es]; exact c2)
    rw [ec, es] at k
    exact k
end
