set_option maxRecDepth 100000
/-! V-LAYER 5: stores into arrays, lengths -/
section
variable {cc : ByteArray} {own : String} {rv : Option vA} {σo : vS} {ret : Option FieldType} {F Lc nL : Nat} {tko : List (Nat × Nat)} {P : vP} {σ τ : vS} {pc : Nat} {L : List (Nat × vA)} {st : List vA} {G : vG} {a : Nat → Nat} {o : Nat}
theorem sA_at (σ : vS) (a : Nat) (x : Nat × (Int → Int)) : (sA σ a x).2.1 a = x := by simp [sA]
theorem sA_ne (σ : vS) (a : Nat) (x : Nat × (Int → Int)) {b : Nat} (h : b ≠ a) : (sA σ a x).2.1 b = σ.2.1 b := by simp [sA, h]
theorem sE_len (σ : vS) (a : Nat) (j v : Int) (k : Nat) : ((sE σ a j v).2.1 k).1 = (σ.2.1 k).1 := by
  unfold sE
  by_cases h : k = a
  · subst h; rw [sA_at]
  · rw [sA_ne _ _ _ h]
theorem vent_sA {x : Nat × (Int → Int)} {j : Nat} (h : j ≠ o) : vent G P (sA σ o x) a j = vent G P σ a j := by
  unfold vent
  rw [sA_ne _ _ _ h]
  rfl
theorem v_iast {j v : Int} (ho : ok P o 24) (hj : rg j) (h0 : 0 ≤ j) (h1 : j < gN σ o) (hd : decode cc pc = .ok (.iastore, 1)) (k : VW cc (own, rv, σo, ret, F, Lc, nL, tko) P (sE σ o j v) (pc + 1) L st) : VW cc (own, rv, σo, ret, F, Lc, nL, tko) P σ pc L (vI v :: vI j :: vO o :: st) := by
  have ec : Pc P (sE σ o j v) = Pc P σ := Pc_same (sE_len σ o j v)
  have es : Ps P (sE σ o j v) = Ps P σ := Ps_same (sE_len σ o j v)
  obtain ⟨k0, k⟩ := k
  rw [ec, es] at k0
  refine And.intro k0 (fun M hX hR hM hN0 => ?_)
  have k := k M hX hR hM hN0
  obtain ⟨⟨p, l, e, R, s, m, args, below, meth, c⟩, G, A, Q, b, oo, nL0, l0, a0⟩ := M
  intro H locs a ls hP hD hS hl1 hj1 b1 b2
  obtain ⟨hx, hb, hml, hown, hts, hK, -⟩ := hX
  refine va_iast (D := G.1) hx hb hK hP hD hS o 0 (vws_arr ho (by decide)) rfl (vin_of hj h0 h1) hd (fun H1 locs1 hP1 hD1 hS1 => ?_)
  have he : vent G P (sE σ o j v) a o = .inl (G.2.1 24, (σ.2.1 o).1, .inl (upd (fun j => Int32.ofInt ((σ.2.1 o).2 j)) (Int32.ofInt j).toNatClampNeg (Int32.ofInt v))) := by
    rw [vent_arr ho (by decide), vac_24]
    congr 2
    show (_, _) = (_, _)
    simp only [sE, sA_at]
    congr 2
    funext q
    rw [cl_of hj h0]
    unfold uE upd
    by_cases hq : q = j.toNat
    · have hq2 : (q : Int) = j := by omega
      rw [if_pos hq2, if_pos hq]
      try exact rfl
    · have hq2 : ¬ (q : Int) = j := by omega
      rw [if_neg hq2, if_neg hq]
  rw [vws_set ho.1 he (fun j2 h2 => vent_sA h2)] at hP1 hD1
  have := k H1 locs1 a ls hP1 hD1 hS1 hl1 ⟨fun q hq => by rw [sE_len]; exact hj1.1 q hq, hj1.2⟩ (by rw [ec]; exact b1) (by rw [es]; exact b2)
  rw [ec, es] at this
  exact this
theorem v_bast {j v : Int} (ho : ok P o 25) (hj : rg j) (h0 : 0 ≤ j) (h1 : j < gN σ o) (hd : decode cc pc = .ok (.bastore, 1)) (k : VW cc (own, rv, σo, ret, F, Lc, nL, tko) P (sE σ o j v) (pc + 1) L st) : VW cc (own, rv, σo, ret, F, Lc, nL, tko) P σ pc L (vI v :: vI j :: vO o :: st) := by
  have ec : Pc P (sE σ o j v) = Pc P σ := Pc_same (sE_len σ o j v)
  have es : Ps P (sE σ o j v) = Ps P σ := Ps_same (sE_len σ o j v)
  obtain ⟨k0, k⟩ := k
  rw [ec, es] at k0
  refine And.intro k0 (fun M hX hR hM hN0 => ?_)
  have k := k M hX hR hM hN0
  obtain ⟨⟨p, l, e, R, s, m, args, below, meth, c⟩, G, A, Q, b, oo, nL0, l0, a0⟩ := M
  intro H locs a ls hP hD hS hl1 hj1 b1 b2
  obtain ⟨hx, hb, hml, hown, hts, hK, -⟩ := hX
  refine va_bast (D := G.1) hx hb hK hP hD hS o 1 (vws_arr ho (by decide)) rfl (vin_of hj h0 h1) hd (fun H1 locs1 hP1 hD1 hS1 => ?_)
  have he : vent G P (sE σ o j v) a o = .inl (G.2.1 25, (σ.2.1 o).1, .inl (upd (fun j => Int32.ofInt (n8 ((σ.2.1 o).2 j))) (Int32.ofInt j).toNatClampNeg (vp_nar .byte (Int32.ofInt v)))) := by
    rw [vent_arr ho (by decide), vac_25]
    congr 2
    show (_, _) = (_, _)
    simp only [sE, sA_at]
    congr 2
    funext q
    rw [cl_of hj h0]
    unfold uE upd
    by_cases hq : q = j.toNat
    · have hq2 : (q : Int) = j := by omega
      rw [if_pos hq2, if_pos hq]
      exact (i32_of _)
    · have hq2 : ¬ (q : Int) = j := by omega
      rw [if_neg hq2, if_neg hq]
  rw [vws_set ho.1 he (fun j2 h2 => vent_sA h2)] at hP1 hD1
  have := k H1 locs1 a ls hP1 hD1 hS1 hl1 ⟨fun q hq => by rw [sE_len]; exact hj1.1 q hq, hj1.2⟩ (by rw [ec]; exact b1) (by rw [es]; exact b2)
  rw [ec, es] at this
  exact this
theorem v_zast {j v : Int} (ho : ok P o 26) (hj : rg j) (h0 : 0 ≤ j) (h1 : j < gN σ o) (hd : decode cc pc = .ok (.bastore, 1)) (k : VW cc (own, rv, σo, ret, F, Lc, nL, tko) P (sE σ o j v) (pc + 1) L st) : VW cc (own, rv, σo, ret, F, Lc, nL, tko) P σ pc L (vI v :: vI j :: vO o :: st) := by
  have ec : Pc P (sE σ o j v) = Pc P σ := Pc_same (sE_len σ o j v)
  have es : Ps P (sE σ o j v) = Ps P σ := Ps_same (sE_len σ o j v)
  obtain ⟨k0, k⟩ := k
  rw [ec, es] at k0
  refine And.intro k0 (fun M hX hR hM hN0 => ?_)
  have k := k M hX hR hM hN0
  obtain ⟨⟨p, l, e, R, s, m, args, below, meth, c⟩, G, A, Q, b, oo, nL0, l0, a0⟩ := M
  intro H locs a ls hP hD hS hl1 hj1 b1 b2
  obtain ⟨hx, hb, hml, hown, hts, hK, -⟩ := hX
  refine va_zast (D := G.1) hx hb hK hP hD hS o 2 (vws_arr ho (by decide)) rfl (vin_of hj h0 h1) hd (fun H1 locs1 hP1 hD1 hS1 => ?_)
  have he : vent G P (sE σ o j v) a o = .inl (G.2.1 26, (σ.2.1 o).1, .inl (upd (fun j => Int32.ofInt (bz ((σ.2.1 o).2 j))) (Int32.ofInt j).toNatClampNeg (vp_nar .boolean (Int32.ofInt v)))) := by
    rw [vent_arr ho (by decide), vac_26]
    congr 2
    show (_, _) = (_, _)
    simp only [sE, sA_at]
    congr 2
    funext q
    rw [cl_of hj h0]
    unfold uE upd
    by_cases hq : q = j.toNat
    · have hq2 : (q : Int) = j := by omega
      rw [if_pos hq2, if_pos hq]
      exact (i32_of _)
    · have hq2 : ¬ (q : Int) = j := by omega
      rw [if_neg hq2, if_neg hq]
  rw [vws_set ho.1 he (fun j2 h2 => vent_sA h2)] at hP1 hD1
  have := k H1 locs1 a ls hP1 hD1 hS1 hl1 ⟨fun q hq => by rw [sE_len]; exact hj1.1 q hq, hj1.2⟩ (by rw [ec]; exact b1) (by rw [es]; exact b2)
  rw [ec, es] at this
  exact this
theorem v_last {j v : Int} (ho : ok P o 27) (hj : rg j) (h0 : 0 ≤ j) (h1 : j < gN σ o) (hd : decode cc pc = .ok (.lastore, 1)) (k : VW cc (own, rv, σo, ret, F, Lc, nL, tko) P (sE σ o j v) (pc + 1) L st) : VW cc (own, rv, σo, ret, F, Lc, nL, tko) P σ pc L (vL v :: vI j :: vO o :: st) := by
  have ec : Pc P (sE σ o j v) = Pc P σ := Pc_same (sE_len σ o j v)
  have es : Ps P (sE σ o j v) = Ps P σ := Ps_same (sE_len σ o j v)
  obtain ⟨k0, k⟩ := k
  rw [ec, es] at k0
  refine And.intro k0 (fun M hX hR hM hN0 => ?_)
  have k := k M hX hR hM hN0
  obtain ⟨⟨p, l, e, R, s, m, args, below, meth, c⟩, G, A, Q, b, oo, nL0, l0, a0⟩ := M
  intro H locs a ls hP hD hS hl1 hj1 b1 b2
  obtain ⟨hx, hb, hml, hown, hts, hK, -⟩ := hX
  refine va_last (D := G.1) hx hb hK hP hD hS o 3 (vws_arr ho (by decide)) rfl (vin_of hj h0 h1) hd (fun H1 locs1 hP1 hD1 hS1 => ?_)
  have he : vent G P (sE σ o j v) a o = .inl (G.2.1 27, (σ.2.1 o).1, .inr (.inl (vp_updL (fun j => Int64.ofInt ((σ.2.1 o).2 j)) (Int32.ofInt j).toNatClampNeg (Int64.ofInt v)))) := by
    rw [vent_arr ho (by decide), vac_27]
    congr 2
    show (_, _) = (_, _)
    simp only [sE, sA_at]
    congr 3
    funext q
    rw [cl_of hj h0]
    unfold uE vp_updL
    by_cases hq : q = j.toNat
    · have hq2 : (q : Int) = j := by omega
      rw [if_pos hq2, if_pos hq]
      try exact rfl
    · have hq2 : ¬ (q : Int) = j := by omega
      rw [if_neg hq2, if_neg hq]
  rw [vws_set ho.1 he (fun j2 h2 => vent_sA h2)] at hP1 hD1
  have := k H1 locs1 a ls hP1 hD1 hS1 hl1 ⟨fun q hq => by rw [sE_len]; exact hj1.1 q hq, hj1.2⟩ (by rw [ec]; exact b1) (by rw [es]; exact b2)
  rw [ec, es] at this
  exact this
theorem v_alen24 (ho : ok P o 24) (hd : decode cc pc = .ok (.arraylength, 1)) (k : VW cc (own, rv, σo, ret, F, Lc, nL, tko) P σ (pc + 1) L (vI (w32 (gN σ o : Int)) :: st)) : VW cc (own, rv, σo, ret, F, Lc, nL, tko) P σ pc L (vO o :: st) := by
  obtain ⟨k0, k⟩ := k
  refine And.intro k0 (fun M hX hR hM hN0 => ?_)
  have k := k M hX hR hM hN0
  obtain ⟨⟨p, l, e, R, s, m, args, below, meth, c⟩, G, A, Q, b, oo, nL0, l0, a0⟩ := M
  intro H locs a ls hP hD hS hl1 hj1 b1 b2
  have k := k H locs a ls hP hD hS hl1 hj1 b1 b2
  obtain ⟨hx, hb, hml, hown, hts, hK, -⟩ := hX
  refine va_alen (D := G.1) hx hb hK hP o 0 (vws_arr ho (by decide)) rfl (v := Int32.ofInt (w32 (gN σ o : Int))) ?_ hd k
  rw [i32_w32]
  rfl
theorem v_alen25 (ho : ok P o 25) (hd : decode cc pc = .ok (.arraylength, 1)) (k : VW cc (own, rv, σo, ret, F, Lc, nL, tko) P σ (pc + 1) L (vI (w32 (gN σ o : Int)) :: st)) : VW cc (own, rv, σo, ret, F, Lc, nL, tko) P σ pc L (vO o :: st) := by
  obtain ⟨k0, k⟩ := k
  refine And.intro k0 (fun M hX hR hM hN0 => ?_)
  have k := k M hX hR hM hN0
  obtain ⟨⟨p, l, e, R, s, m, args, below, meth, c⟩, G, A, Q, b, oo, nL0, l0, a0⟩ := M
  intro H locs a ls hP hD hS hl1 hj1 b1 b2
  have k := k H locs a ls hP hD hS hl1 hj1 b1 b2
  obtain ⟨hx, hb, hml, hown, hts, hK, -⟩ := hX
  refine va_alen (D := G.1) hx hb hK hP o 1 (vws_arr ho (by decide)) rfl (v := Int32.ofInt (w32 (gN σ o : Int))) ?_ hd k
  rw [i32_w32]
  rfl
theorem v_alen26 (ho : ok P o 26) (hd : decode cc pc = .ok (.arraylength, 1)) (k : VW cc (own, rv, σo, ret, F, Lc, nL, tko) P σ (pc + 1) L (vI (w32 (gN σ o : Int)) :: st)) : VW cc (own, rv, σo, ret, F, Lc, nL, tko) P σ pc L (vO o :: st) := by
  obtain ⟨k0, k⟩ := k
  refine And.intro k0 (fun M hX hR hM hN0 => ?_)
  have k := k M hX hR hM hN0
  obtain ⟨⟨p, l, e, R, s, m, args, below, meth, c⟩, G, A, Q, b, oo, nL0, l0, a0⟩ := M
  intro H locs a ls hP hD hS hl1 hj1 b1 b2
  have k := k H locs a ls hP hD hS hl1 hj1 b1 b2
  obtain ⟨hx, hb, hml, hown, hts, hK, -⟩ := hX
  refine va_alen (D := G.1) hx hb hK hP o 2 (vws_arr ho (by decide)) rfl (v := Int32.ofInt (w32 (gN σ o : Int))) ?_ hd k
  rw [i32_w32]
  rfl
theorem v_alen27 (ho : ok P o 27) (hd : decode cc pc = .ok (.arraylength, 1)) (k : VW cc (own, rv, σo, ret, F, Lc, nL, tko) P σ (pc + 1) L (vI (w32 (gN σ o : Int)) :: st)) : VW cc (own, rv, σo, ret, F, Lc, nL, tko) P σ pc L (vO o :: st) := by
  obtain ⟨k0, k⟩ := k
  refine And.intro k0 (fun M hX hR hM hN0 => ?_)
  have k := k M hX hR hM hN0
  obtain ⟨⟨p, l, e, R, s, m, args, below, meth, c⟩, G, A, Q, b, oo, nL0, l0, a0⟩ := M
  intro H locs a ls hP hD hS hl1 hj1 b1 b2
  have k := k H locs a ls hP hD hS hl1 hj1 b1 b2
  obtain ⟨hx, hb, hml, hown, hts, hK, -⟩ := hX
  refine va_alen (D := G.1) hx hb hK hP o 3 (vws_arr ho (by decide)) rfl (v := Int32.ofInt (w32 (gN σ o : Int))) ?_ hd k
  rw [i32_w32]
  rfl
end
