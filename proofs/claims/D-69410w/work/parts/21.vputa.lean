set_option maxRecDepth 100000
/-! V-LAYER 11: putfield of an array, leaving temporaries behind, fewer locals, arraycopy -/
section
variable {cc : ByteArray} {own : String} {rv : Option vA} {σo : vS} {ret : Option FieldType} {F Lc nL : Nat} {tko : List (Nat × Nat)} {tk : List (Nat × Nat)} {P : vP} {σ τ : vS} {pc : Nat} {L L1 : List (Nat × vA)} {st st1 : List vA} {o ci f i j N t t0 : Nat} {C : String} {T : u_T} {ty : Nat → FieldType} {et : FieldType}
theorem v_putA (h800 : i < 800) (htk : ∀ x ∈ tk, 14 ≤ x.1) (cf : CF ci C T N ty) (hoK : o < KF) (hko : kd o = ci) (hf : fk ci f = 2) (hN : f < N) (ht0 : ft ci f o = t0) (hk0 : kd t0 = t) (h14 : 14 ≤ t) (h : tk[i]? = some (t, 1)) (hg : 2 * gN σ t0 ≤ gN σ (KF + i)) (h2 : 2 ≤ gN σ (KF + i)) (hl : Cond.fieldLink own j (T f).1 (T f).2.1 (T f).2.2.1 ∈ lw_all) (hd : decode cc pc = .ok (.putfield j, 3)) (hfin : (T f).2.2.2 = false) (ht : ty f = .array et) (hL : rnL t0 (KF + i) L = L1) (hs : st.map (rnA t0 (KF + i)) = st1)
    (k : VW cc (own, rv, σo, ret, F, Lc, nL, tko) (P0 (tk.set i (t, 0))) (sw2 σ t0 (KF + i)) (pc + 3) L1 st1) : VW cc (own, rv, σo, ret, F, Lc, nL, tko) (P0 tk) σ pc L (vO (KF + i) :: vO o :: st) := by
  subst hL
  subst hs
  have hil := (List.getElem?_eq_some_iff.mp h).1
  have hci : ci < 14 := cf.2.2.1
  have ho : ok (P0 tk) o ci := ok_of hoK hko
  have hnf : f < nf (kd o) := by rw [hko, cf.2.1]; exact hN
  have ht0K : t0 < KF := by rw [← ht0, ← hko]; exact ft_lt hoK (by omega) hnf (by rw [hko]; exact hf)
  have ht0o : t0 ≠ o := by intro z; rw [z, hko] at hk0; omega
  obtain ⟨ec, es⟩ := acc_swap (σ := σ) h h14 ht0K (by omega) hg h2
  obtain ⟨k0, k⟩ := k
  refine And.intro ⟨by omega, by omega, k0.2.2⟩ (fun M hX hR hM hN0 => ?_)
  have k := k M hX hR hM hN0
  obtain ⟨⟨p, l, e, R, s, m, args, below, meth, c⟩, G, A, Q, b, oo, nL0, l0, a0⟩ := M
  intro H locs a ls hP hD hS hl1 hj b1 b2
  obtain ⟨hx, hb, hml, hown, hts, hK, hlk, hA, hRc, hRs, hNw⟩ := hX
  refine va_put (D := G.1) (ci := ci) (v := .ref (a (KF + i))) (ty := .array et) (C := C) (T := T) (N := N) hx hb hts cf.2.2.2.1 ty cf.2.2.2.2.1 cf.2.2.2.2.2 hown hK hP hD hS o (vws_obj cf ho) cf.1 f hN (hts _ hl) (fun _ h => h) hfin (ht ▸ cf.2.2.2.2.1 f hN) rfl rfl (by simp [hN]) hd (fun H1 locs1 hP1 hD1 hS1 => ?_)
  have hsw : ∀ q : Nat, q ≠ t0 → q ≠ KF + i → swp t0 (KF + i) q = q := fun q h1 h2 => by unfold swp; rw [if_neg h1, if_neg h2]
  have hst : swp t0 (KF + i) t0 = KF + i := by unfold swp; rw [if_pos rfl]
  have hsi : swp t0 (KF + i) (KF + i) = t0 := by unfold swp; rw [if_neg (by omega), if_pos rfl]
  have e1 : (P0 (tk.set i (t, 0))).1 = KF + tk.length := by unfold P0; simp
  have hao : ∀ u : Nat, u < KF → kd u < 14 → a (swp t0 (KF + i) u) = a u := fun u h1 h2 => by rw [hsw u (by intro z; rw [z] at h2; omega) (by omega)]
  have hobj : ∀ u : Nat, u < KF → kd u < 14 → ∀ g : Nat, g < nf (kd u) → ¬ (u = o ∧ g = f) → vfv G (P0 (tk.set i (t, 0))) (sw2 σ t0 (KF + i)) (fun q => a (swp t0 (KF + i) q)) u g = vfv G (P0 tk) σ a u g := by
    intro u hu h14u g hgn hne
    refine vfv_eq hu rfl rfl hao (fun h2g => ?_)
    have hlt := ft_lt hu h14u hgn h2g
    try simp only
    rw [hsw _ ?_ (by omega)]
    intro z
    exact hne (own_one ht0K (by omega) hoK (by omega) hnf (by rw [hko]; exact hf) (by rw [hko]; exact ht0) hu h14u hgn h2g z)
  have key : ∀ (q : Nat) (x : Nat × va_E), (vws G (P0 (tk.set i (t, 0))) (sw2 σ t0 (KF + i)) (fun q => a (swp t0 (KF + i) q)))[q]? = some x → ((vws G (P0 tk) σ a).set o (a o, .inr (ci, ((List.range N).map (fun f => vfv G (P0 tk) σ a o f)).set f (.ref (a (KF + i))))))[swp t0 (KF + i) q]? = some x := by
    intro q x hq
    obtain ⟨hqK, rfl⟩ := vws_of hq
    rw [e1] at hqK
    by_cases z1 : q = t0
    · subst z1
      rw [hst, List.getElem?_set_ne (by omega), vws_at G _ _ _ (show KF + i < (P0 tk).1 by unfold P0; show KF + i < KF + tk.length; omega)]
      try simp only [hst]
      rw [vent_tmp h h14, vent_arr (t := t) (ok_of ht0K hk0) h14]
      show some (_, Sum.inl (_, vac t _ (σ.2.1 (KF + i)))) = some (_, Sum.inl (_, vac t _ (σ.2.1 (swp q (KF + i) q))))
      rw [hst]
    · by_cases z2 : q = KF + i
      · subst z2
        rw [hsi, List.getElem?_set_ne (fun z => ht0o z.symm), vws_at G _ _ _ (show t0 < (P0 tk).1 by unfold P0; show t0 < KF + tk.length; omega)]
        try simp only [hsi]
        rw [vent_arr (t := t) (ok_of ht0K hk0) h14, vent_arr (t := t) (P := P0 (tk.set i (t, 0))) ⟨by rw [e1]; omega, by rw [vkd_set h]; exact (ok_tmp h).2⟩ h14]
        show some (_, Sum.inl (_, vac t _ (σ.2.1 t0))) = some (_, Sum.inl (_, vac t _ (σ.2.1 (swp t0 (KF + i) (KF + i)))))
        rw [hsi]
      · rw [hsw q z1 z2]
        by_cases z3 : q = o
        · subst z3
          have hlen : q < (vws G (P0 tk) σ a).length := by simp [vws, P0]; omega
          rw [List.getElem?_set_self hlen]
          try simp only [hsw q z1 z2]
          rw [vent_obj cf (ok_of hoK hko)]
          congr 4
          refine fs_set hN ?_ (fun g hg => ?_)
          · rw [vfv_S (ok_of hoK hko) hf rfl, ht0]
            simp only [dv, hst]
          · by_cases hgN : g < N
            · exact hobj q hoK (by omega) g (by rw [hko, cf.2.1]; exact hgN) (fun z => hg z.2)
            · have : ∀ (tk : List (Nat × Nat)) (σ : vS) (a : Nat → Nat), ok (P0 tk) q ci → vfv G (P0 tk) σ a q g = G.2.2.1 q g := by
                intro tk σ a hok
                unfold vfv
                rw [hok.2]
                have h9 : fk ci g = 9 := fk_out cf.2.1 cf.2.2.1 hgN
                rw [h9]
                rfl
              rw [this _ _ _ (ok_of hoK hko), this _ _ _ (ok_of hoK hko)]
        · rw [List.getElem?_set_ne (fun z => z3 z.symm), vws_at G _ _ _ (show q < (P0 tk).1 from hqK)]
          try simp only [hsw q z1 z2]
          congr 2
          by_cases zK : q < KF
          · unfold vent
            rw [vkd_P0 _ zK, vkd_P0 _ zK]
            by_cases z14 : kd q < 14
            · rw [if_pos z14, if_pos z14]
              congr 2
              apply List.map_congr_left
              intro g hg
              exact (hobj q zK z14 g (List.mem_range.mp hg) (fun z => z3 z.1)).symm
            · rw [if_neg z14, if_neg z14]
              show Sum.inl (_, vac _ _ (σ.2.1 q)) = Sum.inl (_, vac _ _ (σ.2.1 (swp t0 (KF + i) q)))
              rw [hsw q z1 z2]
          · obtain ⟨u, rfl⟩ : ∃ u, q = KF + u := ⟨q - KF, by omega⟩
            have z14 : ¬ vkd (P0 tk) (KF + u) < 14 := by have := tk_ge htk (show u < tk.length by omega); omega
            unfold vent
            rw [vkd_set h, if_neg z14, if_neg z14]
            show Sum.inl (_, vac _ _ (σ.2.1 (KF + u))) = Sum.inl (_, vac _ _ (σ.2.1 (swp t0 (KF + i) (KF + u))))
            rw [hsw _ z1 z2]
  have hP2 := perm_P (swp t0 (KF + i)) key hP1
  have hD2 := perm_D (swp t0 (KF + i)) swp_inj key hD1
  have k := k H1 locs1 (fun q => a (swp t0 (KF + i) q)) ls hP2 hD2 hS1 (by rw [rnL_dvl]; exact hl1) ⟨fun q hq => ?_, fun q hq => (by show a (swp t0 (KF + i) q) = a0 q; rw [hsw q (by unfold KF at ht0K; omega) (by unfold KF; omega)]; exact hj.2 q hq)⟩ (by omega) (by omega)
  · rw [rnA_map] at k
    exact W.widen (by omega) (by omega) k
  · show l0 q = 0 ∨ (kd q < 14 ∧ a (swp t0 (KF + i) q) = a0 q) ∨ (14 ≤ kd q ∧ l0 q ≤ (σ.2.1 (swp t0 (KF + i) q)).1 + 1 ∧ ((σ.2.1 (swp t0 (KF + i) q)).1 + 1 = l0 q → a (swp t0 (KF + i) q) = a0 q))
    by_cases z1 : q = t0
    · subst z1
      have hg : 2 * (σ.2.1 q).1 ≤ (σ.2.1 (KF + i)).1 := hg
      have h2 : 2 ≤ (σ.2.1 (KF + i)).1 := h2
      rw [hst]
      rcases hj.1 q hq with z | ⟨z, -⟩ | ⟨z, z2, -⟩
      · exact Or.inl z
      · omega
      · exact Or.inr (Or.inr ⟨z, by omega, fun w => by omega⟩)
    · have hq1 := hq.1
      rw [hsw q z1 (by omega)]
      exact hj.1 q hq
/-- temporaries that weigh nothing are left behind -/
theorem v_drop (h0 : ∀ x ∈ tk, x.2 = 0) (htk : ∀ x ∈ tk, 14 ≤ x.1) (hL : LT KF (L.map (fun q => q.2))) (hs : LT KF st) (e1 : τ.1 = σ.1) (e2 : τ.2.2 = σ.2.2) (e3 : ∀ k : Nat, k < KF → τ.2.1 k = σ.2.1 k) (k : VW cc (own, rv, σo, ret, F, Lc, nL, tko) (P0 []) τ pc L st) : VW cc (own, rv, σo, ret, F, Lc, nL, tko) (P0 tk) σ pc L st := by
  have hsum : ∀ (u v : Nat → Nat), (∀ q, q < KF → u q = v q) → (∀ q, KF ≤ q → q < KF + tk.length → v q = 0) → ∀ n, n ≤ tk.length → sumTo (KF + n) v = sumTo KF u := by
    intro u v h1 h2 n
    induction n with
    | zero => intro _; exact (sumTo_congr h1).symm
    | succ n ih =>
      intro hn
      rw [← Nat.add_assoc, sumTo_succ, ih (by omega), h2 (KF + n) (by omega) (by omega), Nat.add_zero]
  have hw : ∀ q, KF ≤ q → q < KF + tk.length → (((P0 tk).2.2.getD (q - KF) (99, 0)).2 = 0 ∧ ¬ vkd (P0 tk) q < 14) := by
    intro q h1 h2
    obtain ⟨u, rfl⟩ : ∃ u, q = KF + u := ⟨q - KF, by omega⟩
    have hu : u < tk.length := by omega
    refine ⟨?_, by have := tk_ge htk hu; omega⟩
    rw [Nat.add_sub_cancel_left]
    show (tk.getD u (99, 0)).2 = 0
    rw [List.getD_eq_getElem?_getD, List.getElem?_eq_getElem hu]
    exact h0 _ (List.getElem_mem hu)
  have ec : Pc (P0 tk) σ = Pc (P0 []) τ := by
    unfold Pc
    rw [show τ.2.2 300 500 = σ.2.2 300 500 by rw [e2]]
    refine congrArg (fun z => z + σ.2.2 300 500) (hsum _ _ (fun q hq => ?_) (fun q h1 h2 => ?_) tk.length (Nat.le_refl _))
    · unfold pcW; rw [vkd_P0 _ hq, vkd_P0 _ hq, e3 q hq, if_pos hq, if_pos hq]
    · unfold pcW; rw [if_neg (hw q h1 h2).2, if_neg (by omega), (hw q h1 h2).1]
  have es : Ps (P0 tk) σ = Ps (P0 []) τ := by
    unfold Ps
    rw [show τ.2.2 300 500 = σ.2.2 300 500 by rw [e2]]
    refine congrArg (fun z => z + 6 * σ.2.2 300 500) (hsum _ _ (fun q hq => ?_) (fun q h1 h2 => ?_) tk.length (Nat.le_refl _))
    · unfold psW; rw [vkd_P0 _ hq, vkd_P0 _ hq, e3 q hq, if_pos hq, if_pos hq]
    · unfold psW; rw [if_neg (hw q h1 h2).2, if_neg (by omega), (hw q h1 h2).1, Nat.zero_mul]
  obtain ⟨k0, k⟩ := k
  rw [← ec, ← es] at k0
  refine And.intro k0 (fun M hX hR hM hN0 => ?_)
  have k := k M hX hR hM hN0
  obtain ⟨⟨p, l, e, R, s, m, args, below, meth, c⟩, G, A, Q, b, oo, nL0, l0, a0⟩ := M
  intro H locs a ls hP hD hS hl1 hj b1 b2
  have key : ∀ (q : Nat) (x : Nat × va_E), (vws G (P0 []) τ a)[q]? = some x → (vws G (P0 tk) σ a)[q]? = some x := by
    intro q x hq
    obtain ⟨hqK, rfl⟩ := vws_of hq
    have hqK : q < KF := hqK
    rw [vws_at G _ _ _ (show q < (P0 tk).1 by unfold P0; show q < KF + tk.length; omega)]
    congr 2
    exact (vent_eq (σ := σ) (τ := τ) hqK e1 e2 (fun _ _ _ => rfl) (fun _ _ _ _ => rfl) (fun _ => e3 q hqK)).symm
  have k := k H locs a ls (perm_P id key hP) (perm_D id (fun _ _ h => h) key hD) hS hl1 ⟨fun q hq => by rw [e3 q hq.1]; exact hj.1 q hq, hj.2⟩ (by rw [← ec]; exact b1) (by rw [← es]; exact b2)
  rw [← ec, ← es] at k
  exact k
/-- fewer locals -/
theorem v_sub (ks : List Nat) (h : ks.filterMap (fun q => L[q]?) = L1) (k : VW cc (own, rv, σo, ret, F, Lc, nL, tko) P σ pc L1 st) : VW cc (own, rv, σo, ret, F, Lc, nL, tko) P σ pc L st := by
  subst h
  obtain ⟨k0, k⟩ := k
  refine And.intro k0 (fun M hX hR hM hN0 => ?_)
  have k := k M hX hR hM hN0
  obtain ⟨⟨p, l, e, R, s, m, args, below, meth, c⟩, G, A, Q, b, oo, nL0, l0, a0⟩ := M
  intro H locs a ls hP hD hS hl1 hj b1 b2
  refine k H locs a ls hP hD hS (lv_sub hl1 ks ?_) hj b1 b2
  unfold lv_pick dvl
  rw [List.map_filterMap]
  congr 1
  funext q
  simp
end
