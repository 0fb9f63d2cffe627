set_option maxRecDepth 100000
/-! V-LAYER 16: two arrays of fields change places (Matcher.sort) -/
theorem sum_swap {n x y : Nat} {f g : Nat → Nat} (hx : x < n) (hy : y < n) (hxy : x ≠ y) (h : ∀ k, k ≠ x → k ≠ y → f k = g k) (e1 : f x = g y) (e2 : f y = g x) : sumTo n f = sumTo n g := by
  let m : Nat → Nat := fun k => if k = x then f x else g k
  have s1 := sumTo_one (n := n) (f := m) (g := g) (j := x) hx (fun k hk => by simp only [m]; rw [if_neg hk])
  have s2 := sumTo_one (n := n) (f := f) (g := m) (j := y) hy (fun k hk => by
    simp only [m]
    by_cases z : k = x
    · rw [if_pos z, z]
    · rw [if_neg z]; exact h k z hk)
  have v1 : m x = f x := by simp only [m]; rw [if_pos trivial]
  have v2 : m y = g y := by simp only [m]; rw [if_neg (fun z => hxy z.symm)]
  omega
section
variable {cc : ByteArray} {own : String} {rv : Option vA} {σo : vS} {ret : Option FieldType} {F Lc nL : Nat} {tko : List (Nat × Nat)} {σ : vS} {pc : Nat} {L L1 : List (Nat × vA)} {st : List vA} {o ci f0 f1 j0 j1 k0 k6 N : Nat} {C : String} {T : u_T} {ty : Nat → FieldType}
theorem v_exch (cf : CF ci C T N ty) (hoK : o < KF) (hko : kd o = ci) (hf0 : fk ci f0 = 2) (hf1 : fk ci f1 = 2) (hN0 : f0 < N) (hN1 : f1 < N) (h01 : f0 ≠ f1) (ht0 : ft ci f0 o = 82) (ht1 : ft ci f1 o = 83)
    (hl0 : Cond.fieldLink own j0 (T f0).1 (T f0).2.1 (T f0).2.2.1 ∈ lw_all) (hl1 : Cond.fieldLink own j1 (T f1).1 (T f1).2.1 (T f1).2.2.1 ∈ lw_all) (hfin0 : (T f0).2.2.2 = false) (hfin1 : (T f1).2.2.2 = false) (hty0 : ty f0 = .array .int) (hty1 : ty f1 = .array .int)
    (hd1 : decode cc pc = .ok (.putfield j0, 3)) (hd2 : decode cc (pc + 3) = .ok (.aload_n 0, 1)) (hd3 : decode cc (pc + 4) = .ok (.aload 6, 2)) (hd4 : decode cc (pc + 6) = .ok (.putfield j1, 3)) (hL0 : L[k0]? = some (0, vO o)) (hL6 : L[k6]? = some (6, vO 82)) (hL1 : rnL 82 83 L = L1) (hs : st.map (rnA 82 83) = st)
    (k : VW cc (own, rv, σo, ret, F, Lc, nL, tko) (P0 []) (sw2 σ 82 83) (pc + 9) L1 st) : VW cc (own, rv, σo, ret, F, Lc, nL, tko) (P0 []) σ pc L (vO 83 :: vO o :: st) := by
  subst hL1
  have hci : ci < 14 := cf.2.2.1
  have swk : ∀ q : Nat, q ≠ 82 → q ≠ 83 → swp 82 83 q = q := fun q h1 h2 => by unfold swp; rw [if_neg h1, if_neg h2]
  have sw1 : swp 82 83 82 = 83 := rfl
  have sw0 : swp 82 83 83 = 82 := rfl
  have hw : ∀ q : Nat, q ≠ 82 → q ≠ 83 → (sw2 σ 82 83).2.1 q = σ.2.1 q := fun q h1 h2 => by show σ.2.1 (swp 82 83 q) = _; rw [swk q h1 h2]
  have ec : Pc (P0 []) (sw2 σ 82 83) = Pc (P0 []) σ := by
    unfold Pc
    refine congrArg (fun z => z + σ.2.2 300 500) (sum_swap (x := 82) (y := 83) (by decide) (by decide) (by decide) (fun q h1 h2 => ?_) ?_ ?_)
    · unfold pcW; rw [hw q h1 h2]
    · rfl
    · rfl
  have es : Ps (P0 []) (sw2 σ 82 83) = Ps (P0 []) σ := by
    unfold Ps
    refine congrArg (fun z => z + 6 * σ.2.2 300 500) (sum_swap (x := 82) (y := 83) (by decide) (by decide) (by decide) (fun q h1 h2 => ?_) ?_ ?_)
    · unfold psW; rw [hw q h1 h2]
    · rfl
    · rfl
  obtain ⟨kk0, k⟩ := k
  rw [ec, es] at kk0
  refine And.intro kk0 (fun M hX hR hM hN0' => ?_)
  have k := k M hX hR hM hN0'
  obtain ⟨⟨p, l, e, R, s, m, args, below, meth, c⟩, G, A, Q, b, oo, nL0, l0, a0⟩ := M
  intro H locs a ls hP hD hS hl hj b1 b2
  obtain ⟨hx, hb, hml, hown, hts, hK, hlk, hA, hRc, hRs, hNw⟩ := hX
  have ho : ok (P0 []) o ci := ok_of hoK hko
  have hnf : ∀ {f : Nat}, f < N → f < nf (kd o) := fun {f} h => by rw [hko, cf.2.1]; exact h
  refine va_put (D := G.1) (ci := ci) (v := .ref (a 83)) (ty := .array .int) (C := C) (T := T) (N := N) hx hb hts cf.2.2.2.1 ty cf.2.2.2.2.1 cf.2.2.2.2.2 hown hK hP hD hS o (vws_obj cf ho) cf.1 f0 hN0 (hts _ hl0) (fun _ h => h) hfin0 (hty0 ▸ cf.2.2.2.2.1 f0 hN0) rfl rfl (by simp [hN0]) hd1 (fun H1 locs1 hP1 hD1 hS1 => ?_)
  refine lv_aload_n hx hb hd2 rfl (lv_at hl k0 (dvl_at hL0)) ?_
  refine lv_aload hx hb hd3 (lv_at hl k6 (dvl_at hL6)) ?_
  have hne : ∀ t : Nat, kd t = 24 → o ≠ t := fun t h1 h2 => by rw [h2, h1] at hko; omega
  have hlen : o < (vws G (P0 []) σ a).length := by simp [vws, P0]; exact hoK
  refine va_put (D := G.1) (ci := ci) (v := .ref (a 82)) (ty := .array .int) (C := C) (T := T) (N := N) hx hb hts cf.2.2.2.1 ty cf.2.2.2.2.1 cf.2.2.2.2.2 hown hK hP1 hD1 hS1 o (List.getElem?_set_self hlen) cf.1 f1 hN1 (hts _ hl1) (fun _ h => h) hfin1 (hty1 ▸ cf.2.2.2.2.1 f1 hN1) rfl rfl (by simp [hN1]) hd4 (fun H2 locs2 hP2 hD2 hS2 => ?_)
  rw [List.set_set] at hP2 hD2
  have hao : ∀ u : Nat, u < KF → kd u < 14 → a (swp 82 83 u) = a u := fun u h1 h2 => by
    rw [swk u (fun z => by rw [z, show kd 82 = 24 from rfl] at h2; omega) (fun z => by rw [z, show kd 83 = 24 from rfl] at h2; omega)]
  have hobj : ∀ u : Nat, u < KF → kd u < 14 → ∀ g : Nat, g < nf (kd u) → ¬ (u = o ∧ g = f0) → ¬ (u = o ∧ g = f1) → vfv G (P0 []) (sw2 σ 82 83) (fun q => a (swp 82 83 q)) u g = vfv G (P0 []) σ a u g := by
    intro u hu h14u g hgn hne0 hne1
    refine vfv_eq hu rfl rfl hao (fun h2g => ?_)
    show a (swp 82 83 (ft (kd u) g u)) = _
    rw [swk _ ?_ ?_]
    · intro z
      exact hne0 (own_one (t := 82) (by decide) (by decide) hoK (by rw [hko]; exact hci) (hnf hN0) (by rw [hko]; exact hf0) (by rw [hko]; exact ht0) hu h14u hgn h2g z)
    · intro z
      exact hne1 (own_one (t := 83) (by decide) (by decide) hoK (by rw [hko]; exact hci) (hnf hN1) (by rw [hko]; exact hf1) (by rw [hko]; exact ht1) hu h14u hgn h2g z)
  have key : ∀ (q : Nat) (x : Nat × va_E), (vws G (P0 []) (sw2 σ 82 83) (fun q => a (swp 82 83 q)))[q]? = some x → ((vws G (P0 []) σ a).set o (a o, .inr (ci, ((((List.range N).map (fun f => vfv G (P0 []) σ a o f)).set f0 (.ref (a 83))).set f1 (.ref (a 82))))))[swp 82 83 q]? = some x := by
    intro q x hq
    obtain ⟨hqK, rfl⟩ := vws_of hq
    have hqK : q < KF := hqK
    by_cases z1 : q = 82
    · subst z1
      rw [sw1, List.getElem?_set_ne (hne 83 rfl), vws_at G _ _ _ (show 83 < (P0 []).1 by decide)]
      rw [vent_arr (t := 24) (ok_of (by decide) rfl) (by decide), vent_arr (t := 24) (ok_of (by decide) rfl) (by decide)]
      rfl
    · by_cases z2 : q = 83
      · subst z2
        rw [sw0, List.getElem?_set_ne (hne 82 rfl), vws_at G _ _ _ (show 82 < (P0 []).1 by decide)]
        rw [vent_arr (t := 24) (ok_of (by decide) rfl) (by decide), vent_arr (t := 24) (ok_of (by decide) rfl) (by decide)]
        rfl
      · rw [swk q z1 z2]
        by_cases z3 : q = o
        · subst z3
          have ha9 : a (swp 82 83 q) = a q := by rw [swk q z1 z2]
          have hfs : ((((List.range N).map (fun f => vfv G (P0 []) σ a q f)).set f0 (.ref (a 83))).set f1 (.ref (a 82))) = (List.range N).map (fun f => vfv G (P0 []) (sw2 σ 82 83) (fun q => a (swp 82 83 q)) q f) := ?_
          · rw [List.getElem?_set_self hlen, vent_obj cf ho, hfs]
          rw [fs_set (h := fun g => if g = f0 then .ref (a 83) else vfv G (P0 []) σ a q g) hN0 (by simp) (fun g hg => by simp [hg])]
          refine fs_set hN1 ?_ (fun g hg => ?_)
          · rw [vfv_S ho hf1 rfl, ht1]
            rfl
          · try simp only
            by_cases hg0 : g = f0
            · rw [if_pos hg0, hg0, vfv_S ho hf0 rfl, ht0]
              rfl
            · rw [if_neg hg0]
              by_cases hgN : g < N
              · exact hobj q hoK (by rw [hko]; exact hci) g (hnf hgN) (fun z => hg0 z.2) (fun z => hg z.2)
              · have : ∀ (σ : vS) (a : Nat → Nat), vfv G (P0 []) σ a q g = G.2.2.1 q g := by
                  intro σ a
                  unfold vfv
                  rw [ho.2]
                  have h9 : fk ci g = 9 := fk_out cf.2.1 cf.2.2.1 hgN
                  rw [h9]
                  rfl
                rw [this, this]
        · rw [List.getElem?_set_ne (fun z => z3 z.symm), vws_at G _ _ _ (show q < (P0 []).1 from hqK)]
          have hv : vent G (P0 []) σ a q = vent G (P0 []) (sw2 σ 82 83) (fun q => a (swp 82 83 q)) q := by
            unfold vent
            rw [vkd_P0 _ hqK]
            by_cases z14 : kd q < 14
            · have hm : (List.range (nf (kd q))).map (fun f => vfv G (P0 []) σ a q f) = (List.range (nf (kd q))).map (fun f => vfv G (P0 []) (sw2 σ 82 83) (fun q => a (swp 82 83 q)) q f) := List.map_congr_left (fun g hg => (hobj q hqK z14 g (List.mem_range.mp hg) (fun z => z3 z.1) (fun z => z3 z.1)).symm)
              rw [if_pos z14, if_pos z14, hm]
            · rw [if_neg z14, if_neg z14, hw q z1 z2]
          rw [hv]
  have k := k H2 locs2 (fun q => a (swp 82 83 q)) ls (perm_P (swp 82 83) key hP2) (perm_D (swp 82 83) swp_inj key hD2) hS2 (by rw [rnL_dvl]; exact hl) ⟨fun q hq => by
    rw [hw q hq.2.1 hq.2.2]
    show _ ∨ (_ ∧ a (swp 82 83 q) = a0 q) ∨ (_ ∧ _ ∧ (_ → a (swp 82 83 q) = a0 q))
    rw [swk q hq.2.1 hq.2.2]
    exact hj.1 q hq, fun q hq => by
    show a (swp 82 83 q) = a0 q
    rw [swk q (by omega) (by omega)]
    exact hj.2 q hq⟩ (by rw [ec]; exact b1) (by rw [es]; exact b2)
  rw [ec, es, ← hs, rnA_map] at k
  exact k
end
